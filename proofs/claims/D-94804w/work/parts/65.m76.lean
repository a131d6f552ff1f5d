set_option maxRecDepth 100000
set_option maxHeartbeats 1000000
/-! rules: clauses told, their sums -/
theorem hf_whileR2 {σ τ1 τ2 : Type} (G1 : Nat → σ → Option τ1) (G2 : Nat → σ → Option τ2) (m : σ → Nat) (P : σ → Prop) (R : Option τ1 → Option τ2 → Prop) (hstep : ∀ f s, P s → R (G1 (f + 1) s) (G2 (f + 1) s) ∨ ∃ s', G1 (f + 1) s = G1 f s' ∧ G2 (f + 1) s = G2 f s' ∧ P s' ∧ m s' < m s) (s0 : σ) (h0 : P s0) {fuel : Nat} (h : m s0 < fuel) : R (G1 fuel s0) (G2 fuel s0) := by
  induction fuel generalizing s0 with
  | zero => omega
  | succ f ih =>
    rcases hstep f s0 h0 with h1 | ⟨s', h1, h2, h3, h4⟩
    · exact h1
    · rw [h1, h2]
      exact ih s' h3 (by omega)
/-- two counted loops in step -/
theorem hf_loopR2 {σ τ1 τ2 : Type} (G1 : Nat → Nat → σ → Option τ1) (G2 : Nat → Nat → σ → Option τ2) (P : Nat → σ → Prop) (n : Nat) (R : Option τ1 → Option τ2 → Prop) (hstep : ∀ i f s, i < n → P i s → R (G1 (f + 1) i s) (G2 (f + 1) i s) ∨ ∃ s', G1 (f + 1) i s = G1 f (i + 1) s' ∧ G2 (f + 1) i s = G2 f (i + 1) s' ∧ P (i + 1) s') (hend : ∀ f s, P n s → R (G1 (f + 1) n s) (G2 (f + 1) n s)) (s0 : σ) (h0 : P 0 s0) {fuel : Nat} (h : n < fuel) : R (G1 fuel 0 s0) (G2 fuel 0 s0) := by
  refine hf_whileR2 (fun f (x : Nat × σ) => G1 f x.1 x.2) (fun f (x : Nat × σ) => G2 f x.1 x.2) (fun x => n - x.1) (fun x => x.1 ≤ n ∧ P x.1 x.2) R (fun f x hx => ?_) (0, s0) ⟨Nat.zero_le _, h0⟩ (by show n - 0 < fuel; omega)
  by_cases e : x.1 = n
  · left
    have h1 := hend f x.2 (e ▸ hx.2)
    show R (G1 (f + 1) x.1 x.2) (G2 (f + 1) x.1 x.2)
    rw [e]
    exact h1
  · rcases hstep x.1 f x.2 (by omega) hx.2 with h1 | ⟨s', h1, h2, h3⟩
    · exact Or.inl h1
    · exact Or.inr ⟨(x.1 + 1, s'), h1, h2, ⟨by show x.1 + 1 ≤ n; omega, h3⟩, by show n - (x.1 + 1) < n - x.1; omega⟩
/-- clause k of text t told by the object a -/
def hf_Told (h : hf_H) (a : Nat) (V : hf_V) (t k : Nat) : Prop := ∃ (TV : hf_V) (sv : Nat) (c : List Nat) (b : Nat), hf_ob 0 13 h a = some TV ∧ TV.2.2.1 1 = some sv ∧ hf_Val 64 h sv c ∧ zlv c ≤ 60 ∧ zcds V t b c ∧ b + c.length ≤ 400 ∧ V.2.2.2.1 5 (60 * t + 5 * k + 1) = Int32.ofNat b ∧ V.2.2.2.1 5 (60 * t + 5 * k + 2) = Int32.ofNat (b + c.length) ∧ ((TV.1 0 = 1 ∧ V.2.2.2.1 5 (60 * t + 5 * k) = 0) ∨ (TV.1 0 = 0 ∧ V.2.2.2.1 5 (60 * t + 5 * k) = 1)) ∧ ((TV.2.2.1 2 = none ∧ V.2.2.2.1 5 (60 * t + 5 * k + 3) = -1) ∨ (∃ (cv : Nat) (c' : List Nat) (b' : Nat), TV.2.2.1 2 = some cv ∧ hf_Cnd 64 h cv c' ∧ zlv c' ≤ 60 ∧ zcds V t b' c' ∧ b' + c'.length ≤ 400 ∧ V.2.2.2.1 5 (60 * t + 5 * k + 3) = Int32.ofNat b' ∧ V.2.2.2.1 5 (60 * t + 5 * k + 4) = Int32.ofNat (b' + c'.length)))
/-- the rule object a tells text t -/
def hf_Rul (h : hf_H) (a : Nat) (V : hf_V) (t : Nat) : Prop := t ≤ 5 ∧ ∃ (RV : hf_V) (l n : Nat) (p : Nat → Nat), hf_ob 0 8 h a = some RV ∧ RV.2.2.1 0 = some l ∧ hf_L h l n p ∧ n ≤ 12 ∧ V.2.2.2.1 6 t = Int32.ofNat n ∧ ∀ k, k < n → hf_Told h (p k) V t k
/-- texts are as they were -/
def hf_txq (V V' : hf_V) : Prop := V'.2.2.2.1 3 = V.2.2.2.1 3 ∧ V'.2.2.2.1 5 = V.2.2.2.1 5 ∧ V'.2.2.2.1 6 = V.2.2.2.1 6
theorem zcds.tx {V V' : hf_V} {t b : Nat} {c : List Nat} (H : zcds V t b c) (T : hf_txq V V') : zcds V' t b c := fun k hk => by
  rw [T.1]
  exact H k hk
theorem hf_Told.tx {h : hf_H} {a t k : Nat} {V V' : hf_V} (H : hf_Told h a V t k) (T : hf_txq V V') : hf_Told h a V' t k := by
  obtain ⟨TV, sv, c, b, e1, e2, e3, e4, e5, e6, e7, e8, e9, e10⟩ := H
  refine ⟨TV, sv, c, b, e1, e2, e3, e4, e5.tx T, e6, by rw [T.2.1]; exact e7, by rw [T.2.1]; exact e8, by rw [T.2.1]; exact e9, ?_⟩
  rcases e10 with ⟨g1, g2⟩ | ⟨cv, c', b', g1, g2, g3, g4, g5, g6, g7⟩
  · exact Or.inl ⟨g1, by rw [T.2.1]; exact g2⟩
  · exact Or.inr ⟨cv, c', b', g1, g2, g3, g4.tx T, g5, by rw [T.2.1]; exact g6, by rw [T.2.1]; exact g7⟩
theorem hf_Rul.tx {h : hf_H} {a t : Nat} {V V' : hf_V} (H : hf_Rul h a V t) (T : hf_txq V V') : hf_Rul h a V' t := by
  obtain ⟨ht, RV, l, n, p, e1, e2, e3, e4, e5, e6⟩ := H
  exact ⟨ht, RV, l, n, p, e1, e2, e3, e4, by rw [T.2.2]; exact e5, fun k hk => (e6 k hk).tx T⟩
theorem hf_sk_txq (V : hf_V) (A : Nat → Int64) (n : Nat) : hf_txq V (hf_sk V A n) := ⟨rfl, rfl, rfl⟩
/-- the model but for its stack -/
def hf_skx (V : hf_V) (A : Nat → Int64) (x : Int32) : hf_V := (fun j => if j = 18 then x else V.1 j, V.2.1, V.2.2.1, V.2.2.2.1, fun j => if j = 17 then A else V.2.2.2.2.1 j, V.2.2.2.2.2)
theorem hf_skx_self (V : hf_V) : hf_skx V (V.2.2.2.2.1 17) (V.1 18) = V := by
  unfold hf_skx
  refine Prod.ext ?_ (Prod.ext rfl (Prod.ext rfl (Prod.ext rfl (Prod.ext ?_ rfl))))
  · funext j
    by_cases e : j = 18 <;> simp [e]
  · funext j
    by_cases e : j = 17 <;> simp [e]
theorem hf_skx_skx (V : hf_V) (A B : Nat → Int64) (x y : Int32) : hf_skx (hf_skx V A x) B y = hf_skx V B y := by
  unfold hf_skx
  refine Prod.ext ?_ (Prod.ext rfl (Prod.ext rfl (Prod.ext rfl (Prod.ext ?_ rfl))))
  · funext j
    by_cases e : j = 18 <;> simp [e]
  · funext j
    by_cases e : j = 17 <;> simp [e]
theorem hf_skx_tx (V : hf_V) (A : Nat → Int64) (x : Int32) : hf_txq V (hf_skx V A x) := ⟨rfl, rfl, rfl⟩
theorem xm_73 {h : hf_H} {a w t k : Nat} {V : hf_V} {c : List Nat} {b sv : Nat} (ht : t ≤ 5) (hk : k < 12) (D : hf_wd h w (V.2.2.2.2.1 19)) (e3 : hf_Val 64 h sv c) (e4 : zlv c ≤ 60) (e5 : zcds V t b c) (e6 : b + c.length ≤ 400) (e7 : V.2.2.2.1 5 (60 * t + 5 * k + 1) = Int32.ofNat b) (e8 : V.2.2.2.1 5 (60 * t + 5 * k + 2) = Int32.ofNat (b + c.length)) : ∃ x A y, spVal 64 sv w h = some (x, h) ∧ ndX4_summedBy_73 (Int32.ofNat t) (Int32.ofNat (60 * t + 5 * k)) V = some (x, hf_skx V A y) := by
  obtain ⟨x, x1, x2⟩ := x_val 64 h sv c w _ D e3
  obtain ⟨A, n, m1⟩ := m_reckons e5 ht e6 e4 (x2 [])
  refine ⟨x, A, Int32.ofNat n, x1, ?_⟩
  unfold ndX4_summedBy_73
  have a1 : Int32.ofNat (60 * t + 5 * k) + 1 = Int32.ofNat (60 * t + 5 * k + 1) := z_add _ 1
  have a2 : Int32.ofNat (60 * t + 5 * k) + 2 = Int32.ofNat (60 * t + 5 * k + 2) := z_add _ 2
  rw [a1, a2, z_ld (by omega) (by omega), Option.bind_some, z_ld (by omega) (by omega), Option.bind_some, e7, e8, m1, hf_b2_some]
  rfl
theorem xm_sum {h : hf_H} {a w t : Nat} {V : hf_V} (R : hf_Rul h a V t) (D : hf_wd h w (V.2.2.2.2.1 19)) {q : Nat} (hq : q ≤ 1) : ∃ x A y, spX8_sum a (Int32.ofNat (1 - q)) w h = some (x, h) ∧ spX4_summedBy (Int32.ofNat t) (Int32.ofNat q) V = some (x, hf_skx V A y) := by
  obtain ⟨ht, RV, l, n, p, r1, r2, r3, r4, r5, r6⟩ := R
  unfold spX8_sum spX4_summedBy
  have hst : V = hf_skx V (V.2.2.2.2.1 17) (V.1 18) := (hf_skx_self V).symm
  refine hf_loopR2 (fun f k (_ : (Nat → Int64) × Int32) => lpX8_sum_2 f a (Int32.ofNat (1 - q)) w (Int32.ofNat k) h) (fun f k (s : (Nat → Int64) × Int32) => lpX4_summedBy_2 f (Int32.ofNat t) (Int32.ofNat q) (Int32.ofNat k) (hf_skx V s.1 s.2)) (fun _ _ => True) n (fun r1 r2 => ∃ x A y, r1 = some (x, h) ∧ r2 = some (x, hf_skx V A y)) (fun k f s hk _ => ?_) (fun f s _ => ?_) (V.2.2.2.2.1 17, V.1 18) trivial (fuel := hf_N) (by unfold hf_N; omega) |> fun z => by rw [← hst] at z; exact z
  · obtain ⟨A0, y0⟩ := s
    have H := (r6 k hk).tx (hf_skx_tx V A0 y0)
    have D2 : hf_wd h w ((hf_skx V A0 y0).2.2.2.2.1 19) := D
    have hn : (hf_skx V A0 y0).2.2.2.1 6 t = Int32.ofNat n := r5
    obtain ⟨TV, sv, c, b, e1, e2, e3, e4, e5, e6, e7, e8, e9, e10⟩ := H
    obtain ⟨x, A, y, v1, v2⟩ := xm_73 (a := a) ht (show k < 12 by omega) D2 e3 e4 e5 e6 e7 e8
    rw [hf_skx_skx] at v2
    have nX : lpX8_sum_2 (f + 1) a (Int32.ofNat (1 - q)) w (Int32.ofNat k) h = ndX8_sum_2 (lpX8_sum_2 f) a (Int32.ofNat (1 - q)) w (Int32.ofNat k) h := rfl
    have nM : lpX4_summedBy_2 (f + 1) (Int32.ofNat t) (Int32.ofNat q) (Int32.ofNat k) (hf_skx V A0 y0) = ndX4_summedBy_2 (lpX4_summedBy_2 f) (Int32.ofNat t) (Int32.ofNat q) (Int32.ofNat k) (hf_skx V A0 y0) := rfl
    have jX : ndX8_sum_68 (lpX8_sum_2 f) a (Int32.ofNat (1 - q)) w (Int32.ofNat k) h = lpX8_sum_2 f a (Int32.ofNat (1 - q)) w (Int32.ofNat (k + 1)) h := by
      unfold ndX8_sum_68
      rw [hf_let_eq, z_lit, z_add]
    have jM : ∀ A y, ndX4_summedBy_97 (lpX4_summedBy_2 f) (Int32.ofNat t) (Int32.ofNat q) (Int32.ofNat k) (hf_skx V A y) = lpX4_summedBy_2 f (Int32.ofNat t) (Int32.ofNat q) (Int32.ofNat (k + 1)) (hf_skx V A y) := fun A y => by
      unfold ndX4_summedBy_97
      rw [hf_let_eq, z_lit, z_add]
    have hX : ndX8_sum_2 (lpX8_sum_2 f) a (Int32.ofNat (1 - q)) w (Int32.ofNat k) h = if TV.1 0 = Int32.ofNat (1 - q) then hf_b2 (spX13_holds (p k) w h) fun x12 g11 => if x12 = 0 then lpX8_sum_2 f a (Int32.ofNat (1 - q)) w (Int32.ofNat (k + 1)) g11 else (hf_ga 0 8 0 g11 a).bind fun x13 => (hf_ob 0 19 g11 x13).bind fun _ => hf_b2 (spJ2_get x13 (Int32.ofNat k) g11) fun x15 g14 => (hf_ob 0 13 g14 x15).bind fun _ => (hf_ga 0 13 1 g14 x15).bind fun x16 => hf_b2 ((spVal 64) x16 w g14) fun x18 g17 => some (x18, g17) else lpX8_sum_2 f a (Int32.ofNat (1 - q)) w (Int32.ofNat (k + 1)) h := by
      unfold ndX8_sum_2
      simp only [hf_ga_eq r1, r2, Option.bind_some, r3.ob, r3.size, hf_b2_some]
      rw [if_neg (z_nle hk (by omega))]
      simp only [r3.get hk (show n < 1000 by omega), hf_b2_some, e1, Option.bind_some, hf_gi_eq e1, jX]
      by_cases g : TV.1 0 = Int32.ofNat (1 - q)
      · rw [if_pos g, if_pos g]
        simp only [hf_ga_eq r1, r2, Option.bind_some, r3.ob, r3.get hk (show n < 1000 by omega), hf_b2_some, e1]
        unfold ndX8_sum_68
        simp only [hf_let_eq, z_lit, z_add]
      · rw [if_neg g, if_neg g]
    have hM : ndX4_summedBy_2 (lpX4_summedBy_2 f) (Int32.ofNat t) (Int32.ofNat q) (Int32.ofNat k) (hf_skx V A0 y0) = if (hf_skx V A0 y0).2.2.2.1 5 (60 * t + 5 * k) = Int32.ofNat q then (if (hf_skx V A0 y0).2.2.2.1 5 (60 * t + 5 * k + 3) < 0 then ndX4_summedBy_73 (Int32.ofNat t) (Int32.ofNat (60 * t + 5 * k)) (hf_skx V A0 y0) else hf_b2 (spX4_reckons (Int32.ofNat t) ((hf_skx V A0 y0).2.2.2.1 5 (60 * t + 5 * k + 3)) ((hf_skx V A0 y0).2.2.2.1 5 (60 * t + 5 * k + 4)) (hf_skx V A0 y0)) fun x8 V7 => if (lg_cmp x8 (1 : Int64)) = 0 then ndX4_summedBy_73 (Int32.ofNat t) (Int32.ofNat (60 * t + 5 * k)) V7 else ndX4_summedBy_97 (lpX4_summedBy_2 f) (Int32.ofNat t) (Int32.ofNat q) (Int32.ofNat k) V7) else lpX4_summedBy_2 f (Int32.ofNat t) (Int32.ofNat q) (Int32.ofNat (k + 1)) (hf_skx V A0 y0) := by
      unfold ndX4_summedBy_2
      rw [z_ld (show t < 6 by omega) (by omega), Option.bind_some, hn, if_neg (z_nle hk (by omega)), hf_let_eq]
      have a1 : (60 : Int32) * Int32.ofNat t + 5 * Int32.ofNat k = Int32.ofNat (60 * t + 5 * k) := by rw [z_lit, z_lit, z_mul, z_mul, z_add]
      have a3 : Int32.ofNat (60 * t + 5 * k) + 3 = Int32.ofNat (60 * t + 5 * k + 3) := by rw [z_lit, z_add]
      have a4 : Int32.ofNat (60 * t + 5 * k) + 4 = Int32.ofNat (60 * t + 5 * k + 4) := by rw [z_lit, z_add]
      rw [a1, a3, a4, z_ld (show 60 * t + 5 * k < 360 by omega) (by omega), Option.bind_some, z_ld (show 60 * t + 5 * k + 3 < 360 by omega) (by omega), Option.bind_some, Option.bind_some, z_ld (show 60 * t + 5 * k + 4 < 360 by omega) (by omega), Option.bind_some, jM]
    show (∃ x A y, lpX8_sum_2 (f + 1) a (Int32.ofNat (1 - q)) w (Int32.ofNat k) h = some (x, h) ∧ lpX4_summedBy_2 (f + 1) (Int32.ofNat t) (Int32.ofNat q) (Int32.ofNat k) (hf_skx V A0 y0) = some (x, hf_skx V A y)) ∨ ∃ s' : (Nat → Int64) × Int32, lpX8_sum_2 (f + 1) a (Int32.ofNat (1 - q)) w (Int32.ofNat k) h = lpX8_sum_2 f a (Int32.ofNat (1 - q)) w (Int32.ofNat (k + 1)) h ∧ lpX4_summedBy_2 (f + 1) (Int32.ofNat t) (Int32.ofNat q) (Int32.ofNat k) (hf_skx V A0 y0) = lpX4_summedBy_2 f (Int32.ofNat t) (Int32.ofNat q) (Int32.ofNat (k + 1)) (hf_skx V s'.1 s'.2) ∧ True
    rw [nX, nM, hX, hM]
    have hsame : (TV.1 0 = Int32.ofNat (1 - q) ∧ (hf_skx V A0 y0).2.2.2.1 5 (60 * t + 5 * k) = Int32.ofNat q) ∨ (¬ TV.1 0 = Int32.ofNat (1 - q) ∧ ¬ (hf_skx V A0 y0).2.2.2.1 5 (60 * t + 5 * k) = Int32.ofNat q) := by
      rcases e9 with ⟨g1, g2⟩ | ⟨g1, g2⟩ <;> rcases (show q = 0 ∨ q = 1 by omega) with rfl | rfl <;> rw [g1, g2] <;> decide
    rcases hsame with ⟨s1, s2⟩ | ⟨s1, s2⟩
    · rw [if_pos s1, if_pos s2]
      rcases e10 with ⟨g1, g2⟩ | ⟨cv, c', b', g1, g2, g3, g4, g5, g6, g7⟩
      · left
        refine ⟨x, A, y, ?_, ?_⟩
        · have hh : spX13_holds (p k) w h = some (1, h) := by
            unfold spX13_holds
            rw [hf_gq_eq e1, Option.bind_some, if_pos g1]
          rw [hh, hf_b2_some, if_neg (by decide)]
          simp only [hf_ga_eq r1, r2, Option.bind_some, r3.ob, r3.get hk (show n < 1000 by omega), hf_b2_some, e1, hf_ga_eq e1, e2, v1]
        · rw [g2, if_pos (by decide), v2]
      · obtain ⟨bb, b1, b2⟩ := x_cnd 64 h cv c' w _ D2 g2
        obtain ⟨A1, n1, m1⟩ := m_reckons g4 ht g5 g3 (b2 [])
        have hh : spX13_holds (p k) w h = some (zb32 bb, h) := by
          unfold spX13_holds
          rw [hf_gq_eq e1, Option.bind_some, if_neg (by rw [g1]; exact fun z => by cases z), hf_ga_eq e1, g1, Option.bind_some, b1, hf_b2_some]
          cases bb <;> rfl
        have hsk : hf_sk (hf_skx V A0 y0) A1 n1 = hf_skx V A1 (Int32.ofNat n1) := hf_skx_skx V A0 A1 y0 _
        rw [hh, hf_b2_some, g6, if_neg (z_n0 _ (by omega)), g7, m1, hf_b2_some, hsk]
        cases bb with
        | true =>
          left
          have H2 := (r6 k hk).tx (hf_skx_tx V A1 (Int32.ofNat n1))
          have D3 : hf_wd h w ((hf_skx V A1 (Int32.ofNat n1)).2.2.2.2.1 19) := D
          obtain ⟨x', A', y', w1, w2⟩ := xm_73 (a := a) (V := hf_skx V A1 (Int32.ofNat n1)) ht (show k < 12 by omega) D3 e3 e4 e5 e6 e7 e8
          rw [hf_skx_skx] at w2
          refine ⟨x', A', y', ?_, ?_⟩
          · rw [if_neg (by decide)]
            simp only [hf_ga_eq r1, r2, Option.bind_some, r3.ob, r3.get hk (show n < 1000 by omega), hf_b2_some, e1, hf_ga_eq e1, e2, w1]
          · rw [if_pos ((lg_cmp_eq (zb64 true) 1).mpr rfl), w2]
        | false =>
          right
          refine ⟨(A1, Int32.ofNat n1), ?_, ?_, trivial⟩
          · rw [if_pos (by decide)]
          · rw [if_neg (fun z => by have := (lg_cmp_eq _ _).mp z; exact absurd this (by decide)), jM]
    · rw [if_neg s1, if_neg s2]
      exact Or.inr ⟨(A0, y0), rfl, rfl, trivial⟩
  · obtain ⟨A0, y0⟩ := s
    refine ⟨0, A0, y0, ?_, ?_⟩
    · show ndX8_sum_2 (lpX8_sum_2 f) a (Int32.ofNat (1 - q)) w (Int32.ofNat n) h = _
      unfold ndX8_sum_2
      simp only [hf_ga_eq r1, r2, Option.bind_some, r3.ob, r3.size, hf_b2_some]
      rw [if_pos (z_yle (Nat.le_refl _) (by omega))]
    · show ndX4_summedBy_2 (lpX4_summedBy_2 f) (Int32.ofNat t) (Int32.ofNat q) (Int32.ofNat n) (hf_skx V A0 y0) = _
      unfold ndX4_summedBy_2
      have hn : (hf_skx V A0 y0).2.2.2.1 6 t = Int32.ofNat n := r5
      rw [z_ld (show t < 6 by omega) (by omega), Option.bind_some, hn, if_pos (z_yle (Nat.le_refl _) (by omega))]
set_option maxRecDepth 100000
set_option maxHeartbeats 1000000
/-! the words that rules ask -/
theorem x_bits : ∀ s, s < 4096 → spJ14_bitCount (Int32.ofNat s) = some (Int32.ofNat (zpop s)) := by decide +kernel
theorem zap_comm (a b : Nat) : zap a b = zap b a := by
  unfold zap
  split <;> split <;> omega
theorem zft_comm (v : Nat → Nat) (a b : Nat) : zft v a b = zft v b a := by
  unfold zft
  rw [zap_comm (v (10 + 5 * a + 0))]
  by_cases e : v (10 + 5 * a + 1) = v (10 + 5 * b + 1)
  · rw [if_pos e, if_pos (show v (10 + 5 * b + 1) = v (10 + 5 * a + 1) from e.symm)]
  · rw [if_neg e, if_neg (show ¬ v (10 + 5 * b + 1) = v (10 + 5 * a + 1) from fun z => e z.symm)]
theorem zfo_comm (v : Nat → Nat) (a b : Nat) : zfo v a b = zfo v b a := by
  unfold zfo
  rw [zft_comm v a b]
  split <;> split <;> rfl
section ZX
variable {h : hf_H} {o f s s' : Nat} {v : Nat → Nat}
theorem x_fitting (X : hf_XX h o f s) (F : hf_F h f v) (W : hf_wf v) {k g w : Nat} (hk : k < v 1) (hg : g < 2147483648) (hw : w < 10) : spX0_fitting o (Int32.ofNat k) (Int32.ofNat g) (Int32.ofNat w) h = some (Int32.ofNat (zfg v g k w), h) := by
  have q1 := W.v1
  unfold spX0_fitting zfg
  refine hf_loop (fun n i => lpX0_fitting_6 n o (Int32.ofNat k) (Int32.ofNat g) (Int32.ofNat w) (Int32.ofNat (zsum (fun o => if o ≠ k ∧ g.testBit o = true ∧ zfo v o k = w then 1 else 0) i)) (Int32.ofNat i) h) (v 1) _ (fun i n hi => ?_) (fun n => ?_) (fuel := hf_N) (by unfold hf_N; omega)
  · show ndX0_fitting_6 (lpX0_fitting_6 n) _ _ _ _ _ _ _ = _
    unfold ndX0_fitting_6 ndX0_fitting_47 ndX0_fitting_48
    have b2 := zfo_le v i k
    have h1 : spX0_bit (0 : Int32) = some (0 : Int32) := rfl
    have h2 : spX0_bit (1 : Int32) = some (1 : Int32) := rfl
    simp only [X.ob, x_many X F, hf_b2_some]
    rw [if_neg (z_nle hi (by omega)), x_has hg (by omega), Option.bind_some, x_fit2 X F W hk hi, hf_b2_some, zfo_comm v k i]
    simp only [h1, h2, Option.bind_some, hf_let_eq, zsum]
    have e1 : (Int32.ofNat i = Int32.ofNat k) ↔ i = k := z_eq (by omega) (by omega)
    have e2 : (Int32.ofNat (zfo v i k) = Int32.ofNat w) ↔ zfo v i k = w := z_eq (by omega) (by omega)
    simp only [e1, e2, z_lit, z_add]
    by_cases c2 : g.testBit i = true
    · rw [if_pos c2, if_neg (by decide)]
      by_cases c1 : i = k
      · rw [if_pos c1, if_neg (fun z => z.1 c1)]
      · rw [if_neg c1]
        by_cases c3 : zfo v i k = w
        · rw [if_pos c3, if_pos ⟨c1, c2, c3⟩]
        · rw [if_neg c3, if_neg (fun z => c3 z.2.2)]
    · rw [if_neg c2, if_pos (by decide), if_neg (fun z => c2 z.2.1)]
  · show ndX0_fitting_6 (lpX0_fitting_6 n) _ _ _ _ _ _ _ = _
    unfold ndX0_fitting_6
    simp only [X.ob, x_many X F, hf_b2_some]
    rw [if_pos (z_yle (Nat.le_refl _) (by omega))]
end ZX
/-- the words, as numbers: of a buyer; for a half -/
def zwn (v : Nat → Nat) (b : Nat) (q : Option Nat) : Nat → Nat
  | 0 => b
  | 1 => v (70 + 4 * b)
  | 2 => v (70 + 4 * b + 1)
  | 3 => v 3
  | 4 => zleft v
  | 5 => zpop (zhas v b)
  | 6 => match q with | none => 0 | some h => h
  | 7 => match q with | none => 0 | some h => v (10 + 5 * h + 0)
  | 8 => match q with | none => 0 | some h => v (10 + 5 * h + 1)
  | 9 => match q with | none => 0 | some h => zpr v h
  | 10 => match q with | none => 0 | some h => zfg v (zhas v b) h 2
  | 11 => match q with | none => 0 | some h => zfg v (zhas v b) h 1
  | 12 => match q with | none => 0 | some h => zfg v (zsaw v b &&& zats v) h 2
  | _ => 0
def zwd (v : Nat → Nat) (b : Nat) (q : Option Nat) (k : Nat) : Int64 := (Int32.ofNat (zwn v b q k)).toInt64
/-- the model with words -/
def hf_wv (V : hf_V) (W : Nat → Int64) : hf_V := (V.1, V.2.1, V.2.2.1, V.2.2.2.1, fun j => if j = 19 then W else V.2.2.2.2.1 j, V.2.2.2.2.2)
theorem hf_wv_self (V : hf_V) : hf_wv V (V.2.2.2.2.1 19) = V := by
  unfold hf_wv
  refine Prod.ext rfl (Prod.ext rfl (Prod.ext rfl (Prod.ext rfl (Prod.ext ?_ rfl))))
  funext j
  by_cases e : j = 19 <;> simp [e]
theorem hf_wv_uL (V : hf_V) (W : Nat → Int64) (i : Nat) (x : Int64) : hf_uL (hf_wv V W) 19 i x = hf_wv V (zup W i x) := by
  unfold hf_wv hf_uL zup
  refine Prod.ext rfl (Prod.ext rfl (Prod.ext rfl (Prod.ext rfl (Prod.ext ?_ rfl))))
  funext j
  by_cases e : j = 19 <;> simp [e]
theorem hf_sv.wv {V : hf_V} {v : Nat → Nat} (S : hf_sv V v) (W : Nat → Int64) : hf_sv (hf_wv V W) v := S
section ZM
variable {V : hf_V} {v : Nat → Nat}
theorem m_w97 (W : Nat → Int64) : ∃ W', lpX4_wordsOf_97 hf_N (Int32.ofNat 6) (hf_wv V W) = some (hf_wv V W') ∧ (∀ k, k < 6 → W' k = W k) ∧ ∀ k, 6 ≤ k → k < 13 → W' k = 0 := by
  refine hf_loopR (fun f i W' => lpX4_wordsOf_97 f (Int32.ofNat (6 + i)) (hf_wv V W')) (fun i W' => (∀ k, k < 6 → W' k = W k) ∧ ∀ k, 6 ≤ k → k < 6 + i → W' k = 0) 7 (fun r => ∃ W', r = some (hf_wv V W') ∧ (∀ k, k < 6 → W' k = W k) ∧ ∀ k, 6 ≤ k → k < 13 → W' k = 0) (fun i f W' hi hP => ?_) (fun f W' hP => ?_) W ⟨fun k hk => rfl, fun k h1 h2 => by omega⟩ (fuel := hf_N) (by unfold hf_N; omega)
  · refine ⟨zup W' (6 + i) 0, ?_, fun k hk => ?_, fun k h1 h2 => ?_⟩
    · show ndX4_wordsOf_97 (lpX4_wordsOf_97 f) _ _ = _
      unfold ndX4_wordsOf_97
      rw [z_lit, if_neg (z_nle (a := 13) (by omega) (by decide)), z_sd (by omega) (by omega), hf_wv_uL, hf_let_eq, z_lit, z_add]
      rfl
    · rw [zup_ne _ (by omega)]; exact hP.1 k hk
    · by_cases e : k = 6 + i
      · rw [e, zup_at]
      · rw [zup_ne _ e]; exact hP.2 k h1 (by omega)
  · refine ⟨W', ?_, hP.1, hP.2⟩
    show ndX4_wordsOf_97 (lpX4_wordsOf_97 f) _ _ = _
    unfold ndX4_wordsOf_97
    rw [z_lit, if_pos (z_yle (a := 13) (by decide) (by decide))]
theorem zhas_lt (v : Nat → Nat) (b : Nat) (hn : v 1 ≤ 12) : zhas v b < 4096 := by
  have := zset_lt (fun h => v (10 + 5 * h + 3) == 100 + b) (v 1)
  have h2 := (zpow12 hn).2.1
  unfold zhas
  omega
theorem zats_lt (v : Nat → Nat) (hn : v 1 ≤ 12) : zats v < 4096 := by
  have := zset_lt (fun h => decide (v (10 + 5 * h + 3) < 100)) (v 1)
  have h2 := (zpow12 hn).2.1
  unfold zats
  omega
theorem m_wordsOf (S : hf_sv V v) (Wf : hf_wf v) {b : Nat} (hb : b < v 2) : ∃ W, spX4_wordsOf (Int32.ofNat b) V = some (hf_wv V W) ∧ ∀ k, k < 13 → W k = zwd v b none k := by
  have q1 := Wf.v1
  have q2 := Wf.v2
  have hst : V = hf_wv V (V.2.2.2.2.1 19) := (hf_wv_self V).symm
  have key : ∀ W0, ∃ W, spX4_wordsOf (Int32.ofNat b) (hf_wv V W0) = some (hf_wv V W) ∧ ∀ k, k < 13 → W k = zwd v b none k := by
    intro W0
    have h78 : ∀ W1, ∃ W, ndX4_wordsOf_78 (Int32.ofNat b) (4 : Int32) (Int32.ofNat (zleft v)).toInt64 (hf_wv V W1) = some (hf_wv V W) ∧ (∀ k, k < 4 → W k = W1 k) ∧ W 4 = zwd v b none 4 ∧ W 5 = zwd v b none 5 ∧ ∀ k, 6 ≤ k → k < 13 → W k = 0 := by
      intro W1
      obtain ⟨W', w1, w2, w3⟩ := m_w97 (V := V) (zup (zup W1 4 (Int32.ofNat (zleft v)).toInt64) 5 (Int32.ofNat (zpop (zhas v b))).toInt64)
      refine ⟨W', ?_, fun k hk => ?_, ?_, ?_, w3⟩
      · unfold ndX4_wordsOf_78
        rw [z_lit, z_sd (i := 4) (by decide) (by decide), hf_wv_uL, m_hasOf (S.wv _) q1 (by omega), hf_b2_some, m_bits _ (zhas_lt v b q1), Option.bind_some, z_lit, z_sd (i := 5) (by decide) (by decide), hf_wv_uL, z_lit]
        exact w1
      · rw [w2 k (by omega), zup_ne _ (by omega), zup_ne _ (by omega)]
      · rw [w2 4 (by omega), zup_ne _ (by omega), zup_at]; rfl
      · rw [w2 5 (by omega), zup_at]; rfl
    obtain ⟨W', w1, w2, w3, w4, w5⟩ := h78 (zup (zup (zup (zup W0 0 (Int32.ofNat b).toInt64) 1 (Int32.ofNat (v (70 + 4 * b + 0))).toInt64) 2 (Int32.ofNat (v (70 + 4 * b + 1))).toInt64) 3 (Int32.ofNat (v 3)).toInt64)
    refine ⟨W', ?_, fun k hk => ?_⟩
    · unfold spX4_wordsOf
      simp only [z_lit]
      rw [z_sd (i := 0) (by decide) (by decide), hf_wv_uL, m_buyerOf (S.wv _) (w := 0) (by omega), hf_b2_some, z_sd (i := 1) (by decide) (by decide), hf_wv_uL, m_buyerOf (S.wv _) (w := 1) (by omega), hf_b2_some, z_sd (i := 2) (by decide) (by decide), hf_wv_uL, (S.wv _).ld (i := 3) (by decide), Option.bind_some, z_sd (i := 3) (by decide) (by decide), hf_wv_uL, m_isDusk (S.wv _), hf_b2_some]
      have q3 := Wf.v3
      have q6 := Wf.v6
      by_cases e : v 3 < v 6
      · rw [if_pos e, if_pos rfl, (S.wv _).ld (i := 6) (by decide), Option.bind_some, (S.wv _).ld (i := 3) (by decide), Option.bind_some, z_sub (by omega)]
        exact w1
      · rw [if_neg e, if_neg (by decide)]
        have e9 : zleft v = 0 := by unfold zleft; omega
        rw [e9] at w1
        exact w1
    · rcases (show k = 0 ∨ k = 1 ∨ k = 2 ∨ k = 3 ∨ k = 4 ∨ k = 5 ∨ 6 ≤ k by omega) with e | e | e | e | e | e | e
      · subst e; rw [w2 0 (by omega), zup_ne _ (by omega), zup_ne _ (by omega), zup_ne _ (by omega), zup_at]; rfl
      · subst e; rw [w2 1 (by omega), zup_ne _ (by omega), zup_ne _ (by omega), zup_at]; rfl
      · subst e; rw [w2 2 (by omega), zup_ne _ (by omega), zup_at]; rfl
      · subst e; rw [w2 3 (by omega), zup_at]; rfl
      · subst e; exact w3
      · subst e; exact w4
      · rw [w5 k e hk]
        have h0 : zwn v b none k = 0 := by
          rcases (show k = 6 ∨ k = 7 ∨ k = 8 ∨ k = 9 ∨ k = 10 ∨ k = 11 ∨ k = 12 by omega) with e | e | e | e | e | e | e <;> subst e <;> rfl
        unfold zwd
        rw [h0]
        rfl
  have := key (V.2.2.2.2.1 19)
  rw [← hst] at this
  exact this
theorem zsaw_lt (v : Nat → Nat) (b : Nat) (Wf : hf_wf v) : zsaw v b < 4096 := by
  unfold zsaw
  have : ∀ n, n ≤ v 2 → zor (fun o => if (v (70 + 4 * b + 3)).testBit o then v (70 + 4 * o + 2) else 0) n < 2 ^ 12 := by
    intro n
    induction n with
    | zero => intro _; exact Nat.two_pow_pos 12
    | succ n ih =>
      intro hn
      unfold zor
      refine Nat.or_lt_two_pow (ih (by omega)) ?_
      split
      · exact (Wf.buyer (b := n) (by omega)).2.2.1
      · exact Nat.two_pow_pos 12
  exact this (v 2) (Nat.le_refl _)
theorem m_wordsFor (S : hf_sv V v) (Wf : hf_wf v) {b h : Nat} (hb : b < v 2) (hh : h < v 1) : ∃ W, spX4_wordsFor (Int32.ofNat b) (Int32.ofNat h) V = some (hf_wv V W) ∧ ∀ k, k < 13 → W k = zwd v b (some h) k := by
  have q1 := Wf.v1
  have q2 := Wf.v2
  obtain ⟨W0, w1, w2⟩ := m_wordsOf S Wf hb
  have r1 := zhas_lt v b q1
  have r2 := zats_lt v q1
  have r3 : zsaw v b &&& zats v < 2147483648 := Nat.lt_of_le_of_lt Nat.and_le_right (by omega)
  refine ⟨zup (zup (zup (zup (zup (zup (zup W0 6 (Int32.ofNat h).toInt64) 7 (Int32.ofNat (v (10 + 5 * h + 0))).toInt64) 8 (Int32.ofNat (v (10 + 5 * h + 1))).toInt64) 9 (Int32.ofNat (zpr v h)).toInt64) 10 (Int32.ofNat (zfg v (zhas v b) h 2)).toInt64) 11 (Int32.ofNat (zfg v (zhas v b) h 1)).toInt64) 12 (Int32.ofNat (zfg v (zsaw v b &&& zats v) h 2)).toInt64, ?_, ?_⟩
  · unfold spX4_wordsFor
    rw [w1, Option.bind_some]
    simp only [z_lit]
    rw [z_sd (i := 6) (by decide) (by decide), hf_wv_uL, m_halfOf (S.wv _) (w := 0) (by omega), hf_b2_some, z_sd (i := 7) (by decide) (by decide), hf_wv_uL, m_halfOf (S.wv _) (w := 1) (by omega), hf_b2_some, z_sd (i := 8) (by decide) (by decide), hf_wv_uL, m_priceOf (S.wv _) (by omega), hf_b2_some, z_sd (i := 9) (by decide) (by decide), hf_wv_uL, m_hasOf (S.wv _) q1 (by omega), hf_b2_some, m_fitting (S.wv _) q1 (by omega) (by omega) (by decide), hf_b2_some, z_sd (i := 10) (by decide) (by decide), hf_wv_uL, m_hasOf (S.wv _) q1 (by omega), hf_b2_some, m_fitting (S.wv _) q1 (by omega) (by omega) (by decide), hf_b2_some, z_sd (i := 11) (by decide) (by decide), hf_wv_uL, m_sawOf (S.wv _) q2 (by omega), hf_b2_some, m_atStalls (S.wv _) q1, hf_b2_some, z_and, m_fitting (S.wv _) q1 r3 (by omega) (by decide), hf_b2_some, z_sd (i := 12) (by decide) (by decide), hf_wv_uL]
  · intro k hk
    rcases (show k < 6 ∨ k = 6 ∨ k = 7 ∨ k = 8 ∨ k = 9 ∨ k = 10 ∨ k = 11 ∨ k = 12 by omega) with e | e | e | e | e | e | e | e
    · rw [zup_ne _ (by omega), zup_ne _ (by omega), zup_ne _ (by omega), zup_ne _ (by omega), zup_ne _ (by omega), zup_ne _ (by omega), zup_ne _ (by omega), w2 k hk]
      unfold zwd
      have : zwn v b none k = zwn v b (some h) k := by
        rcases (show k = 0 ∨ k = 1 ∨ k = 2 ∨ k = 3 ∨ k = 4 ∨ k = 5 by omega) with e | e | e | e | e | e <;> subst e <;> rfl
      rw [this]
    all_goals subst e
    all_goals first | (rw [zup_at]; rfl) | (rw [zup_ne _ (by omega), zup_at]; rfl) | (rw [zup_ne _ (by omega), zup_ne _ (by omega), zup_at]; rfl) | (rw [zup_ne _ (by omega), zup_ne _ (by omega), zup_ne _ (by omega), zup_at]; rfl) | (rw [zup_ne _ (by omega), zup_ne _ (by omega), zup_ne _ (by omega), zup_ne _ (by omega), zup_at]; rfl) | (rw [zup_ne _ (by omega), zup_ne _ (by omega), zup_ne _ (by omega), zup_ne _ (by omega), zup_ne _ (by omega), zup_at]; rfl) | (rw [zup_ne _ (by omega), zup_ne _ (by omega), zup_ne _ (by omega), zup_ne _ (by omega), zup_ne _ (by omega), zup_ne _ (by omega), zup_at]; rfl)
end ZM
set_option maxRecDepth 100000
set_option maxHeartbeats 1000000
/-! HalfFair's words -/
def hf_xc (h : hf_H) (o : Nat) (XV : hf_V) : hf_H := hf_up h o (.inl (1, 0, XV))
def hf_xw (XV : hf_V) (W : Nat → Int64) : hf_V := (XV.1, XV.2.1, XV.2.2.1, XV.2.2.2.1, fun j => if j = 16 then W else XV.2.2.2.2.1 j, XV.2.2.2.2.2)
theorem hf_xw_self (V : hf_V) : hf_xw V (V.2.2.2.2.1 16) = V := by
  unfold hf_xw
  refine Prod.ext rfl (Prod.ext rfl (Prod.ext rfl (Prod.ext rfl (Prod.ext ?_ rfl))))
  funext j
  by_cases e : j = 16 <;> simp [e]
theorem hf_xw_xw (V : hf_V) (A B : Nat → Int64) : hf_xw (hf_xw V A) B = hf_xw V B := by
  unfold hf_xw
  refine Prod.ext rfl (Prod.ext rfl (Prod.ext rfl (Prod.ext rfl (Prod.ext ?_ rfl))))
  funext j
  by_cases e : j = 16 <;> simp [e]
theorem hf_xw_uL (V : hf_V) (W : Nat → Int64) (i : Nat) (x : Int64) : hf_uL (hf_xw V W) 16 i x = hf_xw V (zup W i x) := by
  unfold hf_xw hf_uL zup
  refine Prod.ext rfl (Prod.ext rfl (Prod.ext rfl (Prod.ext rfl (Prod.ext ?_ rfl))))
  funext j
  by_cases e : j = 16 <;> simp [e]
section ZX
variable {h : hf_H} {o f s s' : Nat} {v : Nat → Nat} {XV : hf_V}
theorem hf_ob_xc (h : hf_H) (o : Nat) (XV : hf_V) : hf_ob 1 0 (hf_xc h o XV) o = some XV := hf_ob_up h o 1 0 XV
theorem hf_xc_xc (h : hf_H) (o : Nat) (A B : hf_V) : hf_xc (hf_xc h o A) o B = hf_xc h o B := hf_up_up h o _ _
theorem hf_xc_self (e : hf_ob 1 0 h o = some XV) : hf_xc h o XV = h := hf_up_self e
theorem hf_XX.xc (X : hf_XX h o f s) (e : hf_ob 1 0 h o = some XV) {XV' : hf_V} (e0 : XV'.2.2.1 0 = XV.2.2.1 0) (e1 : XV'.2.2.1 1 = XV.2.2.1 1) : hf_XX (hf_xc h o XV') o f s := by
  obtain ⟨X0, x1, x2, x3⟩ := X
  rw [e] at x1
  cases x1
  exact ⟨XV', hf_ob_xc h o XV', e0.trans x2, e1.trans x3⟩
theorem hf_F.xc (F : hf_F h f v) (e : hf_ob 1 0 h o = some XV) (XV' : hf_V) : hf_F (hf_xc h o XV') f v := F.up e (by decide)
theorem hf_SS.xc (S : hf_SS h s v) (e : hf_ob 1 0 h o = some XV) (XV' : hf_V) : hf_SS (hf_xc h o XV') s v := by
  obtain ⟨SV, s1, s2⟩ := S
  refine ⟨SV, ?_, s2⟩
  unfold hf_xc
  rw [hf_ob_ne (hf_ob_dif s1 e (by decide))]
  exact s1
def zhalf (q : Option Nat) : Int32 := match q with
  | none => -1
  | some k => Int32.ofNat k
theorem x_asks (X : hf_XX h o f s) (F : hf_F h f v) (S : hf_SS h s' v) (Wf : hf_wf v) (e : hf_ob 1 0 h o = some XV) {b : Nat} (hb : b < v 2) {q : Option Nat} (hq : ∀ k, q = some k → k < v 1) : ∃ W, spX0_asks o s' (Int32.ofNat b) (zhalf q) h = some (hf_xc h o (hf_xw XV W)) ∧ ∀ k, k < 13 → W k = zwd v b q k := by
  have q1 := Wf.v1
  have q2 := Wf.v2
  have q0 := Wf.b0 hb
  have r1 := zhas_lt v b q1
  have r2 := zats_lt v q1
  have r3 : zsaw v b &&& zats v < 2147483648 := Nat.lt_of_le_of_lt Nat.and_le_right (by omega)
  have XW : ∀ W, hf_XX (hf_xc h o (hf_xw XV W)) o f s := fun W => X.xc e rfl rfl
  have FW : ∀ W, hf_F (hf_xc h o (hf_xw XV W)) f v := fun W => F.xc e _
  have SW : ∀ W, hf_SS (hf_xc h o (hf_xw XV W)) s' v := fun W => S.xc e _
  have sl : ∀ (W : Nat → Int64) (i : Nat) (x : Int64), i < 13 → hf_sl 0 16 13 (hf_xc h o (hf_xw XV W)) o (Int32.ofNat i) x = some (hf_xc h o (hf_xw XV (zup W i x))) := fun W i x hi => by
    rw [hf_sl_eq (hf_ob_xc h o _) 16 hi (by omega), hf_xw_uL]
    exact congrArg some (hf_xc_xc h o _ _)
  have hst : h = hf_xc h o (hf_xw XV (XV.2.2.2.2.1 16)) := by rw [hf_xw_self, hf_xc_self e]
  have loop : ∀ W0 : Nat → Int64, (∀ k, k < 6 → W0 k = zwd v b q k) → ∃ W, lpX0_asks_90 hf_N o s' (Int32.ofNat b) (zhalf q) (Int32.ofNat (zhas v b)) (Int32.ofNat 6) (hf_xc h o (hf_xw XV W0)) = some (hf_xc h o (hf_xw XV W)) ∧ ∀ k, k < 13 → W k = zwd v b q k := by
    intro W0 hW0
    refine hf_loopR (fun g i W => lpX0_asks_90 g o s' (Int32.ofNat b) (zhalf q) (Int32.ofNat (zhas v b)) (Int32.ofNat (6 + i)) (hf_xc h o (hf_xw XV W))) (fun i W => (∀ k, k < 6 → W k = zwd v b q k) ∧ ∀ k, 6 ≤ k → k < 6 + i → W k = 0) 7 (fun r => ∃ W, r = some (hf_xc h o (hf_xw XV W)) ∧ ∀ k, k < 13 → W k = zwd v b q k) (fun i g W hi hP => ?_) (fun g W hP => ?_) W0 ⟨hW0, fun k h1 h2 => by omega⟩ (fuel := hf_N) (by unfold hf_N; omega)
    · refine ⟨zup W (6 + i) 0, ?_, fun k hk => ?_, fun k h1 h2 => ?_⟩
      · show ndX0_asks_90 (lpX0_asks_90 g) _ _ _ _ _ _ _ = _
        unfold ndX0_asks_90
        rw [(XW _).ob, (XW _).ob, z_lit, if_neg (z_nle (a := 13) (by omega) (by decide)), (XW _).ob, sl _ _ _ (by omega), Option.bind_some, hf_let_eq, z_lit, z_add]
        rfl
      · rw [zup_ne _ (by omega)]; exact hP.1 k hk
      · by_cases e : k = 6 + i
        · rw [e, zup_at]
        · rw [zup_ne _ e]; exact hP.2 k h1 (by omega)
    · cases q with
      | none =>
        refine ⟨W, ?_, fun k hk => ?_⟩
        · show ndX0_asks_90 (lpX0_asks_90 g) _ _ _ _ _ _ _ = _
          unfold ndX0_asks_90
          rw [(XW _).ob, (XW _).ob, z_lit, if_pos (z_yle (a := 13) (by decide) (by decide)), if_pos (show zhalf none = -1 from rfl)]
        · by_cases hk6 : k < 6
          · exact hP.1 k hk6
          · rw [hP.2 k (by omega) (by omega)]
            have h0 : zwn v b none k = 0 := by
              rcases (show k = 6 ∨ k = 7 ∨ k = 8 ∨ k = 9 ∨ k = 10 ∨ k = 11 ∨ k = 12 by omega) with e | e | e | e | e | e | e <;> subst e <;> rfl
            unfold zwd
            rw [h0]
            rfl
      | some k =>
        have hk := hq k rfl
        refine ⟨zup (zup (zup (zup (zup (zup (zup W 6 (Int32.ofNat k).toInt64) 7 (Int32.ofNat (v (10 + 5 * k + 0))).toInt64) 8 (Int32.ofNat (v (10 + 5 * k + 1))).toInt64) 9 (Int32.ofNat (zpr v k)).toInt64) 10 (Int32.ofNat (zfg v (zhas v b) k 2)).toInt64) 11 (Int32.ofNat (zfg v (zhas v b) k 1)).toInt64) 12 (Int32.ofNat (zfg v (zsaw v b &&& zats v) k 2)).toInt64, ?_, ?_⟩
        · show ndX0_asks_90 (lpX0_asks_90 g) _ _ _ _ _ _ _ = _
          unfold ndX0_asks_90
          have hne : ¬ zhalf (some k) = -1 := fun z => by
            have h1 : ¬ Int32.ofNat k < 0 := z_n0 k (by omega)
            rw [show Int32.ofNat k = -1 from z] at h1
            exact h1 (by decide)
          rw [(XW _).ob, (XW _).ob, z_lit, if_pos (z_yle (a := 13) (by decide) (by decide)), if_neg hne]
          show ((hf_ob 1 0 (hf_xc h o (hf_xw XV W)) o).bind fun _ => (hf_sl 0 16 13 (hf_xc h o (hf_xw XV W)) o (Int32.ofNat 6) (Int32.toInt64 (Int32.ofNat k))).bind _) = _
          simp only [show zhalf (some k) = Int32.ofNat k from rfl, z_lit]
          rw [(XW _).ob, sl _ 6 _ (by decide), Option.bind_some, (XW _).ob, (XW _).fa, Option.bind_some, (FW _).shape Wf hk, sl _ 7 _ (by decide), Option.bind_some, (XW _).ob, (XW _).fa, Option.bind_some, (FW _).side Wf hk, sl _ 8 _ (by decide), Option.bind_some, (XW _).ob, (XW _).fa, Option.bind_some, (SW _).now, Option.bind_some, (FW _).ob, x_priceAt (FW _) Wf hk, hf_b2_some, sl _ 9 _ (by decide), Option.bind_some, (XW _).ob, (XW _).ob, x_fitting (XW _) (FW _) Wf hk (by omega) (by decide), hf_b2_some, sl _ 10 _ (by decide), Option.bind_some, (XW _).ob, (XW _).ob, x_fitting (XW _) (FW _) Wf hk (by omega) (by decide), hf_b2_some, sl _ 11 _ (by decide), Option.bind_some, (XW _).ob, (XW _).fa, Option.bind_some, (SW _).ob, x_clubSaw (FW _) (SW _) Wf hb, hf_b2_some, (XW _).fa, Option.bind_some, (SW _).ob, x_atStalls (FW _) (SW _) Wf, hf_b2_some, (XW _).ob, z_and, x_fitting (XW _) (FW _) Wf hk r3 (by decide), hf_b2_some, sl _ 12 _ (by decide), Option.bind_some]
        · intro j hj
          rcases (show j < 6 ∨ j = 6 ∨ j = 7 ∨ j = 8 ∨ j = 9 ∨ j = 10 ∨ j = 11 ∨ j = 12 by omega) with e | e | e | e | e | e | e | e
          · rw [zup_ne _ (by omega), zup_ne _ (by omega), zup_ne _ (by omega), zup_ne _ (by omega), zup_ne _ (by omega), zup_ne _ (by omega), zup_ne _ (by omega), hP.1 j e]
          all_goals subst e
          all_goals first | (rw [zup_at]; rfl) | (rw [zup_ne _ (by omega), zup_at]; rfl) | (rw [zup_ne _ (by omega), zup_ne _ (by omega), zup_at]; rfl) | (rw [zup_ne _ (by omega), zup_ne _ (by omega), zup_ne _ (by omega), zup_at]; rfl) | (rw [zup_ne _ (by omega), zup_ne _ (by omega), zup_ne _ (by omega), zup_ne _ (by omega), zup_at]; rfl) | (rw [zup_ne _ (by omega), zup_ne _ (by omega), zup_ne _ (by omega), zup_ne _ (by omega), zup_ne _ (by omega), zup_at]; rfl) | (rw [zup_ne _ (by omega), zup_ne _ (by omega), zup_ne _ (by omega), zup_ne _ (by omega), zup_ne _ (by omega), zup_ne _ (by omega), zup_at]; rfl)
  have key : ∀ W0 : Nat → Int64, ∃ W, spX0_asks o s' (Int32.ofNat b) (zhalf q) (hf_xc h o (hf_xw XV W0)) = some (hf_xc h o (hf_xw XV W)) ∧ ∀ k, k < 13 → W k = zwd v b q k := by
    intro W0
    obtain ⟨W, w1, w2⟩ := loop (zup (zup (zup (zup (zup (zup W0 0 (Int32.ofNat b).toInt64) 1 (Int32.ofNat (v (70 + 4 * b))).toInt64) 2 (Int32.ofNat (v (70 + 4 * b + 1))).toInt64) 3 (Int32.ofNat (v 3)).toInt64) 4 (Int32.ofNat (zleft v)).toInt64) 5 (Int32.ofNat (zpop (zhas v b))).toInt64) (fun j hj => by
      rcases (show j = 0 ∨ j = 1 ∨ j = 2 ∨ j = 3 ∨ j = 4 ∨ j = 5 by omega) with e | e | e | e | e | e
      all_goals subst e
      all_goals first | (rw [zup_at]; rfl) | (rw [zup_ne _ (by omega), zup_at]; rfl) | (rw [zup_ne _ (by omega), zup_ne _ (by omega), zup_at]; rfl) | (rw [zup_ne _ (by omega), zup_ne _ (by omega), zup_ne _ (by omega), zup_at]; rfl) | (rw [zup_ne _ (by omega), zup_ne _ (by omega), zup_ne _ (by omega), zup_ne _ (by omega), zup_at]; rfl) | (rw [zup_ne _ (by omega), zup_ne _ (by omega), zup_ne _ (by omega), zup_ne _ (by omega), zup_ne _ (by omega), zup_at]; rfl))
    refine ⟨W, ?_, w2⟩
    unfold spX0_asks
    simp only [z_lit]
    rw [(XW _).fa, Option.bind_some, (SW _).ob, x_halvesOf (FW _) (SW _) Wf (by omega), hf_b2_some, (XW _).ob, sl _ 0 _ (by decide), Option.bind_some, (XW _).ob, (SW _).ob, (SW _).purse hb q2, Option.bind_some, sl _ 1 _ (by decide), Option.bind_some, (XW _).ob, (SW _).ob, (SW _).spot hb q2, Option.bind_some, sl _ 2 _ (by decide), Option.bind_some, (XW _).ob, (SW _).now, Option.bind_some, sl _ 3 _ (by decide), Option.bind_some, (XW _).ob, (XW _).fa, Option.bind_some, (SW _).now, Option.bind_some, (FW _).ob, x_left (FW _) Wf q0, hf_b2_some, sl _ 4 _ (by decide), Option.bind_some, (XW _).ob, x_bits _ r1, Option.bind_some, sl _ 5 _ (by decide), Option.bind_some]
    exact w1
  have := key (XV.2.2.2.2.1 16)
  rw [← hst] at this
  exact this
end ZX
