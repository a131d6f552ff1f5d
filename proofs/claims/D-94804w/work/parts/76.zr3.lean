set_option maxRecDepth 100000
set_option maxHeartbeats 1000000
/-! rules: clauses told, their sums -/
theorem hf_whileR2 {σ τ1 τ2 : Type} (G1 : Nat → σ → Option τ1) (G2 : Nat → σ → Option τ2) (m : σ → Nat) (P : σ → Prop) (R : Option τ1 → Option τ2 → Prop) (hstep : ∀ f s, P s → R (G1 (f + 1) s) (G2 (f + 1) s) ∨ ∃ s', G1 (f + 1) s = G1 f s' ∧ G2 (f + 1) s = G2 f s' ∧ P s' ∧ m s' < m s) (s0 : σ) (h0 : P s0) {fuel : Nat} (h : m s0 < fuel) : R (G1 fuel s0) (G2 fuel s0) := by
  induction fuel generalizing s0 with
  | zero => omega
  | succ f ih =>
    rcases hstep f s0 h0 with h1 | ⟨s', h1, h2, h3, h4⟩
    · exact h1
    · rw [h1, h2]
      exact ih s' h3 (by omega)
/-- two counted loops in step -/
theorem hf_loopR2 {σ τ1 τ2 : Type} (G1 : Nat → Nat → σ → Option τ1) (G2 : Nat → Nat → σ → Option τ2) (P : Nat → σ → Prop) (n : Nat) (R : Option τ1 → Option τ2 → Prop) (hstep : ∀ i f s, i < n → P i s → R (G1 (f + 1) i s) (G2 (f + 1) i s) ∨ ∃ s', G1 (f + 1) i s = G1 f (i + 1) s' ∧ G2 (f + 1) i s = G2 f (i + 1) s' ∧ P (i + 1) s') (hend : ∀ f s, P n s → R (G1 (f + 1) n s) (G2 (f + 1) n s)) (s0 : σ) (h0 : P 0 s0) {fuel : Nat} (h : n < fuel) : R (G1 fuel 0 s0) (G2 fuel 0 s0) := by
  refine hf_whileR2 (fun f (x : Nat × σ) => G1 f x.1 x.2) (fun f (x : Nat × σ) => G2 f x.1 x.2) (fun x => n - x.1) (fun x => x.1 ≤ n ∧ P x.1 x.2) R (fun f x hx => ?_) (0, s0) ⟨Nat.zero_le _, h0⟩ (by show n - 0 < fuel; omega)
  by_cases e : x.1 = n
  · left
    have h1 := hend f x.2 (e ▸ hx.2)
    show R (G1 (f + 1) x.1 x.2) (G2 (f + 1) x.1 x.2)
    rw [e]
    exact h1
  · rcases hstep x.1 f x.2 (by omega) hx.2 with h1 | ⟨s', h1, h2, h3⟩
    · exact Or.inl h1
    · exact Or.inr ⟨(x.1 + 1, s'), h1, h2, ⟨by show x.1 + 1 ≤ n; omega, h3⟩, by show n - (x.1 + 1) < n - x.1; omega⟩
/-- clause k of text t told by the object a -/
def hf_Told (h : hf_H) (a : Nat) (V : hf_V) (t k : Nat) : Prop := ∃ (TV : hf_V) (sv : Nat) (c : List Nat) (b : Nat), hf_ob 0 13 h a = some TV ∧ TV.2.2.1 1 = some sv ∧ hf_Val 64 h sv c ∧ zlv c ≤ 60 ∧ zcds V t b c ∧ b + c.length ≤ 400 ∧ V.2.2.2.1 5 (60 * t + 5 * k + 1) = Int32.ofNat b ∧ V.2.2.2.1 5 (60 * t + 5 * k + 2) = Int32.ofNat (b + c.length) ∧ ((TV.1 0 = 1 ∧ V.2.2.2.1 5 (60 * t + 5 * k) = 0) ∨ (TV.1 0 = 0 ∧ V.2.2.2.1 5 (60 * t + 5 * k) = 1)) ∧ ((TV.2.2.1 2 = none ∧ V.2.2.2.1 5 (60 * t + 5 * k + 3) = -1) ∨ (∃ (cv : Nat) (c' : List Nat) (b' : Nat), TV.2.2.1 2 = some cv ∧ hf_Cnd 64 h cv c' ∧ zlv c' ≤ 60 ∧ zcds V t b' c' ∧ b' + c'.length ≤ 400 ∧ V.2.2.2.1 5 (60 * t + 5 * k + 3) = Int32.ofNat b' ∧ V.2.2.2.1 5 (60 * t + 5 * k + 4) = Int32.ofNat (b' + c'.length)))
/-- the rule object a tells text t -/
def hf_Rul (h : hf_H) (a : Nat) (V : hf_V) (t : Nat) : Prop := t ≤ 5 ∧ ∃ (RV : hf_V) (l n : Nat) (p : Nat → Nat), hf_ob 0 8 h a = some RV ∧ RV.2.2.1 0 = some l ∧ hf_L h l n p ∧ n ≤ 12 ∧ V.2.2.2.1 6 t = Int32.ofNat n ∧ ∀ k, k < n → hf_Told h (p k) V t k
/-- texts are as they were -/
def hf_txq (V V' : hf_V) : Prop := V'.2.2.2.1 3 = V.2.2.2.1 3 ∧ V'.2.2.2.1 5 = V.2.2.2.1 5 ∧ V'.2.2.2.1 6 = V.2.2.2.1 6
theorem zcds.tx {V V' : hf_V} {t b : Nat} {c : List Nat} (H : zcds V t b c) (T : hf_txq V V') : zcds V' t b c := fun k hk => by
  rw [T.1]
  exact H k hk
theorem hf_Told.tx {h : hf_H} {a t k : Nat} {V V' : hf_V} (H : hf_Told h a V t k) (T : hf_txq V V') : hf_Told h a V' t k := by
  obtain ⟨TV, sv, c, b, e1, e2, e3, e4, e5, e6, e7, e8, e9, e10⟩ := H
  refine ⟨TV, sv, c, b, e1, e2, e3, e4, e5.tx T, e6, by rw [T.2.1]; exact e7, by rw [T.2.1]; exact e8, by rw [T.2.1]; exact e9, ?_⟩
  rcases e10 with ⟨g1, g2⟩ | ⟨cv, c', b', g1, g2, g3, g4, g5, g6, g7⟩
  · exact Or.inl ⟨g1, by rw [T.2.1]; exact g2⟩
  · exact Or.inr ⟨cv, c', b', g1, g2, g3, g4.tx T, g5, by rw [T.2.1]; exact g6, by rw [T.2.1]; exact g7⟩
theorem hf_Rul.tx {h : hf_H} {a t : Nat} {V V' : hf_V} (H : hf_Rul h a V t) (T : hf_txq V V') : hf_Rul h a V' t := by
  obtain ⟨ht, RV, l, n, p, e1, e2, e3, e4, e5, e6⟩ := H
  exact ⟨ht, RV, l, n, p, e1, e2, e3, e4, by rw [T.2.2]; exact e5, fun k hk => (e6 k hk).tx T⟩
theorem hf_sk_txq (V : hf_V) (A : Nat → Int64) (n : Nat) : hf_txq V (hf_sk V A n) := ⟨rfl, rfl, rfl⟩
/-- the model but for its stack -/
def hf_skx (V : hf_V) (A : Nat → Int64) (x : Int32) : hf_V := (fun j => if j = 18 then x else V.1 j, V.2.1, V.2.2.1, V.2.2.2.1, fun j => if j = 17 then A else V.2.2.2.2.1 j, V.2.2.2.2.2)
theorem hf_skx_self (V : hf_V) : hf_skx V (V.2.2.2.2.1 17) (V.1 18) = V := by
  unfold hf_skx
  refine Prod.ext ?_ (Prod.ext rfl (Prod.ext rfl (Prod.ext rfl (Prod.ext ?_ rfl))))
  · funext j
    by_cases e : j = 18 <;> simp [e]
  · funext j
    by_cases e : j = 17 <;> simp [e]
theorem hf_skx_skx (V : hf_V) (A B : Nat → Int64) (x y : Int32) : hf_skx (hf_skx V A x) B y = hf_skx V B y := by
  unfold hf_skx
  refine Prod.ext ?_ (Prod.ext rfl (Prod.ext rfl (Prod.ext rfl (Prod.ext ?_ rfl))))
  · funext j
    by_cases e : j = 18 <;> simp [e]
  · funext j
    by_cases e : j = 17 <;> simp [e]
theorem hf_skx_tx (V : hf_V) (A : Nat → Int64) (x : Int32) : hf_txq V (hf_skx V A x) := ⟨rfl, rfl, rfl⟩
theorem xm_73 {h : hf_H} {a w t k : Nat} {V : hf_V} {c : List Nat} {b sv : Nat} (ht : t ≤ 5) (hk : k < 12) (D : hf_wd h w (V.2.2.2.2.1 19)) (e3 : hf_Val 64 h sv c) (e4 : zlv c ≤ 60) (e5 : zcds V t b c) (e6 : b + c.length ≤ 400) (e7 : V.2.2.2.1 5 (60 * t + 5 * k + 1) = Int32.ofNat b) (e8 : V.2.2.2.1 5 (60 * t + 5 * k + 2) = Int32.ofNat (b + c.length)) : ∃ x A y, spVal 64 sv w h = some (x, h) ∧ ndX4_summedBy_73 (Int32.ofNat t) (Int32.ofNat (60 * t + 5 * k)) V = some (x, hf_skx V A y) := by
  obtain ⟨x, x1, x2⟩ := x_val 64 h sv c w _ D e3
  obtain ⟨A, n, m1⟩ := m_reckons e5 ht e6 e4 (x2 [])
  refine ⟨x, A, Int32.ofNat n, x1, ?_⟩
  unfold ndX4_summedBy_73
  have a1 : Int32.ofNat (60 * t + 5 * k) + 1 = Int32.ofNat (60 * t + 5 * k + 1) := z_add _ 1
  have a2 : Int32.ofNat (60 * t + 5 * k) + 2 = Int32.ofNat (60 * t + 5 * k + 2) := z_add _ 2
  rw [a1, a2, z_ld (by omega) (by omega), Option.bind_some, z_ld (by omega) (by omega), Option.bind_some, e7, e8, m1, hf_b2_some]
  rfl
theorem xm_sum {h : hf_H} {a w t : Nat} {V : hf_V} (R : hf_Rul h a V t) (D : hf_wd h w (V.2.2.2.2.1 19)) {q : Nat} (hq : q ≤ 1) : ∃ x A y, spX8_sum a (Int32.ofNat (1 - q)) w h = some (x, h) ∧ spX4_summedBy (Int32.ofNat t) (Int32.ofNat q) V = some (x, hf_skx V A y) := by
  obtain ⟨ht, RV, l, n, p, r1, r2, r3, r4, r5, r6⟩ := R
  unfold spX8_sum spX4_summedBy
  have hst : V = hf_skx V (V.2.2.2.2.1 17) (V.1 18) := (hf_skx_self V).symm
  refine hf_loopR2 (fun f k (_ : (Nat → Int64) × Int32) => lpX8_sum_2 f a (Int32.ofNat (1 - q)) w (Int32.ofNat k) h) (fun f k (s : (Nat → Int64) × Int32) => lpX4_summedBy_2 f (Int32.ofNat t) (Int32.ofNat q) (Int32.ofNat k) (hf_skx V s.1 s.2)) (fun _ _ => True) n (fun r1 r2 => ∃ x A y, r1 = some (x, h) ∧ r2 = some (x, hf_skx V A y)) (fun k f s hk _ => ?_) (fun f s _ => ?_) (V.2.2.2.2.1 17, V.1 18) trivial (fuel := hf_N) (by unfold hf_N; omega) |> fun z => by rw [← hst] at z; exact z
  · obtain ⟨A0, y0⟩ := s
    have H := (r6 k hk).tx (hf_skx_tx V A0 y0)
    have D2 : hf_wd h w ((hf_skx V A0 y0).2.2.2.2.1 19) := D
    have hn : (hf_skx V A0 y0).2.2.2.1 6 t = Int32.ofNat n := r5
    obtain ⟨TV, sv, c, b, e1, e2, e3, e4, e5, e6, e7, e8, e9, e10⟩ := H
    obtain ⟨x, A, y, v1, v2⟩ := xm_73 (a := a) ht (show k < 12 by omega) D2 e3 e4 e5 e6 e7 e8
    rw [hf_skx_skx] at v2
    have nX : lpX8_sum_2 (f + 1) a (Int32.ofNat (1 - q)) w (Int32.ofNat k) h = ndX8_sum_2 (lpX8_sum_2 f) a (Int32.ofNat (1 - q)) w (Int32.ofNat k) h := rfl
    have nM : lpX4_summedBy_2 (f + 1) (Int32.ofNat t) (Int32.ofNat q) (Int32.ofNat k) (hf_skx V A0 y0) = ndX4_summedBy_2 (lpX4_summedBy_2 f) (Int32.ofNat t) (Int32.ofNat q) (Int32.ofNat k) (hf_skx V A0 y0) := rfl
    have jX : ndX8_sum_68 (lpX8_sum_2 f) a (Int32.ofNat (1 - q)) w (Int32.ofNat k) h = lpX8_sum_2 f a (Int32.ofNat (1 - q)) w (Int32.ofNat (k + 1)) h := by
      unfold ndX8_sum_68
      rw [hf_let_eq, z_lit, z_add]
    have jM : ∀ A y, ndX4_summedBy_97 (lpX4_summedBy_2 f) (Int32.ofNat t) (Int32.ofNat q) (Int32.ofNat k) (hf_skx V A y) = lpX4_summedBy_2 f (Int32.ofNat t) (Int32.ofNat q) (Int32.ofNat (k + 1)) (hf_skx V A y) := fun A y => by
      unfold ndX4_summedBy_97
      rw [hf_let_eq, z_lit, z_add]
    have hX : ndX8_sum_2 (lpX8_sum_2 f) a (Int32.ofNat (1 - q)) w (Int32.ofNat k) h = if TV.1 0 = Int32.ofNat (1 - q) then hf_b2 (spX13_holds (p k) w h) fun x12 g11 => if x12 = 0 then lpX8_sum_2 f a (Int32.ofNat (1 - q)) w (Int32.ofNat (k + 1)) g11 else (hf_ga 0 8 0 g11 a).bind fun x13 => (hf_ob 0 19 g11 x13).bind fun _ => hf_b2 (spJ2_get x13 (Int32.ofNat k) g11) fun x15 g14 => (hf_ob 0 13 g14 x15).bind fun _ => (hf_ga 0 13 1 g14 x15).bind fun x16 => hf_b2 ((spVal 64) x16 w g14) fun x18 g17 => some (x18, g17) else lpX8_sum_2 f a (Int32.ofNat (1 - q)) w (Int32.ofNat (k + 1)) h := by
      unfold ndX8_sum_2
      simp only [hf_ga_eq r1, r2, Option.bind_some, r3.ob, r3.size, hf_b2_some]
      rw [if_neg (z_nle hk (by omega))]
      simp only [r3.get hk (show n < 1000 by omega), hf_b2_some, e1, Option.bind_some, hf_gi_eq e1, jX]
      by_cases g : TV.1 0 = Int32.ofNat (1 - q)
      · rw [if_pos g, if_pos g]
        simp only [hf_ga_eq r1, r2, Option.bind_some, r3.ob, r3.get hk (show n < 1000 by omega), hf_b2_some, e1]
        unfold ndX8_sum_68
        simp only [hf_let_eq, z_lit, z_add]
      · rw [if_neg g, if_neg g]
    have hM : ndX4_summedBy_2 (lpX4_summedBy_2 f) (Int32.ofNat t) (Int32.ofNat q) (Int32.ofNat k) (hf_skx V A0 y0) = if (hf_skx V A0 y0).2.2.2.1 5 (60 * t + 5 * k) = Int32.ofNat q then (if (hf_skx V A0 y0).2.2.2.1 5 (60 * t + 5 * k + 3) < 0 then ndX4_summedBy_73 (Int32.ofNat t) (Int32.ofNat (60 * t + 5 * k)) (hf_skx V A0 y0) else hf_b2 (spX4_reckons (Int32.ofNat t) ((hf_skx V A0 y0).2.2.2.1 5 (60 * t + 5 * k + 3)) ((hf_skx V A0 y0).2.2.2.1 5 (60 * t + 5 * k + 4)) (hf_skx V A0 y0)) fun x8 V7 => if (lg_cmp x8 (1 : Int64)) = 0 then ndX4_summedBy_73 (Int32.ofNat t) (Int32.ofNat (60 * t + 5 * k)) V7 else ndX4_summedBy_97 (lpX4_summedBy_2 f) (Int32.ofNat t) (Int32.ofNat q) (Int32.ofNat k) V7) else lpX4_summedBy_2 f (Int32.ofNat t) (Int32.ofNat q) (Int32.ofNat (k + 1)) (hf_skx V A0 y0) := by
      unfold ndX4_summedBy_2
      rw [z_ld (show t < 6 by omega) (by omega), Option.bind_some, hn, if_neg (z_nle hk (by omega)), hf_let_eq]
      have a1 : (60 : Int32) * Int32.ofNat t + 5 * Int32.ofNat k = Int32.ofNat (60 * t + 5 * k) := by rw [z_lit, z_lit, z_mul, z_mul, z_add]
      have a3 : Int32.ofNat (60 * t + 5 * k) + 3 = Int32.ofNat (60 * t + 5 * k + 3) := by rw [z_lit, z_add]
      have a4 : Int32.ofNat (60 * t + 5 * k) + 4 = Int32.ofNat (60 * t + 5 * k + 4) := by rw [z_lit, z_add]
      rw [a1, a3, a4, z_ld (show 60 * t + 5 * k < 360 by omega) (by omega), Option.bind_some, z_ld (show 60 * t + 5 * k + 3 < 360 by omega) (by omega), Option.bind_some, Option.bind_some, z_ld (show 60 * t + 5 * k + 4 < 360 by omega) (by omega), Option.bind_some, jM]
    show (∃ x A y, lpX8_sum_2 (f + 1) a (Int32.ofNat (1 - q)) w (Int32.ofNat k) h = some (x, h) ∧ lpX4_summedBy_2 (f + 1) (Int32.ofNat t) (Int32.ofNat q) (Int32.ofNat k) (hf_skx V A0 y0) = some (x, hf_skx V A y)) ∨ ∃ s' : (Nat → Int64) × Int32, lpX8_sum_2 (f + 1) a (Int32.ofNat (1 - q)) w (Int32.ofNat k) h = lpX8_sum_2 f a (Int32.ofNat (1 - q)) w (Int32.ofNat (k + 1)) h ∧ lpX4_summedBy_2 (f + 1) (Int32.ofNat t) (Int32.ofNat q) (Int32.ofNat k) (hf_skx V A0 y0) = lpX4_summedBy_2 f (Int32.ofNat t) (Int32.ofNat q) (Int32.ofNat (k + 1)) (hf_skx V s'.1 s'.2) ∧ True
    rw [nX, nM, hX, hM]
    have hsame : (TV.1 0 = Int32.ofNat (1 - q) ∧ (hf_skx V A0 y0).2.2.2.1 5 (60 * t + 5 * k) = Int32.ofNat q) ∨ (¬ TV.1 0 = Int32.ofNat (1 - q) ∧ ¬ (hf_skx V A0 y0).2.2.2.1 5 (60 * t + 5 * k) = Int32.ofNat q) := by
      rcases e9 with ⟨g1, g2⟩ | ⟨g1, g2⟩ <;> rcases (show q = 0 ∨ q = 1 by omega) with rfl | rfl <;> rw [g1, g2] <;> decide
    rcases hsame with ⟨s1, s2⟩ | ⟨s1, s2⟩
    · rw [if_pos s1, if_pos s2]
      rcases e10 with ⟨g1, g2⟩ | ⟨cv, c', b', g1, g2, g3, g4, g5, g6, g7⟩
      · left
        refine ⟨x, A, y, ?_, ?_⟩
        · have hh : spX13_holds (p k) w h = some (1, h) := by
            unfold spX13_holds
            rw [hf_gq_eq e1, Option.bind_some, if_pos g1]
          rw [hh, hf_b2_some, if_neg (by decide)]
          simp only [hf_ga_eq r1, r2, Option.bind_some, r3.ob, r3.get hk (show n < 1000 by omega), hf_b2_some, e1, hf_ga_eq e1, e2, v1]
        · rw [g2, if_pos (by decide), v2]
      · obtain ⟨bb, b1, b2⟩ := x_cnd 64 h cv c' w _ D2 g2
        obtain ⟨A1, n1, m1⟩ := m_reckons g4 ht g5 g3 (b2 [])
        have hh : spX13_holds (p k) w h = some (zb32 bb, h) := by
          unfold spX13_holds
          rw [hf_gq_eq e1, Option.bind_some, if_neg (by rw [g1]; exact fun z => by cases z), hf_ga_eq e1, g1, Option.bind_some, b1, hf_b2_some]
          cases bb <;> rfl
        have hsk : hf_sk (hf_skx V A0 y0) A1 n1 = hf_skx V A1 (Int32.ofNat n1) := hf_skx_skx V A0 A1 y0 _
        rw [hh, hf_b2_some, g6, if_neg (z_n0 _ (by omega)), g7, m1, hf_b2_some, hsk]
        cases bb with
        | true =>
          left
          have H2 := (r6 k hk).tx (hf_skx_tx V A1 (Int32.ofNat n1))
          have D3 : hf_wd h w ((hf_skx V A1 (Int32.ofNat n1)).2.2.2.2.1 19) := D
          obtain ⟨x', A', y', w1, w2⟩ := xm_73 (a := a) (V := hf_skx V A1 (Int32.ofNat n1)) ht (show k < 12 by omega) D3 e3 e4 e5 e6 e7 e8
          rw [hf_skx_skx] at w2
          refine ⟨x', A', y', ?_, ?_⟩
          · rw [if_neg (by decide)]
            simp only [hf_ga_eq r1, r2, Option.bind_some, r3.ob, r3.get hk (show n < 1000 by omega), hf_b2_some, e1, hf_ga_eq e1, e2, w1]
          · rw [if_pos ((lg_cmp_eq (zb64 true) 1).mpr rfl), w2]
        | false =>
          right
          refine ⟨(A1, Int32.ofNat n1), ?_, ?_, trivial⟩
          · rw [if_pos (by decide)]
          · rw [if_neg (fun z => by have := (lg_cmp_eq _ _).mp z; exact absurd this (by decide)), jM]
    · rw [if_neg s1, if_neg s2]
      exact Or.inr ⟨(A0, y0), rfl, rfl, trivial⟩
  · obtain ⟨A0, y0⟩ := s
    refine ⟨0, A0, y0, ?_, ?_⟩
    · show ndX8_sum_2 (lpX8_sum_2 f) a (Int32.ofNat (1 - q)) w (Int32.ofNat n) h = _
      unfold ndX8_sum_2
      simp only [hf_ga_eq r1, r2, Option.bind_some, r3.ob, r3.size, hf_b2_some]
      rw [if_pos (z_yle (Nat.le_refl _) (by omega))]
    · show ndX4_summedBy_2 (lpX4_summedBy_2 f) (Int32.ofNat t) (Int32.ofNat q) (Int32.ofNat n) (hf_skx V A0 y0) = _
      unfold ndX4_summedBy_2
      have hn : (hf_skx V A0 y0).2.2.2.1 6 t = Int32.ofNat n := r5
      rw [z_ld (show t < 6 by omega) (by omega), Option.bind_some, hn, if_pos (z_yle (Nat.le_refl _) (by omega))]
