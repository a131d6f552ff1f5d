set_option maxRecDepth 100000
set_option maxHeartbeats 1000000
section ZX
variable {h : hf_H} {o f s : Nat} {v : Nat → Nat}
theorem x_halvesAt (F : hf_F h f v) (S : hf_SS h s v) (W : hf_wf v) {p : Nat} (hp : p < 1000) : spX2_halvesAt s f (Int32.ofNat p) h = some (Int32.ofNat (zat v p), h) := by
  have q1 := W.v1
  unfold spX2_halvesAt zat
  refine hf_loop (fun g i => lpX2_halvesAt_5 g s f (Int32.ofNat p) (Int32.ofNat (zset (fun h => v (10 + 5 * h + 3) == p) i)) (Int32.ofNat i) h) (v 1) _ (fun i g hi => ?_) (fun g => ?_) (fuel := hf_N) (by unfold hf_N; omega)
  · show ndX2_halvesAt_5 (lpX2_halvesAt_5 g) _ _ _ _ _ _ = _
    unfold ndX2_halvesAt_5 ndX2_halvesAt_37
    have b2 := W.b (10 + 5 * i + 3)
    simp (disch := omega) only [z_lit, z_add, z_mul, z_sub, z_div, z_rem, Option.bind_some, z_le, z_lt, z_eq, hf_b2_some, hf_let_eq, z_shl, z_shr, z_and, z_or, z_nd, z_nd2, F.size, S.ob, S.where_ hi q1, if_neg (show ¬ v 1 ≤ i by omega)]
    by_cases hc : v (10 + 5 * i + 3) = p
    · simp only [hc, if_true, zset, beq_self_eq_true]
    · simp only [hc, if_false, zset, beq_eq_false_iff_ne.mpr hc]
      rfl
  · show ndX2_halvesAt_5 (lpX2_halvesAt_5 g) _ _ _ _ _ _ = _
    unfold ndX2_halvesAt_5
    simp (disch := omega) only [z_lit, z_add, z_mul, z_sub, z_div, z_rem, Option.bind_some, z_le, z_lt, z_eq, hf_b2_some, hf_let_eq, z_shl, z_shr, z_and, z_or, z_nd, z_nd2, F.size, Nat.le_refl, if_true]
theorem x_halvesOf (F : hf_F h f v) (S : hf_SS h s v) (W : hf_wf v) {b : Nat} (hb : b < 4) : spX2_halvesOf s f (Int32.ofNat b) h = some (Int32.ofNat (zhas v b), h) := by
  unfold spX2_halvesOf
  simp (disch := omega) only [z_lit, z_add, z_mul, z_sub, z_div, z_rem, Option.bind_some, z_le, z_lt, z_eq, hf_b2_some, hf_let_eq, z_shl, z_shr, z_and, z_or, z_nd, z_nd2, S.ob, x_halvesAt F S W]
  rfl
theorem x_atStalls (F : hf_F h f v) (S : hf_SS h s v) (W : hf_wf v) : spX2_atStalls s f h = some (Int32.ofNat (zats v), h) := by
  have q1 := W.v1
  unfold spX2_atStalls zats
  refine hf_loop (fun g i => lpX2_atStalls_4 g s f (Int32.ofNat (zset (fun h => decide (v (10 + 5 * h + 3) < 100)) i)) (Int32.ofNat i) h) (v 1) _ (fun i g hi => ?_) (fun g => ?_) (fuel := hf_N) (by unfold hf_N; omega)
  · show ndX2_atStalls_4 (lpX2_atStalls_4 g) _ _ _ _ _ = _
    unfold ndX2_atStalls_4 ndX2_atStalls_34
    have b2 := W.b (10 + 5 * i + 3)
    simp (disch := omega) only [z_lit, z_add, z_mul, z_sub, z_div, z_rem, Option.bind_some, z_le, z_lt, z_eq, hf_b2_some, hf_let_eq, z_shl, z_shr, z_and, z_or, z_nd, z_nd2, F.size, S.ob, S.where_ hi q1, if_neg (show ¬ v 1 ≤ i by omega)]
    by_cases hc : 100 ≤ v (10 + 5 * i + 3)
    · have hc2 : ¬ v (10 + 5 * i + 3) < 100 := by omega
      simp only [hc, hc2, if_true, zset, decide_false]
      rfl
    · have hc2 : v (10 + 5 * i + 3) < 100 := by omega
      simp only [hc, hc2, if_false, zset, decide_true, if_true]
  · show ndX2_atStalls_4 (lpX2_atStalls_4 g) _ _ _ _ _ = _
    unfold ndX2_atStalls_4
    simp (disch := omega) only [z_lit, z_add, z_mul, z_sub, z_div, z_rem, Option.bind_some, z_le, z_lt, z_eq, hf_b2_some, hf_let_eq, z_shl, z_shr, z_and, z_or, z_nd, z_nd2, F.size, Nat.le_refl, if_true]
theorem x_stallOf (F : hf_F h f v) (S : hf_SS h s v) (W : hf_wf v) {b : Nat} (hb : b < v 2) : spX2_stallOf s f (Int32.ofNat b) h = some (Int32.ofNat (zst v (v (70 + 4 * b + 1)) (v 3)), h) := by
  have q2 := W.v2
  have q3 := W.v3
  have qb := W.buyer hb
  unfold spX2_stallOf
  simp (disch := omega) only [z_lit, z_add, z_mul, z_sub, z_div, z_rem, Option.bind_some, z_le, z_lt, z_eq, hf_b2_some, hf_let_eq, z_shl, z_shr, z_and, z_or, z_nd, z_nd2, S.ob, S.spot hb q2, S.now, F.ob, x_stallAt F W]
theorem x_clubSaw (F : hf_F h f v) (S : hf_SS h s v) (W : hf_wf v) {b : Nat} (hb : b < v 2) : spX2_clubSaw s f (Int32.ofNat b) h = some (Int32.ofNat (zsaw v b), h) := by
  have q2 := W.v2
  have qb := W.buyer hb
  unfold spX2_clubSaw zsaw
  refine hf_loop (fun g i => lpX2_clubSaw_5 g s f (Int32.ofNat b) (Int32.ofNat (zor (fun o => if (v (70 + 4 * b + 3)).testBit o then v (70 + 4 * o + 2) else 0) i)) (Int32.ofNat i) h) (v 2) _ (fun i g hi => ?_) (fun g => ?_) (fuel := hf_N) (by unfold hf_N; omega)
  · show ndX2_clubSaw_5 (lpX2_clubSaw_5 g) _ _ _ _ _ _ = _
    unfold ndX2_clubSaw_5 ndX2_clubSaw_43
    simp (disch := omega) only [z_lit, z_add, z_mul, z_sub, z_div, z_rem, Option.bind_some, z_le, z_lt, z_eq, hf_b2_some, hf_let_eq, z_shl, z_shr, z_and, z_or, z_nd, z_nd2, F.sizeB, F.ob, S.ob, F.club hb q2, S.saw hi q2, x_has, if_neg (show ¬ v 2 ≤ i by omega)]
    by_cases hc : (v (70 + 4 * b + 3)).testBit i = true
    · simp (disch := omega) only [z_lit, z_add, z_mul, z_sub, z_div, z_rem, Option.bind_some, z_le, z_lt, z_eq, hf_b2_some, hf_let_eq, z_shl, z_shr, z_and, z_or, z_nd, z_nd2, hc, if_true, zor]
      rfl
    · simp (disch := omega) only [z_lit, z_add, z_mul, z_sub, z_div, z_rem, Option.bind_some, z_le, z_lt, z_eq, hf_b2_some, hf_let_eq, z_shl, z_shr, z_and, z_or, z_nd, z_nd2, hc, if_false, zor]
      rfl
  · show ndX2_clubSaw_5 (lpX2_clubSaw_5 g) _ _ _ _ _ _ = _
    unfold ndX2_clubSaw_5
    simp (disch := omega) only [z_lit, z_add, z_mul, z_sub, z_div, z_rem, Option.bind_some, z_le, z_lt, z_eq, hf_b2_some, hf_let_eq, z_shl, z_shr, z_and, z_or, z_nd, z_nd2, F.sizeB, Nat.le_refl, if_true]
theorem x_unseen (F : hf_F h f v) (S : hf_SS h s v) (W : hf_wf v) {b : Nat} (hb : b < v 2) : spX2_unseen s f (Int32.ofNat b) h = some (Int32.ofNat (hf_nd (zats v) (zsaw v b)), h) := by
  unfold spX2_unseen
  simp only [S.ob, x_atStalls F S W, x_clubSaw F S W hb, hf_b2_some, z_nd]
theorem x_canBuy (F : hf_F h f v) (S : hf_SS h s v) (W : hf_wf v) {b k : Nat} (hb : b < v 2) (hk : k < v 1) : spX2_canBuy s f (Int32.ofNat b) (Int32.ofNat k) h = some (Int32.ofNat (if v (10 + 5 * k + 3) = zst v (v (70 + 4 * b + 1)) (v 3) ∧ zpr v k ≤ v (70 + 4 * b + 0) then 1 else 0), h) := by
  have q1 := W.v1
  have q2 := W.v2
  have q3 := W.v0
  have qb := W.buyer hb
  have qk := W.half hk
  have qs := (z_st (v 3) qb.2.1).1
  have qp : zpr v k < 1000 := by
    have := W.v7
    unfold zpr
    split <;> omega
  unfold spX2_canBuy
  simp (disch := omega) only [z_lit, z_add, z_mul, z_sub, z_div, z_rem, Option.bind_some, z_le, z_lt, z_eq, hf_b2_some, hf_let_eq, z_shl, z_shr, z_and, z_or, z_nd, z_nd2, S.ob, S.where_ hk q1, x_stallOf F S W hb, S.purse hb q2, S.now, F.ob, x_priceAt F W hk]
  by_cases e1 : v (10 + 5 * k + 3) = zst v (v (70 + 4 * b + 1)) (v 3)
  · by_cases e2 : v (70 + 4 * b) < zpr v k
    · simp only [e1, e2, if_true, true_and, Nat.add_zero, if_neg (show ¬ zpr v k ≤ v (70 + 4 * b) by omega)]
    · simp only [e1, e2, if_true, if_false, true_and, Nat.add_zero, if_pos (show zpr v k ≤ v (70 + 4 * b) by omega)]
  · simp only [e1, if_false, false_and]
/-- a state's cell changed -/
def hf_sc (h : hf_H) (s : Nat) (SV : hf_V) : hf_H := hf_up h s (.inl (1, 2, SV))
theorem hf_ob_sc (h : hf_H) (s : Nat) (SV : hf_V) : hf_ob 1 2 (hf_sc h s SV) s = some SV := hf_ob_up h s 1 2 SV
theorem hf_sc_sc (h : hf_H) (s : Nat) (A B : hf_V) : hf_sc (hf_sc h s A) s B = hf_sc h s B := hf_up_up h s _ _
theorem hf_SS.sc {SV : hf_V} {v : Nat → Nat} (h : hf_H) (s : Nat) (S : hf_S2 SV v) : hf_SS (hf_sc h s SV) s v := ⟨SV, hf_ob_up h s 1 2 SV, S⟩
/-- the fair is as told before -/
def hf_fe (v w : Nat → Nat) : Prop := w 0 = v 0 ∧ w 1 = v 1 ∧ w 2 = v 2 ∧ w 4 = v 4 ∧ w 5 = v 5 ∧ w 6 = v 6 ∧ w 7 = v 7 ∧ w 8 = v 8 ∧ (∀ k, k < v 1 → w (10 + 5 * k + 0) = v (10 + 5 * k + 0) ∧ w (10 + 5 * k + 1) = v (10 + 5 * k + 1) ∧ w (10 + 5 * k + 2) = v (10 + 5 * k + 2) ∧ w (10 + 5 * k + 4) = v (10 + 5 * k + 4)) ∧ ∀ b, b < v 2 → w (70 + 4 * b + 3) = v (70 + 4 * b + 3)
theorem hf_fe.rfl_ (v : Nat → Nat) : hf_fe v v := ⟨rfl, rfl, rfl, rfl, rfl, rfl, rfl, rfl, fun k hk => ⟨rfl, rfl, rfl, rfl⟩, fun b hb => rfl⟩
theorem hf_fe.trans {v w u : Nat → Nat} (A : hf_fe v w) (B : hf_fe w u) : hf_fe v u := by
  obtain ⟨a0, a1, a2, a4, a5, a6, a7, a8, a9, a10⟩ := A
  obtain ⟨b0, b1, b2, b4, b5, b6, b7, b8, b9, b10⟩ := B
  refine ⟨b0.trans a0, b1.trans a1, b2.trans a2, b4.trans a4, b5.trans a5, b6.trans a6, b7.trans a7, b8.trans a8, fun k hk => ?_, fun b hb => (b10 b (by omega)).trans (a10 b hb)⟩
  obtain ⟨c0, c1, c2, c4⟩ := a9 k hk
  obtain ⟨d0, d1, d2, d4⟩ := b9 k (by omega)
  exact ⟨d0.trans c0, d1.trans c1, d2.trans c2, d4.trans c4⟩
theorem hf_F.fe (F : hf_F h f v) {w : Nat → Nat} (E : hf_fe v w) : hf_F h f w := by
  obtain ⟨a0, a1, a2, a4, a5, a6, a7, a8, a9, a10⟩ := E
  obtain ⟨FV, l, m, p, q, HV, f1, f2, f3, f4, f5, f6, f7, f8, f9⟩ := F
  refine ⟨FV, l, m, p, q, HV, f1, f2, f3, by rw [a1]; exact f4, by rw [a2]; exact f5, fun k hk => ?_, by rw [a0]; exact f7, fun h0 => ?_, fun b hb => ?_⟩
  · rw [a1] at hk
    obtain ⟨c0, c1, c2, c4⟩ := a9 k hk
    rw [c0, c1, c2]
    exact f6 k hk
  · rw [a0] at h0
    obtain ⟨g1, g2, g3, g4, g5, g6⟩ := f8 h0
    rw [a1, a4, a5, a6, a7, a8]
    refine ⟨g1, g2, g3, g4, g5, g6.trans ?_⟩
    congr 1
    exact zset_congr _ (fun k hk => by rw [(a9 k hk).2.2.2])
  · rw [a2] at hb
    rw [a10 b hb]
    exact f9 b hb
/-- cells of other kinds than those that acts write -/
theorem hf_L.up {l n : Nat} {p : Nat → Nat} (L : hf_L h l n p) {a md ci : Nat} {V V' : hf_V} (ha : hf_ob md ci h a = some V) (hne : ci ≠ 19) : hf_L (hf_up h a (.inl (md, ci, V'))) l n p := by
  obtain ⟨LV, d, N, B, e1, e2, e3, e4, e5, e6⟩ := L
  refine ⟨LV, d, N, B, ?_, e2, e3, ?_, e5, e6⟩
  · rw [hf_ob_ne (hf_ob_dif e1 ha (fun z => hne z.2.symm))]
    exact e1
  · have hd : d ≠ a := by
      intro z
      subst z
      have h1 := hf_ob_spec ha
      unfold hf_pa at e4
      rw [h1] at e4
      cases e4
    unfold hf_pa hf_up
    simp only [hd, if_false]
    exact e4
theorem hf_F.up (F : hf_F h f v) {a md ci : Nat} {V V' : hf_V} (ha : hf_ob md ci h a = some V) (hne : ci ≠ 19 ∧ ci ≠ 1 ∧ ci ≠ 6) : hf_F (hf_up h a (.inl (md, ci, V'))) f v := by
  obtain ⟨FV, l, m, p, q, HV, f1, f2, f3, f4, f5, f6, f7, f8, f9⟩ := F
  refine ⟨FV, l, m, p, q, HV, ?_, f2, f3, f4.up ha hne.1, f5.up ha hne.1, fun k hk => ?_, f7, f8, f9⟩
  · rw [hf_ob_ne (hf_ob_dif f1 ha (fun z => hne.2.1 z.2.symm))]
    exact f1
  · obtain ⟨g1, g2⟩ := f6 k hk
    refine ⟨?_, g2⟩
    rw [hf_ob_ne (hf_ob_dif g1 ha (fun z => hne.2.2 z.2.symm))]
    exact g1
theorem hf_F.sc (F : hf_F h f v) (S : hf_SS h s v) {w : Nat → Nat} (E : hf_fe v w) (SV : hf_V) : hf_F (hf_sc h s SV) f w := by
  obtain ⟨SV0, s1, s2⟩ := S
  exact (F.up s1 (by decide)).fe E
theorem hf_XX.sc (X : hf_XX h o f s) {s' : Nat} (S : hf_SS h s' v) (SV : hf_V) : hf_XX (hf_sc h s' SV) o f s := by
  obtain ⟨SV0, s1, s2⟩ := S
  obtain ⟨XV, x1, x2⟩ := X
  refine ⟨XV, ?_, x2⟩
  unfold hf_sc
  rw [hf_ob_ne (hf_ob_dif x1 s1 (by decide))]
  exact x1
end ZX
/-- a loop with what stays true of its state, its measure falls -/
theorem hf_whileR {σ τ : Type} (G : Nat → σ → Option τ) (m : σ → Nat) (P : σ → Prop) (R : Option τ → Prop) (hstep : ∀ f s, P s → R (G (f + 1) s) ∨ ∃ s', G (f + 1) s = G f s' ∧ P s' ∧ m s' < m s) (s0 : σ) (h0 : P s0) {fuel : Nat} (h : m s0 < fuel) : R (G fuel s0) := by
  induction fuel generalizing s0 with
  | zero => omega
  | succ f ih =>
    rcases hstep f s0 h0 with h1 | ⟨s', h1, h2, h3⟩
    · exact h1
    · rw [h1]
      exact ih s' h2 (by omega)
theorem hf_loopR {σ τ : Type} (G : Nat → Nat → σ → Option τ) (P : Nat → σ → Prop) (n : Nat) (R : Option τ → Prop) (hstep : ∀ i f s, i < n → P i s → ∃ s', G (f + 1) i s = G f (i + 1) s' ∧ P (i + 1) s') (hend : ∀ f s, P n s → R (G (f + 1) n s)) (s0 : σ) (h0 : P 0 s0) {fuel : Nat} (h : n < fuel) : R (G fuel 0 s0) := by
  refine hf_whileR (fun f (x : Nat × σ) => G f x.1 x.2) (fun x => n - x.1) (fun x => x.1 ≤ n ∧ P x.1 x.2) R (fun f x hx => ?_) (0, s0) ⟨Nat.zero_le _, h0⟩ (by show n - 0 < fuel; omega)
  by_cases e : x.1 = n
  · left
    have h1 := hend f x.2 (e ▸ hx.2)
    show R (G (f + 1) x.1 x.2)
    rw [e]
    exact h1
  · right
    obtain ⟨s', h1, h2⟩ := hstep x.1 f x.2 (by omega) hx.2
    exact ⟨(x.1 + 1, s'), h1, ⟨by show x.1 + 1 ≤ n; omega, h2⟩, by show n - (x.1 + 1) < n - x.1; omega⟩
theorem hf_wf.up {v : Nat → Nat} (W : hf_wf v) {i x : Nat} (hx : x < 16777216) (hi : i = 3 ∨ 10 ≤ i) (h3 : i = 3 → x ≤ 99) (hw : ∀ k, k < v 1 → (i = 10 + 5 * k + 3 → x < 104 ∧ (x < v 0 ∨ 100 ≤ x)) ∧ i ≠ 10 + 5 * k + 0 ∧ i ≠ 10 + 5 * k + 1 ∧ i ≠ 10 + 5 * k + 2 ∧ i ≠ 10 + 5 * k + 4) (hb : ∀ b, b < v 2 → (i = 70 + 4 * b → x < 1000000) ∧ (i = 70 + 4 * b + 1 → x < v 0) ∧ (i = 70 + 4 * b + 2 → x < 4096) ∧ i ≠ 70 + 4 * b + 3) : hf_wf (zup v i x) := by
  have e0 : zup v i x 0 = v 0 := zup_ne _ (by omega) _
  have e1 : zup v i x 1 = v 1 := zup_ne _ (by omega) _
  have e2 : zup v i x 2 = v 2 := zup_ne _ (by omega) _
  have e4 : zup v i x 4 = v 4 := zup_ne _ (by omega) _
  have e5 : zup v i x 5 = v 5 := zup_ne _ (by omega) _
  have e6 : zup v i x 6 = v 6 := zup_ne _ (by omega) _
  have e7 : zup v i x 7 = v 7 := zup_ne _ (by omega) _
  have e8 : zup v i x 8 = v 8 := zup_ne _ (by omega) _
  have e3 : zup v i x 3 ≤ 99 := by
    by_cases e : 3 = i
    · rw [← e, zup_at]; exact h3 e.symm
    · rw [zup_ne _ e]; exact W.v3
  obtain ⟨⟨w0, w1, w2, w3, w4, w5, w6, w7, w8, w9⟩, wh, wb, wk⟩ := W
  refine ⟨⟨by rw [e0]; exact w0, by rw [e1]; exact w1, by rw [e2]; exact w2, e3, by rw [e4]; exact w4, by rw [e5]; exact w5, by rw [e6]; exact w6, by rw [e7]; exact w7, by rw [e8]; exact w8, by rw [e0, e1, e2]; exact w9⟩, fun k hk => ?_, fun b hb2 => ?_, fun k => ?_⟩
  · rw [e1] at hk
    obtain ⟨a0, a1, a2, a3, a4, a5⟩ := wh k hk
    obtain ⟨c3, c0, c1, c2, c4⟩ := hw k hk
    rw [zup_ne _ (Ne.symm c0), zup_ne _ (Ne.symm c1), zup_ne _ (Ne.symm c2), zup_ne _ (Ne.symm c4), e0]
    refine ⟨a0, a1, a2, ?_, ?_, a5⟩
    · by_cases e : 10 + 5 * k + 3 = i
      · rw [e, zup_at]; exact (c3 e.symm).1
      · rw [zup_ne _ e]; exact a3
    · by_cases e : 10 + 5 * k + 3 = i
      · rw [e, zup_at]; exact (c3 e.symm).2
      · rw [zup_ne _ e]; exact a4
  · rw [e2] at hb2
    obtain ⟨a0, a1, a2, a3⟩ := wb b hb2
    obtain ⟨c0, c1, c2, c3⟩ := hb b hb2
    rw [zup_ne _ (Ne.symm c3), e0]
    refine ⟨?_, ?_, ?_, a3⟩
    · by_cases e : 70 + 4 * b = i
      · rw [e, zup_at]; exact c0 e.symm
      · rw [zup_ne _ e]; exact a0
    · by_cases e : 70 + 4 * b + 1 = i
      · rw [e, zup_at]; exact c1 e.symm
      · rw [zup_ne _ e]; exact a1
    · by_cases e : 70 + 4 * b + 2 = i
      · rw [e, zup_at]; exact c2 e.symm
      · rw [zup_ne _ e]; exact a2
  · by_cases e : k = i
    · rw [e, zup_at]; exact hx
    · rw [zup_ne _ e]; exact wk k
theorem hf_fe.up {v : Nat → Nat} (i x : Nat) (hi : i = 3 ∨ 10 ≤ i) (hw : ∀ k, k < v 1 → i ≠ 10 + 5 * k + 0 ∧ i ≠ 10 + 5 * k + 1 ∧ i ≠ 10 + 5 * k + 2 ∧ i ≠ 10 + 5 * k + 4) (hb : ∀ b, b < v 2 → i ≠ 70 + 4 * b + 3) : hf_fe v (zup v i x) :=
  ⟨zup_ne _ (by omega) _, zup_ne _ (by omega) _, zup_ne _ (by omega) _, zup_ne _ (by omega) _, zup_ne _ (by omega) _, zup_ne _ (by omega) _, zup_ne _ (by omega) _, zup_ne _ (by omega) _, fun k hk => ⟨zup_ne _ (Ne.symm (hw k hk).1) _, zup_ne _ (Ne.symm (hw k hk).2.1) _, zup_ne _ (Ne.symm (hw k hk).2.2.1) _, zup_ne _ (Ne.symm (hw k hk).2.2.2) _⟩, fun b hb2 => zup_ne _ (Ne.symm (hb b hb2)) _⟩
section ZX
variable {v : Nat → Nat} {SV : hf_V}
/-- where, purse, spot, saw, now told anew -/
theorem hf_wf.where_ (W : hf_wf v) {k x : Nat} (hk : k < 12) (hx : x < 104) (h2 : x < v 0 ∨ 100 ≤ x) : hf_wf (zup v (10 + 5 * k + 3) x) := by
  have := W.v1
  have := W.v2
  exact W.up (by omega) (by omega) (by omega) (fun j hj => ⟨fun _ => ⟨hx, h2⟩, by omega, by omega, by omega, by omega⟩) (fun b hb => ⟨by omega, by omega, by omega, by omega⟩)
theorem hf_wf.purse (W : hf_wf v) {b x : Nat} (hb : b < 4) (hx : x < 1000000) : hf_wf (zup v (70 + 4 * b) x) := by
  have := W.v1
  have := W.v2
  exact W.up (by omega) (by omega) (by omega) (fun j hj => ⟨by omega, by omega, by omega, by omega, by omega⟩) (fun b hb => ⟨by omega, by omega, by omega, by omega⟩)
theorem hf_wf.spot (W : hf_wf v) {b x : Nat} (hb : b < 4) (hx : x < v 0) : hf_wf (zup v (70 + 4 * b + 1) x) := by
  have := W.v1
  have := W.v2
  have := W.v0
  exact W.up (by omega) (by omega) (by omega) (fun j hj => ⟨by omega, by omega, by omega, by omega, by omega⟩) (fun b hb => ⟨by omega, fun _ => hx, by omega, by omega⟩)
theorem hf_wf.saw (W : hf_wf v) {b x : Nat} (hb : b < 4) (hx : x < 4096) : hf_wf (zup v (70 + 4 * b + 2) x) := by
  have := W.v1
  have := W.v2
  exact W.up (by omega) (by omega) (by omega) (fun j hj => ⟨by omega, by omega, by omega, by omega, by omega⟩) (fun b hb => ⟨by omega, by omega, by omega, by omega⟩)
theorem hf_wf.now (W : hf_wf v) {x : Nat} (hx : x ≤ 99) : hf_wf (zup v 3 x) := by
  exact W.up (by omega) (by omega) (by omega) (fun j hj => ⟨by omega, by omega, by omega, by omega, by omega⟩) (fun b hb => ⟨by omega, by omega, by omega, by omega⟩)
theorem hf_fe.where_ (W : hf_wf v) {k : Nat} (hk : k < 12) (x : Nat) : hf_fe v (zup v (10 + 5 * k + 3) x) := by
  have := W.v1
  have := W.v2
  exact hf_fe.up _ _ (by omega) (fun j hj => ⟨by omega, by omega, by omega, by omega⟩) (fun b hb => by omega)
theorem hf_fe.purse (W : hf_wf v) {b : Nat} (hb : b < 4) (x : Nat) : hf_fe v (zup v (70 + 4 * b) x) := by
  have := W.v1
  have := W.v2
  exact hf_fe.up _ _ (by omega) (fun j hj => ⟨by omega, by omega, by omega, by omega⟩) (fun b hb => by omega)
theorem hf_fe.spot (W : hf_wf v) {b : Nat} (hb : b < 4) (x : Nat) : hf_fe v (zup v (70 + 4 * b + 1) x) := by
  have := W.v1
  have := W.v2
  exact hf_fe.up _ _ (by omega) (fun j hj => ⟨by omega, by omega, by omega, by omega⟩) (fun b hb => by omega)
theorem hf_fe.saw (W : hf_wf v) {b : Nat} (hb : b < 4) (x : Nat) : hf_fe v (zup v (70 + 4 * b + 2) x) := by
  have := W.v1
  have := W.v2
  exact hf_fe.up _ _ (by omega) (fun j hj => ⟨by omega, by omega, by omega, by omega⟩) (fun b hb => by omega)
theorem hf_fe.now (v : Nat → Nat) (x : Nat) : hf_fe v (zup v 3 x) :=
  hf_fe.up _ _ (by omega) (fun j hj => ⟨by omega, by omega, by omega, by omega⟩) (fun b hb => by omega)
theorem hf_ui_at (V : hf_V) (k : Nat) (x : Int32) : (hf_ui V k x).1 k = x := by
  unfold hf_ui
  simp
theorem hf_ui_ne (V : hf_V) {k j : Nat} (h : j ≠ k) (x : Int32) : (hf_ui V k x).1 j = V.1 j := by
  unfold hf_ui
  simp [h]
theorem hf_ua_at (V : hf_V) (k i : Nat) (x : Int32) (q : Nat) : (hf_ua V k i x).2.2.2.1 k q = if q = i then x else V.2.2.2.1 k q := by
  unfold hf_ua
  simp
theorem hf_ua_ne (V : hf_V) {k j : Nat} (h : j ≠ k) (i : Nat) (x : Int32) : (hf_ua V k i x).2.2.2.1 j = V.2.2.2.1 j := if_neg h
theorem hf_S2.where_ (S : hf_S2 SV v) (W : hf_wf v) {k : Nat} (hk : k < 12) (x : Nat) : hf_S2 (hf_ua SV 0 k (Int32.ofNat x)) (zup v (10 + 5 * k + 3) x) := by
  have h1 := W.v1
  have h2 := W.v2
  obtain ⟨s1, s2, s3⟩ := S
  refine ⟨fun j hj => ?_, fun b hb => ?_, ?_⟩
  · rw [zup_ne _ (by omega)] at hj
    rw [hf_ua_at]
    by_cases e : j = k
    · subst e; rw [if_pos rfl, zup_at]
    · rw [if_neg e, zup_ne _ (by omega)]; exact s1 j hj
  · rw [zup_ne _ (by omega)] at hb
    rw [hf_ua_ne _ (by decide), hf_ua_ne _ (by decide), hf_ua_ne _ (by decide), zup_ne _ (by omega), zup_ne _ (by omega), zup_ne _ (by omega)]
    exact s2 b hb
  · rw [zup_ne _ (by omega)]; exact s3
theorem hf_S2.purse (S : hf_S2 SV v) (W : hf_wf v) {b : Nat} (hb : b < 4) (x : Nat) : hf_S2 (hf_ua SV 1 b (Int32.ofNat x)) (zup v (70 + 4 * b) x) := by
  have h1 := W.v1
  have h2 := W.v2
  obtain ⟨s1, s2, s3⟩ := S
  refine ⟨fun j hj => ?_, fun c hc => ?_, ?_⟩
  · rw [zup_ne _ (by omega)] at hj
    rw [hf_ua_ne _ (by decide), zup_ne _ (by omega)]; exact s1 j hj
  · rw [zup_ne _ (by omega)] at hc
    obtain ⟨c1, c2, c3⟩ := s2 c hc
    rw [hf_ua_at, hf_ua_ne _ (by decide), hf_ua_ne _ (by decide), zup_ne v (j := 70 + 4 * c + 1) (by omega), zup_ne v (j := 70 + 4 * c + 2) (by omega)]
    refine ⟨?_, c2, c3⟩
    by_cases e : c = b
    · subst e; rw [if_pos rfl, zup_at]
    · rw [if_neg e, zup_ne _ (by omega)]; exact c1
  · rw [zup_ne _ (by omega)]; exact s3
theorem hf_S2.spot (S : hf_S2 SV v) (W : hf_wf v) {b : Nat} (hb : b < 4) (x : Nat) : hf_S2 (hf_ua SV 2 b (Int32.ofNat x)) (zup v (70 + 4 * b + 1) x) := by
  have h1 := W.v1
  have h2 := W.v2
  obtain ⟨s1, s2, s3⟩ := S
  refine ⟨fun j hj => ?_, fun c hc => ?_, ?_⟩
  · rw [zup_ne _ (by omega)] at hj
    rw [hf_ua_ne _ (by decide), zup_ne _ (by omega)]; exact s1 j hj
  · rw [zup_ne _ (by omega)] at hc
    obtain ⟨c1, c2, c3⟩ := s2 c hc
    rw [hf_ua_at, hf_ua_ne _ (by decide), hf_ua_ne _ (by decide), zup_ne v (j := 70 + 4 * c) (by omega), zup_ne v (j := 70 + 4 * c + 2) (by omega)]
    refine ⟨c1, ?_, c3⟩
    by_cases e : c = b
    · subst e; rw [if_pos rfl, zup_at]
    · rw [if_neg e, zup_ne _ (by omega)]; exact c2
  · rw [zup_ne _ (by omega)]; exact s3
theorem hf_S2.saw (S : hf_S2 SV v) (W : hf_wf v) {b : Nat} (hb : b < 4) (x : Nat) : hf_S2 (hf_ua SV 3 b (Int32.ofNat x)) (zup v (70 + 4 * b + 2) x) := by
  have h1 := W.v1
  have h2 := W.v2
  obtain ⟨s1, s2, s3⟩ := S
  refine ⟨fun j hj => ?_, fun c hc => ?_, ?_⟩
  · rw [zup_ne _ (by omega)] at hj
    rw [hf_ua_ne _ (by decide), zup_ne _ (by omega)]; exact s1 j hj
  · rw [zup_ne _ (by omega)] at hc
    obtain ⟨c1, c2, c3⟩ := s2 c hc
    rw [hf_ua_at, hf_ua_ne _ (by decide), hf_ua_ne _ (by decide), zup_ne v (j := 70 + 4 * c) (by omega), zup_ne v (j := 70 + 4 * c + 1) (by omega)]
    refine ⟨c1, c2, ?_⟩
    by_cases e : c = b
    · subst e; rw [if_pos rfl, zup_at]
    · rw [if_neg e, zup_ne _ (by omega)]; exact c3
  · rw [zup_ne _ (by omega)]; exact s3
theorem hf_S2.now (S : hf_S2 SV v) (x : Nat) : hf_S2 (hf_ui SV 4 (Int32.ofNat x)) (zup v 3 x) := by
  obtain ⟨s1, s2, s3⟩ := S
  refine ⟨fun j hj => ?_, fun c hc => ?_, ?_⟩
  · rw [zup_ne _ (by omega)] at hj
    rw [zup_ne _ (by omega)]; exact s1 j hj
  · rw [zup_ne _ (by omega)] at hc
    rw [zup_ne _ (by omega), zup_ne _ (by omega), zup_ne _ (by omega)]
    exact s2 c hc
  · rw [zup_at, hf_ui_at]
end ZX
