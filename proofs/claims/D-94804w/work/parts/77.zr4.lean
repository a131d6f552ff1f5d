set_option maxRecDepth 100000
set_option maxHeartbeats 1000000
/-! the words that rules ask -/
theorem x_bits : ∀ s, s < 4096 → spJ14_bitCount (Int32.ofNat s) = some (Int32.ofNat (zpop s)) := by decide +kernel
theorem zap_comm (a b : Nat) : zap a b = zap b a := by
  unfold zap
  split <;> split <;> omega
theorem zft_comm (v : Nat → Nat) (a b : Nat) : zft v a b = zft v b a := by
  unfold zft
  rw [zap_comm (v (10 + 5 * a + 0))]
  by_cases e : v (10 + 5 * a + 1) = v (10 + 5 * b + 1)
  · rw [if_pos e, if_pos (show v (10 + 5 * b + 1) = v (10 + 5 * a + 1) from e.symm)]
  · rw [if_neg e, if_neg (show ¬ v (10 + 5 * b + 1) = v (10 + 5 * a + 1) from fun z => e z.symm)]
theorem zfo_comm (v : Nat → Nat) (a b : Nat) : zfo v a b = zfo v b a := by
  unfold zfo
  rw [zft_comm v a b]
  split <;> split <;> rfl
section ZX
variable {h : hf_H} {o f s s' : Nat} {v : Nat → Nat}
theorem x_fitting (X : hf_XX h o f s) (F : hf_F h f v) (W : hf_wf v) {k g w : Nat} (hk : k < v 1) (hg : g < 2147483648) (hw : w < 10) : spX0_fitting o (Int32.ofNat k) (Int32.ofNat g) (Int32.ofNat w) h = some (Int32.ofNat (zfg v g k w), h) := by
  have q1 := W.v1
  unfold spX0_fitting zfg
  refine hf_loop (fun n i => lpX0_fitting_6 n o (Int32.ofNat k) (Int32.ofNat g) (Int32.ofNat w) (Int32.ofNat (zsum (fun o => if o ≠ k ∧ g.testBit o = true ∧ zfo v o k = w then 1 else 0) i)) (Int32.ofNat i) h) (v 1) _ (fun i n hi => ?_) (fun n => ?_) (fuel := hf_N) (by unfold hf_N; omega)
  · show ndX0_fitting_6 (lpX0_fitting_6 n) _ _ _ _ _ _ _ = _
    unfold ndX0_fitting_6 ndX0_fitting_47 ndX0_fitting_48
    have b2 := zfo_le v i k
    have h1 : spX0_bit (0 : Int32) = some (0 : Int32) := rfl
    have h2 : spX0_bit (1 : Int32) = some (1 : Int32) := rfl
    simp only [X.ob, x_many X F, hf_b2_some]
    rw [if_neg (z_nle hi (by omega)), x_has hg (by omega), Option.bind_some, x_fit2 X F W hk hi, hf_b2_some, zfo_comm v k i]
    simp only [h1, h2, Option.bind_some, hf_let_eq, zsum]
    have e1 : (Int32.ofNat i = Int32.ofNat k) ↔ i = k := z_eq (by omega) (by omega)
    have e2 : (Int32.ofNat (zfo v i k) = Int32.ofNat w) ↔ zfo v i k = w := z_eq (by omega) (by omega)
    simp only [e1, e2, z_lit, z_add]
    by_cases c2 : g.testBit i = true
    · rw [if_pos c2, if_neg (by decide)]
      by_cases c1 : i = k
      · rw [if_pos c1, if_neg (fun z => z.1 c1)]
      · rw [if_neg c1]
        by_cases c3 : zfo v i k = w
        · rw [if_pos c3, if_pos ⟨c1, c2, c3⟩]
        · rw [if_neg c3, if_neg (fun z => c3 z.2.2)]
    · rw [if_neg c2, if_pos (by decide), if_neg (fun z => c2 z.2.1)]
  · show ndX0_fitting_6 (lpX0_fitting_6 n) _ _ _ _ _ _ _ = _
    unfold ndX0_fitting_6
    simp only [X.ob, x_many X F, hf_b2_some]
    rw [if_pos (z_yle (Nat.le_refl _) (by omega))]
end ZX
/-- the words, as numbers: of a buyer; for a half -/
def zwn (v : Nat → Nat) (b : Nat) (q : Option Nat) : Nat → Nat
  | 0 => b
  | 1 => v (70 + 4 * b)
  | 2 => v (70 + 4 * b + 1)
  | 3 => v 3
  | 4 => zleft v
  | 5 => zpop (zhas v b)
  | 6 => match q with | none => 0 | some h => h
  | 7 => match q with | none => 0 | some h => v (10 + 5 * h + 0)
  | 8 => match q with | none => 0 | some h => v (10 + 5 * h + 1)
  | 9 => match q with | none => 0 | some h => zpr v h
  | 10 => match q with | none => 0 | some h => zfg v (zhas v b) h 2
  | 11 => match q with | none => 0 | some h => zfg v (zhas v b) h 1
  | 12 => match q with | none => 0 | some h => zfg v (zsaw v b &&& zats v) h 2
  | _ => 0
def zwd (v : Nat → Nat) (b : Nat) (q : Option Nat) (k : Nat) : Int64 := (Int32.ofNat (zwn v b q k)).toInt64
/-- the model with words -/
def hf_wv (V : hf_V) (W : Nat → Int64) : hf_V := (V.1, V.2.1, V.2.2.1, V.2.2.2.1, fun j => if j = 19 then W else V.2.2.2.2.1 j, V.2.2.2.2.2)
theorem hf_wv_self (V : hf_V) : hf_wv V (V.2.2.2.2.1 19) = V := by
  unfold hf_wv
  refine Prod.ext rfl (Prod.ext rfl (Prod.ext rfl (Prod.ext rfl (Prod.ext ?_ rfl))))
  funext j
  by_cases e : j = 19 <;> simp [e]
theorem hf_wv_uL (V : hf_V) (W : Nat → Int64) (i : Nat) (x : Int64) : hf_uL (hf_wv V W) 19 i x = hf_wv V (zup W i x) := by
  unfold hf_wv hf_uL zup
  refine Prod.ext rfl (Prod.ext rfl (Prod.ext rfl (Prod.ext rfl (Prod.ext ?_ rfl))))
  funext j
  by_cases e : j = 19 <;> simp [e]
theorem hf_sv.wv {V : hf_V} {v : Nat → Nat} (S : hf_sv V v) (W : Nat → Int64) : hf_sv (hf_wv V W) v := S
section ZM
variable {V : hf_V} {v : Nat → Nat}
theorem m_w97 (W : Nat → Int64) : ∃ W', lpX4_wordsOf_97 hf_N (Int32.ofNat 6) (hf_wv V W) = some (hf_wv V W') ∧ (∀ k, k < 6 → W' k = W k) ∧ ∀ k, 6 ≤ k → k < 13 → W' k = 0 := by
  refine hf_loopR (fun f i W' => lpX4_wordsOf_97 f (Int32.ofNat (6 + i)) (hf_wv V W')) (fun i W' => (∀ k, k < 6 → W' k = W k) ∧ ∀ k, 6 ≤ k → k < 6 + i → W' k = 0) 7 (fun r => ∃ W', r = some (hf_wv V W') ∧ (∀ k, k < 6 → W' k = W k) ∧ ∀ k, 6 ≤ k → k < 13 → W' k = 0) (fun i f W' hi hP => ?_) (fun f W' hP => ?_) W ⟨fun k hk => rfl, fun k h1 h2 => by omega⟩ (fuel := hf_N) (by unfold hf_N; omega)
  · refine ⟨zup W' (6 + i) 0, ?_, fun k hk => ?_, fun k h1 h2 => ?_⟩
    · show ndX4_wordsOf_97 (lpX4_wordsOf_97 f) _ _ = _
      unfold ndX4_wordsOf_97
      rw [z_lit, if_neg (z_nle (a := 13) (by omega) (by decide)), z_sd (by omega) (by omega), hf_wv_uL, hf_let_eq, z_lit, z_add]
      rfl
    · rw [zup_ne _ (by omega)]; exact hP.1 k hk
    · by_cases e : k = 6 + i
      · rw [e, zup_at]
      · rw [zup_ne _ e]; exact hP.2 k h1 (by omega)
  · refine ⟨W', ?_, hP.1, hP.2⟩
    show ndX4_wordsOf_97 (lpX4_wordsOf_97 f) _ _ = _
    unfold ndX4_wordsOf_97
    rw [z_lit, if_pos (z_yle (a := 13) (by decide) (by decide))]
theorem zhas_lt (v : Nat → Nat) (b : Nat) (hn : v 1 ≤ 12) : zhas v b < 4096 := by
  have := zset_lt (fun h => v (10 + 5 * h + 3) == 100 + b) (v 1)
  have h2 := (zpow12 hn).2.1
  unfold zhas
  omega
theorem zats_lt (v : Nat → Nat) (hn : v 1 ≤ 12) : zats v < 4096 := by
  have := zset_lt (fun h => decide (v (10 + 5 * h + 3) < 100)) (v 1)
  have h2 := (zpow12 hn).2.1
  unfold zats
  omega
theorem m_wordsOf (S : hf_sv V v) (Wf : hf_wf v) {b : Nat} (hb : b < v 2) : ∃ W, spX4_wordsOf (Int32.ofNat b) V = some (hf_wv V W) ∧ ∀ k, k < 13 → W k = zwd v b none k := by
  have q1 := Wf.v1
  have q2 := Wf.v2
  have hst : V = hf_wv V (V.2.2.2.2.1 19) := (hf_wv_self V).symm
  have key : ∀ W0, ∃ W, spX4_wordsOf (Int32.ofNat b) (hf_wv V W0) = some (hf_wv V W) ∧ ∀ k, k < 13 → W k = zwd v b none k := by
    intro W0
    have h78 : ∀ W1, ∃ W, ndX4_wordsOf_78 (Int32.ofNat b) (4 : Int32) (Int32.ofNat (zleft v)).toInt64 (hf_wv V W1) = some (hf_wv V W) ∧ (∀ k, k < 4 → W k = W1 k) ∧ W 4 = zwd v b none 4 ∧ W 5 = zwd v b none 5 ∧ ∀ k, 6 ≤ k → k < 13 → W k = 0 := by
      intro W1
      obtain ⟨W', w1, w2, w3⟩ := m_w97 (V := V) (zup (zup W1 4 (Int32.ofNat (zleft v)).toInt64) 5 (Int32.ofNat (zpop (zhas v b))).toInt64)
      refine ⟨W', ?_, fun k hk => ?_, ?_, ?_, w3⟩
      · unfold ndX4_wordsOf_78
        rw [z_lit, z_sd (i := 4) (by decide) (by decide), hf_wv_uL, m_hasOf (S.wv _) q1 (by omega), hf_b2_some, m_bits _ (zhas_lt v b q1), Option.bind_some, z_lit, z_sd (i := 5) (by decide) (by decide), hf_wv_uL, z_lit]
        exact w1
      · rw [w2 k (by omega), zup_ne _ (by omega), zup_ne _ (by omega)]
      · rw [w2 4 (by omega), zup_ne _ (by omega), zup_at]; rfl
      · rw [w2 5 (by omega), zup_at]; rfl
    obtain ⟨W', w1, w2, w3, w4, w5⟩ := h78 (zup (zup (zup (zup W0 0 (Int32.ofNat b).toInt64) 1 (Int32.ofNat (v (70 + 4 * b + 0))).toInt64) 2 (Int32.ofNat (v (70 + 4 * b + 1))).toInt64) 3 (Int32.ofNat (v 3)).toInt64)
    refine ⟨W', ?_, fun k hk => ?_⟩
    · unfold spX4_wordsOf
      simp only [z_lit]
      rw [z_sd (i := 0) (by decide) (by decide), hf_wv_uL, m_buyerOf (S.wv _) (w := 0) (by omega), hf_b2_some, z_sd (i := 1) (by decide) (by decide), hf_wv_uL, m_buyerOf (S.wv _) (w := 1) (by omega), hf_b2_some, z_sd (i := 2) (by decide) (by decide), hf_wv_uL, (S.wv _).ld (i := 3) (by decide), Option.bind_some, z_sd (i := 3) (by decide) (by decide), hf_wv_uL, m_isDusk (S.wv _), hf_b2_some]
      have q3 := Wf.v3
      have q6 := Wf.v6
      by_cases e : v 3 < v 6
      · rw [if_pos e, if_pos rfl, (S.wv _).ld (i := 6) (by decide), Option.bind_some, (S.wv _).ld (i := 3) (by decide), Option.bind_some, z_sub (by omega)]
        exact w1
      · rw [if_neg e, if_neg (by decide)]
        have e9 : zleft v = 0 := by unfold zleft; omega
        rw [e9] at w1
        exact w1
    · rcases (show k = 0 ∨ k = 1 ∨ k = 2 ∨ k = 3 ∨ k = 4 ∨ k = 5 ∨ 6 ≤ k by omega) with e | e | e | e | e | e | e
      · subst e; rw [w2 0 (by omega), zup_ne _ (by omega), zup_ne _ (by omega), zup_ne _ (by omega), zup_at]; rfl
      · subst e; rw [w2 1 (by omega), zup_ne _ (by omega), zup_ne _ (by omega), zup_at]; rfl
      · subst e; rw [w2 2 (by omega), zup_ne _ (by omega), zup_at]; rfl
      · subst e; rw [w2 3 (by omega), zup_at]; rfl
      · subst e; exact w3
      · subst e; exact w4
      · rw [w5 k e hk]
        have h0 : zwn v b none k = 0 := by
          rcases (show k = 6 ∨ k = 7 ∨ k = 8 ∨ k = 9 ∨ k = 10 ∨ k = 11 ∨ k = 12 by omega) with e | e | e | e | e | e | e <;> subst e <;> rfl
        unfold zwd
        rw [h0]
        rfl
  have := key (V.2.2.2.2.1 19)
  rw [← hst] at this
  exact this
theorem zsaw_lt (v : Nat → Nat) (b : Nat) (Wf : hf_wf v) : zsaw v b < 4096 := by
  unfold zsaw
  have : ∀ n, n ≤ v 2 → zor (fun o => if (v (70 + 4 * b + 3)).testBit o then v (70 + 4 * o + 2) else 0) n < 2 ^ 12 := by
    intro n
    induction n with
    | zero => intro _; exact Nat.two_pow_pos 12
    | succ n ih =>
      intro hn
      unfold zor
      refine Nat.or_lt_two_pow (ih (by omega)) ?_
      split
      · exact (Wf.buyer (b := n) (by omega)).2.2.1
      · exact Nat.two_pow_pos 12
  exact this (v 2) (Nat.le_refl _)
theorem m_wordsFor (S : hf_sv V v) (Wf : hf_wf v) {b h : Nat} (hb : b < v 2) (hh : h < v 1) : ∃ W, spX4_wordsFor (Int32.ofNat b) (Int32.ofNat h) V = some (hf_wv V W) ∧ ∀ k, k < 13 → W k = zwd v b (some h) k := by
  have q1 := Wf.v1
  have q2 := Wf.v2
  obtain ⟨W0, w1, w2⟩ := m_wordsOf S Wf hb
  have r1 := zhas_lt v b q1
  have r2 := zats_lt v q1
  have r3 : zsaw v b &&& zats v < 2147483648 := Nat.lt_of_le_of_lt Nat.and_le_right (by omega)
  refine ⟨zup (zup (zup (zup (zup (zup (zup W0 6 (Int32.ofNat h).toInt64) 7 (Int32.ofNat (v (10 + 5 * h + 0))).toInt64) 8 (Int32.ofNat (v (10 + 5 * h + 1))).toInt64) 9 (Int32.ofNat (zpr v h)).toInt64) 10 (Int32.ofNat (zfg v (zhas v b) h 2)).toInt64) 11 (Int32.ofNat (zfg v (zhas v b) h 1)).toInt64) 12 (Int32.ofNat (zfg v (zsaw v b &&& zats v) h 2)).toInt64, ?_, ?_⟩
  · unfold spX4_wordsFor
    rw [w1, Option.bind_some]
    simp only [z_lit]
    rw [z_sd (i := 6) (by decide) (by decide), hf_wv_uL, m_halfOf (S.wv _) (w := 0) (by omega), hf_b2_some, z_sd (i := 7) (by decide) (by decide), hf_wv_uL, m_halfOf (S.wv _) (w := 1) (by omega), hf_b2_some, z_sd (i := 8) (by decide) (by decide), hf_wv_uL, m_priceOf (S.wv _) (by omega), hf_b2_some, z_sd (i := 9) (by decide) (by decide), hf_wv_uL, m_hasOf (S.wv _) q1 (by omega), hf_b2_some, m_fitting (S.wv _) q1 (by omega) (by omega) (by decide), hf_b2_some, z_sd (i := 10) (by decide) (by decide), hf_wv_uL, m_hasOf (S.wv _) q1 (by omega), hf_b2_some, m_fitting (S.wv _) q1 (by omega) (by omega) (by decide), hf_b2_some, z_sd (i := 11) (by decide) (by decide), hf_wv_uL, m_sawOf (S.wv _) q2 (by omega), hf_b2_some, m_atStalls (S.wv _) q1, hf_b2_some, z_and, m_fitting (S.wv _) q1 r3 (by omega) (by decide), hf_b2_some, z_sd (i := 12) (by decide) (by decide), hf_wv_uL]
  · intro k hk
    rcases (show k < 6 ∨ k = 6 ∨ k = 7 ∨ k = 8 ∨ k = 9 ∨ k = 10 ∨ k = 11 ∨ k = 12 by omega) with e | e | e | e | e | e | e | e
    · rw [zup_ne _ (by omega), zup_ne _ (by omega), zup_ne _ (by omega), zup_ne _ (by omega), zup_ne _ (by omega), zup_ne _ (by omega), zup_ne _ (by omega), w2 k hk]
      unfold zwd
      have : zwn v b none k = zwn v b (some h) k := by
        rcases (show k = 0 ∨ k = 1 ∨ k = 2 ∨ k = 3 ∨ k = 4 ∨ k = 5 by omega) with e | e | e | e | e | e <;> subst e <;> rfl
      rw [this]
    all_goals subst e
    all_goals first | (rw [zup_at]; rfl) | (rw [zup_ne _ (by omega), zup_at]; rfl) | (rw [zup_ne _ (by omega), zup_ne _ (by omega), zup_at]; rfl) | (rw [zup_ne _ (by omega), zup_ne _ (by omega), zup_ne _ (by omega), zup_at]; rfl) | (rw [zup_ne _ (by omega), zup_ne _ (by omega), zup_ne _ (by omega), zup_ne _ (by omega), zup_at]; rfl) | (rw [zup_ne _ (by omega), zup_ne _ (by omega), zup_ne _ (by omega), zup_ne _ (by omega), zup_ne _ (by omega), zup_at]; rfl) | (rw [zup_ne _ (by omega), zup_ne _ (by omega), zup_ne _ (by omega), zup_ne _ (by omega), zup_ne _ (by omega), zup_ne _ (by omega), zup_at]; rfl)
end ZM
