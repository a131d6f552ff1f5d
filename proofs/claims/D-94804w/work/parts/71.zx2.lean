set_option maxRecDepth 100000
set_option maxHeartbeats 1000000
theorem hf_wf.v0 {v : Nat → Nat} (W : hf_wf v) : v 0 ≤ 8 := W.1.1
theorem hf_wf.v1 {v : Nat → Nat} (W : hf_wf v) : v 1 ≤ 12 := W.1.2.1
theorem hf_wf.v2 {v : Nat → Nat} (W : hf_wf v) : v 2 ≤ 4 := W.1.2.2.1
theorem hf_wf.v3 {v : Nat → Nat} (W : hf_wf v) : v 3 ≤ 99 := W.1.2.2.2.1
theorem hf_wf.v4 {v : Nat → Nat} (W : hf_wf v) : v 4 ≤ 7 := W.1.2.2.2.2.1
theorem hf_wf.v5 {v : Nat → Nat} (W : hf_wf v) : v 5 ≤ 9 := W.1.2.2.2.2.2.1
theorem hf_wf.v6 {v : Nat → Nat} (W : hf_wf v) : v 6 ≤ 24 := W.1.2.2.2.2.2.2.1
theorem hf_wf.v7 {v : Nat → Nat} (W : hf_wf v) : v 7 ≤ 99 := W.1.2.2.2.2.2.2.2.1
theorem hf_wf.v8 {v : Nat → Nat} (W : hf_wf v) : v 8 ≤ 7 := W.1.2.2.2.2.2.2.2.2.1
theorem hf_wf.h0 {v : Nat → Nat} (W : hf_wf v) {k : Nat} (hk : k < v 1) : 0 < v 0 := by
  have := W.1.2.2.2.2.2.2.2.2.2
  omega
theorem hf_wf.b0 {v : Nat → Nat} (W : hf_wf v) {k : Nat} (hk : k < v 2) : 0 < v 0 := by
  have := W.1.2.2.2.2.2.2.2.2.2
  omega
theorem hf_wf.half {v : Nat → Nat} (W : hf_wf v) {k : Nat} (hk : k < v 1) : v (10 + 5 * k + 0) ≤ 99 ∧ v (10 + 5 * k + 1) ≤ 1 ∧ v (10 + 5 * k + 2) ≤ 99 ∧ v (10 + 5 * k + 3) < 104 ∧ (v (10 + 5 * k + 3) < v 0 ∨ 100 ≤ v (10 + 5 * k + 3)) ∧ v (10 + 5 * k + 4) ≤ 1 := W.2.1 k hk
theorem hf_wf.buyer {v : Nat → Nat} (W : hf_wf v) {b : Nat} (hb : b < v 2) : v (70 + 4 * b) < 1000000 ∧ v (70 + 4 * b + 1) < v 0 ∧ v (70 + 4 * b + 2) < 4096 ∧ v (70 + 4 * b + 3) < 16 := W.2.2.1 b hb
theorem hf_wf.b {v : Nat → Nat} (W : hf_wf v) (k : Nat) : v k < 16777216 := W.2.2.2 k
section ZX
variable {h : hf_H} {f : Nat} {v : Nat → Nat}
theorem hf_F.ob (F : hf_F h f v) {τ : Type} (K : Option τ) : ((hf_ob 1 1 h f).bind fun _ => K) = K := by
  obtain ⟨FV, l, m, p, q, HV, f1, f2⟩ := F
  rw [f1]
  rfl
theorem hf_F.size (F : hf_F h f v) {τ : Type} (K : Int32 → hf_H → Option τ) : ((hf_ga 1 1 0 h f).bind fun x1 => (hf_ob 0 19 h x1).bind fun _ => hf_b2 (spJ2_size x1 h) K) = K (Int32.ofNat (v 1)) h := by
  obtain ⟨FV, l, m, p, q, HV, f1, f2, f3, f4, f5, f6, f7, f8, f9⟩ := F
  rw [hf_ga_eq f1, f2, Option.bind_some, f4.ob, f4.size, hf_b2_some]
theorem hf_F.sizeB (F : hf_F h f v) {τ : Type} (K : Int32 → hf_H → Option τ) : ((hf_ga 1 1 1 h f).bind fun x1 => (hf_ob 0 19 h x1).bind fun _ => hf_b2 (spJ2_size x1 h) K) = K (Int32.ofNat (v 2)) h := by
  obtain ⟨FV, l, m, p, q, HV, f1, f2, f3, f4, f5, f6, f7, f8, f9⟩ := F
  rw [hf_ga_eq f1, f3, Option.bind_some, f5.ob, f5.size, hf_b2_some]
theorem hf_F.get (F : hf_F h f v) (W : hf_wf v) {k j : Nat} (hk : k < v 1) (hj : j < 3) {τ : Type} (K : Int32 → hf_H → Option τ) : ((hf_ga 1 1 0 h f).bind fun x1 => (hf_ob 0 19 h x1).bind fun _ => hf_b2 (spJ2_get x1 (Int32.ofNat k) h) fun x4 g3 => (hf_ob 0 6 g3 x4).bind fun _ => (hf_gi 0 6 (j + 1) g3 x4).bind fun x5 => K x5 g3) = K (Int32.ofNat (v (10 + 5 * k + j))) h := by
  obtain ⟨FV, l, m, p, q, HV, f1, f2, f3, f4, f5, f6, f7, f8, f9⟩ := F
  have q1 := W.v1
  obtain ⟨g1, g2, g3, g4⟩ := f6 k hk
  rw [hf_ga_eq f1, f2, Option.bind_some, f4.ob, f4.get hk (by omega), hf_b2_some, g1, Option.bind_some, hf_gi_eq g1, Option.bind_some]
  rcases (show j = 0 ∨ j = 1 ∨ j = 2 by omega) with e | e | e
  · subst e; rw [g2]
  · subst e; rw [g3]
  · subst e; rw [g4]
theorem hf_F.shape (F : hf_F h f v) (W : hf_wf v) {k : Nat} (hk : k < v 1) {τ : Type} (K : Int32 → hf_H → Option τ) : ((hf_ga 1 1 0 h f).bind fun x1 => (hf_ob 0 19 h x1).bind fun _ => hf_b2 (spJ2_get x1 (Int32.ofNat k) h) fun x4 g3 => (hf_ob 0 6 g3 x4).bind fun _ => (hf_gi 0 6 1 g3 x4).bind fun x5 => K x5 g3) = K (Int32.ofNat (v (10 + 5 * k + 0))) h := F.get W (j := 0) hk (by decide) K
theorem hf_F.side (F : hf_F h f v) (W : hf_wf v) {k : Nat} (hk : k < v 1) {τ : Type} (K : Int32 → hf_H → Option τ) : ((hf_ga 1 1 0 h f).bind fun x1 => (hf_ob 0 19 h x1).bind fun _ => hf_b2 (spJ2_get x1 (Int32.ofNat k) h) fun x4 g3 => (hf_ob 0 6 g3 x4).bind fun _ => (hf_gi 0 6 2 g3 x4).bind fun x5 => K x5 g3) = K (Int32.ofNat (v (10 + 5 * k + 1))) h := F.get W (j := 1) hk (by decide) K
theorem hf_F.price (F : hf_F h f v) (W : hf_wf v) {k : Nat} (hk : k < v 1) {τ : Type} (K : Int32 → hf_H → Option τ) : ((hf_ga 1 1 0 h f).bind fun x1 => (hf_ob 0 19 h x1).bind fun _ => hf_b2 (spJ2_get x1 (Int32.ofNat k) h) fun x4 g3 => (hf_ob 0 6 g3 x4).bind fun _ => (hf_gi 0 6 3 g3 x4).bind fun x5 => K x5 g3) = K (Int32.ofNat (v (10 + 5 * k + 2))) h := F.get W (j := 2) hk (by decide) K
theorem hf_F.stalls (F : hf_F h f v) : hf_gi 1 1 3 h f = some (Int32.ofNat (v 0)) := by
  obtain ⟨FV, l, m, p, q, HV, f1, f2, f3, f4, f5, f6, f7, f8, f9⟩ := F
  rw [hf_gi_eq f1, f7]
theorem hf_F.shift (F : hf_F h f v) (h0 : 0 < v 0) : hf_gi 1 1 4 h f = some (Int32.ofNat (v 4)) := by
  obtain ⟨FV, l, m, p, q, HV, f1, f2, f3, f4, f5, f6, f7, f8, f9⟩ := F
  rw [hf_gi_eq f1, (f8 h0).1]
theorem hf_F.near (F : hf_F h f v) (h0 : 0 < v 0) : hf_gi 1 1 5 h f = some (Int32.ofNat (v 5)) := by
  obtain ⟨FV, l, m, p, q, HV, f1, f2, f3, f4, f5, f6, f7, f8, f9⟩ := F
  rw [hf_gi_eq f1, (f8 h0).2.1]
theorem hf_F.dusk (F : hf_F h f v) (h0 : 0 < v 0) : hf_gi 1 1 6 h f = some (Int32.ofNat (v 6)) := by
  obtain ⟨FV, l, m, p, q, HV, f1, f2, f3, f4, f5, f6, f7, f8, f9⟩ := F
  rw [hf_gi_eq f1, (f8 h0).2.2.1]
theorem hf_F.duskP (F : hf_F h f v) (h0 : 0 < v 0) : hf_gi 1 1 7 h f = some (Int32.ofNat (v 7)) := by
  obtain ⟨FV, l, m, p, q, HV, f1, f2, f3, f4, f5, f6, f7, f8, f9⟩ := F
  rw [hf_gi_eq f1, (f8 h0).2.2.2.1]
theorem hf_F.hear (F : hf_F h f v) (h0 : 0 < v 0) : hf_gi 1 1 8 h f = some (Int32.ofNat (v 8)) := by
  obtain ⟨FV, l, m, p, q, HV, f1, f2, f3, f4, f5, f6, f7, f8, f9⟩ := F
  rw [hf_gi_eq f1, (f8 h0).2.2.2.2.1]
def zforg (v : Nat → Nat) : Nat := zset (fun k => v (10 + 5 * k + 4) == 1) (v 1)
theorem hf_F.forged (F : hf_F h f v) (h0 : 0 < v 0) : hf_gi 1 1 9 h f = some (Int32.ofNat (zforg v)) := by
  obtain ⟨FV, l, m, p, q, HV, f1, f2, f3, f4, f5, f6, f7, f8, f9⟩ := F
  rw [hf_gi_eq f1, (f8 h0).2.2.2.2.2]
  rfl
theorem hf_F.club (F : hf_F h f v) {b : Nat} (hb : b < v 2) (h4 : v 2 ≤ 4) : hf_ai 1 2 4 h f (Int32.ofNat b) = some (Int32.ofNat (v (70 + 4 * b + 3))) := by
  obtain ⟨FV, l, m, p, q, HV, f1, f2, f3, f4, f5, f6, f7, f8, f9⟩ := F
  rw [hf_ai_eq f1, z_ld (by omega) (by omega), f9 b hb]
/-- the state at s -/
def hf_SS (h : hf_H) (s : Nat) (v : Nat → Nat) : Prop := ∃ SV : hf_V, hf_ob 1 2 h s = some SV ∧ hf_S2 SV v
variable {s : Nat}
theorem hf_SS.ob (S : hf_SS h s v) {τ : Type} (K : Option τ) : ((hf_ob 1 2 h s).bind fun _ => K) = K := by
  obtain ⟨SV, s1, s2⟩ := S
  rw [s1]
  rfl
theorem hf_SS.where_ (S : hf_SS h s v) {k : Nat} (hk : k < v 1) (hn : v 1 ≤ 12) : hf_ai 2 0 12 h s (Int32.ofNat k) = some (Int32.ofNat (v (10 + 5 * k + 3))) := by
  obtain ⟨SV, s1, s2, s3, s4⟩ := S
  rw [hf_ai_eq s1, z_ld (by omega) (by omega), s2 k hk]
theorem hf_SS.purse (S : hf_SS h s v) {b : Nat} (hb : b < v 2) (hn : v 2 ≤ 4) : hf_ai 2 1 4 h s (Int32.ofNat b) = some (Int32.ofNat (v (70 + 4 * b))) := by
  obtain ⟨SV, s1, s2, s3, s4⟩ := S
  rw [hf_ai_eq s1, z_ld (by omega) (by omega), (s3 b hb).1]
theorem hf_SS.spot (S : hf_SS h s v) {b : Nat} (hb : b < v 2) (hn : v 2 ≤ 4) : hf_ai 2 2 4 h s (Int32.ofNat b) = some (Int32.ofNat (v (70 + 4 * b + 1))) := by
  obtain ⟨SV, s1, s2, s3, s4⟩ := S
  rw [hf_ai_eq s1, z_ld (by omega) (by omega), (s3 b hb).2.1]
theorem hf_SS.saw (S : hf_SS h s v) {b : Nat} (hb : b < v 2) (hn : v 2 ≤ 4) : hf_ai 2 3 4 h s (Int32.ofNat b) = some (Int32.ofNat (v (70 + 4 * b + 2))) := by
  obtain ⟨SV, s1, s2, s3, s4⟩ := S
  rw [hf_ai_eq s1, z_ld (by omega) (by omega), (s3 b hb).2.2]
theorem hf_SS.now (S : hf_SS h s v) : hf_gi 1 2 4 h s = some (Int32.ofNat (v 3)) := by
  obtain ⟨SV, s1, s2, s3, s4⟩ := S
  rw [hf_gi_eq s1, s4]
theorem x_spotOf (F : hf_F h f v) (W : hf_wf v) {a t : Nat} (h0 : 0 < v 0) (ha : a < 1000) (ht : t < 1000) : spX1_spotOf f (Int32.ofNat a) (Int32.ofNat t) h = some (Int32.ofNat (zsp v a t), h) := by
  have q0 := W.v0
  have q4 := W.v4
  have h5 : t * v 4 ≤ 1000 * 7 := Nat.mul_le_mul (by omega) (by omega)
  unfold spX1_spotOf zsp
  simp (disch := omega) only [F.shift h0, F.stalls, Option.bind_some, z_lit, z_eq, z_mul, z_add, z_div, z_rem, if_neg (show ¬ v 0 = 0 by omega)]
theorem x_stallAt (F : hf_F h f v) (W : hf_wf v) {p t : Nat} (hp : p < v 0) (ht : t < 1000) : spX1_stallAt f (Int32.ofNat p) (Int32.ofNat t) h = some (Int32.ofNat (zst v p t), h) := by
  obtain ⟨a1, a2, a3⟩ := z_st t hp
  have q0 := W.v0
  unfold spX1_stallAt
  refine hf_loop (fun g i => lpX1_stallAt_2 g f (Int32.ofNat p) (Int32.ofNat t) (Int32.ofNat i) h) (zst v p t) _ (fun i g hi => ?_) (fun g => ?_) (fuel := hf_N) (by unfold hf_N; omega)
  · show ndX1_stallAt_2 (lpX1_stallAt_2 g) _ _ _ _ _ = _
    unfold ndX1_stallAt_2
    have h5 : zsp v i t < v 0 := Nat.mod_lt _ (by omega)
    simp (disch := omega) only [F.ob, x_spotOf F W, hf_b2_some, z_eq, if_neg (a3 i hi), hf_let_eq, z_lit, z_add]
  · show ndX1_stallAt_2 (lpX1_stallAt_2 g) _ _ _ _ _ = _
    unfold ndX1_stallAt_2
    simp (disch := omega) only [F.ob, x_spotOf F W, hf_b2_some, a2, if_true]
theorem x_abs (a b : Nat) (ha : a < 16777216) (hb : b < 16777216) : (if 0 ≤ (Int32.ofNat a - Int32.ofNat b) then (Int32.ofNat a - Int32.ofNat b) else 0 - (Int32.ofNat a - Int32.ofNat b)) = Int32.ofNat (zap a b) := by
  unfold zap
  by_cases e : a ≤ b
  · rw [if_pos e]
    by_cases e2 : a = b
    · subst e2
      rw [z_sub (Nat.le_refl _), Nat.sub_self]
      rfl
    · have h1 : 0 - (Int32.ofNat a - Int32.ofNat b) = Int32.ofNat (b - a) := by
        rw [← z_sub e]
        rw [Int32.sub_eq_add_neg, Int32.neg_sub, Int32.zero_add]
      have h2 : Int32.ofNat a - Int32.ofNat b = - Int32.ofNat (b - a) := by
        rw [← z_sub e, Int32.neg_sub]
      have h3 : ¬ 0 ≤ (Int32.ofNat a - Int32.ofNat b) := by
        rw [h2]
        exact Int32.not_le.mpr (z_neg (by omega) (by omega))
      rw [if_neg h3, h1]
  · rw [if_neg e, z_sub (by omega), if_pos (Int32.not_lt.mp (z_n0 _ (by omega)))]
theorem x_far (F : hf_F h f v) (W : hf_wf v) {a b : Nat} (ha : a < v 0) (hb : b < v 0) : spX1_far f (Int32.ofNat a) (Int32.ofNat b) h = some (Int32.ofNat (zfar v a b), h) := by
  have q0 := W.v0
  have q1 := zap_lt ha hb
  unfold spX1_far zfar
  rw [x_abs a b (by omega) (by omega)]
  simp (disch := omega) only [hf_let_eq, F.stalls, Option.bind_some, z_sub, z_lt]
  by_cases e : 2 * zap a b ≤ v 0
  · rw [if_pos e, if_neg (by omega)]
  · rw [if_neg e, if_pos (by omega)]
theorem x_priceAt (F : hf_F h f v) (W : hf_wf v) {k : Nat} (hk : k < v 1) : spX1_priceAt f (Int32.ofNat k) (Int32.ofNat (v 3)) h = some (Int32.ofNat (zpr v k), h) := by
  have q3 := W.v3
  have q6 := W.v6
  have h0 := W.h0 hk
  unfold spX1_priceAt zpr
  simp (disch := omega) only [F.dusk h0, F.duskP h0, Option.bind_some, z_lt]
  by_cases e : v 3 < v 6
  · rw [if_pos e, if_pos e, F.price W hk]
  · rw [if_neg e, if_neg e]
def zleft (v : Nat → Nat) : Nat := v 6 - v 3
theorem x_left (F : hf_F h f v) (W : hf_wf v) (h0 : 0 < v 0) : spX1_left f (Int32.ofNat (v 3)) h = some (Int32.ofNat (zleft v), h) := by
  have q3 := W.v3
  have q6 := W.v6
  unfold spX1_left zleft
  simp only [F.dusk h0, Option.bind_some, hf_let_eq]
  by_cases e : v 3 < v 6
  · have h1 : (0 : Int32) < Int32.ofNat (v 6 - v 3) := (z_lt (a := 0) (by omega) (by omega)).mpr (by omega)
    rw [z_sub (by omega), if_pos h1]
  · by_cases e2 : v 3 = v 6
    · rw [e2, z_sub (Nat.le_refl _), Nat.sub_self]
      rfl
    · have h2 : Int32.ofNat (v 6) - Int32.ofNat (v 3) = - Int32.ofNat (v 3 - v 6) := by
        rw [← z_sub (by omega), Int32.neg_sub]
      have h3 : ¬ (0 : Int32) < - Int32.ofNat (v 3 - v 6) := Int32.not_lt.mpr (Int32.le_of_lt (z_neg (by omega) (by omega)))
      rw [h2, if_neg h3, show v 6 - v 3 = 0 by omega]
      rfl
theorem zforg_bit (v : Nat → Nat) (k : Nat) (hk : k < v 1) : (zforg v).testBit k = (v (10 + 5 * k + 4) == 1) := by
  unfold zforg
  rw [zset_bit]
  simp [hk]
theorem zforg_lt (v : Nat → Nat) (hn : v 1 ≤ 12) : zforg v < 4096 := by
  have := zset_lt (fun k => v (10 + 5 * k + 4) == 1) (v 1)
  have h2 := (zpow12 hn).2.1
  unfold zforg
  omega
/-- fit, if the halves of g are forged -/
def zfit (v : Nat → Nat) (a b g : Nat) : Nat := if g.testBit a = true then 2 else if g.testBit b = true then 2 else zft v a b
theorem x_fit (F : hf_F h f v) (W : hf_wf v) {a b g : Nat} (ha : a < v 1) (hb : b < v 1) (hg : g < 2147483648) : spX1_fit f (Int32.ofNat a) (Int32.ofNat b) (Int32.ofNat g) h = some (Int32.ofNat (zfit v a b g), h) := by
  have q1 := W.v1
  have q5 := W.v5
  obtain ⟨a1, a2, a3, -⟩ := W.half ha
  obtain ⟨b1, b2, b3, -⟩ := W.half hb
  unfold spX1_fit zfit
  rw [x_has hg (by omega), x_has hg (by omega), Option.bind_some, Option.bind_some]
  by_cases e1 : g.testBit a = true
  · rw [if_pos e1, if_pos e1, if_neg (by decide)]; rfl
  rw [if_neg e1, if_neg e1, if_pos (by decide)]
  by_cases e2 : g.testBit b = true
  · rw [if_pos e2, if_pos e2, if_neg (by decide)]; rfl
  rw [if_neg e2, if_neg e2, if_pos (by decide)]
  have h5 := F.near (W.h0 ha)
  obtain ⟨FV, l, m, p, q, HV, f1, f2, f3, f4, f5, f6, f7, f8, f9⟩ := F
  obtain ⟨g1, g2, g3, g4⟩ := f6 a ha
  obtain ⟨k1, k2, k3, k4⟩ := f6 b hb
  simp (disch := omega) only [hf_ga_eq f1, f2, Option.bind_some, f4.ob, f4.get, hf_b2_some, g1, k1, hf_gi_eq g1, hf_gi_eq k1, g2, g3, k2, k3, x_abs, h5, hf_let_eq, z_eq]
  have z1 := zap_lt (a := v (10 + 5 * a + 0)) (b := v (10 + 5 * b + 0)) (n := 100) (by omega) (by omega)
  have z2 : (Int32.ofNat (zap (v (10 + 5 * a + 0)) (v (10 + 5 * b + 0))) ≤ Int32.ofNat (v 5)) ↔ zap (v (10 + 5 * a + 0)) (v (10 + 5 * b + 0)) ≤ v 5 := z_le (by omega) (by omega)
  simp only [z2]
  unfold zft
  by_cases e3 : v (10 + 5 * a + 1) = v (10 + 5 * b + 1)
  · rw [if_pos e3, if_pos e3]; rfl
  rw [if_neg e3, if_neg e3]
  by_cases e4 : v (10 + 5 * a + 0) = v (10 + 5 * b + 0)
  · have e5 : zap (v (10 + 5 * a + 0)) (v (10 + 5 * b + 0)) = 0 := by unfold zap; rw [e4]; simp
    rw [e5, if_pos (Nat.zero_le _), if_pos e4, if_pos rfl]; rfl
  · have e5 : zap (v (10 + 5 * a + 0)) (v (10 + 5 * b + 0)) ≠ 0 := by unfold zap; split <;> omega
    rw [if_neg e5, if_neg e4]
    by_cases e6 : v 5 < zap (v (10 + 5 * a + 0)) (v (10 + 5 * b + 0))
    · rw [if_pos e6, if_neg (by omega)]; rfl
    · rw [if_neg e6, if_pos (by omega)]; rfl
theorem zfit_fo {v : Nat → Nat} {a b : Nat} (ha : a < v 1) (hb : b < v 1) : zfit v a b (zforg v) = zfo v a b := by
  unfold zfit zfo
  rw [zforg_bit v a ha, zforg_bit v b hb]
  simp only [beq_iff_eq]
/-- HalfFair at o, its fair at f, its state at s -/
def hf_XX (h : hf_H) (o f s : Nat) : Prop := ∃ XV : hf_V, hf_ob 1 0 h o = some XV ∧ XV.2.2.1 0 = some f ∧ XV.2.2.1 1 = some s
variable {o : Nat}
theorem hf_XX.ob (X : hf_XX h o f s) {τ : Type} (K : Option τ) : ((hf_ob 1 0 h o).bind fun _ => K) = K := by
  obtain ⟨XV, s1, s2⟩ := X
  rw [s1]
  rfl
theorem hf_XX.fa (X : hf_XX h o f s) : hf_ga 1 0 0 h o = some f := by
  obtain ⟨XV, s1, s2, s3⟩ := X
  rw [hf_ga_eq s1, s2]
theorem hf_XX.st (X : hf_XX h o f s) : hf_ga 1 0 1 h o = some s := by
  obtain ⟨XV, s1, s2, s3⟩ := X
  rw [hf_ga_eq s1, s3]
theorem x_many (X : hf_XX h o f s) (F : hf_F h f v) : spX0_many o h = some (Int32.ofNat (v 1), h) := by
  unfold spX0_many
  rw [X.fa, Option.bind_some, F.size]
theorem x_buyers (X : hf_XX h o f s) (F : hf_F h f v) : spX0_buyers o h = some (Int32.ofNat (v 2), h) := by
  unfold spX0_buyers
  rw [X.fa, Option.bind_some, F.sizeB]
theorem x_isFair (X : hf_XX h o f s) (F : hf_F h f v) (W : hf_wf v) : spX0_isFair o h = some (Int32.ofNat (if v 0 = 0 then 0 else 1), h) := by
  unfold spX0_isFair
  have q0 := W.v0
  rw [X.fa, Option.bind_some, F.stalls, Option.bind_some]
  have h1 : (Int32.ofNat (v 0) ≤ 0) ↔ v 0 ≤ 0 := z_le (b := 0) (by omega) (by omega)
  by_cases e : v 0 = 0
  · rw [if_pos (h1.mpr (by omega)), if_pos e]; rfl
  · rw [if_neg (fun z => e (by have := h1.mp z; omega)), if_neg e]; rfl
theorem x_isHalf (X : hf_XX h o f s) (F : hf_F h f v) (W : hf_wf v) (x : Int32) : spX0_isHalf o x h = some (if zin x (v 1) then Int32.ofNat 1 else Int32.ofNat 0, h) := by
  unfold spX0_isHalf
  have q1 := W.v1
  rw [X.ob, x_many X F, hf_b2_some, x_inn x (by omega), Option.bind_some, if_pos]
  split
  · exact Or.inr rfl
  · exact Or.inl rfl
theorem x_isBuyer (X : hf_XX h o f s) (F : hf_F h f v) (W : hf_wf v) (x : Int32) : spX0_isBuyer o x h = some (if zin x (v 2) then Int32.ofNat 1 else Int32.ofNat 0, h) := by
  unfold spX0_isBuyer
  have q1 := W.v2
  rw [X.ob, x_buyers X F, hf_b2_some, x_inn x (by omega), Option.bind_some, if_pos]
  split
  · exact Or.inr rfl
  · exact Or.inl rfl
theorem x_isStall (X : hf_XX h o f s) (F : hf_F h f v) (W : hf_wf v) (x : Int32) : spX0_isStall o x h = some (if zin x (v 0) then Int32.ofNat 1 else Int32.ofNat 0, h) := by
  unfold spX0_isStall
  have q1 := W.v0
  rw [X.fa, Option.bind_some, F.stalls, Option.bind_some, x_inn x (by omega), Option.bind_some, if_pos]
  split
  · exact Or.inr rfl
  · exact Or.inl rfl
theorem x_fit2 (X : hf_XX h o f s) (F : hf_F h f v) (W : hf_wf v) {a b : Nat} (ha : a < v 1) (hb : b < v 1) : spX0_fit2 o (Int32.ofNat a) (Int32.ofNat b) h = some (Int32.ofNat (zfo v a b), h) := by
  unfold spX0_fit2
  have := zforg_lt v W.v1
  rw [X.fa, Option.bind_some, Option.bind_some, F.forged (W.h0 ha), Option.bind_some, F.ob, x_fit F W ha hb (by omega), hf_b2_some, zfit_fo ha hb]
end ZX
