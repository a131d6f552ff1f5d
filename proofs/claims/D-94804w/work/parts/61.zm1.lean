set_option maxRecDepth 100000
set_option maxHeartbeats 1000000
/-! the model's reads over said, seen as Nats v -/
def hf_sv (V : hf_V) (v : Nat → Nat) : Prop := ∀ k, V.2.2.2.1 20 k = Int32.ofNat (v k) ∧ v k < 16777216
theorem hf_sv.b {V : hf_V} {v : Nat → Nat} (S : hf_sv V v) (k : Nat) : v k < 16777216 := (S k).2
theorem hf_sv.ld {V : hf_V} {v : Nat → Nat} (S : hf_sv V v) {i : Nat} (h : i < 123) : hf_ld 123 (V.2.2.2.1 20) (Int32.ofNat i) = some (Int32.ofNat (v i)) := by
  rw [z_ld h (by omega), (S i).1]
theorem z_valid (x : Int32) (n : Nat) (hn : n < 2147483648) : (∃ k, k < n ∧ x = Int32.ofNat k) ∨ x < 0 ∨ (¬ x < 0 ∧ Int32.ofNat n ≤ x) := by
  by_cases h0 : x < 0
  · exact Or.inr (Or.inl h0)
  by_cases h1 : Int32.ofNat n ≤ x
  · exact Or.inr (Or.inr ⟨h0, h1⟩)
  left
  have h2 : (0 : Int32) ≤ x := Int32.not_lt.mp h0
  refine ⟨x.toNatClampNeg, ?_, (Int32.ofNat_toNatClampNeg x h2).symm⟩
  have h3 : x < Int32.ofNat n := Int32.not_le.mp h1
  have h4 := Int32.ofNat_toNatClampNeg x h2
  rw [← h4] at h3
  exact (z_lt (Int32.toNatClampNeg_lt x) hn).mp h3
/-- sets out of places; joins -/
def zset (p : Nat → Bool) : Nat → Nat
  | 0 => 0
  | k + 1 => zset p k ||| (if p k then 1 <<< k else 0)
def zor (f : Nat → Nat) : Nat → Nat
  | 0 => 0
  | k + 1 => zor f k ||| f k
def zsum (f : Nat → Nat) : Nat → Nat
  | 0 => 0
  | k + 1 => zsum f k + f k
def zpr (v : Nat → Nat) (h : Nat) : Nat := if v 3 < v 6 then v (10 + 5 * h + 2) else v 7
def zsp (v : Nat → Nat) (s t : Nat) : Nat := (s + t * v 4) % v 0
/-- the first place that is so -/
def zfind (p : Nat → Bool) : Nat → Nat → Nat
  | 0, i => i
  | k + 1, i => if p i then i else zfind p k (i + 1)
theorem zfind_spec (p : Nat → Bool) : ∀ k i, (∃ j, i ≤ j ∧ j < i + k ∧ p j = true) → zfind p k i < i + k ∧ i ≤ zfind p k i ∧ p (zfind p k i) = true ∧ ∀ j, i ≤ j → j < zfind p k i → p j = false
  | 0, i, ⟨j, h1, h2, h3⟩ => by omega
  | k + 1, i, ⟨j, h1, h2, h3⟩ => by
    unfold zfind
    by_cases h : p i = true
    · rw [if_pos h]
      exact ⟨by omega, Nat.le_refl _, h, fun j h1 h2 => by omega⟩
    · rw [if_neg h]
      have hne : i ≠ j := fun e => h (by rw [e]; exact h3)
      obtain ⟨a1, a2, a3, a4⟩ := zfind_spec p k (i + 1) ⟨j, by omega, by omega, h3⟩
      refine ⟨by omega, by omega, a3, fun j' h4 h5 => ?_⟩
      by_cases e : j' = i
      · rw [e]; exact Bool.eq_false_iff.mpr h
      · exact a4 j' (by omega) h5
def zst (v : Nat → Nat) (p t : Nat) : Nat := zfind (fun s => zsp v s t == p) (v 0) 0
def zlow (s : Nat) : Nat := zfind s.testBit 12 0
def zpop (s : Nat) : Nat := zsum (fun i => if s.testBit i then 1 else 0) 12
def zap (a b : Nat) : Nat := if a ≤ b then b - a else a - b
def zfar (v : Nat → Nat) (a b : Nat) : Nat := if 2 * zap a b ≤ v 0 then zap a b else v 0 - zap a b
def zft (v : Nat → Nat) (a b : Nat) : Nat := if v (10 + 5 * a + 1) = v (10 + 5 * b + 1) then 0 else if zap (v (10 + 5 * a + 0)) (v (10 + 5 * b + 0)) = 0 then 2 else if v 5 < zap (v (10 + 5 * a + 0)) (v (10 + 5 * b + 0)) then 0 else 1
def zfo (v : Nat → Nat) (a b : Nat) : Nat := if v (10 + 5 * a + 4) = 1 then 2 else if v (10 + 5 * b + 4) = 1 then 2 else zft v a b
def zhas (v : Nat → Nat) (b : Nat) : Nat := zset (fun h => v (10 + 5 * h + 3) == 100 + b) (v 1)
def zat (v : Nat → Nat) (s : Nat) : Nat := zset (fun h => v (10 + 5 * h + 3) == s) (v 1)
def zats (v : Nat → Nat) : Nat := zset (fun h => decide (v (10 + 5 * h + 3) < 100)) (v 1)
def zsaw (v : Nat → Nat) (b : Nat) : Nat := zor (fun o => if (v (70 + 4 * b + 3)).testBit o then v (70 + 4 * o + 2) else 0) (v 2)
theorem z_bit1 (s k : Nat) : ((s >>> k) &&& 1 = 1) ↔ s.testBit k = true := by
  rw [Nat.testBit, Nat.and_comm, bne_iff_ne]
  have h : 1 &&& (s >>> k) = (s >>> k) % 2 := by rw [Nat.and_comm]; exact Nat.and_one_is_mod _
  rw [h]
  omega
theorem m_isOf {s k : Nat} (hs : s < 2147483648) (hk : k < 32) : spX4_isOf (Int32.ofNat s) (Int32.ofNat k) = some (Int32.ofNat (if s.testBit k then 1 else 0)) := by
  unfold spX4_isOf
  have h1 : (s >>> k) &&& 1 < 2147483648 := Nat.lt_of_le_of_lt Nat.and_le_right (by decide)
  simp only [z_lit, z_and, z_shr hk hs, z_eq h1 (show 1 < 2147483648 by decide), z_bit1]
  by_cases h : s.testBit k = true
  · simp [h]
  · simp [h]
section ZM
variable {V : hf_V} {v : Nat → Nat}
theorem m_halfOf (S : hf_sv V v) {h w : Nat} (hh : 10 + 5 * h + w < 123) : spX4_halfOf (Int32.ofNat h) (Int32.ofNat w) V = some (Int32.ofNat (v (10 + 5 * h + w)), V) := by
  unfold spX4_halfOf
  simp (disch := omega) only [z_lit, z_add, z_mul, z_sub, z_div, z_rem, Option.bind_some, z_le, z_lt, z_eq, hf_b2_some, hf_let_eq, z_shl, z_shr, z_and, z_or, z_nd, z_nd2, S.ld]
theorem m_buyerOf (S : hf_sv V v) {b w : Nat} (hh : 70 + 4 * b + w < 123) : spX4_buyerOf (Int32.ofNat b) (Int32.ofNat w) V = some (Int32.ofNat (v (70 + 4 * b + w)), V) := by
  unfold spX4_buyerOf
  simp (disch := omega) only [z_lit, z_add, z_mul, z_sub, z_div, z_rem, Option.bind_some, z_le, z_lt, z_eq, hf_b2_some, hf_let_eq, z_shl, z_shr, z_and, z_or, z_nd, z_nd2, S.ld]
theorem m_isFair (S : hf_sv V v) : spX4_isFair V = some (Int32.ofNat (if v 0 = 0 then 0 else 1), V) := by
  unfold spX4_isFair
  have b0 := S.b 0
  simp (disch := omega) only [z_lit, z_add, z_mul, z_sub, z_div, z_rem, Option.bind_some, z_le, z_lt, z_eq, hf_b2_some, hf_let_eq, z_shl, z_shr, z_and, z_or, z_nd, z_nd2, S.ld]
  by_cases h : v 0 = 0
  · simp [h]
  · rw [if_neg (by omega), if_neg h]
theorem m_isHalf (S : hf_sv V v) {k : Nat} (hk : k < v 1) : spX4_isHalf (Int32.ofNat k) V = some (Int32.ofNat 1, V) := by
  unfold spX4_isHalf
  have b1 := S.b 1
  rw [if_neg (z_n0 k (by omega))]
  simp (disch := omega) only [z_lit, z_add, z_mul, z_sub, z_div, z_rem, Option.bind_some, z_le, z_lt, z_eq, hf_b2_some, hf_let_eq, z_shl, z_shr, z_and, z_or, z_nd, z_nd2, S.ld, if_neg (show ¬ v 1 ≤ k by omega)]
theorem m_isHalfN (S : hf_sv V v) {x : Int32} (hx : x < 0 ∨ (¬ x < 0 ∧ Int32.ofNat (v 1) ≤ x)) : spX4_isHalf x V = some (Int32.ofNat 0, V) := by
  unfold spX4_isHalf
  rcases hx with hx | ⟨h0, hx⟩
  · rw [if_pos hx]; rfl
  · rw [if_neg h0]
    simp (disch := omega) only [z_lit, z_add, z_mul, z_sub, z_div, z_rem, Option.bind_some, z_le, z_lt, z_eq, hf_b2_some, hf_let_eq, z_shl, z_shr, z_and, z_or, z_nd, z_nd2, S.ld, if_pos hx]
theorem m_isBuyer (S : hf_sv V v) {k : Nat} (hk : k < v 2) : spX4_isBuyer (Int32.ofNat k) V = some (Int32.ofNat 1, V) := by
  unfold spX4_isBuyer
  have b1 := S.b 2
  rw [if_neg (z_n0 k (by omega))]
  simp (disch := omega) only [z_lit, z_add, z_mul, z_sub, z_div, z_rem, Option.bind_some, z_le, z_lt, z_eq, hf_b2_some, hf_let_eq, z_shl, z_shr, z_and, z_or, z_nd, z_nd2, S.ld, if_neg (show ¬ v 2 ≤ k by omega)]
theorem m_isBuyerN (S : hf_sv V v) {x : Int32} (hx : x < 0 ∨ (¬ x < 0 ∧ Int32.ofNat (v 2) ≤ x)) : spX4_isBuyer x V = some (Int32.ofNat 0, V) := by
  unfold spX4_isBuyer
  rcases hx with hx | ⟨h0, hx⟩
  · rw [if_pos hx]; rfl
  · rw [if_neg h0]
    simp (disch := omega) only [z_lit, z_add, z_mul, z_sub, z_div, z_rem, Option.bind_some, z_le, z_lt, z_eq, hf_b2_some, hf_let_eq, z_shl, z_shr, z_and, z_or, z_nd, z_nd2, S.ld, if_pos hx]
theorem m_isDusk (S : hf_sv V v) : spX4_isDusk V = some (Int32.ofNat (if v 3 < v 6 then 0 else 1), V) := by
  unfold spX4_isDusk
  have b3 := S.b 3
  have b6 := S.b 6
  simp (disch := omega) only [z_lit, z_add, z_mul, z_sub, z_div, z_rem, Option.bind_some, z_le, z_lt, z_eq, hf_b2_some, hf_let_eq, z_shl, z_shr, z_and, z_or, z_nd, z_nd2, S.ld]
  by_cases h : v 3 < v 6
  · simp only [h, if_true]
  · simp only [h, if_false]
theorem m_priceOf (S : hf_sv V v) {h : Nat} (hh : h < 20) : spX4_priceOf (Int32.ofNat h) V = some (Int32.ofNat (zpr v h), V) := by
  unfold spX4_priceOf zpr
  simp (disch := omega) only [z_lit, z_add, z_mul, z_sub, z_div, z_rem, Option.bind_some, z_le, z_lt, z_eq, hf_b2_some, hf_let_eq, z_shl, z_shr, z_and, z_or, z_nd, z_nd2, S.ld, m_isDusk S, m_halfOf S]
  by_cases hc : v 3 < v 6
  · simp only [hc, if_true]
  · simp only [hc, if_false]
    simp (disch := omega) only [z_lit, z_add, z_mul, z_sub, z_div, z_rem, Option.bind_some, z_le, z_lt, z_eq, hf_b2_some, hf_let_eq, z_shl, z_shr, z_and, z_or, z_nd, z_nd2]
    rfl
theorem m_spotAt (S : hf_sv V v) {s t : Nat} (hst : 0 < v 0) (hs : s < 1000) (ht : t < 1000) (h4 : v 4 < 1000) : spX4_spotAt (Int32.ofNat s) (Int32.ofNat t) V = some (Int32.ofNat (zsp v s t), V) := by
  unfold spX4_spotAt zsp
  have b0 := S.b 0
  have h5 : t * v 4 ≤ 1000 * 1000 := Nat.mul_le_mul (by omega) (by omega)
  simp (disch := omega) only [z_lit, z_add, z_mul, z_sub, z_div, z_rem, Option.bind_some, z_le, z_lt, z_eq, hf_b2_some, hf_let_eq, z_shl, z_shr, z_and, z_or, z_nd, z_nd2, S.ld, if_neg (show ¬ v 0 = 0 by omega)]
theorem m_apart {a b : Nat} (ha : a < 16777216) (hb : b < 16777216) : spX4_apart (Int32.ofNat a) (Int32.ofNat b) V = some (Int32.ofNat (zap a b), V) := by
  unfold spX4_apart zap
  simp (disch := omega) only [z_lit, z_add, z_mul, z_sub, z_div, z_rem, Option.bind_some, z_le, z_lt, z_eq, hf_b2_some, hf_let_eq, z_shl, z_shr, z_and, z_or, z_nd, z_nd2]
  by_cases h : a ≤ b
  · simp (disch := omega) only [z_lit, z_add, z_mul, z_sub, z_div, z_rem, Option.bind_some, z_le, z_lt, z_eq, hf_b2_some, hf_let_eq, z_shl, z_shr, z_and, z_or, z_nd, z_nd2, h, if_true]
  · simp (disch := omega) only [z_lit, z_add, z_mul, z_sub, z_div, z_rem, Option.bind_some, z_le, z_lt, z_eq, hf_b2_some, hf_let_eq, z_shl, z_shr, z_and, z_or, z_nd, z_nd2, h, if_false]
theorem m_far (S : hf_sv V v) {a b : Nat} (ha : a < v 0) (hb : b < v 0) (h0 : v 0 < 1000) : spX4_far (Int32.ofNat a) (Int32.ofNat b) V = some (Int32.ofNat (zfar v a b), V) := by
  unfold spX4_far zfar zap ndX4_far_14
  simp (disch := omega) only [z_lit, z_add, z_mul, z_sub, z_div, z_rem, Option.bind_some, z_le, z_lt, z_eq, hf_b2_some, hf_let_eq, z_shl, z_shr, z_and, z_or, z_nd, z_nd2, S.ld]
  by_cases h : a ≤ b
  · simp (disch := omega) only [z_lit, z_add, z_mul, z_sub, z_div, z_rem, Option.bind_some, z_le, z_lt, z_eq, hf_b2_some, hf_let_eq, z_shl, z_shr, z_and, z_or, z_nd, z_nd2, h, if_true, S.ld]
    by_cases h2 : 2 * (b - a) ≤ v 0
    · simp only [h2, if_true]
    · simp only [h2, if_false]
  · simp (disch := omega) only [z_lit, z_add, z_mul, z_sub, z_div, z_rem, Option.bind_some, z_le, z_lt, z_eq, hf_b2_some, hf_let_eq, z_shl, z_shr, z_and, z_or, z_nd, z_nd2, h, if_false, S.ld]
    by_cases h2 : 2 * (a - b) ≤ v 0
    · simp only [h2, if_true]
    · simp only [h2, if_false]
theorem zap_lt {a b n : Nat} (ha : a < n) (hb : b < n) : zap a b < n := by
  unfold zap
  split <;> omega
theorem m_fitTold (S : hf_sv V v) {a b : Nat} (ha : a < 12) (hb : b < 12) : spX4_fitTold (Int32.ofNat a) (Int32.ofNat b) V = some (Int32.ofNat (zft v a b), V) := by
  unfold spX4_fitTold zft
  have q1 := S.b (10 + 5 * a + 1)
  have q2 := S.b (10 + 5 * b + 1)
  have q3 := S.b (10 + 5 * a + 0)
  have q4 := S.b (10 + 5 * b + 0)
  have q5 := S.b 5
  have q6 := zap_lt q3 q4
  simp (disch := omega) only [z_lit, z_add, z_mul, z_sub, z_div, z_rem, Option.bind_some, z_le, z_lt, z_eq, hf_b2_some, hf_let_eq, z_shl, z_shr, z_and, z_or, z_nd, z_nd2, S.ld, m_halfOf S, m_apart q3 q4]
  by_cases h : v (10 + 5 * a + 1) = v (10 + 5 * b + 1)
  · simp only [h, if_true]
  · simp only [h, if_false]
    by_cases h2 : zap (v (10 + 5 * a + 0)) (v (10 + 5 * b + 0)) = 0
    · simp only [h2, if_true]
    · simp only [h2, if_false]
      by_cases h3 : v 5 < zap (v (10 + 5 * a + 0)) (v (10 + 5 * b + 0))
      · simp only [h3, if_true]
      · simp only [h3, if_false]
theorem m_fitOf (S : hf_sv V v) {a b : Nat} (ha : a < 12) (hb : b < 12) : spX4_fitOf (Int32.ofNat a) (Int32.ofNat b) V = some (Int32.ofNat (zfo v a b), V) := by
  unfold spX4_fitOf zfo
  have q1 := S.b (10 + 5 * a + 4)
  have q2 := S.b (10 + 5 * b + 4)
  simp (disch := omega) only [z_lit, z_add, z_mul, z_sub, z_div, z_rem, Option.bind_some, z_le, z_lt, z_eq, hf_b2_some, hf_let_eq, z_shl, z_shr, z_and, z_or, z_nd, z_nd2, S.ld, m_halfOf S, m_fitTold S]
  by_cases h : v (10 + 5 * a + 4) = 1
  · simp only [h, if_true]
  · simp only [h, if_false]
    by_cases h2 : v (10 + 5 * b + 4) = 1
    · simp only [h2, if_true]
    · simp only [h2, if_false]
theorem m_hasOf (S : hf_sv V v) {b : Nat} (hn : v 1 ≤ 12) (hb : b < 4) : spX4_hasOf (Int32.ofNat b) V = some (Int32.ofNat (zhas v b), V) := by
  unfold spX4_hasOf zhas
  refine hf_loop (fun f i => lpX4_hasOf_4 f (Int32.ofNat b) (Int32.ofNat (zset (fun h => v (10 + 5 * h + 3) == 100 + b) i)) (Int32.ofNat i) V) (v 1) _ (fun i f hi => ?_) (fun f => ?_) (fuel := hf_N) (by unfold hf_N; omega)
  · show ndX4_hasOf_4 (lpX4_hasOf_4 f) _ _ _ _ = _
    unfold ndX4_hasOf_4 ndX4_hasOf_35
    have b1 := S.b 1
    have b2 := S.b (10 + 5 * i + 3)
    simp (disch := omega) only [z_lit, z_add, z_mul, z_sub, z_div, z_rem, Option.bind_some, z_le, z_lt, z_eq, hf_b2_some, hf_let_eq, z_shl, z_shr, z_and, z_or, z_nd, z_nd2, S.ld, m_halfOf S, if_neg (show ¬ v 1 ≤ i by omega)]
    by_cases hc : v (10 + 5 * i + 3) = 100 + b
    · simp only [hc, if_true, zset, beq_self_eq_true]
    · simp only [hc, if_false, zset, beq_eq_false_iff_ne.mpr hc]
      rfl
  · show ndX4_hasOf_4 (lpX4_hasOf_4 f) _ _ _ _ = _
    unfold ndX4_hasOf_4
    have b1 := S.b 1
    simp (disch := omega) only [z_lit, z_add, z_mul, z_sub, z_div, z_rem, Option.bind_some, z_le, z_lt, z_eq, hf_b2_some, hf_let_eq, z_shl, z_shr, z_and, z_or, z_nd, z_nd2, S.ld, Nat.le_refl, if_true]
theorem m_atStall (S : hf_sv V v) {b : Nat} (hn : v 1 ≤ 12) (hb : b < 1000) : spX4_atStall (Int32.ofNat b) V = some (Int32.ofNat (zat v b), V) := by
  unfold spX4_atStall zat
  refine hf_loop (fun f i => lpX4_atStall_4 f (Int32.ofNat b) (Int32.ofNat (zset (fun h => v (10 + 5 * h + 3) == b) i)) (Int32.ofNat i) V) (v 1) _ (fun i f hi => ?_) (fun f => ?_) (fuel := hf_N) (by unfold hf_N; omega)
  · show ndX4_atStall_4 (lpX4_atStall_4 f) _ _ _ _ = _
    unfold ndX4_atStall_4 ndX4_atStall_32
    have b1 := S.b 1
    have b2 := S.b (10 + 5 * i + 3)
    simp (disch := omega) only [z_lit, z_add, z_mul, z_sub, z_div, z_rem, Option.bind_some, z_le, z_lt, z_eq, hf_b2_some, hf_let_eq, z_shl, z_shr, z_and, z_or, z_nd, z_nd2, S.ld, m_halfOf S, if_neg (show ¬ v 1 ≤ i by omega)]
    by_cases hc : v (10 + 5 * i + 3) = b
    · simp only [hc, if_true, zset, beq_self_eq_true]
    · simp only [hc, if_false, zset, beq_eq_false_iff_ne.mpr hc]
      rfl
  · show ndX4_atStall_4 (lpX4_atStall_4 f) _ _ _ _ = _
    unfold ndX4_atStall_4
    have b1 := S.b 1
    simp (disch := omega) only [z_lit, z_add, z_mul, z_sub, z_div, z_rem, Option.bind_some, z_le, z_lt, z_eq, hf_b2_some, hf_let_eq, z_shl, z_shr, z_and, z_or, z_nd, z_nd2, S.ld, Nat.le_refl, if_true]
theorem m_atStalls (S : hf_sv V v) (hn : v 1 ≤ 12) : spX4_atStalls V = some (Int32.ofNat (zats v), V) := by
  unfold spX4_atStalls zats
  refine hf_loop (fun f i => lpX4_atStalls_4 f (Int32.ofNat (zset (fun h => decide (v (10 + 5 * h + 3) < 100)) i)) (Int32.ofNat i) V) (v 1) _ (fun i f hi => ?_) (fun f => ?_) (fuel := hf_N) (by unfold hf_N; omega)
  · show ndX4_atStalls_4 (lpX4_atStalls_4 f) _ _ _ = _
    unfold ndX4_atStalls_4 ndX4_atStalls_33
    have b1 := S.b 1
    have b2 := S.b (10 + 5 * i + 3)
    simp (disch := omega) only [z_lit, z_add, z_mul, z_sub, z_div, z_rem, Option.bind_some, z_le, z_lt, z_eq, hf_b2_some, hf_let_eq, z_shl, z_shr, z_and, z_or, z_nd, z_nd2, S.ld, m_halfOf S, if_neg (show ¬ v 1 ≤ i by omega)]
    by_cases hc : 100 ≤ v (10 + 5 * i + 3)
    · have hc2 : ¬ v (10 + 5 * i + 3) < 100 := by omega
      simp only [hc, hc2, if_true, zset, decide_false]
      rfl
    · have hc2 : v (10 + 5 * i + 3) < 100 := by omega
      simp only [hc, hc2, if_false, zset, decide_true, if_true]
  · show ndX4_atStalls_4 (lpX4_atStalls_4 f) _ _ _ = _
    unfold ndX4_atStalls_4
    have b1 := S.b 1
    simp (disch := omega) only [z_lit, z_add, z_mul, z_sub, z_div, z_rem, Option.bind_some, z_le, z_lt, z_eq, hf_b2_some, hf_let_eq, z_shl, z_shr, z_and, z_or, z_nd, z_nd2, S.ld, Nat.le_refl, if_true]
theorem m_sawOf (S : hf_sv V v) {b : Nat} (hm : v 2 ≤ 4) (hb : b < 4) : spX4_sawOf (Int32.ofNat b) V = some (Int32.ofNat (zsaw v b), V) := by
  unfold spX4_sawOf zsaw
  refine hf_loop (fun f i => lpX4_sawOf_4 f (Int32.ofNat b) (Int32.ofNat (zor (fun o => if (v (70 + 4 * b + 3)).testBit o then v (70 + 4 * o + 2) else 0) i)) (Int32.ofNat i) V) (v 2) _ (fun i f hi => ?_) (fun f => ?_) (fuel := hf_N) (by unfold hf_N; omega)
  · show ndX4_sawOf_4 (lpX4_sawOf_4 f) _ _ _ _ = _
    unfold ndX4_sawOf_4 ndX4_sawOf_38
    have b1 := S.b 2
    have b2 := S.b (70 + 4 * b + 3)
    simp (disch := omega) only [z_lit, z_add, z_mul, z_sub, z_div, z_rem, Option.bind_some, z_le, z_lt, z_eq, hf_b2_some, hf_let_eq, z_shl, z_shr, z_and, z_or, z_nd, z_nd2, S.ld, m_buyerOf S, m_isOf, if_neg (show ¬ v 2 ≤ i by omega)]
    by_cases hc : (v (70 + 4 * b + 3)).testBit i = true
    · simp (disch := omega) only [z_lit, z_add, z_mul, z_sub, z_div, z_rem, Option.bind_some, z_le, z_lt, z_eq, hf_b2_some, hf_let_eq, z_shl, z_shr, z_and, z_or, z_nd, z_nd2, hc, if_true, zor]
      rfl
    · simp (disch := omega) only [z_lit, z_add, z_mul, z_sub, z_div, z_rem, Option.bind_some, z_le, z_lt, z_eq, hf_b2_some, hf_let_eq, z_shl, z_shr, z_and, z_or, z_nd, z_nd2, hc, if_false, zor]
      rfl
  · show ndX4_sawOf_4 (lpX4_sawOf_4 f) _ _ _ _ = _
    unfold ndX4_sawOf_4
    have b1 := S.b 2
    simp (disch := omega) only [z_lit, z_add, z_mul, z_sub, z_div, z_rem, Option.bind_some, z_le, z_lt, z_eq, hf_b2_some, hf_let_eq, z_shl, z_shr, z_and, z_or, z_nd, z_nd2, S.ld, Nat.le_refl, if_true]
end ZM
