set_option maxRecDepth 100000
set_option maxHeartbeats 1000000
theorem z_st_ex {st a p : Nat} (h0 : 0 < st) (hp : p < st) : ∃ s, s < st ∧ (s + a) % st = p := by
  refine ⟨(p + (st - a % st)) % st, Nat.mod_lt _ h0, ?_⟩
  have h1 : a % st < st := Nat.mod_lt _ h0
  have h2 : ((p + (st - a % st)) % st + a) % st = ((p + (st - a % st)) + a) % st := by rw [Nat.mod_add_mod]
  rw [h2]
  have h3 := Nat.div_add_mod a st
  have h4 : p + (st - a % st) + a = p + st * (a / st + 1) := by
    rw [Nat.mul_add, Nat.mul_one]
    omega
  rw [h4, Nat.add_mul_mod_self_left]
  exact Nat.mod_eq_of_lt hp
theorem z_st {v : Nat → Nat} {p : Nat} (t : Nat) (hp : p < v 0) : zst v p t < v 0 ∧ zsp v (zst v p t) t = p ∧ ∀ j, j < zst v p t → zsp v j t ≠ p := by
  obtain ⟨s, h1, h2⟩ := z_st_ex (a := t * v 4) (by omega) hp
  obtain ⟨a1, -, a3, a4⟩ := zfind_spec (fun s => zsp v s t == p) (v 0) 0 ⟨s, Nat.zero_le _, by omega, by
    show (zsp v s t == p) = true
    unfold zsp
    rw [h2]
    exact beq_self_eq_true _⟩
  refine ⟨by unfold zst; omega, by unfold zst; exact beq_iff_eq.mp a3, fun j hj e => ?_⟩
  have h9 := a4 j (Nat.zero_le _) hj
  have h8 : (zsp v j t == p) = false := h9
  rw [e] at h8
  simp at h8
theorem z_low {s : Nat} (hs : s < 4096) (h0 : s ≠ 0) : zlow s < 12 ∧ s.testBit (zlow s) = true ∧ ∀ j, j < zlow s → s.testBit j = false := by
  have hex : ∃ j, 0 ≤ j ∧ j < 0 + 12 ∧ s.testBit j = true := by
    obtain ⟨i, hi⟩ := Nat.exists_testBit_of_ne_zero h0
    refine ⟨i, Nat.zero_le _, ?_, hi⟩
    by_cases h : i < 12
    · omega
    · have : s.testBit i = false := Nat.testBit_lt_two_pow (Nat.lt_of_lt_of_le hs (by
        have : 2 ^ 12 ≤ 2 ^ i := Nat.pow_le_pow_right (by decide) (by omega)
        omega))
      rw [this] at hi
      cases hi
  obtain ⟨a1, -, a3, a4⟩ := zfind_spec s.testBit 12 0 hex
  exact ⟨by unfold zlow; omega, a3, fun j hj => a4 j (Nat.zero_le _) hj⟩
theorem m_bits : ∀ s, s < 4096 → spX4_bits (Int32.ofNat s) = some (Int32.ofNat (zpop s)) := by decide +kernel
section ZM
variable {V : hf_V} {v : Nat → Nat}
theorem m_stallAt (S : hf_sv V v) {p t : Nat} (hp : p < v 0) (h0 : v 0 ≤ 8) (ht : t < 1000) (h4 : v 4 < 1000) : spX4_stallAt (Int32.ofNat p) (Int32.ofNat t) V = some (Int32.ofNat (zst v p t), V) := by
  obtain ⟨a1, a2, a3⟩ := z_st t hp
  unfold spX4_stallAt
  refine hf_loop (fun f i => lpX4_stallAt_2 f (Int32.ofNat p) (Int32.ofNat t) (Int32.ofNat i) V) (zst v p t) _ (fun i f hi => ?_) (fun f => ?_) (fuel := hf_N) (by unfold hf_N; omega)
  · show ndX4_stallAt_2 (lpX4_stallAt_2 f) _ _ _ _ = _
    unfold ndX4_stallAt_2
    have h5 : zsp v i t < v 0 := Nat.mod_lt _ (by omega)
    simp (disch := omega) only [z_lit, z_add, z_mul, z_sub, z_div, z_rem, Option.bind_some, z_le, z_lt, z_eq, hf_b2_some, hf_let_eq, z_shl, z_shr, z_and, z_or, z_nd, z_nd2, m_spotAt S, if_neg (a3 i hi)]
  · show ndX4_stallAt_2 (lpX4_stallAt_2 f) _ _ _ _ = _
    unfold ndX4_stallAt_2
    simp (disch := omega) only [z_lit, z_add, z_mul, z_sub, z_div, z_rem, Option.bind_some, z_le, z_lt, z_eq, hf_b2_some, hf_let_eq, z_shl, z_shr, z_and, z_or, z_nd, z_nd2, m_spotAt S, a2, if_true]
theorem m_leastOf {s : Nat} (hs : s < 4096) (h0 : s ≠ 0) : spX4_leastOf (Int32.ofNat s) V = some (Int32.ofNat (zlow s), V) := by
  obtain ⟨a1, a2, a3⟩ := z_low hs h0
  unfold spX4_leastOf
  refine hf_loop (fun f i => lpX4_leastOf_2 f (Int32.ofNat s) (Int32.ofNat i) V) (zlow s) _ (fun i f hi => ?_) (fun f => ?_) (fuel := hf_N) (by unfold hf_N; omega)
  · show ndX4_leastOf_2 (lpX4_leastOf_2 f) _ _ _ = _
    unfold ndX4_leastOf_2
    simp (disch := omega) only [z_lit, z_add, z_mul, z_sub, z_div, z_rem, Option.bind_some, z_le, z_lt, z_eq, hf_b2_some, hf_let_eq, z_shl, z_shr, z_and, z_or, z_nd, z_nd2, m_isOf, a3 i hi, if_true, if_false]
    rfl
  · show ndX4_leastOf_2 (lpX4_leastOf_2 f) _ _ _ = _
    unfold ndX4_leastOf_2
    simp (disch := omega) only [z_lit, z_add, z_mul, z_sub, z_div, z_rem, Option.bind_some, z_le, z_lt, z_eq, hf_b2_some, hf_let_eq, z_shl, z_shr, z_and, z_or, z_nd, z_nd2, m_isOf, a2, if_true, if_false]
    rfl
theorem m_unseen (S : hf_sv V v) {b : Nat} (hn : v 1 ≤ 12) (hm : v 2 ≤ 4) (hb : b < 4) : spX4_unseen (Int32.ofNat b) V = some (Int32.ofNat (hf_nd (zats v) (zsaw v b)), V) := by
  unfold spX4_unseen
  simp (disch := omega) only [m_atStalls S, m_sawOf S, hf_b2_some, z_nd]
/-- how many of a set fit a half so -/
def zfg (v : Nat → Nat) (s h w : Nat) : Nat := zsum (fun o => if o ≠ h ∧ s.testBit o = true ∧ zfo v o h = w then 1 else 0) (v 1)
theorem zsum_le (f : Nat → Nat) (c : Nat) (hf : ∀ i, f i ≤ c) : ∀ k, zsum f k ≤ c * k
  | 0 => Nat.zero_le _
  | k + 1 => by
    have := zsum_le f c hf k
    have := hf k
    unfold zsum
    rw [Nat.mul_add]
    omega
theorem zfo_le (v : Nat → Nat) (a b : Nat) : zfo v a b ≤ 2 := by
  unfold zfo zft
  repeat' split
  all_goals omega
theorem m_fitting (S : hf_sv V v) {s h w : Nat} (hn : v 1 ≤ 12) (hs : s < 2147483648) (hh : h < 12) (hw : w < 10) : spX4_fitting (Int32.ofNat s) (Int32.ofNat h) (Int32.ofNat w) V = some (Int32.ofNat (zfg v s h w), V) := by
  unfold spX4_fitting zfg
  refine hf_loop (fun f i => lpX4_fitting_6 f (Int32.ofNat s) (Int32.ofNat h) (Int32.ofNat w) (Int32.ofNat (zsum (fun o => if o ≠ h ∧ s.testBit o = true ∧ zfo v o h = w then 1 else 0) i)) (Int32.ofNat i) V) (v 1) _ (fun i f hi => ?_) (fun f => ?_) (fuel := hf_N) (by unfold hf_N; omega)
  · show ndX4_fitting_6 (lpX4_fitting_6 f) _ _ _ _ _ _ = _
    unfold ndX4_fitting_6 ndX4_fitting_49 ndX4_fitting_50
    have b1 := S.b 1
    have b2 := zfo_le v i h
    simp (disch := omega) only [z_lit, z_add, z_mul, z_sub, z_div, z_rem, Option.bind_some, z_le, z_lt, z_eq, hf_b2_some, hf_let_eq, z_shl, z_shr, z_and, z_or, z_nd, z_nd2, S.ld, m_isOf, m_fitOf S, if_neg (show ¬ v 1 ≤ i by omega), zsum]
    by_cases h1 : i = h
    · have h1' : ¬ i ≠ h := fun z => z h1
      simp (disch := omega) only [z_lit, z_add, z_mul, z_sub, z_div, z_rem, Option.bind_some, z_le, z_lt, z_eq, hf_b2_some, hf_let_eq, z_shl, z_shr, z_and, z_or, z_nd, z_nd2, h1, h1', if_true, if_false, false_and, ne_eq, not_true_eq_false]
    · by_cases h2 : s.testBit i = true
      · by_cases h3 : zfo v i h = w
        · simp (disch := omega) only [z_lit, z_add, z_mul, z_sub, z_div, z_rem, Option.bind_some, z_le, z_lt, z_eq, hf_b2_some, hf_let_eq, z_shl, z_shr, z_and, z_or, z_nd, z_nd2, h1, h2, h3, if_true, if_false, ne_eq, not_false_eq_true, true_and, and_self]
          rfl
        · simp (disch := omega) only [z_lit, z_add, z_mul, z_sub, z_div, z_rem, Option.bind_some, z_le, z_lt, z_eq, hf_b2_some, hf_let_eq, z_shl, z_shr, z_and, z_or, z_nd, z_nd2, h1, h2, h3, if_true, if_false, ne_eq, not_false_eq_true, true_and, and_self]
          rfl
      · simp (disch := omega) only [z_lit, z_add, z_mul, z_sub, z_div, z_rem, Option.bind_some, z_le, z_lt, z_eq, hf_b2_some, hf_let_eq, z_shl, z_shr, z_and, z_or, z_nd, z_nd2, h1, h2, if_true, if_false, ne_eq, not_false_eq_true, true_and, and_self, false_and, Bool.false_eq_true]
  · show ndX4_fitting_6 (lpX4_fitting_6 f) _ _ _ _ _ _ = _
    unfold ndX4_fitting_6
    have b1 := S.b 1
    simp (disch := omega) only [z_lit, z_add, z_mul, z_sub, z_div, z_rem, Option.bind_some, z_le, z_lt, z_eq, hf_b2_some, hf_let_eq, z_shl, z_shr, z_and, z_or, z_nd, z_nd2, S.ld, Nat.le_refl, if_true]
end ZM
