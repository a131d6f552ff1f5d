set_option maxRecDepth 100000
set_option maxHeartbeats 1000000
/-! the model's acts on said -/
/-- said is v -/
def hf_sd20 (V : hf_V) (v : Nat → Nat) : hf_V := hf_sa V 20 (fun k => Int32.ofNat (v k))
theorem hf_sv.self {V : hf_V} {v : Nat → Nat} (S : hf_sv V v) : hf_sd20 V v = V := by
  unfold hf_sd20 hf_sa
  refine Prod.ext rfl (Prod.ext rfl (Prod.ext rfl (Prod.ext ?_ rfl)))
  funext j
  by_cases e : j = 20
  · simp only [e, if_true]
    funext k
    exact (S k).1.symm
  · simp only [e, if_false]
theorem hf_sd20_sd (V : hf_V) (v w : Nat → Nat) : hf_sd20 (hf_sd20 V v) w = hf_sd20 V w := by
  unfold hf_sd20 hf_sa
  refine Prod.ext rfl (Prod.ext rfl (Prod.ext rfl (Prod.ext ?_ rfl)))
  funext j
  by_cases e : j = 20 <;> simp [e]
theorem hf_sd20_ua (V : hf_V) (v : Nat → Nat) (i x : Nat) : hf_ua (hf_sd20 V v) 20 i (Int32.ofNat x) = hf_sd20 V (zup v i x) := by
  unfold hf_sd20
  rw [hf_ua_sa]
  congr 1
  funext q
  unfold zup
  by_cases e : q = i <;> simp [e]
theorem hf_sv.ua {V : hf_V} {v : Nat → Nat} (S : hf_sv V v) (i x : Nat) : hf_ua V 20 i (Int32.ofNat x) = hf_sd20 V (zup v i x) := by
  have h := hf_sd20_ua V v i x
  rw [S.self] at h
  exact h
theorem hf_sd20_sv (V : hf_V) {v : Nat → Nat} (hv : ∀ k, v k < 16777216) : hf_sv (hf_sd20 V v) v := fun k => ⟨by
  unfold hf_sd20
  rw [hf_sa_at], hv k⟩
theorem zset_congr {p q : Nat → Bool} : ∀ n, (∀ h, h < n → p h = q h) → zset p n = zset q n
  | 0, _ => rfl
  | n + 1, hh => by
    unfold zset
    rw [zset_congr n (fun h hn => hh h (by omega)), hh n (by omega)]
theorem zset_bit (p : Nat → Bool) : ∀ n i, (zset p n).testBit i = (decide (i < n) && p i)
  | 0, i => by
    show (0 : Nat).testBit i = _
    rw [Nat.zero_testBit]
    simp
  | n + 1, i => by
    unfold zset
    rw [Nat.testBit_or, zset_bit p n i]
    by_cases hp : p n = true
    · rw [if_pos hp, Nat.testBit_shiftLeft]
      by_cases e : i = n
      · subst e; simp [hp]
      · by_cases h2 : i < n
        · simp [h2, show i < n + 1 by omega, show ¬ n ≤ i by omega]
        · have h3 : n ≤ i := by omega
          have h4 : (1 : Nat).testBit (i - n) = false := Nat.testBit_lt_two_pow (Nat.lt_of_lt_of_le (by decide : 1 < 2 ^ 1) (Nat.pow_le_pow_right (by decide) (by omega)))
          simp [h2, show ¬ i < n + 1 by omega, h4]
    · rw [if_neg hp, Nat.zero_testBit]
      by_cases e : i = n
      · subst e; simp [Bool.eq_false_iff.mpr hp]
      · by_cases h2 : i < n
        · simp [h2, show i < n + 1 by omega]
        · simp [h2, show ¬ i < n + 1 by omega]
theorem zset_lt (p : Nat → Bool) (n : Nat) : zset p n < 2 ^ n := by
  apply Nat.lt_pow_two_of_testBit
  intro i hi
  rw [zset_bit]
  simp [show ¬ i < n by omega]
