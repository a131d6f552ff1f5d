set_option maxRecDepth 100000
/-! STAGE 2, plain Lean. Small numbers: Int32.ofNat n; sets: bits of n -/
theorem z_lit (n : Nat) : (OfNat.ofNat n : Int32) = Int32.ofNat n := rfl
theorem z_add (a b : Nat) : Int32.ofNat a + Int32.ofNat b = Int32.ofNat (a + b) := (Int32.ofNat_add a b).symm
theorem z_mul (a b : Nat) : Int32.ofNat a * Int32.ofNat b = Int32.ofNat (a * b) := (Int32.ofNat_mul a b).symm
theorem z_sub {a b : Nat} (h : b ≤ a) : Int32.ofNat a - Int32.ofNat b = Int32.ofNat (a - b) := (Int32.ofNat_sub a b h).symm
theorem z_div {a b : Nat} (ha : a < 2147483648) (hb : b < 2147483648) : Int32.ofNat a / Int32.ofNat b = Int32.ofNat (a / b) := (Int32.ofNat_div ha hb).symm
theorem z_rem (a b : Nat) : Int32.ofNat a - Int32.ofNat (a / b * b) = Int32.ofNat (a % b) := by
  rw [z_sub (Nat.div_mul_le_self a b)]
  congr 1
  have := Nat.div_add_mod a b
  rw [Nat.mul_comm] at this
  omega
theorem z_le {a b : Nat} (ha : a < 2147483648) (hb : b < 2147483648) : Int32.ofNat a ≤ Int32.ofNat b ↔ a ≤ b := Int32.ofNat_le_iff_le ha hb
theorem z_lt {a b : Nat} (ha : a < 2147483648) (hb : b < 2147483648) : Int32.ofNat a < Int32.ofNat b ↔ a < b := Int32.ofNat_lt_iff_lt ha hb
theorem z_cl {n : Nat} (h : n < 2147483648) : (Int32.ofNat n).toNatClampNeg = n := Int32.toNatClampNeg_ofNat_of_lt h
theorem z_eq {a b : Nat} (ha : a < 2147483648) (hb : b < 2147483648) : Int32.ofNat a = Int32.ofNat b ↔ a = b := by
  constructor
  · intro e
    rw [← z_cl ha, ← z_cl hb, e]
  · intro e
    rw [e]
theorem z_n0 (a : Nat) (ha : a < 2147483648) : ¬ Int32.ofNat a < 0 := by
  intro h
  have := (z_lt (b := 0) ha (by decide)).mp h
  omega
theorem z_ld {α : Type} {n : Nat} {f : Nat → α} {i : Nat} (h : i < n) (h2 : i < 2147483648) : hf_ld n f (Int32.ofNat i) = some (f i) := by
  unfold hf_ld
  rw [z_cl h2, if_neg]
  rintro (h3 | h3)
  · exact z_n0 i h2 h3
  · omega
theorem z_sd {α τ : Type} {n i : Nat} {x : Nat → α} {K : α → Option τ} (h : i < n) (h2 : i < 2147483648) : hf_sd n (Int32.ofNat i) x K = K (x i) := by
  unfold hf_sd
  rw [z_cl h2, if_neg]
  rintro (h3 | h3)
  · exact z_n0 i h2 h3
  · omega
theorem z_bv (a : Nat) : (Int32.ofNat a).toBitVec = BitVec.ofNat 32 a := rfl
theorem z_and (a b : Nat) : Int32.ofNat a &&& Int32.ofNat b = Int32.ofNat (a &&& b) := by
  apply Int32.toBitVec.inj
  rw [Int32.toBitVec_and, z_bv, z_bv, z_bv]
  apply BitVec.eq_of_getLsbD_eq
  intro i hi
  simp [BitVec.getLsbD_ofNat, hi]
theorem z_or (a b : Nat) : Int32.ofNat a ||| Int32.ofNat b = Int32.ofNat (a ||| b) := by
  apply Int32.toBitVec.inj
  rw [Int32.toBitVec_or, z_bv, z_bv, z_bv]
  apply BitVec.eq_of_getLsbD_eq
  intro i hi
  simp [BitVec.getLsbD_ofNat, hi]
/-- without -/
def hf_nd (a b : Nat) : Nat := Nat.bitwise (fun x y => x && !y) a b
theorem hf_nd_bit (a b i : Nat) : (hf_nd a b).testBit i = (a.testBit i && !b.testBit i) := by
  unfold hf_nd
  rw [Nat.testBit_bitwise rfl]
theorem z_nd (a b : Nat) : Int32.ofNat a &&& (Int32.ofNat b ^^^ (-1)) = Int32.ofNat (hf_nd a b) := by
  apply Int32.toBitVec.inj
  rw [Int32.toBitVec_and, Int32.toBitVec_xor, z_bv, z_bv, z_bv]
  apply BitVec.eq_of_getLsbD_eq
  intro i hi
  have h1 : (-1 : Int32).toBitVec = BitVec.allOnes 32 := by decide
  rw [h1]
  simp only [BitVec.getLsbD_and, BitVec.getLsbD_xor, BitVec.getLsbD_ofNat, hi, decide_true, Bool.true_and, hf_nd_bit, BitVec.getLsbD_allOnes, Bool.xor_true]
theorem z_nd2 (a b : Nat) : Int32.ofNat a &&& (Int32.ofNat b ^^^ (-Int32.ofNat 1)) = Int32.ofNat (hf_nd a b) := z_nd a b
theorem z_m31 {k : Nat} (h : k < 32) : Int32.ofNat (k &&& 31) = Int32.ofNat k := by
  congr 1
  exact Nat.and_two_pow_sub_one_of_lt_two_pow (n := 5) h
theorem z_shl {a k : Nat} (h : k < 32) : Int32.ofNat a <<< Int32.ofNat (k &&& 31) = Int32.ofNat (a <<< k) := by
  rw [z_m31 h]
  apply Int32.toBitVec.inj
  have hm : ∀ k, k < 32 → (BitVec.ofNat 32 k).smod 32 = BitVec.ofNat 32 k := by decide
  rw [Int32.toBitVec_shiftLeft, z_bv, z_bv, hm k h, z_bv]
  apply BitVec.eq_of_getLsbD_eq
  intro i hi
  rw [BitVec.shiftLeft_eq', BitVec.toNat_ofNat, Nat.mod_eq_of_lt (by omega)]
  simp only [BitVec.getLsbD_shiftLeft, BitVec.getLsbD_ofNat, hi, decide_true, Bool.true_and, Nat.testBit_shiftLeft]
  by_cases h9 : k ≤ i
  · simp [h9, Nat.not_lt.mpr h9, show i - k < 32 by omega]
  · simp [h9, Nat.lt_of_not_le h9]
theorem z_shr {a k : Nat} (h : k < 32) (ha : a < 2147483648) : Int32.ofNat a >>> Int32.ofNat (k &&& 31) = Int32.ofNat (a >>> k) := by
  rw [z_m31 h]
  apply Int32.toBitVec.inj
  have hm : ∀ k, k < 32 → (BitVec.ofNat 32 k).smod 32 = BitVec.ofNat 32 k := by decide
  rw [Int32.toBitVec_shiftRight, z_bv, z_bv, hm k h, z_bv]
  apply BitVec.eq_of_getLsbD_eq
  intro i hi
  rw [BitVec.sshiftRight_eq', BitVec.toNat_ofNat, Nat.mod_eq_of_lt (by omega : k < 2 ^ 32)]
  have hms : (BitVec.ofNat 32 a).msb = false := by
    rw [BitVec.msb_eq_decide]
    simp only [BitVec.toNat_ofNat, decide_eq_false_iff_not]
    omega
  rw [BitVec.getLsbD_sshiftRight, hms]
  simp only [BitVec.getLsbD_ofNat, hi, decide_true, Bool.true_and, Nat.testBit_shiftRight]
  by_cases h9 : k + i < 32
  · simp [h9, Nat.not_le.mpr hi]
  · simp only [h9]
    have : a.testBit (k + i) = false := Nat.testBit_lt_two_pow (Nat.lt_of_lt_of_le ha (by
      have : 2 ^ 31 ≤ 2 ^ (k + i) := Nat.pow_le_pow_right (by decide) (by omega)
      omega))
    simp [this]
/-- a counted loop -/
theorem hf_loop {τ : Type} (G : Nat → Nat → Option τ) (n : Nat) (r : Option τ) (hstep : ∀ i f, i < n → G (f + 1) i = G f (i + 1)) (hend : ∀ f, G (f + 1) n = r) {fuel : Nat} (h : n < fuel) : G fuel 0 = r := by
  have key : ∀ k i f, i + k = n → k < f → G f i = r := by
    intro k
    induction k with
    | zero =>
      intro i f hi hf
      obtain ⟨g, rfl⟩ := Nat.exists_eq_succ_of_ne_zero (show f ≠ 0 by omega)
      rw [show i = n by omega]
      exact hend g
    | succ k ih =>
      intro i f hi hf
      obtain ⟨g, rfl⟩ := Nat.exists_eq_succ_of_ne_zero (show f ≠ 0 by omega)
      rw [hstep i g (by omega)]
      exact ih (i + 1) g (by omega) (by omega)
  exact key n 0 fuel (by omega) h
theorem hf_b2_some {α β τ : Type} (a : α) (b : β) (K : α → β → Option τ) : hf_b2 (some (a, b)) K = K a b := rfl
theorem hf_let_eq {α β : Type} (a : α) (f : α → β) : hf_let a f = f a := rfl
set_option maxRecDepth 100000
set_option maxHeartbeats 1000000
/-! the model's reads over said, seen as Nats v -/
def hf_sv (V : hf_V) (v : Nat → Nat) : Prop := ∀ k, V.2.2.2.1 20 k = Int32.ofNat (v k) ∧ v k < 16777216
theorem hf_sv.b {V : hf_V} {v : Nat → Nat} (S : hf_sv V v) (k : Nat) : v k < 16777216 := (S k).2
theorem hf_sv.ld {V : hf_V} {v : Nat → Nat} (S : hf_sv V v) {i : Nat} (h : i < 123) : hf_ld 123 (V.2.2.2.1 20) (Int32.ofNat i) = some (Int32.ofNat (v i)) := by
  rw [z_ld h (by omega), (S i).1]
theorem z_valid (x : Int32) (n : Nat) (hn : n < 2147483648) : (∃ k, k < n ∧ x = Int32.ofNat k) ∨ x < 0 ∨ (¬ x < 0 ∧ Int32.ofNat n ≤ x) := by
  by_cases h0 : x < 0
  · exact Or.inr (Or.inl h0)
  by_cases h1 : Int32.ofNat n ≤ x
  · exact Or.inr (Or.inr ⟨h0, h1⟩)
  left
  have h2 : (0 : Int32) ≤ x := Int32.not_lt.mp h0
  refine ⟨x.toNatClampNeg, ?_, (Int32.ofNat_toNatClampNeg x h2).symm⟩
  have h3 : x < Int32.ofNat n := Int32.not_le.mp h1
  have h4 := Int32.ofNat_toNatClampNeg x h2
  rw [← h4] at h3
  exact (z_lt (Int32.toNatClampNeg_lt x) hn).mp h3
/-- sets out of places; joins -/
def zset (p : Nat → Bool) : Nat → Nat
  | 0 => 0
  | k + 1 => zset p k ||| (if p k then 1 <<< k else 0)
def zor (f : Nat → Nat) : Nat → Nat
  | 0 => 0
  | k + 1 => zor f k ||| f k
def zsum (f : Nat → Nat) : Nat → Nat
  | 0 => 0
  | k + 1 => zsum f k + f k
def zpr (v : Nat → Nat) (h : Nat) : Nat := if v 3 < v 6 then v (10 + 5 * h + 2) else v 7
def zsp (v : Nat → Nat) (s t : Nat) : Nat := (s + t * v 4) % v 0
/-- the first place that is so -/
def zfind (p : Nat → Bool) : Nat → Nat → Nat
  | 0, i => i
  | k + 1, i => if p i then i else zfind p k (i + 1)
theorem zfind_spec (p : Nat → Bool) : ∀ k i, (∃ j, i ≤ j ∧ j < i + k ∧ p j = true) → zfind p k i < i + k ∧ i ≤ zfind p k i ∧ p (zfind p k i) = true ∧ ∀ j, i ≤ j → j < zfind p k i → p j = false
  | 0, i, ⟨j, h1, h2, h3⟩ => by omega
  | k + 1, i, ⟨j, h1, h2, h3⟩ => by
    unfold zfind
    by_cases h : p i = true
    · rw [if_pos h]
      exact ⟨by omega, Nat.le_refl _, h, fun j h1 h2 => by omega⟩
    · rw [if_neg h]
      have hne : i ≠ j := fun e => h (by rw [e]; exact h3)
      obtain ⟨a1, a2, a3, a4⟩ := zfind_spec p k (i + 1) ⟨j, by omega, by omega, h3⟩
      refine ⟨by omega, by omega, a3, fun j' h4 h5 => ?_⟩
      by_cases e : j' = i
      · rw [e]; exact Bool.eq_false_iff.mpr h
      · exact a4 j' (by omega) h5
def zst (v : Nat → Nat) (p t : Nat) : Nat := zfind (fun s => zsp v s t == p) (v 0) 0
def zlow (s : Nat) : Nat := zfind s.testBit 12 0
def zpop (s : Nat) : Nat := zsum (fun i => if s.testBit i then 1 else 0) 12
def zap (a b : Nat) : Nat := if a ≤ b then b - a else a - b
def zfar (v : Nat → Nat) (a b : Nat) : Nat := if 2 * zap a b ≤ v 0 then zap a b else v 0 - zap a b
def zft (v : Nat → Nat) (a b : Nat) : Nat := if v (10 + 5 * a + 1) = v (10 + 5 * b + 1) then 0 else if zap (v (10 + 5 * a + 0)) (v (10 + 5 * b + 0)) = 0 then 2 else if v 5 < zap (v (10 + 5 * a + 0)) (v (10 + 5 * b + 0)) then 0 else 1
def zfo (v : Nat → Nat) (a b : Nat) : Nat := if v (10 + 5 * a + 4) = 1 then 2 else if v (10 + 5 * b + 4) = 1 then 2 else zft v a b
def zhas (v : Nat → Nat) (b : Nat) : Nat := zset (fun h => v (10 + 5 * h + 3) == 100 + b) (v 1)
def zat (v : Nat → Nat) (s : Nat) : Nat := zset (fun h => v (10 + 5 * h + 3) == s) (v 1)
def zats (v : Nat → Nat) : Nat := zset (fun h => decide (v (10 + 5 * h + 3) < 100)) (v 1)
def zsaw (v : Nat → Nat) (b : Nat) : Nat := zor (fun o => if (v (70 + 4 * b + 3)).testBit o then v (70 + 4 * o + 2) else 0) (v 2)
theorem z_bit1 (s k : Nat) : ((s >>> k) &&& 1 = 1) ↔ s.testBit k = true := by
  rw [Nat.testBit, Nat.and_comm, bne_iff_ne]
  have h : 1 &&& (s >>> k) = (s >>> k) % 2 := by rw [Nat.and_comm]; exact Nat.and_one_is_mod _
  rw [h]
  omega
theorem m_isOf {s k : Nat} (hs : s < 2147483648) (hk : k < 32) : spX4_isOf (Int32.ofNat s) (Int32.ofNat k) = some (Int32.ofNat (if s.testBit k then 1 else 0)) := by
  unfold spX4_isOf
  have h1 : (s >>> k) &&& 1 < 2147483648 := Nat.lt_of_le_of_lt Nat.and_le_right (by decide)
  simp only [z_lit, z_and, z_shr hk hs, z_eq h1 (show 1 < 2147483648 by decide), z_bit1]
  by_cases h : s.testBit k = true
  · simp [h]
  · simp [h]
section ZM
variable {V : hf_V} {v : Nat → Nat}
theorem m_halfOf (S : hf_sv V v) {h w : Nat} (hh : 10 + 5 * h + w < 123) : spX4_halfOf (Int32.ofNat h) (Int32.ofNat w) V = some (Int32.ofNat (v (10 + 5 * h + w)), V) := by
  unfold spX4_halfOf
  simp (disch := omega) only [z_lit, z_add, z_mul, z_sub, z_div, z_rem, Option.bind_some, z_le, z_lt, z_eq, hf_b2_some, hf_let_eq, z_shl, z_shr, z_and, z_or, z_nd, z_nd2, S.ld]
theorem m_buyerOf (S : hf_sv V v) {b w : Nat} (hh : 70 + 4 * b + w < 123) : spX4_buyerOf (Int32.ofNat b) (Int32.ofNat w) V = some (Int32.ofNat (v (70 + 4 * b + w)), V) := by
  unfold spX4_buyerOf
  simp (disch := omega) only [z_lit, z_add, z_mul, z_sub, z_div, z_rem, Option.bind_some, z_le, z_lt, z_eq, hf_b2_some, hf_let_eq, z_shl, z_shr, z_and, z_or, z_nd, z_nd2, S.ld]
theorem m_isFair (S : hf_sv V v) : spX4_isFair V = some (Int32.ofNat (if v 0 = 0 then 0 else 1), V) := by
  unfold spX4_isFair
  have b0 := S.b 0
  simp (disch := omega) only [z_lit, z_add, z_mul, z_sub, z_div, z_rem, Option.bind_some, z_le, z_lt, z_eq, hf_b2_some, hf_let_eq, z_shl, z_shr, z_and, z_or, z_nd, z_nd2, S.ld]
  by_cases h : v 0 = 0
  · simp [h]
  · rw [if_neg (by omega), if_neg h]
theorem m_isHalf (S : hf_sv V v) {k : Nat} (hk : k < v 1) : spX4_isHalf (Int32.ofNat k) V = some (Int32.ofNat 1, V) := by
  unfold spX4_isHalf
  have b1 := S.b 1
  rw [if_neg (z_n0 k (by omega))]
  simp (disch := omega) only [z_lit, z_add, z_mul, z_sub, z_div, z_rem, Option.bind_some, z_le, z_lt, z_eq, hf_b2_some, hf_let_eq, z_shl, z_shr, z_and, z_or, z_nd, z_nd2, S.ld, if_neg (show ¬ v 1 ≤ k by omega)]
theorem m_isHalfN (S : hf_sv V v) {x : Int32} (hx : x < 0 ∨ (¬ x < 0 ∧ Int32.ofNat (v 1) ≤ x)) : spX4_isHalf x V = some (Int32.ofNat 0, V) := by
  unfold spX4_isHalf
  rcases hx with hx | ⟨h0, hx⟩
  · rw [if_pos hx]; rfl
  · rw [if_neg h0]
    simp (disch := omega) only [z_lit, z_add, z_mul, z_sub, z_div, z_rem, Option.bind_some, z_le, z_lt, z_eq, hf_b2_some, hf_let_eq, z_shl, z_shr, z_and, z_or, z_nd, z_nd2, S.ld, if_pos hx]
theorem m_isBuyer (S : hf_sv V v) {k : Nat} (hk : k < v 2) : spX4_isBuyer (Int32.ofNat k) V = some (Int32.ofNat 1, V) := by
  unfold spX4_isBuyer
  have b1 := S.b 2
  rw [if_neg (z_n0 k (by omega))]
  simp (disch := omega) only [z_lit, z_add, z_mul, z_sub, z_div, z_rem, Option.bind_some, z_le, z_lt, z_eq, hf_b2_some, hf_let_eq, z_shl, z_shr, z_and, z_or, z_nd, z_nd2, S.ld, if_neg (show ¬ v 2 ≤ k by omega)]
theorem m_isBuyerN (S : hf_sv V v) {x : Int32} (hx : x < 0 ∨ (¬ x < 0 ∧ Int32.ofNat (v 2) ≤ x)) : spX4_isBuyer x V = some (Int32.ofNat 0, V) := by
  unfold spX4_isBuyer
  rcases hx with hx | ⟨h0, hx⟩
  · rw [if_pos hx]; rfl
  · rw [if_neg h0]
    simp (disch := omega) only [z_lit, z_add, z_mul, z_sub, z_div, z_rem, Option.bind_some, z_le, z_lt, z_eq, hf_b2_some, hf_let_eq, z_shl, z_shr, z_and, z_or, z_nd, z_nd2, S.ld, if_pos hx]
theorem m_isDusk (S : hf_sv V v) : spX4_isDusk V = some (Int32.ofNat (if v 3 < v 6 then 0 else 1), V) := by
  unfold spX4_isDusk
  have b3 := S.b 3
  have b6 := S.b 6
  simp (disch := omega) only [z_lit, z_add, z_mul, z_sub, z_div, z_rem, Option.bind_some, z_le, z_lt, z_eq, hf_b2_some, hf_let_eq, z_shl, z_shr, z_and, z_or, z_nd, z_nd2, S.ld]
  by_cases h : v 3 < v 6
  · simp only [h, if_true]
  · simp only [h, if_false]
theorem m_priceOf (S : hf_sv V v) {h : Nat} (hh : h < 20) : spX4_priceOf (Int32.ofNat h) V = some (Int32.ofNat (zpr v h), V) := by
  unfold spX4_priceOf zpr
  simp (disch := omega) only [z_lit, z_add, z_mul, z_sub, z_div, z_rem, Option.bind_some, z_le, z_lt, z_eq, hf_b2_some, hf_let_eq, z_shl, z_shr, z_and, z_or, z_nd, z_nd2, S.ld, m_isDusk S, m_halfOf S]
  by_cases hc : v 3 < v 6
  · simp only [hc, if_true]
  · simp only [hc, if_false]
    simp (disch := omega) only [z_lit, z_add, z_mul, z_sub, z_div, z_rem, Option.bind_some, z_le, z_lt, z_eq, hf_b2_some, hf_let_eq, z_shl, z_shr, z_and, z_or, z_nd, z_nd2]
    rfl
theorem m_spotAt (S : hf_sv V v) {s t : Nat} (hst : 0 < v 0) (hs : s < 1000) (ht : t < 1000) (h4 : v 4 < 1000) : spX4_spotAt (Int32.ofNat s) (Int32.ofNat t) V = some (Int32.ofNat (zsp v s t), V) := by
  unfold spX4_spotAt zsp
  have b0 := S.b 0
  have h5 : t * v 4 ≤ 1000 * 1000 := Nat.mul_le_mul (by omega) (by omega)
  simp (disch := omega) only [z_lit, z_add, z_mul, z_sub, z_div, z_rem, Option.bind_some, z_le, z_lt, z_eq, hf_b2_some, hf_let_eq, z_shl, z_shr, z_and, z_or, z_nd, z_nd2, S.ld, if_neg (show ¬ v 0 = 0 by omega)]
theorem m_apart {a b : Nat} (ha : a < 16777216) (hb : b < 16777216) : spX4_apart (Int32.ofNat a) (Int32.ofNat b) V = some (Int32.ofNat (zap a b), V) := by
  unfold spX4_apart zap
  simp (disch := omega) only [z_lit, z_add, z_mul, z_sub, z_div, z_rem, Option.bind_some, z_le, z_lt, z_eq, hf_b2_some, hf_let_eq, z_shl, z_shr, z_and, z_or, z_nd, z_nd2]
  by_cases h : a ≤ b
  · simp (disch := omega) only [z_lit, z_add, z_mul, z_sub, z_div, z_rem, Option.bind_some, z_le, z_lt, z_eq, hf_b2_some, hf_let_eq, z_shl, z_shr, z_and, z_or, z_nd, z_nd2, h, if_true]
  · simp (disch := omega) only [z_lit, z_add, z_mul, z_sub, z_div, z_rem, Option.bind_some, z_le, z_lt, z_eq, hf_b2_some, hf_let_eq, z_shl, z_shr, z_and, z_or, z_nd, z_nd2, h, if_false]
theorem m_far (S : hf_sv V v) {a b : Nat} (ha : a < v 0) (hb : b < v 0) (h0 : v 0 < 1000) : spX4_far (Int32.ofNat a) (Int32.ofNat b) V = some (Int32.ofNat (zfar v a b), V) := by
  unfold spX4_far zfar zap ndX4_far_14
  simp (disch := omega) only [z_lit, z_add, z_mul, z_sub, z_div, z_rem, Option.bind_some, z_le, z_lt, z_eq, hf_b2_some, hf_let_eq, z_shl, z_shr, z_and, z_or, z_nd, z_nd2, S.ld]
  by_cases h : a ≤ b
  · simp (disch := omega) only [z_lit, z_add, z_mul, z_sub, z_div, z_rem, Option.bind_some, z_le, z_lt, z_eq, hf_b2_some, hf_let_eq, z_shl, z_shr, z_and, z_or, z_nd, z_nd2, h, if_true, S.ld]
    by_cases h2 : 2 * (b - a) ≤ v 0
    · simp only [h2, if_true]
    · simp only [h2, if_false]
  · simp (disch := omega) only [z_lit, z_add, z_mul, z_sub, z_div, z_rem, Option.bind_some, z_le, z_lt, z_eq, hf_b2_some, hf_let_eq, z_shl, z_shr, z_and, z_or, z_nd, z_nd2, h, if_false, S.ld]
    by_cases h2 : 2 * (a - b) ≤ v 0
    · simp only [h2, if_true]
    · simp only [h2, if_false]
theorem zap_lt {a b n : Nat} (ha : a < n) (hb : b < n) : zap a b < n := by
  unfold zap
  split <;> omega
theorem m_fitTold (S : hf_sv V v) {a b : Nat} (ha : a < 12) (hb : b < 12) : spX4_fitTold (Int32.ofNat a) (Int32.ofNat b) V = some (Int32.ofNat (zft v a b), V) := by
  unfold spX4_fitTold zft
  have q1 := S.b (10 + 5 * a + 1)
  have q2 := S.b (10 + 5 * b + 1)
  have q3 := S.b (10 + 5 * a + 0)
  have q4 := S.b (10 + 5 * b + 0)
  have q5 := S.b 5
  have q6 := zap_lt q3 q4
  simp (disch := omega) only [z_lit, z_add, z_mul, z_sub, z_div, z_rem, Option.bind_some, z_le, z_lt, z_eq, hf_b2_some, hf_let_eq, z_shl, z_shr, z_and, z_or, z_nd, z_nd2, S.ld, m_halfOf S, m_apart q3 q4]
  by_cases h : v (10 + 5 * a + 1) = v (10 + 5 * b + 1)
  · simp only [h, if_true]
  · simp only [h, if_false]
    by_cases h2 : zap (v (10 + 5 * a + 0)) (v (10 + 5 * b + 0)) = 0
    · simp only [h2, if_true]
    · simp only [h2, if_false]
      by_cases h3 : v 5 < zap (v (10 + 5 * a + 0)) (v (10 + 5 * b + 0))
      · simp only [h3, if_true]
      · simp only [h3, if_false]
theorem m_fitOf (S : hf_sv V v) {a b : Nat} (ha : a < 12) (hb : b < 12) : spX4_fitOf (Int32.ofNat a) (Int32.ofNat b) V = some (Int32.ofNat (zfo v a b), V) := by
  unfold spX4_fitOf zfo
  have q1 := S.b (10 + 5 * a + 4)
  have q2 := S.b (10 + 5 * b + 4)
  simp (disch := omega) only [z_lit, z_add, z_mul, z_sub, z_div, z_rem, Option.bind_some, z_le, z_lt, z_eq, hf_b2_some, hf_let_eq, z_shl, z_shr, z_and, z_or, z_nd, z_nd2, S.ld, m_halfOf S, m_fitTold S]
  by_cases h : v (10 + 5 * a + 4) = 1
  · simp only [h, if_true]
  · simp only [h, if_false]
    by_cases h2 : v (10 + 5 * b + 4) = 1
    · simp only [h2, if_true]
    · simp only [h2, if_false]
theorem m_hasOf (S : hf_sv V v) {b : Nat} (hn : v 1 ≤ 12) (hb : b < 4) : spX4_hasOf (Int32.ofNat b) V = some (Int32.ofNat (zhas v b), V) := by
  unfold spX4_hasOf zhas
  refine hf_loop (fun f i => lpX4_hasOf_4 f (Int32.ofNat b) (Int32.ofNat (zset (fun h => v (10 + 5 * h + 3) == 100 + b) i)) (Int32.ofNat i) V) (v 1) _ (fun i f hi => ?_) (fun f => ?_) (fuel := hf_N) (by unfold hf_N; omega)
  · show ndX4_hasOf_4 (lpX4_hasOf_4 f) _ _ _ _ = _
    unfold ndX4_hasOf_4 ndX4_hasOf_35
    have b1 := S.b 1
    have b2 := S.b (10 + 5 * i + 3)
    simp (disch := omega) only [z_lit, z_add, z_mul, z_sub, z_div, z_rem, Option.bind_some, z_le, z_lt, z_eq, hf_b2_some, hf_let_eq, z_shl, z_shr, z_and, z_or, z_nd, z_nd2, S.ld, m_halfOf S, if_neg (show ¬ v 1 ≤ i by omega)]
    by_cases hc : v (10 + 5 * i + 3) = 100 + b
    · simp only [hc, if_true, zset, beq_self_eq_true]
    · simp only [hc, if_false, zset, beq_eq_false_iff_ne.mpr hc]
      rfl
  · show ndX4_hasOf_4 (lpX4_hasOf_4 f) _ _ _ _ = _
    unfold ndX4_hasOf_4
    have b1 := S.b 1
    simp (disch := omega) only [z_lit, z_add, z_mul, z_sub, z_div, z_rem, Option.bind_some, z_le, z_lt, z_eq, hf_b2_some, hf_let_eq, z_shl, z_shr, z_and, z_or, z_nd, z_nd2, S.ld, Nat.le_refl, if_true]
theorem m_atStall (S : hf_sv V v) {b : Nat} (hn : v 1 ≤ 12) (hb : b < 1000) : spX4_atStall (Int32.ofNat b) V = some (Int32.ofNat (zat v b), V) := by
  unfold spX4_atStall zat
  refine hf_loop (fun f i => lpX4_atStall_4 f (Int32.ofNat b) (Int32.ofNat (zset (fun h => v (10 + 5 * h + 3) == b) i)) (Int32.ofNat i) V) (v 1) _ (fun i f hi => ?_) (fun f => ?_) (fuel := hf_N) (by unfold hf_N; omega)
  · show ndX4_atStall_4 (lpX4_atStall_4 f) _ _ _ _ = _
    unfold ndX4_atStall_4 ndX4_atStall_32
    have b1 := S.b 1
    have b2 := S.b (10 + 5 * i + 3)
    simp (disch := omega) only [z_lit, z_add, z_mul, z_sub, z_div, z_rem, Option.bind_some, z_le, z_lt, z_eq, hf_b2_some, hf_let_eq, z_shl, z_shr, z_and, z_or, z_nd, z_nd2, S.ld, m_halfOf S, if_neg (show ¬ v 1 ≤ i by omega)]
    by_cases hc : v (10 + 5 * i + 3) = b
    · simp only [hc, if_true, zset, beq_self_eq_true]
    · simp only [hc, if_false, zset, beq_eq_false_iff_ne.mpr hc]
      rfl
  · show ndX4_atStall_4 (lpX4_atStall_4 f) _ _ _ _ = _
    unfold ndX4_atStall_4
    have b1 := S.b 1
    simp (disch := omega) only [z_lit, z_add, z_mul, z_sub, z_div, z_rem, Option.bind_some, z_le, z_lt, z_eq, hf_b2_some, hf_let_eq, z_shl, z_shr, z_and, z_or, z_nd, z_nd2, S.ld, Nat.le_refl, if_true]
theorem m_atStalls (S : hf_sv V v) (hn : v 1 ≤ 12) : spX4_atStalls V = some (Int32.ofNat (zats v), V) := by
  unfold spX4_atStalls zats
  refine hf_loop (fun f i => lpX4_atStalls_4 f (Int32.ofNat (zset (fun h => decide (v (10 + 5 * h + 3) < 100)) i)) (Int32.ofNat i) V) (v 1) _ (fun i f hi => ?_) (fun f => ?_) (fuel := hf_N) (by unfold hf_N; omega)
  · show ndX4_atStalls_4 (lpX4_atStalls_4 f) _ _ _ = _
    unfold ndX4_atStalls_4 ndX4_atStalls_33
    have b1 := S.b 1
    have b2 := S.b (10 + 5 * i + 3)
    simp (disch := omega) only [z_lit, z_add, z_mul, z_sub, z_div, z_rem, Option.bind_some, z_le, z_lt, z_eq, hf_b2_some, hf_let_eq, z_shl, z_shr, z_and, z_or, z_nd, z_nd2, S.ld, m_halfOf S, if_neg (show ¬ v 1 ≤ i by omega)]
    by_cases hc : 100 ≤ v (10 + 5 * i + 3)
    · have hc2 : ¬ v (10 + 5 * i + 3) < 100 := by omega
      simp only [hc, hc2, if_true, zset, decide_false]
      rfl
    · have hc2 : v (10 + 5 * i + 3) < 100 := by omega
      simp only [hc, hc2, if_false, zset, decide_true, if_true]
  · show ndX4_atStalls_4 (lpX4_atStalls_4 f) _ _ _ = _
    unfold ndX4_atStalls_4
    have b1 := S.b 1
    simp (disch := omega) only [z_lit, z_add, z_mul, z_sub, z_div, z_rem, Option.bind_some, z_le, z_lt, z_eq, hf_b2_some, hf_let_eq, z_shl, z_shr, z_and, z_or, z_nd, z_nd2, S.ld, Nat.le_refl, if_true]
theorem m_sawOf (S : hf_sv V v) {b : Nat} (hm : v 2 ≤ 4) (hb : b < 4) : spX4_sawOf (Int32.ofNat b) V = some (Int32.ofNat (zsaw v b), V) := by
  unfold spX4_sawOf zsaw
  refine hf_loop (fun f i => lpX4_sawOf_4 f (Int32.ofNat b) (Int32.ofNat (zor (fun o => if (v (70 + 4 * b + 3)).testBit o then v (70 + 4 * o + 2) else 0) i)) (Int32.ofNat i) V) (v 2) _ (fun i f hi => ?_) (fun f => ?_) (fuel := hf_N) (by unfold hf_N; omega)
  · show ndX4_sawOf_4 (lpX4_sawOf_4 f) _ _ _ _ = _
    unfold ndX4_sawOf_4 ndX4_sawOf_38
    have b1 := S.b 2
    have b2 := S.b (70 + 4 * b + 3)
    simp (disch := omega) only [z_lit, z_add, z_mul, z_sub, z_div, z_rem, Option.bind_some, z_le, z_lt, z_eq, hf_b2_some, hf_let_eq, z_shl, z_shr, z_and, z_or, z_nd, z_nd2, S.ld, m_buyerOf S, m_isOf, if_neg (show ¬ v 2 ≤ i by omega)]
    by_cases hc : (v (70 + 4 * b + 3)).testBit i = true
    · simp (disch := omega) only [z_lit, z_add, z_mul, z_sub, z_div, z_rem, Option.bind_some, z_le, z_lt, z_eq, hf_b2_some, hf_let_eq, z_shl, z_shr, z_and, z_or, z_nd, z_nd2, hc, if_true, zor]
      rfl
    · simp (disch := omega) only [z_lit, z_add, z_mul, z_sub, z_div, z_rem, Option.bind_some, z_le, z_lt, z_eq, hf_b2_some, hf_let_eq, z_shl, z_shr, z_and, z_or, z_nd, z_nd2, hc, if_false, zor]
      rfl
  · show ndX4_sawOf_4 (lpX4_sawOf_4 f) _ _ _ _ = _
    unfold ndX4_sawOf_4
    have b1 := S.b 2
    simp (disch := omega) only [z_lit, z_add, z_mul, z_sub, z_div, z_rem, Option.bind_some, z_le, z_lt, z_eq, hf_b2_some, hf_let_eq, z_shl, z_shr, z_and, z_or, z_nd, z_nd2, S.ld, Nat.le_refl, if_true]
end ZM
set_option maxRecDepth 100000
set_option maxHeartbeats 1000000
theorem z_st_ex {st a p : Nat} (h0 : 0 < st) (hp : p < st) : ∃ s, s < st ∧ (s + a) % st = p := by
  refine ⟨(p + (st - a % st)) % st, Nat.mod_lt _ h0, ?_⟩
  have h1 : a % st < st := Nat.mod_lt _ h0
  have h2 : ((p + (st - a % st)) % st + a) % st = ((p + (st - a % st)) + a) % st := by rw [Nat.mod_add_mod]
  rw [h2]
  have h3 := Nat.div_add_mod a st
  have h4 : p + (st - a % st) + a = p + st * (a / st + 1) := by
    rw [Nat.mul_add, Nat.mul_one]
    omega
  rw [h4, Nat.add_mul_mod_self_left]
  exact Nat.mod_eq_of_lt hp
theorem z_st {v : Nat → Nat} {p : Nat} (t : Nat) (hp : p < v 0) : zst v p t < v 0 ∧ zsp v (zst v p t) t = p ∧ ∀ j, j < zst v p t → zsp v j t ≠ p := by
  obtain ⟨s, h1, h2⟩ := z_st_ex (a := t * v 4) (by omega) hp
  obtain ⟨a1, -, a3, a4⟩ := zfind_spec (fun s => zsp v s t == p) (v 0) 0 ⟨s, Nat.zero_le _, by omega, by
    show (zsp v s t == p) = true
    unfold zsp
    rw [h2]
    exact beq_self_eq_true _⟩
  refine ⟨by unfold zst; omega, by unfold zst; exact beq_iff_eq.mp a3, fun j hj e => ?_⟩
  have h9 := a4 j (Nat.zero_le _) hj
  have h8 : (zsp v j t == p) = false := h9
  rw [e] at h8
  simp at h8
theorem z_low {s : Nat} (hs : s < 4096) (h0 : s ≠ 0) : zlow s < 12 ∧ s.testBit (zlow s) = true ∧ ∀ j, j < zlow s → s.testBit j = false := by
  have hex : ∃ j, 0 ≤ j ∧ j < 0 + 12 ∧ s.testBit j = true := by
    obtain ⟨i, hi⟩ := Nat.exists_testBit_of_ne_zero h0
    refine ⟨i, Nat.zero_le _, ?_, hi⟩
    by_cases h : i < 12
    · omega
    · have : s.testBit i = false := Nat.testBit_lt_two_pow (Nat.lt_of_lt_of_le hs (by
        have : 2 ^ 12 ≤ 2 ^ i := Nat.pow_le_pow_right (by decide) (by omega)
        omega))
      rw [this] at hi
      cases hi
  obtain ⟨a1, -, a3, a4⟩ := zfind_spec s.testBit 12 0 hex
  exact ⟨by unfold zlow; omega, a3, fun j hj => a4 j (Nat.zero_le _) hj⟩
theorem m_bits : ∀ s, s < 4096 → spX4_bits (Int32.ofNat s) = some (Int32.ofNat (zpop s)) := by decide +kernel
section ZM
variable {V : hf_V} {v : Nat → Nat}
theorem m_stallAt (S : hf_sv V v) {p t : Nat} (hp : p < v 0) (h0 : v 0 ≤ 8) (ht : t < 1000) (h4 : v 4 < 1000) : spX4_stallAt (Int32.ofNat p) (Int32.ofNat t) V = some (Int32.ofNat (zst v p t), V) := by
  obtain ⟨a1, a2, a3⟩ := z_st t hp
  unfold spX4_stallAt
  refine hf_loop (fun f i => lpX4_stallAt_2 f (Int32.ofNat p) (Int32.ofNat t) (Int32.ofNat i) V) (zst v p t) _ (fun i f hi => ?_) (fun f => ?_) (fuel := hf_N) (by unfold hf_N; omega)
  · show ndX4_stallAt_2 (lpX4_stallAt_2 f) _ _ _ _ = _
    unfold ndX4_stallAt_2
    have h5 : zsp v i t < v 0 := Nat.mod_lt _ (by omega)
    simp (disch := omega) only [z_lit, z_add, z_mul, z_sub, z_div, z_rem, Option.bind_some, z_le, z_lt, z_eq, hf_b2_some, hf_let_eq, z_shl, z_shr, z_and, z_or, z_nd, z_nd2, m_spotAt S, if_neg (a3 i hi)]
  · show ndX4_stallAt_2 (lpX4_stallAt_2 f) _ _ _ _ = _
    unfold ndX4_stallAt_2
    simp (disch := omega) only [z_lit, z_add, z_mul, z_sub, z_div, z_rem, Option.bind_some, z_le, z_lt, z_eq, hf_b2_some, hf_let_eq, z_shl, z_shr, z_and, z_or, z_nd, z_nd2, m_spotAt S, a2, if_true]
theorem m_leastOf {s : Nat} (hs : s < 4096) (h0 : s ≠ 0) : spX4_leastOf (Int32.ofNat s) V = some (Int32.ofNat (zlow s), V) := by
  obtain ⟨a1, a2, a3⟩ := z_low hs h0
  unfold spX4_leastOf
  refine hf_loop (fun f i => lpX4_leastOf_2 f (Int32.ofNat s) (Int32.ofNat i) V) (zlow s) _ (fun i f hi => ?_) (fun f => ?_) (fuel := hf_N) (by unfold hf_N; omega)
  · show ndX4_leastOf_2 (lpX4_leastOf_2 f) _ _ _ = _
    unfold ndX4_leastOf_2
    simp (disch := omega) only [z_lit, z_add, z_mul, z_sub, z_div, z_rem, Option.bind_some, z_le, z_lt, z_eq, hf_b2_some, hf_let_eq, z_shl, z_shr, z_and, z_or, z_nd, z_nd2, m_isOf, a3 i hi, if_true, if_false]
    rfl
  · show ndX4_leastOf_2 (lpX4_leastOf_2 f) _ _ _ = _
    unfold ndX4_leastOf_2
    simp (disch := omega) only [z_lit, z_add, z_mul, z_sub, z_div, z_rem, Option.bind_some, z_le, z_lt, z_eq, hf_b2_some, hf_let_eq, z_shl, z_shr, z_and, z_or, z_nd, z_nd2, m_isOf, a2, if_true, if_false]
    rfl
theorem m_unseen (S : hf_sv V v) {b : Nat} (hn : v 1 ≤ 12) (hm : v 2 ≤ 4) (hb : b < 4) : spX4_unseen (Int32.ofNat b) V = some (Int32.ofNat (hf_nd (zats v) (zsaw v b)), V) := by
  unfold spX4_unseen
  simp (disch := omega) only [m_atStalls S, m_sawOf S, hf_b2_some, z_nd]
/-- how many of a set fit a half so -/
def zfg (v : Nat → Nat) (s h w : Nat) : Nat := zsum (fun o => if o ≠ h ∧ s.testBit o = true ∧ zfo v o h = w then 1 else 0) (v 1)
theorem zsum_le (f : Nat → Nat) (c : Nat) (hf : ∀ i, f i ≤ c) : ∀ k, zsum f k ≤ c * k
  | 0 => Nat.zero_le _
  | k + 1 => by
    have := zsum_le f c hf k
    have := hf k
    unfold zsum
    rw [Nat.mul_add]
    omega
theorem zfo_le (v : Nat → Nat) (a b : Nat) : zfo v a b ≤ 2 := by
  unfold zfo zft
  repeat' split
  all_goals omega
theorem m_fitting (S : hf_sv V v) {s h w : Nat} (hn : v 1 ≤ 12) (hs : s < 2147483648) (hh : h < 12) (hw : w < 10) : spX4_fitting (Int32.ofNat s) (Int32.ofNat h) (Int32.ofNat w) V = some (Int32.ofNat (zfg v s h w), V) := by
  unfold spX4_fitting zfg
  refine hf_loop (fun f i => lpX4_fitting_6 f (Int32.ofNat s) (Int32.ofNat h) (Int32.ofNat w) (Int32.ofNat (zsum (fun o => if o ≠ h ∧ s.testBit o = true ∧ zfo v o h = w then 1 else 0) i)) (Int32.ofNat i) V) (v 1) _ (fun i f hi => ?_) (fun f => ?_) (fuel := hf_N) (by unfold hf_N; omega)
  · show ndX4_fitting_6 (lpX4_fitting_6 f) _ _ _ _ _ _ = _
    unfold ndX4_fitting_6 ndX4_fitting_49 ndX4_fitting_50
    have b1 := S.b 1
    have b2 := zfo_le v i h
    simp (disch := omega) only [z_lit, z_add, z_mul, z_sub, z_div, z_rem, Option.bind_some, z_le, z_lt, z_eq, hf_b2_some, hf_let_eq, z_shl, z_shr, z_and, z_or, z_nd, z_nd2, S.ld, m_isOf, m_fitOf S, if_neg (show ¬ v 1 ≤ i by omega), zsum]
    by_cases h1 : i = h
    · have h1' : ¬ i ≠ h := fun z => z h1
      simp (disch := omega) only [z_lit, z_add, z_mul, z_sub, z_div, z_rem, Option.bind_some, z_le, z_lt, z_eq, hf_b2_some, hf_let_eq, z_shl, z_shr, z_and, z_or, z_nd, z_nd2, h1, h1', if_true, if_false, false_and, ne_eq, not_true_eq_false]
    · by_cases h2 : s.testBit i = true
      · by_cases h3 : zfo v i h = w
        · simp (disch := omega) only [z_lit, z_add, z_mul, z_sub, z_div, z_rem, Option.bind_some, z_le, z_lt, z_eq, hf_b2_some, hf_let_eq, z_shl, z_shr, z_and, z_or, z_nd, z_nd2, h1, h2, h3, if_true, if_false, ne_eq, not_false_eq_true, true_and, and_self]
          rfl
        · simp (disch := omega) only [z_lit, z_add, z_mul, z_sub, z_div, z_rem, Option.bind_some, z_le, z_lt, z_eq, hf_b2_some, hf_let_eq, z_shl, z_shr, z_and, z_or, z_nd, z_nd2, h1, h2, h3, if_true, if_false, ne_eq, not_false_eq_true, true_and, and_self]
          rfl
      · simp (disch := omega) only [z_lit, z_add, z_mul, z_sub, z_div, z_rem, Option.bind_some, z_le, z_lt, z_eq, hf_b2_some, hf_let_eq, z_shl, z_shr, z_and, z_or, z_nd, z_nd2, h1, h2, if_true, if_false, ne_eq, not_false_eq_true, true_and, and_self, false_and, Bool.false_eq_true]
  · show ndX4_fitting_6 (lpX4_fitting_6 f) _ _ _ _ _ _ = _
    unfold ndX4_fitting_6
    have b1 := S.b 1
    simp (disch := omega) only [z_lit, z_add, z_mul, z_sub, z_div, z_rem, Option.bind_some, z_le, z_lt, z_eq, hf_b2_some, hf_let_eq, z_shl, z_shr, z_and, z_or, z_nd, z_nd2, S.ld, Nat.le_refl, if_true]
end ZM
