set_option maxRecDepth 100000
/-! STAGE 2, plain Lean. Small numbers: Int32.ofNat n; sets: bits of n -/
theorem z_lit (n : Nat) : (OfNat.ofNat n : Int32) = Int32.ofNat n := rfl
theorem z_add (a b : Nat) : Int32.ofNat a + Int32.ofNat b = Int32.ofNat (a + b) := (Int32.ofNat_add a b).symm
theorem z_mul (a b : Nat) : Int32.ofNat a * Int32.ofNat b = Int32.ofNat (a * b) := (Int32.ofNat_mul a b).symm
theorem z_sub {a b : Nat} (h : b ≤ a) : Int32.ofNat a - Int32.ofNat b = Int32.ofNat (a - b) := (Int32.ofNat_sub a b h).symm
theorem z_div {a b : Nat} (ha : a < 2147483648) (hb : b < 2147483648) : Int32.ofNat a / Int32.ofNat b = Int32.ofNat (a / b) := (Int32.ofNat_div ha hb).symm
theorem z_rem (a b : Nat) : Int32.ofNat a - Int32.ofNat (a / b * b) = Int32.ofNat (a % b) := by
  rw [z_sub (Nat.div_mul_le_self a b)]
  congr 1
  have := Nat.div_add_mod a b
  rw [Nat.mul_comm] at this
  omega
theorem z_le {a b : Nat} (ha : a < 2147483648) (hb : b < 2147483648) : Int32.ofNat a ≤ Int32.ofNat b ↔ a ≤ b := Int32.ofNat_le_iff_le ha hb
theorem z_lt {a b : Nat} (ha : a < 2147483648) (hb : b < 2147483648) : Int32.ofNat a < Int32.ofNat b ↔ a < b := Int32.ofNat_lt_iff_lt ha hb
theorem z_cl {n : Nat} (h : n < 2147483648) : (Int32.ofNat n).toNatClampNeg = n := Int32.toNatClampNeg_ofNat_of_lt h
theorem z_eq {a b : Nat} (ha : a < 2147483648) (hb : b < 2147483648) : Int32.ofNat a = Int32.ofNat b ↔ a = b := by
  constructor
  · intro e
    rw [← z_cl ha, ← z_cl hb, e]
  · intro e
    rw [e]
theorem z_n0 (a : Nat) (ha : a < 2147483648) : ¬ Int32.ofNat a < 0 := by
  intro h
  have := (z_lt (b := 0) ha (by decide)).mp h
  omega
theorem z_ld {α : Type} {n : Nat} {f : Nat → α} {i : Nat} (h : i < n) (h2 : i < 2147483648) : hf_ld n f (Int32.ofNat i) = some (f i) := by
  unfold hf_ld
  rw [z_cl h2, if_neg]
  rintro (h3 | h3)
  · exact z_n0 i h2 h3
  · omega
theorem z_sd {α τ : Type} {n i : Nat} {x : Nat → α} {K : α → Option τ} (h : i < n) (h2 : i < 2147483648) : hf_sd n (Int32.ofNat i) x K = K (x i) := by
  unfold hf_sd
  rw [z_cl h2, if_neg]
  rintro (h3 | h3)
  · exact z_n0 i h2 h3
  · omega
theorem z_bv (a : Nat) : (Int32.ofNat a).toBitVec = BitVec.ofNat 32 a := rfl
theorem z_and (a b : Nat) : Int32.ofNat a &&& Int32.ofNat b = Int32.ofNat (a &&& b) := by
  apply Int32.toBitVec.inj
  rw [Int32.toBitVec_and, z_bv, z_bv, z_bv]
  apply BitVec.eq_of_getLsbD_eq
  intro i hi
  simp [BitVec.getLsbD_ofNat, hi]
theorem z_or (a b : Nat) : Int32.ofNat a ||| Int32.ofNat b = Int32.ofNat (a ||| b) := by
  apply Int32.toBitVec.inj
  rw [Int32.toBitVec_or, z_bv, z_bv, z_bv]
  apply BitVec.eq_of_getLsbD_eq
  intro i hi
  simp [BitVec.getLsbD_ofNat, hi]
/-- without -/
def hf_nd (a b : Nat) : Nat := Nat.bitwise (fun x y => x && !y) a b
theorem hf_nd_bit (a b i : Nat) : (hf_nd a b).testBit i = (a.testBit i && !b.testBit i) := by
  unfold hf_nd
  rw [Nat.testBit_bitwise rfl]
theorem z_nd (a b : Nat) : Int32.ofNat a &&& (Int32.ofNat b ^^^ (-1)) = Int32.ofNat (hf_nd a b) := by
  apply Int32.toBitVec.inj
  rw [Int32.toBitVec_and, Int32.toBitVec_xor, z_bv, z_bv, z_bv]
  apply BitVec.eq_of_getLsbD_eq
  intro i hi
  have h1 : (-1 : Int32).toBitVec = BitVec.allOnes 32 := by decide
  rw [h1]
  simp only [BitVec.getLsbD_and, BitVec.getLsbD_xor, BitVec.getLsbD_ofNat, hi, decide_true, Bool.true_and, hf_nd_bit, BitVec.getLsbD_allOnes, Bool.xor_true]
theorem z_nd2 (a b : Nat) : Int32.ofNat a &&& (Int32.ofNat b ^^^ (-Int32.ofNat 1)) = Int32.ofNat (hf_nd a b) := z_nd a b
theorem z_m31 {k : Nat} (h : k < 32) : Int32.ofNat (k &&& 31) = Int32.ofNat k := by
  congr 1
  exact Nat.and_two_pow_sub_one_of_lt_two_pow (n := 5) h
theorem z_shl {a k : Nat} (h : k < 32) : Int32.ofNat a <<< Int32.ofNat (k &&& 31) = Int32.ofNat (a <<< k) := by
  rw [z_m31 h]
  apply Int32.toBitVec.inj
  have hm : ∀ k, k < 32 → (BitVec.ofNat 32 k).smod 32 = BitVec.ofNat 32 k := by decide
  rw [Int32.toBitVec_shiftLeft, z_bv, z_bv, hm k h, z_bv]
  apply BitVec.eq_of_getLsbD_eq
  intro i hi
  rw [BitVec.shiftLeft_eq', BitVec.toNat_ofNat, Nat.mod_eq_of_lt (by omega)]
  simp only [BitVec.getLsbD_shiftLeft, BitVec.getLsbD_ofNat, hi, decide_true, Bool.true_and, Nat.testBit_shiftLeft]
  by_cases h9 : k ≤ i
  · simp [h9, Nat.not_lt.mpr h9, show i - k < 32 by omega]
  · simp [h9, Nat.lt_of_not_le h9]
theorem z_shr {a k : Nat} (h : k < 32) (ha : a < 2147483648) : Int32.ofNat a >>> Int32.ofNat (k &&& 31) = Int32.ofNat (a >>> k) := by
  rw [z_m31 h]
  apply Int32.toBitVec.inj
  have hm : ∀ k, k < 32 → (BitVec.ofNat 32 k).smod 32 = BitVec.ofNat 32 k := by decide
  rw [Int32.toBitVec_shiftRight, z_bv, z_bv, hm k h, z_bv]
  apply BitVec.eq_of_getLsbD_eq
  intro i hi
  rw [BitVec.sshiftRight_eq', BitVec.toNat_ofNat, Nat.mod_eq_of_lt (by omega : k < 2 ^ 32)]
  have hms : (BitVec.ofNat 32 a).msb = false := by
    rw [BitVec.msb_eq_decide]
    simp only [BitVec.toNat_ofNat, decide_eq_false_iff_not]
    omega
  rw [BitVec.getLsbD_sshiftRight, hms]
  simp only [BitVec.getLsbD_ofNat, hi, decide_true, Bool.true_and, Nat.testBit_shiftRight]
  by_cases h9 : k + i < 32
  · simp [h9, Nat.not_le.mpr hi]
  · simp only [h9]
    have : a.testBit (k + i) = false := Nat.testBit_lt_two_pow (Nat.lt_of_lt_of_le ha (by
      have : 2 ^ 31 ≤ 2 ^ (k + i) := Nat.pow_le_pow_right (by decide) (by omega)
      omega))
    simp [this]
/-- a counted loop -/
theorem hf_loop {τ : Type} (G : Nat → Nat → Option τ) (n : Nat) (r : Option τ) (hstep : ∀ i f, i < n → G (f + 1) i = G f (i + 1)) (hend : ∀ f, G (f + 1) n = r) {fuel : Nat} (h : n < fuel) : G fuel 0 = r := by
  have key : ∀ k i f, i + k = n → k < f → G f i = r := by
    intro k
    induction k with
    | zero =>
      intro i f hi hf
      obtain ⟨g, rfl⟩ := Nat.exists_eq_succ_of_ne_zero (show f ≠ 0 by omega)
      rw [show i = n by omega]
      exact hend g
    | succ k ih =>
      intro i f hi hf
      obtain ⟨g, rfl⟩ := Nat.exists_eq_succ_of_ne_zero (show f ≠ 0 by omega)
      rw [hstep i g (by omega)]
      exact ih (i + 1) g (by omega) (by omega)
  exact key n 0 fuel (by omega) h
theorem hf_b2_some {α β τ : Type} (a : α) (b : β) (K : α → β → Option τ) : hf_b2 (some (a, b)) K = K a b := rfl
theorem hf_let_eq {α β : Type} (a : α) (f : α → β) : hf_let a f = f a := rfl
