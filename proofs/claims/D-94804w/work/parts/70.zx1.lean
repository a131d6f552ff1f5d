set_option maxRecDepth 100000
set_option maxHeartbeats 1000000
/-! HalfFair's reads: an ArrayList, the Fair object, a State, seen as v -/
theorem hf_gi_eq {md ci a : Nat} {h : hf_H} {V : hf_V} (e : hf_ob md ci h a = some V) (k : Nat) : hf_gi md ci k h a = some (V.1 k) := by
  unfold hf_gi
  rw [e]
  rfl
theorem hf_gq_eq {md ci a : Nat} {h : hf_H} {V : hf_V} (e : hf_ob md ci h a = some V) (k : Nat) : hf_gq md ci k h a = some (V.2.2.1 k) := by
  unfold hf_gq
  rw [e]
  rfl
theorem hf_ga_eq {md ci a : Nat} {h : hf_H} {V : hf_V} (e : hf_ob md ci h a = some V) (k : Nat) : hf_ga md ci k h a = V.2.2.1 k := by
  unfold hf_ga
  rw [e]
  rfl
theorem hf_ai_eq {ci a : Nat} {h : hf_H} {V : hf_V} (e : hf_ob 1 ci h a = some V) (k n : Nat) (i : Int32) : hf_ai ci k n h a i = hf_ld n (V.2.2.2.1 k) i := by
  unfold hf_ai
  rw [e]
  rfl
theorem hf_al_eq {ci a : Nat} {h : hf_H} {V : hf_V} (e : hf_ob 1 ci h a = some V) (k n : Nat) (i : Int32) : hf_al ci k n h a i = hf_ld n (V.2.2.2.2.1 k) i := by
  unfold hf_al
  rw [e]
  rfl
theorem hf_aq_eq {ci a : Nat} {h : hf_H} {V : hf_V} (e : hf_ob 1 ci h a = some V) (k n : Nat) (i : Int32) : hf_aq ci k n h a i = hf_ld n (V.2.2.2.2.2 k) i := by
  unfold hf_aq
  rw [e]
  rfl
theorem hf_pi_eq {md ci a : Nat} {h : hf_H} {V : hf_V} (e : hf_ob md ci h a = some V) (k : Nat) (x : Int32) : hf_pi md ci k h a x = some (hf_up h a (.inl (md, ci, hf_ui V k x))) := by
  unfold hf_pi
  rw [e]
  rfl
theorem hf_pq_eq {md ci a : Nat} {h : hf_H} {V : hf_V} (e : hf_ob md ci h a = some V) (k : Nat) (x : Option Nat) : hf_pq md ci k h a x = some (hf_up h a (.inl (md, ci, hf_uq V k x))) := by
  unfold hf_pq
  rw [e]
  rfl
theorem hf_si_eq {ci a : Nat} {h : hf_H} {V : hf_V} (e : hf_ob 1 ci h a = some V) (k : Nat) {n i : Nat} (hi : i < n) (h2 : i < 2147483648) (x : Int32) : hf_si ci k n h a (Int32.ofNat i) x = some (hf_up h a (.inl (1, ci, hf_ua V k i x))) := by
  unfold hf_si
  rw [e, Option.bind_some, z_cl h2, if_neg]
  rintro (h3 | h3)
  · exact z_n0 i h2 h3
  · omega
theorem hf_sl_eq {ci a : Nat} {h : hf_H} {V : hf_V} (e : hf_ob 1 ci h a = some V) (k : Nat) {n i : Nat} (hi : i < n) (h2 : i < 2147483648) (x : Int64) : hf_sl ci k n h a (Int32.ofNat i) x = some (hf_up h a (.inl (1, ci, hf_uL V k i x))) := by
  unfold hf_sl
  rw [e, Option.bind_some, z_cl h2, if_neg]
  rintro (h3 | h3)
  · exact z_n0 i h2 h3
  · omega
theorem hf_sq_eq {ci a : Nat} {h : hf_H} {V : hf_V} (e : hf_ob 1 ci h a = some V) (k : Nat) {n i : Nat} (hi : i < n) (h2 : i < 2147483648) (x : Option Nat) : hf_sq ci k n h a (Int32.ofNat i) x = some (hf_up h a (.inl (1, ci, hf_uQ V k i x))) := by
  unfold hf_sq
  rw [e, Option.bind_some, z_cl h2, if_neg]
  rintro (h3 | h3)
  · exact z_n0 i h2 h3
  · omega
theorem hf_ob_up (h : hf_H) (a md ci : Nat) (V : hf_V) : hf_ob md ci (hf_up h a (.inl (md, ci, V))) a = some V := by
  unfold hf_ob hf_up
  simp
theorem hf_ob_ne {h : hf_H} {a b : Nat} (hne : b ≠ a) (md ci : Nat) (x : hf_C) : hf_ob md ci (hf_up h a x) b = hf_ob md ci h b := by
  unfold hf_ob hf_up
  simp [hne]
theorem hf_up_up (h : hf_H) (a : Nat) (x y : hf_C) : hf_up (hf_up h a x) a y = hf_up h a y := by
  unfold hf_up
  refine Prod.ext ?_ rfl
  funext q
  by_cases e : q = a <;> simp [e]
theorem hf_up_comm (h : hf_H) {a b : Nat} (hne : a ≠ b) (x y : hf_C) : hf_up (hf_up h a x) b y = hf_up (hf_up h b y) a x := by
  unfold hf_up
  refine Prod.ext ?_ rfl
  funext q
  by_cases e : q = a
  · subst e; simp [hne]
  · by_cases e2 : q = b
    · subst e2; simp [e]
    · simp [e, e2]
theorem hf_up_self {h : hf_H} {a md ci : Nat} {V : hf_V} (e : hf_ob md ci h a = some V) : hf_up h a (.inl (md, ci, V)) = h := by
  have h1 := hf_ob_spec e
  unfold hf_up
  refine Prod.ext ?_ rfl
  funext q
  by_cases e2 : q = a
  · subst e2; simp [h1]
  · simp [e2]
/-- of a different kind: not the same place -/
theorem hf_ob_dif {h : hf_H} {a b md ci md' ci' : Nat} {V V' : hf_V} (e : hf_ob md ci h a = some V) (e' : hf_ob md' ci' h b = some V') (hne : ¬ (md = md' ∧ ci = ci')) : a ≠ b := by
  intro z
  subst z
  have h1 := hf_ob_spec e
  have h2 := hf_ob_spec e'
  rw [h1] at h2
  cases h2
  exact hne ⟨rfl, rfl⟩
theorem hf_nn_some {α : Type} (x : α) : hf_nn (some (some x)) = some x := rfl
/-- an ArrayList of n at l, p k is its k-th -/
def hf_L (h : hf_H) (l n : Nat) (p : Nat → Nat) : Prop := ∃ (LV : hf_V) (d N : Nat) (B : Nat → Option Nat), hf_ob 0 19 h l = some LV ∧ LV.1 2 = Int32.ofNat n ∧ LV.2.2.1 1 = some d ∧ hf_pa (.object "java/lang/Object") h d = some (N, .inr (.inr B)) ∧ n ≤ N ∧ ∀ k, k < n → B k = some (p k)
theorem hf_L.ob {h : hf_H} {l n : Nat} {p : Nat → Nat} (L : hf_L h l n p) {τ : Type} (K : Option τ) : ((hf_ob 0 19 h l).bind fun _ => K) = K := by
  obtain ⟨LV, d, N, B, e1, e2, e3, e4, e5, e6⟩ := L
  rw [e1]
  rfl
theorem hf_L.size {h : hf_H} {l n : Nat} {p : Nat → Nat} (L : hf_L h l n p) : spJ2_size l h = some (Int32.ofNat n, h) := by
  obtain ⟨LV, d, N, B, e1, e2, e3, e4, e5, e6⟩ := L
  unfold spJ2_size
  rw [hf_gi_eq e1, Option.bind_some, e2]
theorem z_idx {k n : Nat} (hk : k < n) (hn : n < 2147483648) : spJ13_checkIndex (Int32.ofNat k) (Int32.ofNat n) = some (Int32.ofNat k) := by
  unfold spJ13_checkIndex spJ7_checkIndex
  rw [if_neg (z_n0 k (by omega)), if_pos ((z_lt (by omega) hn).mpr hk)]
  rfl
theorem hf_L.get {h : hf_H} {l n : Nat} {p : Nat → Nat} (L : hf_L h l n p) {k : Nat} (hk : k < n) (hn : n < 1000) : spJ2_get l (Int32.ofNat k) h = some (p k, h) := by
  obtain ⟨LV, d, N, B, e1, e2, e3, e4, e5, e6⟩ := L
  unfold spJ2_get spJ2_elementData
  rw [hf_gi_eq e1, Option.bind_some, e2, z_idx hk (by omega), Option.bind_some, e1, Option.bind_some, hf_ga_eq e1, e3, Option.bind_some]
  have h9 : hf_paq (.object "java/lang/Object") h d (Int32.ofNat k) = some (some (p k)) := by
    unfold hf_paq
    rw [e4, Option.bind_some]
    show hf_ld N B _ = _
    rw [z_ld (by omega) (by omega), e6 k hk]
  rw [h9, hf_nn_some, Option.bind_some, hf_b2_some]
/-- the Fair object at f: halves p, their values HV, as v tells -/
def hf_F (h : hf_H) (f : Nat) (v : Nat → Nat) : Prop := ∃ (FV : hf_V) (l m : Nat) (p q : Nat → Nat) (HV : Nat → hf_V), hf_ob 1 1 h f = some FV ∧ FV.2.2.1 0 = some l ∧ FV.2.2.1 1 = some m ∧ hf_L h l (v 1) p ∧ hf_L h m (v 2) q ∧ (∀ k, k < v 1 → hf_ob 0 6 h (p k) = some (HV k) ∧ (HV k).1 1 = Int32.ofNat (v (10 + 5 * k + 0)) ∧ (HV k).1 2 = Int32.ofNat (v (10 + 5 * k + 1)) ∧ (HV k).1 3 = Int32.ofNat (v (10 + 5 * k + 2))) ∧ FV.1 3 = Int32.ofNat (v 0) ∧ (0 < v 0 → FV.1 4 = Int32.ofNat (v 4) ∧ FV.1 5 = Int32.ofNat (v 5) ∧ FV.1 6 = Int32.ofNat (v 6) ∧ FV.1 7 = Int32.ofNat (v 7) ∧ FV.1 8 = Int32.ofNat (v 8) ∧ FV.1 9 = Int32.ofNat (zset (fun k => v (10 + 5 * k + 4) == 1) (v 1))) ∧ ∀ b, b < v 2 → FV.2.2.2.1 2 b = Int32.ofNat (v (70 + 4 * b + 3))
/-- a State's values -/
def hf_S2 (SV : hf_V) (v : Nat → Nat) : Prop := (∀ k, k < v 1 → SV.2.2.2.1 0 k = Int32.ofNat (v (10 + 5 * k + 3))) ∧ (∀ b, b < v 2 → SV.2.2.2.1 1 b = Int32.ofNat (v (70 + 4 * b)) ∧ SV.2.2.2.1 2 b = Int32.ofNat (v (70 + 4 * b + 1)) ∧ SV.2.2.2.1 3 b = Int32.ofNat (v (70 + 4 * b + 2))) ∧ SV.1 4 = Int32.ofNat (v 3)
/-- what is told is in its bounds -/
def hf_wf (v : Nat → Nat) : Prop := (v 0 ≤ 8 ∧ v 1 ≤ 12 ∧ v 2 ≤ 4 ∧ v 3 ≤ 99 ∧ v 4 ≤ 7 ∧ v 5 ≤ 9 ∧ v 6 ≤ 24 ∧ v 7 ≤ 99 ∧ v 8 ≤ 7 ∧ (v 0 = 0 → v 1 = 0 ∧ v 2 = 0)) ∧ (∀ k, k < v 1 → v (10 + 5 * k + 0) ≤ 99 ∧ v (10 + 5 * k + 1) ≤ 1 ∧ v (10 + 5 * k + 2) ≤ 99 ∧ v (10 + 5 * k + 3) < 104 ∧ (v (10 + 5 * k + 3) < v 0 ∨ 100 ≤ v (10 + 5 * k + 3)) ∧ v (10 + 5 * k + 4) ≤ 1) ∧ (∀ b, b < v 2 → v (70 + 4 * b) < 1000000 ∧ v (70 + 4 * b + 1) < v 0 ∧ v (70 + 4 * b + 2) < 4096 ∧ v (70 + 4 * b + 3) < 16) ∧ ∀ k, v k < 16777216
/-- x is one of the first n -/
abbrev zin (x : Int32) (n : Nat) : Prop := 0 ≤ x ∧ x < Int32.ofNat n
theorem zin_ex {x : Int32} {n : Nat} (h : zin x n) (hn : n < 2147483648) : ∃ k, k < n ∧ x = Int32.ofNat k := by
  rcases z_valid x n hn with h1 | h1 | ⟨h1, h2⟩
  · exact h1
  · exact absurd h1 (Int32.not_lt.mpr h.1)
  · exact absurd h.2 (Int32.not_lt.mpr h2)
theorem zin_of {k n : Nat} (h : k < n) (hn : n < 2147483648) : zin (Int32.ofNat k) n := ⟨Int32.not_lt.mp (z_n0 k (by omega)), (z_lt (by omega) hn).mpr h⟩
theorem zin_no {x : Int32} {n : Nat} (h : ¬ zin x n) : x < 0 ∨ (¬ x < 0 ∧ Int32.ofNat n ≤ x) := by
  by_cases h0 : x < 0
  · exact Or.inl h0
  · right
    refine ⟨h0, ?_⟩
    by_cases h1 : Int32.ofNat n ≤ x
    · exact h1
    · exact absurd ⟨Int32.not_lt.mp h0, Int32.not_le.mp h1⟩ h
theorem z_in3 (a b c : Int32) : spX0_in a.toInt64 b.toInt64 c.toInt64 = some (if b ≤ a ∧ a ≤ c then Int32.ofNat 1 else Int32.ofNat 0) := by
  unfold spX0_in
  have h1 : ∀ x y : Int32, (x.toInt64 < y.toInt64) ↔ x < y := fun x y => by
    rw [Int64.lt_iff_toInt_lt, Int32.lt_iff_toInt_lt, Int32.toInt_toInt64, Int32.toInt_toInt64]
  by_cases e1 : a < b
  · rw [if_pos ((lg_cmp_lt _ _).mpr ((h1 _ _).mpr e1)), if_neg (fun z => Int32.not_lt.mpr z.1 e1)]; rfl
  · rw [if_neg (fun z => e1 ((h1 _ _).mp ((lg_cmp_lt _ _).mp z)))]
    by_cases e2 : c < a
    · rw [if_pos ((lg_cmp_gt _ _).mpr ((h1 _ _).mpr e2)), if_neg (fun z => Int32.not_lt.mpr z.2 e2)]; rfl
    · rw [if_neg (fun z => e2 ((h1 _ _).mp ((lg_cmp_gt _ _).mp z))), if_pos ⟨Int32.not_lt.mp e1, Int32.not_lt.mp e2⟩]; rfl
theorem z_in4 (a b c : Int32) : spX4_in a.toInt64 b.toInt64 c.toInt64 = some (if b ≤ a ∧ a ≤ c then Int32.ofNat 1 else Int32.ofNat 0) := z_in3 a b c
theorem z_inn (x : Int32) (n : Nat) (hn : n < 2147483648) : (0 ≤ x ∧ x ≤ Int32.ofNat n - 1) ↔ zin x n := by
  unfold zin
  refine and_congr_right (fun h0 => ?_)
  by_cases e : n = 0
  · subst e
    have h1 : (Int32.ofNat 0 - 1 : Int32) = -1 := by decide
    rw [h1]
    constructor
    · intro h2
      exact absurd (Int32.le_trans h0 h2) (by decide)
    · intro h2
      exact absurd (Int32.lt_of_le_of_lt h0 h2) (by decide)
  · have h1 : Int32.ofNat n - 1 = Int32.ofNat (n - 1) := z_sub (b := 1) (by omega)
    rw [h1]
    obtain ⟨m, hb, rfl⟩ : ∃ m : Nat, m < 2147483648 ∧ x = Int32.ofNat m := ⟨x.toNatClampNeg, Int32.toNatClampNeg_lt x, (Int32.ofNat_toNatClampNeg x h0).symm⟩
    rw [z_le hb (by omega), z_lt hb hn]
    omega
theorem x_inn (x : Int32) {n : Nat} (hn : n < 2147483648) : spX0_in x.toInt64 0 (Int32.ofNat n - 1).toInt64 = some (if zin x n then Int32.ofNat 1 else Int32.ofNat 0) := by
  have h := z_in3 x 0 (Int32.ofNat n - 1)
  rw [show (0 : Int64) = (0 : Int32).toInt64 from by decide, h]
  by_cases e : zin x n
  · rw [if_pos ((z_inn x n hn).mpr e), if_pos e]
  · rw [if_neg (fun z => e ((z_inn x n hn).mp z)), if_neg e]
theorem x_has {s k : Nat} (hs : s < 2147483648) (hk : k < 32) : spX0_has (Int32.ofNat s) (Int32.ofNat k) = some (Int32.ofNat (if s.testBit k then 1 else 0)) := by
  have h := m_isOf hs hk
  unfold spX4_isOf at h
  unfold spX0_has
  exact h
theorem x_bit {n : Nat} (hn : n < 2147483648) : spX0_bit (Int32.ofNat n) = some (Int32.ofNat (if n = 0 then 0 else 1)) := by
  unfold spX0_bit
  have h : (Int32.ofNat n = 0) ↔ n = 0 := z_eq hn (by decide)
  by_cases e : n = 0
  · rw [if_pos (h.mpr e), if_pos e]; rfl
  · rw [if_neg (fun z => e (h.mp z)), if_neg e]; rfl
theorem z_neg {n : Nat} (h0 : 0 < n) (h : n < 2147483648) : - Int32.ofNat n < 0 := by
  apply Int32.lt_iff_toInt_lt.mpr
  have h8 : Int32.toInt 0 = 0 := by decide
  have h7 : (Int32.ofNat n).toInt = (n : Int) := Int32.toInt_ofNat_of_lt (by omega)
  rw [Int32.toInt_neg, h7, h8, Int.bmod_eq_of_le (by omega) (by omega)]
  omega
theorem z_nle {a b : Nat} (h : b < a) (ha : a < 2147483648) : ¬ Int32.ofNat a ≤ Int32.ofNat b := fun z => by
  have := (z_le ha (by omega)).mp z
  omega
theorem z_yle {a b : Nat} (h : a ≤ b) (hb : b < 2147483648) : Int32.ofNat a ≤ Int32.ofNat b := (z_le (by omega) hb).mpr h
theorem z_sh1 {k : Nat} (h : k < 32) : (1 : Int32) <<< (Int32.ofNat k &&& 31) = Int32.ofNat (1 <<< k) := (congrArg (fun z => (1 : Int32) <<< z) (z_and k 31)).trans (z_shl (a := 1) h)
