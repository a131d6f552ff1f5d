set_option maxRecDepth 100000
set_option maxHeartbeats 1000000
/-! HalfFair's reads: an ArrayList, the Fair object, a State, seen as v -/
theorem hf_gi_eq {md ci a : Nat} {h : hf_H} {V : hf_V} (e : hf_ob md ci h a = some V) (k : Nat) : hf_gi md ci k h a = some (V.1 k) := by
  unfold hf_gi
  rw [e]
  rfl
theorem hf_gq_eq {md ci a : Nat} {h : hf_H} {V : hf_V} (e : hf_ob md ci h a = some V) (k : Nat) : hf_gq md ci k h a = some (V.2.2.1 k) := by
  unfold hf_gq
  rw [e]
  rfl
theorem hf_ga_eq {md ci a : Nat} {h : hf_H} {V : hf_V} (e : hf_ob md ci h a = some V) (k : Nat) : hf_ga md ci k h a = V.2.2.1 k := by
  unfold hf_ga
  rw [e]
  rfl
theorem hf_ai_eq {ci a : Nat} {h : hf_H} {V : hf_V} (e : hf_ob 1 ci h a = some V) (k n : Nat) (i : Int32) : hf_ai ci k n h a i = hf_ld n (V.2.2.2.1 k) i := by
  unfold hf_ai
  rw [e]
  rfl
theorem hf_al_eq {ci a : Nat} {h : hf_H} {V : hf_V} (e : hf_ob 1 ci h a = some V) (k n : Nat) (i : Int32) : hf_al ci k n h a i = hf_ld n (V.2.2.2.2.1 k) i := by
  unfold hf_al
  rw [e]
  rfl
theorem hf_aq_eq {ci a : Nat} {h : hf_H} {V : hf_V} (e : hf_ob 1 ci h a = some V) (k n : Nat) (i : Int32) : hf_aq ci k n h a i = hf_ld n (V.2.2.2.2.2 k) i := by
  unfold hf_aq
  rw [e]
  rfl
theorem hf_pi_eq {md ci a : Nat} {h : hf_H} {V : hf_V} (e : hf_ob md ci h a = some V) (k : Nat) (x : Int32) : hf_pi md ci k h a x = some (hf_up h a (.inl (md, ci, hf_ui V k x))) := by
  unfold hf_pi
  rw [e]
  rfl
theorem hf_pq_eq {md ci a : Nat} {h : hf_H} {V : hf_V} (e : hf_ob md ci h a = some V) (k : Nat) (x : Option Nat) : hf_pq md ci k h a x = some (hf_up h a (.inl (md, ci, hf_uq V k x))) := by
  unfold hf_pq
  rw [e]
  rfl
theorem hf_si_eq {ci a : Nat} {h : hf_H} {V : hf_V} (e : hf_ob 1 ci h a = some V) (k : Nat) {n i : Nat} (hi : i < n) (h2 : i < 2147483648) (x : Int32) : hf_si ci k n h a (Int32.ofNat i) x = some (hf_up h a (.inl (1, ci, hf_ua V k i x))) := by
  unfold hf_si
  rw [e, Option.bind_some, z_cl h2, if_neg]
  rintro (h3 | h3)
  · exact z_n0 i h2 h3
  · omega
theorem hf_sl_eq {ci a : Nat} {h : hf_H} {V : hf_V} (e : hf_ob 1 ci h a = some V) (k : Nat) {n i : Nat} (hi : i < n) (h2 : i < 2147483648) (x : Int64) : hf_sl ci k n h a (Int32.ofNat i) x = some (hf_up h a (.inl (1, ci, hf_uL V k i x))) := by
  unfold hf_sl
  rw [e, Option.bind_some, z_cl h2, if_neg]
  rintro (h3 | h3)
  · exact z_n0 i h2 h3
  · omega
theorem hf_sq_eq {ci a : Nat} {h : hf_H} {V : hf_V} (e : hf_ob 1 ci h a = some V) (k : Nat) {n i : Nat} (hi : i < n) (h2 : i < 2147483648) (x : Option Nat) : hf_sq ci k n h a (Int32.ofNat i) x = some (hf_up h a (.inl (1, ci, hf_uQ V k i x))) := by
  unfold hf_sq
  rw [e, Option.bind_some, z_cl h2, if_neg]
  rintro (h3 | h3)
  · exact z_n0 i h2 h3
  · omega
theorem hf_ob_up (h : hf_H) (a md ci : Nat) (V : hf_V) : hf_ob md ci (hf_up h a (.inl (md, ci, V))) a = some V := by
  unfold hf_ob hf_up
  simp
theorem hf_ob_ne {h : hf_H} {a b : Nat} (hne : b ≠ a) (md ci : Nat) (x : hf_C) : hf_ob md ci (hf_up h a x) b = hf_ob md ci h b := by
  unfold hf_ob hf_up
  simp [hne]
theorem hf_up_up (h : hf_H) (a : Nat) (x y : hf_C) : hf_up (hf_up h a x) a y = hf_up h a y := by
  unfold hf_up
  refine Prod.ext ?_ rfl
  funext q
  by_cases e : q = a <;> simp [e]
theorem hf_up_comm (h : hf_H) {a b : Nat} (hne : a ≠ b) (x y : hf_C) : hf_up (hf_up h a x) b y = hf_up (hf_up h b y) a x := by
  unfold hf_up
  refine Prod.ext ?_ rfl
  funext q
  by_cases e : q = a
  · subst e; simp [hne]
  · by_cases e2 : q = b
    · subst e2; simp [e]
    · simp [e, e2]
theorem hf_up_self {h : hf_H} {a md ci : Nat} {V : hf_V} (e : hf_ob md ci h a = some V) : hf_up h a (.inl (md, ci, V)) = h := by
  have h1 := hf_ob_spec e
  unfold hf_up
  refine Prod.ext ?_ rfl
  funext q
  by_cases e2 : q = a
  · subst e2; simp [h1]
  · simp [e2]
/-- of a different kind: not the same place -/
theorem hf_ob_dif {h : hf_H} {a b md ci md' ci' : Nat} {V V' : hf_V} (e : hf_ob md ci h a = some V) (e' : hf_ob md' ci' h b = some V') (hne : ¬ (md = md' ∧ ci = ci')) : a ≠ b := by
  intro z
  subst z
  have h1 := hf_ob_spec e
  have h2 := hf_ob_spec e'
  rw [h1] at h2
  cases h2
  exact hne ⟨rfl, rfl⟩
theorem hf_nn_some {α : Type} (x : α) : hf_nn (some (some x)) = some x := rfl
/-- an ArrayList of n at l, p k is its k-th -/
def hf_L (h : hf_H) (l n : Nat) (p : Nat → Nat) : Prop := ∃ (LV : hf_V) (d N : Nat) (B : Nat → Option Nat), hf_ob 0 19 h l = some LV ∧ LV.1 2 = Int32.ofNat n ∧ LV.2.2.1 1 = some d ∧ hf_pa (.object "java/lang/Object") h d = some (N, .inr (.inr B)) ∧ n ≤ N ∧ ∀ k, k < n → B k = some (p k)
theorem hf_L.ob {h : hf_H} {l n : Nat} {p : Nat → Nat} (L : hf_L h l n p) {τ : Type} (K : Option τ) : ((hf_ob 0 19 h l).bind fun _ => K) = K := by
  obtain ⟨LV, d, N, B, e1, e2, e3, e4, e5, e6⟩ := L
  rw [e1]
  rfl
theorem hf_L.size {h : hf_H} {l n : Nat} {p : Nat → Nat} (L : hf_L h l n p) : spJ2_size l h = some (Int32.ofNat n, h) := by
  obtain ⟨LV, d, N, B, e1, e2, e3, e4, e5, e6⟩ := L
  unfold spJ2_size
  rw [hf_gi_eq e1, Option.bind_some, e2]
theorem z_idx {k n : Nat} (hk : k < n) (hn : n < 2147483648) : spJ13_checkIndex (Int32.ofNat k) (Int32.ofNat n) = some (Int32.ofNat k) := by
  unfold spJ13_checkIndex spJ7_checkIndex
  rw [if_neg (z_n0 k (by omega)), if_pos ((z_lt (by omega) hn).mpr hk)]
  rfl
theorem hf_L.get {h : hf_H} {l n : Nat} {p : Nat → Nat} (L : hf_L h l n p) {k : Nat} (hk : k < n) (hn : n < 1000) : spJ2_get l (Int32.ofNat k) h = some (p k, h) := by
  obtain ⟨LV, d, N, B, e1, e2, e3, e4, e5, e6⟩ := L
  unfold spJ2_get spJ2_elementData
  rw [hf_gi_eq e1, Option.bind_some, e2, z_idx hk (by omega), Option.bind_some, e1, Option.bind_some, hf_ga_eq e1, e3, Option.bind_some]
  have h9 : hf_paq (.object "java/lang/Object") h d (Int32.ofNat k) = some (some (p k)) := by
    unfold hf_paq
    rw [e4, Option.bind_some]
    show hf_ld N B _ = _
    rw [z_ld (by omega) (by omega), e6 k hk]
  rw [h9, hf_nn_some, Option.bind_some, hf_b2_some]
/-- the Fair object at f: halves p, their values HV, as v tells -/
def hf_F (h : hf_H) (f : Nat) (v : Nat → Nat) : Prop := ∃ (FV : hf_V) (l m : Nat) (p q : Nat → Nat) (HV : Nat → hf_V), hf_ob 1 1 h f = some FV ∧ FV.2.2.1 0 = some l ∧ FV.2.2.1 1 = some m ∧ hf_L h l (v 1) p ∧ hf_L h m (v 2) q ∧ (∀ k, k < v 1 → hf_ob 0 6 h (p k) = some (HV k) ∧ (HV k).1 1 = Int32.ofNat (v (10 + 5 * k + 0)) ∧ (HV k).1 2 = Int32.ofNat (v (10 + 5 * k + 1)) ∧ (HV k).1 3 = Int32.ofNat (v (10 + 5 * k + 2))) ∧ FV.1 3 = Int32.ofNat (v 0) ∧ (0 < v 0 → FV.1 4 = Int32.ofNat (v 4) ∧ FV.1 5 = Int32.ofNat (v 5) ∧ FV.1 6 = Int32.ofNat (v 6) ∧ FV.1 7 = Int32.ofNat (v 7) ∧ FV.1 8 = Int32.ofNat (v 8) ∧ FV.1 9 = Int32.ofNat (zset (fun k => v (10 + 5 * k + 4) == 1) (v 1))) ∧ ∀ b, b < v 2 → FV.2.2.2.1 2 b = Int32.ofNat (v (70 + 4 * b + 3))
/-- a State's values -/
def hf_S2 (SV : hf_V) (v : Nat → Nat) : Prop := (∀ k, k < v 1 → SV.2.2.2.1 0 k = Int32.ofNat (v (10 + 5 * k + 3))) ∧ (∀ b, b < v 2 → SV.2.2.2.1 1 b = Int32.ofNat (v (70 + 4 * b)) ∧ SV.2.2.2.1 2 b = Int32.ofNat (v (70 + 4 * b + 1)) ∧ SV.2.2.2.1 3 b = Int32.ofNat (v (70 + 4 * b + 2))) ∧ SV.1 4 = Int32.ofNat (v 3)
/-- what is told is in its bounds -/
def hf_wf (v : Nat → Nat) : Prop := (v 0 ≤ 8 ∧ v 1 ≤ 12 ∧ v 2 ≤ 4 ∧ v 3 ≤ 99 ∧ v 4 ≤ 7 ∧ v 5 ≤ 9 ∧ v 6 ≤ 24 ∧ v 7 ≤ 99 ∧ v 8 ≤ 7 ∧ (v 0 = 0 → v 1 = 0 ∧ v 2 = 0)) ∧ (∀ k, k < v 1 → v (10 + 5 * k + 0) ≤ 99 ∧ v (10 + 5 * k + 1) ≤ 1 ∧ v (10 + 5 * k + 2) ≤ 99 ∧ v (10 + 5 * k + 3) < 104 ∧ (v (10 + 5 * k + 3) < v 0 ∨ 100 ≤ v (10 + 5 * k + 3)) ∧ v (10 + 5 * k + 4) ≤ 1) ∧ (∀ b, b < v 2 → v (70 + 4 * b) < 1000000 ∧ v (70 + 4 * b + 1) < v 0 ∧ v (70 + 4 * b + 2) < 4096 ∧ v (70 + 4 * b + 3) < 2 ^ v 2) ∧ ∀ k, v k < 16777216
/-- x is one of the first n -/
abbrev zin (x : Int32) (n : Nat) : Prop := 0 ≤ x ∧ x < Int32.ofNat n
theorem zin_ex {x : Int32} {n : Nat} (h : zin x n) (hn : n < 2147483648) : ∃ k, k < n ∧ x = Int32.ofNat k := by
  rcases z_valid x n hn with h1 | h1 | ⟨h1, h2⟩
  · exact h1
  · exact absurd h1 (Int32.not_lt.mpr h.1)
  · exact absurd h.2 (Int32.not_lt.mpr h2)
theorem zin_of {k n : Nat} (h : k < n) (hn : n < 2147483648) : zin (Int32.ofNat k) n := ⟨Int32.not_lt.mp (z_n0 k (by omega)), (z_lt (by omega) hn).mpr h⟩
theorem zin_no {x : Int32} {n : Nat} (h : ¬ zin x n) : x < 0 ∨ (¬ x < 0 ∧ Int32.ofNat n ≤ x) := by
  by_cases h0 : x < 0
  · exact Or.inl h0
  · right
    refine ⟨h0, ?_⟩
    by_cases h1 : Int32.ofNat n ≤ x
    · exact h1
    · exact absurd ⟨Int32.not_lt.mp h0, Int32.not_le.mp h1⟩ h
theorem z_in3 (a b c : Int32) : spX0_in a.toInt64 b.toInt64 c.toInt64 = some (if b ≤ a ∧ a ≤ c then Int32.ofNat 1 else Int32.ofNat 0) := by
  unfold spX0_in
  have h1 : ∀ x y : Int32, (x.toInt64 < y.toInt64) ↔ x < y := fun x y => by
    rw [Int64.lt_iff_toInt_lt, Int32.lt_iff_toInt_lt, Int32.toInt_toInt64, Int32.toInt_toInt64]
  by_cases e1 : a < b
  · rw [if_pos ((lg_cmp_lt _ _).mpr ((h1 _ _).mpr e1)), if_neg (fun z => Int32.not_lt.mpr z.1 e1)]; rfl
  · rw [if_neg (fun z => e1 ((h1 _ _).mp ((lg_cmp_lt _ _).mp z)))]
    by_cases e2 : c < a
    · rw [if_pos ((lg_cmp_gt _ _).mpr ((h1 _ _).mpr e2)), if_neg (fun z => Int32.not_lt.mpr z.2 e2)]; rfl
    · rw [if_neg (fun z => e2 ((h1 _ _).mp ((lg_cmp_gt _ _).mp z))), if_pos ⟨Int32.not_lt.mp e1, Int32.not_lt.mp e2⟩]; rfl
theorem z_in4 (a b c : Int32) : spX4_in a.toInt64 b.toInt64 c.toInt64 = some (if b ≤ a ∧ a ≤ c then Int32.ofNat 1 else Int32.ofNat 0) := z_in3 a b c
theorem z_inn (x : Int32) (n : Nat) (hn : n < 2147483648) : (0 ≤ x ∧ x ≤ Int32.ofNat n - 1) ↔ zin x n := by
  unfold zin
  refine and_congr_right (fun h0 => ?_)
  by_cases e : n = 0
  · subst e
    have h1 : (Int32.ofNat 0 - 1 : Int32) = -1 := by decide
    rw [h1]
    constructor
    · intro h2
      exact absurd (Int32.le_trans h0 h2) (by decide)
    · intro h2
      exact absurd (Int32.lt_of_le_of_lt h0 h2) (by decide)
  · have h1 : Int32.ofNat n - 1 = Int32.ofNat (n - 1) := z_sub (b := 1) (by omega)
    rw [h1]
    obtain ⟨m, hb, rfl⟩ : ∃ m : Nat, m < 2147483648 ∧ x = Int32.ofNat m := ⟨x.toNatClampNeg, Int32.toNatClampNeg_lt x, (Int32.ofNat_toNatClampNeg x h0).symm⟩
    rw [z_le hb (by omega), z_lt hb hn]
    omega
theorem x_inn (x : Int32) {n : Nat} (hn : n < 2147483648) : spX0_in x.toInt64 0 (Int32.ofNat n - 1).toInt64 = some (if zin x n then Int32.ofNat 1 else Int32.ofNat 0) := by
  have h := z_in3 x 0 (Int32.ofNat n - 1)
  rw [show (0 : Int64) = (0 : Int32).toInt64 from by decide, h]
  by_cases e : zin x n
  · rw [if_pos ((z_inn x n hn).mpr e), if_pos e]
  · rw [if_neg (fun z => e ((z_inn x n hn).mp z)), if_neg e]
theorem x_has {s k : Nat} (hs : s < 2147483648) (hk : k < 32) : spX0_has (Int32.ofNat s) (Int32.ofNat k) = some (Int32.ofNat (if s.testBit k then 1 else 0)) := by
  have h := m_isOf hs hk
  unfold spX4_isOf at h
  unfold spX0_has
  exact h
theorem x_bit {n : Nat} (hn : n < 2147483648) : spX0_bit (Int32.ofNat n) = some (Int32.ofNat (if n = 0 then 0 else 1)) := by
  unfold spX0_bit
  have h : (Int32.ofNat n = 0) ↔ n = 0 := z_eq hn (by decide)
  by_cases e : n = 0
  · rw [if_pos (h.mpr e), if_pos e]; rfl
  · rw [if_neg (fun z => e (h.mp z)), if_neg e]; rfl
theorem z_neg {n : Nat} (h0 : 0 < n) (h : n < 2147483648) : - Int32.ofNat n < 0 := by
  apply Int32.lt_iff_toInt_lt.mpr
  have h8 : Int32.toInt 0 = 0 := by decide
  have h7 : (Int32.ofNat n).toInt = (n : Int) := Int32.toInt_ofNat_of_lt (by omega)
  rw [Int32.toInt_neg, h7, h8, Int.bmod_eq_of_le (by omega) (by omega)]
  omega
theorem z_nle {a b : Nat} (h : b < a) (ha : a < 2147483648) : ¬ Int32.ofNat a ≤ Int32.ofNat b := fun z => by
  have := (z_le ha (by omega)).mp z
  omega
theorem z_yle {a b : Nat} (h : a ≤ b) (hb : b < 2147483648) : Int32.ofNat a ≤ Int32.ofNat b := (z_le (by omega) hb).mpr h
theorem z_sh1 {k : Nat} (h : k < 32) : (1 : Int32) <<< (Int32.ofNat k &&& 31) = Int32.ofNat (1 <<< k) := (congrArg (fun z => (1 : Int32) <<< z) (z_and k 31)).trans (z_shl (a := 1) h)
set_option maxRecDepth 100000
set_option maxHeartbeats 1000000
theorem hf_wf.v0 {v : Nat → Nat} (W : hf_wf v) : v 0 ≤ 8 := W.1.1
theorem hf_wf.v1 {v : Nat → Nat} (W : hf_wf v) : v 1 ≤ 12 := W.1.2.1
theorem hf_wf.v2 {v : Nat → Nat} (W : hf_wf v) : v 2 ≤ 4 := W.1.2.2.1
theorem hf_wf.v3 {v : Nat → Nat} (W : hf_wf v) : v 3 ≤ 99 := W.1.2.2.2.1
theorem hf_wf.v4 {v : Nat → Nat} (W : hf_wf v) : v 4 ≤ 7 := W.1.2.2.2.2.1
theorem hf_wf.v5 {v : Nat → Nat} (W : hf_wf v) : v 5 ≤ 9 := W.1.2.2.2.2.2.1
theorem hf_wf.v6 {v : Nat → Nat} (W : hf_wf v) : v 6 ≤ 24 := W.1.2.2.2.2.2.2.1
theorem hf_wf.v7 {v : Nat → Nat} (W : hf_wf v) : v 7 ≤ 99 := W.1.2.2.2.2.2.2.2.1
theorem hf_wf.v8 {v : Nat → Nat} (W : hf_wf v) : v 8 ≤ 7 := W.1.2.2.2.2.2.2.2.2.1
theorem hf_wf.h0 {v : Nat → Nat} (W : hf_wf v) {k : Nat} (hk : k < v 1) : 0 < v 0 := by
  have := W.1.2.2.2.2.2.2.2.2.2
  omega
theorem hf_wf.b0 {v : Nat → Nat} (W : hf_wf v) {k : Nat} (hk : k < v 2) : 0 < v 0 := by
  have := W.1.2.2.2.2.2.2.2.2.2
  omega
theorem hf_wf.half {v : Nat → Nat} (W : hf_wf v) {k : Nat} (hk : k < v 1) : v (10 + 5 * k + 0) ≤ 99 ∧ v (10 + 5 * k + 1) ≤ 1 ∧ v (10 + 5 * k + 2) ≤ 99 ∧ v (10 + 5 * k + 3) < 104 ∧ (v (10 + 5 * k + 3) < v 0 ∨ 100 ≤ v (10 + 5 * k + 3)) ∧ v (10 + 5 * k + 4) ≤ 1 := W.2.1 k hk
theorem hf_wf.buyer {v : Nat → Nat} (W : hf_wf v) {b : Nat} (hb : b < v 2) : v (70 + 4 * b) < 1000000 ∧ v (70 + 4 * b + 1) < v 0 ∧ v (70 + 4 * b + 2) < 4096 ∧ v (70 + 4 * b + 3) < 16 := by
  obtain ⟨a, b', c, d⟩ := W.2.2.1 b hb
  exact ⟨a, b', c, Nat.lt_of_lt_of_le d (Nat.pow_le_pow_right (by decide) W.1.2.2.1)⟩
theorem hf_wf.club {v : Nat → Nat} (W : hf_wf v) {b : Nat} (hb : b < v 2) : v (70 + 4 * b + 3) < 2 ^ v 2 := (W.2.2.1 b hb).2.2.2
theorem hf_wf.b {v : Nat → Nat} (W : hf_wf v) (k : Nat) : v k < 16777216 := W.2.2.2 k
section ZX
variable {h : hf_H} {f : Nat} {v : Nat → Nat}
theorem hf_F.ob (F : hf_F h f v) {τ : Type} (K : Option τ) : ((hf_ob 1 1 h f).bind fun _ => K) = K := by
  obtain ⟨FV, l, m, p, q, HV, f1, f2⟩ := F
  rw [f1]
  rfl
theorem hf_F.size (F : hf_F h f v) {τ : Type} (K : Int32 → hf_H → Option τ) : ((hf_ga 1 1 0 h f).bind fun x1 => (hf_ob 0 19 h x1).bind fun _ => hf_b2 (spJ2_size x1 h) K) = K (Int32.ofNat (v 1)) h := by
  obtain ⟨FV, l, m, p, q, HV, f1, f2, f3, f4, f5, f6, f7, f8, f9⟩ := F
  rw [hf_ga_eq f1, f2, Option.bind_some, f4.ob, f4.size, hf_b2_some]
theorem hf_F.sizeB (F : hf_F h f v) {τ : Type} (K : Int32 → hf_H → Option τ) : ((hf_ga 1 1 1 h f).bind fun x1 => (hf_ob 0 19 h x1).bind fun _ => hf_b2 (spJ2_size x1 h) K) = K (Int32.ofNat (v 2)) h := by
  obtain ⟨FV, l, m, p, q, HV, f1, f2, f3, f4, f5, f6, f7, f8, f9⟩ := F
  rw [hf_ga_eq f1, f3, Option.bind_some, f5.ob, f5.size, hf_b2_some]
theorem hf_F.get (F : hf_F h f v) (W : hf_wf v) {k j : Nat} (hk : k < v 1) (hj : j < 3) {τ : Type} (K : Int32 → hf_H → Option τ) : ((hf_ga 1 1 0 h f).bind fun x1 => (hf_ob 0 19 h x1).bind fun _ => hf_b2 (spJ2_get x1 (Int32.ofNat k) h) fun x4 g3 => (hf_ob 0 6 g3 x4).bind fun _ => (hf_gi 0 6 (j + 1) g3 x4).bind fun x5 => K x5 g3) = K (Int32.ofNat (v (10 + 5 * k + j))) h := by
  obtain ⟨FV, l, m, p, q, HV, f1, f2, f3, f4, f5, f6, f7, f8, f9⟩ := F
  have q1 := W.v1
  obtain ⟨g1, g2, g3, g4⟩ := f6 k hk
  rw [hf_ga_eq f1, f2, Option.bind_some, f4.ob, f4.get hk (by omega), hf_b2_some, g1, Option.bind_some, hf_gi_eq g1, Option.bind_some]
  rcases (show j = 0 ∨ j = 1 ∨ j = 2 by omega) with e | e | e
  · subst e; rw [g2]
  · subst e; rw [g3]
  · subst e; rw [g4]
theorem hf_F.shape (F : hf_F h f v) (W : hf_wf v) {k : Nat} (hk : k < v 1) {τ : Type} (K : Int32 → hf_H → Option τ) : ((hf_ga 1 1 0 h f).bind fun x1 => (hf_ob 0 19 h x1).bind fun _ => hf_b2 (spJ2_get x1 (Int32.ofNat k) h) fun x4 g3 => (hf_ob 0 6 g3 x4).bind fun _ => (hf_gi 0 6 1 g3 x4).bind fun x5 => K x5 g3) = K (Int32.ofNat (v (10 + 5 * k + 0))) h := F.get W (j := 0) hk (by decide) K
theorem hf_F.side (F : hf_F h f v) (W : hf_wf v) {k : Nat} (hk : k < v 1) {τ : Type} (K : Int32 → hf_H → Option τ) : ((hf_ga 1 1 0 h f).bind fun x1 => (hf_ob 0 19 h x1).bind fun _ => hf_b2 (spJ2_get x1 (Int32.ofNat k) h) fun x4 g3 => (hf_ob 0 6 g3 x4).bind fun _ => (hf_gi 0 6 2 g3 x4).bind fun x5 => K x5 g3) = K (Int32.ofNat (v (10 + 5 * k + 1))) h := F.get W (j := 1) hk (by decide) K
theorem hf_F.price (F : hf_F h f v) (W : hf_wf v) {k : Nat} (hk : k < v 1) {τ : Type} (K : Int32 → hf_H → Option τ) : ((hf_ga 1 1 0 h f).bind fun x1 => (hf_ob 0 19 h x1).bind fun _ => hf_b2 (spJ2_get x1 (Int32.ofNat k) h) fun x4 g3 => (hf_ob 0 6 g3 x4).bind fun _ => (hf_gi 0 6 3 g3 x4).bind fun x5 => K x5 g3) = K (Int32.ofNat (v (10 + 5 * k + 2))) h := F.get W (j := 2) hk (by decide) K
theorem hf_F.stalls (F : hf_F h f v) : hf_gi 1 1 3 h f = some (Int32.ofNat (v 0)) := by
  obtain ⟨FV, l, m, p, q, HV, f1, f2, f3, f4, f5, f6, f7, f8, f9⟩ := F
  rw [hf_gi_eq f1, f7]
theorem hf_F.shift (F : hf_F h f v) (h0 : 0 < v 0) : hf_gi 1 1 4 h f = some (Int32.ofNat (v 4)) := by
  obtain ⟨FV, l, m, p, q, HV, f1, f2, f3, f4, f5, f6, f7, f8, f9⟩ := F
  rw [hf_gi_eq f1, (f8 h0).1]
theorem hf_F.near (F : hf_F h f v) (h0 : 0 < v 0) : hf_gi 1 1 5 h f = some (Int32.ofNat (v 5)) := by
  obtain ⟨FV, l, m, p, q, HV, f1, f2, f3, f4, f5, f6, f7, f8, f9⟩ := F
  rw [hf_gi_eq f1, (f8 h0).2.1]
theorem hf_F.dusk (F : hf_F h f v) (h0 : 0 < v 0) : hf_gi 1 1 6 h f = some (Int32.ofNat (v 6)) := by
  obtain ⟨FV, l, m, p, q, HV, f1, f2, f3, f4, f5, f6, f7, f8, f9⟩ := F
  rw [hf_gi_eq f1, (f8 h0).2.2.1]
theorem hf_F.duskP (F : hf_F h f v) (h0 : 0 < v 0) : hf_gi 1 1 7 h f = some (Int32.ofNat (v 7)) := by
  obtain ⟨FV, l, m, p, q, HV, f1, f2, f3, f4, f5, f6, f7, f8, f9⟩ := F
  rw [hf_gi_eq f1, (f8 h0).2.2.2.1]
theorem hf_F.hear (F : hf_F h f v) (h0 : 0 < v 0) : hf_gi 1 1 8 h f = some (Int32.ofNat (v 8)) := by
  obtain ⟨FV, l, m, p, q, HV, f1, f2, f3, f4, f5, f6, f7, f8, f9⟩ := F
  rw [hf_gi_eq f1, (f8 h0).2.2.2.2.1]
def zforg (v : Nat → Nat) : Nat := zset (fun k => v (10 + 5 * k + 4) == 1) (v 1)
theorem hf_F.forged (F : hf_F h f v) (h0 : 0 < v 0) : hf_gi 1 1 9 h f = some (Int32.ofNat (zforg v)) := by
  obtain ⟨FV, l, m, p, q, HV, f1, f2, f3, f4, f5, f6, f7, f8, f9⟩ := F
  rw [hf_gi_eq f1, (f8 h0).2.2.2.2.2]
  rfl
theorem hf_F.club (F : hf_F h f v) {b : Nat} (hb : b < v 2) (h4 : v 2 ≤ 4) : hf_ai 1 2 4 h f (Int32.ofNat b) = some (Int32.ofNat (v (70 + 4 * b + 3))) := by
  obtain ⟨FV, l, m, p, q, HV, f1, f2, f3, f4, f5, f6, f7, f8, f9⟩ := F
  rw [hf_ai_eq f1, z_ld (by omega) (by omega), f9 b hb]
/-- the state at s -/
def hf_SS (h : hf_H) (s : Nat) (v : Nat → Nat) : Prop := ∃ SV : hf_V, hf_ob 1 2 h s = some SV ∧ hf_S2 SV v
variable {s : Nat}
theorem hf_SS.ob (S : hf_SS h s v) {τ : Type} (K : Option τ) : ((hf_ob 1 2 h s).bind fun _ => K) = K := by
  obtain ⟨SV, s1, s2⟩ := S
  rw [s1]
  rfl
theorem hf_SS.where_ (S : hf_SS h s v) {k : Nat} (hk : k < v 1) (hn : v 1 ≤ 12) : hf_ai 2 0 12 h s (Int32.ofNat k) = some (Int32.ofNat (v (10 + 5 * k + 3))) := by
  obtain ⟨SV, s1, s2, s3, s4⟩ := S
  rw [hf_ai_eq s1, z_ld (by omega) (by omega), s2 k hk]
theorem hf_SS.purse (S : hf_SS h s v) {b : Nat} (hb : b < v 2) (hn : v 2 ≤ 4) : hf_ai 2 1 4 h s (Int32.ofNat b) = some (Int32.ofNat (v (70 + 4 * b))) := by
  obtain ⟨SV, s1, s2, s3, s4⟩ := S
  rw [hf_ai_eq s1, z_ld (by omega) (by omega), (s3 b hb).1]
theorem hf_SS.spot (S : hf_SS h s v) {b : Nat} (hb : b < v 2) (hn : v 2 ≤ 4) : hf_ai 2 2 4 h s (Int32.ofNat b) = some (Int32.ofNat (v (70 + 4 * b + 1))) := by
  obtain ⟨SV, s1, s2, s3, s4⟩ := S
  rw [hf_ai_eq s1, z_ld (by omega) (by omega), (s3 b hb).2.1]
theorem hf_SS.saw (S : hf_SS h s v) {b : Nat} (hb : b < v 2) (hn : v 2 ≤ 4) : hf_ai 2 3 4 h s (Int32.ofNat b) = some (Int32.ofNat (v (70 + 4 * b + 2))) := by
  obtain ⟨SV, s1, s2, s3, s4⟩ := S
  rw [hf_ai_eq s1, z_ld (by omega) (by omega), (s3 b hb).2.2]
theorem hf_SS.now (S : hf_SS h s v) : hf_gi 1 2 4 h s = some (Int32.ofNat (v 3)) := by
  obtain ⟨SV, s1, s2, s3, s4⟩ := S
  rw [hf_gi_eq s1, s4]
theorem x_spotOf (F : hf_F h f v) (W : hf_wf v) {a t : Nat} (h0 : 0 < v 0) (ha : a < 1000) (ht : t < 1000) : spX1_spotOf f (Int32.ofNat a) (Int32.ofNat t) h = some (Int32.ofNat (zsp v a t), h) := by
  have q0 := W.v0
  have q4 := W.v4
  have h5 : t * v 4 ≤ 1000 * 7 := Nat.mul_le_mul (by omega) (by omega)
  unfold spX1_spotOf zsp
  simp (disch := omega) only [F.shift h0, F.stalls, Option.bind_some, z_lit, z_eq, z_mul, z_add, z_div, z_rem, if_neg (show ¬ v 0 = 0 by omega)]
theorem x_stallAt (F : hf_F h f v) (W : hf_wf v) {p t : Nat} (hp : p < v 0) (ht : t < 1000) : spX1_stallAt f (Int32.ofNat p) (Int32.ofNat t) h = some (Int32.ofNat (zst v p t), h) := by
  obtain ⟨a1, a2, a3⟩ := z_st t hp
  have q0 := W.v0
  unfold spX1_stallAt
  refine hf_loop (fun g i => lpX1_stallAt_2 g f (Int32.ofNat p) (Int32.ofNat t) (Int32.ofNat i) h) (zst v p t) _ (fun i g hi => ?_) (fun g => ?_) (fuel := hf_N) (by unfold hf_N; omega)
  · show ndX1_stallAt_2 (lpX1_stallAt_2 g) _ _ _ _ _ = _
    unfold ndX1_stallAt_2
    have h5 : zsp v i t < v 0 := Nat.mod_lt _ (by omega)
    simp (disch := omega) only [F.ob, x_spotOf F W, hf_b2_some, z_eq, if_neg (a3 i hi), hf_let_eq, z_lit, z_add]
  · show ndX1_stallAt_2 (lpX1_stallAt_2 g) _ _ _ _ _ = _
    unfold ndX1_stallAt_2
    simp (disch := omega) only [F.ob, x_spotOf F W, hf_b2_some, a2, if_true]
theorem x_abs (a b : Nat) (ha : a < 16777216) (hb : b < 16777216) : (if 0 ≤ (Int32.ofNat a - Int32.ofNat b) then (Int32.ofNat a - Int32.ofNat b) else 0 - (Int32.ofNat a - Int32.ofNat b)) = Int32.ofNat (zap a b) := by
  unfold zap
  by_cases e : a ≤ b
  · rw [if_pos e]
    by_cases e2 : a = b
    · subst e2
      rw [z_sub (Nat.le_refl _), Nat.sub_self]
      rfl
    · have h1 : 0 - (Int32.ofNat a - Int32.ofNat b) = Int32.ofNat (b - a) := by
        rw [← z_sub e]
        rw [Int32.sub_eq_add_neg, Int32.neg_sub, Int32.zero_add]
      have h2 : Int32.ofNat a - Int32.ofNat b = - Int32.ofNat (b - a) := by
        rw [← z_sub e, Int32.neg_sub]
      have h3 : ¬ 0 ≤ (Int32.ofNat a - Int32.ofNat b) := by
        rw [h2]
        exact Int32.not_le.mpr (z_neg (by omega) (by omega))
      rw [if_neg h3, h1]
  · rw [if_neg e, z_sub (by omega), if_pos (Int32.not_lt.mp (z_n0 _ (by omega)))]
theorem x_far (F : hf_F h f v) (W : hf_wf v) {a b : Nat} (ha : a < v 0) (hb : b < v 0) : spX1_far f (Int32.ofNat a) (Int32.ofNat b) h = some (Int32.ofNat (zfar v a b), h) := by
  have q0 := W.v0
  have q1 := zap_lt ha hb
  unfold spX1_far zfar
  rw [x_abs a b (by omega) (by omega)]
  simp (disch := omega) only [hf_let_eq, F.stalls, Option.bind_some, z_sub, z_lt]
  by_cases e : 2 * zap a b ≤ v 0
  · rw [if_pos e, if_neg (by omega)]
  · rw [if_neg e, if_pos (by omega)]
theorem x_priceAt (F : hf_F h f v) (W : hf_wf v) {k : Nat} (hk : k < v 1) : spX1_priceAt f (Int32.ofNat k) (Int32.ofNat (v 3)) h = some (Int32.ofNat (zpr v k), h) := by
  have q3 := W.v3
  have q6 := W.v6
  have h0 := W.h0 hk
  unfold spX1_priceAt zpr
  simp (disch := omega) only [F.dusk h0, F.duskP h0, Option.bind_some, z_lt]
  by_cases e : v 3 < v 6
  · rw [if_pos e, if_pos e, F.price W hk]
  · rw [if_neg e, if_neg e]
def zleft (v : Nat → Nat) : Nat := v 6 - v 3
theorem x_left (F : hf_F h f v) (W : hf_wf v) (h0 : 0 < v 0) : spX1_left f (Int32.ofNat (v 3)) h = some (Int32.ofNat (zleft v), h) := by
  have q3 := W.v3
  have q6 := W.v6
  unfold spX1_left zleft
  simp only [F.dusk h0, Option.bind_some, hf_let_eq]
  by_cases e : v 3 < v 6
  · have h1 : (0 : Int32) < Int32.ofNat (v 6 - v 3) := (z_lt (a := 0) (by omega) (by omega)).mpr (by omega)
    rw [z_sub (by omega), if_pos h1]
  · by_cases e2 : v 3 = v 6
    · rw [e2, z_sub (Nat.le_refl _), Nat.sub_self]
      rfl
    · have h2 : Int32.ofNat (v 6) - Int32.ofNat (v 3) = - Int32.ofNat (v 3 - v 6) := by
        rw [← z_sub (by omega), Int32.neg_sub]
      have h3 : ¬ (0 : Int32) < - Int32.ofNat (v 3 - v 6) := Int32.not_lt.mpr (Int32.le_of_lt (z_neg (by omega) (by omega)))
      rw [h2, if_neg h3, show v 6 - v 3 = 0 by omega]
      rfl
theorem zforg_bit (v : Nat → Nat) (k : Nat) (hk : k < v 1) : (zforg v).testBit k = (v (10 + 5 * k + 4) == 1) := by
  unfold zforg
  rw [zset_bit]
  simp [hk]
theorem zforg_lt (v : Nat → Nat) (hn : v 1 ≤ 12) : zforg v < 4096 := by
  have := zset_lt (fun k => v (10 + 5 * k + 4) == 1) (v 1)
  have h2 := (zpow12 hn).2.1
  unfold zforg
  omega
/-- fit, if the halves of g are forged -/
def zfit (v : Nat → Nat) (a b g : Nat) : Nat := if g.testBit a = true then 2 else if g.testBit b = true then 2 else zft v a b
theorem x_fit (F : hf_F h f v) (W : hf_wf v) {a b g : Nat} (ha : a < v 1) (hb : b < v 1) (hg : g < 2147483648) : spX1_fit f (Int32.ofNat a) (Int32.ofNat b) (Int32.ofNat g) h = some (Int32.ofNat (zfit v a b g), h) := by
  have q1 := W.v1
  have q5 := W.v5
  obtain ⟨a1, a2, a3, -⟩ := W.half ha
  obtain ⟨b1, b2, b3, -⟩ := W.half hb
  unfold spX1_fit zfit
  rw [x_has hg (by omega), x_has hg (by omega), Option.bind_some, Option.bind_some]
  by_cases e1 : g.testBit a = true
  · rw [if_pos e1, if_pos e1, if_neg (by decide)]; rfl
  rw [if_neg e1, if_neg e1, if_pos (by decide)]
  by_cases e2 : g.testBit b = true
  · rw [if_pos e2, if_pos e2, if_neg (by decide)]; rfl
  rw [if_neg e2, if_neg e2, if_pos (by decide)]
  have h5 := F.near (W.h0 ha)
  obtain ⟨FV, l, m, p, q, HV, f1, f2, f3, f4, f5, f6, f7, f8, f9⟩ := F
  obtain ⟨g1, g2, g3, g4⟩ := f6 a ha
  obtain ⟨k1, k2, k3, k4⟩ := f6 b hb
  simp (disch := omega) only [hf_ga_eq f1, f2, Option.bind_some, f4.ob, f4.get, hf_b2_some, g1, k1, hf_gi_eq g1, hf_gi_eq k1, g2, g3, k2, k3, x_abs, h5, hf_let_eq, z_eq]
  have z1 := zap_lt (a := v (10 + 5 * a + 0)) (b := v (10 + 5 * b + 0)) (n := 100) (by omega) (by omega)
  have z2 : (Int32.ofNat (zap (v (10 + 5 * a + 0)) (v (10 + 5 * b + 0))) ≤ Int32.ofNat (v 5)) ↔ zap (v (10 + 5 * a + 0)) (v (10 + 5 * b + 0)) ≤ v 5 := z_le (by omega) (by omega)
  simp only [z2]
  unfold zft
  by_cases e3 : v (10 + 5 * a + 1) = v (10 + 5 * b + 1)
  · rw [if_pos e3, if_pos e3]; rfl
  rw [if_neg e3, if_neg e3]
  by_cases e4 : v (10 + 5 * a + 0) = v (10 + 5 * b + 0)
  · have e5 : zap (v (10 + 5 * a + 0)) (v (10 + 5 * b + 0)) = 0 := by unfold zap; rw [e4]; simp
    rw [e5, if_pos (Nat.zero_le _), if_pos e4, if_pos rfl]; rfl
  · have e5 : zap (v (10 + 5 * a + 0)) (v (10 + 5 * b + 0)) ≠ 0 := by unfold zap; split <;> omega
    rw [if_neg e5, if_neg e4]
    by_cases e6 : v 5 < zap (v (10 + 5 * a + 0)) (v (10 + 5 * b + 0))
    · rw [if_pos e6, if_neg (by omega)]; rfl
    · rw [if_neg e6, if_pos (by omega)]; rfl
theorem zfit_fo {v : Nat → Nat} {a b : Nat} (ha : a < v 1) (hb : b < v 1) : zfit v a b (zforg v) = zfo v a b := by
  unfold zfit zfo
  rw [zforg_bit v a ha, zforg_bit v b hb]
  simp only [beq_iff_eq]
/-- HalfFair at o, its fair at f, its state at s -/
def hf_XX (h : hf_H) (o f s : Nat) : Prop := ∃ XV : hf_V, hf_ob 1 0 h o = some XV ∧ XV.2.2.1 0 = some f ∧ XV.2.2.1 1 = some s
variable {o : Nat}
theorem hf_XX.ob (X : hf_XX h o f s) {τ : Type} (K : Option τ) : ((hf_ob 1 0 h o).bind fun _ => K) = K := by
  obtain ⟨XV, s1, s2⟩ := X
  rw [s1]
  rfl
theorem hf_XX.fa (X : hf_XX h o f s) : hf_ga 1 0 0 h o = some f := by
  obtain ⟨XV, s1, s2, s3⟩ := X
  rw [hf_ga_eq s1, s2]
theorem hf_XX.st (X : hf_XX h o f s) : hf_ga 1 0 1 h o = some s := by
  obtain ⟨XV, s1, s2, s3⟩ := X
  rw [hf_ga_eq s1, s3]
theorem x_many (X : hf_XX h o f s) (F : hf_F h f v) : spX0_many o h = some (Int32.ofNat (v 1), h) := by
  unfold spX0_many
  rw [X.fa, Option.bind_some, F.size]
theorem x_buyers (X : hf_XX h o f s) (F : hf_F h f v) : spX0_buyers o h = some (Int32.ofNat (v 2), h) := by
  unfold spX0_buyers
  rw [X.fa, Option.bind_some, F.sizeB]
theorem x_isFair (X : hf_XX h o f s) (F : hf_F h f v) (W : hf_wf v) : spX0_isFair o h = some (Int32.ofNat (if v 0 = 0 then 0 else 1), h) := by
  unfold spX0_isFair
  have q0 := W.v0
  rw [X.fa, Option.bind_some, F.stalls, Option.bind_some]
  have h1 : (Int32.ofNat (v 0) ≤ 0) ↔ v 0 ≤ 0 := z_le (b := 0) (by omega) (by omega)
  by_cases e : v 0 = 0
  · rw [if_pos (h1.mpr (by omega)), if_pos e]; rfl
  · rw [if_neg (fun z => e (by have := h1.mp z; omega)), if_neg e]; rfl
theorem x_isHalf (X : hf_XX h o f s) (F : hf_F h f v) (W : hf_wf v) (x : Int32) : spX0_isHalf o x h = some (if zin x (v 1) then Int32.ofNat 1 else Int32.ofNat 0, h) := by
  unfold spX0_isHalf
  have q1 := W.v1
  rw [X.ob, x_many X F, hf_b2_some, x_inn x (by omega), Option.bind_some, if_pos]
  split
  · exact Or.inr rfl
  · exact Or.inl rfl
theorem x_isBuyer (X : hf_XX h o f s) (F : hf_F h f v) (W : hf_wf v) (x : Int32) : spX0_isBuyer o x h = some (if zin x (v 2) then Int32.ofNat 1 else Int32.ofNat 0, h) := by
  unfold spX0_isBuyer
  have q1 := W.v2
  rw [X.ob, x_buyers X F, hf_b2_some, x_inn x (by omega), Option.bind_some, if_pos]
  split
  · exact Or.inr rfl
  · exact Or.inl rfl
theorem x_isStall (X : hf_XX h o f s) (F : hf_F h f v) (W : hf_wf v) (x : Int32) : spX0_isStall o x h = some (if zin x (v 0) then Int32.ofNat 1 else Int32.ofNat 0, h) := by
  unfold spX0_isStall
  have q1 := W.v0
  rw [X.fa, Option.bind_some, F.stalls, Option.bind_some, x_inn x (by omega), Option.bind_some, if_pos]
  split
  · exact Or.inr rfl
  · exact Or.inl rfl
theorem x_fit2 (X : hf_XX h o f s) (F : hf_F h f v) (W : hf_wf v) {a b : Nat} (ha : a < v 1) (hb : b < v 1) : spX0_fit2 o (Int32.ofNat a) (Int32.ofNat b) h = some (Int32.ofNat (zfo v a b), h) := by
  unfold spX0_fit2
  have := zforg_lt v W.v1
  rw [X.fa, Option.bind_some, Option.bind_some, F.forged (W.h0 ha), Option.bind_some, F.ob, x_fit F W ha hb (by omega), hf_b2_some, zfit_fo ha hb]
end ZX
set_option maxRecDepth 100000
set_option maxHeartbeats 1000000
section ZX
variable {h : hf_H} {o f s : Nat} {v : Nat → Nat}
theorem x_halvesAt (F : hf_F h f v) (S : hf_SS h s v) (W : hf_wf v) {p : Nat} (hp : p < 1000) : spX2_halvesAt s f (Int32.ofNat p) h = some (Int32.ofNat (zat v p), h) := by
  have q1 := W.v1
  unfold spX2_halvesAt zat
  refine hf_loop (fun g i => lpX2_halvesAt_5 g s f (Int32.ofNat p) (Int32.ofNat (zset (fun h => v (10 + 5 * h + 3) == p) i)) (Int32.ofNat i) h) (v 1) _ (fun i g hi => ?_) (fun g => ?_) (fuel := hf_N) (by unfold hf_N; omega)
  · show ndX2_halvesAt_5 (lpX2_halvesAt_5 g) _ _ _ _ _ _ = _
    unfold ndX2_halvesAt_5 ndX2_halvesAt_37
    have b2 := W.b (10 + 5 * i + 3)
    simp (disch := omega) only [z_lit, z_add, z_mul, z_sub, z_div, z_rem, Option.bind_some, z_le, z_lt, z_eq, hf_b2_some, hf_let_eq, z_shl, z_shr, z_and, z_or, z_nd, z_nd2, F.size, S.ob, S.where_ hi q1, if_neg (show ¬ v 1 ≤ i by omega)]
    by_cases hc : v (10 + 5 * i + 3) = p
    · simp only [hc, if_true, zset, beq_self_eq_true]
    · simp only [hc, if_false, zset, beq_eq_false_iff_ne.mpr hc]
      rfl
  · show ndX2_halvesAt_5 (lpX2_halvesAt_5 g) _ _ _ _ _ _ = _
    unfold ndX2_halvesAt_5
    simp (disch := omega) only [z_lit, z_add, z_mul, z_sub, z_div, z_rem, Option.bind_some, z_le, z_lt, z_eq, hf_b2_some, hf_let_eq, z_shl, z_shr, z_and, z_or, z_nd, z_nd2, F.size, Nat.le_refl, if_true]
theorem x_halvesOf (F : hf_F h f v) (S : hf_SS h s v) (W : hf_wf v) {b : Nat} (hb : b < 4) : spX2_halvesOf s f (Int32.ofNat b) h = some (Int32.ofNat (zhas v b), h) := by
  unfold spX2_halvesOf
  simp (disch := omega) only [z_lit, z_add, z_mul, z_sub, z_div, z_rem, Option.bind_some, z_le, z_lt, z_eq, hf_b2_some, hf_let_eq, z_shl, z_shr, z_and, z_or, z_nd, z_nd2, S.ob, x_halvesAt F S W]
  rfl
theorem x_atStalls (F : hf_F h f v) (S : hf_SS h s v) (W : hf_wf v) : spX2_atStalls s f h = some (Int32.ofNat (zats v), h) := by
  have q1 := W.v1
  unfold spX2_atStalls zats
  refine hf_loop (fun g i => lpX2_atStalls_4 g s f (Int32.ofNat (zset (fun h => decide (v (10 + 5 * h + 3) < 100)) i)) (Int32.ofNat i) h) (v 1) _ (fun i g hi => ?_) (fun g => ?_) (fuel := hf_N) (by unfold hf_N; omega)
  · show ndX2_atStalls_4 (lpX2_atStalls_4 g) _ _ _ _ _ = _
    unfold ndX2_atStalls_4 ndX2_atStalls_34
    have b2 := W.b (10 + 5 * i + 3)
    simp (disch := omega) only [z_lit, z_add, z_mul, z_sub, z_div, z_rem, Option.bind_some, z_le, z_lt, z_eq, hf_b2_some, hf_let_eq, z_shl, z_shr, z_and, z_or, z_nd, z_nd2, F.size, S.ob, S.where_ hi q1, if_neg (show ¬ v 1 ≤ i by omega)]
    by_cases hc : 100 ≤ v (10 + 5 * i + 3)
    · have hc2 : ¬ v (10 + 5 * i + 3) < 100 := by omega
      simp only [hc, hc2, if_true, zset, decide_false]
      rfl
    · have hc2 : v (10 + 5 * i + 3) < 100 := by omega
      simp only [hc, hc2, if_false, zset, decide_true, if_true]
  · show ndX2_atStalls_4 (lpX2_atStalls_4 g) _ _ _ _ _ = _
    unfold ndX2_atStalls_4
    simp (disch := omega) only [z_lit, z_add, z_mul, z_sub, z_div, z_rem, Option.bind_some, z_le, z_lt, z_eq, hf_b2_some, hf_let_eq, z_shl, z_shr, z_and, z_or, z_nd, z_nd2, F.size, Nat.le_refl, if_true]
theorem x_stallOf (F : hf_F h f v) (S : hf_SS h s v) (W : hf_wf v) {b : Nat} (hb : b < v 2) : spX2_stallOf s f (Int32.ofNat b) h = some (Int32.ofNat (zst v (v (70 + 4 * b + 1)) (v 3)), h) := by
  have q2 := W.v2
  have q3 := W.v3
  have qb := W.buyer hb
  unfold spX2_stallOf
  simp (disch := omega) only [z_lit, z_add, z_mul, z_sub, z_div, z_rem, Option.bind_some, z_le, z_lt, z_eq, hf_b2_some, hf_let_eq, z_shl, z_shr, z_and, z_or, z_nd, z_nd2, S.ob, S.spot hb q2, S.now, F.ob, x_stallAt F W]
theorem x_clubSaw (F : hf_F h f v) (S : hf_SS h s v) (W : hf_wf v) {b : Nat} (hb : b < v 2) : spX2_clubSaw s f (Int32.ofNat b) h = some (Int32.ofNat (zsaw v b), h) := by
  have q2 := W.v2
  have qb := W.buyer hb
  unfold spX2_clubSaw zsaw
  refine hf_loop (fun g i => lpX2_clubSaw_5 g s f (Int32.ofNat b) (Int32.ofNat (zor (fun o => if (v (70 + 4 * b + 3)).testBit o then v (70 + 4 * o + 2) else 0) i)) (Int32.ofNat i) h) (v 2) _ (fun i g hi => ?_) (fun g => ?_) (fuel := hf_N) (by unfold hf_N; omega)
  · show ndX2_clubSaw_5 (lpX2_clubSaw_5 g) _ _ _ _ _ _ = _
    unfold ndX2_clubSaw_5 ndX2_clubSaw_43
    simp (disch := omega) only [z_lit, z_add, z_mul, z_sub, z_div, z_rem, Option.bind_some, z_le, z_lt, z_eq, hf_b2_some, hf_let_eq, z_shl, z_shr, z_and, z_or, z_nd, z_nd2, F.sizeB, F.ob, S.ob, F.club hb q2, S.saw hi q2, x_has, if_neg (show ¬ v 2 ≤ i by omega)]
    by_cases hc : (v (70 + 4 * b + 3)).testBit i = true
    · simp (disch := omega) only [z_lit, z_add, z_mul, z_sub, z_div, z_rem, Option.bind_some, z_le, z_lt, z_eq, hf_b2_some, hf_let_eq, z_shl, z_shr, z_and, z_or, z_nd, z_nd2, hc, if_true, zor]
      rfl
    · simp (disch := omega) only [z_lit, z_add, z_mul, z_sub, z_div, z_rem, Option.bind_some, z_le, z_lt, z_eq, hf_b2_some, hf_let_eq, z_shl, z_shr, z_and, z_or, z_nd, z_nd2, hc, if_false, zor]
      rfl
  · show ndX2_clubSaw_5 (lpX2_clubSaw_5 g) _ _ _ _ _ _ = _
    unfold ndX2_clubSaw_5
    simp (disch := omega) only [z_lit, z_add, z_mul, z_sub, z_div, z_rem, Option.bind_some, z_le, z_lt, z_eq, hf_b2_some, hf_let_eq, z_shl, z_shr, z_and, z_or, z_nd, z_nd2, F.sizeB, Nat.le_refl, if_true]
theorem x_unseen (F : hf_F h f v) (S : hf_SS h s v) (W : hf_wf v) {b : Nat} (hb : b < v 2) : spX2_unseen s f (Int32.ofNat b) h = some (Int32.ofNat (hf_nd (zats v) (zsaw v b)), h) := by
  unfold spX2_unseen
  simp only [S.ob, x_atStalls F S W, x_clubSaw F S W hb, hf_b2_some, z_nd]
theorem x_canBuy (F : hf_F h f v) (S : hf_SS h s v) (W : hf_wf v) {b k : Nat} (hb : b < v 2) (hk : k < v 1) : spX2_canBuy s f (Int32.ofNat b) (Int32.ofNat k) h = some (Int32.ofNat (if v (10 + 5 * k + 3) = zst v (v (70 + 4 * b + 1)) (v 3) ∧ zpr v k ≤ v (70 + 4 * b + 0) then 1 else 0), h) := by
  have q1 := W.v1
  have q2 := W.v2
  have q3 := W.v0
  have qb := W.buyer hb
  have qk := W.half hk
  have qs := (z_st (v 3) qb.2.1).1
  have qp : zpr v k < 1000 := by
    have := W.v7
    unfold zpr
    split <;> omega
  unfold spX2_canBuy
  simp (disch := omega) only [z_lit, z_add, z_mul, z_sub, z_div, z_rem, Option.bind_some, z_le, z_lt, z_eq, hf_b2_some, hf_let_eq, z_shl, z_shr, z_and, z_or, z_nd, z_nd2, S.ob, S.where_ hk q1, x_stallOf F S W hb, S.purse hb q2, S.now, F.ob, x_priceAt F W hk]
  by_cases e1 : v (10 + 5 * k + 3) = zst v (v (70 + 4 * b + 1)) (v 3)
  · by_cases e2 : v (70 + 4 * b) < zpr v k
    · simp only [e1, e2, if_true, true_and, Nat.add_zero, if_neg (show ¬ zpr v k ≤ v (70 + 4 * b) by omega)]
    · simp only [e1, e2, if_true, if_false, true_and, Nat.add_zero, if_pos (show zpr v k ≤ v (70 + 4 * b) by omega)]
  · simp only [e1, if_false, false_and]
/-- a state's cell changed -/
def hf_sc (h : hf_H) (s : Nat) (SV : hf_V) : hf_H := hf_up h s (.inl (1, 2, SV))
theorem hf_ob_sc (h : hf_H) (s : Nat) (SV : hf_V) : hf_ob 1 2 (hf_sc h s SV) s = some SV := hf_ob_up h s 1 2 SV
theorem hf_sc_sc (h : hf_H) (s : Nat) (A B : hf_V) : hf_sc (hf_sc h s A) s B = hf_sc h s B := hf_up_up h s _ _
theorem hf_SS.sc {SV : hf_V} {v : Nat → Nat} (h : hf_H) (s : Nat) (S : hf_S2 SV v) : hf_SS (hf_sc h s SV) s v := ⟨SV, hf_ob_up h s 1 2 SV, S⟩
/-- the fair is as told before -/
def hf_fe (v w : Nat → Nat) : Prop := w 0 = v 0 ∧ w 1 = v 1 ∧ w 2 = v 2 ∧ w 4 = v 4 ∧ w 5 = v 5 ∧ w 6 = v 6 ∧ w 7 = v 7 ∧ w 8 = v 8 ∧ (∀ k, k < v 1 → w (10 + 5 * k + 0) = v (10 + 5 * k + 0) ∧ w (10 + 5 * k + 1) = v (10 + 5 * k + 1) ∧ w (10 + 5 * k + 2) = v (10 + 5 * k + 2) ∧ w (10 + 5 * k + 4) = v (10 + 5 * k + 4)) ∧ ∀ b, b < v 2 → w (70 + 4 * b + 3) = v (70 + 4 * b + 3)
theorem hf_fe.rfl_ (v : Nat → Nat) : hf_fe v v := ⟨rfl, rfl, rfl, rfl, rfl, rfl, rfl, rfl, fun k hk => ⟨rfl, rfl, rfl, rfl⟩, fun b hb => rfl⟩
theorem hf_fe.trans {v w u : Nat → Nat} (A : hf_fe v w) (B : hf_fe w u) : hf_fe v u := by
  obtain ⟨a0, a1, a2, a4, a5, a6, a7, a8, a9, a10⟩ := A
  obtain ⟨b0, b1, b2, b4, b5, b6, b7, b8, b9, b10⟩ := B
  refine ⟨b0.trans a0, b1.trans a1, b2.trans a2, b4.trans a4, b5.trans a5, b6.trans a6, b7.trans a7, b8.trans a8, fun k hk => ?_, fun b hb => (b10 b (by omega)).trans (a10 b hb)⟩
  obtain ⟨c0, c1, c2, c4⟩ := a9 k hk
  obtain ⟨d0, d1, d2, d4⟩ := b9 k (by omega)
  exact ⟨d0.trans c0, d1.trans c1, d2.trans c2, d4.trans c4⟩
theorem hf_F.fe (F : hf_F h f v) {w : Nat → Nat} (E : hf_fe v w) : hf_F h f w := by
  obtain ⟨a0, a1, a2, a4, a5, a6, a7, a8, a9, a10⟩ := E
  obtain ⟨FV, l, m, p, q, HV, f1, f2, f3, f4, f5, f6, f7, f8, f9⟩ := F
  refine ⟨FV, l, m, p, q, HV, f1, f2, f3, by rw [a1]; exact f4, by rw [a2]; exact f5, fun k hk => ?_, by rw [a0]; exact f7, fun h0 => ?_, fun b hb => ?_⟩
  · rw [a1] at hk
    obtain ⟨c0, c1, c2, c4⟩ := a9 k hk
    rw [c0, c1, c2]
    exact f6 k hk
  · rw [a0] at h0
    obtain ⟨g1, g2, g3, g4, g5, g6⟩ := f8 h0
    rw [a1, a4, a5, a6, a7, a8]
    refine ⟨g1, g2, g3, g4, g5, g6.trans ?_⟩
    congr 1
    exact zset_congr _ (fun k hk => by rw [(a9 k hk).2.2.2])
  · rw [a2] at hb
    rw [a10 b hb]
    exact f9 b hb
/-- cells of other kinds than those that acts write -/
theorem hf_L.up {l n : Nat} {p : Nat → Nat} (L : hf_L h l n p) {a md ci : Nat} {V V' : hf_V} (ha : hf_ob md ci h a = some V) (hne : ci ≠ 19) : hf_L (hf_up h a (.inl (md, ci, V'))) l n p := by
  obtain ⟨LV, d, N, B, e1, e2, e3, e4, e5, e6⟩ := L
  refine ⟨LV, d, N, B, ?_, e2, e3, ?_, e5, e6⟩
  · rw [hf_ob_ne (hf_ob_dif e1 ha (fun z => hne z.2.symm))]
    exact e1
  · have hd : d ≠ a := by
      intro z
      subst z
      have h1 := hf_ob_spec ha
      unfold hf_pa at e4
      rw [h1] at e4
      cases e4
    unfold hf_pa hf_up
    simp only [hd, if_false]
    exact e4
theorem hf_F.up (F : hf_F h f v) {a md ci : Nat} {V V' : hf_V} (ha : hf_ob md ci h a = some V) (hne : ci ≠ 19 ∧ ci ≠ 1 ∧ ci ≠ 6) : hf_F (hf_up h a (.inl (md, ci, V'))) f v := by
  obtain ⟨FV, l, m, p, q, HV, f1, f2, f3, f4, f5, f6, f7, f8, f9⟩ := F
  refine ⟨FV, l, m, p, q, HV, ?_, f2, f3, f4.up ha hne.1, f5.up ha hne.1, fun k hk => ?_, f7, f8, f9⟩
  · rw [hf_ob_ne (hf_ob_dif f1 ha (fun z => hne.2.1 z.2.symm))]
    exact f1
  · obtain ⟨g1, g2⟩ := f6 k hk
    refine ⟨?_, g2⟩
    rw [hf_ob_ne (hf_ob_dif g1 ha (fun z => hne.2.2 z.2.symm))]
    exact g1
theorem hf_F.sc (F : hf_F h f v) (S : hf_SS h s v) {w : Nat → Nat} (E : hf_fe v w) (SV : hf_V) : hf_F (hf_sc h s SV) f w := by
  obtain ⟨SV0, s1, s2⟩ := S
  exact (F.up s1 (by decide)).fe E
theorem hf_XX.sc (X : hf_XX h o f s) {s' : Nat} (S : hf_SS h s' v) (SV : hf_V) : hf_XX (hf_sc h s' SV) o f s := by
  obtain ⟨SV0, s1, s2⟩ := S
  obtain ⟨XV, x1, x2⟩ := X
  refine ⟨XV, ?_, x2⟩
  unfold hf_sc
  rw [hf_ob_ne (hf_ob_dif x1 s1 (by decide))]
  exact x1
end ZX
/-- a loop with what stays true of its state, its measure falls -/
theorem hf_whileR {σ τ : Type} (G : Nat → σ → Option τ) (m : σ → Nat) (P : σ → Prop) (R : Option τ → Prop) (hstep : ∀ f s, P s → R (G (f + 1) s) ∨ ∃ s', G (f + 1) s = G f s' ∧ P s' ∧ m s' < m s) (s0 : σ) (h0 : P s0) {fuel : Nat} (h : m s0 < fuel) : R (G fuel s0) := by
  induction fuel generalizing s0 with
  | zero => omega
  | succ f ih =>
    rcases hstep f s0 h0 with h1 | ⟨s', h1, h2, h3⟩
    · exact h1
    · rw [h1]
      exact ih s' h2 (by omega)
theorem hf_loopR {σ τ : Type} (G : Nat → Nat → σ → Option τ) (P : Nat → σ → Prop) (n : Nat) (R : Option τ → Prop) (hstep : ∀ i f s, i < n → P i s → ∃ s', G (f + 1) i s = G f (i + 1) s' ∧ P (i + 1) s') (hend : ∀ f s, P n s → R (G (f + 1) n s)) (s0 : σ) (h0 : P 0 s0) {fuel : Nat} (h : n < fuel) : R (G fuel 0 s0) := by
  refine hf_whileR (fun f (x : Nat × σ) => G f x.1 x.2) (fun x => n - x.1) (fun x => x.1 ≤ n ∧ P x.1 x.2) R (fun f x hx => ?_) (0, s0) ⟨Nat.zero_le _, h0⟩ (by show n - 0 < fuel; omega)
  by_cases e : x.1 = n
  · left
    have h1 := hend f x.2 (e ▸ hx.2)
    show R (G (f + 1) x.1 x.2)
    rw [e]
    exact h1
  · right
    obtain ⟨s', h1, h2⟩ := hstep x.1 f x.2 (by omega) hx.2
    exact ⟨(x.1 + 1, s'), h1, ⟨by show x.1 + 1 ≤ n; omega, h2⟩, by show n - (x.1 + 1) < n - x.1; omega⟩
theorem hf_wf.up {v : Nat → Nat} (W : hf_wf v) {i x : Nat} (hx : x < 16777216) (hi : i = 3 ∨ 10 ≤ i) (h3 : i = 3 → x ≤ 99) (hw : ∀ k, k < v 1 → (i = 10 + 5 * k + 3 → x < 104 ∧ (x < v 0 ∨ 100 ≤ x)) ∧ i ≠ 10 + 5 * k + 0 ∧ i ≠ 10 + 5 * k + 1 ∧ i ≠ 10 + 5 * k + 2 ∧ i ≠ 10 + 5 * k + 4) (hb : ∀ b, b < v 2 → (i = 70 + 4 * b → x < 1000000) ∧ (i = 70 + 4 * b + 1 → x < v 0) ∧ (i = 70 + 4 * b + 2 → x < 4096) ∧ i ≠ 70 + 4 * b + 3) : hf_wf (zup v i x) := by
  have e0 : zup v i x 0 = v 0 := zup_ne _ (by omega) _
  have e1 : zup v i x 1 = v 1 := zup_ne _ (by omega) _
  have e2 : zup v i x 2 = v 2 := zup_ne _ (by omega) _
  have e4 : zup v i x 4 = v 4 := zup_ne _ (by omega) _
  have e5 : zup v i x 5 = v 5 := zup_ne _ (by omega) _
  have e6 : zup v i x 6 = v 6 := zup_ne _ (by omega) _
  have e7 : zup v i x 7 = v 7 := zup_ne _ (by omega) _
  have e8 : zup v i x 8 = v 8 := zup_ne _ (by omega) _
  have e3 : zup v i x 3 ≤ 99 := by
    by_cases e : 3 = i
    · rw [← e, zup_at]; exact h3 e.symm
    · rw [zup_ne _ e]; exact W.v3
  obtain ⟨⟨w0, w1, w2, w3, w4, w5, w6, w7, w8, w9⟩, wh, wb, wk⟩ := W
  refine ⟨⟨by rw [e0]; exact w0, by rw [e1]; exact w1, by rw [e2]; exact w2, e3, by rw [e4]; exact w4, by rw [e5]; exact w5, by rw [e6]; exact w6, by rw [e7]; exact w7, by rw [e8]; exact w8, by rw [e0, e1, e2]; exact w9⟩, fun k hk => ?_, fun b hb2 => ?_, fun k => ?_⟩
  · rw [e1] at hk
    obtain ⟨a0, a1, a2, a3, a4, a5⟩ := wh k hk
    obtain ⟨c3, c0, c1, c2, c4⟩ := hw k hk
    rw [zup_ne _ (Ne.symm c0), zup_ne _ (Ne.symm c1), zup_ne _ (Ne.symm c2), zup_ne _ (Ne.symm c4), e0]
    refine ⟨a0, a1, a2, ?_, ?_, a5⟩
    · by_cases e : 10 + 5 * k + 3 = i
      · rw [e, zup_at]; exact (c3 e.symm).1
      · rw [zup_ne _ e]; exact a3
    · by_cases e : 10 + 5 * k + 3 = i
      · rw [e, zup_at]; exact (c3 e.symm).2
      · rw [zup_ne _ e]; exact a4
  · rw [e2] at hb2
    obtain ⟨a0, a1, a2, a3⟩ := wb b hb2
    obtain ⟨c0, c1, c2, c3⟩ := hb b hb2
    rw [zup_ne _ (Ne.symm c3), e0, e2]
    refine ⟨?_, ?_, ?_, a3⟩
    · by_cases e : 70 + 4 * b = i
      · rw [e, zup_at]; exact c0 e.symm
      · rw [zup_ne _ e]; exact a0
    · by_cases e : 70 + 4 * b + 1 = i
      · rw [e, zup_at]; exact c1 e.symm
      · rw [zup_ne _ e]; exact a1
    · by_cases e : 70 + 4 * b + 2 = i
      · rw [e, zup_at]; exact c2 e.symm
      · rw [zup_ne _ e]; exact a2
  · by_cases e : k = i
    · rw [e, zup_at]; exact hx
    · rw [zup_ne _ e]; exact wk k
theorem hf_fe.up {v : Nat → Nat} (i x : Nat) (hi : i = 3 ∨ 10 ≤ i) (hw : ∀ k, k < v 1 → i ≠ 10 + 5 * k + 0 ∧ i ≠ 10 + 5 * k + 1 ∧ i ≠ 10 + 5 * k + 2 ∧ i ≠ 10 + 5 * k + 4) (hb : ∀ b, b < v 2 → i ≠ 70 + 4 * b + 3) : hf_fe v (zup v i x) :=
  ⟨zup_ne _ (by omega) _, zup_ne _ (by omega) _, zup_ne _ (by omega) _, zup_ne _ (by omega) _, zup_ne _ (by omega) _, zup_ne _ (by omega) _, zup_ne _ (by omega) _, zup_ne _ (by omega) _, fun k hk => ⟨zup_ne _ (Ne.symm (hw k hk).1) _, zup_ne _ (Ne.symm (hw k hk).2.1) _, zup_ne _ (Ne.symm (hw k hk).2.2.1) _, zup_ne _ (Ne.symm (hw k hk).2.2.2) _⟩, fun b hb2 => zup_ne _ (Ne.symm (hb b hb2)) _⟩
section ZX
variable {v : Nat → Nat} {SV : hf_V}
/-- where, purse, spot, saw, now told anew -/
theorem hf_wf.where_ (W : hf_wf v) {k x : Nat} (hk : k < 12) (hx : x < 104) (h2 : x < v 0 ∨ 100 ≤ x) : hf_wf (zup v (10 + 5 * k + 3) x) := by
  have := W.v1
  have := W.v2
  exact W.up (by omega) (by omega) (by omega) (fun j hj => ⟨fun _ => ⟨hx, h2⟩, by omega, by omega, by omega, by omega⟩) (fun b hb => ⟨by omega, by omega, by omega, by omega⟩)
theorem hf_wf.purse (W : hf_wf v) {b x : Nat} (hb : b < 4) (hx : x < 1000000) : hf_wf (zup v (70 + 4 * b) x) := by
  have := W.v1
  have := W.v2
  exact W.up (by omega) (by omega) (by omega) (fun j hj => ⟨by omega, by omega, by omega, by omega, by omega⟩) (fun b hb => ⟨by omega, by omega, by omega, by omega⟩)
theorem hf_wf.spot (W : hf_wf v) {b x : Nat} (hb : b < 4) (hx : x < v 0) : hf_wf (zup v (70 + 4 * b + 1) x) := by
  have := W.v1
  have := W.v2
  have := W.v0
  exact W.up (by omega) (by omega) (by omega) (fun j hj => ⟨by omega, by omega, by omega, by omega, by omega⟩) (fun b hb => ⟨by omega, fun _ => hx, by omega, by omega⟩)
theorem hf_wf.saw (W : hf_wf v) {b x : Nat} (hb : b < 4) (hx : x < 4096) : hf_wf (zup v (70 + 4 * b + 2) x) := by
  have := W.v1
  have := W.v2
  exact W.up (by omega) (by omega) (by omega) (fun j hj => ⟨by omega, by omega, by omega, by omega, by omega⟩) (fun b hb => ⟨by omega, by omega, by omega, by omega⟩)
theorem hf_wf.now (W : hf_wf v) {x : Nat} (hx : x ≤ 99) : hf_wf (zup v 3 x) := by
  exact W.up (by omega) (by omega) (by omega) (fun j hj => ⟨by omega, by omega, by omega, by omega, by omega⟩) (fun b hb => ⟨by omega, by omega, by omega, by omega⟩)
theorem hf_fe.where_ (W : hf_wf v) {k : Nat} (hk : k < 12) (x : Nat) : hf_fe v (zup v (10 + 5 * k + 3) x) := by
  have := W.v1
  have := W.v2
  exact hf_fe.up _ _ (by omega) (fun j hj => ⟨by omega, by omega, by omega, by omega⟩) (fun b hb => by omega)
theorem hf_fe.purse (W : hf_wf v) {b : Nat} (hb : b < 4) (x : Nat) : hf_fe v (zup v (70 + 4 * b) x) := by
  have := W.v1
  have := W.v2
  exact hf_fe.up _ _ (by omega) (fun j hj => ⟨by omega, by omega, by omega, by omega⟩) (fun b hb => by omega)
theorem hf_fe.spot (W : hf_wf v) {b : Nat} (hb : b < 4) (x : Nat) : hf_fe v (zup v (70 + 4 * b + 1) x) := by
  have := W.v1
  have := W.v2
  exact hf_fe.up _ _ (by omega) (fun j hj => ⟨by omega, by omega, by omega, by omega⟩) (fun b hb => by omega)
theorem hf_fe.saw (W : hf_wf v) {b : Nat} (hb : b < 4) (x : Nat) : hf_fe v (zup v (70 + 4 * b + 2) x) := by
  have := W.v1
  have := W.v2
  exact hf_fe.up _ _ (by omega) (fun j hj => ⟨by omega, by omega, by omega, by omega⟩) (fun b hb => by omega)
theorem hf_fe.now (v : Nat → Nat) (x : Nat) : hf_fe v (zup v 3 x) :=
  hf_fe.up _ _ (by omega) (fun j hj => ⟨by omega, by omega, by omega, by omega⟩) (fun b hb => by omega)
theorem hf_ui_at (V : hf_V) (k : Nat) (x : Int32) : (hf_ui V k x).1 k = x := by
  unfold hf_ui
  simp
theorem hf_ui_ne (V : hf_V) {k j : Nat} (h : j ≠ k) (x : Int32) : (hf_ui V k x).1 j = V.1 j := by
  unfold hf_ui
  simp [h]
theorem hf_ua_at (V : hf_V) (k i : Nat) (x : Int32) (q : Nat) : (hf_ua V k i x).2.2.2.1 k q = if q = i then x else V.2.2.2.1 k q := by
  unfold hf_ua
  simp
theorem hf_ua_ne (V : hf_V) {k j : Nat} (h : j ≠ k) (i : Nat) (x : Int32) : (hf_ua V k i x).2.2.2.1 j = V.2.2.2.1 j := if_neg h
theorem hf_S2.where_ (S : hf_S2 SV v) (W : hf_wf v) {k : Nat} (hk : k < 12) (x : Nat) : hf_S2 (hf_ua SV 0 k (Int32.ofNat x)) (zup v (10 + 5 * k + 3) x) := by
  have h1 := W.v1
  have h2 := W.v2
  obtain ⟨s1, s2, s3⟩ := S
  refine ⟨fun j hj => ?_, fun b hb => ?_, ?_⟩
  · rw [zup_ne _ (by omega)] at hj
    rw [hf_ua_at]
    by_cases e : j = k
    · subst e; rw [if_pos rfl, zup_at]
    · rw [if_neg e, zup_ne _ (by omega)]; exact s1 j hj
  · rw [zup_ne _ (by omega)] at hb
    rw [hf_ua_ne _ (by decide), hf_ua_ne _ (by decide), hf_ua_ne _ (by decide), zup_ne _ (by omega), zup_ne _ (by omega), zup_ne _ (by omega)]
    exact s2 b hb
  · rw [zup_ne _ (by omega)]; exact s3
theorem hf_S2.purse (S : hf_S2 SV v) (W : hf_wf v) {b : Nat} (hb : b < 4) (x : Nat) : hf_S2 (hf_ua SV 1 b (Int32.ofNat x)) (zup v (70 + 4 * b) x) := by
  have h1 := W.v1
  have h2 := W.v2
  obtain ⟨s1, s2, s3⟩ := S
  refine ⟨fun j hj => ?_, fun c hc => ?_, ?_⟩
  · rw [zup_ne _ (by omega)] at hj
    rw [hf_ua_ne _ (by decide), zup_ne _ (by omega)]; exact s1 j hj
  · rw [zup_ne _ (by omega)] at hc
    obtain ⟨c1, c2, c3⟩ := s2 c hc
    rw [hf_ua_at, hf_ua_ne _ (by decide), hf_ua_ne _ (by decide), zup_ne v (j := 70 + 4 * c + 1) (by omega), zup_ne v (j := 70 + 4 * c + 2) (by omega)]
    refine ⟨?_, c2, c3⟩
    by_cases e : c = b
    · subst e; rw [if_pos rfl, zup_at]
    · rw [if_neg e, zup_ne _ (by omega)]; exact c1
  · rw [zup_ne _ (by omega)]; exact s3
theorem hf_S2.spot (S : hf_S2 SV v) (W : hf_wf v) {b : Nat} (hb : b < 4) (x : Nat) : hf_S2 (hf_ua SV 2 b (Int32.ofNat x)) (zup v (70 + 4 * b + 1) x) := by
  have h1 := W.v1
  have h2 := W.v2
  obtain ⟨s1, s2, s3⟩ := S
  refine ⟨fun j hj => ?_, fun c hc => ?_, ?_⟩
  · rw [zup_ne _ (by omega)] at hj
    rw [hf_ua_ne _ (by decide), zup_ne _ (by omega)]; exact s1 j hj
  · rw [zup_ne _ (by omega)] at hc
    obtain ⟨c1, c2, c3⟩ := s2 c hc
    rw [hf_ua_at, hf_ua_ne _ (by decide), hf_ua_ne _ (by decide), zup_ne v (j := 70 + 4 * c) (by omega), zup_ne v (j := 70 + 4 * c + 2) (by omega)]
    refine ⟨c1, ?_, c3⟩
    by_cases e : c = b
    · subst e; rw [if_pos rfl, zup_at]
    · rw [if_neg e, zup_ne _ (by omega)]; exact c2
  · rw [zup_ne _ (by omega)]; exact s3
theorem hf_S2.saw (S : hf_S2 SV v) (W : hf_wf v) {b : Nat} (hb : b < 4) (x : Nat) : hf_S2 (hf_ua SV 3 b (Int32.ofNat x)) (zup v (70 + 4 * b + 2) x) := by
  have h1 := W.v1
  have h2 := W.v2
  obtain ⟨s1, s2, s3⟩ := S
  refine ⟨fun j hj => ?_, fun c hc => ?_, ?_⟩
  · rw [zup_ne _ (by omega)] at hj
    rw [hf_ua_ne _ (by decide), zup_ne _ (by omega)]; exact s1 j hj
  · rw [zup_ne _ (by omega)] at hc
    obtain ⟨c1, c2, c3⟩ := s2 c hc
    rw [hf_ua_at, hf_ua_ne _ (by decide), hf_ua_ne _ (by decide), zup_ne v (j := 70 + 4 * c) (by omega), zup_ne v (j := 70 + 4 * c + 1) (by omega)]
    refine ⟨c1, c2, ?_⟩
    by_cases e : c = b
    · subst e; rw [if_pos rfl, zup_at]
    · rw [if_neg e, zup_ne _ (by omega)]; exact c3
  · rw [zup_ne _ (by omega)]; exact s3
theorem hf_S2.now (S : hf_S2 SV v) (x : Nat) : hf_S2 (hf_ui SV 4 (Int32.ofNat x)) (zup v 3 x) := by
  obtain ⟨s1, s2, s3⟩ := S
  refine ⟨fun j hj => ?_, fun c hc => ?_, ?_⟩
  · rw [zup_ne _ (by omega)] at hj
    rw [zup_ne _ (by omega)]; exact s1 j hj
  · rw [zup_ne _ (by omega)] at hc
    rw [zup_ne _ (by omega), zup_ne _ (by omega), zup_ne _ (by omega)]
    exact s2 c hc
  · rw [zup_at, hf_ui_at]
end ZX
