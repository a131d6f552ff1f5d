set_option maxRecDepth 100000
set_option maxHeartbeats 1000000
/-! yields, chance, forgers -/
section ZI
variable {P : Nat} {g g' : hf_H} {o f st kp rl rd : Nat} {V V' XV : hf_V} {ps ik sk : Nat → Nat} {v v' : Nat → Nat}
theorem z_or1b {a k n : Nat} (ha : a < 2 ^ n) (hk : k < n) : a ||| 1 <<< k < 2 ^ n := by
  refine z_or_lt n ha ?_
  rw [Nat.one_shiftLeft]
  exact Nat.pow_lt_pow_right (by decide) hk
theorem x_moreWorth (I : hf_I P g o V XV f st kp rl rd ps ik sk v) (hW : ∀ s, s < 2 ^ v 1 → hf_ai 0 12 4096 g o (Int32.ofNat s) = some (Int32.ofNat (zW v s))) {i k : Nat} (hi : i < v 2) (hk : k < v 1) : spX0_moreWorth o (Int32.ofNat i) (Int32.ofNat k) g = some (Int32.ofNat (zW v (zhas v i ||| 1 <<< k)) - Int32.ofNat (zW v (zhas v i)), g) := by
  have q1 := I.W.v1
  have q2 := I.W.v2
  unfold spX0_moreWorth
  rw [I.X.st, Option.bind_some, I.X.fa, Option.bind_some, I.S.ob, x_halvesOf I.F I.S I.W (by omega), hf_b2_some, I.X.ob, z_sh1 (by omega), z_or, hW _ (z_or1b (zhas_lt2 v i) hk), Option.bind_some, I.X.ob, hW _ (zhas_lt2 v i), Option.bind_some]
theorem m_givesFor (I : hf_I P g o V XV f st kp rl rd ps ik sk v) {i k : Nat} (hi : i < v 2) (hk : k < v 1) : spX4_givesFor (Int32.ofNat i) (Int32.ofNat k) V = some (Int32.ofNat (zW v (zhas v i ||| 1 <<< k)) - Int32.ofNat (zW v (zhas v i)), V) := by
  have q1 := I.W.v1
  have q2 := I.W.v2
  unfold spX4_givesFor
  rw [m_hasOf I.sv q1 (by omega), hf_b2_some, z_sh1 (by omega), z_or, I.mw (z_or1b (zhas_lt2 v i) hk), Option.bind_some, m_hasOf I.sv q1 (by omega), hf_b2_some, I.mw (zhas_lt2 v i), Option.bind_some]
theorem op_yields (J : hf_INV P g o V) (a b c d e : Int32) : hf_OPr P g o (spX0_yields o a b c d e g) (spX4_yields a b c d e V) := by
  obtain ⟨XV, f, st, kp, rl, rd, ps, ik, sk, v, I⟩ := J
  have q1 := I.W.v1
  have q2 := I.W.v2
  unfold spX0_yields spX4_yields
  rcases xm_are I a b c d with ⟨i, k, j, l, n1, hi, hk, e1, hj, hl, e2, rfl, rfl, rfl, rfl, x1, m1⟩ | ⟨x1, m1⟩
  case inr => rw [I.X.ob, x1, hf_b2_some, if_pos rfl, m1, hf_b2_some, if_pos rfl]; exact I.same _
  have bz := zfo_le v k l
  rw [I.X.ob, x1, hf_b2_some, if_neg (show ¬ (1 : Int32) = 0 by decide), m1, hf_b2_some, if_neg (show ¬ (1 : Int32) = 0 by decide), I.X.ob, x_fit2 I.X I.F I.W hk hl, hf_b2_some, m_fitOf I.sv (by omega) (by omega), hf_b2_some]
  by_cases hf : Int32.ofNat (zfo v k l) = 0
  case pos => rw [if_pos hf, if_pos hf]; exact I.same _
  have xe : spX0_in e.toInt64 (0 : Int64) (1 : Int64) = some (if zin e 2 then Int32.ofNat 1 else Int32.ofNat 0) := x_inl e (n := 1) (by decide)
  have me : spX4_in e.toInt64 (0 : Int64) (1 : Int64) = some (if zin e 2 then Int32.ofNat 1 else Int32.ofNat 0) := xe
  rw [if_neg hf, if_neg hf, xe, Option.bind_some, me, Option.bind_some]
  by_cases hz : zin e 2
  case neg => rw [z1F hz, z1F hz]; exact I.same _
  rw [z1T hz, z1T hz]
  obtain ⟨q, hq, rfl⟩ := zin_ex hz (by decide)
  obtain ⟨XV', w1, w2, w3⟩ := I.fills
  have kf := I.fk XV'
  rw [I.X.ob, w1, Option.bind_some, w2.X.ob, x_moreWorth w2 w3 hi hl, hf_b2_some, w2.X.ob, x_moreWorth w2 w3 hj hk, hf_b2_some, m_givesFor I hi hl, hf_b2_some, m_givesFor I hj hk, hf_b2_some]
  generalize Int32.ofNat (zW v (zhas v i ||| 1 <<< l)) - Int32.ofNat (zW v (zhas v i)) = A
  generalize Int32.ofNat (zW v (zhas v j ||| 1 <<< k)) - Int32.ofNat (zW v (zhas v j)) = B
  have fin : ∀ r, hf_OPr P g o (some (r, hf_xc g o XV')) (some (r, V)) := fun r => ⟨r, _, V, rfl, rfl, w2.inv, kf⟩
  unfold ndX0_yields_83
  rcases (show q = 0 ∨ q = 1 by omega) with rfl | rfl
  · rw [if_neg (show ¬ Int32.ofNat 0 = 1 by decide)]
    by_cases c1 : B ≤ A
    · rw [if_pos c1, if_pos c1]
      by_cases c2 : A ≤ B
      · rw [if_pos c2, if_pos c2, hf_let_eq, if_pos (show Int32.ofNat 0 = 0 from rfl)]
        by_cases c3 : j < i
        · rw [if_pos ((z_lt (by omega) (by omega)).mpr c3), if_pos ((z_le (by omega) (by omega)).mpr (by omega))]; exact fin _
        · rw [if_neg (fun z => c3 ((z_lt (by omega) (by omega)).mp z)), if_neg (fun z => by have := (z_le (by omega) (by omega)).mp z; omega)]; exact fin _
      · rw [if_neg c2, if_neg c2, if_pos (show Int32.ofNat 0 = 0 from rfl)]; exact fin _
    · rw [if_neg c1, if_neg c1, if_pos (show Int32.ofNat 0 = 0 from rfl)]; exact fin _
  · rw [if_pos (show Int32.ofNat 1 = 1 from rfl), if_neg (show ¬ (2 : Int32) = 0 by decide)]
    by_cases c1 : B ≤ A
    · rw [if_pos c1]
      by_cases c2 : A ≤ B
      · rw [if_pos c2, hf_let_eq, if_neg (show ¬ Int32.ofNat 1 = 0 by decide)]; exact fin _
      · rw [if_neg c2, if_neg (show ¬ Int32.ofNat 1 = 0 by decide)]; exact fin _
    · rw [if_neg c1, if_neg (show ¬ Int32.ofNat 1 = 0 by decide)]; exact fin _
theorem z_divs : ∀ n a b, lpX0_divisor_4 n a b = lpX4_divisor_4 n b a
  | 0, _, _ => rfl
  | n + 1, a, b => by
    show ndX0_divisor_4 (lpX0_divisor_4 n) a b = ndX4_divisor_4 (lpX4_divisor_4 n) b a
    unfold ndX0_divisor_4 ndX4_divisor_4
    simp only [hf_let_eq, z_divs n]
theorem z_div_ok {a b : Nat} (ha : a < 2147483648) (hb : b < 2147483648) (h : 0 < a ∨ 0 < b) : ∃ d, 0 < d ∧ d < 2147483648 ∧ spX4_divisor (Int32.ofNat a) (Int32.ofNat b) = some (Int32.ofNat d) := by
  unfold spX4_divisor
  refine hf_whileR (fun n (z : Nat × Nat) => lpX4_divisor_4 n (Int32.ofNat z.1) (Int32.ofNat z.2)) (fun z => z.2) (fun z => z.1 < 2147483648 ∧ z.2 < 2147483648 ∧ (0 < z.1 ∨ 0 < z.2)) (fun r => ∃ d, 0 < d ∧ d < 2147483648 ∧ r = some (Int32.ofNat d)) (fun n z hP => ?_) (a, b) ⟨ha, hb, h⟩ (by show b < hf_N; unfold hf_N; omega)
  obtain ⟨x, y⟩ := z
  obtain ⟨p1, p2, p3⟩ := hP
  simp only at p1 p2 p3
  have nM : lpX4_divisor_4 (n + 1) (Int32.ofNat x) (Int32.ofNat y) = ndX4_divisor_4 (lpX4_divisor_4 n) (Int32.ofNat x) (Int32.ofNat y) := rfl
  by_cases e : y = 0
  · left
    refine ⟨x, by omega, p1, ?_⟩
    show lpX4_divisor_4 (n + 1) (Int32.ofNat x) (Int32.ofNat y) = _
    rw [nM, e]
    rfl
  · right
    have e' : ¬ Int32.ofNat y = 0 := fun z => e ((z_eq (b := 0) p2 (by decide)).mp z)
    have hlt : x % y < y := Nat.mod_lt _ (by omega)
    refine ⟨(y, x % y), ?_, ⟨p2, by show x % y < _; omega, Or.inl (by show 0 < y; omega)⟩, hlt⟩
    show lpX4_divisor_4 (n + 1) (Int32.ofNat x) (Int32.ofNat y) = _
    rw [nM]
    unfold ndX4_divisor_4
    rw [if_neg e', if_neg e', hf_let_eq, z_div p1 p2, z_mul, z_rem]
theorem x_fit_2 (I : hf_I P g o V XV f st kp rl rd ps ik sk v) {k s : Nat} (hk : k < v 1) (hs : s < 2147483648) : spX0_fitting o (Int32.ofNat k) (Int32.ofNat s) (2 : Int32) g = some (Int32.ofNat (zfg v s k 2), g) := x_fitting I.X I.F I.W hk (w := 2) hs (by decide)
theorem m_fit_2 {V : hf_V} {v : Nat → Nat} (S : hf_sv V v) (hn : v 1 ≤ 12) {s h : Nat} (hs : s < 2147483648) (hh : h < 12) : spX4_fitting (Int32.ofNat s) (Int32.ofNat h) (2 : Int32) V = some (Int32.ofNat (zfg v s h 2), V) := m_fitting S hn (w := 2) hs hh (by decide)
theorem op_chance (J : hf_INV P g o V) (a b c : Int32) : hf_OPr P g o (spX0_chance o a b c g) (spX4_chance a b c V) := by
  obtain ⟨XV, f, st, kp, rl, rd, ps, ik, sk, v, I⟩ := J
  have q1 := I.W.v1
  have q2 := I.W.v2
  unfold spX0_chance spX4_chance
  rw [I.X.ob, x_isBuyer I.X I.F I.W, hf_b2_some, m_isBuyerZ I.sv, hf_b2_some]
  by_cases hz : zin a (v 2)
  case neg => rw [z1F hz, z1F hz]; exact I.same _
  rw [z1T hz, z1T hz, I.X.ob, x_isHalf I.X I.F I.W, hf_b2_some, m_isHalfZ I.sv, hf_b2_some]
  by_cases hw : zin b (v 1)
  case neg => rw [z1F hw, z1F hw]; exact I.same _
  have xe : spX0_in c.toInt64 (0 : Int64) (1 : Int64) = some (if zin c 2 then Int32.ofNat 1 else Int32.ofNat 0) := x_inl c (n := 1) (by decide)
  have me : spX4_in c.toInt64 (0 : Int64) (1 : Int64) = some (if zin c 2 then Int32.ofNat 1 else Int32.ofNat 0) := xe
  rw [z1T hw, z1T hw, xe, Option.bind_some, me, Option.bind_some]
  by_cases hc : zin c 2
  case neg => rw [z1F hc, z1F hc]; exact I.same _
  rw [z1T hc, z1T hc]
  obtain ⟨i, hi, rfl⟩ := zin_ex hz (by omega)
  obtain ⟨k, hk, rfl⟩ := zin_ex hw (by omega)
  obtain ⟨q, hq, rfl⟩ := zin_ex hc (by decide)
  have hul : hf_nd (zats v) (zsaw v i) < 4096 := Nat.lt_of_le_of_lt (hf_nd_le _ _) (zats_lt v q1)
  rw [I.X.st, Option.bind_some, I.X.fa, Option.bind_some, I.S.ob, x_unseen I.F I.S I.W hi, hf_b2_some, I.X.ob, x_fit_2 I hk (by omega), hf_b2_some, x_bits _ hul, Option.bind_some, m_unseen I.sv q1 q2 (by omega), hf_b2_some, m_bits _ hul, Option.bind_some, m_unseen I.sv q1 q2 (by omega), hf_b2_some, m_fit_2 I.sv q1 (by omega) (by omega), hf_b2_some]
  generalize hU : hf_nd (zats v) (zsaw v i) = U at *
  have hso : zfg v U k 2 ≤ 12 := by
    have := zsum_le (fun o => if o ≠ k ∧ U.testBit o = true ∧ zfo v o k = 2 then 1 else 0) 1 (fun i => by split <;> omega) (v 1)
    unfold zfg
    omega
  have hpl : zpop U ≤ 12 := by
    have := zsum_le (fun i => if U.testBit i then 1 else 0) 1 (fun i => by split <;> omega) 12
    unfold zpop
    omega
  have hdiv : ∀ x y, spX0_divisor x y = spX4_divisor y x := fun x y => z_divs _ x y
  by_cases h0 : zpop U = 0
  · have hU0 : zfg v U k 2 = 0 := by
      have hb : ∀ o, o < 12 → U.testBit o = false := fun o ho => by
        cases h : U.testBit o
        · rfl
        · exfalso
          have h1 : zsum (fun i => if U.testBit i then 1 else 0) 12 = 0 := h0
          have h2 := zsum_one (f := fun i => if U.testBit i then 1 else 0) (g := fun i => if i = o then 0 else if U.testBit i then 1 else 0) (k := o) (by simp [h]) (fun i hi => by simp [hi]) 12 ho
          omega
      unfold zfg
      have h3 : zsum (fun o => if o ≠ k ∧ U.testBit o = true ∧ zfo v o k = 2 then 1 else 0) (v 1) = zsum (fun _ => 0) (v 1) := zsum_congr _ (fun o ho => if_neg (fun z => by rw [hb o (by omega)] at z; exact absurd z.2.1 (by decide)))
      have h4 : ∀ n, zsum (fun _ => 0) n = 0 := fun n => by
        induction n with
        | zero => rfl
        | succ n ih => unfold zsum; omega
      rw [h3, h4]
    rw [h0, hU0, if_neg (show ¬ (1 : Int32) < Int32.ofNat 0 by decide), hf_let_eq, hdiv, if_pos (show Int32.ofNat 0 = 0 from rfl)]
    have hd : spX4_divisor 1 (Int32.ofNat 0) = some 1 := rfl
    rw [hd, Option.bind_some]
    rcases (show q = 0 ∨ q = 1 by omega) with rfl | rfl
    · rw [if_pos (show Int32.ofNat 0 = 0 from rfl), if_neg (show ¬ (1 : Int32) = 0 by decide)]
      have : Int32.ofNat 0 / (1 : Int32) = Int32.ofNat 0 := by decide
      rw [this]; exact I.same _
    · rw [if_neg (show ¬ Int32.ofNat 1 = 0 by decide), if_neg (show ¬ (1 : Int32) = 0 by decide)]
      have : (1 : Int32) / (1 : Int32) = Int32.ofNat 1 := by decide
      rw [this]; exact I.same _
  · have h0' : ¬ Int32.ofNat (zpop U) = 0 := fun z => h0 ((z_eq (b := 0) (by omega) (by decide)).mp z)
    have hmx : (if (1 : Int32) < Int32.ofNat (zpop U) then Int32.ofNat (zpop U) else (1 : Int32)) = Int32.ofNat (zpop U) := by
      by_cases c : 1 < zpop U
      · exact if_pos ((z_lt (a := 1) (by decide) (by omega)).mpr c)
      · rw [if_neg (show ¬ (1 : Int32) < Int32.ofNat (zpop U) from fun z => c ((z_lt (a := 1) (by decide) (by omega)).mp z)), show zpop U = 1 by omega]; rfl
    obtain ⟨d, d1, d2, d3⟩ := z_div_ok (a := zpop U) (b := zfg v U k 2) (by omega) (by omega) (by omega)
    have d0 : ¬ Int32.ofNat d = 0 := fun z => by have := (z_eq (b := 0) d2 (by decide)).mp z; omega
    unfold ndX4_chance_69
    rw [hmx, hf_let_eq, hdiv, d3, Option.bind_some, Option.bind_some, if_neg h0', Option.bind_some, if_neg d0]
    rcases (show q = 0 ∨ q = 1 by omega) with rfl | rfl
    · rw [if_pos (show Int32.ofNat 0 = 0 from rfl), if_pos (show Int32.ofNat 0 = 0 from rfl), if_neg d0]; exact I.same _
    · rw [if_neg (show ¬ Int32.ofNat 1 = 0 by decide), if_neg (show ¬ Int32.ofNat 1 = 0 by decide), if_neg d0, if_neg d0]; exact I.same _
/-- all trials go so, if the halves of s are forged -/
def ztrd (v : Nat → Nat) (s : Nat) : Nat → Bool
  | 0 => true
  | k + 1 => ztrd v s k && (decide (zfit v (v (86 + 3 * k)) (v (86 + 3 * k + 1)) s = 2) == decide (v (86 + 3 * k + 2) = 1))
theorem x_areAllSo (I : hf_I P g o V XV f st kp rl rd ps ik sk v) {s : Nat} (hs : s < 4096) : spX0_areAllSo o (Int32.ofNat s) g = some (if ztrd v s (v 122) then (1 : Int32) else 0, g) := by
  obtain ⟨n1, n2, n3⟩ := I.2.2.2.1.2.2.2
  unfold spX0_areAllSo
  refine hf_loop (fun n i => lpX0_areAllSo_4 n o (Int32.ofNat s) (if ztrd v s i then (1 : Int32) else 0) (Int32.ofNat i) g) (v 122) _ (fun i n hi => ?_) (fun n => ?_) (fuel := hf_N) (by unfold hf_N; omega)
  · show ndX0_areAllSo_4 (lpX0_areAllSo_4 n) _ _ _ _ _ = _
    obtain ⟨t1, t2, t3, t4, t5, t6⟩ := n3 i hi
    have q1 := I.W.v1
    have h59 : ∀ y, ndX0_areAllSo_59 (lpX0_areAllSo_4 n) o (Int32.ofNat s) (Int32.ofNat i) y g = lpX0_areAllSo_4 n o (Int32.ofNat s) y (Int32.ofNat (i + 1)) g := fun y => by
      unfold ndX0_areAllSo_59
      rw [hf_let_eq, z_lit, z_add]
    have hs1 : ztrd v s (i + 1) = (ztrd v s i && (decide (zfit v (v (86 + 3 * i)) (v (86 + 3 * i + 1)) s = 2) == decide (v (86 + 3 * i + 2) = 1))) := rfl
    unfold ndX0_areAllSo_4
    rw [hf_gi_eq I.e, Option.bind_some, n1, if_neg (z_nle hi (by omega)), hs1]
    cases hc : ztrd v s i
    · rw [if_pos (show (if (false : Bool) = true then (1 : Int32) else 0) = 0 from rfl)]
      unfold ndX0_areAllSo_58
      rw [h59]
      rfl
    · rw [if_neg (show ¬ (if (true : Bool) = true then (1 : Int32) else 0) = 0 by decide), I.X.fa, Option.bind_some, I.X.ob, hf_ai_eq I.e, z_ld (by omega) (by omega), t1, Option.bind_some, I.X.ob, hf_ai_eq I.e, z_ld (by omega) (by omega), t3, Option.bind_some, I.F.ob, x_fit I.F I.W t2 t4 (by omega), hf_b2_some]
      have hfl : zfit v (v (86 + 3 * i)) (v (86 + 3 * i + 1)) s ≤ 2 := by
        unfold zfit zft
        repeat' split
        all_goals omega
      have h45 : ∀ y : Nat, y ≤ 1 → ndX0_areAllSo_45 (lpX0_areAllSo_4 n) o (Int32.ofNat s) (Int32.ofNat i) (Int32.ofNat y) g = lpX0_areAllSo_4 n o (Int32.ofNat s) (if decide (y = 1) == decide (v (86 + 3 * i + 2) = 1) then (1 : Int32) else 0) (Int32.ofNat (i + 1)) g := fun y hy => by
        unfold ndX0_areAllSo_45 ndX0_areAllSo_58
        rw [I.X.ob, hf_ai_eq I.e, z_ld (by omega) (by omega), t5, Option.bind_some, h59, h59]
        rcases (show v (86 + 3 * i + 2) = 0 ∨ v (86 + 3 * i + 2) = 1 by omega) with e | e <;> rcases (show y = 0 ∨ y = 1 by omega) with rfl | rfl <;> rw [e] <;> rfl
      by_cases c2 : zfit v (v (86 + 3 * i)) (v (86 + 3 * i + 1)) s = 2
      · rw [if_pos (by rw [c2]; rfl)]
        have := h45 1 (by decide)
        refine this.trans ?_
        rw [Bool.true_and, c2]
        rfl
      · rw [if_neg (show ¬ Int32.ofNat (zfit v (v (86 + 3 * i)) (v (86 + 3 * i + 1)) s) = 2 from fun z => c2 ((z_eq (b := 2) (by omega) (by decide)).mp z))]
        have := h45 0 (by decide)
        refine this.trans ?_
        rw [Bool.true_and, decide_eq_false c2]
        rfl
  · show ndX0_areAllSo_4 (lpX0_areAllSo_4 n) _ _ _ _ _ = _
    unfold ndX0_areAllSo_4
    rw [hf_gi_eq I.e, Option.bind_some, n1, if_pos (z_yle (Nat.le_refl _) (by omega)), if_pos]
    cases ztrd v s (v 122)
    · exact Or.inl rfl
    · exact Or.inr rfl
theorem zfit_le (v : Nat → Nat) (a b s : Nat) : zfit v a b s ≤ 2 := by
  unfold zfit zft
  repeat' split
  all_goals omega
theorem ztrd_false {v : Nat → Nat} {s k : Nat} : ∀ n, k < n → (decide (zfit v (v (86 + 3 * k)) (v (86 + 3 * k + 1)) s = 2) == decide (v (86 + 3 * k + 2) = 1)) = false → ztrd v s n = false
  | 0, h, _ => by omega
  | n + 1, h, e => by
    unfold ztrd
    by_cases c : k = n
    · subst c; rw [e]; simp
    · rw [ztrd_false n (by omega) e]; rfl
theorem m_isTried (I : hf_I P g o V XV f st kp rl rd ps ik sk v) {s : Nat} (hs : s < 4096) : spX4_isTried (Int32.ofNat s) V = some (if ztrd v s (v 122) then (1 : Int32) else 0, V) := by
  obtain ⟨n1, n2, n3⟩ := I.2.2.2.1.2.2.2
  unfold spX4_isTried
  refine hf_whileR (fun n i => lpX4_isTried_2 n (Int32.ofNat s) (Int32.ofNat i) V) (fun i => v 122 - i) (fun i => i ≤ v 122 ∧ ztrd v s i = true) (fun r => r = some (if ztrd v s (v 122) then (1 : Int32) else 0, V)) (fun n i hP => ?_) 0 ⟨Nat.zero_le _, rfl⟩ (fuel := hf_N) (by show v 122 - 0 < hf_N; unfold hf_N; omega)
  obtain ⟨p1, p2⟩ := hP
  have nM : lpX4_isTried_2 (n + 1) (Int32.ofNat s) (Int32.ofNat i) V = ndX4_isTried_2 (lpX4_isTried_2 n) (Int32.ofNat s) (Int32.ofNat i) V := rfl
  by_cases hi : i = v 122
  · left
    rw [nM, hi]
    unfold ndX4_isTried_2
    rw [hi] at p2
    rw [I.sv.l122, Option.bind_some, if_pos (z_yle (Nat.le_refl _) (by omega)), p2]
    rfl
  obtain ⟨t1, t2, t3, t4, t5, t6⟩ := n3 i (by omega)
  have q1 := I.W.v1
  have a0 : (86 : Int32) + (3 : Int32) * Int32.ofNat i = Int32.ofNat (86 + 3 * i) := by rw [z_lit, z_lit, z_mul, z_add]
  have a1 : Int32.ofNat (86 + 3 * i) + (1 : Int32) = Int32.ofNat (86 + 3 * i + 1) := z_add _ 1
  have a2 : Int32.ofNat (86 + 3 * i) + (2 : Int32) = Int32.ofNat (86 + 3 * i + 2) := z_add _ 2
  have h73 : ∀ y : Nat, y ≤ 1 → ndX4_isTried_73 (lpX4_isTried_2 n) (Int32.ofNat s) (Int32.ofNat i) (Int32.ofNat y) V = if decide (y = 1) == decide (v (86 + 3 * i + 2) = 1) then lpX4_isTried_2 n (Int32.ofNat s) (Int32.ofNat (i + 1)) V else some ((0 : Int32), V) := fun y hy => by
    unfold ndX4_isTried_73 ndX4_isTried_99
    rw [a0, a2, I.sv.ld (by omega), Option.bind_some]
    have a9 : Int32.ofNat i + (1 : Int32) = Int32.ofNat (i + 1) := z_add _ 1
    simp only [hf_let_eq, a9]
    rcases (show v (86 + 3 * i + 2) = 0 ∨ v (86 + 3 * i + 2) = 1 by omega) with e | e <;> rcases (show y = 0 ∨ y = 1 by omega) with rfl | rfl <;> rw [e] <;> rfl
  have h68 : ndX4_isTried_68 (lpX4_isTried_2 n) (Int32.ofNat s) (Int32.ofNat i) V = ndX4_isTried_73 (lpX4_isTried_2 n) (Int32.ofNat s) (Int32.ofNat i) (Int32.ofNat 1) V := rfl
  have hM : ndX4_isTried_2 (lpX4_isTried_2 n) (Int32.ofNat s) (Int32.ofNat i) V = if decide (zfit v (v (86 + 3 * i)) (v (86 + 3 * i + 1)) s = 2) == decide (v (86 + 3 * i + 2) = 1) then lpX4_isTried_2 n (Int32.ofNat s) (Int32.ofNat (i + 1)) V else some ((0 : Int32), V) := by
    unfold ndX4_isTried_2
    rw [I.sv.l122, Option.bind_some, if_neg (z_nle (by omega) (by omega)), a0, I.sv.ld (by omega), Option.bind_some, a1, I.sv.ld (by omega), Option.bind_some, m_isOf (by omega) (by omega), Option.bind_some, h68]
    unfold zfit
    by_cases c1 : s.testBit (v (86 + 3 * i)) = true
    · rw [if_pos c1, if_pos c1, if_neg (show ¬ Int32.ofNat 1 = 0 by decide), h73 1 (by decide)]
      rfl
    rw [if_neg c1, if_neg c1, if_pos (show Int32.ofNat 0 = 0 from rfl), m_isOf (by omega) (by omega), Option.bind_some]
    by_cases c2 : s.testBit (v (86 + 3 * i + 1)) = true
    · rw [if_pos c2, if_pos c2, if_neg (show ¬ Int32.ofNat 1 = 0 by decide), h73 1 (by decide)]
      rfl
    have hft : zft v (v (86 + 3 * i)) (v (86 + 3 * i + 1)) ≤ 2 := by
      unfold zft
      repeat' split
      all_goals omega
    rw [if_neg c2, if_neg c2, if_pos (show Int32.ofNat 0 = 0 from rfl), m_fitTold I.sv (by omega) (by omega), hf_b2_some, h68]
    by_cases c3 : zft v (v (86 + 3 * i)) (v (86 + 3 * i + 1)) = 2
    · rw [c3, if_pos (show Int32.ofNat 2 = 2 from rfl), h73 1 (by decide)]
      rfl
    · have := h73 0 (by decide)
      rw [if_neg (show ¬ Int32.ofNat (zft v (v (86 + 3 * i)) (v (86 + 3 * i + 1))) = 2 from fun z => c3 ((z_eq (b := 2) (by omega) (by decide)).mp z)), decide_eq_false c3]
      refine Eq.trans this ?_
      rfl
  rw [nM, hM]
  by_cases hb : (decide (zfit v (v (86 + 3 * i)) (v (86 + 3 * i + 1)) s = 2) == decide (v (86 + 3 * i + 2) = 1)) = true
  · right
    rw [if_pos hb]
    refine ⟨i + 1, rfl, ⟨by omega, ?_⟩, by omega⟩
    unfold ztrd
    rw [p2, hb]
    rfl
  · left
    rw [if_neg hb, ztrd_false (v 122) (by omega) (Bool.eq_false_iff.mpr hb)]
    rfl
end ZI
set_option maxRecDepth 100000
set_option maxHeartbeats 1000000
/-! forgers, cry -/
def zbc (m : Option Nat) : Int32 := match m with
  | none => -2
  | some k => Int32.ofNat k
theorem zbc_n : zbc none = -2 := rfl
theorem zbc_s {k : Nat} (h : k < 2147483648) : ¬ zbc (some k) = -2 ∧ ¬ zbc (some k) < 0 ∧ (0 : Int32) ≤ zbc (some k) := by
  have h0 : ¬ Int32.ofNat k < 0 := z_n0 k h
  refine ⟨fun z => ?_, h0, Int32.not_lt.mp h0⟩
  rw [show Int32.ofNat k = -2 from z] at h0
  exact h0 (by decide)
/-- the best so far, all of the best -/
def zfst (v : Nat → Nat) (z : Option Nat × Nat) (s : Nat) : Option Nat × Nat := if ztrd v s (v 122) then (match z.1 with | none => (some s, s) | some b => if zpop b < zpop s then z else if zpop b = zpop s then (some b, z.2 ||| s) else (some s, s)) else z
section ZI
variable {P : Nat} {g g' : hf_H} {o f st kp rl rd : Nat} {V V' XV : hf_V} {ps ik sk : Nat → Nat} {v v' : Nat → Nat}
theorem op_forgers (J : hf_INV P g o V) (a : Int32) : hf_OPr P g o (spX0_forgers o a g) (spX4_forgers a V) := by
  obtain ⟨XV, f, st, kp, rl, rd, ps, ik, sk, v, I⟩ := J
  have q1 := I.W.v1
  obtain ⟨p1, p2, p3⟩ := zpow12 q1
  unfold spX0_forgers spX4_forgers
  rw [I.X.ob, x_isFair I.X I.F I.W, hf_b2_some, m_isFair I.sv, hf_b2_some]
  by_cases h0 : v 0 = 0
  · rw [if_pos h0, if_pos (show Int32.ofNat 0 = 0 from rfl), if_pos (show Int32.ofNat 0 = 0 from rfl)]; exact I.same _
  have xe : spX0_in a.toInt64 (0 : Int64) (1 : Int64) = some (if zin a 2 then Int32.ofNat 1 else Int32.ofNat 0) := x_inl a (n := 1) (by decide)
  have me : spX4_in a.toInt64 (0 : Int64) (1 : Int64) = some (if zin a 2 then Int32.ofNat 1 else Int32.ofNat 0) := xe
  rw [if_neg h0, if_neg (show ¬ Int32.ofNat 1 = 0 by decide), if_neg (show ¬ Int32.ofNat 1 = 0 by decide), xe, Option.bind_some, me, Option.bind_some]
  by_cases hz : zin a 2
  case neg => rw [z1F hz, z1F hz]; exact I.same _
  rw [z1T hz, z1T hz]
  have key : ∃ r, lpX0_forgers_27 hf_N o a (-2 : Int32) (0 : Int32) (0 : Int32) g = some (r, g) ∧ lpX4_forgers_27 hf_N a (-2 : Int32) (0 : Int32) (0 : Int32) V = some (r, V) := by
    refine hf_loopR2 (fun n i (z : Option Nat × Nat) => lpX0_forgers_27 n o a (zbc z.1) (Int32.ofNat z.2) (Int32.ofNat i) g) (fun n i (z : Option Nat × Nat) => lpX4_forgers_27 n a (zbc z.1) (Int32.ofNat z.2) (Int32.ofNat i) V) (fun i z => (∀ b, z.1 = some b → b < 4096) ∧ z.2 < 4096) (2 ^ v 1) (fun r1 r2 => ∃ r, r1 = some (r, g) ∧ r2 = some (r, V)) (fun i n z hi hP => ?_) (fun n z hP => ?_) (none, 0) ⟨fun b hb => (by cases hb), by decide⟩ (fuel := hf_N) (by unfold hf_N; omega)
    · obtain ⟨m, al⟩ := z
      obtain ⟨t1, t2⟩ := hP
      simp only at t1 t2
      right
      have hal : al ||| i < 4096 := z_or_lt 12 t2 (by omega)
      have n119 : ∀ x y, ndX0_forgers_119 (lpX0_forgers_27 n) o a x y (Int32.ofNat i) g = lpX0_forgers_27 n o a x y (Int32.ofNat (i + 1)) g := fun x y => by
        unfold ndX0_forgers_119
        rw [hf_let_eq, z_lit, z_add]
      have n94 : ∀ x y, ndX4_forgers_94 (lpX4_forgers_27 n) a x y (Int32.ofNat i) V = lpX4_forgers_27 n a x y (Int32.ofNat (i + 1)) V := fun x y => by
        unfold ndX4_forgers_94
        rw [hf_let_eq, z_lit, z_add]
      have h00 : (0 : Int32) ||| Int32.ofNat i = Int32.ofNat i := by
        have := z_or 0 i
        rw [Nat.zero_or] at this
        exact this
      have hb1 : spJ14_bitCount (Int32.ofNat i) = some (Int32.ofNat (zpop i)) := x_bits _ (by omega)
      have hb2 : spX4_bits (Int32.ofNat i) = some (Int32.ofNat (zpop i)) := m_bits _ (by omega)
      have hpl : ∀ U, zpop U ≤ 12 := fun U => by
        have := zsum_le (fun i => if U.testBit i then 1 else 0) 1 (fun i => by split <;> omega) 12
        unfold zpop
        omega
      have pi := hpl i
      have eX : lpX0_forgers_27 (n + 1) o a (zbc m) (Int32.ofNat al) (Int32.ofNat i) g = lpX0_forgers_27 n o a (zbc (zfst v (m, al) i).1) (Int32.ofNat (zfst v (m, al) i).2) (Int32.ofNat (i + 1)) g := by
        show ndX0_forgers_27 (lpX0_forgers_27 n) o a (zbc m) (Int32.ofNat al) (Int32.ofNat i) g = _
        unfold ndX0_forgers_27 ndX0_forgers_60 ndX0_forgers_94 ndX0_forgers_96 ndX0_forgers_118 ndX0_forgers_116 ndX0_forgers_118
        rw [I.X.ob, x_many I.X I.F, hf_b2_some, z_sh1 (by omega), p1, if_neg (z_nle hi (by omega)), hb1, Option.bind_some, I.X.ob, x_areAllSo I (by omega), hf_b2_some]
        simp only [n119]
        unfold zfst
        cases m with
        | none =>
          rw [if_pos zbc_n]
          cases ht : ztrd v i (v 122)
          · rfl
          · rw [if_neg (show ¬ (if (true : Bool) = true then (1 : Int32) else 0) = 0 by decide), if_pos zbc_n, if_pos zbc_n]
            rfl
        | some b =>
          have hb := t1 b rfl
          have pb := hpl b
          obtain ⟨s1, s2, s3⟩ := zbc_s (k := b) (by omega)
          have hbb : spJ14_bitCount (zbc (some b)) = some (Int32.ofNat (zpop b)) := x_bits _ hb
          rw [if_neg s1, hbb, Option.bind_some]
          by_cases c1 : zpop b < zpop i
          · rw [if_pos ((z_lt (by omega) (by omega)).mpr c1)]
            cases ht : ztrd v i (v 122)
            · rfl
            · show _ = lpX0_forgers_27 n o a (zbc (if zpop b < zpop i then (some b, al) else if zpop b = zpop i then (some b, al ||| i) else (some i, i)).1) (Int32.ofNat (if zpop b < zpop i then (some b, al) else if zpop b = zpop i then (some b, al ||| i) else (some i, i)).2) (Int32.ofNat (i + 1)) g
              rw [if_pos c1]
          · rw [if_neg (fun z => c1 ((z_lt (by omega) (by omega)).mp z))]
            cases ht : ztrd v i (v 122)
            · rfl
            · rw [if_neg (show ¬ (if (true : Bool) = true then (1 : Int32) else 0) = 0 by decide), if_neg s1, if_neg s1, Option.bind_some]
              show _ = lpX0_forgers_27 n o a (zbc (if zpop b < zpop i then (some b, al) else if zpop b = zpop i then (some b, al ||| i) else (some i, i)).1) (Int32.ofNat (if zpop b < zpop i then (some b, al) else if zpop b = zpop i then (some b, al ||| i) else (some i, i)).2) (Int32.ofNat (i + 1)) g
              rw [if_neg c1]
              by_cases c2 : zpop b = zpop i
              · rw [if_pos c2, c2, if_pos rfl]
                rw [Option.bind_some, if_pos rfl, z_or]
              · rw [if_neg c2, if_neg (fun z => c2 ((z_eq (by omega) (by omega)).mp z).symm)]
                rw [if_neg s1, Option.bind_some, if_neg (fun z => c2 ((z_eq (by omega) (by omega)).mp z).symm)]
                rfl
      have eM : lpX4_forgers_27 (n + 1) a (zbc m) (Int32.ofNat al) (Int32.ofNat i) V = lpX4_forgers_27 n a (zbc (zfst v (m, al) i).1) (Int32.ofNat (zfst v (m, al) i).2) (Int32.ofNat (i + 1)) V := by
        show ndX4_forgers_27 (lpX4_forgers_27 n) a (zbc m) (Int32.ofNat al) (Int32.ofNat i) V = _
        unfold ndX4_forgers_27 ndX4_forgers_56 ndX4_forgers_84 ndX4_forgers_89
        rw [I.sv.l1, Option.bind_some, z_sh1 (by omega), p1, if_neg (z_nle hi (by omega)), m_isTried I (by omega), hf_b2_some, hb2, Option.bind_some, Option.bind_some]
        simp only [n94, hf_let_eq, h00, z_or]
        unfold zfst
        cases m with
        | none =>
          rw [if_pos (show zbc none < 0 by decide)]
          cases ht : ztrd v i (v 122)
          · rfl
          · rw [if_neg (show ¬ (if (true : Bool) = true then (1 : Int32) else 0) = 0 by decide), if_pos (show zbc none < 0 by decide)]
            rfl
        | some b =>
          have hb := t1 b rfl
          have pb := hpl b
          obtain ⟨s1, s2, s3⟩ := zbc_s (k := b) (by omega)
          have hbb : spX4_bits (zbc (some b)) = some (Int32.ofNat (zpop b)) := m_bits _ hb
          rw [if_neg s2, hbb, Option.bind_some]
          by_cases c1 : zpop b < zpop i
          · rw [if_pos ((z_lt (by omega) (by omega)).mpr c1)]
            cases ht : ztrd v i (v 122)
            · rfl
            · show _ = lpX4_forgers_27 n a (zbc (if zpop b < zpop i then (some b, al) else if zpop b = zpop i then (some b, al ||| i) else (some i, i)).1) (Int32.ofNat (if zpop b < zpop i then (some b, al) else if zpop b = zpop i then (some b, al ||| i) else (some i, i)).2) (Int32.ofNat (i + 1)) V
              rw [if_pos c1]
          · rw [if_neg (fun z => c1 ((z_lt (by omega) (by omega)).mp z))]
            cases ht : ztrd v i (v 122)
            · rfl
            · rw [if_neg (show ¬ (if (true : Bool) = true then (1 : Int32) else 0) = 0 by decide), if_neg s2, Option.bind_some]
              show _ = lpX4_forgers_27 n a (zbc (if zpop b < zpop i then (some b, al) else if zpop b = zpop i then (some b, al ||| i) else (some i, i)).1) (Int32.ofNat (if zpop b < zpop i then (some b, al) else if zpop b = zpop i then (some b, al ||| i) else (some i, i)).2) (Int32.ofNat (i + 1)) V
              rw [if_neg c1]
              by_cases c2 : zpop b = zpop i
              · rw [if_pos c2, c2, if_pos (z_yle (Nat.le_refl _) (by omega))]
              · rw [if_neg c2, if_neg (z_nle (by omega) (by omega))]
                rfl
      refine ⟨zfst v (m, al) i, eX, eM, fun b hb => ?_, ?_⟩
      · unfold zfst at hb
        split at hb
        · cases m with
          | none => cases hb; omega
          | some c =>
            simp only at hb
            split at hb
            · exact t1 b hb
            · split at hb
              · cases hb; exact t1 b rfl
              · cases hb; omega
        · exact t1 b hb
      · unfold zfst
        split
        · cases m with
          | none => show i < 4096; omega
          | some c =>
            show (if zpop c < zpop i then ((some c, al) : Option Nat × Nat) else if zpop c = zpop i then (some c, al ||| i) else (some i, i)).2 < 4096
            split
            · exact t2
            · split
              · exact hal
              · show i < 4096; omega
        · exact t2
    · obtain ⟨m, al⟩ := z
      obtain ⟨t1, t2⟩ := hP
      simp only at t1 t2
      have eX : lpX0_forgers_27 (n + 1) o a (zbc m) (Int32.ofNat al) (Int32.ofNat (2 ^ v 1)) g = ndX0_forgers_27 (lpX0_forgers_27 n) o a (zbc m) (Int32.ofNat al) (Int32.ofNat (2 ^ v 1)) g := rfl
      have eM : lpX4_forgers_27 (n + 1) a (zbc m) (Int32.ofNat al) (Int32.ofNat (2 ^ v 1)) V = ndX4_forgers_27 (lpX4_forgers_27 n) a (zbc m) (Int32.ofNat al) (Int32.ofNat (2 ^ v 1)) V := rfl
      show ∃ r, lpX0_forgers_27 (n + 1) o a (zbc m) (Int32.ofNat al) (Int32.ofNat (2 ^ v 1)) g = some (r, g) ∧ lpX4_forgers_27 (n + 1) a (zbc m) (Int32.ofNat al) (Int32.ofNat (2 ^ v 1)) V = some (r, V)
      rw [eX, eM]
      unfold ndX0_forgers_27 ndX4_forgers_27
      rw [I.X.ob, x_many I.X I.F, hf_b2_some, z_sh1 (by omega), p1, if_pos (z_yle (Nat.le_refl _) (by omega)), I.sv.l1, Option.bind_some, z_sh1 (by omega), p1, if_pos (z_yle (Nat.le_refl _) (by omega))]
      by_cases ha : a = 0
      · rw [if_pos ha, if_pos ha]
        exact ⟨_, rfl, rfl⟩
      rw [if_neg ha, if_neg ha]
      cases m with
      | none =>
        rw [if_pos zbc_n, if_neg (show ¬ (0 : Int32) ≤ zbc none by decide)]
        exact ⟨_, rfl, rfl⟩
      | some b =>
        obtain ⟨s1, s2, s3⟩ := zbc_s (k := b) (by have := t1 b rfl; omega)
        rw [if_neg s1, if_pos s3, I.X.ob, x_many I.X I.F, hf_b2_some, z_sh1 (by omega), p1, Option.bind_some]
        exact ⟨_, rfl, by rw [z_sh1 (by omega), p1]⟩
  obtain ⟨r, k1, k2⟩ := key
  rw [k1, k2]
  exact I.same _
end ZI
/-- some of the first n is so -/
def zany (p : Nat → Bool) : Nat → Bool
  | 0 => false
  | k + 1 => zany p k || p k
theorem zany_congr {p q : Nat → Bool} : ∀ n, (∀ k, k < n → p k = q k) → zany p n = zany q n
  | 0, _ => rfl
  | n + 1, h => by
    unfold zany
    rw [zany_congr n (fun k hk => h k (by omega)), h n (by omega)]
def zown (v : Nat → Nat) (b sh h : Nat) : Bool := (zhas v b).testBit h && (decide (v (10 + 5 * h + 4) = 0) && decide (v (10 + 5 * h + 0) = sh))
def zcry (v : Nat → Nat) (b sh u : Nat) : Bool := zany (fun h => zown v b sh h && decide (zfo v h u = 2)) (v 1) && (hf_nd (zats v) (zsaw v b)).testBit u
def zcr (v : Nat → Nat) (b sh : Nat) : Nat := zsum (fun u => if zcry v b sh u then 1 else 0) (v 1)
def zb (p : Bool) : Int32 := if p then 1 else 0
theorem zb_t : zb true = 1 := rfl
theorem zb_f : zb false = 0 := rfl
section ZM
variable {V : hf_V} {v : Nat → Nat}
theorem m_own (S : hf_sv V v) (W : hf_wf v) {b h sh : Nat} (hb : b < v 2) (hh : h < v 1) (hsh : sh < 1000) : spX4_isOwnShape (Int32.ofNat b) (Int32.ofNat h) (Int32.ofNat sh) V = some (zb (zown v b sh h), V) := by
  have q1 := W.v1
  have q2 := W.v2
  have r1 := zhas_lt v b q1
  have qh := W.half hh
  unfold spX4_isOwnShape zown
  rw [m_hasOf S q1 (by omega), hf_b2_some, m_isOf (by omega) (by omega), Option.bind_some]
  by_cases c1 : (zhas v b).testBit h = true
  case neg => rw [if_neg c1, if_pos (show Int32.ofNat 0 = 0 from rfl), Bool.eq_false_iff.mpr c1]; rfl
  rw [if_pos c1, if_neg (show ¬ Int32.ofNat 1 = 0 by decide), m_half4 S (by omega), hf_b2_some, c1]
  by_cases c2 : v (10 + 5 * h + 4) = 0
  case neg => rw [if_neg (show ¬ Int32.ofNat (v (10 + 5 * h + 4)) = 0 from fun z => c2 ((z_eq (b := 0) (by omega) (by decide)).mp z)), decide_eq_false c2]; rfl
  rw [c2, if_pos (show Int32.ofNat 0 = 0 from rfl), m_half0 S (by omega), hf_b2_some]
  by_cases c3 : v (10 + 5 * h + 0) = sh
  · rw [c3, if_pos rfl]; simp [zb]
  · rw [if_neg (fun z => c3 ((z_eq (by omega) (by omega)).mp z)), decide_eq_false c3]; rfl
theorem m_criedFor (S : hf_sv V v) (W : hf_wf v) {b sh : Nat} (hb : b < v 2) (hsh : sh < 1000) : spX4_criedFor (Int32.ofNat b) (Int32.ofNat sh) V = some (if zany (zown v b sh) (v 1) then Int32.ofNat (zcr v b sh) else -1, V) := by
  have q1 := W.v1
  have q2 := W.v2
  have hul : hf_nd (zats v) (zsaw v b) < 4096 := Nat.lt_of_le_of_lt (hf_nd_le _ _) (zats_lt v q1)
  -- for each unseen
  have in_ : ∀ (k51 : Int32 → Int32 → Int32 → Int32 → Int32 → hf_V → Option (Int32 × hf_V)) (n3 l4 : Int32) (u : Nat), u < v 1 → lpX4_criedFor_68 k51 hf_N (Int32.ofNat b) (Int32.ofNat sh) n3 l4 (Int32.ofNat u) (0 : Int32) (0 : Int32) V = k51 (Int32.ofNat b) (Int32.ofNat sh) (n3 + zb (zcry v b sh u)) l4 (Int32.ofNat (u + 1)) V := by
    intro k51 n3 l4 u hu
    refine hf_loop (fun n i => lpX4_criedFor_68 k51 n (Int32.ofNat b) (Int32.ofNat sh) n3 l4 (Int32.ofNat u) (zb (zany (fun h => zown v b sh h && decide (zfo v h u = 2)) i)) (Int32.ofNat i) V) (v 1) _ (fun i n hi => ?_) (fun n => ?_) (fuel := hf_N) (by unfold hf_N; omega)
    · show ndX4_criedFor_68 k51 (lpX4_criedFor_68 k51 n) _ _ _ _ _ _ _ _ = lpX4_criedFor_68 k51 n (Int32.ofNat b) (Int32.ofNat sh) n3 l4 (Int32.ofNat u) (zb (zany (fun h => zown v b sh h && decide (zfo v h u = 2)) i || (zown v b sh i && decide (zfo v i u = 2)))) (Int32.ofNat (i + 1)) V
      have h112 : ∀ y, ndX4_criedFor_112 k51 (lpX4_criedFor_68 k51 n) (Int32.ofNat b) (Int32.ofNat sh) n3 l4 (Int32.ofNat u) (Int32.ofNat i) y V = lpX4_criedFor_68 k51 n (Int32.ofNat b) (Int32.ofNat sh) n3 l4 (Int32.ofNat u) y (Int32.ofNat (i + 1)) V := fun y => by
        unfold ndX4_criedFor_112
        rw [hf_let_eq, z_lit, z_add]
      unfold ndX4_criedFor_68 ndX4_criedFor_111 ndX4_criedFor_107
      rw [S.l1, Option.bind_some, if_neg (z_nle hi (by omega)), m_own S W hb hi hsh, hf_b2_some]
      cases hc : zany (fun h => zown v b sh h && decide (zfo v h u = 2)) i
      · rw [if_pos zb_f]
        cases ho : zown v b sh i
        · rw [if_pos zb_f, h112]; rfl
        · have hfl := zfo_le v i u
          rw [if_neg (show ¬ zb true = 0 by decide), m_fitOf S (by omega) (by omega), hf_b2_some]
          by_cases c3 : zfo v i u = 2
          · rw [if_pos (by rw [c3]; rfl), h112, decide_eq_true c3]; rfl
          · rw [if_neg (show ¬ Int32.ofNat (zfo v i u) = 2 from fun z => c3 ((z_eq (b := 2) (by omega) (by decide)).mp z)), h112, decide_eq_false c3]; rfl
      · rw [if_neg (show ¬ zb true = 0 by decide), h112]; rfl
    · show ndX4_criedFor_68 k51 (lpX4_criedFor_68 k51 n) _ _ _ _ _ _ _ _ = _
      have h144 : ∀ y, ndX4_criedFor_144 k51 (Int32.ofNat b) (Int32.ofNat sh) l4 (Int32.ofNat u) n3 y V = k51 (Int32.ofNat b) (Int32.ofNat sh) (n3 + y) l4 (Int32.ofNat (u + 1)) V := fun y => by
        unfold ndX4_criedFor_144
        rw [hf_let_eq, hf_let_eq, z_lit, z_add]
      unfold ndX4_criedFor_68 ndX4_criedFor_143
      rw [S.l1, Option.bind_some, if_pos (z_yle (Nat.le_refl _) (by omega)), h144]
      unfold zcry
      cases hc : zany (fun h => zown v b sh h && decide (zfo v h u = 2)) (v 1)
      · rw [if_pos zb_f]; rfl
      · rw [if_neg (show ¬ zb true = 0 by decide), m_unseen S q1 q2 (by omega), hf_b2_some, m_isOf (by omega) (by omega), Option.bind_some]
        cases hd : (hf_nd (zats v) (zsaw v b)).testBit u
        · rw [if_pos (show Int32.ofNat (if (false : Bool) = true then 1 else 0) = 0 from rfl), h144]; rfl
        · rw [if_pos rfl, if_neg (show ¬ Int32.ofNat 1 = 0 by decide), h144]; rfl
  have mid : ∀ l4 : Int32, lpX4_criedFor_51 hf_N (Int32.ofNat b) (Int32.ofNat sh) (0 : Int32) l4 (0 : Int32) V = some (if l4 = 0 then -1 else Int32.ofNat (zcr v b sh), V) := by
    intro l4
    refine hf_loop (fun n i => lpX4_criedFor_51 n (Int32.ofNat b) (Int32.ofNat sh) (Int32.ofNat (zsum (fun u => if zcry v b sh u then 1 else 0) i)) l4 (Int32.ofNat i) V) (v 1) _ (fun i n hi => ?_) (fun n => ?_) (fuel := hf_N) (by unfold hf_N; omega)
    · show ndX4_criedFor_51 (lpX4_criedFor_51 n) _ _ _ _ _ _ = _
      unfold ndX4_criedFor_51
      rw [S.l1, Option.bind_some, if_neg (z_nle hi (by omega)), in_ _ _ _ _ hi]
      have hz : zsum (fun u => if zcry v b sh u then 1 else 0) (i + 1) = zsum (fun u => if zcry v b sh u then 1 else 0) i + (if zcry v b sh i then 1 else 0) := rfl
      rw [hz]
      congr 1
      cases zcry v b sh i
      · exact z_add _ 0
      · exact z_add _ 1
    · show ndX4_criedFor_51 (lpX4_criedFor_51 n) _ _ _ _ _ _ = _
      unfold ndX4_criedFor_51
      rw [S.l1, Option.bind_some, if_pos (z_yle (Nat.le_refl _) (by omega))]
      by_cases e : l4 = 0
      · rw [if_pos e, if_pos e]
      · rw [if_neg e, if_neg e]; rfl
  unfold spX4_criedFor
  refine hf_loop (fun n i => lpX4_criedFor_8 n (Int32.ofNat b) (Int32.ofNat sh) (0 : Int32) (zb (zany (zown v b sh) i)) (Int32.ofNat i) V) (v 1) _ (fun i n hi => ?_) (fun n => ?_) (fuel := hf_N) (by unfold hf_N; omega)
  · show ndX4_criedFor_8 (lpX4_criedFor_8 n) _ _ _ _ _ _ = lpX4_criedFor_8 n (Int32.ofNat b) (Int32.ofNat sh) (0 : Int32) (zb (zany (zown v b sh) i || zown v b sh i)) (Int32.ofNat (i + 1)) V
    have h40 : ∀ y, ndX4_criedFor_40 (lpX4_criedFor_8 n) (Int32.ofNat b) (Int32.ofNat sh) (0 : Int32) (Int32.ofNat i) y V = lpX4_criedFor_8 n (Int32.ofNat b) (Int32.ofNat sh) (0 : Int32) y (Int32.ofNat (i + 1)) V := fun y => by
      unfold ndX4_criedFor_40
      rw [hf_let_eq, z_lit, z_lit, z_add]
    unfold ndX4_criedFor_8 ndX4_criedFor_35
    rw [S.l1, Option.bind_some, if_neg (z_nle hi (by omega)), m_own S W hb hi hsh, hf_b2_some]
    simp only [h40]
    cases hc : zany (zown v b sh) i
    · rw [if_pos zb_f]
      cases ho : zown v b sh i
      · rw [if_pos zb_f]; rfl
      · rw [if_neg (show ¬ zb true = 0 by decide)]; rfl
    · rw [if_neg (show ¬ zb true = 0 by decide)]; rfl
  · show ndX4_criedFor_8 (lpX4_criedFor_8 n) _ _ _ _ _ _ = _
    unfold ndX4_criedFor_8
    rw [S.l1, Option.bind_some, if_pos (z_yle (Nat.le_refl _) (by omega))]
    refine (mid _).trans ?_
    cases zany (zown v b sh) (v 1) <;> rfl
end ZM
set_option maxRecDepth 100000
set_option maxHeartbeats 1000000
/-! cry -/
theorem zown_nd {v : Nat → Nat} (W : hf_wf v) {b sh h : Nat} (hh : h < v 1) : ((hf_nd (zhas v b) (zforg v)).testBit h && decide (v (10 + 5 * h + 0) = sh)) = zown v b sh h := by
  have qh := W.half hh
  unfold zown
  rw [hf_nd_bit, zforg_bit v h hh]
  rcases (show v (10 + 5 * h + 4) = 0 ∨ v (10 + 5 * h + 4) = 1 by omega) with e | e <;> rw [e] <;> cases (zhas v b).testBit h <;> rfl
section ZI
variable {P : Nat} {g g' : hf_H} {o f st kp rl rd : Nat} {V V' XV : hf_V} {ps ik sk : Nat → Nat} {v v' : Nat → Nat}
theorem x_criedBy (I : hf_I P g o V XV f st kp rl rd ps ik sk v) {b sh : Nat} (hb : b < v 2) (hsh : sh < 1000) : spX0_criedBy o (Int32.ofNat b) (Int32.ofNat sh) g = some (Int32.ofNat (zcr v b sh), g) := by
  have W := I.W
  have q1 := W.v1
  have q2 := W.v2
  have r1 := zhas_lt v b q1
  have hul : hf_nd (zats v) (zsaw v b) < 4096 := Nat.lt_of_le_of_lt (hf_nd_le _ _) (zats_lt v q1)
  have hfl := zforg_lt v q1
  have hnl : hf_nd (zhas v b) (zforg v) < 4096 := Nat.lt_of_le_of_lt (hf_nd_le _ _) r1
  have in_ : ∀ (k33 : Nat → Int32 → Int32 → Int32 → Int32 → Int32 → hf_H → Option (Int32 × hf_H)) (n5 : Int32) (u : Nat), u < v 1 → lpX0_criedBy_48 k33 hf_N o (Int32.ofNat sh) (Int32.ofNat (zhas v b)) (Int32.ofNat (hf_nd (zats v) (zsaw v b))) n5 (Int32.ofNat u) (0 : Int32) (0 : Int32) g = k33 o (Int32.ofNat sh) (Int32.ofNat (zhas v b)) (Int32.ofNat (hf_nd (zats v) (zsaw v b))) (n5 + zb (zcry v b sh u)) (Int32.ofNat (u + 1)) g := by
    intro k33 n5 u hu
    refine hf_loop (fun n i => lpX0_criedBy_48 k33 n o (Int32.ofNat sh) (Int32.ofNat (zhas v b)) (Int32.ofNat (hf_nd (zats v) (zsaw v b))) n5 (Int32.ofNat u) (zb (zany (fun h => zown v b sh h && decide (zfo v h u = 2)) i)) (Int32.ofNat i) g) (v 1) _ (fun i n hi => ?_) (fun n => ?_) (fuel := hf_N) (by unfold hf_N; omega)
    · show ndX0_criedBy_48 k33 (lpX0_criedBy_48 k33 n) _ _ _ _ _ _ _ _ _ = lpX0_criedBy_48 k33 n o (Int32.ofNat sh) (Int32.ofNat (zhas v b)) (Int32.ofNat (hf_nd (zats v) (zsaw v b))) n5 (Int32.ofNat u) (zb (zany (fun h => zown v b sh h && decide (zfo v h u = 2)) i || (zown v b sh i && decide (zfo v i u = 2)))) (Int32.ofNat (i + 1)) g
      have qi := W.half hi
      have h120 : ∀ y, ndX0_criedBy_120 k33 (lpX0_criedBy_48 k33 n) o (Int32.ofNat sh) (Int32.ofNat (zhas v b)) (Int32.ofNat (hf_nd (zats v) (zsaw v b))) n5 (Int32.ofNat u) (Int32.ofNat i) y g = lpX0_criedBy_48 k33 n o (Int32.ofNat sh) (Int32.ofNat (zhas v b)) (Int32.ofNat (hf_nd (zats v) (zsaw v b))) n5 (Int32.ofNat u) y (Int32.ofNat (i + 1)) g := fun y => by
        unfold ndX0_criedBy_120
        rw [hf_let_eq, z_lit, z_add]
      unfold ndX0_criedBy_48 ndX0_criedBy_115 ndX0_criedBy_119
      rw [I.X.ob, x_many I.X I.F, hf_b2_some, if_neg (z_nle hi (by omega))]
      cases hc : zany (fun h => zown v b sh h && decide (zfo v h u = 2)) i
      case true => rw [if_neg (show ¬ zb true = 0 by decide), h120]; rfl
      rw [if_pos zb_f, I.X.fa, Option.bind_some, I.F.forged (W.h0 hi), Option.bind_some, z_nd, x_has (by omega) (by omega), Option.bind_some, ← zown_nd W hi]
      cases hd : (hf_nd (zhas v b) (zforg v)).testBit i
      · rw [if_pos (show Int32.ofNat (if (false : Bool) = true then 1 else 0) = 0 from rfl), h120]; rfl
      rw [if_neg (show ¬ Int32.ofNat (if (true : Bool) = true then 1 else 0) = 0 by decide), Option.bind_some, I.F.shape W hi]
      by_cases c2 : v (10 + 5 * i + 0) = sh
      case neg => rw [if_neg (fun z => c2 ((z_eq (by omega) (by omega)).mp z)), h120, decide_eq_false c2]; rfl
      have bz := zfo_le v i u
      rw [if_pos (by rw [c2]), I.X.ob, x_fit2 I.X I.F W hi hu, hf_b2_some, decide_eq_true c2]
      by_cases c3 : zfo v i u = 2
      · rw [if_pos (by rw [c3]; rfl), h120, decide_eq_true c3]; rfl
      · rw [if_neg (show ¬ Int32.ofNat (zfo v i u) = 2 from fun z => c3 ((z_eq (b := 2) (by omega) (by decide)).mp z)), h120, decide_eq_false c3]; rfl
    · show ndX0_criedBy_48 k33 (lpX0_criedBy_48 k33 n) _ _ _ _ _ _ _ _ _ = _
      have h150 : ∀ p : Bool, ndX0_criedBy_150 k33 o (Int32.ofNat sh) (Int32.ofNat (zhas v b)) (Int32.ofNat (hf_nd (zats v) (zsaw v b))) (Int32.ofNat u) n5 (zb p) g = k33 o (Int32.ofNat sh) (Int32.ofNat (zhas v b)) (Int32.ofNat (hf_nd (zats v) (zsaw v b))) (n5 + zb p) (Int32.ofNat (u + 1)) g := fun p => by
        unfold ndX0_criedBy_150
        have hb : spX0_bit (zb p) = some (zb p) := by cases p <;> rfl
        rw [hb, Option.bind_some, hf_let_eq, hf_let_eq, z_lit, z_add]
      unfold ndX0_criedBy_48 ndX0_criedBy_149
      rw [I.X.ob, x_many I.X I.F, hf_b2_some, if_pos (z_yle (Nat.le_refl _) (by omega))]
      unfold zcry
      cases hc : zany (fun h => zown v b sh h && decide (zfo v h u = 2)) (v 1)
      · rw [if_pos zb_f]; exact h150 false
      · rw [if_neg (show ¬ zb true = 0 by decide), x_has (by omega) (by omega), Option.bind_some]
        cases hd : (hf_nd (zats v) (zsaw v b)).testBit u
        · rw [if_pos (show Int32.ofNat (if (false : Bool) = true then 1 else 0) = 0 from rfl)]; exact h150 false
        · rw [if_neg (show ¬ Int32.ofNat (if (true : Bool) = true then 1 else 0) = 0 by decide)]; exact h150 true
  unfold spX0_criedBy
  rw [I.X.st, Option.bind_some, I.X.fa, Option.bind_some, I.S.ob, x_halvesOf I.F I.S W (by omega), hf_b2_some, I.X.st, Option.bind_some, I.X.fa, Option.bind_some, I.S.ob, x_unseen I.F I.S W hb, hf_b2_some]
  refine hf_loop (fun n i => lpX0_criedBy_33 n o (Int32.ofNat sh) (Int32.ofNat (zhas v b)) (Int32.ofNat (hf_nd (zats v) (zsaw v b))) (Int32.ofNat (zsum (fun u => if zcry v b sh u then 1 else 0) i)) (Int32.ofNat i) g) (v 1) _ (fun i n hi => ?_) (fun n => ?_) (fuel := hf_N) (by unfold hf_N; omega)
  · show ndX0_criedBy_33 (lpX0_criedBy_33 n) _ _ _ _ _ _ _ = _
    unfold ndX0_criedBy_33
    rw [I.X.ob, x_many I.X I.F, hf_b2_some, if_neg (z_nle hi (by omega)), in_ _ _ _ hi]
    have hz : zsum (fun u => if zcry v b sh u then 1 else 0) (i + 1) = zsum (fun u => if zcry v b sh u then 1 else 0) i + (if zcry v b sh i then 1 else 0) := rfl
    rw [hz]
    congr 1
    cases zcry v b sh i
    · exact z_add _ 0
    · exact z_add _ 1
  · show ndX0_criedBy_33 (lpX0_criedBy_33 n) _ _ _ _ _ _ _ = _
    unfold ndX0_criedBy_33
    rw [I.X.ob, x_many I.X I.F, hf_b2_some, if_pos (z_yle (Nat.le_refl _) (by omega))]
    rfl
theorem zcr_le (v : Nat → Nat) (b sh : Nat) (hn : v 1 ≤ 12) : zcr v b sh ≤ 12 := by
  have := zsum_le (fun u => if zcry v b sh u then 1 else 0) 1 (fun i => by split <;> omega) (v 1)
  unfold zcr
  omega
/-- the best cry so far: a shape, how many -/
def zcs (v : Nat → Nat) (b : Nat) (z : Option (Nat × Nat)) (sh : Nat) : Option (Nat × Nat) := if zany (zown v b sh) (v 1) then (match z with | none => some (sh, zcr v b sh) | some (s, n) => if n < zcr v b sh then some (sh, zcr v b sh) else some (s, n)) else z
def zc1 (z : Option (Nat × Nat)) : Int32 := match z with | none => -2 | some (s, _) => Int32.ofNat s
def zcX (z : Option (Nat × Nat)) : Int32 := match z with | none => 0 | some (_, n) => Int32.ofNat n
def zcM (z : Option (Nat × Nat)) : Int32 := match z with | none => -1 | some (_, n) => Int32.ofNat n
theorem op_cry (J : hf_INV P g o V) (a c : Int32) : hf_OPr P g o (spX0_cry o a c g) (spX4_cry a c V) := by
  obtain ⟨XV, f, st, kp, rl, rd, ps, ik, sk, v, I⟩ := J
  have W := I.W
  have q1 := W.v1
  have q2 := W.v2
  unfold spX0_cry spX4_cry
  rw [I.X.ob, x_isBuyer I.X I.F I.W, hf_b2_some, m_isBuyerZ I.sv, hf_b2_some]
  by_cases hz : zin a (v 2)
  case neg => rw [z1F hz, z1F hz]; exact I.same _
  have xe : spX0_in c.toInt64 (0 : Int64) (1 : Int64) = some (if zin c 2 then Int32.ofNat 1 else Int32.ofNat 0) := x_inl c (n := 1) (by decide)
  have me : spX4_in c.toInt64 (0 : Int64) (1 : Int64) = some (if zin c 2 then Int32.ofNat 1 else Int32.ofNat 0) := xe
  rw [z1T hz, z1T hz, xe, Option.bind_some, me, Option.bind_some]
  by_cases hc : zin c 2
  case neg => rw [z1F hc, z1F hc]; exact I.same _
  rw [z1T hc, z1T hc]
  obtain ⟨b, hb, rfl⟩ := zin_ex hz (by omega)
  have r1 := zhas_lt v b q1
  have hfl := zforg_lt v q1
  have hnl : hf_nd (zhas v b) (zforg v) < 4096 := Nat.lt_of_le_of_lt (hf_nd_le _ _) r1
  rw [I.X.st, Option.bind_some, I.X.fa, Option.bind_some, I.S.ob, x_halvesOf I.F I.S W (by omega), hf_b2_some, I.X.fa, Option.bind_some, I.F.forged (W.b0 hb), Option.bind_some, z_nd, hf_let_eq]
  have key : ∃ r, lpX0_cry_53 hf_N o (Int32.ofNat b) c (Int32.ofNat (hf_nd (zhas v b) (zforg v))) (-2 : Int32) (0 : Int32) (0 : Int32) g = some (r, g) ∧ lpX4_cry_29 hf_N (Int32.ofNat b) c (-2 : Int32) (-1 : Int32) (0 : Int32) V = some (r, V) := by
    refine hf_loopR2 (fun n i (z : Option (Nat × Nat)) => lpX0_cry_53 n o (Int32.ofNat b) c (Int32.ofNat (hf_nd (zhas v b) (zforg v))) (zc1 z) (zcX z) (Int32.ofNat i) g) (fun n i (z : Option (Nat × Nat)) => lpX4_cry_29 n (Int32.ofNat b) c (zc1 z) (zcM z) (Int32.ofNat i) V) (fun i z => ∀ s n, z = some (s, n) → s < 100 ∧ n ≤ 12) 100 (fun r1 r2 => ∃ r, r1 = some (r, g) ∧ r2 = some (r, V)) (fun i n z hi hP => ?_) (fun n z hP => ?_) none (fun s n h => (by cases h)) (fuel := hf_N) (by unfold hf_N; omega)
    · right
      have hcl := zcr_le v b i q1
      have n165 : ∀ x y, ndX0_cry_165 (lpX0_cry_53 n) o (Int32.ofNat b) c (Int32.ofNat (hf_nd (zhas v b) (zforg v))) x y (Int32.ofNat i) g = lpX0_cry_53 n o (Int32.ofNat b) c (Int32.ofNat (hf_nd (zhas v b) (zforg v))) x y (Int32.ofNat (i + 1)) g := fun x y => by
        unfold ndX0_cry_165
        rw [hf_let_eq, z_lit, z_add]
      have n152 : ndX0_cry_152 (lpX0_cry_53 n) o (Int32.ofNat b) c (Int32.ofNat (hf_nd (zhas v b) (zforg v))) (Int32.ofNat i) g = lpX0_cry_53 n o (Int32.ofNat b) c (Int32.ofNat (hf_nd (zhas v b) (zforg v))) (Int32.ofNat i) (Int32.ofNat (zcr v b i)) (Int32.ofNat (i + 1)) g := by
        unfold ndX0_cry_152
        rw [I.X.ob, x_criedBy I hb (by omega), hf_b2_some, n165]
      have inX : lpX0_cry_66 (lpX0_cry_53 n) hf_N o (Int32.ofNat b) c (Int32.ofNat (hf_nd (zhas v b) (zforg v))) (zc1 z) (zcX z) (Int32.ofNat i) (0 : Int32) (0 : Int32) g = lpX0_cry_53 n o (Int32.ofNat b) c (Int32.ofNat (hf_nd (zhas v b) (zforg v))) (zc1 (zcs v b z i)) (zcX (zcs v b z i)) (Int32.ofNat (i + 1)) g := by
        refine hf_loop (fun m j => lpX0_cry_66 (lpX0_cry_53 n) m o (Int32.ofNat b) c (Int32.ofNat (hf_nd (zhas v b) (zforg v))) (zc1 z) (zcX z) (Int32.ofNat i) (zb (zany (zown v b i) j)) (Int32.ofNat j) g) (v 1) _ (fun j m hj => ?_) (fun m => ?_) (fuel := hf_N) (by unfold hf_N; omega)
        · show ndX0_cry_66 (lpX0_cry_53 n) (lpX0_cry_66 (lpX0_cry_53 n) m) _ _ _ _ _ _ _ _ _ _ = lpX0_cry_66 (lpX0_cry_53 n) m o (Int32.ofNat b) c (Int32.ofNat (hf_nd (zhas v b) (zforg v))) (zc1 z) (zcX z) (Int32.ofNat i) (zb (zany (zown v b i) j || zown v b i j)) (Int32.ofNat (j + 1)) g
          have qj := W.half hj
          have n117 : ∀ y, ndX0_cry_117 (lpX0_cry_53 n) (lpX0_cry_66 (lpX0_cry_53 n) m) o (Int32.ofNat b) c (Int32.ofNat (hf_nd (zhas v b) (zforg v))) (zc1 z) (zcX z) (Int32.ofNat i) (Int32.ofNat j) y g = lpX0_cry_66 (lpX0_cry_53 n) m o (Int32.ofNat b) c (Int32.ofNat (hf_nd (zhas v b) (zforg v))) (zc1 z) (zcX z) (Int32.ofNat i) y (Int32.ofNat (j + 1)) g := fun y => by
            unfold ndX0_cry_117
            rw [hf_let_eq, z_lit, z_add]
          unfold ndX0_cry_66 ndX0_cry_112 ndX0_cry_116
          rw [I.X.ob, x_many I.X I.F, hf_b2_some, if_neg (z_nle hj (by omega))]
          cases hc : zany (zown v b i) j
          case true => rw [if_neg (show ¬ zb true = 0 by decide), n117]; rfl
          rw [if_pos zb_f, x_has (by omega) (by omega), Option.bind_some, ← zown_nd W hj]
          cases hd : (hf_nd (zhas v b) (zforg v)).testBit j
          · rw [if_pos (show Int32.ofNat (if (false : Bool) = true then 1 else 0) = 0 from rfl), n117]; rfl
          rw [if_neg (show ¬ Int32.ofNat (if (true : Bool) = true then 1 else 0) = 0 by decide), I.X.fa, Option.bind_some, I.F.shape W hj]
          by_cases c2 : v (10 + 5 * j + 0) = i
          · rw [if_pos (by rw [c2]), n117, decide_eq_true c2]; rfl
          · rw [if_neg (fun z => c2 ((z_eq (by omega) (by omega)).mp z)), n117, decide_eq_false c2]; rfl
        · show ndX0_cry_66 (lpX0_cry_53 n) (lpX0_cry_66 (lpX0_cry_53 n) m) _ _ _ _ _ _ _ _ _ _ = _
          unfold ndX0_cry_66
          rw [I.X.ob, x_many I.X I.F, hf_b2_some, if_pos (z_yle (Nat.le_refl _) (by omega)), n165, n152]
          unfold zcs
          cases hc : zany (zown v b i) (v 1)
          · rfl
          rw [if_neg (show ¬ zb true = 0 by decide)]
          cases z with
          | none => rfl
          | some p =>
            obtain ⟨s, m'⟩ := p
            obtain ⟨s1, s2⟩ := hP s m' rfl
            have hn : ¬ zc1 (some (s, m')) = -2 := (zbc_s (k := s) (by omega)).1
            rw [if_neg hn, I.X.ob, x_criedBy I hb (by omega), hf_b2_some, n152, n165]
            show (if Int32.ofNat m' < Int32.ofNat (zcr v b i) then _ else _) = lpX0_cry_53 n o (Int32.ofNat b) c (Int32.ofNat (hf_nd (zhas v b) (zforg v))) (zc1 (if m' < zcr v b i then some (i, zcr v b i) else some (s, m'))) (zcX (if m' < zcr v b i then some (i, zcr v b i) else some (s, m'))) (Int32.ofNat (i + 1)) g
            by_cases c1 : m' < zcr v b i
            · rw [if_pos c1, if_pos ((z_lt (by omega) (by omega)).mpr c1)]; rfl
            · rw [if_neg c1, if_neg (fun z => c1 ((z_lt (by omega) (by omega)).mp z))]
      refine ⟨zcs v b z i, ?_, ?_, fun s m hs => ?_⟩
      · show ndX0_cry_53 (lpX0_cry_53 n) _ _ _ _ _ _ _ _ = _
        unfold ndX0_cry_53
        have h99 : ¬ (99 : Int32) < Int32.ofNat i := fun z => by have := (z_lt (a := 99) (by decide) (by omega)).mp z; omega
        rw [if_neg h99]
        exact inX
      · show ndX4_cry_29 (lpX4_cry_29 n) _ _ _ _ _ _ = _
        have h100 : ¬ (100 : Int32) ≤ Int32.ofNat i := z_nle (a := 100) (by omega) (by decide)
        have n62 : ∀ x y, ndX4_cry_62 (lpX4_cry_29 n) (Int32.ofNat b) c x y (Int32.ofNat i) V = lpX4_cry_29 n (Int32.ofNat b) c x y (Int32.ofNat (i + 1)) V := fun x y => by
          unfold ndX4_cry_62
          rw [hf_let_eq, z_lit, z_add]
        unfold ndX4_cry_29
        rw [if_neg h100, m_criedFor I.sv W hb (by omega), hf_b2_some, n62, n62]
        unfold zcs
        cases hc : zany (zown v b i) (v 1)
        · cases z with
          | none => rfl
          | some p =>
            obtain ⟨s, m'⟩ := p
            obtain ⟨s1, s2⟩ := hP s m' rfl
            have h0 : ¬ Int32.ofNat m' < 0 := z_n0 m' (by omega)
            have : ¬ zcM (some (s, m')) < (if (false : Bool) = true then Int32.ofNat (zcr v b i) else -1) := fun z => h0 (Int32.lt_trans z (show (-1 : Int32) < 0 by decide))
            rw [if_neg this]
            rfl
        · cases z with
          | none =>
            have h0 : ¬ Int32.ofNat (zcr v b i) < 0 := z_n0 _ (by omega)
            have : zcM none < (if (true : Bool) = true then Int32.ofNat (zcr v b i) else -1) := Int32.lt_of_lt_of_le (show (-1 : Int32) < 0 by decide) (Int32.not_lt.mp h0)
            rw [if_pos this]
            rfl
          | some p =>
            obtain ⟨s, m'⟩ := p
            obtain ⟨s1, s2⟩ := hP s m' rfl
            show (if Int32.ofNat m' < Int32.ofNat (zcr v b i) then _ else _) = lpX4_cry_29 n (Int32.ofNat b) c (zc1 (if m' < zcr v b i then some (i, zcr v b i) else some (s, m'))) (zcM (if m' < zcr v b i then some (i, zcr v b i) else some (s, m'))) (Int32.ofNat (i + 1)) V
            by_cases c1 : m' < zcr v b i
            · rw [if_pos c1, if_pos ((z_lt (by omega) (by omega)).mpr c1)]; rfl
            · rw [if_neg c1, if_neg (fun z => c1 ((z_lt (by omega) (by omega)).mp z))]
      · unfold zcs at hs
        split at hs
        · cases z with
          | none => cases hs; exact ⟨by omega, hcl⟩
          | some p =>
            obtain ⟨s', m'⟩ := p
            simp only at hs
            split at hs
            · cases hs; exact ⟨by omega, hcl⟩
            · cases hs; exact hP _ _ rfl
        · exact hP s m hs
    · have eX : lpX0_cry_53 (n + 1) o (Int32.ofNat b) c (Int32.ofNat (hf_nd (zhas v b) (zforg v))) (zc1 z) (zcX z) (Int32.ofNat 100) g = some (if c = 0 then zc1 z else zcX z, g) := by
        show ndX0_cry_53 (lpX0_cry_53 n) _ _ _ _ _ _ _ _ = _
        unfold ndX0_cry_53
        rw [if_pos (show (99 : Int32) < Int32.ofNat 100 by decide)]
        by_cases e : c = 0
        · rw [if_pos e, if_pos e]
        · rw [if_neg e, if_neg e]
      have eM : lpX4_cry_29 (n + 1) (Int32.ofNat b) c (zc1 z) (zcM z) (Int32.ofNat 100) V = some (if c = 0 then zc1 z else zcX z, V) := by
        show ndX4_cry_29 (lpX4_cry_29 n) _ _ _ _ _ _ = _
        unfold ndX4_cry_29
        rw [if_pos (show (100 : Int32) ≤ Int32.ofNat 100 by decide)]
        by_cases e : c = 0
        · rw [if_pos e, if_pos e]
        · rw [if_neg e, if_neg e]
          cases z with
          | none => rfl
          | some p =>
            obtain ⟨s, m'⟩ := p
            obtain ⟨s1, s2⟩ := hP s m' rfl
            rw [if_pos (show (0 : Int32) ≤ zcM (some (s, m')) from Int32.not_lt.mp (z_n0 m' (by omega)))]
            rfl
      exact ⟨_, eX, eM⟩
  obtain ⟨r, k1, k2⟩ := key
  rw [k1, k2]
  exact I.same _
end ZI
