set_option maxRecDepth 100000
set_option maxHeartbeats 1000000
/-! both buy by a rule -/
theorem zsum_congr {f g : Nat → Nat} : ∀ n, (∀ k, k < n → f k = g k) → zsum f n = zsum g n
  | 0, _ => rfl
  | n + 1, H => by
    unfold zsum
    rw [zsum_congr n (fun k hk => H k (by omega)), H n (by omega)]
theorem zsum_one {f g : Nat → Nat} {k : Nat} (hk : f k = g k + 1) (ho : ∀ i, i ≠ k → f i = g i) : ∀ n, k < n → zsum f n = zsum g n + 1
  | 0, h => by omega
  | n + 1, h => by
    unfold zsum
    by_cases e : k = n
    · subst e
      rw [zsum_congr k (fun i hi => ho i (by omega)), hk]
      omega
    · rw [zsum_one hk ho n (by omega), ho n (fun z => e z.symm)]
      omega
theorem zbit1 (k i : Nat) : (1 <<< k).testBit i = decide (i = k) := by
  rw [Nat.testBit_shiftLeft]
  by_cases e : i = k
  · subst e; simp
  · by_cases h : k ≤ i
    · have : (1 : Nat).testBit (i - k) = false := Nat.testBit_lt_two_pow (Nat.lt_of_lt_of_le (by decide : 1 < 2 ^ 1) (Nat.pow_le_pow_right (by decide) (by omega)))
      simp [e, this]
    · simp [e, h]
theorem zpop_or {S k : Nat} (hk : k < 12) (h : S.testBit k = false) : zpop (S ||| 1 <<< k) = zpop S + 1 := by
  unfold zpop
  refine zsum_one (k := k) ?_ (fun i hi => ?_) 12 hk
  · rw [Nat.testBit_or, zbit1, h]; simp
  · rw [Nat.testBit_or, zbit1]; simp [hi]
/-- S: what went from stalls to buyers -/
def zbt (v v' : Nat → Nat) (S : Nat) : Prop := (∀ k, v 1 ≤ k → S.testBit k = false) ∧ (∀ k, k < v 1 → (S.testBit k = true ↔ v (10 + 5 * k + 3) < 100 ∧ 100 ≤ v' (10 + 5 * k + 3)) ∧ (100 ≤ v (10 + 5 * k + 3) → 100 ≤ v' (10 + 5 * k + 3))) ∧ ∀ b, v' (70 + 4 * b) ≤ v (70 + 4 * b)
theorem zbt.same {v v' : Nat → Nat} (H : ∀ k, k < v 1 → v' (10 + 5 * k + 3) = v (10 + 5 * k + 3)) (Hp : ∀ b, v' (70 + 4 * b) ≤ v (70 + 4 * b)) : zbt v v' 0 := by
  refine ⟨fun k _ => Nat.zero_testBit k, fun k hk => ?_, Hp⟩
  rw [H k hk, Nat.zero_testBit]
  refine ⟨⟨fun z => by simp at z, fun z => by omega⟩, fun z => z⟩
theorem zbt.trans {v w u : Nat → Nat} {S T : Nat} (h1 : w 1 = v 1) (A : zbt v w S) (C : zbt w u T) : zbt v u (S ||| T) := by
  refine ⟨fun k hk => by rw [Nat.testBit_or, A.1 k hk, C.1 k (by omega)]; rfl, fun k hk => ?_, fun b => Nat.le_trans (C.2.2 b) (A.2.2 b)⟩
  obtain ⟨a1, a2⟩ := A.2.1 k hk
  obtain ⟨c1, c2⟩ := C.2.1 k (by omega)
  refine ⟨?_, fun z => c2 (a2 z)⟩
  rw [Nat.testBit_or, Bool.or_eq_true, a1, c1]
  constructor
  · rintro (⟨x, y⟩ | ⟨x, y⟩)
    · exact ⟨x, c2 y⟩
    · refine ⟨?_, y⟩
      by_cases z : v (10 + 5 * k + 3) < 100
      · exact z
      · have := a2 (by omega); omega
  · rintro ⟨x, y⟩
    by_cases z : w (10 + 5 * k + 3) < 100
    · exact Or.inr ⟨z, y⟩
    · exact Or.inl ⟨x, by omega⟩
theorem zbt.lt {v v' : Nat → Nat} {S : Nat} (A : zbt v v' S) (hn : v 1 ≤ 12) : S < 4096 := by
  have : S < 2 ^ 12 := Nat.lt_pow_two_of_testBit S (fun i hi => A.1 i (by omega))
  exact this
theorem zbuys_wh (v : Nat → Nat) (b k j : Nat) (hk : k < 12) (hj : j < 12) : zbuys v b k (10 + 5 * j + 3) = if j = k then 100 + b else v (10 + 5 * j + 3) := by
  unfold zbuys
  by_cases e : j = k
  · subst e; rw [zup_at, if_pos rfl]
  · rw [zup_ne _ (by omega), zup_ne _ (by omega), if_neg e]
theorem zbt.buys {v : Nat → Nat} (Wf : hf_wf v) {b k : Nat} (hb : b < v 2) (hk : k < v 1) (hc : zcb v b k) : zbt v (zbuys v b k) (1 <<< k) := by
  have q1 := Wf.v1
  have q0 := Wf.v0
  have hw : v (10 + 5 * k + 3) < 100 := by
    have := (z_st (v 3) (Wf.buyer hb).2.1).1
    rw [hc.1]
    omega
  refine ⟨fun j hj => ?_, fun j hj => ?_, fun c => ?_⟩
  rotate_left 2
  · unfold zbuys
    rw [zup_ne _ (by omega)]
    by_cases e : c = b
    · subst e; rw [zup_at]; omega
    · rw [zup_ne _ (by omega)]; omega
  · rw [zbit1]; simp; omega
  · rw [zbuys_wh v b k j (by omega) (by omega), zbit1]
    by_cases e : j = k
    · subst e
      rw [if_pos rfl]
      exact ⟨⟨fun _ => ⟨hw, by omega⟩, fun _ => by simp⟩, fun _ => by omega⟩
    · rw [if_neg e]
      exact ⟨⟨fun z => by simp [e] at z, fun z => by omega⟩, fun z => z⟩
section ZX
variable {h : hf_H} {o f s s' : Nat} {v : Nat → Nat} {XV V : hf_V} {a t : Nat}
theorem xm_buys1 (B : hf_BB h o f s s' XV V v a t) {v' : Nat → Nat} {g : hf_H} {V' : hf_V} (J : hf_JJ h o s' XV V v g V' v') {b k : Nat} (hb : b < v' 2) (hk : k < v' 1) (hc : zcb v' b k) : ∃ g2, spX2_buys s' f (Int32.ofNat b) (Int32.ofNat k) g = some g2 ∧ spX4_buys (Int32.ofNat b) (Int32.ofNat k) V' = some (hf_sd20 V' (zbuys v' b k)) ∧ hf_JJ h o s' XV V v g2 (hf_sd20 V' (zbuys v' b k)) (zbuys v' b k) := by
  obtain ⟨W, SV, rfl, j2, Wf, E, Sv, M⟩ := J
  have q1 := Wf.v1
  have q2 := Wf.v2
  have F := hf_JJ.ff B W SV E
  have S : hf_SS (hf_sc (hf_xc h o (hf_xw XV W)) s' SV) s' v' := hf_SS.sc _ s' j2
  have hle : zpr v' k ≤ v' (70 + 4 * b) := hc.2
  obtain ⟨SV2, x1, x2⟩ := x_buys F S Wf hb hk hle
  rw [hf_sc_sc] at x1
  obtain ⟨E2, W2⟩ := zbuys_wf Wf hb hk
  exact ⟨_, x1, m_buys Sv (by omega) (by omega) hle, W, SV2, rfl, x2, W2, E.trans E2, hf_sd20_sv V' W2.b, M.trans (hf_mq.sd20 V' _)⟩
theorem hf_JJ.x2 (B : hf_BB h o f s s' XV V v a t) {v' : Nat → Nat} {g : hf_H} {V' : hf_V} (J : hf_JJ h o s' XV V v g V' v') : hf_XX g o f s ∧ hf_F g f v' ∧ hf_SS g s' v' ∧ hf_wf v' ∧ hf_sv V' v' ∧ hf_fe v v' ∧ hf_Rul g a V' t := by
  obtain ⟨W, SV, rfl, j2, Wf, E, Sv, M⟩ := J
  exact ⟨hf_JJ.xx B W SV, hf_JJ.ff B W SV E, hf_SS.sc _ s' j2, Wf, Sv, E, hf_JJ.rr B W SV M.tx⟩
theorem xm_buysAll (B : hf_BB h o f s s' XV V v a t) {v' : Nat → Nat} {g : hf_H} {V' : hf_V} (J : hf_JJ h o s' XV V v g V' v') {b : Nat} (hb : b < v' 2) : ∃ (S : Nat) (g2 : hf_H) (V2 : hf_V) (v2 : Nat → Nat), spX0_buysBy o s' (Int32.ofNat b) a g = some (Int32.ofNat S, g2) ∧ spX4_buysAll (Int32.ofNat t) (Int32.ofNat b) V' = some V2 ∧ hf_JJ h o s' XV V v g2 V2 v2 ∧ hf_fe v' v2 ∧ zbt v' v2 S ∧ V2.1 26 = V'.1 26 + Int32.ofNat (zpop S) ∧ v2 3 = v' 3 := by
  obtain ⟨X, F, S, Wf, Sv, E, R⟩ := J.x2 B
  have q1 := Wf.v1
  have q2 := Wf.v2
  obtain ⟨r, g1, V1, w1, w2, w3, w4, w5⟩ := xm_wanted B J hb
  unfold spX0_buysBy spX4_buysAll
  rw [X.ob, w1, hf_b2_some, w2, hf_b2_some]
  refine hf_whileR2 (fun n (z : Nat × Option Nat × hf_H × hf_V × (Nat → Nat)) => lpX0_buysBy_12 n o s' (Int32.ofNat b) a (Int32.ofNat z.1) (zhalf z.2.1) z.2.2.1) (fun n (z : Nat × Option Nat × hf_H × hf_V × (Nat → Nat)) => lpX4_buysAll_7 n (Int32.ofNat t) (Int32.ofNat b) (zhalf z.2.1) z.2.2.2.1) (fun z => zsum (fun k => if z.2.2.2.2 (10 + 5 * k + 3) < 100 then 1 else 0) 12) (fun z => hf_JJ h o s' XV V v z.2.2.1 z.2.2.2.1 z.2.2.2.2 ∧ hf_fe v' z.2.2.2.2 ∧ zbt v' z.2.2.2.2 z.1 ∧ z.2.2.2.1.1 26 = V'.1 26 + Int32.ofNat (zpop z.1) ∧ z.2.2.2.2 3 = v' 3 ∧ ∀ k, z.2.1 = some k → k < z.2.2.2.2 1 ∧ zcb z.2.2.2.2 b k) (fun r1 r2 => ∃ (S : Nat) (g2 : hf_H) (V2 : hf_V) (v2 : Nat → Nat), r1 = some (Int32.ofNat S, g2) ∧ r2 = some V2 ∧ hf_JJ h o s' XV V v g2 V2 v2 ∧ hf_fe v' v2 ∧ zbt v' v2 S ∧ V2.1 26 = V'.1 26 + Int32.ofNat (zpop S) ∧ v2 3 = v' 3) (fun n z hP => ?_) (0, r, g1, V1, v') ⟨w3, hf_fe.rfl_ v', zbt.same (fun _ _ => rfl) (fun _ => Nat.le_refl _), ?_, rfl, w5⟩ (fuel := hf_N) ?_
  · obtain ⟨S1, r1, g3, V3, v3⟩ := z
    obtain ⟨p1, p2, p3, p4, p5, p6⟩ := hP
    simp only at p1 p2 p3 p4 p5 p6
    obtain ⟨X3, F3, S3, Wf3, Sv3, E3, R3⟩ := p1.x2 B
    have e1 : v3 1 = v' 1 := p2.2.1
    have e2 : v3 2 = v' 2 := p2.2.2.1
    have nX : lpX0_buysBy_12 (n + 1) o s' (Int32.ofNat b) a (Int32.ofNat S1) (zhalf r1) g3 = ndX0_buysBy_12 (lpX0_buysBy_12 n) o s' (Int32.ofNat b) a (Int32.ofNat S1) (zhalf r1) g3 := rfl
    have nM : lpX4_buysAll_7 (n + 1) (Int32.ofNat t) (Int32.ofNat b) (zhalf r1) V3 = ndX4_buysAll_7 (lpX4_buysAll_7 n) (Int32.ofNat t) (Int32.ofNat b) (zhalf r1) V3 := rfl
    cases r1 with
    | none =>
      left
      refine ⟨S1, g3, V3, v3, ?_, ?_, p1, p2, p3, p4, p5⟩
      · show lpX0_buysBy_12 (n + 1) o s' (Int32.ofNat b) a (Int32.ofNat S1) (zhalf none) g3 = _
        rw [nX]
        unfold ndX0_buysBy_12
        rw [if_pos (show zhalf none = -1 from rfl)]
      · show lpX4_buysAll_7 (n + 1) (Int32.ofNat t) (Int32.ofNat b) (zhalf none) V3 = _
        rw [nM]
        unfold ndX4_buysAll_7
        rw [if_pos (by decide)]
    | some k =>
      right
      obtain ⟨hk, hc⟩ := p6 k rfl
      obtain ⟨g4, b1, b2, b3⟩ := xm_buys1 B p1 (b := b) (by omega) hk hc
      have b4 : hf_JJ h o s' XV V v g4 (hf_ui (hf_sd20 V3 (zbuys v3 b k)) 26 ((hf_sd20 V3 (zbuys v3 b k)).1 26 + 1)) (zbuys v3 b k) := by
        obtain ⟨W, SV, c1, c2, c3, c4, c5, c6⟩ := b3
        exact ⟨W, SV, c1, c2, c3, c4, c5.ui 26 _, c6.trans (hf_mq.ui26 _ _)⟩
      obtain ⟨E4, Wf4⟩ := zbuys_wf Wf3 (b := b) (k := k) (by omega) hk
      have e4 : zbuys v3 b k 2 = v3 2 := E4.2.2.1
      have e41 : zbuys v3 b k 1 = v3 1 := E4.2.1
      obtain ⟨X4, F4, S4, -⟩ := b4.x2 B
      obtain ⟨r5, g5, V5, c1, c2, c3, c4, c5⟩ := xm_wanted B b4 (b := b) (by omega)
      have q13 := Wf3.v1
      have hbit : S1.testBit k = false := by
        have h1 := (p3.2.1 k (by omega)).1
        have h2 : v3 (10 + 5 * k + 3) < 100 := by
          have := (z_st (v3 3) (Wf3.buyer (b := b) (by omega)).2.1).1
          have := Wf3.v0
          rw [hc.1]
          omega
        by_cases z : S1.testBit k = true
        · have := (h1.mp z).2; omega
        · exact Bool.eq_false_iff.mpr z
      refine ⟨(S1 ||| 1 <<< k, r5, g5, V5, zbuys v3 b k), ?_, ?_, ⟨c3, p2.trans E4, p3.trans e1 (zbt.buys Wf3 (by omega) hk hc), ?_, ?_, c5⟩, ?_⟩
      · show lpX0_buysBy_12 (n + 1) o s' (Int32.ofNat b) a (Int32.ofNat S1) (zhalf (some k)) g3 = lpX0_buysBy_12 n o s' (Int32.ofNat b) a (Int32.ofNat (S1 ||| 1 <<< k)) (zhalf r5) g5
        rw [nX]
        unfold ndX0_buysBy_12
        have hne : ¬ zhalf (some k) = -1 := fun z => by
          have h1 : ¬ Int32.ofNat k < 0 := z_n0 k (by omega)
          rw [show Int32.ofNat k = -1 from z] at h1
          exact h1 (by decide)
        rw [if_neg hne, X3.fa, Option.bind_some, S3.ob]
        simp only [show zhalf (some k) = Int32.ofNat k from rfl]
        rw [b1, Option.bind_some, hf_let_eq, X4.ob, z_sh1 (by omega), z_or, c1, hf_b2_some]
      · show lpX4_buysAll_7 (n + 1) (Int32.ofNat t) (Int32.ofNat b) (zhalf (some k)) V3 = lpX4_buysAll_7 n (Int32.ofNat t) (Int32.ofNat b) (zhalf r5) V5
        rw [nM]
        unfold ndX4_buysAll_7
        rw [if_neg (show ¬ zhalf (some k) < 0 from z_n0 k (by omega))]
        simp only [show zhalf (some k) = Int32.ofNat k from rfl]
        rw [b2, Option.bind_some, hf_let_eq, c2, hf_b2_some]
      · show V5.1 26 = V'.1 26 + Int32.ofNat (zpop (S1 ||| 1 <<< k))
        rw [c4, hf_ui_at, zpop_or (by omega) hbit]
        show V3.1 26 + 1 = _
        rw [p4, ← z_add, Int32.add_assoc]
        rfl
      · show zbuys v3 b k 3 = v' 3
        unfold zbuys
        rw [zup_ne _ (by omega), zup_ne _ (by omega)]
        exact p5
      · show zsum (fun j => if zbuys v3 b k (10 + 5 * j + 3) < 100 then 1 else 0) 12 < zsum (fun j => if v3 (10 + 5 * j + 3) < 100 then 1 else 0) 12
        have h2 : v3 (10 + 5 * k + 3) < 100 := by
          have := (z_st (v3 3) (Wf3.buyer (b := b) (by omega)).2.1).1
          have := Wf3.v0
          rw [hc.1]
          omega
        have h3 : zsum (fun j => if j < 12 then (if zbuys v3 b k (10 + 5 * j + 3) < 100 then 1 else 0) else 0) 12 = zsum (fun j => if zbuys v3 b k (10 + 5 * j + 3) < 100 then 1 else 0) 12 := zsum_congr 12 (fun j hj => if_pos hj)
        have h4 : zsum (fun j => if j < 12 then (if v3 (10 + 5 * j + 3) < 100 then 1 else 0) else 0) 12 = zsum (fun j => if v3 (10 + 5 * j + 3) < 100 then 1 else 0) 12 := zsum_congr 12 (fun j hj => if_pos hj)
        rw [← h3, ← h4]
        have := zsum_one (f := fun j => if j < 12 then (if v3 (10 + 5 * j + 3) < 100 then 1 else 0) else 0) (g := fun j => if j < 12 then (if zbuys v3 b k (10 + 5 * j + 3) < 100 then 1 else 0) else 0) (k := k) (by
          show (if k < 12 then (if v3 (10 + 5 * k + 3) < 100 then 1 else 0) else 0) = (if k < 12 then (if zbuys v3 b k (10 + 5 * k + 3) < 100 then 1 else 0) else 0) + 1
          rw [if_pos (show k < 12 by omega), if_pos h2, if_pos (show k < 12 by omega), zbuys_wh v3 b k k (by omega) (by omega), if_pos rfl, if_neg (by omega)]) (fun j hj => by
          show (if j < 12 then (if v3 (10 + 5 * j + 3) < 100 then 1 else 0) else 0) = (if j < 12 then (if zbuys v3 b k (10 + 5 * j + 3) < 100 then 1 else 0) else 0)
          by_cases hj2 : j < 12
          · rw [if_pos hj2, if_pos hj2, zbuys_wh v3 b k j (by omega) hj2, if_neg hj]
          · rw [if_neg hj2, if_neg hj2]) 12 (by omega)
        omega
  · show V1.1 26 = V'.1 26 + Int32.ofNat (zpop 0)
    rw [w4]
    have : Int32.ofNat (zpop 0) = 0 := by decide
    rw [this, Int32.add_zero]
  · have := zsum_le (fun k => if v' (10 + 5 * k + 3) < 100 then 1 else 0) 1 (fun i => by split <;> omega) 12
    show zsum (fun k => if v' (10 + 5 * k + 3) < 100 then 1 else 0) 12 < hf_N
    unfold hf_N
    omega
end ZX
