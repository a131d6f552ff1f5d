set_option maxRecDepth 100000
set_option maxHeartbeats 1000000
/-! the acts: HalfFair and the model answer alike -/
/-- both answer alike and stand well -/
def hf_OPr (P : Nat) (g : hf_H) (o : Nat) (X : Option (Int32 × hf_H)) (M : Option (Int32 × hf_V)) : Prop := ∃ r g' V', X = some (r, g') ∧ M = some (r, V') ∧ hf_INV P g' o V' ∧ hf_kf g g'
theorem hf_wp.mono {P Q : Nat} {v : Nat → Nat} (W : hf_wp P v) (h : P ≤ Q) : hf_wp Q v := ⟨W.1, fun b hb => Nat.le_trans (W.2 b hb) h⟩
theorem hf_INV.mono {P Q : Nat} {g : hf_H} {o : Nat} {V : hf_V} (I : hf_INV P g o V) (h : P ≤ Q) : hf_INV Q g o V := by
  obtain ⟨XV, f, st, kp, rl, rd, ps, ik, sk, v, i1, ⟨b1, b2, b3, b4⟩, i3, i4, i5, ⟨u, pa, u1, u2, u3, u4, u5, u6⟩, i7, i8, i9⟩ := I
  refine ⟨XV, f, st, kp, rl, rd, ps, ik, sk, v, i1, ⟨b1, b2, b3.mono h, b4⟩, i3, i4, i5, ⟨u, pa, u1, u2, u3, u4, u5, fun j hj => ?_⟩, fun k hk => ?_, i8, i9⟩
  · obtain ⟨w, w1, w2⟩ := u6 j hj
    exact ⟨w, w1.mono h, w2⟩
  · rcases i7 k hk with q | ⟨q1, q2, ⟨IV, fk, w, d, r1, r2, r3, r4, r5, r6, r7, r8⟩, q4⟩
    · exact Or.inl q
    · exact Or.inr ⟨q1, q2, ⟨IV, fk, w, d, r1, r2, r3, r4, r5, r6, r7.mono h, r8⟩, q4⟩
theorem hf_OPr.mono {P Q : Nat} {g : hf_H} {o : Nat} {X : Option (Int32 × hf_H)} {M : Option (Int32 × hf_V)} (H : hf_OPr P g o X M) (h : P ≤ Q) : hf_OPr Q g o X M := by
  obtain ⟨r, g', V', h1, h2, h3, h4⟩ := H
  exact ⟨r, g', V', h1, h2, h3.mono h, h4⟩
theorem x_inl (x : Int32) {n : Nat} (hn : n < 1000000) : spX0_in x.toInt64 0 (Int32.ofNat n).toInt64 = some (if zin x (n + 1) then Int32.ofNat 1 else Int32.ofNat 0) := by
  have h := x_inn x (n := n + 1) (by omega)
  have e : Int32.ofNat (n + 1) - 1 = Int32.ofNat n := z_sub (b := 1) (by omega)
  rw [e] at h
  exact h
theorem m_inl (x : Int32) {n : Nat} (hn : n < 1000000) : spX4_in x.toInt64 0 (Int32.ofNat n).toInt64 = some (if zin x (n + 1) then Int32.ofNat 1 else Int32.ofNat 0) := x_inl x hn
theorem x_in11 (x : Int32) : spX0_in x.toInt64 (-1 : Int64) (1 : Int64) = some (if -1 ≤ x ∧ x ≤ 1 then Int32.ofNat 1 else Int32.ofNat 0) := z_in3 x (-1) 1
theorem m_in11 (x : Int32) : spX4_in x.toInt64 (-1 : Int64) (1 : Int64) = some (if -1 ≤ x ∧ x ≤ 1 then Int32.ofNat 1 else Int32.ofNat 0) := z_in3 x (-1) 1
theorem z_in11 {x : Int32} (h : -1 ≤ x ∧ x ≤ 1) : ∃ w, w < 3 ∧ x = zway w := by
  have h1 := Int32.le_iff_toInt_le.mp h.1
  have h2 := Int32.le_iff_toInt_le.mp h.2
  have e1 : Int32.toInt (-1) = -1 := by decide
  have e2 : Int32.toInt 1 = 1 := by decide
  rw [e1] at h1
  rw [e2] at h2
  rcases (show x.toInt = -1 ∨ x.toInt = 0 ∨ x.toInt = 1 by omega) with e | e | e
  · exact ⟨0, by decide, Int32.toInt_inj.mp (by rw [e]; decide)⟩
  · exact ⟨1, by decide, Int32.toInt_inj.mp (by rw [e]; decide)⟩
  · exact ⟨2, by decide, Int32.toInt_inj.mp (by rw [e]; decide)⟩
section ZM
variable {V : hf_V} {v : Nat → Nat}
theorem hf_sv.l0 (S : hf_sv V v) : hf_ld 123 (V.2.2.2.1 20) (0 : Int32) = some (Int32.ofNat (v 0)) := S.ld (i := 0) (by decide)
theorem hf_sv.l1 (S : hf_sv V v) : hf_ld 123 (V.2.2.2.1 20) (1 : Int32) = some (Int32.ofNat (v 1)) := S.ld (i := 1) (by decide)
theorem hf_sv.l2 (S : hf_sv V v) : hf_ld 123 (V.2.2.2.1 20) (2 : Int32) = some (Int32.ofNat (v 2)) := S.ld (i := 2) (by decide)
theorem hf_sv.l3 (S : hf_sv V v) : hf_ld 123 (V.2.2.2.1 20) (3 : Int32) = some (Int32.ofNat (v 3)) := S.ld (i := 3) (by decide)
theorem hf_sv.l4 (S : hf_sv V v) : hf_ld 123 (V.2.2.2.1 20) (4 : Int32) = some (Int32.ofNat (v 4)) := S.ld (i := 4) (by decide)
theorem hf_sv.l5 (S : hf_sv V v) : hf_ld 123 (V.2.2.2.1 20) (5 : Int32) = some (Int32.ofNat (v 5)) := S.ld (i := 5) (by decide)
theorem hf_sv.l6 (S : hf_sv V v) : hf_ld 123 (V.2.2.2.1 20) (6 : Int32) = some (Int32.ofNat (v 6)) := S.ld (i := 6) (by decide)
theorem hf_sv.l7 (S : hf_sv V v) : hf_ld 123 (V.2.2.2.1 20) (7 : Int32) = some (Int32.ofNat (v 7)) := S.ld (i := 7) (by decide)
theorem hf_sv.l8 (S : hf_sv V v) : hf_ld 123 (V.2.2.2.1 20) (8 : Int32) = some (Int32.ofNat (v 8)) := S.ld (i := 8) (by decide)
theorem hf_sv.l122 (S : hf_sv V v) : hf_ld 123 (V.2.2.2.1 20) (122 : Int32) = some (Int32.ofNat (v 122)) := S.ld (i := 122) (by decide)
theorem m_buyer0 (S : hf_sv V v) {b : Nat} (hb : b < 4) : spX4_buyerOf (Int32.ofNat b) (0 : Int32) V = some (Int32.ofNat (v (70 + 4 * b + 0)), V) := m_buyerOf S (w := 0) (by omega)
theorem m_buyer1 (S : hf_sv V v) {b : Nat} (hb : b < 4) : spX4_buyerOf (Int32.ofNat b) (1 : Int32) V = some (Int32.ofNat (v (70 + 4 * b + 1)), V) := m_buyerOf S (w := 1) (by omega)
theorem m_buyer2 (S : hf_sv V v) {b : Nat} (hb : b < 4) : spX4_buyerOf (Int32.ofNat b) (2 : Int32) V = some (Int32.ofNat (v (70 + 4 * b + 2)), V) := m_buyerOf S (w := 2) (by omega)
theorem m_buyer3 (S : hf_sv V v) {b : Nat} (hb : b < 4) : spX4_buyerOf (Int32.ofNat b) (3 : Int32) V = some (Int32.ofNat (v (70 + 4 * b + 3)), V) := m_buyerOf S (w := 3) (by omega)
theorem m_half0 (S : hf_sv V v) {h : Nat} (hh : h < 12) : spX4_halfOf (Int32.ofNat h) (0 : Int32) V = some (Int32.ofNat (v (10 + 5 * h + 0)), V) := m_halfOf S (w := 0) (by omega)
theorem m_half1 (S : hf_sv V v) {h : Nat} (hh : h < 12) : spX4_halfOf (Int32.ofNat h) (1 : Int32) V = some (Int32.ofNat (v (10 + 5 * h + 1)), V) := m_halfOf S (w := 1) (by omega)
theorem m_half2 (S : hf_sv V v) {h : Nat} (hh : h < 12) : spX4_halfOf (Int32.ofNat h) (2 : Int32) V = some (Int32.ofNat (v (10 + 5 * h + 2)), V) := m_halfOf S (w := 2) (by omega)
theorem m_half3 (S : hf_sv V v) {h : Nat} (hh : h < 12) : spX4_halfOf (Int32.ofNat h) (3 : Int32) V = some (Int32.ofNat (v (10 + 5 * h + 3)), V) := m_halfOf S (w := 3) (by omega)
theorem m_half4 (S : hf_sv V v) {h : Nat} (hh : h < 12) : spX4_halfOf (Int32.ofNat h) (4 : Int32) V = some (Int32.ofNat (v (10 + 5 * h + 4)), V) := m_halfOf S (w := 4) (by omega)
end ZM
theorem m_isBuyerZ {V : hf_V} {v : Nat → Nat} (S : hf_sv V v) (x : Int32) : spX4_isBuyer x V = some (if zin x (v 2) then Int32.ofNat 1 else Int32.ofNat 0, V) := by
  by_cases h : zin x (v 2)
  · rw [if_pos h]
    have b := S.b 2
    obtain ⟨k, hk, rfl⟩ := zin_ex h (by omega)
    exact m_isBuyer S hk
  · rw [if_neg h]
    exact m_isBuyerN S (zin_no h)
theorem m_isHalfZ {V : hf_V} {v : Nat → Nat} (S : hf_sv V v) (x : Int32) : spX4_isHalf x V = some (if zin x (v 1) then Int32.ofNat 1 else Int32.ofNat 0, V) := by
  by_cases h : zin x (v 1)
  · rw [if_pos h]
    have b := S.b 1
    obtain ⟨k, hk, rfl⟩ := zin_ex h (by omega)
    exact m_isHalf S hk
  · rw [if_neg h]
    exact m_isHalfN S (zin_no h)
theorem zT (a b : Int32) (p : Prop) [Decidable p] (h : p) {α : Type} (A B : α) : (if (if p then Int32.ofNat 1 else Int32.ofNat 0) = 0 then A else B) = B := by
  rw [if_pos h, if_neg (by decide)]
theorem z1T {p : Prop} [Decidable p] (h : p) {α : Type} (A B : α) : (if (if p then Int32.ofNat 1 else Int32.ofNat 0) = 0 then A else B) = B := by
  rw [if_pos h, if_neg (by decide)]
theorem z1F {p : Prop} [Decidable p] (h : ¬ p) {α : Type} (A B : α) : (if (if p then Int32.ofNat 1 else Int32.ofNat 0) = 0 then A else B) = A := by
  rw [if_neg h, if_pos (by decide)]
section ZI
variable {P : Nat} {g : hf_H} {o f st kp rl rd : Nat} {V XV : hf_V} {ps ik sk : Nat → Nat} {v : Nat → Nat}
theorem hf_I.same (I : hf_I P g o V XV f st kp rl rd ps ik sk v) (r : Int32) : hf_OPr P g o (some (r, g)) (some (r, V)) := ⟨r, g, V, rfl, rfl, I.inv, hf_kf.rfl_ g⟩
theorem hf_I.dk (I : hf_I P g o V XV f st kp rl rd ps ik sk v) (SV : hf_V) : hf_kq g (hf_sc g st SV) := by
  obtain ⟨SV0, s1, s2⟩ := I.S
  exact hf_kq.up s1 (Or.inr (Or.inl rfl)) _
theorem zhi {v w : Nat → Nat} {i x : Nat} (h : w = zup v i x) (hi : i < 86) : ∀ k, 86 ≤ k → w k = v k := fun k hk => by rw [h, zup_ne _ (by omega)]
theorem hf_I.goes (I : hf_I P g o V XV f st kp rl rd ps ik sk v) {b w : Nat} (hb : b < v 2) (hw : w < 3) : ∃ g', spX2_goes st f (Int32.ofNat b) (zway w) g = some g' ∧ spX4_goes (Int32.ofNat b) (zway w) V = some (hf_sd20 V (zgo v b w)) ∧ hf_I P g' o (hf_sd20 V (zgo v b w)) XV f st kp rl rd ps ik sk (zgo v b w) ∧ hf_kq g g' ∧ g'.2 = g.2 := by
  have q2 := I.W.v2
  obtain ⟨SV, x1, x2⟩ := x_goes I.F I.S I.W hb hw
  obtain ⟨E, W⟩ := zgo_wf I.W (w := w) hb
  refine ⟨_, x1, m_goes I.sv (by omega) (I.W.b0 hb) (by omega), I.sc (hf_mq.sd20 V _).mz x2 ⟨W, fun c hc => ?_⟩ E (hf_sd20_sv V W.b) (zhi rfl (by omega)), I.dk SV, rfl⟩
  rw [zgo_ot v b w _ (by omega)]
  exact I.Wp.2 c (by have := E.2.2.1; omega)
theorem hf_I.passes (I : hf_I P g o V XV f st kp rl rd ps ik sk v) (h3 : v 3 < 99) : ∃ g', spX2_passes st f g = some g' ∧ spX4_hourComes V = some (hf_sd20 V (zhour v)) ∧ hf_I P g' o (hf_sd20 V (zhour v)) XV f st kp rl rd ps ik sk (zhour v) ∧ hf_kq g g' ∧ g'.2 = g.2 := by
  have q2 := I.W.v2
  have q4 := I.W.v4
  obtain ⟨SV, x1, x2⟩ := x_passes I.F I.S I.W h3
  obtain ⟨E, W⟩ := zhour_wf I.W h3
  refine ⟨_, x1, m_hourComes I.sv I.W.v1 q2 I.W.v0 (by omega) (by omega) (fun b hb => (I.W.buyer hb).2.1), I.sc (hf_mq.sd20 V _).mz x2 ⟨W, fun c hc => ?_⟩ E (hf_sd20_sv V W.b) (fun k hk => ?_), I.dk SV, rfl⟩
  · rw [zhour_pu]
    exact I.Wp.2 c (by have := E.2.2.1; omega)
  · unfold zhour
    rw [zsee_ot _ _ _ (fun b hb => by omega), zup_ne _ (by omega)]
theorem hf_I.buys (I : hf_I P g o V XV f st kp rl rd ps ik sk v) {b k : Nat} (hb : b < v 2) (hk : k < v 1) (hc : zcb v b k) : ∃ g', spX2_buys st f (Int32.ofNat b) (Int32.ofNat k) g = some g' ∧ spX4_buys (Int32.ofNat b) (Int32.ofNat k) V = some (hf_sd20 V (zbuys v b k)) ∧ hf_I P g' o (hf_sd20 V (zbuys v b k)) XV f st kp rl rd ps ik sk (zbuys v b k) ∧ hf_kq g g' ∧ g'.2 = g.2 := by
  have q1 := I.W.v1
  have q2 := I.W.v2
  have hle : zpr v k ≤ v (70 + 4 * b) := hc.2
  obtain ⟨SV, x1, x2⟩ := x_buys I.F I.S I.W hb hk hle
  obtain ⟨E, W⟩ := zbuys_wf I.W hb hk
  have hbt := (zbt.buys I.W hb hk hc).2.2.1
  refine ⟨_, x1, m_buys I.sv (by omega) (by omega) hle, I.sc (hf_mq.sd20 V _).mz x2 ⟨W, fun c hc => ?_⟩ E (hf_sd20_sv V W.b) (fun j hj => ?_), I.dk SV, rfl⟩
  · exact Nat.le_trans (hbt c) (I.Wp.2 c (by have := E.2.2.1; omega))
  · unfold zbuys
    rw [zup_ne _ (by omega), zup_ne _ (by omega)]
theorem hf_I.setw (I : hf_I P g o V XV f st kp rl rd ps ik sk v) {k x : Nat} (hk : k < v 1) (hx : x < 104) (hx2 : x < v 0 ∨ 100 ≤ x) : ∃ g', hf_si 2 0 12 g st (Int32.ofNat k) (Int32.ofNat x) = some g' ∧ hf_I P g' o (hf_sd20 V (zup v (10 + 5 * k + 3) x)) XV f st kp rl rd ps ik sk (zup v (10 + 5 * k + 3) x) ∧ hf_kq g g' ∧ g'.2 = g.2 := by
  have q1 := I.W.v1
  obtain ⟨SV, s1, s2⟩ := I.S
  have E := hf_fe.where_ I.W (k := k) (by omega) x
  have W := I.W.where_ (k := k) (x := x) (by omega) hx hx2
  refine ⟨_, hf_si_eq s1 0 (by omega) (by omega) _, I.sc (hf_mq.sd20 V _).mz (s2.where_ I.W (by omega) x) ⟨W, fun c hc => ?_⟩ E (hf_sd20_sv V W.b) (zhi rfl (by omega)), I.dk _, rfl⟩
  rw [E.2.2.1] at hc
  have q2 := I.W.v2
  rw [zup_ne _ (by omega)]
  exact I.Wp.2 c hc
theorem hf_I.setp (I : hf_I P g o V XV f st kp rl rd ps ik sk v) {b x Q : Nat} (hb : b < v 2) (hx : x < 1000000) (hQ : P ≤ Q) (hxQ : x ≤ Q) : ∃ g', hf_si 2 1 4 g st (Int32.ofNat b) (Int32.ofNat x) = some g' ∧ hf_I Q g' o (hf_sd20 V (zup v (70 + 4 * b) x)) XV f st kp rl rd ps ik sk (zup v (70 + 4 * b) x) ∧ hf_kq g g' ∧ g'.2 = g.2 := by
  have q2 := I.W.v2
  obtain ⟨SV, s1, s2⟩ := I.S
  have E := hf_fe.purse I.W (b := b) (by omega) x
  have W := I.W.purse (b := b) (x := x) (by omega) hx
  have IQ : hf_I Q g o V XV f st kp rl rd ps ik sk v := by
    obtain ⟨i1, ⟨b1, b2, b3, b4⟩, i3, i4, i5, ⟨u, pa, u1, u2, u3, u4, u5, u6⟩, i7, i8, i9⟩ := I
    refine ⟨i1, ⟨b1, b2, b3.mono hQ, b4⟩, i3, i4, i5, ⟨u, pa, u1, u2, u3, u4, u5, fun j hj => ?_⟩, fun k hk => ?_, i8, i9⟩
    · obtain ⟨w, w1, w2⟩ := u6 j hj
      exact ⟨w, w1.mono hQ, w2⟩
    · rcases i7 k hk with q | ⟨q1, q2, ⟨IV, fk, w, d, r1, r2, r3, r4, r5, r6, r7, r8⟩, q4⟩
      · exact Or.inl q
      · exact Or.inr ⟨q1, q2, ⟨IV, fk, w, d, r1, r2, r3, r4, r5, r6, r7.mono hQ, r8⟩, q4⟩
  refine ⟨_, hf_si_eq s1 1 (by omega) (by omega) _, IQ.sc (hf_mq.sd20 V _).mz (s2.purse I.W (by omega) x) ⟨W, fun c hc => ?_⟩ E (hf_sd20_sv V W.b) (zhi rfl (by omega)), I.dk _, rfl⟩
  rw [E.2.2.1] at hc
  by_cases e : c = b
  · subst e; rw [zup_at]; exact hxQ
  · rw [zup_ne _ (by omega)]
    exact Nat.le_trans (I.Wp.2 c hc) hQ
theorem hf_I.sets (I : hf_I P g o V XV f st kp rl rd ps ik sk v) {b x : Nat} (hb : b < v 2) (hx : x < 4096) : ∃ g', hf_si 2 3 4 g st (Int32.ofNat b) (Int32.ofNat x) = some g' ∧ hf_I P g' o (hf_sd20 V (zup v (70 + 4 * b + 2) x)) XV f st kp rl rd ps ik sk (zup v (70 + 4 * b + 2) x) ∧ hf_kq g g' ∧ g'.2 = g.2 := by
  have q2 := I.W.v2
  obtain ⟨SV, s1, s2⟩ := I.S
  have E := hf_fe.saw I.W (b := b) (by omega) x
  have W := I.W.saw (b := b) (x := x) (by omega) hx
  refine ⟨_, hf_si_eq s1 3 (by omega) (by omega) _, I.sc (hf_mq.sd20 V _).mz (s2.saw I.W (by omega) x) ⟨W, fun c hc => ?_⟩ E (hf_sd20_sv V W.b) (zhi rfl (by omega)), I.dk _, rfl⟩
  rw [E.2.2.1] at hc
  rw [zup_ne _ (by omega)]
  exact I.Wp.2 c hc
theorem op_go (J : hf_INV P g o V) (a b : Int32) : hf_OPr P g o (spX0_go o a b g) (spX4_go a b V) := by
  obtain ⟨XV, f, st, kp, rl, rd, ps, ik, sk, v, I⟩ := J
  have q2 := I.W.v2
  have q3 := I.W.v3
  unfold spX0_go spX4_go
  rw [I.X.ob, x_isBuyer I.X I.F I.W, hf_b2_some, m_isBuyerZ I.sv, hf_b2_some]
  by_cases hz : zin a (v 2)
  case neg => rw [z1F hz, z1F hz]; exact I.same _
  rw [z1T hz, z1T hz, x_in11, Option.bind_some, m_in11, Option.bind_some]
  by_cases hw : -1 ≤ b ∧ b ≤ 1
  case neg => rw [z1F hw, z1F hw]; exact I.same _
  rw [z1T hw, z1T hw]
  obtain ⟨b', hb', rfl⟩ := zin_ex hz (by omega)
  obtain ⟨w, hw', rfl⟩ := z_in11 hw
  rw [I.X.st, Option.bind_some, I.S.now, Option.bind_some, I.sv.l3, Option.bind_some]
  by_cases h9 : v 3 = 99
  · rw [h9, if_pos (show Int32.ofNat 99 = 99 from rfl), if_pos (show Int32.ofNat 99 = 99 from rfl)]; exact I.same _
  have h9' : ¬ Int32.ofNat (v 3) = 99 := fun z => h9 ((z_eq (b := 99) (by omega) (by decide)).mp z)
  rw [if_neg h9', if_neg h9']
  obtain ⟨g1, V1, XV1, k1, k2, I1, K1, c1⟩ := I.keeps
  obtain ⟨g2, l1, l2, I2, K2, c2⟩ := I1.goes hb' hw'
  obtain ⟨g3, m1, m2, I3, K3, c3⟩ := I2.passes (by rw [zgo_ot _ _ _ _ (by omega)]; omega)
  rw [I.X.ob, k1, Option.bind_some, I1.X.st, Option.bind_some, I1.X.fa, Option.bind_some, I1.S.ob, l1, Option.bind_some, I2.X.st, Option.bind_some, I2.X.fa, Option.bind_some, I2.S.ob, m1, Option.bind_some, I3.X.st, Option.bind_some, I3.S.now, Option.bind_some, k2, Option.bind_some, l2, Option.bind_some, m2, Option.bind_some, I3.sv.l3, Option.bind_some]
  exact ⟨_, _, _, rfl, rfl, I3.inv, ((K1.trans K2).trans K3).kf (by rw [c3, c2, c1])⟩
theorem op_buy (J : hf_INV P g o V) (a b : Int32) : hf_OPr P g o (spX0_buy o a b g) (spX4_buy a b V) := by
  obtain ⟨XV, f, st, kp, rl, rd, ps, ik, sk, v, I⟩ := J
  have q2 := I.W.v2
  have q1 := I.W.v1
  have q3 := I.W.v3
  have q4 := I.W.v4
  unfold spX0_buy spX4_buy
  rw [I.X.ob, x_isBuyer I.X I.F I.W, hf_b2_some, m_isBuyerZ I.sv, hf_b2_some]
  by_cases hz : zin a (v 2)
  case neg => rw [z1F hz, z1F hz]; exact I.same _
  rw [z1T hz, z1T hz, I.X.ob, x_isHalf I.X I.F I.W, hf_b2_some, m_isHalfZ I.sv, hf_b2_some]
  by_cases hw : zin b (v 1)
  case neg => rw [z1F hw, z1F hw]; exact I.same _
  rw [z1T hw, z1T hw]
  obtain ⟨b', hb', rfl⟩ := zin_ex hz (by omega)
  obtain ⟨k, hk, rfl⟩ := zin_ex hw (by omega)
  have qb := I.W.buyer hb'
  rw [I.X.st, Option.bind_some, I.X.fa, Option.bind_some, I.S.ob, x_canBuy I.F I.S I.W hb' hk, hf_b2_some, m_canBuy I.sv (by omega) (by omega) qb.2.1 I.W.v0 (by omega) (by omega), hf_b2_some]
  by_cases hc : zcb v b' k
  case neg =>
    have hc' : ¬ (v (10 + 5 * k + 3) = zst v (v (70 + 4 * b' + 1)) (v 3) ∧ zpr v k ≤ v (70 + 4 * b' + 0)) := hc
    rw [if_neg hc', if_pos (by decide), if_pos (by decide)]; exact I.same _
  have hc' : v (10 + 5 * k + 3) = zst v (v (70 + 4 * b' + 1)) (v 3) ∧ zpr v k ≤ v (70 + 4 * b' + 0) := hc
  rw [if_pos hc', if_neg (by decide), if_neg (by decide)]
  obtain ⟨g1, V1, XV1, k1, k2, I1, K1, c1⟩ := I.keeps
  obtain ⟨g2, l1, l2, I2, K2, c2⟩ := I1.buys hb' hk hc
  have e2 : zbuys v b' k 2 = v 2 := (zbuys_wf I.W hb' hk).1.2.2.1
  rw [I.X.ob, k1, Option.bind_some, I1.X.st, Option.bind_some, I1.X.fa, Option.bind_some, I1.S.ob, l1, Option.bind_some, I2.X.st, Option.bind_some, I2.S.ob, I2.S.purse (by omega) (by omega), Option.bind_some, k2, Option.bind_some, l2, Option.bind_some, m_buyer0 I2.sv (by omega), hf_b2_some]
  exact ⟨_, _, _, rfl, rfl, I2.inv, (K1.trans K2).kf (by rw [c2, c1])⟩
end ZI
set_option maxRecDepth 100000
set_option maxHeartbeats 1000000
/-! shout, swap, giveUp -/
/-- the half b is with the buyer a -/
def zthr (v : Nat → Nat) (a b : Int32) : Prop := ∃ i k, i < v 2 ∧ k < v 1 ∧ a = Int32.ofNat i ∧ b = Int32.ofNat k ∧ v (10 + 5 * k + 3) = 100 + i
theorem z_100 (i : Nat) : (100 : Int32) + Int32.ofNat i = Int32.ofNat (100 + i) := z_add 100 i
section ZI
variable {P : Nat} {g : hf_H} {o f st kp rl rd : Nat} {V XV : hf_V} {ps ik sk : Nat → Nat} {v : Nat → Nat}
theorem x_theirsT (I : hf_I P g o V XV f st kp rl rd ps ik sk v) {i k : Nat} (hi : i < v 2) (hk : k < v 1) (h : v (10 + 5 * k + 3) = 100 + i) : spX0_isTheirs o (Int32.ofNat i) (Int32.ofNat k) g = some ((1 : Int32), g) := by
  have q1 := I.W.v1
  have q2 := I.W.v2
  unfold spX0_isTheirs
  rw [I.X.ob, x_isBuyer I.X I.F I.W, hf_b2_some, z1T (zin_of hi (by omega)), I.X.ob, x_isHalf I.X I.F I.W, hf_b2_some, z1T (zin_of hk (by omega)), I.X.st, Option.bind_some, I.S.ob, I.S.where_ hk q1, Option.bind_some, h, z_100, if_pos rfl]
theorem x_theirsF (I : hf_I P g o V XV f st kp rl rd ps ik sk v) {a b : Int32} (h : ¬ zthr v a b) : spX0_isTheirs o a b g = some ((0 : Int32), g) := by
  have q1 := I.W.v1
  have q2 := I.W.v2
  unfold spX0_isTheirs
  rw [I.X.ob, x_isBuyer I.X I.F I.W, hf_b2_some]
  by_cases hz : zin a (v 2)
  case neg => rw [z1F hz]
  obtain ⟨i, hi, rfl⟩ := zin_ex hz (by omega)
  rw [z1T hz, I.X.ob, x_isHalf I.X I.F I.W, hf_b2_some]
  by_cases hw : zin b (v 1)
  case neg => rw [z1F hw]
  obtain ⟨k, hk, rfl⟩ := zin_ex hw (by omega)
  have qk := I.W.b (10 + 5 * k + 3)
  rw [z1T hw, I.X.st, Option.bind_some, I.S.ob, I.S.where_ hk q1, Option.bind_some, z_100, if_neg (fun z => h ⟨i, k, hi, hk, rfl, rfl, (z_eq (by omega) (by omega)).mp z⟩)]
theorem xm_are (I : hf_I P g o V XV f st kp rl rd ps ik sk v) (a b c d : Int32) : (∃ i k j l, i ≠ j ∧ i < v 2 ∧ k < v 1 ∧ v (10 + 5 * k + 3) = 100 + i ∧ j < v 2 ∧ l < v 1 ∧ v (10 + 5 * l + 3) = 100 + j ∧ a = Int32.ofNat i ∧ b = Int32.ofNat k ∧ c = Int32.ofNat j ∧ d = Int32.ofNat l ∧ spX0_areTheirs o a b c d g = some ((1 : Int32), g) ∧ spX4_areTheirs a b c d V = some ((1 : Int32), V)) ∨ (spX0_areTheirs o a b c d g = some ((0 : Int32), g) ∧ spX4_areTheirs a b c d V = some ((0 : Int32), V)) := by
  have q1 := I.W.v1
  have q2 := I.W.v2
  have hM : spX4_areTheirs a b c d V = some ((1 : Int32), V) ∨ spX4_areTheirs a b c d V = some ((0 : Int32), V) := by
    unfold spX4_areTheirs
    rw [m_isBuyerZ I.sv, hf_b2_some]
    by_cases h1 : zin a (v 2)
    case neg => rw [z1F h1]; exact Or.inr rfl
    obtain ⟨i, hi, rfl⟩ := zin_ex h1 (by omega)
    rw [z1T h1, m_isBuyerZ I.sv, hf_b2_some]
    by_cases h2 : zin c (v 2)
    case neg => rw [z1F h2]; exact Or.inr rfl
    obtain ⟨j, hj, rfl⟩ := zin_ex h2 (by omega)
    rw [z1T h2]
    by_cases h3 : Int32.ofNat i = Int32.ofNat j
    case pos => rw [if_pos h3]; exact Or.inr rfl
    rw [if_neg h3, m_isHalfZ I.sv, hf_b2_some]
    by_cases h4 : zin b (v 1)
    case neg => rw [z1F h4]; exact Or.inr rfl
    obtain ⟨k, hk, rfl⟩ := zin_ex h4 (by omega)
    rw [z1T h4, m_isHalfZ I.sv, hf_b2_some]
    by_cases h5 : zin d (v 1)
    case neg => rw [z1F h5]; exact Or.inr rfl
    obtain ⟨l, hl, rfl⟩ := zin_ex h5 (by omega)
    rw [z1T h5, m_half3 I.sv (by omega), hf_b2_some]
    by_cases h6 : Int32.ofNat (v (10 + 5 * k + 3)) = 100 + Int32.ofNat i
    case neg => rw [if_neg h6]; exact Or.inr rfl
    rw [if_pos h6, m_half3 I.sv (by omega), hf_b2_some]
    by_cases h7 : Int32.ofNat (v (10 + 5 * l + 3)) = 100 + Int32.ofNat j
    case neg => rw [if_neg h7]; exact Or.inr rfl
    rw [if_pos h7]
    exact Or.inl rfl
  have hM2 : ∀ i k j l, i ≠ j → i < v 2 → k < v 1 → v (10 + 5 * k + 3) = 100 + i → j < v 2 → l < v 1 → v (10 + 5 * l + 3) = 100 + j → spX4_areTheirs (Int32.ofNat i) (Int32.ofNat k) (Int32.ofNat j) (Int32.ofNat l) V = some ((1 : Int32), V) := by
    intro i k j l n1 hi hk e1 hj hl e2
    unfold spX4_areTheirs
    rw [m_isBuyerZ I.sv, hf_b2_some, z1T (zin_of hi (by omega)), m_isBuyerZ I.sv, hf_b2_some, z1T (zin_of hj (by omega)), if_neg (fun z => n1 ((z_eq (by omega) (by omega)).mp z)), m_isHalfZ I.sv, hf_b2_some, z1T (zin_of hk (by omega)), m_isHalfZ I.sv, hf_b2_some, z1T (zin_of hl (by omega)), m_half3 I.sv (by omega), hf_b2_some, e1, z_100, if_pos rfl, m_half3 I.sv (by omega), hf_b2_some, e2, z_100, if_pos rfl]
  have hM3 : spX4_areTheirs a b c d V = some ((1 : Int32), V) → a ≠ c ∧ zthr v a b ∧ zthr v c d := by
    intro H
    unfold spX4_areTheirs at H
    rw [m_isBuyerZ I.sv, hf_b2_some] at H
    by_cases h1 : zin a (v 2)
    case neg => rw [z1F h1] at H; cases H
    obtain ⟨i, hi, rfl⟩ := zin_ex h1 (by omega)
    rw [z1T h1, m_isBuyerZ I.sv, hf_b2_some] at H
    by_cases h2 : zin c (v 2)
    case neg => rw [z1F h2] at H; cases H
    obtain ⟨j, hj, rfl⟩ := zin_ex h2 (by omega)
    rw [z1T h2] at H
    by_cases h3 : Int32.ofNat i = Int32.ofNat j
    case pos => rw [if_pos h3] at H; cases H
    rw [if_neg h3, m_isHalfZ I.sv, hf_b2_some] at H
    by_cases h4 : zin b (v 1)
    case neg => rw [z1F h4] at H; cases H
    obtain ⟨k, hk, rfl⟩ := zin_ex h4 (by omega)
    rw [z1T h4, m_isHalfZ I.sv, hf_b2_some] at H
    by_cases h5 : zin d (v 1)
    case neg => rw [z1F h5] at H; cases H
    obtain ⟨l, hl, rfl⟩ := zin_ex h5 (by omega)
    rw [z1T h5, m_half3 I.sv (by omega), hf_b2_some, z_100, z_100] at H
    have qk := I.W.b (10 + 5 * k + 3)
    have ql := I.W.b (10 + 5 * l + 3)
    by_cases h6 : Int32.ofNat (v (10 + 5 * k + 3)) = Int32.ofNat (100 + i)
    case neg => rw [if_neg h6] at H; cases H
    rw [if_pos h6, m_half3 I.sv (by omega), hf_b2_some] at H
    by_cases h7 : Int32.ofNat (v (10 + 5 * l + 3)) = Int32.ofNat (100 + j)
    case neg => rw [if_neg h7] at H; cases H
    exact ⟨h3, ⟨i, k, hi, hk, rfl, rfl, (z_eq (by omega) (by omega)).mp h6⟩, ⟨j, l, hj, hl, rfl, rfl, (z_eq (by omega) (by omega)).mp h7⟩⟩
  unfold spX0_areTheirs
  by_cases h1 : a = c
  case pos =>
    right
    refine ⟨by rw [if_pos h1], ?_⟩
    rcases hM with h | h
    · exact absurd h1 (hM3 h).1
    · exact h
  rw [if_neg h1]
  by_cases h2 : zthr v a b
  case neg =>
    right
    refine ⟨by rw [I.X.ob, x_theirsF I h2, hf_b2_some, if_pos rfl], ?_⟩
    rcases hM with h | h
    · exact absurd (hM3 h).2.1 h2
    · exact h
  obtain ⟨i, k, hi, hk, rfl, rfl, e1⟩ := h2
  by_cases h3 : zthr v c d
  case neg =>
    right
    refine ⟨by rw [I.X.ob, x_theirsT I hi hk e1, hf_b2_some, if_neg (by decide), I.X.ob, x_theirsF I h3, hf_b2_some, if_pos rfl], ?_⟩
    rcases hM with h | h
    · exact absurd (hM3 h).2.2 h3
    · exact h
  obtain ⟨j, l, hj, hl, rfl, rfl, e2⟩ := h3
  left
  have n1 : i ≠ j := fun z => h1 (by rw [z])
  exact ⟨i, k, j, l, n1, hi, hk, e1, hj, hl, e2, rfl, rfl, rfl, rfl, by rw [I.X.ob, x_theirsT I hi hk e1, hf_b2_some, if_neg (by decide), I.X.ob, x_theirsT I hj hl e2, hf_b2_some, if_neg (by decide)], hM2 i k j l n1 hi hk e1 hj hl e2⟩
theorem zwpos (k : Nat) : (10 : Int32) + (5 : Int32) * Int32.ofNat k + (3 : Int32) = Int32.ofNat (10 + 5 * k + 3) := by rw [z_lit, z_lit, z_lit, z_mul, z_add, z_add]
theorem zppos (b : Nat) : (70 : Int32) + (4 : Int32) * Int32.ofNat b = Int32.ofNat (70 + 4 * b) := by rw [z_lit, z_lit, z_mul, z_add]
theorem zspos (b : Nat) : (70 : Int32) + (4 : Int32) * Int32.ofNat b + (2 : Int32) = Int32.ofNat (70 + 4 * b + 2) := by rw [z_lit, z_lit, z_lit, z_mul, z_add, z_add]
theorem z_or1 {a k : Nat} (ha : a < 4096) (hk : k < 12) : a ||| 1 <<< k < 4096 := by
  refine z_or_lt 12 ha ?_
  rw [Nat.one_shiftLeft]
  exact Nat.pow_lt_pow_right (by decide) hk
theorem op_swap (J : hf_INV P g o V) (a b c d : Int32) : hf_OPr P g o (spX0_swap o a b c d g) (spX4_swap a b c d V) := by
  obtain ⟨XV, f, st, kp, rl, rd, ps, ik, sk, v, I⟩ := J
  have q1 := I.W.v1
  have q2 := I.W.v2
  have q0 := I.W.v0
  unfold spX0_swap spX4_swap
  rcases xm_are I a b c d with ⟨i, k, j, l, n1, hi, hk, e1, hj, hl, e2, rfl, rfl, rfl, rfl, x1, m1⟩ | ⟨x1, m1⟩
  case inr => rw [I.X.ob, x1, hf_b2_some, if_pos rfl, m1, hf_b2_some, if_pos rfl]; exact I.same _
  have qi := I.W.buyer hi
  have qj := I.W.buyer hj
  rw [I.X.ob, x1, hf_b2_some, if_neg (by decide), m1, hf_b2_some, if_neg (by decide), I.X.st, Option.bind_some, I.S.ob, I.S.spot hi q2, Option.bind_some, Option.bind_some, I.S.ob, I.S.spot hj q2, Option.bind_some, m_buyer1 I.sv (by omega), hf_b2_some, m_buyer1 I.sv (by omega), hf_b2_some]
  by_cases hs : Int32.ofNat (v (70 + 4 * i + 1)) = Int32.ofNat (v (70 + 4 * j + 1))
  case neg => rw [if_neg hs, if_neg hs]; exact I.same _
  rw [if_pos hs, if_pos hs]
  obtain ⟨g1, V1, XV1, k1, k2, I1, K1, c1⟩ := I.keeps
  obtain ⟨g2, l2, I2, K2, c2⟩ := I1.setw (k := k) (x := 100 + j) hk (by omega) (Or.inr (by omega))
  obtain ⟨g3, l3, I3, K3, c3⟩ := I2.setw (k := l) (x := 100 + i) (by rw [zup_ne _ (by omega)]; exact hl) (by omega) (Or.inr (by omega))
  have s3 : (zup (zup v (10 + 5 * k + 3) (100 + j)) (10 + 5 * l + 3) (100 + i)) (70 + 4 * i + 2) = v (70 + 4 * i + 2) := by rw [zup_ne _ (by omega), zup_ne _ (by omega)]
  have b3 : (zup (zup v (10 + 5 * k + 3) (100 + j)) (10 + 5 * l + 3) (100 + i)) 2 = v 2 := by rw [zup_ne _ (by omega), zup_ne _ (by omega)]
  obtain ⟨g4, l4, I4, K4, c4⟩ := I3.sets (b := i) (x := v (70 + 4 * i + 2) ||| 1 <<< l) (by omega) (z_or1 qi.2.2.1 (by omega))
  have s4 : (zup (zup (zup v (10 + 5 * k + 3) (100 + j)) (10 + 5 * l + 3) (100 + i)) (70 + 4 * i + 2) (v (70 + 4 * i + 2) ||| 1 <<< l)) (70 + 4 * j + 2) = v (70 + 4 * j + 2) := by rw [zup_ne _ (by omega), zup_ne _ (by omega), zup_ne _ (by omega)]
  have b4 : (zup (zup (zup v (10 + 5 * k + 3) (100 + j)) (10 + 5 * l + 3) (100 + i)) (70 + 4 * i + 2) (v (70 + 4 * i + 2) ||| 1 <<< l)) 2 = v 2 := by rw [zup_ne _ (by omega), b3]
  obtain ⟨g5, l5, I5, K5, c5⟩ := I4.sets (b := j) (x := v (70 + 4 * j + 2) ||| 1 <<< k) (by omega) (z_or1 qj.2.2.1 (by omega))
  rw [I.X.ob, k1, Option.bind_some, I1.X.st, Option.bind_some, I1.S.ob, z_100, l2, Option.bind_some, I2.X.st, Option.bind_some, I2.S.ob, z_100, l3, Option.bind_some, I3.X.st, Option.bind_some, I3.S.ob, I3.S.saw (b := i) (by omega) (by omega), Option.bind_some, s3, z_sh1 (by omega), z_or, l4, Option.bind_some, I4.X.st, Option.bind_some, I4.S.ob, I4.S.saw (b := j) (by omega) (by omega), Option.bind_some, s4, z_sh1 (by omega), z_or, l5, Option.bind_some]
  rw [k2, Option.bind_some, zwpos, z_sd (by omega) (by omega), I1.sv.ua, zwpos, z_sd (by omega) (by omega), I2.sv.ua, hf_let_eq, zspos, I3.sv.ld (by omega), Option.bind_some, s3, z_or, z_sd (by omega) (by omega), I3.sv.ua, hf_let_eq, zspos, I4.sv.ld (by omega), Option.bind_some, s4, z_or, z_sd (by omega) (by omega), I4.sv.ua]
  exact ⟨_, _, _, rfl, rfl, I5.inv, ((((K1.trans K2).trans K3).trans K4).trans K5).kf (by rw [c5, c4, c3, c2, c1])⟩
theorem op_giveUp (J : hf_INV P g o V) (hP : P ≤ 10000) (a b : Int32) : hf_OPr (P + 50) g o (spX0_giveUp o a b g) (spX4_giveUp a b V) := by
  obtain ⟨XV, f, st, kp, rl, rd, ps, ik, sk, v, I⟩ := J
  have q1 := I.W.v1
  have q2 := I.W.v2
  have q0 := I.W.v0
  have q3 := I.W.v3
  have q4 := I.W.v4
  have q7 := I.W.v7
  have hM : ¬ zthr v a b → spX4_giveUp a b V = some (-1, V) := by
    intro h
    unfold spX4_giveUp
    rw [m_isBuyerZ I.sv, hf_b2_some]
    by_cases h1 : zin a (v 2)
    case neg => rw [z1F h1]
    obtain ⟨i, hi, rfl⟩ := zin_ex h1 (by omega)
    rw [z1T h1, m_isHalfZ I.sv, hf_b2_some]
    by_cases h4 : zin b (v 1)
    case neg => rw [z1F h4]
    obtain ⟨k, hk, rfl⟩ := zin_ex h4 (by omega)
    have qk := I.W.b (10 + 5 * k + 3)
    rw [z1T h4, m_half3 I.sv (by omega), hf_b2_some, z_100, if_neg (fun z => h ⟨i, k, hi, hk, rfl, rfl, (z_eq (by omega) (by omega)).mp z⟩)]
  by_cases h : zthr v a b
  case neg =>
    rw [hM h]
    unfold spX0_giveUp
    rw [I.X.ob, x_theirsF I h, hf_b2_some, if_pos rfl]
    exact (I.same _).mono (by omega)
  obtain ⟨i, k, hi, hk, rfl, rfl, e1⟩ := h
  have qi := I.W.buyer hi
  have qp := I.Wp.2 i hi
  have qk := I.W.half hk
  have qs := (z_st (v 3) qi.2.1).1
  have hpr : zpr v k < 100 := by unfold zpr; split <;> omega
  obtain ⟨g1, V1, XV1, k1, k2, I1, K1, c1⟩ := I.keeps
  obtain ⟨g2, l2, I2, K2, c2⟩ := I1.setw (k := k) (x := zst v (v (70 + 4 * i + 1)) (v 3)) hk (by omega) (Or.inl (by omega))
  have b2 : (zup v (10 + 5 * k + 3) (zst v (v (70 + 4 * i + 1)) (v 3))) 2 = v 2 := zup_ne _ (by omega) _
  have b1 : (zup v (10 + 5 * k + 3) (zst v (v (70 + 4 * i + 1)) (v 3))) 1 = v 1 := zup_ne _ (by omega) _
  have p2 : (zup v (10 + 5 * k + 3) (zst v (v (70 + 4 * i + 1)) (v 3))) (70 + 4 * i) = v (70 + 4 * i) := zup_ne _ (by omega) _
  have z2 : zpr (zup v (10 + 5 * k + 3) (zst v (v (70 + 4 * i + 1)) (v 3))) k = zpr v k := by
    unfold zpr
    rw [zup_ne _ (by omega), zup_ne _ (by omega), zup_ne _ (by omega), zup_ne _ (by omega)]
  have n2 : (zup v (10 + 5 * k + 3) (zst v (v (70 + 4 * i + 1)) (v 3))) 3 = v 3 := zup_ne _ (by omega) _
  obtain ⟨g3, l3, I3, K3, c3⟩ := I2.setp (b := i) (x := v (70 + 4 * i) + zpr v k / 2) (Q := P + 50) (by omega) (by omega) (by omega) (by omega)
  have hd : ∀ n, n < 100 → Int32.ofNat n / (2 : Int32) = Int32.ofNat (n / 2) := fun n hn => z_div (b := 2) (by omega) (by decide)
  have xpr := x_priceAt I2.F I2.W (k := k) (by omega)
  rw [z2, n2] at xpr
  unfold spX0_giveUp spX4_giveUp
  rw [I.X.ob, x_theirsT I hi hk e1, hf_b2_some, if_neg (by decide), I.X.ob, k1, Option.bind_some, I1.X.st, Option.bind_some, I1.S.ob, Option.bind_some, I1.X.fa, Option.bind_some, I1.S.ob, x_stallOf I1.F I1.S I1.W hi, hf_b2_some, l2, Option.bind_some, I2.X.st, Option.bind_some, I2.S.ob, I2.S.purse (b := i) (by omega) (by omega), Option.bind_some, I2.X.fa, Option.bind_some, Option.bind_some, I2.S.now, Option.bind_some, I2.F.ob, n2, xpr, hf_b2_some, if_neg (by decide), p2, hd _ hpr, z_add, l3, Option.bind_some, I3.X.st, Option.bind_some, I3.S.ob, I3.S.purse (b := i) (by rw [zup_ne _ (by omega), b2]; exact hi) (by rw [zup_ne _ (by omega), b2]; exact q2), Option.bind_some]
  rw [m_isBuyerZ I.sv, hf_b2_some, z1T (zin_of hi (by omega)), m_isHalfZ I.sv, hf_b2_some, z1T (zin_of hk (by omega)), m_half3 I.sv (by omega), hf_b2_some, e1, z_100, if_pos rfl, k2, Option.bind_some, m_buyer1 I1.sv (by omega), hf_b2_some, I1.sv.l3, Option.bind_some, m_stallAt I1.sv qi.2.1 (by omega) (by omega) (by omega), hf_b2_some, zwpos, z_sd (by omega) (by omega), I1.sv.ua, hf_let_eq, zppos, I2.sv.ld (by omega), Option.bind_some, m_priceOf I2.sv (by omega), hf_b2_some, if_neg (by decide), z2, hd _ hpr, p2, z_add, z_sd (by omega) (by omega), I2.sv.ua, m_buyer0 I3.sv (by omega), hf_b2_some]
  exact ⟨_, _, _, rfl, rfl, I3.inv, ((K1.trans K2).trans K3).kf (by rw [c3, c2, c1])⟩
end ZI
set_option maxRecDepth 100000
set_option maxHeartbeats 1000000
/-! shout, undo -/
theorem zsum_add (f g : Nat → Nat) : ∀ n, zsum (fun k => f k + g k) n = zsum f n + zsum g n
  | 0 => rfl
  | n + 1 => by
    unfold zsum
    rw [zsum_add f g n]
    omega
theorem zpop_nd (a b : Nat) : zpop (a ||| b) = zpop a + zpop (hf_nd b a) := by
  unfold zpop
  rw [← zsum_add]
  refine zsum_congr 12 (fun k _ => ?_)
  rw [Nat.testBit_or, hf_nd_bit]
  cases a.testBit k <;> cases b.testBit k <;> rfl
theorem z_or_nd (a b : Nat) : a ||| hf_nd b a = a ||| b := by
  apply Nat.eq_of_testBit_eq
  intro i
  rw [Nat.testBit_or, Nat.testBit_or, hf_nd_bit]
  cases a.testBit i <;> cases b.testBit i <;> rfl
/-- h hears a shout of b's for a shape -/
def zhrp (v : Nat → Nat) (b sh h : Nat) : Bool := decide (v (10 + 5 * h + 3) < 100 ∧ zfar v (zsp v (v (10 + 5 * h + 3)) (v 3)) (v (70 + 4 * b + 1)) ≤ v 8 ∧ zap (v (10 + 5 * h + 0)) sh ≤ v 5)
theorem zfar_lt (v : Nat → Nat) (a b : Nat) (h : v 0 ≤ 8) : zfar v a b ≤ 8 := by
  unfold zfar
  split <;> omega
section ZI
variable {P : Nat} {g : hf_H} {o f st kp rl rd : Nat} {V XV : hf_V} {ps ik sk : Nat → Nat} {v : Nat → Nat}
theorem x_heard (I : hf_I P g o V XV f st kp rl rd ps ik sk v) {b sh : Nat} (hb : b < v 2) (hsh : sh < 100) : spX0_heard o (Int32.ofNat b) (Int32.ofNat sh) g = some (Int32.ofNat (zset (zhrp v b sh) (v 1)), g) := by
  have q1 := I.W.v1
  have q2 := I.W.v2
  have q0 := I.W.v0
  have q3 := I.W.v3
  have q5 := I.W.v5
  have q8 := I.W.v8
  have qb := I.W.buyer hb
  unfold spX0_heard
  refine hf_loop (fun n i => lpX0_heard_5 n o (Int32.ofNat b) (Int32.ofNat sh) (Int32.ofNat (zset (zhrp v b sh) i)) (Int32.ofNat i) g) (v 1) _ (fun i n hi => ?_) (fun n => ?_) (fuel := hf_N) (by unfold hf_N; omega)
  · show ndX0_heard_5 (lpX0_heard_5 n) _ _ _ _ _ _ = _
    have qk := I.W.half hi
    have h0 := I.W.h0 hi
    unfold ndX0_heard_5 ndX0_heard_128 ndX0_heard_130
    have hs : zset (zhrp v b sh) (i + 1) = zset (zhrp v b sh) i ||| (if zhrp v b sh i then 1 <<< i else 0) := rfl
    have h00 : Int32.ofNat (zset (zhrp v b sh) i) ||| (0 : Int32) = Int32.ofNat (zset (zhrp v b sh) i) := by
      have := z_or (zset (zhrp v b sh) i) 0
      rw [Nat.or_zero] at this
      exact this
    have hi1 : Int32.ofNat i + (1 : Int32) = Int32.ofNat (i + 1) := z_add i 1
    simp only [hf_let_eq, hi1]
    rw [I.X.ob, x_many I.X I.F, hf_b2_some, if_neg (z_nle hi (by omega)), I.X.st, Option.bind_some, I.S.ob, I.S.where_ hi q1, Option.bind_some]
    have c100 : ((100 : Int32) ≤ Int32.ofNat (v (10 + 5 * i + 3))) ↔ 100 ≤ v (10 + 5 * i + 3) := z_le (a := 100) (by decide) (by omega)
    by_cases w1 : 100 ≤ v (10 + 5 * i + 3)
    · rw [if_pos (c100.mpr w1), hs]
      have : zhrp v b sh i = false := by unfold zhrp; exact decide_eq_false (fun z => by omega)
      rw [this, if_neg (by decide), Nat.or_zero]
    rw [if_neg (fun z => w1 (c100.mp z)), I.X.fa, Option.bind_some, I.F.shape I.W hi]
    have z1 := zap_lt (a := v (10 + 5 * i + 0)) (b := sh) (n := 100) (by omega) hsh
    rw [x_abs _ _ (by omega) (by omega), I.X.fa, Option.bind_some, I.F.near h0, Option.bind_some]
    by_cases w2 : zap (v (10 + 5 * i + 0)) sh ≤ v 5
    case neg =>
      rw [if_neg (z_nle (by omega) (by omega)), hs]
      have : zhrp v b sh i = false := by unfold zhrp; exact decide_eq_false (fun z => w2 z.2.2)
      rw [this, if_neg (by decide), Nat.or_zero]
    have hsp : zsp v (v (10 + 5 * i + 3)) (v 3) < v 0 := Nat.mod_lt _ h0
    have hfl := zfar_lt v (zsp v (v (10 + 5 * i + 3)) (v 3)) (v (70 + 4 * b + 1)) q0
    rw [if_pos (z_yle w2 (by omega)), Option.bind_some, I.X.st, Option.bind_some, I.S.ob, I.S.where_ hi q1, Option.bind_some, Option.bind_some, I.S.now, Option.bind_some, I.F.ob, x_spotOf I.F I.W h0 (by omega) (by omega), hf_b2_some, I.X.fa, Option.bind_some, I.X.st, Option.bind_some, I.S.ob, I.S.spot hb q2, Option.bind_some, I.F.ob, x_far I.F I.W hsp qb.2.1, hf_b2_some, I.X.fa, Option.bind_some, I.F.hear h0, Option.bind_some]
    by_cases w3 : zfar v (zsp v (v (10 + 5 * i + 3)) (v 3)) (v (70 + 4 * b + 1)) ≤ v 8
    · rw [if_neg (fun z => by have := (z_lt (by omega) (by omega)).mp z; omega), z_sh1 (by omega), z_or, hs]
      have : zhrp v b sh i = true := by unfold zhrp; exact decide_eq_true ⟨by omega, w3, w2⟩
      rw [this, if_pos rfl]
    · rw [if_pos ((z_lt (by omega) (by omega)).mpr (by omega)), h00, hs]
      have : zhrp v b sh i = false := by unfold zhrp; exact decide_eq_false (fun z => w3 z.2.1)
      rw [this, if_neg (by decide), Nat.or_zero]
  · show ndX0_heard_5 (lpX0_heard_5 n) _ _ _ _ _ _ = _
    unfold ndX0_heard_5
    rw [I.X.ob, x_many I.X I.F, hf_b2_some, if_pos (z_yle (Nat.le_refl _) (by omega))]
end ZI
section ZM
variable {V : hf_V} {v : Nat → Nat}
theorem m_shoutL (S : hf_sv V v) (W : hf_wf v) {b sh was : Nat} (hb : b < v 2) (hsh : sh < 100) (hwas : v (70 + 4 * b + 2) = was) : ∃ V', V' = hf_sd20 V (zup v (70 + 4 * b + 2) (was ||| zset (zhrp v b sh) (v 1))) ∧ lpX4_shout_60 hf_N (Int32.ofNat b) (Int32.ofNat sh) (Int32.ofNat was) (Int32.ofNat 0) V = some (Int32.ofNat (zpop (was ||| zset (zhrp v b sh) (v 1)) - zpop was), V') := by
  have q1 := W.v1
  have q2 := W.v2
  have q0 := W.v0
  have q3 := W.v3
  have q4 := W.v4
  have q5 := W.v5
  have q8 := W.v8
  have qb := W.buyer hb
  have hwl : was < 4096 := by rw [← hwas]; exact qb.2.2.1
  have hset : ∀ i, i ≤ v 1 → was ||| zset (zhrp v b sh) i < 4096 := fun i hi => by
    refine z_or_lt 12 hwl ?_
    have h1 := zset_lt (zhrp v b sh) i
    exact Nat.lt_of_lt_of_le h1 (Nat.pow_le_pow_right (by decide) (by omega))
  refine ⟨_, rfl, ?_⟩
  have hst : V = hf_sd20 V (zup v (70 + 4 * b + 2) (was ||| zset (zhrp v b sh) 0)) := by
    have e : zup v (70 + 4 * b + 2) (was ||| zset (zhrp v b sh) 0) = v := by
      funext k
      show zup v (70 + 4 * b + 2) (was ||| 0) k = v k
      rw [Nat.or_zero]
      by_cases e : k = 70 + 4 * b + 2
      · rw [e, zup_at, hwas]
      · rw [zup_ne _ e]
    rw [e, S.self]
  have key : ∀ N9, v 1 < N9 → lpX4_shout_60 N9 (Int32.ofNat b) (Int32.ofNat sh) (Int32.ofNat was) (Int32.ofNat 0) (hf_sd20 V (zup v (70 + 4 * b + 2) (was ||| zset (zhrp v b sh) 0))) = some (Int32.ofNat (zpop (was ||| zset (zhrp v b sh) (v 1)) - zpop was), hf_sd20 V (zup v (70 + 4 * b + 2) (was ||| zset (zhrp v b sh) (v 1)))) := by
    intro N9 hN9
    refine hf_loop (fun n i => lpX4_shout_60 n (Int32.ofNat b) (Int32.ofNat sh) (Int32.ofNat was) (Int32.ofNat i) (hf_sd20 V (zup v (70 + 4 * b + 2) (was ||| zset (zhrp v b sh) i)))) (v 1) _ (fun i n hi => ?_) (fun n => ?_) hN9
    · show ndX4_shout_60 (lpX4_shout_60 n) _ _ _ _ _ = _
      have W2 := W.saw (b := b) (x := was ||| zset (zhrp v b sh) i) (by omega) (hset i (by omega))
      have S2 := hf_sd20_sv V W2.b
      have hw : ∀ k, k ≠ 70 + 4 * b + 2 → zup v (70 + 4 * b + 2) (was ||| zset (zhrp v b sh) i) k = v k := fun k hk => zup_ne _ hk _
      have qk := W.half hi
      have h0 := W.h0 hi
      have hsp : zsp v (v (10 + 5 * i + 3)) (v 3) < v 0 := Nat.mod_lt _ h0
      have hfl := zfar_lt v (zsp v (v (10 + 5 * i + 3)) (v 3)) (v (70 + 4 * b + 1)) q0
      have z1 := zap_lt (a := v (10 + 5 * i + 0)) (b := sh) (n := 100) (by omega) hsh
      unfold ndX4_shout_60 ndX4_shout_163
      have hs : was ||| zset (zhrp v b sh) (i + 1) = was ||| zset (zhrp v b sh) i ||| (if zhrp v b sh i then 1 <<< i else 0) := by
        show was ||| (zset (zhrp v b sh) i ||| _) = _
        rw [Nat.or_assoc]
      have hi1 : Int32.ofNat i + (1 : Int32) = Int32.ofNat (i + 1) := z_add i 1
      simp only [hf_let_eq, hi1]
      rw [S2.l1, Option.bind_some, hw 1 (by omega), if_neg (z_nle hi (by omega)), m_half3 S2 (by omega), hf_b2_some, hw _ (by omega)]
      have c100 : ((100 : Int32) ≤ Int32.ofNat (v (10 + 5 * i + 3))) ↔ 100 ≤ v (10 + 5 * i + 3) := z_le (a := 100) (by decide) (by omega)
      by_cases w1 : 100 ≤ v (10 + 5 * i + 3)
      · rw [if_pos (c100.mpr w1), hs]
        have : zhrp v b sh i = false := by unfold zhrp; exact decide_eq_false (fun z => by omega)
        rw [this, if_neg (by decide), Nat.or_zero]
      have zs2 : zsp (zup v (70 + 4 * b + 2) (was ||| zset (zhrp v b sh) i)) (v (10 + 5 * i + 3)) (v 3) = zsp v (v (10 + 5 * i + 3)) (v 3) := by
        unfold zsp
        rw [hw 4 (by omega), hw 0 (by omega)]
      have zf2 : zfar (zup v (70 + 4 * b + 2) (was ||| zset (zhrp v b sh) i)) (zsp v (v (10 + 5 * i + 3)) (v 3)) (v (70 + 4 * b + 1)) = zfar v (zsp v (v (10 + 5 * i + 3)) (v 3)) (v (70 + 4 * b + 1)) := by
        unfold zfar
        rw [hw 0 (by omega)]
      rw [if_neg (fun z => w1 (c100.mp z)), S2.l3, Option.bind_some, hw 3 (by omega), m_spotAt S2 (by rw [hw 0 (by omega)]; exact h0) (by omega) (by omega) (by rw [hw 4 (by omega)]; omega), hf_b2_some, zs2, m_buyer1 S2 (by omega), hf_b2_some, hw (70 + 4 * b + 1) (by omega), m_far S2 (by rw [hw 0 (by omega)]; exact hsp) (by rw [hw 0 (by omega)]; exact qb.2.1) (by rw [hw 0 (by omega)]; omega), hf_b2_some, zf2, S2.l8, Option.bind_some, hw 8 (by omega)]
      by_cases w3 : zfar v (zsp v (v (10 + 5 * i + 3)) (v 3)) (v (70 + 4 * b + 1)) ≤ v 8
      case neg =>
        rw [if_pos ((z_lt (by omega) (by omega)).mpr (by omega)), hs]
        have : zhrp v b sh i = false := by unfold zhrp; exact decide_eq_false (fun z => w3 z.2.1)
        rw [this, if_neg (by decide), Nat.or_zero]
      rw [if_neg (fun z => by have := (z_lt (by omega) (by omega)).mp z; omega), m_half0 S2 (by omega), hf_b2_some, hw _ (by omega), m_apart (by omega) (by omega), hf_b2_some, S2.l5, Option.bind_some, hw 5 (by omega)]
      by_cases w2 : zap (v (10 + 5 * i + 0)) sh ≤ v 5
      case neg =>
        rw [if_neg (z_nle (by omega) (by omega)), hs]
        have : zhrp v b sh i = false := by unfold zhrp; exact decide_eq_false (fun z => w2 z.2.2)
        rw [this, if_neg (by decide), Nat.or_zero]
      have p1 : (70 : Int32) + (4 : Int32) * Int32.ofNat b + (2 : Int32) = Int32.ofNat (70 + 4 * b + 2) := by rw [z_lit, z_lit, z_lit, z_mul, z_add, z_add]
      rw [if_pos (z_yle w2 (by omega)), p1, S2.ld (by omega), Option.bind_some, zup_at, z_sh1 (by omega), z_or, z_sd (by omega) (by omega), S2.ua, hf_sd20_sd, hs]
      have : zhrp v b sh i = true := by unfold zhrp; exact decide_eq_true ⟨by omega, w3, w2⟩
      rw [this, if_pos rfl]
      congr 2
      funext q
      by_cases e : q = 70 + 4 * b + 2
      · rw [e, zup_at, zup_at]
      · rw [zup_ne _ e, zup_ne _ e, zup_ne _ e]
    · show ndX4_shout_60 (lpX4_shout_60 n) _ _ _ _ _ = _
      have W2 := W.saw (b := b) (x := was ||| zset (zhrp v b sh) (v 1)) (by omega) (hset _ (by omega))
      have S2 := hf_sd20_sv V W2.b
      have hw : ∀ k, k ≠ 70 + 4 * b + 2 → zup v (70 + 4 * b + 2) (was ||| zset (zhrp v b sh) (v 1)) k = v k := fun k hk => zup_ne _ hk _
      unfold ndX4_shout_60
      have hle : zpop was ≤ zpop (was ||| zset (zhrp v b sh) (v 1)) := by rw [zpop_nd]; omega
      rw [S2.l1, Option.bind_some, hw 1 (by omega), if_pos (z_yle (Nat.le_refl _) (by omega)), m_buyer2 S2 (by omega), hf_b2_some, zup_at, m_bits _ (hset _ (by omega)), Option.bind_some, m_bits _ hwl, Option.bind_some, z_sub hle]
  rw [← hst] at key
  exact key hf_N (by unfold hf_N; omega)
end ZM
section ZI
variable {P : Nat} {g : hf_H} {o f st kp rl rd : Nat} {V XV : hf_V} {ps ik sk : Nat → Nat} {v : Nat → Nat}
theorem op_shout (J : hf_INV P g o V) (a b : Int32) : hf_OPr P g o (spX0_shout o a b g) (spX4_shout a b V) := by
  obtain ⟨XV, f, st, kp, rl, rd, ps, ik, sk, v, I⟩ := J
  have q1 := I.W.v1
  have q2 := I.W.v2
  unfold spX0_shout spX4_shout
  rw [I.X.ob, x_isBuyer I.X I.F I.W, hf_b2_some, m_isBuyerZ I.sv, hf_b2_some]
  by_cases hz : zin a (v 2)
  case neg => rw [z1F hz, z1F hz]; exact I.same _
  have x99 : spX0_in b.toInt64 (0 : Int64) (99 : Int64) = some (if zin b 100 then Int32.ofNat 1 else Int32.ofNat 0) := x_inl b (n := 99) (by decide)
  have m99 : spX4_in b.toInt64 (0 : Int64) (99 : Int64) = some (if zin b 100 then Int32.ofNat 1 else Int32.ofNat 0) := x99
  rw [z1T hz, z1T hz, x99, Option.bind_some, m99, Option.bind_some]
  by_cases hw : zin b 100
  case neg => rw [z1F hw, z1F hw]; exact I.same _
  rw [z1T hw, z1T hw]
  obtain ⟨i, hi, rfl⟩ := zin_ex hz (by omega)
  obtain ⟨sh, hsh, rfl⟩ := zin_ex hw (by decide)
  have qi := I.W.buyer hi
  have qp := I.Wp.2 i hi
  rw [I.X.st, Option.bind_some, I.S.ob, I.S.purse hi q2, Option.bind_some, m_buyer0 I.sv (by omega), hf_b2_some]
  by_cases hp : v (70 + 4 * i) = 0
  · rw [show v (70 + 4 * i + 0) = v (70 + 4 * i) from rfl, hp, if_pos (show Int32.ofNat 0 = 0 from rfl), if_pos (show Int32.ofNat 0 = 0 from rfl)]; exact I.same _
  have hp' : ¬ Int32.ofNat (v (70 + 4 * i)) = 0 := fun z => hp ((z_eq (b := 0) (by omega) (by decide)).mp z)
  have hp'' : ¬ Int32.ofNat (v (70 + 4 * i + 0)) = 0 := hp'
  rw [if_neg hp', if_neg hp'']
  obtain ⟨g1, V1, XV1, k1, k2, I1, K1, c1⟩ := I.keeps
  obtain ⟨g2, l2, I2, K2, c2⟩ := I1.setp (b := i) (x := v (70 + 4 * i) - 1) (Q := P) hi (by omega) (Nat.le_refl _) (by omega)
  have b2 : (zup v (70 + 4 * i) (v (70 + 4 * i) - 1)) 2 = v 2 := zup_ne _ (by omega) _
  have b1 : (zup v (70 + 4 * i) (v (70 + 4 * i) - 1)) 1 = v 1 := zup_ne _ (by omega) _
  have s2 : (zup v (70 + 4 * i) (v (70 + 4 * i) - 1)) (70 + 4 * i + 2) = v (70 + 4 * i + 2) := zup_ne _ (by omega) _
  have hz2 : zset (zhrp (zup v (70 + 4 * i) (v (70 + 4 * i) - 1)) i sh) (v 1) = zset (zhrp v i sh) (v 1) := by
    refine zset_congr _ (fun k hk => ?_)
    unfold zhrp zfar zsp
    rw [zup_ne _ (by omega), zup_ne _ (by omega), zup_ne _ (by omega), zup_ne _ (by omega), zup_ne _ (by omega), zup_ne _ (by omega), zup_ne _ (by omega), zup_ne _ (by omega)]
  have hlt : zset (zhrp v i sh) (v 1) < 4096 := Nat.lt_of_lt_of_le (zset_lt _ _) (zpow12 q1).2.1
  obtain ⟨g3, l3, I3, K3, c3⟩ := I2.sets (b := i) (x := v (70 + 4 * i + 2) ||| zset (zhrp v i sh) (v 1)) (by omega) (z_or_lt 12 qi.2.2.1 hlt)
  obtain ⟨V', hV', mL⟩ := m_shoutL I2.sv I2.W (b := i) (sh := sh) (was := v (70 + 4 * i + 2)) (by omega) hsh s2
  rw [b1, hz2] at hV' mL
  have hnl : hf_nd (zset (zhrp v i sh) (v 1)) (v (70 + 4 * i + 2)) < 4096 := Nat.lt_of_le_of_lt (hf_nd_le _ _) hlt
  have a1 : Int32.ofNat (v (70 + 4 * i)) - (1 : Int32) = Int32.ofNat (v (70 + 4 * i) - 1) := z_sub (b := 1) (by omega)
  rw [I.X.ob, k1, Option.bind_some, I1.X.ob, x_heard I1 hi hsh, hf_b2_some, I1.X.st, Option.bind_some, I1.S.ob, I1.S.saw hi q2, Option.bind_some, z_nd, hf_let_eq, Option.bind_some, I1.S.ob, I1.S.purse hi q2, Option.bind_some, a1, l2, Option.bind_some, I2.X.st, Option.bind_some, I2.S.ob, I2.S.saw (b := i) (by omega) (by omega), Option.bind_some, s2, z_or, z_or_nd, l3, Option.bind_some, x_bits _ hnl, Option.bind_some]
  rw [k2, Option.bind_some, m_buyer2 I1.sv (by omega), hf_b2_some, zppos, hf_let_eq, I1.sv.ld (by omega), Option.bind_some, z_sd (by omega) (by omega), a1, I1.sv.ua]
  have mL' : lpX4_shout_60 hf_N (Int32.ofNat i) (Int32.ofNat sh) (Int32.ofNat (v (70 + 4 * i + 2))) (0 : Int32) (hf_sd20 V1 (zup v (70 + 4 * i) (v (70 + 4 * i) - 1))) = some (Int32.ofNat (zpop (v (70 + 4 * i + 2) ||| zset (zhrp v i sh) (v 1)) - zpop (v (70 + 4 * i + 2))), V') := mL
  rw [mL', zpop_nd, Nat.add_sub_cancel_left, hV']
  exact ⟨_, _, _, rfl, rfl, I3.inv, ((K1.trans K2).trans K3).kf (by rw [c3, c2, c1])⟩
end ZI
