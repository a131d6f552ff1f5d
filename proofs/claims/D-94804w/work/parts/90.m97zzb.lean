set_option maxRecDepth 100000
set_option maxHeartbeats 1000000
/-! texts: a fair's clauses: one half, one buyer more -/
section ZQ
variable {gs : hf_gs} {pa o nm : Nat} {B : Nat → Nat} {T : Nat} {g g0 : hf_H} {PV V Vp : hf_V} {a kc fa l1 d1 l2 d2 n : Nat} {p q : Nat → Nat} {v : Nat → Nat} {t5 t6 t8 : Bool}
theorem hf_ps.up0 {m x ci : Nat} (S : hf_ps gs g pa o nm PV B T V a m) {U : hf_V} (e : hf_ob 0 ci g x = some U) (h5 : ci ≠ 5) (h3 : ci ≠ 3) (J : hf_V) : hf_ps gs (hf_up g x (.inl (0, ci, J))) pa o nm PV B T V a m := by
  obtain ⟨N, P, p0, p1, p3, wo, mt, v8, v9, v12, ha, hm⟩ := S
  exact ⟨N.up e _, P.up e h5 h3, p0, p1, p3, wo.eq (fun z x ez => by
    rw [up_ne _ (fun y => by
      subst y
      rw [hf_ob_spec e] at ez
      cases ez)]
    exact ez), mt, v8, v9, v12, ha, hm⟩
theorem hf_ps.gk {m k : Nat} {g' : hf_H} (S : hf_ps gs g pa o nm PV B T V a m) (K : hf_gk pa o g g' k) (P' : hf_px g' pa o PV B T) : hf_ps gs g' pa o nm PV B T V a m := by
  obtain ⟨N, P, p0, p1, p3, wo, mt, v8, v9, v12, ha, hm⟩ := S
  obtain ⟨WV, w3⟩ := P.w3
  exact ⟨K.no, P', p0, p1, p3, K.wo N P.2.1 w3 wo, mt, v8, v9, v12, ha, hm⟩
theorem zFS.addH (R : zFS gs pa o nm B T g PV V a kc fa l1 d1 l2 d2 p q v t5 t6 t8) (hc : v 1 < 12) {x9 : Nat} {J : hf_V} (e9 : hf_ob 0 6 g x9 = some J) (j0 : J.1 0 = Int32.ofNat (v (10 + 5 * v 1 + 3))) (j1 : J.1 1 = Int32.ofNat (v (10 + 5 * v 1))) (j2 : J.1 2 = Int32.ofNat (v (10 + 5 * v 1 + 1))) (j3 : J.1 3 = Int32.ofNat (v (10 + 5 * v 1 + 2))) (b0 : v (10 + 5 * v 1 + 3) < v 0) (b1 : v (10 + 5 * v 1) ≤ 99) (b2 : v (10 + 5 * v 1 + 1) ≤ 1) (b3 : v (10 + 5 * v 1 + 2) ≤ 99) (b4 : v (10 + 5 * v 1 + 4) = 0) (K : hf_gm pa o g0 g n) (hlt : g0.2.1 ≤ l1 ∧ g0.2.1 ≤ d1 ∧ g0.2.1 ≤ l2 ∧ g0.2.1 ≤ d2) : ∃ g' d1', spJ2_add gs l1 x9 g = some (1, g') ∧ zFS gs pa o nm B T g' PV (hf_ua V 7 1 (Int32.ofNat (v 1 + 1))) a kc fa l1 d1' l2 d2 (fun k => if k = v 1 then x9 else p k) q (zup v 1 (v 1 + 1)) t5 t6 t8 ∧ hf_gm pa o g0 g' (n + 1) ∧ g0.2.1 ≤ d1' := by
  obtain ⟨S, c4, ⟨FV, f1, f2, f3, ⟨f4, f4'⟩, f5, f6, f7, f8, f9, f10⟩, M, W⟩ := R
  have S0 := S
  obtain ⟨N, P, p0, p1, p3, wo, mt, v8, v9, v12, ha, hm⟩ := S
  obtain ⟨⟨⟨w0, w1, w2, w3, w4, w5, w6, w7, w8, w9⟩, wh, wb, wk⟩, z3, zh, zb⟩ := W
  have okp : ∀ k, k < v 1 → hf_okv g (p k) = true := fun k hk => by
    obtain ⟨HV, h1, _⟩ := f7 k hk
    exact okv_ob h1 (by decide)
  obtain ⟨g', d1', a1, a2, a3, a4, a5⟩ := x_add (gs := gs) f5 N (by omega) okp (okv_ob e9 (by decide))
  obtain ⟨WV, w3'⟩ := P.w3
  obtain ⟨⟨_, _, ⟨XV, y1, -⟩, -⟩, y2, -⟩ := id P
  have at_ : ∀ md ci z U, hf_ob md ci g z = some U → ci ≠ 19 → hf_ob md ci g' z = some U := fun md ci z U e h => hf_ob_eq e (a3.at_ N f5 e h)
  have P' : hf_px g' pa o PV B T := P.eq (a3.at_ N f5 y1 (by decide)) (a3.at_ N f5 y2 (by decide)) (a3.at_ N f5 w3' (by decide))
  have wo' : hf_wo g' gs nm := wo.eq (a3.st N f5)
  have S' : hf_ps gs g' pa o nm PV B T V a 0 := ⟨a3.2.2.2.2, P', p0, p1, p3, wo', mt, v8, v9, v12, ha, hm⟩
  have lt1 := f5.lt N
  have lt2 := f6.lt N
  have L2 : hf_Ld g' l2 d2 (v 2) q := by
    have nl1 : l2 ≠ d1 := by
      obtain ⟨LV, N', B', e1, _⟩ := id f6
      exact f5.nd e1
    have nl2 : d2 ≠ l1 := fun z => by
      obtain ⟨LV, N', B', e1, _⟩ := id f5
      exact f6.nd e1 z.symm
    obtain ⟨LV, N', B', e1, e2, e3, e4, e5, e6⟩ := f6
    refine ⟨LV, N', B', hf_ob_eq e1 (a3.1 l2 lt2.1 f4.symm nl1), e2, e3, ?_, e5, e6⟩
    unfold hf_Ar at e4 ⊢
    rw [a3.1 d2 lt2.2 nl2 f4'.symm]
    exact e4
  have e : ∀ j, j ≠ 1 → zup v 1 (v 1 + 1) j = v j := fun j hj => zup_ne _ hj _
  have e1 : zup v 1 (v 1 + 1) 1 = v 1 + 1 := zup_at _ _ _
  have hzs : zset (fun k => zup v 1 (v 1 + 1) (10 + 5 * k + 4) == 1) (v 1 + 1) = zset (fun k => v (10 + 5 * k + 4) == 1) (v 1) := by
    show zset (fun k => zup v 1 (v 1 + 1) (10 + 5 * k + 4) == 1) (v 1) ||| (if (zup v 1 (v 1 + 1) (10 + 5 * v 1 + 4) == 1) = true then 1 <<< v 1 else 0) = _
    rw [e _ (by omega), b4]
    simp only [show ((0 : Nat) == 1) = false from rfl, Bool.false_eq_true, if_false, Nat.or_zero]
    exact zset_congr _ (fun k hk => by
      show (zup v 1 (v 1 + 1) (10 + 5 * k + 4) == 1) = _
      rw [e _ (by omega)])
  have sel : ∀ (k : Nat) (Q : Nat → Prop), Q (if k = v 1 then x9 else p k) → Q ((fun k => if k = v 1 then x9 else p k) k) := fun k Q h => h
  refine ⟨g', d1', a1, ⟨S'.v rfl (hf_ua_ne _ (by decide) _ _), c4, ⟨FV, at_ _ _ _ _ f1 (by decide), f2, f3, ⟨f4, ?_⟩, by rw [e1]; exact a2, by rw [e 2 (by decide)]; exact L2, fun k hk => ?_, fun b hb => ?_, ?_, fun b hb => ?_⟩, M.set (Or.inl (by decide)) (fun j => hf_ua_at _ _ _ _ _), ?_⟩, K.lk hlt.1 hlt.2.1 (by omega) a3, ?_⟩
  · rcases a4 with h | h
    · rw [h]; exact f4'
    · omega
  · rw [e1] at hk
    rw [e _ (by omega), e _ (by omega), e _ (by omega), e _ (by omega)]
    show ∃ HV, hf_ob 0 6 g' (if k = v 1 then x9 else p k) = some HV ∧ _
    by_cases c : k = v 1
    · rw [if_pos c, c]
      exact ⟨J, at_ _ _ _ _ e9 (by decide), j0, j1, j2, j3⟩
    · rw [if_neg c]
      obtain ⟨HV, u1, u2⟩ := f7 k (by omega)
      exact ⟨HV, at_ _ _ _ _ u1 (by decide), u2⟩
  · rw [e 2 (by decide)] at hb
    rw [e _ (by omega), e _ (by omega)]
    obtain ⟨QV, u1, u2⟩ := f8 b hb
    exact ⟨QV, at_ _ _ _ _ u1 (by decide), u2⟩
  · rw [e1, hzs, e 0 (by decide), e 4 (by decide), e 5 (by decide), e 6 (by decide), e 7 (by decide), e 8 (by decide)]
    exact f9
  · rw [e 2 (by decide), f10 b hb, e _ (by omega)]
  · refine ⟨⟨?_, fun k hk => ?_, fun b hb => ?_, fun k => ?_⟩, by rw [e 3 (by decide)]; exact z3, fun k hk => ?_, fun b hb => ?_⟩
    · rw [e1, e 0 (by decide), e 2 (by decide), e 3 (by decide), e 4 (by decide), e 5 (by decide), e 6 (by decide), e 7 (by decide), e 8 (by decide)]
      exact ⟨w0, by omega, w2, w3, w4, w5, w6, w7, w8, fun z => by omega⟩
    · rw [e1] at hk
      rw [e 0 (by decide), e _ (by omega), e _ (by omega), e _ (by omega), e _ (by omega), e _ (by omega)]
      by_cases c : k = v 1
      · rw [c]
        exact ⟨b1, b2, b3, by omega, Or.inl b0, by omega⟩
      · exact wh k (by omega)
    · rw [e 2 (by decide)] at hb
      rw [e 0 (by decide), e 2 (by decide), e _ (by omega), e _ (by omega), e _ (by omega), e _ (by omega)]
      exact wb b hb
    · unfold zup
      split
      · omega
      · exact wk k
    · rw [e1] at hk
      rw [e 0 (by decide), e _ (by omega)]
      by_cases c : k = v 1
      · rw [c]
        exact b0
      · exact zh k (by omega)
    · rw [e 2 (by decide)] at hb
      rw [e _ (by omega), e _ (by omega)]
      exact zb b hb
  · rcases a4 with h | h
    · rw [h]; exact hlt.2.1
    · have := K.2.1
      omega
theorem zFS.addB (R : zFS gs pa o nm B T g PV V a kc fa l1 d1 l2 d2 p q v t5 t6 t8) (hc : v 2 < 4) {x9 : Nat} {J : hf_V} (e9 : hf_ob 0 7 g x9 = some J) (j0 : J.1 0 = Int32.ofNat (v (70 + 4 * v 2))) (j1 : J.1 1 = Int32.ofNat (v (70 + 4 * v 2 + 1))) (b0 : v (70 + 4 * v 2) ≤ 999) (b1 : v (70 + 4 * v 2 + 1) < v 0) (b2 : v (70 + 4 * v 2 + 2) = 0) (b3 : v (70 + 4 * v 2 + 3) = 1 <<< v 2) (K : hf_gm pa o g0 g n) (hlt : g0.2.1 ≤ l1 ∧ g0.2.1 ≤ d1 ∧ g0.2.1 ≤ l2 ∧ g0.2.1 ≤ d2) : ∃ g' d2', spJ2_add gs l2 x9 g = some (1, g') ∧ zFS gs pa o nm B T g' PV (hf_ua V 7 2 (Int32.ofNat (v 2 + 1))) a kc fa l1 d1 l2 d2' p (fun k => if k = v 2 then x9 else q k) (zup v 2 (v 2 + 1)) t5 t6 t8 ∧ hf_gm pa o g0 g' (n + 1) ∧ g0.2.1 ≤ d2' := by
  obtain ⟨S, c4, ⟨FV, f1, f2, f3, ⟨f4, f4'⟩, f5, f6, f7, f8, f9, f10⟩, M, W⟩ := R
  have S0 := S
  obtain ⟨N, P, p0, p1, p3, wo, mt, v8, v9, v12, ha, hm⟩ := S
  obtain ⟨⟨⟨w0, w1, w2, w3, w4, w5, w6, w7, w8, w9⟩, wh, wb, wk⟩, z3, zh, zb⟩ := W
  have okp : ∀ k, k < v 2 → hf_okv g (q k) = true := fun k hk => by
    obtain ⟨HV, h1, _⟩ := f8 k hk
    exact okv_ob h1 (by decide)
  obtain ⟨g', d2', a1, a2, a3, a4, a5⟩ := x_add (gs := gs) f6 N (by omega) okp (okv_ob e9 (by decide))
  obtain ⟨WV, w3'⟩ := P.w3
  obtain ⟨⟨_, _, ⟨XV, y1, -⟩, -⟩, y2, -⟩ := id P
  have at_ : ∀ md ci z U, hf_ob md ci g z = some U → ci ≠ 19 → hf_ob md ci g' z = some U := fun md ci z U e h => hf_ob_eq e (a3.at_ N f6 e h)
  have P' : hf_px g' pa o PV B T := P.eq (a3.at_ N f6 y1 (by decide)) (a3.at_ N f6 y2 (by decide)) (a3.at_ N f6 w3' (by decide))
  have wo' : hf_wo g' gs nm := wo.eq (a3.st N f6)
  have S' : hf_ps gs g' pa o nm PV B T V a 0 := ⟨a3.2.2.2.2, P', p0, p1, p3, wo', mt, v8, v9, v12, ha, hm⟩
  have lt1 := f5.lt N
  have lt2 := f6.lt N
  have L1 : hf_Ld g' l1 d1 (v 1) p := by
    have nl1 : l1 ≠ d2 := by
      obtain ⟨LV, N', B', e1, _⟩ := id f5
      exact f6.nd e1
    have nl2 : d1 ≠ l2 := fun z => by
      obtain ⟨LV, N', B', e1, _⟩ := id f6
      exact f5.nd e1 z.symm
    obtain ⟨LV, N', B', e1, e2, e3, e4, e5, e6⟩ := f5
    refine ⟨LV, N', B', hf_ob_eq e1 (a3.1 l1 lt1.1 f4 nl1), e2, e3, ?_, e5, e6⟩
    unfold hf_Ar at e4 ⊢
    rw [a3.1 d1 lt1.2 nl2 f4']
    exact e4
  have e : ∀ j, j ≠ 2 → zup v 2 (v 2 + 1) j = v j := fun j hj => zup_ne _ hj _
  have e2 : zup v 2 (v 2 + 1) 2 = v 2 + 1 := zup_at _ _ _
  have hzs : zset (fun k => zup v 2 (v 2 + 1) (10 + 5 * k + 4) == 1) (v 1) = zset (fun k => v (10 + 5 * k + 4) == 1) (v 1) := zset_congr _ (fun k hk => by
      show (zup v 2 (v 2 + 1) (10 + 5 * k + 4) == 1) = _
      rw [e _ (by omega)])
  refine ⟨g', d2', a1, ⟨S'.v rfl (hf_ua_ne _ (by decide) _ _), c4, ⟨FV, at_ _ _ _ _ f1 (by decide), f2, f3, ⟨f4, ?_⟩, by rw [e 1 (by decide)]; exact L1, by rw [e2]; exact a2, fun k hk => ?_, fun b hb => ?_, ?_, fun b hb => ?_⟩, M.set (Or.inl (by decide)) (fun j => hf_ua_at _ _ _ _ _), ?_⟩, K.lk hlt.2.2.1 hlt.2.2.2 (by omega) a3, ?_⟩
  · rcases a4 with h | h
    · rw [h]; exact f4'
    · omega
  · rw [e 1 (by decide)] at hk
    rw [e _ (by omega), e _ (by omega), e _ (by omega), e _ (by omega)]
    obtain ⟨HV, u1, u2⟩ := f7 k hk
    exact ⟨HV, at_ _ _ _ _ u1 (by decide), u2⟩
  · rw [e2] at hb
    rw [e _ (by omega), e _ (by omega)]
    show ∃ QV, hf_ob 0 7 g' (if b = v 2 then x9 else q b) = some QV ∧ _
    by_cases c : b = v 2
    · rw [if_pos c, c]
      exact ⟨J, at_ _ _ _ _ e9 (by decide), j0, j1⟩
    · rw [if_neg c]
      obtain ⟨QV, u1, u2⟩ := f8 b (by omega)
      exact ⟨QV, at_ _ _ _ _ u1 (by decide), u2⟩
  · rw [e 1 (by decide), hzs, e 0 (by decide), e 4 (by decide), e 5 (by decide), e 6 (by decide), e 7 (by decide), e 8 (by decide)]
    exact f9
  · rw [e2, f10 b hb, e _ (by omega)]
    by_cases c : b = v 2
    · rw [if_neg (by omega), if_pos (by omega), c, b3]
    · by_cases c2 : b < v 2
      · rw [if_pos c2, if_pos (by omega)]
      · rw [if_neg c2, if_neg (by omega)]
  · refine ⟨⟨?_, fun k hk => ?_, fun b hb => ?_, fun k => ?_⟩, by rw [e 3 (by decide)]; exact z3, fun k hk => ?_, fun b hb => ?_⟩
    · rw [e2, e 0 (by decide), e 1 (by decide), e 3 (by decide), e 4 (by decide), e 5 (by decide), e 6 (by decide), e 7 (by decide), e 8 (by decide)]
      exact ⟨w0, w1, by omega, w3, w4, w5, w6, w7, w8, fun z => by omega⟩
    · rw [e 1 (by decide)] at hk
      rw [e 0 (by decide), e _ (by omega), e _ (by omega), e _ (by omega), e _ (by omega), e _ (by omega)]
      exact wh k hk
    · rw [e2] at hb
      rw [e 0 (by decide), e2, e _ (by omega), e _ (by omega), e _ (by omega), e _ (by omega)]
      have hp2 : 2 ^ (v 2 + 1) = 2 * 2 ^ v 2 := by rw [Nat.pow_succ, Nat.mul_comm]
      by_cases c : b = v 2
      · rw [c]
        have h1 : 1 <<< v 2 = 2 ^ v 2 := by rw [Nat.one_shiftLeft]
        have h2 : 0 < 2 ^ v 2 := Nat.two_pow_pos _
        exact ⟨by omega, b1, by omega, by omega⟩
      · obtain ⟨u1, u2, u3, u4⟩ := wb b (by omega)
        exact ⟨u1, u2, u3, by omega⟩
    · unfold zup
      split
      · omega
      · exact wk k
    · rw [e 1 (by decide)] at hk
      rw [e 0 (by decide), e _ (by omega)]
      exact zh k hk
    · rw [e2] at hb
      rw [e _ (by omega), e _ (by omega)]
      by_cases c : b = v 2
      · rw [c]
        exact ⟨b0, b2⟩
      · exact zb b (by omega)
  · rcases a4 with h | h
    · rw [h]; exact hlt.2.2.2
    · have := K.2.1
      omega
end ZQ
set_option maxRecDepth 100000
set_option maxHeartbeats 1000000
/-! texts: a fair's clauses: half, buyer -/
section ZQ
variable {gs : hf_gs} {pa o nm : Nat} {B : Nat → Nat} {T : Nat} {g g0 : hf_H} {PV V Vp : hf_V} {a kc fa l1 d1 l2 d2 n : Nat} {p q : Nat → Nat} {v : Nat → Nat} {t5 t6 t8 : Bool}
/-- a new object is made -/
theorem zFS.nw (R : zFS gs pa o nm B T g PV V a kc fa l1 d1 l2 d2 p q v t5 t6 t8) (x : hf_C) {j : Nat} (hj : j ≤ 4) : zFS gs pa o nm B T (hf_nw g x j) PV V a kc fa l1 d1 l2 d2 p q v t5 t6 t8 ∧ hf_gk pa o g (hf_nw g x j) 1 := by
  obtain ⟨S, c, O, M, W⟩ := R
  obtain ⟨WV, w3⟩ := S.2.1.w3
  have K : hf_gk pa o g (hf_nw g x j) 1 := hf_gk.nw S.1 _ hj
  exact ⟨⟨S.gk K (S.2.1.nw S.1 _ _), c, O.gk K S.1 S.2.1.2.1 w3, M, W⟩, K⟩
/-- it is filled -/
theorem zFS.fill {g1 : hf_H} (R : zFS gs pa o nm B T g PV V a kc fa l1 d1 l2 d2 p q v t5 t6 t8) {x ci k : Nat} {U J PV1 WV1 : hf_V} (e : hf_ob 0 ci g x = some U) (h5 : ci = 6 ∨ ci = 7) (K : hf_gk pa o g1 g k) (N1 : hf_no g1) (e5 : hf_ob 0 5 g1 pa = some PV1) (e3 : hf_ob 0 3 g1 (o + 19) = some WV1) (hx : g1.2.1 ≤ x) (O1 : zFO g1 fa l1 d1 l2 d2 p q v t5 t6 t8) : zFS gs pa o nm B T (hf_up g x (.inl (0, ci, J))) PV V a kc fa l1 d1 l2 d2 p q v t5 t6 t8 ∧ hf_gk pa o g1 (hf_up g x (.inl (0, ci, J))) k := by
  obtain ⟨S, c, O, M, W⟩ := R
  have K2 : hf_gk pa o g1 (hf_up g x (.inl (0, ci, J))) k := K.up2 hx e _
  exact ⟨⟨S.up0 e (by omega) (by omega) J, c, O1.gk K2 N1 e5 e3, M, W⟩, K2⟩
theorem fair_half (hp : spX4_passWord Vp = some V) (hpa : Vp.2.2.2.1 7 = V.2.2.2.1 7) (R : zFS gs pa o nm B T g PV V a kc fa l1 d1 l2 d2 p q v t5 t6 t8) (hc : v 1 < 12) (x : Int32) (K : hf_gm pa o g0 g n) (hlt : g0.2.1 ≤ l1 ∧ g0.2.1 ≤ d1 ∧ g0.2.1 ≤ l2 ∧ g0.2.1 ≤ d2) : zFR gs pa o nm B T g0 V n a kc fa (spX5_half gs pa fa g) (spX4_isHalfHere x Vp) := by
  have ha := R.1.2.2.2.2.2.2.2.2.2.2.1
  obtain ⟨c, hcc⟩ : ∃ c, c = v 1 := ⟨_, rfl⟩
  have w0 := R.2.2.2.2.1.1.1
  have e1 : Vp.2.2.2.1 7 1 = Int32.ofNat c := by rw [hpa, R.2.2.2.1.1 1 (by decide) (by decide) (by decide) (by decide), hcc]
  have e0 : V.2.2.2.1 7 0 = Int32.ofNat (v 0) := R.2.2.2.1.1 0 (by decide) (by decide) (by decide) (by decide)
  have l86 : ∀ (U : hf_V), hf_ld 86 (U.2.2.2.1 7) (1 : Int32) = some (U.2.2.2.1 7 1) := fun U => z_ld (i := 1) (by decide) (by decide)
  have l0 : ∀ (U : hf_V), hf_ld 86 (U.2.2.2.1 7) (0 : Int32) = some (U.2.2.2.1 7 0) := fun U => z_ld (i := 0) (by decide) (by decide)
  have b4 : (10 : Int32) + (5 : Int32) * Int32.ofNat c = Int32.ofNat (10 + 5 * c) := by rw [z_lit, z_lit, z_mul, z_add]
  have i1 : Int32.ofNat (10 + 5 * c) + (1 : Int32) = Int32.ofNat (10 + 5 * c + 1) := z_add _ 1
  have i2 : Int32.ofNat (10 + 5 * c) + (2 : Int32) = Int32.ofNat (10 + 5 * c + 2) := z_add _ 2
  have i3 : Int32.ofNat (10 + 5 * c) + (3 : Int32) = Int32.ofNat (10 + 5 * c + 3) := z_add _ 3
  have i4 : Int32.ofNat (10 + 5 * c) + (4 : Int32) = Int32.ofNat (10 + 5 * c + 4) := z_add _ 4
  have e12 : ¬ (Int32.ofNat c = (12 : Int32)) := fun z => by
    have := (z_eq (b := 12) (by omega) (by decide)).mp z
    omega
  have hM : spX4_isHalfHere x Vp = hf_b2 (spX4_cellHere (Int32.ofNat (10 + 5 * c + 3)) (0 : Int32) (Int32.ofNat (v 0) - (1 : Int32)) V) fun x7 V6 =>
      if x7 = 0 then (some ((0 : Int32), V6)) else
      hf_b2 (spX4_cellHere (Int32.ofNat (10 + 5 * c)) (0 : Int32) (99 : Int32) V6) fun x9 V8 =>
      if x9 = 0 then (some ((0 : Int32), V8)) else
      hf_b2 (spX4_cellHere (Int32.ofNat (10 + 5 * c + 1)) (0 : Int32) (1 : Int32) V8) fun x11 V10 =>
      if x11 = 0 then (some ((0 : Int32), V10)) else
      hf_b2 (spX4_cellHere (Int32.ofNat (10 + 5 * c + 2)) (1 : Int32) (99 : Int32) V10) fun x13 V12 =>
      if x13 = 0 then (some ((0 : Int32), V12)) else
      hf_sd 86 (Int32.ofNat (10 + 5 * c + 4)) (fun j => hf_ua V12 7 j (0 : Int32)) fun V14 =>
      (hf_ld 86 (V14.2.2.2.1 7) (1 : Int32)).bind fun x15 =>
      hf_sd 86 (1 : Int32) (fun j => hf_ua V14 7 j (x15 + (1 : Int32))) fun V16 =>
      some ((1 : Int32), V16) := by
    unfold spX4_isHalfHere
    rw [l86, Option.bind_some, e1, if_neg e12, hp, Option.bind_some, l86, ← hpa, e1, Option.bind_some, b4, hf_let_eq, hpa, l0, e0, Option.bind_some, i1, i2, i3, i4]
  rw [hM]
  obtain ⟨FV, f1, f2, f3, f4, f5, f6, f7, f8, f9, f10⟩ := id R.2.2.1
  unfold spX5_half
  rw [hf_gi_eq f1, f9.1, Option.bind_some, R.1.2.1.pob]
  have fr : ∀ j, j < 5 → zfree v (10 + 5 * c + j) := fun j hj => Or.inl ⟨hc, by omega, by omega⟩
  -- the stall
  rcases xm_cell R (fr 3 (by decide)) 0 (Int32.ofNat (v 0) - 1) with ⟨g', V', cc, x1, x2, x3, x4, x5, x6, x7, x8, x9⟩ | ⟨n1, a1, g1, PV1, V1, x1, x2, x3, x4, x5, x6, x7, x8, x9, x10, R1⟩
  · rw [x1, hf_bT_inl, x2, hf_b2_some, if_pos rfl]
    exact zFR.fail K (K.mono (Nat.le_add_right n 0)) (by decide) ha rfl rfl x3 x4 x5 x6 x7 x8 x9
  rw [x1, hf_bT_inr, x2, hf_b2_some, if_neg (by decide), R1.1.2.1.pob]
  have m1 := z_lastlt x4 x5 (by omega)
  have K1 : hf_gm pa o g0 g1 n := (K.trans x9.gm).mono (by omega)
  obtain ⟨v1, hv1⟩ : ∃ y, y = zup v (10 + 5 * c + 3) n1 := ⟨_, rfl⟩
  rw [← hv1] at R1
  have u1 : ∀ j, j ≠ 10 + 5 * c + 3 → v1 j = v j := fun j hj => by rw [hv1, zup_ne _ hj]
  have u1' : v1 (10 + 5 * c + 3) = n1 := by rw [hv1, zup_at]
  have fr1 : ∀ j, j < 5 → zfree v1 (10 + 5 * c + j) := fun j hj => Or.inl ⟨by rw [u1 1 (by omega)]; exact hc, by rw [u1 1 (by omega)]; omega, by rw [u1 1 (by omega)]; omega⟩
  -- the shape
  rcases xm_cell R1 (fr1 0 (by decide)) 0 99 with ⟨g', V', cc, y1, y2, y3, y4, y5, y6, y7, y8, y9⟩ | ⟨n2, a2, g2, PV2, V2, y1, y2, y3, y4, y5, y6, y7, y8, y9, y10, R2⟩
  · rw [Nat.add_zero] at y2
    rw [y1, hf_bT_inl, y2, hf_b2_some, if_pos rfl]
    exact zFR.fail K (K1.mono (Nat.le_add_right n 0)) (by decide) ha rfl rfl y3 y4 y5 y6 y7 (x10.trans y8) y9
  rw [Nat.add_zero] at y2 R2
  rw [y1, hf_bT_inr, y2, hf_b2_some, if_neg (by decide), R2.1.2.1.pob]
  have m2 := z_lele (c := 0) (d := 99) y3 y4 y5 (by decide) (by decide)
  have K2 : hf_gm pa o g0 g2 n := (K1.trans y9.gm).mono (by omega)
  obtain ⟨v2, hv2⟩ : ∃ y, y = zup v1 (10 + 5 * c) n2 := ⟨_, rfl⟩
  rw [← hv2] at R2
  have u2 : ∀ j, j ≠ 10 + 5 * c → v2 j = v1 j := fun j hj => by rw [hv2, zup_ne _ hj]
  have u2' : v2 (10 + 5 * c) = n2 := by rw [hv2, zup_at]
  have fr2 : ∀ j, j < 5 → zfree v2 (10 + 5 * c + j) := fun j hj => Or.inl ⟨by rw [u2 1 (by omega), u1 1 (by omega)]; exact hc, by rw [u2 1 (by omega), u1 1 (by omega)]; omega, by rw [u2 1 (by omega), u1 1 (by omega)]; omega⟩
  -- the side
  rcases xm_cell R2 (fr2 1 (by decide)) 0 1 with ⟨g', V', cc, z1, z2, z3, z4, z5, z6, z7, z8, z9⟩ | ⟨n3, a3, g3, PV3, V3, z1, z2, z3, z4, z5, z6, z7, z8, z9, z10, R3⟩
  · rw [z1, hf_bT_inl, z2, hf_b2_some, if_pos rfl]
    exact zFR.fail K (K2.mono (Nat.le_add_right n 0)) (by decide) ha rfl rfl z3 z4 z5 z6 z7 ((x10.trans y10).trans z8) z9
  obtain ⟨FV3, h1, h2, _⟩ := id R3.2.2.1
  rw [z1, hf_bT_inr, z2, hf_b2_some, if_neg (by decide), hf_ga_eq h1, h2, Option.bind_some, hf_mk_eq]
  have m3 := z_lele (c := 0) (d := 1) z3 z4 z5 (by decide) (by decide)
  have K3 : hf_gm pa o g0 g3 n := (K2.trans z9.gm).mono (by omega)
  obtain ⟨v3, hv3⟩ : ∃ y, y = zup v2 (10 + 5 * c + 1) n3 := ⟨_, rfl⟩
  rw [← hv3] at R3
  have u3 : ∀ j, j ≠ 10 + 5 * c + 1 → v3 j = v2 j := fun j hj => by rw [hv3, zup_ne _ hj]
  have u3' : v3 (10 + 5 * c + 1) = n3 := by rw [hv3, zup_at]
  have v31 : v3 1 = c := by rw [u3 1 (by omega), u2 1 (by omega), u1 1 (by omega), hcc]
  have fr3 : ∀ j, j < 5 → zfree v3 (10 + 5 * c + j) := fun j hj => Or.inl ⟨by omega, by omega, by omega⟩
  obtain ⟨R4, K34⟩ := R3.nw (.inl (0, 6, hf_V0)) (j := 4) (by decide)
  obtain ⟨g4, hg4⟩ : ∃ y, y = hf_nw g3 (.inl (0, 6, hf_V0)) 4 := ⟨_, rfl⟩
  have e4 : hf_ob 0 6 g4 g3.2.1 = some hf_V0 := by rw [hg4]; exact ob_new g3 0 6 hf_V0 4
  rw [← hg4] at R4 K34
  rw [← hg4, R4.1.2.1.pob]
  have K4 : hf_gm pa o g0 g4 (n + 1) := K3.trans K34.gm
  -- the price
  rcases xm_cell R4 (fr3 2 (by decide)) 1 99 with ⟨g', V', cc, q1, q2, q3, q4, q5, q6, q7, q8, q9⟩ | ⟨n4, a4, g5, PV5, V5, q1, q2, q3, q4, q5, q6, q7, q8, q9, q10, R5⟩
  · rw [q1, hf_bT_inl, q2, hf_b2_some, if_pos rfl]
    exact zFR.fail K K4 (by decide) ha rfl rfl q3 q4 q5 q6 q7 (((x10.trans y10).trans z10).trans q8) q9
  have m4 := z_lele (c := 1) (d := 99) q3 q4 q5 (by decide) (by decide)
  obtain ⟨v5, hv5⟩ : ∃ y, y = zup v3 (10 + 5 * c + 2) n4 := ⟨_, rfl⟩
  rw [← hv5] at R5
  have u5 : ∀ j, j ≠ 10 + 5 * c + 2 → v5 j = v3 j := fun j hj => by rw [hv5, zup_ne _ hj]
  have u5' : v5 (10 + 5 * c + 2) = n4 := by rw [hv5, zup_at]
  have v51 : v5 1 = c := by rw [u5 1 (by omega), v31]
  obtain ⟨WV3, w33⟩ := R3.1.2.1.w3
  have hpa3 : pa < g3.2.1 := R3.1.1.olt R3.1.2.1.2.1
  have hw33 : o + 19 < g3.2.1 := R3.1.1.olt w33
  have e5 : hf_ob 0 6 g5 g3.2.1 = some hf_V0 := q9.ob R4.1.1 e4 (by omega) (by omega)
  have K35 : hf_gk pa o g3 g5 1 := (K34.trans q9).mono (by omega)
  obtain ⟨J, hJ⟩ : ∃ J, J = hf_ui (hf_ui (hf_ui (hf_ui hf_V0 0 (Int32.ofNat n1)) 1 (Int32.ofNat n2)) 2 (Int32.ofNat n3)) 3 (Int32.ofNat n4) := ⟨_, rfl⟩
  have O5 : zFO g3 fa l1 d1 l2 d2 p q v5 t5 t6 t8 := by rw [hv5]; exact R3.2.2.1.free R3.2.2.2.2 (fr3 2 (by decide))
  obtain ⟨R6, K36⟩ := R5.fill (J := J) e5 (Or.inl rfl) K35 R3.1.1 R3.1.2.1.2.1 w33 (Nat.le_refl _) O5
  obtain ⟨g6, hg6⟩ : ∃ y, y = hf_up g5 g3.2.1 (.inl (0, 6, J)) := ⟨_, rfl⟩
  have e6 : hf_ob 0 6 g6 g3.2.1 = some J := by rw [hg6]; exact hf_ob_up _ _ _ _ _
  rw [← hg6] at R6 K36
  have hin : spX6_init g3.2.1 (Int32.ofNat n1) (Int32.ofNat n2) (Int32.ofNat n3) (Int32.ofNat n4) g5 = some g6 := by
    unfold spX6_init spJ9_init
    rw [Option.bind_some, hf_pi_eq e5, Option.bind_some, hf_pi_eq (hf_ob_up _ _ _ _ _), Option.bind_some, hf_up_up, hf_pi_eq (hf_ob_up _ _ _ _ _), Option.bind_some, hf_up_up, hf_pi_eq (hf_ob_up _ _ _ _ _), Option.bind_some, hf_up_up, hg6, hJ]
  have R7 := R6.free (i := 10 + 5 * c + 4) (x := 0) (Or.inl ⟨by omega, by omega, by omega⟩) (by decide)
  obtain ⟨v7, hv7⟩ : ∃ y, y = zup v5 (10 + 5 * c + 4) 0 := ⟨_, rfl⟩
  rw [← hv7] at R7
  have u7 : ∀ j, j ≠ 10 + 5 * c + 4 → v7 j = v5 j := fun j hj => by rw [hv7, zup_ne _ hj]
  have u7' : v7 (10 + 5 * c + 4) = 0 := by rw [hv7, zup_at]
  have v71 : v7 1 = c := by rw [u7 1 (by omega), v51]
  have v70 : v7 0 = v 0 := by rw [u7 0 (by omega), u5 0 (by omega), u3 0 (by omega), u2 0 (by omega), u1 0 (by omega)]
  have J0 : J.1 0 = Int32.ofNat n1 := by rw [hJ, hf_ui_ne _ (by decide), hf_ui_ne _ (by decide), hf_ui_ne _ (by decide), hf_ui_at]
  have J1 : J.1 1 = Int32.ofNat n2 := by rw [hJ, hf_ui_ne _ (by decide), hf_ui_ne _ (by decide), hf_ui_at]
  have J2 : J.1 2 = Int32.ofNat n3 := by rw [hJ, hf_ui_ne _ (by decide), hf_ui_at]
  have J3 : J.1 3 = Int32.ofNat n4 := by rw [hJ, hf_ui_at]
  have t3 : v7 (10 + 5 * c + 3) = n1 := by rw [u7 _ (by omega), u5 _ (by omega), u3 _ (by omega), u2 _ (by omega), u1']
  have t0 : v7 (10 + 5 * c) = n2 := by rw [u7 _ (by omega), u5 _ (by omega), u3 _ (by omega), u2']
  have t1 : v7 (10 + 5 * c + 1) = n3 := by rw [u7 _ (by omega), u5 _ (by omega), u3']
  have t2 : v7 (10 + 5 * c + 2) = n4 := by rw [u7 _ (by omega), u5']
  have K6 : hf_gm pa o g0 g6 (n + 1) := K3.trans K36.gm
  obtain ⟨g7, d1', s1, s2, s3, s4⟩ := R7.addH (by omega) e6 (by rw [v71, t3]; exact J0) (by rw [v71, t0]; exact J1) (by rw [v71, t1]; exact J2) (by rw [v71, t2]; exact J3) (by rw [v71, t3, v70]; exact m1) (by rw [v71, t0]; omega) (by rw [v71, t1]; omega) (by rw [v71, t2]; omega) (by rw [v71, u7']) K6 hlt
  obtain ⟨FV6, f61, f62, f63, f64, f65, _⟩ := id R6.2.2.1
  have ob6 : ∀ (τ : Type) (K : Option τ), ((hf_ob 0 19 g6 l1).bind fun _ => K) = K := fun τ K => f65.L.ob K
  have m14 : (hf_ua V5 7 (10 + 5 * c + 4) (Int32.ofNat 0)).2.2.2.1 7 1 = Int32.ofNat c := by
    rw [hf_ua_at, if_neg (by omega), R5.2.2.2.1.1 1 (by decide) (by decide) (by decide) (by decide), v51]
  have z00 : (0 : Int32) = Int32.ofNat 0 := rfl
  have s1' : ∀ (U : hf_V) (y : Int32) (τ : Type) (k : hf_V → Option τ), hf_sd 86 (1 : Int32) (fun j => hf_ua U 7 j y) k = k (hf_ua U 7 1 y) := fun U y τ k => z_sd (i := 1) (by decide) (by decide)
  have a14 : Int32.ofNat c + (1 : Int32) = Int32.ofNat (v7 1 + 1) := by rw [v71]; exact z_add c 1
  rw [q1, hf_bT_inr, q2, hf_b2_some, if_neg (by decide), hin, Option.bind_some, ob6, s1, hf_b2_some, z_sd (by omega) (by omega), l86, z00, m14, Option.bind_some, a14, s1']
  exact Or.inr ⟨_, _, _, a4, l1, d1', l2, d2, _, q, _, t5, t6, t8, rfl, rfl, s2, by omega, ⟨hlt.1, s4, hlt.2.2⟩, s3.mono (by omega), ((((x10.trans y10).trans z10).trans q10).ua _ _).ua _ _⟩
theorem fair_buyer (hp : spX4_passWord Vp = some V) (hpa : Vp.2.2.2.1 7 = V.2.2.2.1 7) (R : zFS gs pa o nm B T g PV V a kc fa l1 d1 l2 d2 p q v t5 t6 t8) (hc : v 2 < 4) (x : Int32) (K : hf_gm pa o g0 g n) (hlt : g0.2.1 ≤ l1 ∧ g0.2.1 ≤ d1 ∧ g0.2.1 ≤ l2 ∧ g0.2.1 ≤ d2) : zFR gs pa o nm B T g0 V n a kc fa ((hf_ob 0 5 g pa).bind fun _ => hf_bT (spX5_number pa (0 : Int32) (999 : Int32) g) fun x8 g7 => (hf_ga 1 1 1 g7 fa).bind fun x9 => hf_mk g7 (.inl (0, 7, hf_V0)) 2 fun x10 g11 => (hf_gi 1 1 3 g11 fa).bind fun x12 => (hf_ob 0 5 g11 pa).bind fun _ => hf_bT (spX5_number pa (0 : Int32) (x12 - (1 : Int32)) g11) fun x14 g13 => (spX7_init x10 x8 x14 g13).bind fun g15 => (hf_ob 0 19 g15 x9).bind fun _ => hf_b2 (spJ2_add gs x9 x10 g15) fun x17 g16 => some (.inr (), g16)) (spX4_isBuyerHere x Vp) := by
  have ha := R.1.2.2.2.2.2.2.2.2.2.2.1
  obtain ⟨c, hcc⟩ : ∃ c, c = v 2 := ⟨_, rfl⟩
  have w0 := R.2.2.2.2.1.1.1
  have e1 : Vp.2.2.2.1 7 2 = Int32.ofNat c := by rw [hpa, R.2.2.2.1.1 2 (by decide) (by decide) (by decide) (by decide), hcc]
  have l86 : ∀ (U : hf_V), hf_ld 86 (U.2.2.2.1 7) (2 : Int32) = some (U.2.2.2.1 7 2) := fun U => z_ld (i := 2) (by decide) (by decide)
  have l0 : ∀ (U : hf_V), hf_ld 86 (U.2.2.2.1 7) (0 : Int32) = some (U.2.2.2.1 7 0) := fun U => z_ld (i := 0) (by decide) (by decide)
  have b4 : (70 : Int32) + (4 : Int32) * Int32.ofNat c = Int32.ofNat (70 + 4 * c) := by rw [z_lit, z_lit, z_mul, z_add]
  have i1 : Int32.ofNat (70 + 4 * c) + (1 : Int32) = Int32.ofNat (70 + 4 * c + 1) := z_add _ 1
  have i2 : Int32.ofNat (70 + 4 * c) + (2 : Int32) = Int32.ofNat (70 + 4 * c + 2) := z_add _ 2
  have i3 : Int32.ofNat (70 + 4 * c) + (3 : Int32) = Int32.ofNat (70 + 4 * c + 3) := z_add _ 3
  have e4 : ¬ (Int32.ofNat c = (4 : Int32)) := fun z => by
    have := (z_eq (b := 4) (by omega) (by decide)).mp z
    omega
  have hM : spX4_isBuyerHere x Vp = hf_b2 (spX4_cellHere (Int32.ofNat (70 + 4 * c)) (0 : Int32) (999 : Int32) V) fun x6 V5 =>
      if x6 = 0 then (some ((0 : Int32), V5)) else
      (hf_ld 86 (V5.2.2.2.1 7) (0 : Int32)).bind fun x7 =>
      hf_b2 (spX4_cellHere (Int32.ofNat (70 + 4 * c + 1)) (0 : Int32) (x7 - (1 : Int32)) V5) fun x9 V8 =>
      if x9 = 0 then (some ((0 : Int32), V8)) else
      hf_sd 86 (Int32.ofNat (70 + 4 * c + 2)) (fun j => hf_ua V8 7 j (0 : Int32)) fun V10 =>
      (hf_ld 86 (V10.2.2.2.1 7) (2 : Int32)).bind fun x11 =>
      hf_sd 86 (Int32.ofNat (70 + 4 * c + 3)) (fun j => hf_ua V10 7 j ((1 : Int32) <<< (x11 &&& 31))) fun V12 =>
      (hf_ld 86 (V12.2.2.2.1 7) (2 : Int32)).bind fun x13 =>
      hf_sd 86 (2 : Int32) (fun j => hf_ua V12 7 j (x13 + (1 : Int32))) fun V14 =>
      some ((1 : Int32), V14) := by
    unfold spX4_isBuyerHere
    rw [l86, Option.bind_some, e1, if_neg e4, hp, Option.bind_some, l86, ← hpa, e1, Option.bind_some, b4, hf_let_eq, i1, i2, i3]
  rw [hM, R.1.2.1.pob]
  have fr : ∀ j, j < 4 → zfree v (70 + 4 * c + j) := fun j hj => Or.inr ⟨hc, by omega, by omega⟩
  -- the purse
  rcases xm_cell R (fr 0 (by decide)) 0 999 with ⟨g', V', cc, x1, x2, x3, x4, x5, x6, x7, x8, x9⟩ | ⟨n1, a1, g1, PV1, V1, x1, x2, x3, x4, x5, x6, x7, x8, x9, x10, R1⟩
  · rw [Nat.add_zero] at x2
    rw [x1, hf_bT_inl, x2, hf_b2_some, if_pos rfl]
    exact zFR.fail K (K.mono (Nat.le_add_right n 0)) (by decide) ha rfl rfl x3 x4 x5 x6 x7 x8 x9
  rw [Nat.add_zero] at x2 R1
  have m1 := z_lele (c := 0) (d := 999) x3 x4 x5 (by decide) (by decide)
  have K1 : hf_gm pa o g0 g1 n := (K.trans x9.gm).mono (by omega)
  obtain ⟨v1, hv1⟩ : ∃ y, y = zup v (70 + 4 * c) n1 := ⟨_, rfl⟩
  rw [← hv1] at R1
  have u1 : ∀ j, j ≠ 70 + 4 * c → v1 j = v j := fun j hj => by rw [hv1, zup_ne _ hj]
  have u1' : v1 (70 + 4 * c) = n1 := by rw [hv1, zup_at]
  have v12 : v1 2 = c := by rw [u1 2 (by omega), hcc]
  have fr1 : ∀ j, j < 4 → zfree v1 (70 + 4 * c + j) := fun j hj => Or.inr ⟨by omega, by omega, by omega⟩
  obtain ⟨FV1, h1, h2, h3, _, _, _, _, _, h9, _⟩ := id R1.2.2.1
  obtain ⟨R4, K34⟩ := R1.nw (.inl (0, 7, hf_V0)) (j := 2) (by decide)
  obtain ⟨g4, hg4⟩ : ∃ y, y = hf_nw g1 (.inl (0, 7, hf_V0)) 2 := ⟨_, rfl⟩
  have e4 : hf_ob 0 7 g4 g1.2.1 = some hf_V0 := by rw [hg4]; exact ob_new g1 0 7 hf_V0 2
  rw [← hg4] at R4 K34
  obtain ⟨FV4, k1, k2, k3, _, _, _, _, _, k9, _⟩ := id R4.2.2.1
  have r0 : V1.2.2.2.1 7 0 = Int32.ofNat (v1 0) := R1.2.2.2.1.1 0 (by decide) (by decide) (by decide) (by decide)
  rw [x1, hf_bT_inr, x2, hf_b2_some, if_neg (by decide), hf_ga_eq h1, h3, Option.bind_some, hf_mk_eq, ← hg4, hf_gi_eq k1, k9.1, Option.bind_some, R4.1.2.1.pob, l0, r0, Option.bind_some]
  have K4 : hf_gm pa o g0 g4 (n + 1) := K1.trans K34.gm
  have w10 : v1 0 < 1000 := by
    rw [u1 0 (by omega)]
    omega
  -- the spot
  rcases xm_cell R4 (fr1 1 (by decide)) 0 (Int32.ofNat (v1 0) - 1) with ⟨g', V', cc, q1, q2, q3, q4, q5, q6, q7, q8, q9⟩ | ⟨n2, a2, g5, PV5, V5, q1, q2, q3, q4, q5, q6, q7, q8, q9, q10, R5⟩
  · rw [q1, hf_bT_inl, q2, hf_b2_some, if_pos rfl]
    exact zFR.fail K K4 (by decide) ha rfl rfl q3 q4 q5 q6 q7 (x10.trans q8) q9
  have m2 := z_lastlt q4 q5 w10
  obtain ⟨v5, hv5⟩ : ∃ y, y = zup v1 (70 + 4 * c + 1) n2 := ⟨_, rfl⟩
  rw [← hv5] at R5
  have u5 : ∀ j, j ≠ 70 + 4 * c + 1 → v5 j = v1 j := fun j hj => by rw [hv5, zup_ne _ hj]
  have u5' : v5 (70 + 4 * c + 1) = n2 := by rw [hv5, zup_at]
  have v52 : v5 2 = c := by rw [u5 2 (by omega), v12]
  obtain ⟨WV1, w31⟩ := R1.1.2.1.w3
  have hpa1 : pa < g1.2.1 := R1.1.1.olt R1.1.2.1.2.1
  have hw31 : o + 19 < g1.2.1 := R1.1.1.olt w31
  have e5 : hf_ob 0 7 g5 g1.2.1 = some hf_V0 := q9.ob R4.1.1 e4 (by omega) (by omega)
  have K35 : hf_gk pa o g1 g5 1 := (K34.trans q9).mono (by omega)
  obtain ⟨J, hJ⟩ : ∃ J, J = hf_ui (hf_ui hf_V0 0 (Int32.ofNat n1)) 1 (Int32.ofNat n2) := ⟨_, rfl⟩
  have O5 : zFO g1 fa l1 d1 l2 d2 p q v5 t5 t6 t8 := by rw [hv5]; exact R1.2.2.1.free R1.2.2.2.2 (fr1 1 (by decide))
  obtain ⟨R6, K36⟩ := R5.fill (J := J) e5 (Or.inr rfl) K35 R1.1.1 R1.1.2.1.2.1 w31 (Nat.le_refl _) O5
  obtain ⟨g6, hg6⟩ : ∃ y, y = hf_up g5 g1.2.1 (.inl (0, 7, J)) := ⟨_, rfl⟩
  have e6 : hf_ob 0 7 g6 g1.2.1 = some J := by rw [hg6]; exact hf_ob_up _ _ _ _ _
  rw [← hg6] at R6 K36
  have hin : spX7_init g1.2.1 (Int32.ofNat n1) (Int32.ofNat n2) g5 = some g6 := by
    unfold spX7_init spJ9_init
    rw [Option.bind_some, hf_pi_eq e5, Option.bind_some, hf_pi_eq (hf_ob_up _ _ _ _ _), Option.bind_some, hf_up_up, hg6, hJ]
  have hs3 : 1 <<< c < 16777216 := by
    rcases (show c = 0 ∨ c = 1 ∨ c = 2 ∨ c = 3 by omega) with h | h | h | h <;> rw [h] <;> decide
  have R7 := (R6.free (i := 70 + 4 * c + 2) (x := 0) (Or.inr ⟨by omega, by omega, by omega⟩) (by decide)).free (i := 70 + 4 * c + 3) (x := 1 <<< c) (Or.inr ⟨by rw [zup_ne _ (by omega)]; omega, by rw [zup_ne _ (by omega)]; omega, by rw [zup_ne _ (by omega)]; omega⟩) hs3
  obtain ⟨v7, hv7⟩ : ∃ y, y = zup (zup v5 (70 + 4 * c + 2) 0) (70 + 4 * c + 3) (1 <<< c) := ⟨_, rfl⟩
  rw [← hv7] at R7
  have u7 : ∀ j, j ≠ 70 + 4 * c + 2 → j ≠ 70 + 4 * c + 3 → v7 j = v5 j := fun j h2 h3 => by rw [hv7, zup_ne _ h3, zup_ne _ h2]
  have v72 : v7 2 = c := by rw [u7 2 (by omega) (by omega), v52]
  have v70 : v7 0 = v1 0 := by rw [u7 0 (by omega) (by omega), u5 0 (by omega)]
  have t0 : v7 (70 + 4 * c) = n1 := by rw [u7 _ (by omega) (by omega), u5 _ (by omega), u1']
  have t1 : v7 (70 + 4 * c + 1) = n2 := by rw [u7 _ (by omega) (by omega), u5']
  have t2 : v7 (70 + 4 * c + 2) = 0 := by rw [hv7, zup_ne _ (by omega), zup_at]
  have t3 : v7 (70 + 4 * c + 3) = 1 <<< c := by rw [hv7, zup_at]
  have J0 : J.1 0 = Int32.ofNat n1 := by rw [hJ, hf_ui_ne _ (by decide), hf_ui_at]
  have J1 : J.1 1 = Int32.ofNat n2 := by rw [hJ, hf_ui_at]
  have K6 : hf_gm pa o g0 g6 (n + 1) := K1.trans K36.gm
  obtain ⟨g7, d2', s1, s2, s3, s4⟩ := R7.addB (by omega) e6 (by rw [v72, t0]; exact J0) (by rw [v72, t1]; exact J1) (by rw [v72, t0]; omega) (by rw [v72, t1, v70]; exact m2) (by rw [v72, t2]) (by rw [v72, t3]) K6 hlt
  obtain ⟨FV6, f61, f62, f63, f64, f65, f66, _⟩ := id R6.2.2.1
  have ob6 : ∀ (τ : Type) (K : Option τ), ((hf_ob 0 19 g6 l2).bind fun _ => K) = K := fun τ K => f66.L.ob K
  have m14 : (hf_ua V5 7 (70 + 4 * c + 2) (Int32.ofNat 0)).2.2.2.1 7 2 = Int32.ofNat c := by
    rw [hf_ua_at, if_neg (by omega), R5.2.2.2.1.1 2 (by decide) (by decide) (by decide) (by decide), v52]
  have m15 : (hf_ua (hf_ua V5 7 (70 + 4 * c + 2) (Int32.ofNat 0)) 7 (70 + 4 * c + 3) (Int32.ofNat (1 <<< c))).2.2.2.1 7 2 = Int32.ofNat c := by
    rw [hf_ua_at, if_neg (by omega)]
    exact m14
  have z00 : (0 : Int32) = Int32.ofNat 0 := rfl
  have s1' : ∀ (U : hf_V) (y : Int32) (τ : Type) (k : hf_V → Option τ), hf_sd 86 (2 : Int32) (fun j => hf_ua U 7 j y) k = k (hf_ua U 7 2 y) := fun U y τ k => z_sd (i := 2) (by decide) (by decide)
  have a14 : Int32.ofNat c + (1 : Int32) = Int32.ofNat (v7 2 + 1) := by rw [v72]; exact z_add c 1
  rw [q1, hf_bT_inr, q2, hf_b2_some, if_neg (by decide), hin, Option.bind_some, ob6, s1, hf_b2_some, z_sd (by omega) (by omega), l86, z00, m14, Option.bind_some, z_sh1 (by omega), z_sd (by omega) (by omega), l86, m15, Option.bind_some, a14, s1']
  exact Or.inr ⟨_, _, _, a2, l1, d1, l2, d2', p, _, _, t5, t6, t8, rfl, rfl, s2, by omega, ⟨hlt.1, hlt.2.1, hlt.2.2.1, s4⟩, s3.mono (by omega), (((x10.trans q10).ua _ _).ua _ _).ua _ _⟩
end ZQ
set_option maxRecDepth 100000
set_option maxHeartbeats 1000000
/-! texts: a fair's clauses: club -/
/-- the first m of one club know all -/
def zjw (v : Nat → Nat) (all m : Nat) : Nat → Nat := fun j => if (73 ≤ j ∧ (j - 73) % 4 = 0) ∧ (j - 73) / 4 < m ∧ all.testBit ((j - 73) / 4) = true then all else v j
theorem zjw_lo {v : Nat → Nat} {all m j : Nat} (h : j < 73 ∨ (j - 73) % 4 ≠ 0) : zjw v all m j = v j := if_neg (fun z => by omega)
theorem zjw_at (v : Nat → Nat) (all m b : Nat) : zjw v all m (70 + 4 * b + 3) = if b < m ∧ all.testBit b = true then all else v (70 + 4 * b + 3) := by
  unfold zjw
  have e : (70 + 4 * b + 3 - 73) / 4 = b := by omega
  rw [e]
  by_cases c : b < m ∧ all.testBit b = true
  · rw [if_pos ⟨⟨by omega, by omega⟩, c⟩, if_pos c]
  · rw [if_neg (fun z => c z.2), if_neg c]
theorem zjw_step (v : Nat → Nat) (all i j : Nat) : zjw v all (i + 1) j = if j = 70 + 4 * i + 3 ∧ all.testBit i = true then all else zjw v all i j := by
  by_cases c : j = 70 + 4 * i + 3
  · subst c
    rw [zjw_at, zjw_at]
    by_cases t : all.testBit i = true
    · rw [if_pos ⟨by omega, t⟩, if_pos ⟨rfl, t⟩]
    · rw [if_neg (fun z => t z.2), if_neg (fun z => t z.2), if_neg (fun z => t z.2)]
  · rw [if_neg (fun z => c z.1)]
    unfold zjw
    by_cases d : (73 ≤ j ∧ (j - 73) % 4 = 0) ∧ (j - 73) / 4 < i ∧ all.testBit ((j - 73) / 4) = true
    · rw [if_pos d, if_pos ⟨d.1, by omega, d.2.2⟩]
    · rw [if_neg d, if_neg (fun z => d ⟨z.1, by omega, z.2.2⟩)]
theorem zFW.join {v : Nat → Nat} (W : zFW v) {all m : Nat} (h : all < 2 ^ v 2) : zFW (zjw v all m) := by
  obtain ⟨⟨⟨w0, w1, w2, w3, w4, w5, w6, w7, w8, w9⟩, wh, wb, wk⟩, z3, zh, zb⟩ := W
  have e : ∀ j, j < 73 ∨ (j - 73) % 4 ≠ 0 → zjw v all m j = v j := fun j hj => zjw_lo hj
  have h16 : 2 ^ v 2 ≤ 16 := by
    rcases (show v 2 = 0 ∨ v 2 = 1 ∨ v 2 = 2 ∨ v 2 = 3 ∨ v 2 = 4 by omega) with c | c | c | c | c <;> rw [c] <;> decide
  refine ⟨⟨?_, fun k hk => ?_, fun b hb => ?_, fun k => ?_⟩, by rw [e 3 (by omega)]; exact z3, fun k hk => ?_, fun b hb => ?_⟩
  · rw [e 0 (by omega), e 1 (by omega), e 2 (by omega), e 3 (by omega), e 4 (by omega), e 5 (by omega), e 6 (by omega), e 7 (by omega), e 8 (by omega)]
    exact ⟨w0, w1, w2, w3, w4, w5, w6, w7, w8, w9⟩
  · rw [e 1 (by omega)] at hk
    rw [e 0 (by omega), e (10 + 5 * k + 0) (by omega), e (10 + 5 * k + 1) (by omega), e (10 + 5 * k + 2) (by omega), e (10 + 5 * k + 3) (by omega), e (10 + 5 * k + 4) (by omega)]
    exact wh k hk
  · rw [e 2 (by omega)] at hb
    rw [e 0 (by omega), e 2 (by omega), e (70 + 4 * b) (by omega), e (70 + 4 * b + 1) (by omega), e (70 + 4 * b + 2) (by omega), zjw_at]
    obtain ⟨u1, u2, u3, u4⟩ := wb b hb
    refine ⟨u1, u2, u3, ?_⟩
    split
    · exact h
    · exact u4
  · unfold zjw
    split
    · omega
    · exact wk k
  · rw [e 1 (by omega)] at hk
    rw [e 0 (by omega), e (10 + 5 * k + 3) (by omega)]
    exact zh k hk
  · rw [e 2 (by omega)] at hb
    rw [e (70 + 4 * b) (by omega), e (70 + 4 * b + 2) (by omega)]
    exact zb b hb
section ZX
variable {g : hf_H} {fa all : Nat} {FV : hf_V}
theorem x_joinsL (e : hf_ob 1 1 g fa = some FV) (h : all < 16) : ∃ FV', lpX1_joins_17 hf_N fa (Int32.ofNat all) (Int32.ofNat 0) g = some (hf_up g fa (.inl (1, 1, FV'))) ∧ FV'.1 = FV.1 ∧ FV'.2.2.1 = FV.2.2.1 ∧ ∀ b, b < 4 → FV'.2.2.2.1 2 b = if all.testBit b = true then Int32.ofNat all else FV.2.2.2.1 2 b := by
  have hself : g = hf_up g fa (.inl (1, 1, FV)) := (hf_up_self e).symm
  have key : ∃ FV', lpX1_joins_17 hf_N fa (Int32.ofNat all) (Int32.ofNat 0) (hf_up g fa (.inl (1, 1, FV))) = some (hf_up g fa (.inl (1, 1, FV'))) ∧ FV'.1 = FV.1 ∧ FV'.2.2.1 = FV.2.2.1 ∧ ∀ b, b < 4 → FV'.2.2.2.1 2 b = if all.testBit b = true then Int32.ofNat all else FV.2.2.2.1 2 b := by
    refine hf_loopR (fun n i Y => lpX1_joins_17 n fa (Int32.ofNat all) (Int32.ofNat i) (hf_up g fa (.inl (1, 1, Y)))) (fun i Y => Y.1 = FV.1 ∧ Y.2.2.1 = FV.2.2.1 ∧ ∀ b, b < 4 → Y.2.2.2.1 2 b = if b < i ∧ all.testBit b = true then Int32.ofNat all else FV.2.2.2.1 2 b) 4 (fun r => ∃ FV', r = some (hf_up g fa (.inl (1, 1, FV'))) ∧ FV'.1 = FV.1 ∧ FV'.2.2.1 = FV.2.2.1 ∧ ∀ b, b < 4 → FV'.2.2.2.1 2 b = if all.testBit b = true then Int32.ofNat all else FV.2.2.2.1 2 b) (fun i n Y hi hP => ?_) (fun n Y hP => ?_) FV ⟨rfl, rfl, fun b _ => by rw [if_neg (fun z => by omega)]⟩ (fuel := hf_N) (by unfold hf_N; omega)
    · obtain ⟨y1, y2, y3⟩ := hP
      have a1 : Int32.ofNat i + (1 : Int32) = Int32.ofNat (i + 1) := z_add i 1
      have fo : hf_ob 1 1 (hf_up g fa (.inl (1, 1, Y))) fa = some Y := hf_ob_up g fa 1 1 Y
      have hst : lpX1_joins_17 (n + 1) fa (Int32.ofNat all) (Int32.ofNat i) (hf_up g fa (.inl (1, 1, Y))) = if all.testBit i = true then lpX1_joins_17 n fa (Int32.ofNat all) (Int32.ofNat (i + 1)) (hf_up g fa (.inl (1, 1, hf_ua Y 2 i (Int32.ofNat all)))) else lpX1_joins_17 n fa (Int32.ofNat all) (Int32.ofNat (i + 1)) (hf_up g fa (.inl (1, 1, Y))) := by
        show ndX1_joins_17 (lpX1_joins_17 n) _ _ _ _ = _
        unfold ndX1_joins_17 ndX1_joins_40
        rw [show (4 : Int32) = Int32.ofNat 4 from rfl, if_neg (z_nle (by omega) (by omega)), x_has (by omega) (by omega), Option.bind_some]
        by_cases t : all.testBit i = true
        · rw [if_pos t, if_neg zz10, if_pos t, fo, Option.bind_some, hf_si_eq fo 2 hi (by omega), Option.bind_some, hf_up_up, hf_let_eq, a1]
        · rw [if_neg t, if_pos zz00, if_neg t, hf_let_eq, a1]
      by_cases t : all.testBit i = true
      · refine ⟨hf_ua Y 2 i (Int32.ofNat all), by show lpX1_joins_17 (n + 1) _ _ _ _ = _; rw [hst, if_pos t], y1, y2, fun b hb => ?_⟩
        rw [hf_ua_at]
        by_cases c : b = i
        · rw [if_pos c, if_pos ⟨by omega, by rw [c]; exact t⟩]
        · rw [if_neg c, y3 b hb]
          by_cases d : b < i ∧ all.testBit b = true
          · rw [if_pos d, if_pos ⟨by omega, d.2⟩]
          · rw [if_neg d, if_neg (fun z => d ⟨by omega, z.2⟩)]
      · refine ⟨Y, by show lpX1_joins_17 (n + 1) _ _ _ _ = _; rw [hst, if_neg t], y1, y2, fun b hb => ?_⟩
        rw [y3 b hb]
        by_cases d : b < i ∧ all.testBit b = true
        · rw [if_pos d, if_pos ⟨by omega, d.2⟩]
        · rw [if_neg d, if_neg (fun z => by
            by_cases c : b = i
            · subst c
              exact t z.2
            · exact d ⟨by omega, z.2⟩)]
    · obtain ⟨y1, y2, y3⟩ := hP
      refine ⟨Y, ?_, y1, y2, fun b hb => ?_⟩
      · show ndX1_joins_17 (lpX1_joins_17 n) _ _ _ _ = _
        unfold ndX1_joins_17
        rw [if_pos (by decide)]
      · rw [y3 b hb]
        by_cases d : all.testBit b = true
        · rw [if_pos d, if_pos ⟨hb, d⟩]
        · rw [if_neg d, if_neg (fun z => d z.2)]
  rw [← hself] at key
  exact key
end ZX
section ZM
variable {V : hf_V} {v : Nat → Nat} {all : Nat}
theorem m_joinsL (hR : ∀ j, 9 ≤ j → V.2.2.2.1 7 j = Int32.ofNat (v j)) (h2 : V.2.2.2.1 7 2 = Int32.ofNat (v 2)) (hv : v 2 ≤ 4) (h : all < 16) : ∃ V', lpX4_isClubHere_104 hf_N (Int32.ofNat all) (Int32.ofNat 0) V = some (1, V') ∧ V'.1 = V.1 ∧ (∀ j, j ≠ 7 → V'.2.2.2.1 j = V.2.2.2.1 j) ∧ (∀ j, j < 9 → V'.2.2.2.1 7 j = V.2.2.2.1 7 j) ∧ ∀ j, 9 ≤ j → V'.2.2.2.1 7 j = Int32.ofNat (zjw v all (v 2) j) := by
  refine hf_loopR (fun n i Y => lpX4_isClubHere_104 n (Int32.ofNat all) (Int32.ofNat i) Y) (fun i (Y : hf_V) => Y.1 = V.1 ∧ (∀ j, j ≠ 7 → Y.2.2.2.1 j = V.2.2.2.1 j) ∧ (∀ j, j < 9 → Y.2.2.2.1 7 j = V.2.2.2.1 7 j) ∧ ∀ j, 9 ≤ j → Y.2.2.2.1 7 j = Int32.ofNat (zjw v all i j)) (v 2) (fun r => ∃ V', r = some (1, V') ∧ V'.1 = V.1 ∧ (∀ j, j ≠ 7 → V'.2.2.2.1 j = V.2.2.2.1 j) ∧ (∀ j, j < 9 → V'.2.2.2.1 7 j = V.2.2.2.1 7 j) ∧ ∀ j, 9 ≤ j → V'.2.2.2.1 7 j = Int32.ofNat (zjw v all (v 2) j)) (fun i n Y hi hP => ?_) (fun n Y hP => ?_) V ⟨rfl, fun _ _ => rfl, fun _ _ => rfl, fun j hj => ?_⟩ (fuel := hf_N) (by unfold hf_N; omega)
  · obtain ⟨y1, y2, y3, y4⟩ := hP
    have a1 : Int32.ofNat i + (1 : Int32) = Int32.ofNat (i + 1) := z_add i 1
    have l2 : hf_ld 86 (Y.2.2.2.1 7) (2 : Int32) = some (Int32.ofNat (v 2)) := by
      have : hf_ld 86 (Y.2.2.2.1 7) (2 : Int32) = some (Y.2.2.2.1 7 2) := z_ld (i := 2) (by decide) (by decide)
      rw [this, y3 2 (by decide), h2]
    have b3 : (70 : Int32) + (4 : Int32) * Int32.ofNat i + (3 : Int32) = Int32.ofNat (70 + 4 * i + 3) := by rw [z_lit, z_lit, z_lit, z_mul, z_add, z_add]
    have hst : lpX4_isClubHere_104 (n + 1) (Int32.ofNat all) (Int32.ofNat i) Y = if all.testBit i = true then lpX4_isClubHere_104 n (Int32.ofNat all) (Int32.ofNat (i + 1)) (hf_ua Y 7 (70 + 4 * i + 3) (Int32.ofNat all)) else lpX4_isClubHere_104 n (Int32.ofNat all) (Int32.ofNat (i + 1)) Y := by
      show ndX4_isClubHere_104 (lpX4_isClubHere_104 n) _ _ _ = _
      unfold ndX4_isClubHere_104 ndX4_isClubHere_139
      rw [l2, Option.bind_some, if_neg (z_nle hi (by omega)), m_isOf (by omega) (by omega), Option.bind_some]
      by_cases t : all.testBit i = true
      · rw [if_pos t, if_neg zz10, if_pos t, b3, z_sd (by omega) (by omega), hf_let_eq, a1]
      · rw [if_neg t, if_pos zz00, if_neg t, hf_let_eq, a1]
    by_cases t : all.testBit i = true
    · refine ⟨hf_ua Y 7 (70 + 4 * i + 3) (Int32.ofNat all), by show lpX4_isClubHere_104 (n + 1) _ _ _ = _; rw [hst, if_pos t], y1, fun j hj => by rw [hf_ua_ne _ hj]; exact y2 j hj, fun j hj => by rw [hf_ua_at, if_neg (by omega)]; exact y3 j hj, fun j hj => ?_⟩
      rw [hf_ua_at, zjw_step]
      by_cases c : j = 70 + 4 * i + 3
      · rw [if_pos c, if_pos ⟨c, t⟩]
      · rw [if_neg c, if_neg (fun z => c z.1), y4 j hj]
    · refine ⟨Y, by show lpX4_isClubHere_104 (n + 1) _ _ _ = _; rw [hst, if_neg t], y1, y2, y3, fun j hj => ?_⟩
      rw [zjw_step, if_neg (fun z => t z.2), y4 j hj]
  · obtain ⟨y1, y2, y3, y4⟩ := hP
    refine ⟨Y, ?_, y1, y2, y3, y4⟩
    have l2 : hf_ld 86 (Y.2.2.2.1 7) (2 : Int32) = some (Int32.ofNat (v 2)) := by
      have : hf_ld 86 (Y.2.2.2.1 7) (2 : Int32) = some (Y.2.2.2.1 7 2) := z_ld (i := 2) (by decide) (by decide)
      rw [this, y3 2 (by decide), h2]
    show ndX4_isClubHere_104 (lpX4_isClubHere_104 n) _ _ _ = _
    unfold ndX4_isClubHere_104
    rw [l2, Option.bind_some, if_pos (z_yle (Nat.le_refl _) (by omega))]
  · rw [hR j hj]
    unfold zjw
    rw [if_neg (fun z => by omega)]
end ZM
section ZQ
variable {gs : hf_gs} {pa o nm : Nat} {B : Nat → Nat} {T : Nat} {g g0 : hf_H} {PV V Vp : hf_V} {a kc fa l1 d1 l2 d2 n : Nat} {p q : Nat → Nat} {v : Nat → Nat} {t5 t6 t8 : Bool}
theorem zFS.at_ (R : zFS gs pa o nm B T g PV V a kc fa l1 d1 l2 d2 p q v t5 t6 t8) {a' : Nat} (h : a' ≤ T) : zFS gs pa o nm B T (hf_pc g pa (hf_ui PV 1 (Int32.ofNat a'))) (hf_ui PV 1 (Int32.ofNat a')) (hf_ui V 8 (Int32.ofNat a')) a' kc fa l1 d1 l2 d2 p q v t5 t6 t8 := by
  obtain ⟨S, ⟨c4, c5, c14, c11, hk⟩, O, M, W⟩ := R
  obtain ⟨WV, w3⟩ := S.2.1.w3
  exact ⟨S.at_ h, ⟨by rw [hf_ui_ne _ (by decide)]; exact c4, by rw [hf_ui_ne _ (by decide)]; exact c5, by rw [hf_ui_ne _ (by decide)]; exact c14, by rw [hf_ui_ne _ (by decide)]; exact c11, hk⟩, O.gk (hf_gk.pc S.1 S.2.1.2.1 _) S.1 S.2.1.2.1 w3, M, W⟩
theorem fair_club (hp : spX4_passWord Vp = some V) (R : zFS gs pa o nm B T g PV V a kc fa l1 d1 l2 d2 p q v t5 t6 t8) (K : hf_gm pa o g0 g n) (hfa : g0.2.1 ≤ fa) (hlt : g0.2.1 ≤ l1 ∧ g0.2.1 ≤ d1 ∧ g0.2.1 ≤ l2 ∧ g0.2.1 ≤ d2) : zFR gs pa o nm B T g0 V n a kc fa (spX5_club pa fa g) (spX4_isClubHere Vp) := by
  have ha := R.1.2.2.2.2.2.2.2.2.2.2.1
  have w2 := R.2.2.2.2.1.1.2.2.1
  obtain ⟨FV0, f1, f2, f3, f4, f5, f6, f7, f8, f9, f10⟩ := id R.2.2.1
  have l86 : ∀ (U : hf_V), hf_ld 86 (U.2.2.2.1 7) (2 : Int32) = some (U.2.2.2.1 7 2) := fun U => z_ld (i := 2) (by decide) (by decide)
  have ob1 : ∀ (τ : Type) (K : Option τ), ((hf_ob 0 19 g l2).bind fun _ => K) = K := fun τ K => f6.L.ob K
  have r2 : V.2.2.2.1 7 2 = Int32.ofNat (v 2) := R.2.2.2.1.1 2 (by decide) (by decide) (by decide) (by decide)
  unfold spX5_club spX4_isClubHere
  rw [hf_ga_eq f1, f3, Option.bind_some, ob1, f6.L.size, hf_b2_some, R.1.2.1.pob, hp, Option.bind_some, l86, r2, Option.bind_some]
  rcases xm_num R.1 0 (Int32.ofNat (v 2) - 1) with ⟨g', V', c, x1, x2, x3, x4, x5, x6, x7, x8, x9⟩ | ⟨n1, a1, x1, x2, x3, x4, x5, x6, x7, x8⟩
  · rw [x1, hf_bT_inl, x2, hf_b2_some, if_pos rfl]
    exact zFR.fail K (K.mono (Nat.le_add_right n 0)) (by decide) ha rfl rfl x3 x4 x5 x6 x7 x8 (fun k hk => by
      rw [x9]
      exact (R.2.2.2.1.h7 R.2.2.2.2) k hk)
  have R1 := R.num x8
  have hn1 := z_lastlt x4 x5 (by omega)
  obtain ⟨PV1, hPV1⟩ : ∃ y, y = hf_ui PV 1 (Int32.ofNat a1) := ⟨_, rfl⟩
  obtain ⟨g1, hg1⟩ : ∃ y, y = hf_pc g pa PV1 := ⟨_, rfl⟩
  obtain ⟨V1, hV1⟩ : ∃ y, y = hf_ui (hf_ui V 8 (Int32.ofNat a1)) 10 (Int32.ofNat n1) := ⟨_, rfl⟩
  have hV10 : V1.1 10 = Int32.ofNat n1 := by rw [hV1, hf_ui_at]
  rw [← hPV1, ← hg1, ← hV1] at R1
  rw [← hPV1, ← hg1] at x1
  rw [← hV1] at x2
  have K01 : hf_gk pa o g g1 0 := by rw [hg1]; exact hf_gk.pc R.1.1 R.1.2.1.2.1 _
  have K1 : hf_gm pa o g0 g1 n := (K.trans K01.gm).mono (by omega)
  have Z1 : zvf V V1 := by rw [hV1]; exact ((zvf.rfl_ V).ui (by omega) _).ui (by omega) _
  obtain ⟨N1, P1, _, q1, _, _, mt1, v18, _⟩ := id R1.1
  have hs2 := (zsk_le (B := B) x7).2
  have R2 := R1.at_ hs2
  have xn := x_next P1 q1 x7
  have ms := m_see mt1 v18 x7
  obtain ⟨p2, hp2⟩ : ∃ y, y = zsk B T a1 := ⟨_, rfl⟩
  have hs1 := (zsk_le (B := B) x7).1
  rw [← hp2] at R2 xn ms hs2 hs1
  obtain ⟨PV2, hPV2⟩ : ∃ y, y = hf_ui PV1 1 (Int32.ofNat p2) := ⟨_, rfl⟩
  obtain ⟨g2, hg2⟩ : ∃ y, y = hf_pc g1 pa PV2 := ⟨_, rfl⟩
  obtain ⟨V2, hV2⟩ : ∃ y, y = hf_ui V1 8 (Int32.ofNat p2) := ⟨_, rfl⟩
  rw [← hPV2, ← hg2, ← hV2] at R2
  rw [← hPV2, ← hg2] at xn
  rw [← hV2] at ms
  have K12 : hf_gk pa o g1 g2 0 := by rw [hg2]; exact hf_gk.pc N1 P1.2.1 _
  have K2 : hf_gm pa o g0 g2 n := (K1.trans K12.gm).mono (by omega)
  have Z2 : zvf V V2 := by rw [hV2]; exact Z1.ui (by omega) _
  obtain ⟨FV2, h1, h2, h3, h4, h5, h6, h7, h8, h9, h10⟩ := id R2.2.2.1
  have ob2 : ∀ (τ : Type) (K : Option τ), ((hf_ob 0 19 g2 l2).bind fun _ => K) = K := fun τ K => h6.L.ob K
  have r22 : V2.2.2.2.1 7 2 = Int32.ofNat (v 2) := R2.2.2.2.1.1 2 (by decide) (by decide) (by decide) (by decide)
  have P2 := R2.1.2.1
  have q2 : PV2.1 1 = Int32.ofNat p2 := by rw [hPV2, hf_ui_at]
  have v28 : V2.1 8 = Int32.ofNat p2 := by rw [hV2, hf_ui_at]
  rw [x1, hf_bT_inr, x2, hf_b2_some, if_neg (by decide), P1.pob, xn, hf_b2_some, P2.gi, Option.bind_some, q2, hf_ga_eq h1, h3, Option.bind_some, ob2, h6.L.size, hf_b2_some, P2.pob, hf_let_eq, hV10, ms, hf_b2_some, hf_let_eq, v28, l86, r22, Option.bind_some]
  rcases xm_num R2.1 0 (Int32.ofNat (v 2) - 1) with ⟨g', V', c, x1, x2, x3, x4, x5, x6, x7, x8, x9⟩ | ⟨n2, a2, y1, y2, y3, y4, y5, y6, y7, y8⟩
  · rw [x1, hf_bT_inl, x2, hf_b2_some, if_pos rfl]
    exact zFR.fail K (K2.mono (Nat.le_add_right n 0)) (by decide) ha rfl rfl x3 x4 x5 x6 x7 (Z2.trans x8) (fun k hk => by
      rw [x9]
      exact (R2.2.2.2.1.h7 R2.2.2.2.2) k hk)
  have R3 := R2.num y8
  have hn2 := z_lastlt y4 y5 (by omega)
  obtain ⟨PV3, hPV3⟩ : ∃ y, y = hf_ui PV2 1 (Int32.ofNat a2) := ⟨_, rfl⟩
  obtain ⟨g3, hg3⟩ : ∃ y, y = hf_pc g2 pa PV3 := ⟨_, rfl⟩
  obtain ⟨V3, hV3⟩ : ∃ y, y = hf_ui (hf_ui V2 8 (Int32.ofNat a2)) 10 (Int32.ofNat n2) := ⟨_, rfl⟩
  have hV310 : V3.1 10 = Int32.ofNat n2 := by rw [hV3, hf_ui_at]
  rw [← hPV3, ← hg3, ← hV3] at R3
  rw [← hPV3, ← hg3] at y1
  rw [← hV3] at y2
  have K23 : hf_gk pa o g2 g3 0 := by rw [hg3]; exact hf_gk.pc R2.1.1 P2.2.1 _
  have K3 : hf_gm pa o g0 g3 n := (K2.trans K23.gm).mono (by omega)
  have Z3 : zvf V V3 := by rw [hV3]; exact (Z2.ui (by omega) _).ui (by omega) _
  have P3 := R3.1.2.1
  rw [y1, hf_bT_inr, y2, hf_b2_some, if_neg (show ¬ (1 : Int32) = 0 by decide), hV310]
  have enn : (Int32.ofNat n2 = Int32.ofNat n1) ↔ n2 = n1 := z_eq (by omega) (by omega)
  by_cases c : n2 = n1
  · left
    rw [if_pos (enn.mpr c), if_pos (enn.mpr c)]
    obtain ⟨g9, t1, t2⟩ := x_throw (τ := Unit) P3 1 p2
    have t1' : ((hf_ga 0 5 6 g3 pa).bind fun x15 => (hf_ob 1 0 g3 x15).bind fun _ => hf_b2 (spX0_fails x15 (1 : Int32) (Int32.ofNat p2) g3) fun x17 g16 => (hf_ob 0 3 g16 x17).bind fun _ => (some (.inl x17, g16) : Option ((Nat ⊕ Unit) × hf_H))) = some (.inl (o + 19), g9) := t1
    have hfl : spX4_fails (1 : Int32) (Int32.ofNat p2) V3 = some (0, hf_ui V3 9 (Int32.ofNat (1 + 8 * p2 + 1))) := m_fails0 R3.1.2.2.2.2.2.2.2.2.1 1 p2
    rw [t1', hfl, hf_b2_some, if_pos (Or.inl rfl)]
    have hT4 := P3.T4
    exact ⟨g9, _, rfl, rfl, 1 + 8 * p2 + 1, t2.gi, hf_ui_at _ _ _, by omega, by omega, (K3.trans (hf_gk.wr R3.1.1 t2).gm).mono (by omega), Z3.ui (by omega) _, fun k hk => (R3.2.2.2.1.h7 R3.2.2.2.2) k hk⟩
  rw [if_neg (fun z => c (enn.mp z)), if_neg (fun z => c (enn.mp z))]
  obtain ⟨FV, k1, k2, k3, k4, k5, k6, k7, k8, k9, k10⟩ := id R3.2.2.1
  obtain ⟨all, hall⟩ : ∃ y, y = v (70 + 4 * n1 + 3) ||| v (70 + 4 * n2 + 3) := ⟨_, rfl⟩
  have hb1 := (R.2.2.2.2.1.2.2.1 n1 hn1).2.2.2
  have hb2 := (R.2.2.2.2.1.2.2.1 n2 hn2).2.2.2
  have hall2 : all < 2 ^ v 2 := by rw [hall]; exact Nat.or_lt_two_pow hb1 hb2
  have h16 : 2 ^ v 2 ≤ 16 := by
    rcases (show v 2 = 0 ∨ v 2 = 1 ∨ v 2 = 2 ∨ v 2 = 3 ∨ v 2 = 4 by omega) with c | c | c | c | c <;> rw [c] <;> decide
  obtain ⟨FV', j1, j2, j3, j4⟩ := x_joinsL k1 (show all < 16 by omega)
  have j1' : lpX1_joins_17 hf_N fa (Int32.ofNat all) (0 : Int32) g3 = _ := j1
  have hXj : spX1_joins fa (Int32.ofNat n1) (Int32.ofNat n2) g3 = some (hf_up g3 fa (.inl (1, 1, FV'))) := by
    unfold spX1_joins
    rw [k1, Option.bind_some, hf_ai_eq k1, z_ld (by omega) (by omega), k10 n1 (by omega), if_pos hn1, Option.bind_some, Option.bind_some, hf_ai_eq k1, z_ld (by omega) (by omega), k10 n2 (by omega), if_pos hn2, Option.bind_some, z_or, ← hall, hf_let_eq, j1']
  obtain ⟨m0, m5, m6, m7, m8, i5, i6, i8⟩ := id R3.2.2.2.1
  have rj : ∀ j, 9 ≤ j → V3.2.2.2.1 7 j = Int32.ofNat (v j) := fun j hj => m0 j (by omega) (by omega) (by omega) (by omega)
  obtain ⟨V4, s1, s2, s3, s4, s5⟩ := m_joinsL (V := V3) (v := v) (all := all) rj (m0 2 (by decide) (by decide) (by decide) (by decide)) w2 (by omega)
  have s1' : lpX4_isClubHere_104 hf_N (Int32.ofNat all) (0 : Int32) V3 = some (1, V4) := s1
  have b3 : ∀ i : Nat, (70 : Int32) + (4 : Int32) * Int32.ofNat i + (3 : Int32) = Int32.ofNat (70 + 4 * i + 3) := fun i => by rw [z_lit, z_lit, z_lit, z_mul, z_add, z_add]
  rw [k1, Option.bind_some, hXj, Option.bind_some, b3, b3, z_ld (by omega) (by omega), rj _ (by omega), Option.bind_some, z_ld (by omega) (by omega), rj _ (by omega), Option.bind_some, z_or, ← hall, hf_let_eq, s1']
  have lo : ∀ j, j < 73 ∨ (j - 73) % 4 ≠ 0 → zjw v all (v 2) j = v j := fun j hj => zjw_lo hj
  have R4 := R3.upd (FV' := FV') (V' := V4) (v' := zjw v all (v 2)) (s5 := t5) (s6 := t6) (s8 := t8) k1 j3 (lo 1 (by omega)) (lo 2 (by omega)) (fun k j hk hj => lo _ (by have := R.2.2.2.2.1.1.2.1; omega)) (fun b j hb hj => lo _ (by omega)) (by
    have hz : zset (fun k => zjw v all (v 2) (10 + 5 * k + 4) == 1) (v 1) = zset (fun k => v (10 + 5 * k + 4) == 1) (v 1) := zset_congr _ (fun k hk => by
      show (zjw v all (v 2) (10 + 5 * k + 4) == 1) = _
      rw [lo _ (by have := R.2.2.2.2.1.1.2.1; omega)])
    rw [j2, lo 0 (by omega), lo 4 (by omega), lo 5 (by omega), lo 6 (by omega), lo 7 (by omega), lo 8 (by omega), hz]
    exact k9) (fun b hb => by
    rw [j4 b hb, zjw_at]
    by_cases t : all.testBit b = true
    · have hbl : b < v 2 := by
        by_cases c : b < v 2
        · exact c
        · have : all.testBit b = false := Nat.testBit_lt_two_pow (Nat.lt_of_lt_of_le hall2 (Nat.pow_le_pow_right (by decide) (by omega)))
          rw [this] at t
          cases t
      rw [if_pos t, if_pos hbl, if_pos ⟨hbl, t⟩]
    · rw [if_neg t, k10 b hb]
      by_cases c : b < v 2
      · rw [if_pos c, if_pos c, if_neg (fun z => t z.2)]
      · rw [if_neg c, if_neg c]) s2 (s3 0 (by decide)) (by
    refine ⟨fun k h1 h2 h3 h4 => ?_, ?_, ?_, ?_, ?_, ?_, ?_, ?_⟩
    · by_cases c : k < 9
      · rw [s4 k c, lo k (by omega)]
        exact m0 k h1 h2 h3 h4
      · exact s5 k (by omega)
    · rw [s4 5 (by decide), lo 5 (by omega)]; exact m5
    · rw [s4 6 (by decide), lo 6 (by omega)]; exact m6
    · rw [s4 7 (by decide), lo 7 (by omega)]; exact m7
    · rw [s4 8 (by decide), lo 8 (by omega)]; exact m8
    · rw [lo 5 (by omega)]; exact i5
    · rw [lo 6 (by omega), lo 7 (by omega)]; exact i6
    · rw [lo 8 (by omega)]; exact i8) (R3.2.2.2.2.join hall2)
  exact Or.inr ⟨_, _, _, a2, l1, d1, l2, d2, p, q, _, t5, t6, t8, rfl, rfl, R4, by omega, hlt, (K3.up2 hfa k1 _).mono (by omega), Z3.trans ⟨fun k _ _ _ _ _ => by rw [s2], fun j hj => s3 j hj⟩⟩
end ZQ
