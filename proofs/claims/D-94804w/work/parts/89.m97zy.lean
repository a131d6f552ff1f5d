set_option maxRecDepth 100000
set_option maxHeartbeats 1000000
/-! texts: a fair's clauses: stalls, near, dusk, hear, forged -/
def zFR (gs : hf_gs) (pa o nm : Nat) (B : Nat → Nat) (T : Nat) (g0 : hf_H) (V : hf_V) (n a kc fa : Nat) (X : Option ((Nat ⊕ Unit) × hf_H)) (M : Option (Int32 × hf_V)) : Prop := (∃ g' V', X = some (.inl (o + 19), g') ∧ M = some (0, V') ∧ zff g0 g' pa o (n + (T + 1 - a) + 2) V V') ∨ ∃ g' PV' V' a' l1 d1 l2 d2 p q v t5 t6 t8, X = some (.inr (), g') ∧ M = some (1, V') ∧ zFS gs pa o nm B T g' PV' V' a' kc fa l1 d1 l2 d2 p q v t5 t6 t8 ∧ a ≤ a' ∧ (g0.2.1 ≤ l1 ∧ g0.2.1 ≤ d1 ∧ g0.2.1 ≤ l2 ∧ g0.2.1 ≤ d2) ∧ hf_gm pa o g0 g' (n + (a' - a) + 2) ∧ zvf V V'
theorem z_lastlt {n c : Nat} (h : Int32.ofNat n ≤ Int32.ofNat c - 1) (hn : n < 100000) (hc : c < 1000) : n < c := by
  by_cases e : c = 0
  · subst e
    have h2 := Int32.le_iff_toInt_le.mp h
    have e1 : (Int32.ofNat n).toInt = (n : Int) := Int32.toInt_ofNat_of_lt (by omega)
    have e2 : Int32.toInt (Int32.ofNat 0 - 1) = -1 := by decide
    rw [e1, e2] at h2
    omega
  · have h1 : Int32.ofNat c - 1 = Int32.ofNat (c - 1) := z_sub (b := 1) (by omega)
    rw [h1] at h
    have := (z_le (by omega) (by omega)).mp h
    omega
theorem z_lele {n c d : Nat} (h : Int32.ofNat c ≤ Int32.ofNat n) (h2 : Int32.ofNat n ≤ Int32.ofNat d) (hn : n < 100000) (hc : c < 1000) (hd : d < 1000) : c ≤ n ∧ n ≤ d := ⟨(z_le (by omega) (by omega)).mp h, (z_le (by omega) (by omega)).mp h2⟩
theorem zFM.set {R R' : Nat → Int32} {v : Nat → Nat} {t5 t6 t8 : Bool} {i x : Nat} (H : zFM R v t5 t6 t8) (hi : i < 5 ∨ 9 ≤ i) (hR : ∀ j, R' j = if j = i then Int32.ofNat x else R j) : zFM R' (zup v i x) t5 t6 t8 := by
  obtain ⟨h, h5, h6, h7, h8, k5, k6, k8⟩ := H
  have e : ∀ j, 5 ≤ j → j < 9 → zup v i x j = v j := fun j h1 h2 => zup_ne _ (by omega) _
  refine ⟨fun k a b c d => ?_, ?_, ?_, ?_, ?_, ?_, ?_, ?_⟩
  · rw [hR]
    by_cases c : k = i
    · rw [if_pos c, c, zup_at]
    · rw [if_neg c, zup_ne _ c]
      exact h k a b (by assumption) d
  · rw [hR, if_neg (by omega), e 5 (by decide) (by decide)]; exact h5
  · rw [hR, if_neg (by omega), e 6 (by decide) (by decide)]; exact h6
  · rw [hR, if_neg (by omega), e 7 (by decide) (by decide)]; exact h7
  · rw [hR, if_neg (by omega), e 8 (by decide) (by decide)]; exact h8
  · rw [e 5 (by decide) (by decide)]; exact k5
  · rw [e 6 (by decide) (by decide), e 7 (by decide) (by decide)]; exact k6
  · rw [e 8 (by decide) (by decide)]; exact k8
section ZW
variable {v : Nat → Nat} {x : Nat}
/-- one of the fair's own numbers changes -/
theorem zFW.own (W : zFW v) {i : Nat} (hi : i = 0 ∨ i = 4 ∨ i = 5 ∨ i = 6 ∨ i = 7 ∨ i = 8) (h0 : i = 0 → x ≤ 8 ∧ v 1 = 0 ∧ v 2 = 0) (h4 : i = 4 → x ≤ 7) (h5 : i = 5 → x ≤ 9) (h6 : i = 6 → x ≤ 24) (h7 : i = 7 → x ≤ 99) (h8 : i = 8 → x ≤ 7) : zFW (zup v i x) := by
  obtain ⟨⟨⟨w0, w1, w2, w3, w4, w5, w6, w7, w8, w9⟩, wh, wb, wk⟩, z3, zh, zb⟩ := W
  have e : ∀ j, j ≠ i → zup v i x j = v j := fun j hj => zup_ne _ hj _
  have ea : zup v i x i = x := zup_at _ _ _
  have e1 := e 1 (by omega)
  have e2 := e 2 (by omega)
  have e3 := e 3 (by omega)
  have o : ∀ j, (i = j → zup v i x j = x) ∧ (i ≠ j → zup v i x j = v j) := fun j => ⟨fun z => by rw [← z]; exact ea, fun z => e j (Ne.symm z)⟩
  refine ⟨⟨⟨?_, by rw [e1]; exact w1, by rw [e2]; exact w2, by rw [e3]; exact w3, ?_, ?_, ?_, ?_, ?_, ?_⟩, fun k hk => ?_, fun b hb => ?_, fun k => ?_⟩, by rw [e3]; exact z3, fun k hk => ?_, fun b hb => ?_⟩
  · by_cases c : i = 0
    · rw [(o 0).1 c]; exact (h0 c).1
    · rw [(o 0).2 c]; exact w0
  · by_cases c : i = 4
    · rw [(o 4).1 c]; exact h4 c
    · rw [(o 4).2 c]; exact w4
  · by_cases c : i = 5
    · rw [(o 5).1 c]; exact h5 c
    · rw [(o 5).2 c]; exact w5
  · by_cases c : i = 6
    · rw [(o 6).1 c]; exact h6 c
    · rw [(o 6).2 c]; exact w6
  · by_cases c : i = 7
    · rw [(o 7).1 c]; exact h7 c
    · rw [(o 7).2 c]; exact w7
  · by_cases c : i = 8
    · rw [(o 8).1 c]; exact h8 c
    · rw [(o 8).2 c]; exact w8
  · intro z
    rw [e1, e2]
    by_cases c : i = 0
    · exact (h0 c).2
    · rw [(o 0).2 c] at z
      exact w9 z
  · rw [e1] at hk
    have hi0 : i ≠ 0 := fun c => by have := (h0 c).2.1; omega
    rw [(o 0).2 hi0, e _ (by omega), e _ (by omega), e _ (by omega), e _ (by omega), e _ (by omega)]
    exact wh k hk
  · rw [e2] at hb
    have hi0 : i ≠ 0 := fun c => by have := (h0 c).2.2; omega
    rw [(o 0).2 hi0, e2, e _ (by omega), e _ (by omega), e _ (by omega), e _ (by omega)]
    exact wb b hb
  · unfold zup
    split
    · rename_i c
      rcases hi with h | h | h | h | h | h
      · have := (h0 h).1; omega
      · have := h4 h; omega
      · have := h5 h; omega
      · have := h6 h; omega
      · have := h7 h; omega
      · have := h8 h; omega
    · exact wk k
  · rw [e1] at hk
    have hi0 : i ≠ 0 := fun c => by have := (h0 c).2.1; omega
    rw [(o 0).2 hi0, e _ (by omega)]
    exact zh k hk
  · rw [e2] at hb
    rw [e _ (by omega), e _ (by omega)]
    exact zb b hb
end ZW
section ZQ
variable {gs : hf_gs} {pa o nm : Nat} {B : Nat → Nat} {T : Nat} {g g0 : hf_H} {PV V Vp : hf_V} {a kc fa l1 d1 l2 d2 n : Nat} {p q : Nat → Nat} {v : Nat → Nat} {t5 t6 t8 : Bool}
theorem hf_ps.upF {m : Nat} (S : hf_ps gs g pa o nm PV B T V a m) {FV : hf_V} (e : hf_ob 1 1 g fa = some FV) (FV' : hf_V) : hf_ps gs (hf_up g fa (.inl (1, 1, FV'))) pa o nm PV B T V a m := by
  obtain ⟨N, P, p0, p1, p3, wo, mt, v8, v9, v12, ha, hm⟩ := S
  obtain ⟨WV, w3⟩ := P.w3
  obtain ⟨⟨_, _, ⟨XV, y1, -⟩, -⟩, y2, -⟩ := id P
  exact ⟨N.up e _, P.eq (up_ne _ (hf_ob_dif y1 e (by decide))) (up_ne _ (hf_ob_dif y2 e (by decide))) (up_ne _ (hf_ob_dif w3 e (by decide))), p0, p1, p3, wo.eq (fun z x ez => by
    rw [up_ne _ (fun y => by
      subst y
      rw [hf_ob_spec e] at ez
      cases ez)]
    exact ez), mt, v8, v9, v12, ha, hm⟩
theorem hf_ps.u10 {m : Nat} (S : hf_ps gs g pa o nm PV B T V a m) (x : Int32) : hf_ps gs g pa o nm PV B T (hf_ui V 10 x) a m := by
  obtain ⟨N, P, p0, p1, p3, wo, mt, v8, v9, v12, ha, hm⟩ := S
  exact ⟨N, P, p0, p1, p3, wo, mt.ui (by decide) _, by rw [hf_ui_ne _ (by decide)]; exact v8, by rw [hf_ui_ne _ (by decide)]; exact v9, by rw [hf_ui_ne _ (by decide)]; exact v12, ha, hm⟩
/-- both fail at a number -/
theorem zFR.fail (K : hf_gm pa o g0 g n) {g1 g' : hf_H} {V' : hf_V} {c m : Nat} {X : Option ((Nat ⊕ Unit) × hf_H)} {M : Option (Int32 × hf_V)} (K1 : hf_gm pa o g0 g1 (n + m)) (hm : m ≤ 1) (ha : a ≤ T) (hX : X = some (.inl (o + 19), g')) (hM : M = some (0, V')) (q1 : hf_gi 0 3 6 g' (o + 19) = some (Int32.ofNat c)) (q2 : V'.1 9 = Int32.ofNat c) (q3 : 1 ≤ c) (q4 : c < 100000) (q5 : hf_gk pa o g1 g' 0) (q6 : zvf V V') (q7 : zh7 V') : zFR gs pa o nm B T g0 V n a kc fa X M := Or.inl ⟨g', V', hX, hM, c, q1, q2, q3, q4, (K1.trans q5.gm).mono (by omega), q6, q7⟩
theorem fair_stalls (hp : spX4_passWord Vp = some V) (hpa : Vp.2.2.2.1 7 = V.2.2.2.1 7) (R : zFS gs pa o nm B T g PV V a kc fa l1 d1 l2 d2 p q v t5 t6 t8) (h0 : v 0 = 0) (x : Int32) (K : hf_gm pa o g0 g n) (hfa : g0.2.1 ≤ fa) (hlt : g0.2.1 ≤ l1 ∧ g0.2.1 ≤ d1 ∧ g0.2.1 ≤ l2 ∧ g0.2.1 ≤ d2) : zFR gs pa o nm B T g0 V n a kc fa (spX5_stalls pa fa g) (spX4_areStallsHere x Vp) := by
  have ha := R.1.2.2.2.2.2.2.2.2.2.2.1
  have hz := R.2.2.2.2.1.1.2.2.2.2.2.2.2.2.2 h0
  have e0 : Vp.2.2.2.1 7 0 = Int32.ofNat 0 := by
    rw [hpa, R.2.2.2.1.1 0 (by decide) (by decide) (by decide) (by decide), h0]
  have hM : spX4_areStallsHere x Vp = hf_b2 (spX4_cellHere (0 : Int32) (2 : Int32) (8 : Int32) V) fun x4 V3 =>
      if x4 = 0 then (some ((0 : Int32), V3)) else
      hf_b2 (spX4_cellHere (4 : Int32) (0 : Int32) (7 : Int32) V3) fun x6 V5 =>
      if x6 = 0 then (some ((0 : Int32), V5)) else
      some ((1 : Int32), V5) := by
    have z0 : hf_ld 86 (Vp.2.2.2.1 7) (0 : Int32) = some (Vp.2.2.2.1 7 0) := z_ld (i := 0) (by decide) (by decide)
    unfold spX4_areStallsHere
    rw [z0, Option.bind_some, e0, if_pos (show Int32.ofNat 0 ≤ (0 : Int32) by decide), hp, Option.bind_some]
  rw [hM]
  unfold spX5_stalls
  rw [R.1.2.1.pob]
  unfold spX4_cellHere
  rcases xm_num R.1 2 8 with ⟨g', V', c, x1, x2, x3, x4, x5, x6, x7, x8, x9⟩ | ⟨n1, a1, x1, x2, x3, x4, x5, x6, x7, x8⟩
  · rw [x1, hf_bT_inl, x2, hf_b2_some, if_pos rfl, hf_b2_some, if_pos rfl]
    exact zFR.fail K (K.mono (Nat.le_add_right n 0)) (by decide) ha rfl rfl x3 x4 x5 x6 x7 x8 (fun k hk => by
      rw [x9]
      exact (R.2.2.2.1.h7 R.2.2.2.2) k hk)
  have R1 := R.num x8
  obtain ⟨b1, b2⟩ := z_lele x3 x4 x5 (by decide) (by decide)
  obtain ⟨FV, f1, f2, f3, f4, f5, f6, f7, f8, f9, f10⟩ := id R1.2.2.1
  have s0 : ∀ (U : hf_V) (y : Int32) (τ : Type) (k : hf_V → Option τ), hf_sd 86 (0 : Int32) (fun j => hf_ua U 7 j y) k = k (hf_ua U 7 0 y) := fun U y τ k => z_sd (i := 0) (by decide) (by decide)
  have s4 : ∀ (U : hf_V) (y : Int32) (τ : Type) (k : hf_V → Option τ), hf_sd 86 (4 : Int32) (fun j => hf_ua U 7 j y) k = k (hf_ua U 7 4 y) := fun U y τ k => z_sd (i := 4) (by decide) (by decide)
  have R2 := R1.upd (FV' := hf_ui FV 3 (Int32.ofNat n1)) (V' := hf_ua (hf_ui (hf_ui V 8 (Int32.ofNat a1)) 10 (Int32.ofNat n1)) 7 0 (Int32.ofNat n1)) (v' := zup v 0 n1) (s5 := t5) (s6 := t6) (s8 := t8) f1 rfl (zup_ne _ (by decide) _) (zup_ne _ (by decide) _) (fun k j hk => by omega) (fun b j hb => by omega) (by
    rw [zup_at, zup_ne _ (by decide), zup_ne _ (by decide), zup_ne _ (by decide), zup_ne _ (by decide), zup_ne _ (by decide), hf_ui_at, hf_ui_ne _ (by decide), hf_ui_ne _ (by decide), hf_ui_ne _ (by decide), hf_ui_ne _ (by decide), hf_ui_ne _ (by decide), hf_ui_ne _ (by decide), hf_ui_ne _ (by decide), hf_ui_ne _ (by decide), hf_ui_ne _ (by decide)]
    refine ⟨rfl, f9.2.1, f9.2.2.1, f9.2.2.2.1, f9.2.2.2.2.1, f9.2.2.2.2.2.1, ?_, f9.2.2.2.2.2.2.2⟩
    rw [f9.2.2.2.2.2.2.1, hz.1]
    rfl) (fun b hb => by
    show FV.2.2.2.1 2 b = _
    rw [f10 b hb, if_neg (by omega), if_neg (by omega)]) rfl (hf_ua_ne _ (by decide) _ _) (R1.2.2.2.1.set (Or.inl (by decide)) (fun j => hf_ua_at _ _ _ _ _)) (R1.2.2.2.2.own (Or.inl rfl) (fun _ => ⟨b2, hz.1, hz.2⟩) (fun z => by omega) (fun z => by omega) (fun z => by omega) (fun z => by omega) (fun z => by omega))
  have K1 := (K.trans (hf_gk.pc R.1.1 R.1.2.1.2.1 (hf_ui PV 1 (Int32.ofNat a1))).gm).up2 hfa f1 (.inl (1, 1, hf_ui FV 3 (Int32.ofNat n1)))
  rw [x1, hf_bT_inr, x2, hf_b2_some, if_neg (by decide), s0, hf_ui_at, hf_b2_some, if_neg (by decide), hf_pi_eq f1, Option.bind_some, R2.1.2.1.pob]
  obtain ⟨FV2, e1, e2, e3, e4, e5, e6, e7, e8, e9, e10⟩ := id R2.2.2.1
  have Z2 : zvf V (hf_ua (hf_ui (hf_ui V 8 (Int32.ofNat a1)) 10 (Int32.ofNat n1)) 7 0 (Int32.ofNat n1)) := (((zvf.rfl_ V).ui (by omega) _).ui (by omega) _).ua _ _
  obtain ⟨G2, hG2⟩ : ∃ G, G = hf_up (hf_pc g pa (hf_ui PV 1 (Int32.ofNat a1))) fa (.inl (1, 1, hf_ui FV 3 (Int32.ofNat n1))) := ⟨_, rfl⟩
  obtain ⟨U2, hU2⟩ : ∃ U, U = hf_ua (hf_ui (hf_ui V 8 (Int32.ofNat a1)) 10 (Int32.ofNat n1)) 7 0 (Int32.ofNat n1) := ⟨_, rfl⟩
  rw [← hG2] at K1 e1
  rw [← hU2] at Z2
  rw [← hG2, ← hU2] at R2
  rw [← hG2, ← hU2]
  rcases xm_num R2.1 0 7 with ⟨g', V', c, x1, x2, x3, x4, x5, x6, x7, x8, x9⟩ | ⟨n2, a2, x1, x2, x3, x4, x5, x6', x7, x8⟩
  · rw [x1, hf_bT_inl, x2, hf_b2_some, if_pos rfl, hf_b2_some, if_pos rfl]
    exact zFR.fail K (K1.mono (Nat.le_refl _)) (by decide) ha rfl rfl x3 x4 x5 x6 x7 (Z2.trans x8) (fun k hk => by
      rw [x9]
      exact (R2.2.2.2.1.h7 R2.2.2.2.2) k hk)
  have R3 := R2.num x8
  obtain ⟨b3, b4⟩ := z_lele (c := 0) (d := 7) x3 x4 x5 (by decide) (by decide)
  obtain ⟨FV3, h1, h2, h3, h4, h5, h6, h7, h8, h9, h10⟩ := id R3.2.2.1
  have R4 := R3.upd (FV' := hf_ui FV3 4 (Int32.ofNat n2)) (V' := hf_ua (hf_ui (hf_ui U2 8 (Int32.ofNat a2)) 10 (Int32.ofNat n2)) 7 4 (Int32.ofNat n2)) (v' := zup (zup v 0 n1) 4 n2) (s5 := t5) (s6 := t6) (s8 := t8) h1 rfl (zup_ne _ (by decide) _) (zup_ne _ (by decide) _) (fun k j hk => by
    rw [zup_ne _ (by decide)] at hk
    omega) (fun b j hb => by
    rw [zup_ne _ (by decide)] at hb
    omega) (by
    rw [zup_ne _ (show (0 : Nat) ≠ 4 by decide), zup_at _ 4, zup_ne _ (show (5 : Nat) ≠ 4 by decide), zup_ne _ (show (6 : Nat) ≠ 4 by decide), zup_ne _ (show (7 : Nat) ≠ 4 by decide), zup_ne _ (show (8 : Nat) ≠ 4 by decide), hf_ui_ne _ (by decide), hf_ui_at, hf_ui_ne _ (by decide), hf_ui_ne _ (by decide), hf_ui_ne _ (by decide), hf_ui_ne _ (by decide), hf_ui_ne _ (by decide), hf_ui_ne _ (by decide), hf_ui_ne _ (by decide), hf_ui_ne _ (by decide)]
    refine ⟨h9.1, rfl, h9.2.2.1, h9.2.2.2.1, h9.2.2.2.2.1, h9.2.2.2.2.2.1, ?_, h9.2.2.2.2.2.2.2⟩
    rw [h9.2.2.2.2.2.2.1]
    have : (zup v 0 n1) 1 = 0 := by rw [zup_ne _ (by decide)]; exact hz.1
    rw [this]
    rfl) (fun b hb => by
    show FV3.2.2.2.1 2 b = _
    have : (zup v 0 n1) 2 = 0 := by rw [zup_ne _ (by decide)]; exact hz.2
    rw [h10 b hb, this, if_neg (by omega), if_neg (by omega)]) rfl (hf_ua_ne _ (by decide) _ _) (R3.2.2.2.1.set (Or.inl (by decide)) (fun j => hf_ua_at _ _ _ _ _)) (R3.2.2.2.2.own (Or.inr (Or.inl rfl)) (fun z => by omega) (fun _ => b4) (fun z => by omega) (fun z => by omega) (fun z => by omega) (fun z => by omega))
  rw [x1, hf_bT_inr, x2, hf_b2_some, if_neg (by decide), s4, hf_ui_at, hf_b2_some, if_neg (by decide), hf_pi_eq h1, Option.bind_some]
  have K2 := (K1.trans (hf_gk.pc R2.1.1 R2.1.2.1.2.1 (hf_ui (hf_ui PV 1 (Int32.ofNat a1)) 1 (Int32.ofNat a2))).gm).up2 hfa h1 (.inl (1, 1, hf_ui FV3 4 (Int32.ofNat n2)))
  exact Or.inr ⟨_, _, _, a2, l1, d1, l2, d2, p, q, _, t5, t6, t8, rfl, rfl, R4, by omega, hlt, K2.mono (by omega), Z2.trans ((((zvf.rfl_ U2).ui (by omega) _).ui (by omega) _).ua _ _)⟩
end ZQ
set_option maxRecDepth 100000
set_option maxHeartbeats 1000000
/-! texts: a fair's clauses: near, hear, dusk, forged -/
section ZQ
variable {gs : hf_gs} {pa o nm : Nat} {B : Nat → Nat} {T : Nat} {g g0 : hf_H} {PV V Vp : hf_V} {a kc fa l1 d1 l2 d2 n : Nat} {p q : Nat → Nat} {v : Nat → Nat} {t5 t6 t8 : Bool}
theorem fair_near (hp : spX4_passWord Vp = some V) (hpa : Vp.2.2.2.1 7 = V.2.2.2.1 7) (R : zFS gs pa o nm B T g PV V a kc fa l1 d1 l2 d2 p q v false t6 t8) (x : Int32) (K : hf_gm pa o g0 g n) (hfa : g0.2.1 ≤ fa) (hlt : g0.2.1 ≤ l1 ∧ g0.2.1 ≤ d1 ∧ g0.2.1 ≤ l2 ∧ g0.2.1 ≤ d2) : zFR gs pa o nm B T g0 V n a kc fa ((hf_ob 0 5 g pa).bind fun _ => hf_bT (spX5_number pa (0 : Int32) (9 : Int32) g) fun x5 g4 => (hf_pi 1 1 5 g4 fa x5).bind fun g6 => (hf_pi 1 1 10 g6 fa (1 : Int32)).bind fun g7 => some (.inr (), g7)) (spX4_isOnceHere (5 : Int32) x (0 : Int32) (9 : Int32) Vp) := by
  have ha := R.1.2.2.2.2.2.2.2.2.2.2.1
  have e0 : Vp.2.2.2.1 7 5 = -1 := by
    rw [hpa]
    exact R.2.2.2.1.2.1
  have hM : spX4_isOnceHere (5 : Int32) x (0 : Int32) (9 : Int32) Vp = hf_b2 (spX4_cellHere (5 : Int32) (0 : Int32) (9 : Int32) V) fun x4 V3 => if x4 = 0 ∨ x4 = 1 then some (x4, V3) else none := by
    have z0 : hf_ld 86 (Vp.2.2.2.1 7) (5 : Int32) = some (Vp.2.2.2.1 7 5) := z_ld (i := 5) (by decide) (by decide)
    unfold spX4_isOnceHere
    rw [z0, Option.bind_some, e0, if_pos (by decide), hp, Option.bind_some]
  rw [hM, R.1.2.1.pob]
  unfold spX4_cellHere
  rcases xm_num R.1 0 9 with ⟨g', V', c, x1, x2, x3, x4, x5, x6, x7, x8, x9⟩ | ⟨n1, a1, x1, x2, x3, x4, x5, x6, x7, x8⟩
  · rw [x1, hf_bT_inl, x2, hf_b2_some, if_pos rfl, hf_b2_some, if_pos (Or.inl rfl)]
    exact zFR.fail K (K.mono (Nat.le_add_right n 0)) (by decide) ha rfl rfl x3 x4 x5 x6 x7 x8 (fun k hk => by
      rw [x9]
      exact (R.2.2.2.1.h7 R.2.2.2.2) k hk)
  have R1 := R.num x8
  obtain ⟨b1, b2⟩ := z_lele (c := 0) (d := 9) x3 x4 x5 (by decide) (by decide)
  obtain ⟨FV, f1, f2, f3, f4, f5, f6, f7, f8, f9, f10⟩ := id R1.2.2.1
  have s0 : ∀ (U : hf_V) (y : Int32) (τ : Type) (k : hf_V → Option τ), hf_sd 86 (5 : Int32) (fun j => hf_ua U 7 j y) k = k (hf_ua U 7 5 y) := fun U y τ k => z_sd (i := 5) (by decide) (by decide)
  have R2 := R1.upd (FV' := hf_ui (hf_ui FV 5 (Int32.ofNat n1)) 10 1) (V' := hf_ua (hf_ui (hf_ui V 8 (Int32.ofNat a1)) 10 (Int32.ofNat n1)) 7 5 (Int32.ofNat n1)) (v' := zup v 5 n1) (s5 := true) (s6 := t6) (s8 := t8) f1 rfl (zup_ne _ (by decide) _) (zup_ne _ (by decide) _) (fun k j hk _ => zup_ne _ (by omega) _) (fun b j hb _ => zup_ne _ (by omega) _) (by
    have hz : zset (fun k => zup v 5 n1 (10 + 5 * k + 4) == 1) (v 1) = zset (fun k => v (10 + 5 * k + 4) == 1) (v 1) := zset_congr _ (fun k hk => by
      show (zup v 5 n1 (10 + 5 * k + 4) == 1) = _
      rw [zup_ne _ (by omega)])
    rw [hz]
    obtain ⟨h3, h4, h5, h6, h7, h8, h9, h10, h11, h12⟩ := f9
    have ui : ∀ k, k ≠ 5 → k ≠ 10 → (hf_ui (hf_ui FV 5 (Int32.ofNat n1)) 10 1).1 k = FV.1 k := fun k h1 h2 => by rw [hf_ui_ne _ h2, hf_ui_ne _ h1]
    have uc : (hf_ui (hf_ui FV 5 (Int32.ofNat n1)) 10 1).1 5 = Int32.ofNat n1 := by rw [hf_ui_ne _ (by decide), hf_ui_at]
    have uf : (hf_ui (hf_ui FV 5 (Int32.ofNat n1)) 10 1).1 10 = 1 := hf_ui_at _ _ _
    refine ⟨by rw [ui 3 (by decide) (by decide), zup_ne _ (by decide)]; exact h3, by rw [ui 4 (by decide) (by decide), zup_ne _ (by decide)]; exact h4, by rw [uc, zup_at], by rw [ui 6 (by decide) (by decide), zup_ne _ (by decide)]; exact h6, by rw [ui 7 (by decide) (by decide), zup_ne _ (by decide)]; exact h7, by rw [ui 8 (by decide) (by decide), zup_ne _ (by decide)]; exact h8, (ui 9 (by decide) (by decide)).trans h9, uf, (ui 11 (by decide) (by decide)).trans h11, (ui 12 (by decide) (by decide)).trans h12⟩) (fun b hb => by
    show FV.2.2.2.1 2 b = _
    rw [f10 b hb, zup_ne _ (by omega)]) rfl (hf_ua_ne _ (by decide) _ _) (by
    obtain ⟨m0, m5, m6, m7, m8, k5, k6, k8⟩ := R1.2.2.2.1
    refine ⟨fun k h1 h2 h3 h4 => ?_, ?_, ?_, ?_, ?_, ?_, ?_, ?_⟩
    · rw [hf_ua_at, if_neg (by omega), zup_ne _ (by omega)]
      exact m0 k h1 h2 h3 h4
    · rw [hf_ua_at, if_pos rfl, zup_at]
      rfl
    · rw [hf_ua_at, if_neg (by decide), zup_ne _ (by decide)]
      exact m6
    · rw [hf_ua_at, if_neg (by decide), zup_ne _ (by decide)]
      exact m7
    · rw [hf_ua_at, if_neg (by decide), zup_ne _ (by decide)]
      exact m8
    · intro z
      cases z
    · rw [zup_ne _ (by decide), zup_ne _ (by decide)]
      exact k6
    · rw [zup_ne _ (by decide)]
      exact k8) (R1.2.2.2.2.own (Or.inr (Or.inr (Or.inl rfl))) (fun z => by omega) (fun z => by omega) (fun _ => b2) (fun z => by omega) (fun z => by omega) (fun z => by omega))
  have K1 := (K.trans (hf_gk.pc R.1.1 R.1.2.1.2.1 (hf_ui PV 1 (Int32.ofNat a1))).gm).up2 hfa f1 (.inl (1, 1, hf_ui (hf_ui FV 5 (Int32.ofNat n1)) 10 1))
  rw [x1, hf_bT_inr, x2, hf_b2_some, if_neg (by decide), s0, hf_ui_at, hf_b2_some, if_pos (Or.inr rfl), hf_pi_eq f1, Option.bind_some, hf_pi_eq (hf_ob_up _ _ _ _ _), Option.bind_some, hf_up_up]
  exact Or.inr ⟨_, _, _, a1, l1, d1, l2, d2, p, q, _, _, _, _, rfl, rfl, R2, by omega, hlt, K1.mono (by omega), (((zvf.rfl_ V).ui (by omega) _).ui (by omega) _).ua _ _⟩

theorem fair_hear (hp : spX4_passWord Vp = some V) (hpa : Vp.2.2.2.1 7 = V.2.2.2.1 7) (R : zFS gs pa o nm B T g PV V a kc fa l1 d1 l2 d2 p q v t5 t6 false) (x : Int32) (K : hf_gm pa o g0 g n) (hfa : g0.2.1 ≤ fa) (hlt : g0.2.1 ≤ l1 ∧ g0.2.1 ≤ d1 ∧ g0.2.1 ≤ l2 ∧ g0.2.1 ≤ d2) : zFR gs pa o nm B T g0 V n a kc fa ((hf_ob 0 5 g pa).bind fun _ => hf_bT (spX5_number pa (0 : Int32) (7 : Int32) g) fun x5 g4 => (hf_pi 1 1 8 g4 fa x5).bind fun g6 => (hf_pi 1 1 12 g6 fa (1 : Int32)).bind fun g7 => some (.inr (), g7)) (spX4_isOnceHere (8 : Int32) x (0 : Int32) (7 : Int32) Vp) := by
  have ha := R.1.2.2.2.2.2.2.2.2.2.2.1
  have e0 : Vp.2.2.2.1 7 8 = -1 := by
    rw [hpa]
    exact R.2.2.2.1.2.2.2.2.1
  have hM : spX4_isOnceHere (8 : Int32) x (0 : Int32) (7 : Int32) Vp = hf_b2 (spX4_cellHere (8 : Int32) (0 : Int32) (7 : Int32) V) fun x4 V3 => if x4 = 0 ∨ x4 = 1 then some (x4, V3) else none := by
    have z0 : hf_ld 86 (Vp.2.2.2.1 7) (8 : Int32) = some (Vp.2.2.2.1 7 8) := z_ld (i := 8) (by decide) (by decide)
    unfold spX4_isOnceHere
    rw [z0, Option.bind_some, e0, if_pos (by decide), hp, Option.bind_some]
  rw [hM, R.1.2.1.pob]
  unfold spX4_cellHere
  rcases xm_num R.1 0 7 with ⟨g', V', c, x1, x2, x3, x4, x5, x6, x7, x8, x9⟩ | ⟨n1, a1, x1, x2, x3, x4, x5, x6, x7, x8⟩
  · rw [x1, hf_bT_inl, x2, hf_b2_some, if_pos rfl, hf_b2_some, if_pos (Or.inl rfl)]
    exact zFR.fail K (K.mono (Nat.le_add_right n 0)) (by decide) ha rfl rfl x3 x4 x5 x6 x7 x8 (fun k hk => by
      rw [x9]
      exact (R.2.2.2.1.h7 R.2.2.2.2) k hk)
  have R1 := R.num x8
  obtain ⟨b1, b2⟩ := z_lele (c := 0) (d := 7) x3 x4 x5 (by decide) (by decide)
  obtain ⟨FV, f1, f2, f3, f4, f5, f6, f7, f8, f9, f10⟩ := id R1.2.2.1
  have s0 : ∀ (U : hf_V) (y : Int32) (τ : Type) (k : hf_V → Option τ), hf_sd 86 (8 : Int32) (fun j => hf_ua U 7 j y) k = k (hf_ua U 7 8 y) := fun U y τ k => z_sd (i := 8) (by decide) (by decide)
  have R2 := R1.upd (FV' := hf_ui (hf_ui FV 8 (Int32.ofNat n1)) 12 1) (V' := hf_ua (hf_ui (hf_ui V 8 (Int32.ofNat a1)) 10 (Int32.ofNat n1)) 7 8 (Int32.ofNat n1)) (v' := zup v 8 n1) (s5 := t5) (s6 := t6) (s8 := true) f1 rfl (zup_ne _ (by decide) _) (zup_ne _ (by decide) _) (fun k j hk _ => zup_ne _ (by omega) _) (fun b j hb _ => zup_ne _ (by omega) _) (by
    have hz : zset (fun k => zup v 8 n1 (10 + 5 * k + 4) == 1) (v 1) = zset (fun k => v (10 + 5 * k + 4) == 1) (v 1) := zset_congr _ (fun k hk => by
      show (zup v 8 n1 (10 + 5 * k + 4) == 1) = _
      rw [zup_ne _ (by omega)])
    rw [hz]
    obtain ⟨h3, h4, h5, h6, h7, h8, h9, h10, h11, h12⟩ := f9
    have ui : ∀ k, k ≠ 8 → k ≠ 12 → (hf_ui (hf_ui FV 8 (Int32.ofNat n1)) 12 1).1 k = FV.1 k := fun k h1 h2 => by rw [hf_ui_ne _ h2, hf_ui_ne _ h1]
    have uc : (hf_ui (hf_ui FV 8 (Int32.ofNat n1)) 12 1).1 8 = Int32.ofNat n1 := by rw [hf_ui_ne _ (by decide), hf_ui_at]
    have uf : (hf_ui (hf_ui FV 8 (Int32.ofNat n1)) 12 1).1 12 = 1 := hf_ui_at _ _ _
    refine ⟨by rw [ui 3 (by decide) (by decide), zup_ne _ (by decide)]; exact h3, by rw [ui 4 (by decide) (by decide), zup_ne _ (by decide)]; exact h4, by rw [ui 5 (by decide) (by decide), zup_ne _ (by decide)]; exact h5, by rw [ui 6 (by decide) (by decide), zup_ne _ (by decide)]; exact h6, by rw [ui 7 (by decide) (by decide), zup_ne _ (by decide)]; exact h7, by rw [uc, zup_at], (ui 9 (by decide) (by decide)).trans h9, (ui 10 (by decide) (by decide)).trans h10, (ui 11 (by decide) (by decide)).trans h11, uf⟩) (fun b hb => by
    show FV.2.2.2.1 2 b = _
    rw [f10 b hb, zup_ne _ (by omega)]) rfl (hf_ua_ne _ (by decide) _ _) (by
    obtain ⟨m0, m5, m6, m7, m8, k5, k6, k8⟩ := R1.2.2.2.1
    refine ⟨fun k h1 h2 h3 h4 => ?_, ?_, ?_, ?_, ?_, ?_, ?_, ?_⟩
    · rw [hf_ua_at, if_neg (by omega), zup_ne _ (by omega)]
      exact m0 k h1 h2 h3 h4
    · rw [hf_ua_at, if_neg (by decide), zup_ne _ (by decide)]
      exact m5
    · rw [hf_ua_at, if_neg (by decide), zup_ne _ (by decide)]
      exact m6
    · rw [hf_ua_at, if_neg (by decide), zup_ne _ (by decide)]
      exact m7
    · rw [hf_ua_at, if_pos rfl, zup_at]
      rfl
    · rw [zup_ne _ (by decide)]
      exact k5
    · rw [zup_ne _ (by decide), zup_ne _ (by decide)]
      exact k6
    · intro z
      cases z) (R1.2.2.2.2.own (Or.inr (Or.inr (Or.inr (Or.inr (Or.inr rfl))))) (fun z => by omega) (fun z => by omega) (fun z => by omega) (fun z => by omega) (fun z => by omega) (fun _ => b2))
  have K1 := (K.trans (hf_gk.pc R.1.1 R.1.2.1.2.1 (hf_ui PV 1 (Int32.ofNat a1))).gm).up2 hfa f1 (.inl (1, 1, hf_ui (hf_ui FV 8 (Int32.ofNat n1)) 12 1))
  rw [x1, hf_bT_inr, x2, hf_b2_some, if_neg (by decide), s0, hf_ui_at, hf_b2_some, if_pos (Or.inr rfl), hf_pi_eq f1, Option.bind_some, hf_pi_eq (hf_ob_up _ _ _ _ _), Option.bind_some, hf_up_up]
  exact Or.inr ⟨_, _, _, a1, l1, d1, l2, d2, p, q, _, _, _, _, rfl, rfl, R2, by omega, hlt, K1.mono (by omega), (((zvf.rfl_ V).ui (by omega) _).ui (by omega) _).ua _ _⟩

end ZQ
set_option maxRecDepth 100000
set_option maxHeartbeats 1000000
/-! texts: a fair's clauses: dusk, forged -/
theorem zFW.forge {v : Nat → Nat} (W : zFW v) {k : Nat} (hk : k < v 1) : zFW (zup v (10 + 5 * k + 4) 1) := by
  obtain ⟨⟨⟨w0, w1, w2, w3, w4, w5, w6, w7, w8, w9⟩, wh, wb, wk⟩, z3, zh, zb⟩ := W
  have e : ∀ j, j ≠ 10 + 5 * k + 4 → zup v (10 + 5 * k + 4) 1 j = v j := fun j hj => zup_ne _ hj _
  refine ⟨⟨?_, fun i hi => ?_, fun b hb => ?_, fun i => ?_⟩, by rw [e 3 (by omega)]; exact z3, fun i hi => ?_, fun b hb => ?_⟩
  · rw [e 0 (by omega), e 1 (by omega), e 2 (by omega), e 3 (by omega), e 4 (by omega), e 5 (by omega), e 6 (by omega), e 7 (by omega), e 8 (by omega)]
    exact ⟨w0, w1, w2, w3, w4, w5, w6, w7, w8, w9⟩
  · rw [e 1 (by omega)] at hi
    obtain ⟨h1, h2, h3, h4, h5, h6⟩ := wh i hi
    rw [e 0 (by omega), e (10 + 5 * i + 0) (by omega), e (10 + 5 * i + 1) (by omega), e (10 + 5 * i + 2) (by omega), e (10 + 5 * i + 3) (by omega)]
    refine ⟨h1, h2, h3, h4, h5, ?_⟩
    unfold zup
    split
    · omega
    · exact h6
  · rw [e 2 (by omega)] at hb
    rw [e 0 (by omega), e 2 (by omega), e (70 + 4 * b) (by omega), e (70 + 4 * b + 1) (by omega), e (70 + 4 * b + 2) (by omega), e (70 + 4 * b + 3) (by omega)]
    exact wb b hb
  · unfold zup
    split
    · omega
    · exact wk i
  · rw [e 1 (by omega)] at hi
    rw [e 0 (by omega), e (10 + 5 * i + 3) (by omega)]
    exact zh i hi
  · rw [e 2 (by omega)] at hb
    rw [e (70 + 4 * b) (by omega), e (70 + 4 * b + 2) (by omega)]
    exact zb b hb
theorem zset_forge (v : Nat → Nat) {k n : Nat} (hk : k < n) : zset (fun j => zup v (10 + 5 * k + 4) 1 (10 + 5 * j + 4) == 1) n = zset (fun j => v (10 + 5 * j + 4) == 1) n ||| 1 <<< k := by
  refine Nat.eq_of_testBit_eq (fun i => ?_)
  rw [Nat.testBit_or, zset_bit, zset_bit, zbit1]
  by_cases e : i = k
  · subst e
    have : zup v (10 + 5 * i + 4) 1 (10 + 5 * i + 4) = 1 := zup_at _ _ _
    simp [this, hk]
  · have : zup v (10 + 5 * k + 4) 1 (10 + 5 * i + 4) = v (10 + 5 * i + 4) := zup_ne _ (by omega) _
    rw [this]
    simp [e]
section ZQ
variable {gs : hf_gs} {pa o nm : Nat} {B : Nat → Nat} {T : Nat} {g g0 : hf_H} {PV V Vp : hf_V} {a kc fa l1 d1 l2 d2 n : Nat} {p q : Nat → Nat} {v : Nat → Nat} {t5 t6 t8 : Bool}
theorem fair_forged (hp : spX4_passWord Vp = some V) (R : zFS gs pa o nm B T g PV V a kc fa l1 d1 l2 d2 p q v t5 t6 t8) (K : hf_gm pa o g0 g n) (hfa : g0.2.1 ≤ fa) (hlt : g0.2.1 ≤ l1 ∧ g0.2.1 ≤ d1 ∧ g0.2.1 ≤ l2 ∧ g0.2.1 ≤ d2) : zFR gs pa o nm B T g0 V n a kc fa ((hf_gi 1 1 9 g fa).bind fun x8 => (hf_ga 1 1 0 g fa).bind fun x9 => (hf_ob 0 19 g x9).bind fun _ => hf_b2 (spJ2_size x9 g) fun x11 g10 => (hf_ob 0 5 g10 pa).bind fun _ => hf_bT (spX5_number pa (0 : Int32) (x11 - (1 : Int32)) g10) fun x13 g12 => (hf_pi 1 1 9 g12 fa (x8 ||| ((1 : Int32) <<< (x13 &&& 31)))).bind fun g14 => some (.inr (), g14)) (spX4_isForgedHere Vp) := by
  have ha := R.1.2.2.2.2.2.2.2.2.2.2.1
  have w1 := R.2.2.2.2.1.1.2.1
  obtain ⟨FV0, f1, f2, f3, f4, f5, f6, f7, f8, f9, f10⟩ := id R.2.2.1
  have ob1 : ∀ (τ : Type) (K : Option τ), ((hf_ob 0 19 g l1).bind fun _ => K) = K := fun τ K => f5.L.ob K
  have r1 : V.2.2.2.1 7 1 = Int32.ofNat (v 1) := R.2.2.2.1.1 1 (by decide) (by decide) (by decide) (by decide)
  have z1 : hf_ld 86 (V.2.2.2.1 7) (1 : Int32) = some (V.2.2.2.1 7 1) := z_ld (i := 1) (by decide) (by decide)
  unfold spX4_isForgedHere
  rw [hp, Option.bind_some, z1, Option.bind_some, r1, hf_gi_eq f1, Option.bind_some, hf_ga_eq f1, f2, Option.bind_some, ob1, f5.L.size, hf_b2_some, R.1.2.1.pob]
  rcases xm_num R.1 0 (Int32.ofNat (v 1) - 1) with ⟨g', V', c, x1, x2, x3, x4, x5, x6, x7, x8, x9⟩ | ⟨n1, a1, x1, x2, x3, x4, x5, x6, x7, x8⟩
  · rw [x1, hf_bT_inl, x2, hf_b2_some, if_pos rfl]
    exact zFR.fail K (K.mono (Nat.le_add_right n 0)) (by decide) ha rfl rfl x3 x4 x5 x6 x7 x8 (fun k hk => by
      rw [x9]
      exact (R.2.2.2.1.h7 R.2.2.2.2) k hk)
  have R1 := R.num x8
  have hn1 := z_lastlt x4 x5 (by omega)
  obtain ⟨FV, h1, h2, h3, h4, h5, h6, h7, h8, h9, h10⟩ := id R1.2.2.1
  have hfv : FV.1 9 = FV0.1 9 := by rw [f9.2.2.2.2.2.2.1, h9.2.2.2.2.2.2.1]
  have a1' : (10 : Int32) + (5 : Int32) * Int32.ofNat n1 + (4 : Int32) = Int32.ofNat (10 + 5 * n1 + 4) := by rw [z_lit, z_lit, z_lit, z_mul, z_add, z_add]
  have x10 : FV0.1 9 ||| ((1 : Int32) <<< (Int32.ofNat n1 &&& 31)) = Int32.ofNat (zset (fun j => zup v (10 + 5 * n1 + 4) 1 (10 + 5 * j + 4) == 1) (v 1)) := by
    rw [f9.2.2.2.2.2.2.1, z_sh1 (by omega), z_or, zset_forge v hn1]
  obtain ⟨k3, k4, k5, k6, k7, k8, k9, k10, k11, k12⟩ := h9
  have R2 := R1.upd (FV' := hf_ui FV 9 (Int32.ofNat (zset (fun j => zup v (10 + 5 * n1 + 4) 1 (10 + 5 * j + 4) == 1) (v 1)))) (V' := hf_ua (hf_ui (hf_ui V 8 (Int32.ofNat a1)) 10 (Int32.ofNat n1)) 7 (10 + 5 * n1 + 4) (Int32.ofNat 1)) (v' := zup v (10 + 5 * n1 + 4) 1) (s5 := t5) (s6 := t6) (s8 := t8) h1 rfl (zup_ne _ (by omega) _) (zup_ne _ (by omega) _) (fun k j hk hj => zup_ne _ (by omega) _) (fun b j hb hj => zup_ne _ (by omega) _) (by
    refine ⟨?_, ?_, ?_, ?_, ?_, ?_, hf_ui_at _ _ _, ?_, ?_, ?_⟩
    · rw [hf_ui_ne _ (by decide), zup_ne _ (by omega)]; exact k3
    · rw [hf_ui_ne _ (by decide), zup_ne _ (by omega)]; exact k4
    · rw [hf_ui_ne _ (by decide), zup_ne _ (by omega)]; exact k5
    · rw [hf_ui_ne _ (by decide), zup_ne _ (by omega)]; exact k6
    · rw [hf_ui_ne _ (by decide), zup_ne _ (by omega)]; exact k7
    · rw [hf_ui_ne _ (by decide), zup_ne _ (by omega)]; exact k8
    · rw [hf_ui_ne _ (by decide)]; exact k10
    · rw [hf_ui_ne _ (by decide)]; exact k11
    · rw [hf_ui_ne _ (by decide)]; exact k12) (fun b hb => by
    show FV.2.2.2.1 2 b = _
    rw [h10 b hb, zup_ne _ (by omega)]) rfl (hf_ua_ne _ (by decide) _ _) (R1.2.2.2.1.set (Or.inr (by omega)) (fun j => hf_ua_at _ _ _ _ _)) (R1.2.2.2.2.forge hn1)
  have K1 := (K.trans (hf_gk.pc R.1.1 R.1.2.1.2.1 (hf_ui PV 1 (Int32.ofNat a1))).gm).up2 hfa h1 (.inl (1, 1, hf_ui FV 9 (Int32.ofNat (zset (fun j => zup v (10 + 5 * n1 + 4) 1 (10 + 5 * j + 4) == 1) (v 1)))))
  rw [x1, hf_bT_inr, x2, hf_b2_some, if_neg (by decide), hf_ui_at, a1', z_sd (by omega) (by omega), x10, hf_pi_eq h1, Option.bind_some]
  exact Or.inr ⟨_, _, _, a1, l1, d1, l2, d2, p, q, _, t5, t6, t8, rfl, rfl, R2, by omega, hlt, K1.mono (by omega), (((zvf.rfl_ V).ui (by omega) _).ui (by omega) _).ua _ _⟩
theorem fair_dusk (hp : spX4_passWord Vp = some V) (hpa : Vp.2.2.2.1 7 = V.2.2.2.1 7) (R : zFS gs pa o nm B T g PV V a kc fa l1 d1 l2 d2 p q v t5 false t8) (x : Int32) (K : hf_gm pa o g0 g n) (hfa : g0.2.1 ≤ fa) (hlt : g0.2.1 ≤ l1 ∧ g0.2.1 ≤ d1 ∧ g0.2.1 ≤ l2 ∧ g0.2.1 ≤ d2) : zFR gs pa o nm B T g0 V n a kc fa (spX5_dusk pa fa g) (hf_b2 (spX4_isOnceHere (6 : Int32) x (1 : Int32) (24 : Int32) Vp) fun x17 V16 => if x17 = 0 then (some ((0 : Int32), V16)) else hf_b2 (spX4_cellHere (7 : Int32) (1 : Int32) (99 : Int32) V16) fun x19 V18 => if x19 = 0 then (some ((0 : Int32), V18)) else some ((1 : Int32), V18)) := by
  have ha := R.1.2.2.2.2.2.2.2.2.2.2.1
  have e0 : Vp.2.2.2.1 7 6 = -1 := by
    rw [hpa]
    exact R.2.2.2.1.2.2.1
  have hM : spX4_isOnceHere (6 : Int32) x (1 : Int32) (24 : Int32) Vp = hf_b2 (spX4_cellHere (6 : Int32) (1 : Int32) (24 : Int32) V) fun x4 V3 => if x4 = 0 ∨ x4 = 1 then some (x4, V3) else none := by
    have z0 : hf_ld 86 (Vp.2.2.2.1 7) (6 : Int32) = some (Vp.2.2.2.1 7 6) := z_ld (i := 6) (by decide) (by decide)
    unfold spX4_isOnceHere
    rw [z0, Option.bind_some, e0, if_pos (by decide), hp, Option.bind_some]
  rw [hM]
  unfold spX5_dusk spX4_cellHere
  rw [R.1.2.1.pob]
  rcases xm_num R.1 1 24 with ⟨g', V', c, x1, x2, x3, x4, x5, x6, x7, x8, x9⟩ | ⟨n1, a1, x1, x2, x3, x4, x5, x6, x7, x8⟩
  · rw [x1, hf_bT_inl, x2, hf_b2_some, if_pos rfl, hf_b2_some, if_pos (Or.inl rfl), hf_b2_some, if_pos rfl]
    exact zFR.fail K (K.mono (Nat.le_add_right n 0)) (by decide) ha rfl rfl x3 x4 x5 x6 x7 x8 (fun k hk => by
      rw [x9]
      exact (R.2.2.2.1.h7 R.2.2.2.2) k hk)
  have R1 := R.num x8
  obtain ⟨b1, b2⟩ := z_lele (c := 1) (d := 24) x3 x4 x5 (by decide) (by decide)
  obtain ⟨FV, f1, f2, f3, f4, f5, f6, f7, f8, f9, f10⟩ := id R1.2.2.1
  have s6 : ∀ (U : hf_V) (y : Int32) (τ : Type) (k : hf_V → Option τ), hf_sd 86 (6 : Int32) (fun j => hf_ua U 7 j y) k = k (hf_ua U 7 6 y) := fun U y τ k => z_sd (i := 6) (by decide) (by decide)
  have s7 : ∀ (U : hf_V) (y : Int32) (τ : Type) (k : hf_V → Option τ), hf_sd 86 (7 : Int32) (fun j => hf_ua U 7 j y) k = k (hf_ua U 7 7 y) := fun U y τ k => z_sd (i := 7) (by decide) (by decide)
  obtain ⟨PV1, hPV1⟩ : ∃ y, y = hf_ui PV 1 (Int32.ofNat a1) := ⟨_, rfl⟩
  obtain ⟨g1, hg1⟩ : ∃ y, y = hf_pc g pa PV1 := ⟨_, rfl⟩
  obtain ⟨V1, hV1⟩ : ∃ y, y = hf_ui (hf_ui V 8 (Int32.ofNat a1)) 10 (Int32.ofNat n1) := ⟨_, rfl⟩
  have hV10 : V1.1 10 = Int32.ofNat n1 := by rw [hV1, hf_ui_at]
  rw [← hPV1, ← hg1, ← hV1] at x8 R1
  rw [← hPV1, ← hg1] at x1 f1
  rw [← hV1] at x2
  have K01 : hf_gk pa o g g1 0 := by rw [hg1]; exact hf_gk.pc R.1.1 R.1.2.1.2.1 _
  have Z1 : zvf V V1 := by rw [hV1]; exact ((zvf.rfl_ V).ui (by omega) _).ui (by omega) _
  obtain ⟨FV1, hFV1⟩ : ∃ y, y = hf_ui FV 6 (Int32.ofNat n1) := ⟨_, rfl⟩
  obtain ⟨g2, hg2⟩ : ∃ y, y = hf_up g1 fa (.inl (1, 1, FV1)) := ⟨_, rfl⟩
  obtain ⟨V2, hV2⟩ : ∃ y, y = hf_ua V1 7 6 (Int32.ofNat n1) := ⟨_, rfl⟩
  have S2 : hf_ps gs g2 pa o nm PV1 B T V2 a1 0 := by
    rw [hg2]
    exact (x8.upF f1 FV1).v (by rw [hV2]; rfl) (by rw [hV2]; exact hf_ua_ne _ (by decide) _ _)
  have K2 : hf_gm pa o g0 g2 n := by
    rw [hg2]
    exact ((K.trans K01.gm).mono (by omega)).up2 hfa f1 _
  have hz7 : zh7 V2 := by
    rw [hV2]
    exact (R1.2.2.2.1.h7 R1.2.2.2.2).ua _ (by omega)
  have Z2 : zvf V V2 := by rw [hV2]; exact Z1.ua _ _
  rw [x1, hf_bT_inr, x2, hf_b2_some, if_neg (by decide), s6, hV10, hf_b2_some, if_pos (Or.inr rfl), hf_b2_some, if_neg (by decide), hf_pi_eq f1, Option.bind_some, ← hFV1, ← hg2, ← hV2, S2.2.1.pob]
  rcases xm_num S2 1 99 with ⟨g', V', c, y1, y2, y3, y4, y5, y6, y7, y8, y9⟩ | ⟨n2, a2, y1, y2, y3, y4, y5, y6, y7, y8⟩
  · rw [y1, hf_bT_inl, y2, hf_b2_some, if_pos rfl, hf_b2_some, if_pos rfl]
    exact zFR.fail K (K2.mono (Nat.le_add_right n 0)) (by decide) ha rfl rfl y3 y4 y5 y6 y7 (Z2.trans y8) (fun k hk => by
      rw [y9]
      exact hz7 k hk)
  obtain ⟨b3, b4⟩ := z_lele (c := 1) (d := 99) y3 y4 y5 (by decide) (by decide)
  -- the same state, the fair changed at the end alone
  have R2 := R1.num (n := n2) (a' := a2) ((x8.at_ y7).u10 _)
  obtain ⟨PV2, hPV2⟩ : ∃ y, y = hf_ui PV1 1 (Int32.ofNat a2) := ⟨_, rfl⟩
  obtain ⟨g3, hg3⟩ : ∃ y, y = hf_pc g1 pa PV2 := ⟨_, rfl⟩
  obtain ⟨V3, hV3⟩ : ∃ y, y = hf_ui (hf_ui V1 8 (Int32.ofNat a2)) 10 (Int32.ofNat n2) := ⟨_, rfl⟩
  rw [← hPV2, ← hg3, ← hV3] at R2
  have hne : pa ≠ fa := hf_ob_dif R1.1.2.1.2.1 f1 (by decide)
  have hg4 : hf_pc g2 pa PV2 = hf_up g3 fa (.inl (1, 1, FV1)) := by
    rw [hg2, hg3]
    exact (hf_up_comm g1 hne _ _).symm
  have f13 : hf_ob 1 1 g3 fa = some FV := by
    rw [hg3]
    unfold hf_pc
    rw [hf_ob_ne hne.symm]
    exact f1
  obtain ⟨k3, k4, k5, k6, k7, k8, k9, k10, k11, k12⟩ := f9
  obtain ⟨FV3, hFV3⟩ : ∃ y, y = hf_ui (hf_ui FV1 7 (Int32.ofNat n2)) 11 1 := ⟨_, rfl⟩
  have uf : ∀ k, k ≠ 6 → k ≠ 7 → k ≠ 11 → FV3.1 k = FV.1 k := fun k h1 h2 h3 => by rw [hFV3, hf_ui_ne _ h3, hf_ui_ne _ h2, hFV1, hf_ui_ne _ h1]
  have er : FV3.2 = FV.2 := by rw [hFV3, hFV1]; rfl
  have hzz : zset (fun k => zup (zup v 6 n1) 7 n2 (10 + 5 * k + 4) == 1) (v 1) = zset (fun k => v (10 + 5 * k + 4) == 1) (v 1) := zset_congr _ (fun k hk => by
    show (zup (zup v 6 n1) 7 n2 (10 + 5 * k + 4) == 1) = _
    rw [zup_ne _ (by omega), zup_ne _ (by omega)])
  have vv : ∀ j, j ≠ 6 → j ≠ 7 → zup (zup v 6 n1) 7 n2 j = v j := fun j h1 h2 => by rw [zup_ne _ h2, zup_ne _ h1]
  have v6 : zup (zup v 6 n1) 7 n2 6 = n1 := by rw [zup_ne _ (by decide), zup_at]
  have R3 := R2.upd (FV' := FV3) (V' := hf_ua (hf_ua V3 7 6 (Int32.ofNat n1)) 7 7 (Int32.ofNat n2)) (v' := zup (zup v 6 n1) 7 n2) (s5 := t5) (s6 := true) (s8 := t8) f13 (by rw [er]) (vv 1 (by decide) (by decide)) (vv 2 (by decide) (by decide)) (fun k j _ _ => vv _ (by omega) (by omega)) (fun b j _ _ => vv _ (by omega) (by omega)) (by
    rw [vv 0 (by decide) (by decide), vv 4 (by decide) (by decide), vv 5 (by decide) (by decide), v6, zup_at, vv 8 (by decide) (by decide), hzz]
    exact ⟨(uf 3 (by decide) (by decide) (by decide)).trans k3, (uf 4 (by decide) (by decide) (by decide)).trans k4, (uf 5 (by decide) (by decide) (by decide)).trans k5, by rw [hFV3, hf_ui_ne _ (by decide), hf_ui_ne _ (by decide), hFV1, hf_ui_at], by rw [hFV3, hf_ui_ne _ (by decide), hf_ui_at], (uf 8 (by decide) (by decide) (by decide)).trans k8, (uf 9 (by decide) (by decide) (by decide)).trans k9, (uf 10 (by decide) (by decide) (by decide)).trans k10, by rw [hFV3, hf_ui_at]; rfl, (uf 12 (by decide) (by decide) (by decide)).trans k12⟩) (fun b hb => by
    rw [er, f10 b hb, vv _ (by omega) (by omega)]) rfl (by rw [hf_ua_ne _ (by decide), hf_ua_ne _ (by decide)]) (by
    obtain ⟨m0, m5, m6, m7, m8, j5, j6, j8⟩ := R2.2.2.2.1
    refine ⟨fun k h1 h2 h3 h4 => ?_, ?_, ?_, ?_, ?_, ?_, ?_, ?_⟩
    · rw [hf_ua_at, if_neg (by omega), hf_ua_at, if_neg (by omega), vv _ (by omega) (by omega)]
      exact m0 k h1 h2 h3 h4
    · rw [hf_ua_at, if_neg (by decide), hf_ua_at, if_neg (by decide), vv _ (by decide) (by decide)]
      exact m5
    · rw [hf_ua_at, if_neg (by decide), hf_ua_at, if_pos rfl, v6]
      rfl
    · rw [hf_ua_at, if_pos rfl, zup_at]
      rfl
    · rw [hf_ua_at, if_neg (by decide), hf_ua_at, if_neg (by decide), vv _ (by decide) (by decide)]
      exact m8
    · rw [vv _ (by decide) (by decide)]
      exact j5
    · intro z
      cases z
    · rw [vv _ (by decide) (by decide)]
      exact j8) ((R2.2.2.2.2.own (Or.inr (Or.inr (Or.inr (Or.inl rfl)))) (fun z => by omega) (fun z => by omega) (fun z => by omega) (fun _ => b2) (fun z => by omega) (fun z => by omega)).own (Or.inr (Or.inr (Or.inr (Or.inr (Or.inl rfl))))) (fun z => by omega) (fun z => by omega) (fun z => by omega) (fun z => by omega) (fun _ => b4) (fun z => by omega))
  have K3 : hf_gm pa o g0 (hf_up g3 fa (.inl (1, 1, FV3))) n := by
    rw [hg3]
    exact ((((K.trans K01.gm).trans (hf_gk.pc K01.no R1.1.2.1.2.1 PV2).gm).mono (by omega)).up2 hfa (by rw [hg3] at f13; exact f13) _)
  have hv3 : hf_ui (hf_ui V2 8 (Int32.ofNat a2)) 10 (Int32.ofNat n2) = hf_ua V3 7 6 (Int32.ofNat n1) := by rw [hV2, hV3]; rfl
  have hv310 : (hf_ua V3 7 6 (Int32.ofNat n1)).1 10 = Int32.ofNat n2 := by
    show V3.1 10 = _
    rw [hV3, hf_ui_at]
  rw [y1, hf_bT_inr, y2, hf_b2_some, if_neg (by decide), ← hPV2, hg4, hv3, s7, hv310, hf_b2_some, if_neg (by decide), hf_pi_eq (hf_ob_up _ _ _ _ _), Option.bind_some, hf_up_up, hf_pi_eq (hf_ob_up _ _ _ _ _), Option.bind_some, hf_up_up, ← hFV3]
  refine Or.inr ⟨_, _, _, a2, l1, d1, l2, d2, p, q, _, t5, true, t8, rfl, rfl, R3, by omega, hlt, K3.mono (by omega), ?_⟩
  rw [hV3]
  exact ((((Z1.ui (by omega) _).ui (by omega) _).ua _ _).ua _ _)
end ZQ
