set_option maxRecDepth 100000
set_option maxHeartbeats 1000000
/-! HalfFair's acts on a State -/
theorem zsee_fe {v : Nat → Nat} (W : hf_wf v) : ∀ k, k ≤ v 2 → hf_fe v (zsee v k) ∧ hf_wf (zsee v k)
  | 0, _ => ⟨hf_fe.rfl_ v, W⟩
  | k + 1, hk => by
    obtain ⟨E, W2⟩ := zsee_fe W k (by omega)
    have q2 := W.v2
    have e2 : zsee v k 2 = v 2 := E.2.2.1
    have hb := (W.buyer (b := k) (by omega)).2.2.1
    have hz := zat_lt v (zst v (v (70 + 4 * k + 1)) (v 3)) W.v1
    have ho : v (70 + 4 * k + 2) ||| zat v (zst v (v (70 + 4 * k + 1)) (v 3)) < 4096 := z_or_lt 12 hb hz
    exact ⟨E.trans (hf_fe.saw W2 (by omega) _), W2.saw (by omega) ho⟩
theorem zhour_wf {v : Nat → Nat} (W : hf_wf v) (h3 : v 3 < 99) : hf_fe v (zhour v) ∧ hf_wf (zhour v) := by
  have W2 := W.now (x := v 3 + 1) (by omega)
  have e2 : (zup v 3 (v 3 + 1)) 2 = v 2 := zup_ne _ (by decide) _
  obtain ⟨a, b⟩ := zsee_fe W2 (v 2) (by omega)
  exact ⟨(hf_fe.now v _).trans a, b⟩
theorem zgo_wf {v : Nat → Nat} (W : hf_wf v) {b w : Nat} (hb : b < v 2) : hf_fe v (zgo v b w) ∧ hf_wf (zgo v b w) := by
  have q2 := W.v2
  have q0 := W.b0 hb
  exact ⟨hf_fe.spot W (by omega) _, W.spot (by omega) (Nat.mod_lt _ q0)⟩
theorem zbuys_wf {v : Nat → Nat} (W : hf_wf v) {b k : Nat} (hb : b < v 2) (hk : k < v 1) : hf_fe v (zbuys v b k) ∧ hf_wf (zbuys v b k) := by
  have q1 := W.v1
  have q2 := W.v2
  have qb := (W.buyer hb).1
  have E1 := hf_fe.purse W (b := b) (by omega) (v (70 + 4 * b) - zpr v k)
  have W1 := W.purse (b := b) (x := v (70 + 4 * b) - zpr v k) (by omega) (by omega)
  exact ⟨E1.trans (hf_fe.where_ W1 (by omega) _), W1.where_ (by omega) (by omega) (Or.inr (by omega))⟩
section ZX
variable {h : hf_H} {o f s : Nat} {v : Nat → Nat}
theorem hf_SS.self {SV : hf_V} (e : hf_ob 1 2 h s = some SV) : hf_sc h s SV = h := hf_up_self e
theorem x_goes (F : hf_F h f v) (S : hf_SS h s v) (W : hf_wf v) {b w : Nat} (hb : b < v 2) (hw : w < 3) : ∃ SV, spX2_goes s f (Int32.ofNat b) (zway w) h = some (hf_sc h s SV) ∧ hf_S2 SV (zgo v b w) := by
  have q2 := W.v2
  have q0 := W.b0 hb
  have q9 := W.v0
  have qb := (W.buyer hb).2.1
  have S0 := S
  obtain ⟨SV, s1, s2⟩ := S0
  refine ⟨hf_ua SV 2 b (Int32.ofNat ((v (70 + 4 * b + 1) + w + v 0 - 1) % v 0)), ?_, s2.spot W (by omega) _⟩
  unfold spX2_goes
  simp only [S.ob, S.spot hb q2, F.stalls, Option.bind_some]
  have hz : ¬ Int32.ofNat (v 0) = 0 := fun e => by
    have := (z_eq (a := v 0) (b := 0) (by omega) (by decide)).mp e
    omega
  rw [if_neg hz, z_way q0]
  simp (disch := omega) only [z_div, z_mul, z_rem]
  rw [hf_si_eq s1 2 (by omega) (by omega), Option.bind_some]
  rfl
theorem x_sees (F : hf_F h f v) (S : hf_SS h s v) (W : hf_wf v) : ∃ SV, spX2_sees s f h = some (hf_sc h s SV) ∧ hf_S2 SV (zsee v (v 2)) := by
  have q1 := W.v1
  have q2 := W.v2
  have q3 := W.v3
  have S0 := S
  obtain ⟨SV0, s1, s2⟩ := S0
  have hstart : spX2_sees s f h = lpX2_sees_2 hf_N s f (Int32.ofNat 0) (hf_sc h s SV0) := by
    rw [hf_SS.self s1]
    rfl
  rw [hstart]
  refine hf_loopR (fun g i SV => lpX2_sees_2 g s f (Int32.ofNat i) (hf_sc h s SV)) (fun i SV => hf_S2 SV (zsee v i)) (v 2) (fun r => ∃ SV, r = some (hf_sc h s SV) ∧ hf_S2 SV (zsee v (v 2))) (fun i g SV hi hP => ?_) (fun g SV hP => ?_) SV0 s2 (fuel := hf_N) (by unfold hf_N; omega)
  · obtain ⟨E, W2⟩ := zsee_fe W i (by omega)
    have S2 : hf_SS (hf_sc h s SV) s (zsee v i) := hf_SS.sc h s hP
    have F2 : hf_F (hf_sc h s SV) f (zsee v i) := F.sc S E SV
    have e2 : zsee v i 2 = v 2 := E.2.2.1
    have e0 : zsee v i 0 = v 0 := E.1
    have e1 : zsee v i 1 = v 1 := E.2.1
    have e4 : zsee v i 4 = v 4 := E.2.2.2.1
    have e3 : zsee v i 3 = v 3 := zsee_ot v i 3 (fun b _ => by omega)
    have e5 : zsee v i (70 + 4 * i + 1) = v (70 + 4 * i + 1) := zsee_ot v i _ (fun b _ => by omega)
    have e6 : zsee v i (70 + 4 * i + 2) = v (70 + 4 * i + 2) := zsee_ot v i _ (fun b hb => by omega)
    have qi := (W.buyer hi).2.1
    have qz := W.v0
    have q5 := (z_st (v 3) qi).1
    have e7 : zat (zsee v i) (zst v (v (70 + 4 * i + 1)) (v 3)) = zat v (zst v (v (70 + 4 * i + 1)) (v 3)) := zat_congr e1 (fun k hk => zsee_ot v i _ (fun b hb => by omega)) _
    have e8 := zst_congr (v := v) (v' := zsee v i) e0 e4 (v (70 + 4 * i + 1)) (v 3)
    refine ⟨hf_ua SV 3 i (Int32.ofNat (v (70 + 4 * i + 2) ||| zat v (zst v (v (70 + 4 * i + 1)) (v 3)))), ?_, hP.saw W2 (by omega) _⟩
    show ndX2_sees_2 (lpX2_sees_2 g) _ _ _ _ = _
    unfold ndX2_sees_2
    simp only [F2.sizeB, e2]
    rw [if_neg (fun z => by have := (z_le (by omega) (by omega)).mp z; omega)]
    simp only [S2.ob, S2.saw (by omega : i < zsee v i 2) (by omega), Option.bind_some, x_stallOf F2 S2 W2 (by omega : i < zsee v i 2), hf_b2_some, e6, e5, e3, e8]
    rw [x_halvesAt F2 S2 W2 (by omega), hf_b2_some, e7, z_or, hf_si_eq (hf_ob_sc h s SV) 3 (by omega) (by omega), Option.bind_some, hf_let_eq, z_lit, z_add]
    show lpX2_sees_2 g s f _ (hf_sc (hf_sc h s SV) s _) = _
    rw [hf_sc_sc]
  · obtain ⟨E, W2⟩ := zsee_fe W (v 2) (by omega)
    have F2 : hf_F (hf_sc h s SV) f (zsee v (v 2)) := F.sc S E SV
    have e2 : zsee v (v 2) 2 = v 2 := E.2.2.1
    refine ⟨SV, ?_, hP⟩
    show ndX2_sees_2 (lpX2_sees_2 g) _ _ _ _ = _
    unfold ndX2_sees_2
    simp only [F2.sizeB, e2]
    rw [if_pos ((z_le (by omega) (by omega)).mpr (Nat.le_refl _))]
theorem x_passes (F : hf_F h f v) (S : hf_SS h s v) (W : hf_wf v) (h3 : v 3 < 99) : ∃ SV, spX2_passes s f h = some (hf_sc h s SV) ∧ hf_S2 SV (zhour v) := by
  have S0 := S
  obtain ⟨SV0, s1, s2⟩ := S0
  have hP := s2.now (v 3 + 1)
  have W2 := W.now (x := v 3 + 1) (by omega)
  have S2 : hf_SS (hf_sc h s (hf_ui SV0 4 (Int32.ofNat (v 3 + 1)))) s (zup v 3 (v 3 + 1)) := hf_SS.sc h s hP
  have F2 := F.sc S (hf_fe.now v (v 3 + 1)) (hf_ui SV0 4 (Int32.ofNat (v 3 + 1)))
  obtain ⟨SV1, t1, t2⟩ := x_sees F2 S2 W2
  refine ⟨SV1, ?_, ?_⟩
  · unfold spX2_passes
    rw [S.now, Option.bind_some, z_lit, z_add, hf_pi_eq s1, Option.bind_some]
    show ((hf_ob 1 2 (hf_sc h s (hf_ui SV0 4 (Int32.ofNat (v 3 + 1)))) s).bind fun _ => (spX2_sees s f (hf_sc h s (hf_ui SV0 4 (Int32.ofNat (v 3 + 1))))).bind fun g3 => some g3) = _
    rw [S2.ob, t1, Option.bind_some, hf_sc_sc]
  · have e2 : (zup v 3 (v 3 + 1)) 2 = v 2 := zup_ne _ (by decide) _
    rw [e2] at t2
    exact t2
theorem x_buys (F : hf_F h f v) (S : hf_SS h s v) (W : hf_wf v) {b k : Nat} (hb : b < v 2) (hk : k < v 1) (hle : zpr v k ≤ v (70 + 4 * b)) : ∃ SV, spX2_buys s f (Int32.ofNat b) (Int32.ofNat k) h = some (hf_sc h s SV) ∧ hf_S2 SV (zbuys v b k) := by
  have q1 := W.v1
  have q2 := W.v2
  have qb := (W.buyer hb).1
  have S0 := S
  obtain ⟨SV0, s1, s2⟩ := S0
  have W1 := W.purse (b := b) (x := v (70 + 4 * b) - zpr v k) (by omega) (by omega)
  have hP := s2.purse W (b := b) (by omega) (v (70 + 4 * b) - zpr v k)
  refine ⟨_, ?_, hP.where_ W1 (k := k) (by omega) (100 + b)⟩
  unfold spX2_buys
  simp only [S.ob, S.purse hb q2, S.now, F.ob, x_priceAt F W hk, hf_b2_some, Option.bind_some]
  rw [z_sub hle, hf_si_eq s1 1 (by omega) (by omega), Option.bind_some, hf_ob_up, Option.bind_some, hf_si_eq (hf_ob_up h s 1 2 _) 0 (by omega) (by omega), Option.bind_some, hf_up_up, z_lit, z_add]
  rfl
end ZX
/-- all of a state's cells -/
def hf_cp (SV DV : hf_V) : Prop := (∀ k, k < 12 → DV.2.2.2.1 0 k = SV.2.2.2.1 0 k) ∧ (∀ k, k < 4 → DV.2.2.2.1 1 k = SV.2.2.2.1 1 k ∧ DV.2.2.2.1 2 k = SV.2.2.2.1 2 k ∧ DV.2.2.2.1 3 k = SV.2.2.2.1 3 k) ∧ DV.1 4 = SV.1 4
theorem hf_S2.cp {SV DV : hf_V} {v : Nat → Nat} (S : hf_S2 SV v) (W : hf_wf v) (C : hf_cp SV DV) : hf_S2 DV v := by
  have q1 := W.v1
  have q2 := W.v2
  obtain ⟨s1, s2, s3⟩ := S
  obtain ⟨c1, c2, c3⟩ := C
  refine ⟨fun k hk => (c1 k (by omega)).trans (s1 k hk), fun b hb => ?_, c3.trans s3⟩
  obtain ⟨d1, d2, d3⟩ := c2 b (by omega)
  obtain ⟨e1, e2, e3⟩ := s2 b hb
  exact ⟨d1.trans e1, d2.trans e2, d3.trans e3⟩
section ZX
variable {h : hf_H} {s d : Nat} {SV : hf_V}
theorem x_copy28 (e : hf_ob 1 2 h s = some SV) (hne : s ≠ d) {DV0 : hf_V} (h0 : ∀ k, k < 12 → DV0.2.2.2.1 0 k = SV.2.2.2.1 0 k) : ∃ DV, lpX2_copyFrom_28 hf_N d s (Int32.ofNat 0) (hf_sc h d DV0) = some (hf_sc h d DV) ∧ hf_cp SV DV := by
  refine hf_loopR (fun g i DV => lpX2_copyFrom_28 g d s (Int32.ofNat i) (hf_sc h d DV)) (fun i DV => (∀ k, k < 12 → DV.2.2.2.1 0 k = SV.2.2.2.1 0 k) ∧ ∀ k, k < i → DV.2.2.2.1 1 k = SV.2.2.2.1 1 k ∧ DV.2.2.2.1 2 k = SV.2.2.2.1 2 k ∧ DV.2.2.2.1 3 k = SV.2.2.2.1 3 k) 4 (fun r => ∃ DV, r = some (hf_sc h d DV) ∧ hf_cp SV DV) (fun i g DV hi hP => ?_) (fun g DV hP => ?_) DV0 ⟨h0, fun k hk => by omega⟩ (fuel := hf_N) (by unfold hf_N; omega)
  · refine ⟨hf_ua (hf_ua (hf_ua DV 1 i (SV.2.2.2.1 1 i)) 2 i (SV.2.2.2.1 2 i)) 3 i (SV.2.2.2.1 3 i), ?_, ?_⟩
    · show ndX2_copyFrom_28 (lpX2_copyFrom_28 g) _ _ _ _ = _
      unfold ndX2_copyFrom_28 hf_sc
      rw [z_lit, if_neg (z_nle (a := 4) (by omega) (by decide))]
      have es : ∀ DV : hf_V, hf_ob 1 2 (hf_up h d (.inl (1, 2, DV))) s = some SV := fun DV => by rw [hf_ob_ne hne]; exact e
      simp (disch := omega) only [es, hf_ob_up, Option.bind_some, hf_ai_eq (es _), z_ld]
      simp (disch := omega) only [hf_si_eq (hf_ob_up h d 1 2 _), hf_up_up, es, hf_ob_up, Option.bind_some, hf_ai_eq (es _), z_ld, hf_let_eq, z_lit, z_add]
    · obtain ⟨p1, p2⟩ := hP
      refine ⟨fun k hk => p1 k hk, fun k hk => ?_⟩
      rw [hf_ua_ne _ (by decide), hf_ua_ne _ (by decide), hf_ua_at, hf_ua_ne _ (by decide), hf_ua_at, hf_ua_ne _ (by decide), hf_ua_at, hf_ua_ne _ (by decide)]
      by_cases e1 : k = i
      · subst e1; rw [if_pos rfl, if_pos rfl, if_pos rfl]; exact ⟨rfl, rfl, rfl⟩
      · rw [if_neg e1, if_neg e1, if_neg e1]
        exact p2 k (by omega)
  · refine ⟨hf_ui DV 4 (SV.1 4), ?_, hP.1, hP.2, hf_ui_at _ _ _⟩
    show ndX2_copyFrom_28 (lpX2_copyFrom_28 g) _ _ _ _ = _
    unfold ndX2_copyFrom_28 hf_sc
    have es : hf_ob 1 2 (hf_up h d (.inl (1, 2, DV))) s = some SV := by rw [hf_ob_ne hne]; exact e
    rw [z_lit, if_pos ((z_le (by decide) (by decide)).mpr (Nat.le_refl _)), hf_gi_eq es, Option.bind_some, hf_pi_eq (hf_ob_up h d 1 2 _), Option.bind_some, hf_up_up]
theorem x_copyFrom (e : hf_ob 1 2 h s = some SV) {DV0 : hf_V} (e0 : hf_ob 1 2 h d = some DV0) (hne : s ≠ d) : ∃ DV, spX2_copyFrom d s h = some (hf_sc h d DV) ∧ hf_cp SV DV := by
  have hstart : spX2_copyFrom d s h = lpX2_copyFrom_2 hf_N d s (Int32.ofNat 0) (hf_sc h d DV0) := by
    rw [hf_SS.self e0]
    rfl
  rw [hstart]
  refine hf_loopR (fun g i DV => lpX2_copyFrom_2 g d s (Int32.ofNat i) (hf_sc h d DV)) (fun i DV => ∀ k, k < i → DV.2.2.2.1 0 k = SV.2.2.2.1 0 k) 12 (fun r => ∃ DV, r = some (hf_sc h d DV) ∧ hf_cp SV DV) (fun i g DV hi hP => ?_) (fun g DV hP => ?_) DV0 (fun k hk => by omega) (fuel := hf_N) (by unfold hf_N; omega)
  · refine ⟨hf_ua DV 0 i (SV.2.2.2.1 0 i), ?_, ?_⟩
    · show ndX2_copyFrom_2 (lpX2_copyFrom_2 g) _ _ _ _ = _
      unfold ndX2_copyFrom_2 hf_sc
      rw [z_lit, if_neg (z_nle (a := 12) (by omega) (by decide))]
      have es : ∀ DV : hf_V, hf_ob 1 2 (hf_up h d (.inl (1, 2, DV))) s = some SV := fun DV => by rw [hf_ob_ne hne]; exact e
      simp (disch := omega) only [es, hf_ob_up, Option.bind_some, hf_ai_eq (es _), z_ld]
      simp (disch := omega) only [hf_si_eq (hf_ob_up h d 1 2 _), hf_up_up, Option.bind_some, hf_let_eq, z_lit, z_add]
    · intro k hk
      rw [hf_ua_at]
      by_cases e1 : k = i
      · subst e1; rw [if_pos rfl]
      · rw [if_neg e1]
        exact hP k (by omega)
  · have e9 : lpX2_copyFrom_2 (g + 1) d s (Int32.ofNat 12) (hf_sc h d DV) = lpX2_copyFrom_28 hf_N d s (Int32.ofNat 0) (hf_sc h d DV) := by
      show ndX2_copyFrom_2 (lpX2_copyFrom_2 g) _ _ _ _ = _
      unfold ndX2_copyFrom_2
      rw [z_lit, if_pos (z_yle (Nat.le_refl _) (by decide))]
      rfl
    rw [e9]
    exact x_copy28 e hne hP
end ZX
