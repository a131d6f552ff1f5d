set_option maxRecDepth 100000
set_option maxHeartbeats 1000000
/-! HalfFair's acts on a State -/
theorem zsee_fe {v : Nat → Nat} (W : hf_wf v) : ∀ k, k ≤ v 2 → hf_fe v (zsee v k) ∧ hf_wf (zsee v k)
  | 0, _ => ⟨hf_fe.rfl_ v, W⟩
  | k + 1, hk => by
    obtain ⟨E, W2⟩ := zsee_fe W k (by omega)
    have q2 := W.v2
    have e2 : zsee v k 2 = v 2 := E.2.2.1
    have hb := (W.buyer (b := k) (by omega)).2.2.1
    have hz := zat_lt v (zst v (v (70 + 4 * k + 1)) (v 3)) W.v1
    have ho : v (70 + 4 * k + 2) ||| zat v (zst v (v (70 + 4 * k + 1)) (v 3)) < 4096 := z_or_lt 12 hb hz
    exact ⟨E.trans (hf_fe.saw W2 (by omega) _), W2.saw (by omega) ho⟩
theorem zhour_wf {v : Nat → Nat} (W : hf_wf v) (h3 : v 3 < 99) : hf_fe v (zhour v) ∧ hf_wf (zhour v) := by
  have W2 := W.now (x := v 3 + 1) (by omega)
  have e2 : (zup v 3 (v 3 + 1)) 2 = v 2 := zup_ne _ (by decide) _
  obtain ⟨a, b⟩ := zsee_fe W2 (v 2) (by omega)
  exact ⟨(hf_fe.now v _).trans a, b⟩
theorem zgo_wf {v : Nat → Nat} (W : hf_wf v) {b w : Nat} (hb : b < v 2) : hf_fe v (zgo v b w) ∧ hf_wf (zgo v b w) := by
  have q2 := W.v2
  have q0 := W.b0 hb
  exact ⟨hf_fe.spot W (by omega) _, W.spot (by omega) (Nat.mod_lt _ q0)⟩
theorem zbuys_wf {v : Nat → Nat} (W : hf_wf v) {b k : Nat} (hb : b < v 2) (hk : k < v 1) : hf_fe v (zbuys v b k) ∧ hf_wf (zbuys v b k) := by
  have q1 := W.v1
  have q2 := W.v2
  have qb := (W.buyer hb).1
  have E1 := hf_fe.purse W (b := b) (by omega) (v (70 + 4 * b) - zpr v k)
  have W1 := W.purse (b := b) (x := v (70 + 4 * b) - zpr v k) (by omega) (by omega)
  exact ⟨E1.trans (hf_fe.where_ W1 (by omega) _), W1.where_ (by omega) (by omega) (Or.inr (by omega))⟩
section ZX
variable {h : hf_H} {o f s : Nat} {v : Nat → Nat}
theorem hf_SS.self {SV : hf_V} (e : hf_ob 1 2 h s = some SV) : hf_sc h s SV = h := hf_up_self e
theorem x_goes (F : hf_F h f v) (S : hf_SS h s v) (W : hf_wf v) {b w : Nat} (hb : b < v 2) (hw : w < 3) : ∃ SV, spX2_goes s f (Int32.ofNat b) (zway w) h = some (hf_sc h s SV) ∧ hf_S2 SV (zgo v b w) := by
  have q2 := W.v2
  have q0 := W.b0 hb
  have q9 := W.v0
  have qb := (W.buyer hb).2.1
  have S0 := S
  obtain ⟨SV, s1, s2⟩ := S0
  refine ⟨hf_ua SV 2 b (Int32.ofNat ((v (70 + 4 * b + 1) + w + v 0 - 1) % v 0)), ?_, s2.spot W (by omega) _⟩
  unfold spX2_goes
  simp only [S.ob, S.spot hb q2, F.stalls, Option.bind_some]
  have hz : ¬ Int32.ofNat (v 0) = 0 := fun e => by
    have := (z_eq (a := v 0) (b := 0) (by omega) (by decide)).mp e
    omega
  rw [if_neg hz, z_way q0]
  simp (disch := omega) only [z_div, z_mul, z_rem]
  rw [hf_si_eq s1 2 (by omega) (by omega), Option.bind_some]
  rfl
theorem x_sees (F : hf_F h f v) (S : hf_SS h s v) (W : hf_wf v) : ∃ SV, spX2_sees s f h = some (hf_sc h s SV) ∧ hf_S2 SV (zsee v (v 2)) := by
  have q1 := W.v1
  have q2 := W.v2
  have q3 := W.v3
  have S0 := S
  obtain ⟨SV0, s1, s2⟩ := S0
  have hstart : spX2_sees s f h = lpX2_sees_2 hf_N s f (Int32.ofNat 0) (hf_sc h s SV0) := by
    rw [hf_SS.self s1]
    rfl
  rw [hstart]
  refine hf_loopR (fun g i SV => lpX2_sees_2 g s f (Int32.ofNat i) (hf_sc h s SV)) (fun i SV => hf_S2 SV (zsee v i)) (v 2) (fun r => ∃ SV, r = some (hf_sc h s SV) ∧ hf_S2 SV (zsee v (v 2))) (fun i g SV hi hP => ?_) (fun g SV hP => ?_) SV0 s2 (fuel := hf_N) (by unfold hf_N; omega)
  · obtain ⟨E, W2⟩ := zsee_fe W i (by omega)
    have S2 : hf_SS (hf_sc h s SV) s (zsee v i) := hf_SS.sc h s hP
    have F2 : hf_F (hf_sc h s SV) f (zsee v i) := F.sc S E SV
    have e2 : zsee v i 2 = v 2 := E.2.2.1
    have e0 : zsee v i 0 = v 0 := E.1
    have e1 : zsee v i 1 = v 1 := E.2.1
    have e4 : zsee v i 4 = v 4 := E.2.2.2.1
    have e3 : zsee v i 3 = v 3 := zsee_ot v i 3 (fun b _ => by omega)
    have e5 : zsee v i (70 + 4 * i + 1) = v (70 + 4 * i + 1) := zsee_ot v i _ (fun b _ => by omega)
    have e6 : zsee v i (70 + 4 * i + 2) = v (70 + 4 * i + 2) := zsee_ot v i _ (fun b hb => by omega)
    have qi := (W.buyer hi).2.1
    have qz := W.v0
    have q5 := (z_st (v 3) qi).1
    have e7 : zat (zsee v i) (zst v (v (70 + 4 * i + 1)) (v 3)) = zat v (zst v (v (70 + 4 * i + 1)) (v 3)) := zat_congr e1 (fun k hk => zsee_ot v i _ (fun b hb => by omega)) _
    have e8 := zst_congr (v := v) (v' := zsee v i) e0 e4 (v (70 + 4 * i + 1)) (v 3)
    refine ⟨hf_ua SV 3 i (Int32.ofNat (v (70 + 4 * i + 2) ||| zat v (zst v (v (70 + 4 * i + 1)) (v 3)))), ?_, hP.saw W2 (by omega) _⟩
    show ndX2_sees_2 (lpX2_sees_2 g) _ _ _ _ = _
    unfold ndX2_sees_2
    simp only [F2.sizeB, e2]
    rw [if_neg (fun z => by have := (z_le (by omega) (by omega)).mp z; omega)]
    simp only [S2.ob, S2.saw (by omega : i < zsee v i 2) (by omega), Option.bind_some, x_stallOf F2 S2 W2 (by omega : i < zsee v i 2), hf_b2_some, e6, e5, e3, e8]
    rw [x_halvesAt F2 S2 W2 (by omega), hf_b2_some, e7, z_or, hf_si_eq (hf_ob_sc h s SV) 3 (by omega) (by omega), Option.bind_some, hf_let_eq, z_lit, z_add]
    show lpX2_sees_2 g s f _ (hf_sc (hf_sc h s SV) s _) = _
    rw [hf_sc_sc]
  · obtain ⟨E, W2⟩ := zsee_fe W (v 2) (by omega)
    have F2 : hf_F (hf_sc h s SV) f (zsee v (v 2)) := F.sc S E SV
    have e2 : zsee v (v 2) 2 = v 2 := E.2.2.1
    refine ⟨SV, ?_, hP⟩
    show ndX2_sees_2 (lpX2_sees_2 g) _ _ _ _ = _
    unfold ndX2_sees_2
    simp only [F2.sizeB, e2]
    rw [if_pos ((z_le (by omega) (by omega)).mpr (Nat.le_refl _))]
theorem x_passes (F : hf_F h f v) (S : hf_SS h s v) (W : hf_wf v) (h3 : v 3 < 99) : ∃ SV, spX2_passes s f h = some (hf_sc h s SV) ∧ hf_S2 SV (zhour v) := by
  have S0 := S
  obtain ⟨SV0, s1, s2⟩ := S0
  have hP := s2.now (v 3 + 1)
  have W2 := W.now (x := v 3 + 1) (by omega)
  have S2 : hf_SS (hf_sc h s (hf_ui SV0 4 (Int32.ofNat (v 3 + 1)))) s (zup v 3 (v 3 + 1)) := hf_SS.sc h s hP
  have F2 := F.sc S (hf_fe.now v (v 3 + 1)) (hf_ui SV0 4 (Int32.ofNat (v 3 + 1)))
  obtain ⟨SV1, t1, t2⟩ := x_sees F2 S2 W2
  refine ⟨SV1, ?_, ?_⟩
  · unfold spX2_passes
    rw [S.now, Option.bind_some, z_lit, z_add, hf_pi_eq s1, Option.bind_some]
    show ((hf_ob 1 2 (hf_sc h s (hf_ui SV0 4 (Int32.ofNat (v 3 + 1)))) s).bind fun _ => (spX2_sees s f (hf_sc h s (hf_ui SV0 4 (Int32.ofNat (v 3 + 1))))).bind fun g3 => some g3) = _
    rw [S2.ob, t1, Option.bind_some, hf_sc_sc]
  · have e2 : (zup v 3 (v 3 + 1)) 2 = v 2 := zup_ne _ (by decide) _
    rw [e2] at t2
    exact t2
theorem x_buys (F : hf_F h f v) (S : hf_SS h s v) (W : hf_wf v) {b k : Nat} (hb : b < v 2) (hk : k < v 1) (hle : zpr v k ≤ v (70 + 4 * b)) : ∃ SV, spX2_buys s f (Int32.ofNat b) (Int32.ofNat k) h = some (hf_sc h s SV) ∧ hf_S2 SV (zbuys v b k) := by
  have q1 := W.v1
  have q2 := W.v2
  have qb := (W.buyer hb).1
  have S0 := S
  obtain ⟨SV0, s1, s2⟩ := S0
  have W1 := W.purse (b := b) (x := v (70 + 4 * b) - zpr v k) (by omega) (by omega)
  have hP := s2.purse W (b := b) (by omega) (v (70 + 4 * b) - zpr v k)
  refine ⟨_, ?_, hP.where_ W1 (k := k) (by omega) (100 + b)⟩
  unfold spX2_buys
  simp only [S.ob, S.purse hb q2, S.now, F.ob, x_priceAt F W hk, hf_b2_some, Option.bind_some]
  rw [z_sub hle, hf_si_eq s1 1 (by omega) (by omega), Option.bind_some, hf_ob_up, Option.bind_some, hf_si_eq (hf_ob_up h s 1 2 _) 0 (by omega) (by omega), Option.bind_some, hf_up_up, z_lit, z_add]
  rfl
end ZX
/-- all of a state's cells -/
def hf_cp (SV DV : hf_V) : Prop := (∀ k, k < 12 → DV.2.2.2.1 0 k = SV.2.2.2.1 0 k) ∧ (∀ k, k < 4 → DV.2.2.2.1 1 k = SV.2.2.2.1 1 k ∧ DV.2.2.2.1 2 k = SV.2.2.2.1 2 k ∧ DV.2.2.2.1 3 k = SV.2.2.2.1 3 k) ∧ DV.1 4 = SV.1 4
theorem hf_S2.cp {SV DV : hf_V} {v : Nat → Nat} (S : hf_S2 SV v) (W : hf_wf v) (C : hf_cp SV DV) : hf_S2 DV v := by
  have q1 := W.v1
  have q2 := W.v2
  obtain ⟨s1, s2, s3⟩ := S
  obtain ⟨c1, c2, c3⟩ := C
  refine ⟨fun k hk => (c1 k (by omega)).trans (s1 k hk), fun b hb => ?_, c3.trans s3⟩
  obtain ⟨d1, d2, d3⟩ := c2 b (by omega)
  obtain ⟨e1, e2, e3⟩ := s2 b hb
  exact ⟨d1.trans e1, d2.trans e2, d3.trans e3⟩
section ZX
variable {h : hf_H} {s d : Nat} {SV : hf_V}
theorem x_copy28 (e : hf_ob 1 2 h s = some SV) (hne : s ≠ d) {DV0 : hf_V} (h0 : ∀ k, k < 12 → DV0.2.2.2.1 0 k = SV.2.2.2.1 0 k) : ∃ DV, lpX2_copyFrom_28 hf_N d s (Int32.ofNat 0) (hf_sc h d DV0) = some (hf_sc h d DV) ∧ hf_cp SV DV := by
  refine hf_loopR (fun g i DV => lpX2_copyFrom_28 g d s (Int32.ofNat i) (hf_sc h d DV)) (fun i DV => (∀ k, k < 12 → DV.2.2.2.1 0 k = SV.2.2.2.1 0 k) ∧ ∀ k, k < i → DV.2.2.2.1 1 k = SV.2.2.2.1 1 k ∧ DV.2.2.2.1 2 k = SV.2.2.2.1 2 k ∧ DV.2.2.2.1 3 k = SV.2.2.2.1 3 k) 4 (fun r => ∃ DV, r = some (hf_sc h d DV) ∧ hf_cp SV DV) (fun i g DV hi hP => ?_) (fun g DV hP => ?_) DV0 ⟨h0, fun k hk => by omega⟩ (fuel := hf_N) (by unfold hf_N; omega)
  · refine ⟨hf_ua (hf_ua (hf_ua DV 1 i (SV.2.2.2.1 1 i)) 2 i (SV.2.2.2.1 2 i)) 3 i (SV.2.2.2.1 3 i), ?_, ?_⟩
    · show ndX2_copyFrom_28 (lpX2_copyFrom_28 g) _ _ _ _ = _
      unfold ndX2_copyFrom_28 hf_sc
      rw [z_lit, if_neg (z_nle (a := 4) (by omega) (by decide))]
      have es : ∀ DV : hf_V, hf_ob 1 2 (hf_up h d (.inl (1, 2, DV))) s = some SV := fun DV => by rw [hf_ob_ne hne]; exact e
      simp (disch := omega) only [es, hf_ob_up, Option.bind_some, hf_ai_eq (es _), z_ld]
      simp (disch := omega) only [hf_si_eq (hf_ob_up h d 1 2 _), hf_up_up, es, hf_ob_up, Option.bind_some, hf_ai_eq (es _), z_ld, hf_let_eq, z_lit, z_add]
    · obtain ⟨p1, p2⟩ := hP
      refine ⟨fun k hk => p1 k hk, fun k hk => ?_⟩
      rw [hf_ua_ne _ (by decide), hf_ua_ne _ (by decide), hf_ua_at, hf_ua_ne _ (by decide), hf_ua_at, hf_ua_ne _ (by decide), hf_ua_at, hf_ua_ne _ (by decide)]
      by_cases e1 : k = i
      · subst e1; rw [if_pos rfl, if_pos rfl, if_pos rfl]; exact ⟨rfl, rfl, rfl⟩
      · rw [if_neg e1, if_neg e1, if_neg e1]
        exact p2 k (by omega)
  · refine ⟨hf_ui DV 4 (SV.1 4), ?_, hP.1, hP.2, hf_ui_at _ _ _⟩
    show ndX2_copyFrom_28 (lpX2_copyFrom_28 g) _ _ _ _ = _
    unfold ndX2_copyFrom_28 hf_sc
    have es : hf_ob 1 2 (hf_up h d (.inl (1, 2, DV))) s = some SV := by rw [hf_ob_ne hne]; exact e
    rw [z_lit, if_pos ((z_le (by decide) (by decide)).mpr (Nat.le_refl _)), hf_gi_eq es, Option.bind_some, hf_pi_eq (hf_ob_up h d 1 2 _), Option.bind_some, hf_up_up]
theorem x_copyFrom (e : hf_ob 1 2 h s = some SV) {DV0 : hf_V} (e0 : hf_ob 1 2 h d = some DV0) (hne : s ≠ d) : ∃ DV, spX2_copyFrom d s h = some (hf_sc h d DV) ∧ hf_cp SV DV := by
  have hstart : spX2_copyFrom d s h = lpX2_copyFrom_2 hf_N d s (Int32.ofNat 0) (hf_sc h d DV0) := by
    rw [hf_SS.self e0]
    rfl
  rw [hstart]
  refine hf_loopR (fun g i DV => lpX2_copyFrom_2 g d s (Int32.ofNat i) (hf_sc h d DV)) (fun i DV => ∀ k, k < i → DV.2.2.2.1 0 k = SV.2.2.2.1 0 k) 12 (fun r => ∃ DV, r = some (hf_sc h d DV) ∧ hf_cp SV DV) (fun i g DV hi hP => ?_) (fun g DV hP => ?_) DV0 (fun k hk => by omega) (fuel := hf_N) (by unfold hf_N; omega)
  · refine ⟨hf_ua DV 0 i (SV.2.2.2.1 0 i), ?_, ?_⟩
    · show ndX2_copyFrom_2 (lpX2_copyFrom_2 g) _ _ _ _ = _
      unfold ndX2_copyFrom_2 hf_sc
      rw [z_lit, if_neg (z_nle (a := 12) (by omega) (by decide))]
      have es : ∀ DV : hf_V, hf_ob 1 2 (hf_up h d (.inl (1, 2, DV))) s = some SV := fun DV => by rw [hf_ob_ne hne]; exact e
      simp (disch := omega) only [es, hf_ob_up, Option.bind_some, hf_ai_eq (es _), z_ld]
      simp (disch := omega) only [hf_si_eq (hf_ob_up h d 1 2 _), hf_up_up, Option.bind_some, hf_let_eq, z_lit, z_add]
    · intro k hk
      rw [hf_ua_at]
      by_cases e1 : k = i
      · subst e1; rw [if_pos rfl]
      · rw [if_neg e1]
        exact hP k (by omega)
  · have e9 : lpX2_copyFrom_2 (g + 1) d s (Int32.ofNat 12) (hf_sc h d DV) = lpX2_copyFrom_28 hf_N d s (Int32.ofNat 0) (hf_sc h d DV) := by
      show ndX2_copyFrom_2 (lpX2_copyFrom_2 g) _ _ _ _ = _
      unfold ndX2_copyFrom_2
      rw [z_lit, if_pos (z_yle (Nat.le_refl _) (by decide))]
      rfl
    rw [e9]
    exact x_copy28 e hne hP
end ZX
set_option maxRecDepth 100000
set_option maxHeartbeats 1000000
/-! rules' codes: a stack machine; the model reckons so -/
def zone (s : Nat) (x y : Int64) : Int64 := (spX4_one (Int32.ofNat s) x y).getD 0
theorem zone_ok (s : Nat) (x y : Int64) : spX4_one (Int32.ofNat s) x y = some (zone s x y) := by
  have key : ∀ c : Int32, ∃ r, spX4_one c x y = some r := by
    intro c
    have h0 : ∀ r : Int64, ∃ q, (if (lg_cmp y (0 : Int64)) = 0 then (some (0 : Int64)) else if y = 0 then none else some r) = some q := by
      intro r
      by_cases e : y = 0
      · rw [if_pos ((lg_cmp_eq _ _).mpr e)]; exact ⟨_, rfl⟩
      · rw [if_neg (fun z => e ((lg_cmp_eq _ _).mp z)), if_neg e]; exact ⟨_, rfl⟩
    have h1 : ∀ (p : Prop) [Decidable p] (a b : Option Int64), (∃ q, a = some q) → (∃ q, b = some q) → ∃ q, (if p then a else b) = some q := by
      intro p _ a b ha hb
      split
      · exact ha
      · exact hb
    unfold spX4_one ndX4_one_172
    repeat' first | exact ⟨_, rfl⟩ | exact h0 _ | apply h1
  obtain ⟨r, hr⟩ := key (Int32.ofNat s)
  unfold zone
  rw [hr]
  rfl
def zrun (wd : Nat → Int64) : List Nat → List Int64 → Option (List Int64)
  | [], st => some st
  | c :: r, st =>
    if c % 16 = 0 then zrun wd r ((Int32.ofNat (c / 16)).toInt64 :: st) else
    if c % 16 = 1 then zrun wd r (wd (c / 16) :: st) else
    if c % 16 = 11 then (match st with
      | x :: st' => zrun wd r ((1 - x) :: st')
      | [] => none) else
    match st with
      | y :: x :: st' => zrun wd r (zone (c % 16) x y :: st')
      | _ => none
theorem zrun_app (wd : Nat → Int64) : ∀ (a b : List Nat) (st : List Int64), zrun wd (a ++ b) st = (zrun wd a st).bind (zrun wd b)
  | [], b, st => rfl
  | c :: r, b, st => by
    rw [List.cons_append]
    unfold zrun
    split
    · exact zrun_app wd r b _
    · split
      · exact zrun_app wd r b _
      · split
        · cases st with
          | nil => rfl
          | cons x st' => exact zrun_app wd r b _
        · match st with
          | [] => rfl
          | [_] => rfl
          | y :: x :: st' => exact zrun_app wd r b _
/-- leaves: how much may be pushed -/
def zlv : List Nat → Nat
  | [] => 0
  | c :: r => (if c % 16 ≤ 1 then 1 else 0) + zlv r
theorem zlv_app : ∀ a b, zlv (a ++ b) = zlv a + zlv b
  | [], b => by simp [zlv]
  | c :: r, b => by
    show (if c % 16 ≤ 1 then 1 else 0) + zlv (r ++ b) = (if c % 16 ≤ 1 then 1 else 0) + zlv r + zlv b
    rw [zlv_app r b]
    omega
/-- the stack's cells -/
def zstk (A : Nat → Int64) : List Int64 → Prop
  | [] => True
  | x :: r => A r.length = x ∧ zstk A r
theorem zstk_up (A : Nat → Int64) (n : Nat) (x : Int64) : ∀ st : List Int64, st.length ≤ n → zstk A st → zstk (zup A n x) st
  | [], _, _ => trivial
  | y :: r, h, ⟨h1, h2⟩ => by
    have h3 : r.length + 1 ≤ n := h
    refine ⟨?_, zstk_up A n x r (by omega) h2⟩
    rw [zup_ne _ (by omega)]
    exact h1
/-- the model with a stack A of n -/
def hf_sk (V : hf_V) (A : Nat → Int64) (n : Nat) : hf_V := (fun j => if j = 18 then Int32.ofNat n else V.1 j, V.2.1, V.2.2.1, V.2.2.2.1, fun j => if j = 17 then A else V.2.2.2.2.1 j, V.2.2.2.2.2)
theorem hf_sk_sk (V : hf_V) (A B : Nat → Int64) (m n : Nat) : hf_sk (hf_sk V A m) B n = hf_sk V B n := by
  unfold hf_sk
  refine Prod.ext ?_ (Prod.ext rfl (Prod.ext rfl (Prod.ext rfl (Prod.ext ?_ rfl))))
  · funext j
    by_cases e : j = 18 <;> simp [e]
  · funext j
    by_cases e : j = 17 <;> simp [e]
theorem m_push (V : hf_V) (A : Nat → Int64) {n : Nat} (hn : n < 64) (x : Int64) : spX4_push x (hf_sk V A n) = some (hf_sk V (zup A n x) (n + 1)) := by
  unfold spX4_push
  have h1 : (hf_sk V A n).1 18 = Int32.ofNat n := rfl
  rw [h1, z_sd hn (by omega), hf_let_eq]
  congr 1
  unfold hf_sk hf_ui hf_uL zup
  refine Prod.ext ?_ (Prod.ext rfl (Prod.ext rfl (Prod.ext rfl (Prod.ext ?_ rfl))))
  · funext j
    by_cases e : j = 18
    · simp only [e, if_true]
      rw [z_lit, z_add]
    · simp [e]
  · funext j
    by_cases e : j = 17 <;> simp [e]
theorem m_pop (V : hf_V) (A : Nat → Int64) {n : Nat} (hn : n < 64) : spX4_pop (hf_sk V A (n + 1)) = some (A n, hf_sk V A n) := by
  unfold spX4_pop
  have h1 : hf_ui (hf_sk V A (n + 1)) 18 ((hf_sk V A (n + 1)).1 18 - 1) = hf_sk V A n := by
    have h2 : (hf_sk V A (n + 1)).1 18 = Int32.ofNat (n + 1) := rfl
    rw [h2, z_lit, z_sub (b := 1) (by omega)]
    unfold hf_sk hf_ui
    refine Prod.ext ?_ rfl
    funext j
    by_cases e : j = 18
    · simp [e]
    · simp [e]
  rw [h1, hf_let_eq]
  have h2 : (hf_sk V A n).1 18 = Int32.ofNat n := rfl
  have h3 : (hf_sk V A n).2.2.2.2.1 17 = A := rfl
  rw [h2, h3, z_ld hn (by omega), Option.bind_some]
/-- codes from place i on, of text t -/
def zcds (V : hf_V) (t i : Nat) (c : List Nat) : Prop := ∀ k, k < c.length → V.2.2.2.1 3 (400 * t + (i + k)) = Int32.ofNat (c.getD k 0) ∧ c.getD k 0 < 16777216 ∧ (c.getD k 0 % 16 = 1 → c.getD k 0 / 16 < 13)
theorem m_reckons {V : hf_V} {t b : Nat} {c : List Nat} {x : Int64} (hc : zcds V t b c) (ht : t ≤ 5) (hb : b + c.length ≤ 400) (hl : zlv c ≤ 60) (hx : zrun (V.2.2.2.2.1 19) c [] = some [x]) : ∃ A n, spX4_reckons (Int32.ofNat t) (Int32.ofNat b) (Int32.ofNat (b + c.length)) V = some (x, hf_sk V A n) := by
  unfold spX4_reckons
  have h0 : hf_ui V 18 0 = hf_sk V (V.2.2.2.2.1 17) 0 := by
    unfold hf_ui hf_sk
    refine Prod.ext ?_ (Prod.ext rfl (Prod.ext rfl (Prod.ext rfl (Prod.ext ?_ rfl))))
    · funext j
      by_cases e : j = 18
      · simp only [e, if_true]; rfl
      · simp [e]
    · funext j
      by_cases e : j = 17 <;> simp [e]
  rw [hf_let_eq, h0]
  refine hf_loopR (fun f k (s : (Nat → Int64) × List Int64) => lpX4_reckons_8 f (Int32.ofNat t) (Int32.ofNat (b + c.length)) (Int32.ofNat (b + k)) (hf_sk V s.1 s.2.length)) (fun k s => zstk s.1 s.2 ∧ zrun (V.2.2.2.2.1 19) (c.drop k) s.2 = some [x] ∧ s.2.length + zlv (c.drop k) ≤ 60) c.length (fun r => ∃ A n, r = some (x, hf_sk V A n)) (fun k f s hk hP => ?_) (fun f s hP => ?_) (V.2.2.2.2.1 17, []) ⟨trivial, hx, by simpa using hl⟩ (fuel := hf_N) (by unfold hf_N; omega)
  · obtain ⟨A, st⟩ := s
    obtain ⟨p1, p2, p3⟩ := hP
    simp only at p1 p2 p3
    obtain ⟨c1, c2, c3⟩ := hc k hk
    have hd : c.drop k = c.getD k 0 :: c.drop (k + 1) := by
      rw [List.drop_eq_getElem_cons hk]
      simp [hk]
    rw [hd] at p2 p3
    generalize c.getD k 0 = w at *
    unfold zrun at p2
    unfold zlv at p3
    have hm : w &&& 15 = w % 16 := Nat.and_two_pow_sub_one_eq_mod w 4
    have hs : w >>> 4 = w / 16 := Nat.shiftRight_eq_div_pow w 4
    have hw : w % 16 < 16 := Nat.mod_lt _ (by decide)
    have hw2 : w / 16 < 16777216 := by omega
    have hl3 : (hf_sk V A st.length).2.2.2.1 3 (400 * t + (b + k)) = Int32.ofNat w := c1
    have hwd : (hf_sk V A st.length).2.2.2.2.1 19 = V.2.2.2.2.1 19 := rfl
    have hnd : lpX4_reckons_8 (f + 1) (Int32.ofNat t) (Int32.ofNat (b + c.length)) (Int32.ofNat (b + k)) (hf_sk V A st.length) = ndX4_reckons_8 (lpX4_reckons_8 f) (Int32.ofNat t) (Int32.ofNat (b + c.length)) (Int32.ofNat (b + k)) (hf_sk V A st.length) := rfl
    have hn1 : ∀ B m, ndX4_reckons_129 (lpX4_reckons_8 f) (Int32.ofNat t) (Int32.ofNat (b + c.length)) (Int32.ofNat (b + k)) (hf_sk V B m) = lpX4_reckons_8 f (Int32.ofNat t) (Int32.ofNat (b + c.length)) (Int32.ofNat (b + (k + 1))) (hf_sk V B m) := fun B m => by
      unfold ndX4_reckons_129
      rw [hf_let_eq, z_lit, z_add, Nat.add_assoc]
    show ∃ s' : (Nat → Int64) × List Int64, lpX4_reckons_8 (f + 1) (Int32.ofNat t) (Int32.ofNat (b + c.length)) (Int32.ofNat (b + k)) (hf_sk V A st.length) = lpX4_reckons_8 f (Int32.ofNat t) (Int32.ofNat (b + c.length)) (Int32.ofNat (b + (k + 1))) (hf_sk V s'.1 s'.2.length) ∧ zstk s'.1 s'.2 ∧ zrun (V.2.2.2.2.1 19) (c.drop (k + 1)) s'.2 = some [x] ∧ s'.2.length + zlv (c.drop (k + 1)) ≤ 60
    rw [hnd]
    unfold ndX4_reckons_8
    rw [if_neg (z_nle (by omega) (by omega))]
    have e1 : (400 : Int32) * Int32.ofNat t + Int32.ofNat (b + k) = Int32.ofNat (400 * t + (b + k)) := by rw [z_lit, z_mul, z_add]
    have e2 : Int32.ofNat w &&& (15 : Int32) = Int32.ofNat (w % 16) := by rw [z_lit, z_and, hm]
    have e3 : Int32.ofNat w >>> ((4 : Int32) &&& 31) = Int32.ofNat (w / 16) := by
      have := z_shr (a := w) (k := 4) (by decide) (by omega)
      rw [hs] at this
      exact this
    rw [e1, z_ld (by omega) (by omega), hl3, Option.bind_some, hf_let_eq, Option.bind_some, hf_let_eq, e2, e3]
    have q0 : (Int32.ofNat (w % 16) = 0) ↔ w % 16 = 0 := z_eq (b := 0) (by omega) (by decide)
    have q1 : (Int32.ofNat (w % 16) = 1) ↔ w % 16 = 1 := z_eq (b := 1) (by omega) (by decide)
    have q11 : (Int32.ofNat (w % 16) = 11) ↔ w % 16 = 11 := z_eq (b := 11) (by omega) (by decide)
    by_cases g0 : w % 16 = 0
    · rw [if_pos g0] at p2
      rw [if_pos (by omega)] at p3
      rw [if_pos (q0.mpr g0), m_push V A (by omega), Option.bind_some, hn1]
      exact ⟨(zup A st.length (Int32.ofNat (w / 16)).toInt64, (Int32.ofNat (w / 16)).toInt64 :: st), rfl, ⟨zup_at _ _ _, zstk_up A _ _ st (Nat.le_refl _) p1⟩, p2, by show st.length + 1 + _ ≤ _; omega⟩
    rw [if_neg g0] at p2
    rw [if_neg (fun z => g0 (q0.mp z))]
    by_cases g1 : w % 16 = 1
    · rw [if_pos g1] at p2
      rw [if_pos (by omega)] at p3
      rw [if_pos (q1.mpr g1), hwd, z_ld (c3 g1) (by omega), Option.bind_some, m_push V A (by omega), Option.bind_some, hn1]
      exact ⟨(zup A st.length (V.2.2.2.2.1 19 (w / 16)), V.2.2.2.2.1 19 (w / 16) :: st), rfl, ⟨zup_at _ _ _, zstk_up A _ _ st (Nat.le_refl _) p1⟩, p2, by show st.length + 1 + _ ≤ _; omega⟩
    rw [if_neg g1] at p2
    rw [if_neg (fun z => g1 (q1.mp z))]
    rw [if_neg (by omega)] at p3
    by_cases g2 : w % 16 = 11
    · rw [if_pos g2] at p2
      rw [if_pos (q11.mpr g2)]
      match st, p1, p2, p3 with
      | y :: r, p1, p2, p3 =>
        have hr : (y :: r).length = r.length + 1 := rfl
        rw [hr] at p3
        rw [hr, m_pop V A (by omega), hf_b2_some, p1.1, m_push V A (by omega), Option.bind_some, hn1]
        exact ⟨(zup A r.length (1 - y), (1 - y) :: r), rfl, ⟨zup_at _ _ _, zstk_up A _ _ r (Nat.le_refl _) p1.2⟩, p2, by show r.length + 1 + _ ≤ _; omega⟩
    rw [if_neg g2] at p2
    rw [if_neg (fun z => g2 (q11.mp z))]
    match st, p1, p2, p3 with
    | y :: z :: r, p1, p2, p3 =>
      have hr : (y :: z :: r).length = r.length + 1 + 1 := rfl
      rw [hr] at p3
      rw [hr, m_pop V A (by omega), hf_b2_some, m_pop V A (by omega), hf_b2_some, zone_ok, Option.bind_some, m_push V A (by omega), Option.bind_some, hn1]
      have a1 : A (r.length + 1) = y := p1.1
      have a2 : A r.length = z := p1.2.1
      rw [a1, a2]
      exact ⟨(zup A r.length (zone (w % 16) z y), zone (w % 16) z y :: r), rfl, ⟨zup_at _ _ _, zstk_up A _ _ r (Nat.le_refl _) p1.2.2⟩, p2, by show r.length + 1 + _ ≤ _; omega⟩
  · obtain ⟨A, st⟩ := s
    obtain ⟨p1, p2, p3⟩ := hP
    simp only at p1 p2 p3
    rw [List.drop_length] at p2
    have e : st = [x] := by
      unfold zrun at p2
      exact Option.some.inj p2
    subst e
    refine ⟨A, 0, ?_⟩
    show ndX4_reckons_8 (lpX4_reckons_8 f) (Int32.ofNat t) (Int32.ofNat (b + c.length)) (Int32.ofNat (b + c.length)) (hf_sk V A (0 + 1)) = _
    unfold ndX4_reckons_8
    rw [if_pos (z_yle (Nat.le_refl _) (by omega)), m_pop V A (by omega), hf_b2_some, show A 0 = x from p1.1]
set_option maxRecDepth 100000
set_option maxHeartbeats 1000000
/-! HalfFair's sums and tests: trees in the heap, their codes -/
def hf_Val : Nat → hf_H → Nat → List Nat → Prop
  | 0 => fun _ _ _ => False
  | d + 1 => fun h a c => (∃ (V : hf_V) (k : Nat), hf_ob 0 10 h a = some V ∧ V.1 0 = Int32.ofNat k ∧ k ≤ 99999 ∧ c = [16 * k]) ∨ (∃ (V : hf_V) (k : Nat), hf_ob 0 11 h a = some V ∧ V.1 0 = Int32.ofNat k ∧ k < 13 ∧ c = [1 + 16 * k]) ∨ (∃ (V : hf_V) (a1 a2 : Nat) (c1 c2 : List Nat) (s : Nat), hf_ob 0 12 h a = some V ∧ V.2.2.1 0 = some a1 ∧ V.2.2.1 1 = some a2 ∧ hf_Val d h a1 c1 ∧ hf_Val d h a2 c2 ∧ c = c1 ++ c2 ++ [s] ∧ ((V.1 2 = 43 ∧ s = 2) ∨ (V.1 2 = 45 ∧ s = 3) ∨ (V.1 2 = 42 ∧ s = 4) ∨ (V.1 2 = 47 ∧ s = 5) ∨ (V.1 2 = 37 ∧ s = 14)))
theorem hf_Val.mono : ∀ (d e : Nat) (h : hf_H) (a : Nat) (c : List Nat), d ≤ e → hf_Val d h a c → hf_Val e h a c
  | 0, _, _, _, _, _, H => by cases H
  | d + 1, 0, _, _, _, hd, _ => by omega
  | d + 1, e + 1, h, a, c, hd, H => by
    rcases H with H | H | ⟨V, a1, a2, c1, c2, s, e1, e2, e3, e4, e5, e6, e7⟩
    · exact Or.inl H
    · exact Or.inr (Or.inl H)
    · exact Or.inr (Or.inr ⟨V, a1, a2, c1, c2, s, e1, e2, e3, hf_Val.mono d e h a1 c1 (by omega) e4, hf_Val.mono d e h a2 c2 (by omega) e5, e6, e7⟩)
/-- the words asked -/
def hf_wd (h : hf_H) (w : Nat) (wd : Nat → Int64) : Prop := ∃ XV : hf_V, hf_ob 1 0 h w = some XV ∧ ∀ k, k < 13 → XV.2.2.2.2.1 16 k = wd k
theorem hf_wd.al {h : hf_H} {w : Nat} {wd : Nat → Int64} (D : hf_wd h w wd) {k : Nat} (hk : k < 13) : hf_al 0 16 13 h w (Int32.ofNat k) = some (wd k) := by
  obtain ⟨XV, e1, e2⟩ := D
  rw [hf_al_eq e1, z_ld hk (by omega), e2 k hk]
theorem zone2 (x y : Int64) : zone 2 x y = x + y := rfl
theorem zone3 (x y : Int64) : zone 3 x y = x - y := rfl
theorem zone4 (x y : Int64) : zone 4 x y = x * y := rfl
theorem zone5 (x y : Int64) : some (zone 5 x y) = if (lg_cmp y (0 : Int64)) = 0 then (some (0 : Int64)) else if y = 0 then none else some (x / y) := (zone_ok 5 x y).symm
theorem zone14 (x y : Int64) : some (zone 14 x y) = if (lg_cmp y (0 : Int64)) = 0 then (some (0 : Int64)) else if y = 0 then none else some (x - x / y * y) := (zone_ok 14 x y).symm
theorem zone6 (x y : Int64) : zone 6 x y = if x < y then 1 else 0 := by
  have h : some (zone 6 x y) = if 0 ≤ (lg_cmp x y) then (some (0 : Int64)) else some (1 : Int64) := (zone_ok 6 x y).symm
  by_cases e : x < y
  · rw [if_neg (fun z => Int64.not_le.mpr e ((lg_cmp_ge _ _).mp z))] at h
    rw [if_pos e]; exact Option.some.inj h
  · rw [if_pos ((lg_cmp_ge _ _).mpr (Int64.not_lt.mp e))] at h
    rw [if_neg e]; exact Option.some.inj h
theorem zone7 (x y : Int64) : zone 7 x y = if y < x then 0 else 1 := by
  have h : some (zone 7 x y) = if 0 < (lg_cmp x y) then (some (0 : Int64)) else some (1 : Int64) := (zone_ok 7 x y).symm
  by_cases e : y < x
  · rw [if_pos ((lg_cmp_gt _ _).mpr e)] at h
    rw [if_pos e]; exact Option.some.inj h
  · rw [if_neg (fun z => e ((lg_cmp_gt _ _).mp z))] at h
    rw [if_neg e]; exact Option.some.inj h
theorem zone8 (x y : Int64) : zone 8 x y = if x = y then 1 else 0 := by
  have h : some (zone 8 x y) = if (lg_cmp x y) = 0 then (some (1 : Int64)) else some (0 : Int64) := (zone_ok 8 x y).symm
  by_cases e : x = y
  · rw [if_pos ((lg_cmp_eq _ _).mpr e)] at h
    rw [if_pos e]; exact Option.some.inj h
  · rw [if_neg (fun z => e ((lg_cmp_eq _ _).mp z))] at h
    rw [if_neg e]; exact Option.some.inj h
theorem zone9 (x y : Int64) : zone 9 x y = if x < y then 0 else 1 := by
  have h : some (zone 9 x y) = if (lg_cmp x y) < 0 then (some (0 : Int64)) else some (1 : Int64) := (zone_ok 9 x y).symm
  by_cases e : x < y
  · rw [if_pos ((lg_cmp_lt _ _).mpr e)] at h
    rw [if_pos e]; exact Option.some.inj h
  · rw [if_neg (fun z => e ((lg_cmp_lt _ _).mp z))] at h
    rw [if_neg e]; exact Option.some.inj h
theorem zone10 (x y : Int64) : zone 10 x y = if y < x then 1 else 0 := by
  have h : some (zone 10 x y) = if (lg_cmp x y) ≤ 0 then (some (0 : Int64)) else some (1 : Int64) := (zone_ok 10 x y).symm
  by_cases e : y < x
  · rw [if_neg (fun z => Int64.not_le.mpr e ((lg_cmp_le _ _).mp z))] at h
    rw [if_pos e]; exact Option.some.inj h
  · rw [if_pos ((lg_cmp_le _ _).mpr (Int64.not_lt.mp e))] at h
    rw [if_neg e]; exact Option.some.inj h
theorem zrun_bin (wd : Nat → Int64) {c1 c2 : List Nat} {s : Nat} {x y : Int64} (h1 : ∀ st, zrun wd c1 st = some (x :: st)) (h2 : ∀ st, zrun wd c2 st = some (y :: st)) (hs : 2 ≤ s) (hs2 : s < 16) (h11 : s ≠ 11) (st : List Int64) : zrun wd (c1 ++ c2 ++ [s]) st = some (zone s x y :: st) := by
  rw [zrun_app, zrun_app, h1, Option.bind_some, h2, Option.bind_some]
  unfold zrun
  have hm : s % 16 = s := Nat.mod_eq_of_lt hs2
  rw [hm, if_neg (by omega), if_neg (by omega), if_neg h11]
  rfl
theorem spVal_10 {d a w : Nat} {h : hf_H} {V : hf_V} (e : hf_ob 0 10 h a = some V) : spVal (d + 1) a w h = spX10_of a w h := by
  show (match h.1 a with
    | some (.inl (_, 10, _)) => spX10_of a w h
    | some (.inl (_, 11, _)) => spX11_of a w h
    | some (.inl (_, 12, _)) => spX12_of (spVal d) a w h
    | _ => none) = _
  rw [hf_ob_spec e]
  rfl
theorem spVal_11 {d a w : Nat} {h : hf_H} {V : hf_V} (e : hf_ob 0 11 h a = some V) : spVal (d + 1) a w h = spX11_of a w h := by
  show (match h.1 a with
    | some (.inl (_, 10, _)) => spX10_of a w h
    | some (.inl (_, 11, _)) => spX11_of a w h
    | some (.inl (_, 12, _)) => spX12_of (spVal d) a w h
    | _ => none) = _
  rw [hf_ob_spec e]
  rfl
theorem spVal_12 {d a w : Nat} {h : hf_H} {V : hf_V} (e : hf_ob 0 12 h a = some V) : spVal (d + 1) a w h = spX12_of (spVal d) a w h := by
  show (match h.1 a with
    | some (.inl (_, 10, _)) => spX10_of a w h
    | some (.inl (_, 11, _)) => spX11_of a w h
    | some (.inl (_, 12, _)) => spX12_of (spVal d) a w h
    | _ => none) = _
  rw [hf_ob_spec e]
  rfl
theorem spCnd_15 {d a w : Nat} {h : hf_H} {V : hf_V} (e : hf_ob 0 15 h a = some V) : spCnd (d + 1) a w h = spX15_is (spCnd d) a w h := by
  show (match h.1 a with
    | some (.inl (_, 15, _)) => spX15_is (spCnd d) a w h
    | some (.inl (_, 16, _)) => spX16_is (spVal 64) a w h
    | some (.inl (_, 17, _)) => spX17_is (spCnd d) a w h
    | _ => none) = _
  rw [hf_ob_spec e]
  rfl
theorem spCnd_16 {d a w : Nat} {h : hf_H} {V : hf_V} (e : hf_ob 0 16 h a = some V) : spCnd (d + 1) a w h = spX16_is (spVal 64) a w h := by
  show (match h.1 a with
    | some (.inl (_, 15, _)) => spX15_is (spCnd d) a w h
    | some (.inl (_, 16, _)) => spX16_is (spVal 64) a w h
    | some (.inl (_, 17, _)) => spX17_is (spCnd d) a w h
    | _ => none) = _
  rw [hf_ob_spec e]
  rfl
theorem spCnd_17 {d a w : Nat} {h : hf_H} {V : hf_V} (e : hf_ob 0 17 h a = some V) : spCnd (d + 1) a w h = spX17_is (spCnd d) a w h := by
  show (match h.1 a with
    | some (.inl (_, 15, _)) => spX15_is (spCnd d) a w h
    | some (.inl (_, 16, _)) => spX16_is (spVal 64) a w h
    | some (.inl (_, 17, _)) => spX17_is (spCnd d) a w h
    | _ => none) = _
  rw [hf_ob_spec e]
  rfl
theorem x_val : ∀ (d : Nat) (h : hf_H) (a : Nat) (c : List Nat) (w : Nat) (wd : Nat → Int64), hf_wd h w wd → hf_Val d h a c → ∃ x, spVal d a w h = some (x, h) ∧ ∀ st, zrun wd c st = some (x :: st)
  | 0, _, _, _, _, _, _, H => by cases H
  | d + 1, h, a, c, w, wd, D, H => by
    rcases H with ⟨V, k, e1, e2, e3, e4⟩ | ⟨V, k, e1, e2, e3, e4⟩ | ⟨V, a1, a2, c1, c2, s, e1, e2, e3, e4, e5, e6, e7⟩
    · refine ⟨(Int32.ofNat k).toInt64, ?_, fun st => ?_⟩
      · have hr : spVal (d + 1) a w h = spX10_of a w h := spVal_10 e1
        rw [hr]
        unfold spX10_of
        rw [hf_gi_eq e1, Option.bind_some, e2]
      · rw [e4]
        unfold zrun
        rw [if_pos (by omega), show 16 * k / 16 = k by omega]
        rfl
    · refine ⟨wd k, ?_, fun st => ?_⟩
      · have hr : spVal (d + 1) a w h = spX11_of a w h := spVal_11 e1
        rw [hr]
        unfold spX11_of
        rw [hf_gi_eq e1, Option.bind_some, e2, D.al e3, Option.bind_some]
      · rw [e4]
        unfold zrun
        rw [if_neg (by omega), if_pos (by omega), show (1 + 16 * k) / 16 = k by omega]
        rfl
    · obtain ⟨x, x1, x2⟩ := x_val d h a1 c1 w wd D e4
      obtain ⟨y, y1, y2⟩ := x_val d h a2 c2 w wd D e5
      have hr : spVal (d + 1) a w h = spX12_of (spVal d) a w h := spVal_12 e1
      refine ⟨zone s x y, ?_, fun st => ?_⟩
      · rw [hr]
        unfold spX12_of
        simp only [hf_ga_eq e1, e2, e3, Option.bind_some, x1, y1, hf_b2_some, hf_gi_eq e1]
        rcases e7 with ⟨g1, g2⟩ | ⟨g1, g2⟩ | ⟨g1, g2⟩ | ⟨g1, g2⟩ | ⟨g1, g2⟩
        · rw [g1, g2, if_pos rfl, zone2]
        · rw [g1, g2, if_neg (by decide), if_pos rfl, zone3]
        · rw [g1, g2, if_neg (by decide), if_neg (by decide), if_pos rfl, zone4]
        · have := zone5 x y
          by_cases e : y = 0
          · rw [if_pos ((lg_cmp_eq _ _).mpr e)] at this
            rw [g1, g2, if_neg (by decide), if_neg (by decide), if_neg (by decide), if_pos ((lg_cmp_eq _ _).mpr e), Option.some.inj this]
          · rw [if_neg (fun z => e ((lg_cmp_eq _ _).mp z)), if_neg e] at this
            rw [g1, g2, if_neg (by decide), if_neg (by decide), if_neg (by decide), if_neg (fun z => e ((lg_cmp_eq _ _).mp z)), if_pos rfl, if_neg e, Option.some.inj this]
        · have := zone14 x y
          by_cases e : y = 0
          · rw [if_pos ((lg_cmp_eq _ _).mpr e)] at this
            rw [g1, g2, if_neg (by decide), if_neg (by decide), if_neg (by decide), if_pos ((lg_cmp_eq _ _).mpr e), Option.some.inj this]
          · rw [if_neg (fun z => e ((lg_cmp_eq _ _).mp z)), if_neg e] at this
            rw [g1, g2, if_neg (by decide), if_neg (by decide), if_neg (by decide), if_neg (fun z => e ((lg_cmp_eq _ _).mp z)), if_neg (by decide), if_neg e, Option.some.inj this]
      · rw [e6]
        exact zrun_bin wd x2 y2 (by rcases e7 with ⟨_, g⟩ | ⟨_, g⟩ | ⟨_, g⟩ | ⟨_, g⟩ | ⟨_, g⟩ <;> omega) (by rcases e7 with ⟨_, g⟩ | ⟨_, g⟩ | ⟨_, g⟩ | ⟨_, g⟩ | ⟨_, g⟩ <;> omega) (by rcases e7 with ⟨_, g⟩ | ⟨_, g⟩ | ⟨_, g⟩ | ⟨_, g⟩ | ⟨_, g⟩ <;> omega) st
def hf_Cnd : Nat → hf_H → Nat → List Nat → Prop
  | 0 => fun _ _ _ => False
  | d + 1 => fun h a c => (∃ (V : hf_V) (a1 : Nat) (c1 : List Nat), hf_ob 0 15 h a = some V ∧ V.2.2.1 0 = some a1 ∧ hf_Cnd d h a1 c1 ∧ c = c1 ++ [11]) ∨ (∃ (V : hf_V) (a1 a2 : Nat) (c1 c2 : List Nat) (s : Nat), hf_ob 0 16 h a = some V ∧ V.2.2.1 0 = some a1 ∧ V.2.2.1 1 = some a2 ∧ hf_Val 64 h a1 c1 ∧ hf_Val 64 h a2 c2 ∧ c = c1 ++ c2 ++ [s] ∧ ((V.1 2 = 60 ∧ V.1 3 = 0 ∧ s = 6) ∨ (V.1 2 = 60 ∧ V.1 3 = 1 ∧ s = 7) ∨ (V.1 2 = 61 ∧ V.1 3 = 0 ∧ s = 8) ∨ (V.1 2 = 62 ∧ V.1 3 = 1 ∧ s = 9) ∨ (V.1 2 = 62 ∧ V.1 3 = 0 ∧ s = 10))) ∨ (∃ (V : hf_V) (a1 a2 : Nat) (c1 c2 : List Nat) (s : Nat), hf_ob 0 17 h a = some V ∧ V.2.2.1 0 = some a1 ∧ V.2.2.1 1 = some a2 ∧ hf_Cnd d h a1 c1 ∧ hf_Cnd d h a2 c2 ∧ c = c1 ++ c2 ++ [s] ∧ ((V.1 2 = 0 ∧ s = 12) ∨ (V.1 2 = 1 ∧ s = 13)))
theorem hf_Cnd.mono : ∀ (d e : Nat) (h : hf_H) (a : Nat) (c : List Nat), d ≤ e → hf_Cnd d h a c → hf_Cnd e h a c
  | 0, _, _, _, _, _, H => by cases H
  | d + 1, 0, _, _, _, hd, _ => by omega
  | d + 1, e + 1, h, a, c, hd, H => by
    rcases H with ⟨V, a1, c1, e1, e2, e3, e4⟩ | H | ⟨V, a1, a2, c1, c2, s, e1, e2, e3, e4, e5, e6, e7⟩
    · exact Or.inl ⟨V, a1, c1, e1, e2, hf_Cnd.mono d e h a1 c1 (by omega) e3, e4⟩
    · exact Or.inr (Or.inl H)
    · exact Or.inr (Or.inr ⟨V, a1, a2, c1, c2, s, e1, e2, e3, hf_Cnd.mono d e h a1 c1 (by omega) e4, hf_Cnd.mono d e h a2 c2 (by omega) e5, e6, e7⟩)
def zb64 (b : Bool) : Int64 := if b then 1 else 0
def zb32 (b : Bool) : Int32 := if b then 1 else 0
theorem x_cnd : ∀ (d : Nat) (h : hf_H) (a : Nat) (c : List Nat) (w : Nat) (wd : Nat → Int64), hf_wd h w wd → hf_Cnd d h a c → ∃ b : Bool, spCnd d a w h = some (zb32 b, h) ∧ ∀ st, zrun wd c st = some (zb64 b :: st)
  | 0, _, _, _, _, _, _, H => by cases H
  | d + 1, h, a, c, w, wd, D, H => by
    rcases H with ⟨V, a1, c1, e1, e2, e3, e4⟩ | ⟨V, a1, a2, c1, c2, s, e1, e2, e3, e4, e5, e6, e7⟩ | ⟨V, a1, a2, c1, c2, s, e1, e2, e3, e4, e5, e6, e7⟩
    · obtain ⟨b, b1, b2⟩ := x_cnd d h a1 c1 w wd D e3
      have hr : spCnd (d + 1) a w h = spX15_is (spCnd d) a w h := spCnd_15 e1
      refine ⟨!b, ?_, fun st => ?_⟩
      · rw [hr]
        unfold spX15_is
        simp only [hf_ga_eq e1, e2, Option.bind_some, b1, hf_b2_some]
        cases b <;> rfl
      · rw [e4, zrun_app, b2, Option.bind_some]
        unfold zrun
        rw [if_neg (by decide), if_neg (by decide), if_pos (by decide)]
        cases b <;> rfl
    · obtain ⟨x, x1, x2⟩ := x_val 64 h a1 c1 w wd D e4
      obtain ⟨y, y1, y2⟩ := x_val 64 h a2 c2 w wd D e5
      have hr : spCnd (d + 1) a w h = spX16_is (spVal 64) a w h := spCnd_16 e1
      have key : ∀ (b : Bool), zone s x y = zb64 b → spX16_is (spVal 64) a w h = some (zb32 b, h) → ∃ b : Bool, spCnd (d + 1) a w h = some (zb32 b, h) ∧ ∀ st, zrun wd c st = some (zb64 b :: st) := by
        intro b h1 h2
        refine ⟨b, hr.trans h2, fun st => ?_⟩
        rw [e6, ← h1]
        exact zrun_bin wd x2 y2 (by rcases e7 with ⟨_, _, g⟩ | ⟨_, _, g⟩ | ⟨_, _, g⟩ | ⟨_, _, g⟩ | ⟨_, _, g⟩ <;> omega) (by rcases e7 with ⟨_, _, g⟩ | ⟨_, _, g⟩ | ⟨_, _, g⟩ | ⟨_, _, g⟩ | ⟨_, _, g⟩ <;> omega) (by rcases e7 with ⟨_, _, g⟩ | ⟨_, _, g⟩ | ⟨_, _, g⟩ | ⟨_, _, g⟩ | ⟨_, _, g⟩ <;> omega) st
      have hsp : spX16_is (spVal 64) a w h = if x = y then (if V.1 2 = 61 then some (1, h) else if V.1 3 = 0 then some (0, h) else some (1, h)) else (if V.1 2 = 60 then (if x < y then some (1, h) else ndX16_is_66 a x y h) else ndX16_is_66 a x y h) := by
        unfold spX16_is
        simp only [hf_ga_eq e1, e2, e3, Option.bind_some, x1, y1, hf_b2_some, hf_gi_eq e1, lg_cmp_eq, lg_cmp_lt]
      have hnd : ndX16_is_66 a x y h = if V.1 2 = 62 then (if x ≤ y then some (0, h) else some (1, h)) else some (0, h) := by
        unfold ndX16_is_66
        simp only [hf_gi_eq e1, Option.bind_some, lg_cmp_le]
      rw [hnd] at hsp
      have l1 : x < y → ¬ x = y := fun z e => by rw [e] at z; exact Int64.lt_irrefl z
      have l2 : y < x → ¬ x = y := fun z e => by rw [e] at z; exact Int64.lt_irrefl z
      rcases e7 with ⟨g1, g2, g3⟩ | ⟨g1, g2, g3⟩ | ⟨g1, g2, g3⟩ | ⟨g1, g2, g3⟩ | ⟨g1, g2, g3⟩
      · refine key (decide (x < y)) ?_ ?_
        · rw [g3, zone6]; by_cases e : x < y <;> simp [e, zb64]
        · rw [hsp, g1, g2]
          by_cases e : x = y
          · subst e; simp [zb32, Int64.lt_irrefl]
          · by_cases e9 : x < y <;> simp [e, e9, zb32]
      · refine key (decide (¬ y < x)) ?_ ?_
        · rw [g3, zone7]; by_cases e : y < x <;> simp [e, zb64]
        · rw [hsp, g1, g2]
          by_cases e : x = y
          · subst e; simp [zb32, Int64.lt_irrefl]
          · by_cases e9 : x < y
            · have : ¬ y < x := Int64.not_lt.mpr (Int64.le_of_lt e9)
              simp [e, e9, this, zb32]
            · have : y < x := Int64.lt_of_le_of_ne (Int64.not_lt.mp e9) (fun z => e z.symm)
              simp [e, e9, this, zb32]
      · refine key (decide (x = y)) ?_ ?_
        · rw [g3, zone8]; by_cases e : x = y <;> simp [e, zb64]
        · rw [hsp, g1, g2]
          by_cases e : x = y <;> simp [e, zb32]
      · refine key (decide (¬ x < y)) ?_ ?_
        · rw [g3, zone9]; by_cases e : x < y <;> simp [e, zb64]
        · rw [hsp, g1, g2]
          by_cases e : x = y
          · subst e; simp [zb32, Int64.lt_irrefl]
          · by_cases e9 : x < y
            · have : x ≤ y := Int64.le_of_lt e9
              simp [e, e9, this, zb32]
            · have : ¬ x ≤ y := fun z => e9 (Int64.lt_of_le_of_ne z e)
              simp [e, e9, this, zb32]
      · refine key (decide (y < x)) ?_ ?_
        · rw [g3, zone10]; by_cases e : y < x <;> simp [e, zb64]
        · rw [hsp, g1, g2]
          by_cases e : x = y
          · subst e; simp [zb32, Int64.lt_irrefl]
          · by_cases e9 : y < x
            · have : ¬ x ≤ y := Int64.not_le.mpr e9
              simp [e, e9, this, zb32]
            · have : x ≤ y := Int64.not_lt.mp e9
              simp [e, e9, this, zb32]
    · obtain ⟨b, b1, b2⟩ := x_cnd d h a1 c1 w wd D e4
      obtain ⟨b', b3, b4⟩ := x_cnd d h a2 c2 w wd D e5
      have hr : spCnd (d + 1) a w h = spX17_is (spCnd d) a w h := spCnd_17 e1
      rcases e7 with ⟨g1, g2⟩ | ⟨g1, g2⟩
      · refine ⟨b && b', ?_, fun st => ?_⟩
        · rw [hr]
          unfold spX17_is
          simp only [hf_ga_eq e1, e2, e3, Option.bind_some, b1, b3, hf_b2_some, hf_gi_eq e1, g1]
          cases b <;> cases b' <;> rfl
        · rw [e6, g2, zrun_bin wd b2 b4 (by decide) (by decide) (by decide)]
          cases b <;> cases b' <;> rfl
      · refine ⟨b || b', ?_, fun st => ?_⟩
        · rw [hr]
          unfold spX17_is
          simp only [hf_ga_eq e1, e2, e3, Option.bind_some, b1, b3, hf_b2_some, hf_gi_eq e1, g1]
          cases b <;> cases b' <;> rfl
        · rw [e6, g2, zrun_bin wd b2 b4 (by decide) (by decide) (by decide)]
          cases b <;> cases b' <;> rfl
