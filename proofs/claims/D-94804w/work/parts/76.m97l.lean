set_option maxRecDepth 100000
set_option maxHeartbeats 1000000
/-! walks: walksBy, whole -/
def zval (v : Nat → Nat) (th q S : Nat) : Nat := zW v (th ||| S) + q - zcost v (v 1) S
/-- what can be at an hour, ahead of buying -/
def zP (v : Nat → Nat) (s0 w q : Nat) : Nat → Nat → Nat → Prop
  | 0, p, S => p = s0 ∧ S = 0
  | t + 1, p, S => ∃ p' y, p' < v 0 ∧ (∃ S0, S0 < 2 ^ v 1 ∧ zP v s0 w q t p' S0 ∧ zcl v q (v 3 + t) p' S0 S) ∧ (t = 0 → y = w) ∧ y < 3 ∧ p = zto v p' y
theorem zcl_cost {v : Nat → Nat} {q t p S0 S : Nat} (H : zcl v q t p S0 S) (h : zcost v (v 1) S0 ≤ q) : zcost v (v 1) S ≤ q := by
  exact H (fun S => zcost v (v 1) S ≤ q) h (fun S2 k _ _ c => c.2)
theorem zcost_0 (v : Nat → Nat) : ∀ n, zcost v n 0 = 0
  | 0 => rfl
  | n + 1 => by
    show zcost v n 0 + (if (0 : Nat).testBit n then v (10 + 5 * n + 2) else 0) = 0
    rw [zcost_0 v n]
    simp
theorem zP_cost {v : Nat → Nat} {s0 w q : Nat} : ∀ t p S, zP v s0 w q t p S → zcost v (v 1) S ≤ q
  | 0, p, S, h => by
    rw [h.2, zcost_0]
    exact Nat.zero_le _
  | t + 1, p, S, ⟨p', y, h1, ⟨S0, h2, h3, h4⟩, h5⟩ => zcl_cost h4 (zP_cost t p' S0 h3)
section ZW
variable {g : hf_H} {o f st : Nat} {v : Nat → Nat} {XV : hf_V}
theorem x_walkEnds (e : hf_ob 1 0 g o = some XV) (X : hf_XX g o f st) (F : hf_F g f v) (W : hf_wf v) (C : hf_cz (XV.2.2.2.1 17)) {D : Nat → Nat → Prop} {w th q : Nat} (hq : q < 1000000) (hw : w < 3) (hth : th < 2 ^ v 1) (hA : ∀ s, s < 2 ^ v 1 → XV.2.2.2.1 12 s = Int32.ofNat (zW v s)) (hc : ∀ S, S < 2 ^ v 1 → (∃ p, p < v 0 ∧ XV.2.2.2.1 17 (4096 * p + S) = 1) → zcost v (v 1) S ≤ q) (B : zbst D (zval v th q) XV) : ∃ Y, lpX0_walksBy_144 hf_N o (zway w) (Int32.ofNat q) (Int32.ofNat th) (Int32.ofNat 0) g = some (hf_xc g o Y) ∧ hf_wy XV Y ∧ zbst (fun a S => D a S ∨ (a = w ∧ S < 2 ^ v 1 ∧ ∃ p, p < v 0 ∧ XV.2.2.2.1 17 (4096 * p + S) = 1)) (zval v th q) Y := by
  have q1 := W.v1
  obtain ⟨p1, p2, p3⟩ := zpow12 q1
  have hW := fun s => zW_le (v := v) s q1
  have key : ∃ Y, lpX0_walksBy_144 hf_N o (zway w) (Int32.ofNat q) (Int32.ofNat th) (Int32.ofNat 0) (hf_xc g o XV) = some (hf_xc g o Y) ∧ hf_wy XV Y ∧ zbst (fun a S => D a S ∨ (a = w ∧ S < 2 ^ v 1 ∧ ∃ p, p < v 0 ∧ XV.2.2.2.1 17 (4096 * p + S) = 1)) (zval v th q) Y := by
    refine hf_loopR (fun n i Y => lpX0_walksBy_144 n o (zway w) (Int32.ofNat q) (Int32.ofNat th) (Int32.ofNat i) (hf_xc g o Y)) (fun i Y => Y.2 = XV.2 ∧ (∀ j, j ≠ 19 → j ≠ 20 → j ≠ 21 → Y.1 j = XV.1 j) ∧ zbst (fun a S => D a S ∨ (a = w ∧ S < i ∧ ∃ p, p < v 0 ∧ XV.2.2.2.1 17 (4096 * p + S) = 1)) (zval v th q) Y) (2 ^ v 1) (fun r => ∃ Y, r = some (hf_xc g o Y) ∧ hf_wy XV Y ∧ zbst (fun a S => D a S ∨ (a = w ∧ S < 2 ^ v 1 ∧ ∃ p, p < v 0 ∧ XV.2.2.2.1 17 (4096 * p + S) = 1)) (zval v th q) Y) (fun i n Y hi hP => ?_) (fun n Y hP => ?_) XV ⟨rfl, fun _ _ _ _ => rfl, B.congr (fun a S => ⟨Or.inl, fun h => h.elim id (fun h => by omega)⟩)⟩ (fuel := hf_N) (by unfold hf_N; omega)
    · obtain ⟨z1, z2, z3⟩ := hP
      have XY : hf_XX (hf_xc g o Y) o f st := X.xc e (by rw [z1]) (by rw [z1])
      have FY : hf_F (hf_xc g o Y) f v := F.xc e Y
      have eY : hf_ob 1 0 (hf_xc g o Y) o = some Y := hf_ob_xc g o Y
      have hgo : lpX0_walksBy_144 (n + 1) o (zway w) (Int32.ofNat q) (Int32.ofNat th) (Int32.ofNat i) (hf_xc g o Y) = lpX0_walksBy_161 (lpX0_walksBy_144 n) hf_N o (zway w) (Int32.ofNat q) (Int32.ofNat th) (Int32.ofNat i) (Int32.ofNat 0) (Int32.ofNat 0) (hf_xc g o Y) := by
        show ndX0_walksBy_144 (lpX0_walksBy_144 n) _ _ _ _ _ _ = _
        unfold ndX0_walksBy_144
        rw [XY.ob, x_many XY FY, hf_b2_some, z_sh1 (by omega), p1, if_neg (z_nle hi (by omega))]
        rfl
      rcases x_walkIs eY XY FY W (k144 := lpX0_walksBy_144 n) (a := zway w) (q := q) (th := th) (S := i) (by omega) (by rw [z1]; exact C) with ⟨h1, h2⟩ | ⟨h1, h2⟩
      · rw [z1] at h1
        refine ⟨Y, hgo.trans h2, z1, z2, z3.congr (fun a S => or_congr Iff.rfl ⟨fun ⟨c1, c2, c3⟩ => ⟨c1, by omega, c3⟩, fun ⟨c1, c2, c3⟩ => ⟨c1, ?_, c3⟩⟩)⟩
        by_cases eS : S = i
        · subst eS
          exact absurd c3 h1
        · omega
      · rw [z1] at h1
        have hcost := hc i hi h1
        have hv := hW (th ||| i)
        have hor : th ||| i < 2 ^ v 1 := Nat.or_lt_two_pow hth hi
        have hval : zval v th q i = zW v (th ||| i) + q - zcost v (v 1) i := rfl
        obtain ⟨Y', y1, y2, y3, y4⟩ := x_comes eY z3 (w := w) (S := i) hw (by omega) (by omega)
        refine ⟨Y', ?_, y2.trans z1, fun j a b c => (y3 j a b c).trans (z2 j a b c), y4.congr (fun a S => ?_)⟩
        · refine (hgo.trans h2).trans ?_
          rw [hf_ai_eq eY, z_ld (by omega) (by omega), Option.bind_some, z1, hA _ hor, z_add, z_sub (by omega), ← hval, y1, Option.bind_some, hf_xc_xc]
        · constructor
          · rintro ((h | ⟨c1, c2, c3⟩) | ⟨rfl, rfl⟩)
            · exact Or.inl h
            · exact Or.inr ⟨c1, by omega, c3⟩
            · exact Or.inr ⟨rfl, by omega, h1⟩
          · rintro (h | ⟨c1, c2, c3⟩)
            · exact Or.inl (Or.inl h)
            · by_cases eS : S = i
              · exact Or.inr ⟨c1, eS⟩
              · exact Or.inl (Or.inr ⟨c1, by omega, c3⟩)
    · obtain ⟨z1, z2, z3⟩ := hP
      have XY : hf_XX (hf_xc g o Y) o f st := X.xc e (by rw [z1]) (by rw [z1])
      have FY : hf_F (hf_xc g o Y) f v := F.xc e Y
      refine ⟨Y, ?_, ⟨by rw [z1], z2, by rw [z1], fun j _ _ => by rw [z1]⟩, z3⟩
      show ndX0_walksBy_144 (lpX0_walksBy_144 n) _ _ _ _ _ _ = _
      unfold ndX0_walksBy_144
      rw [XY.ob, x_many XY FY, hf_b2_some, z_sh1 (by omega), p1, if_pos (z_yle (Nat.le_refl _) (by omega))]
  rw [hf_xc_self e] at key
  exact key
theorem x_walkT (e : hf_ob 1 0 g o = some XV) (X : hf_XX g o f st) (F : hf_F g f v) (S : hf_SS g st v) (W : hf_wf v) (h0 : 0 < v 0) {D : Nat → Nat → Prop} {b w H : Nat} (hb : b < v 2) (hw : w < 3) (hH : H ≤ 12) (hA : ∀ s, s < 2 ^ v 1 → XV.2.2.2.1 12 s = Int32.ofNat (zW v s)) (B : zbst D (zval v (zhas v b) (v (70 + 4 * b))) XV) {Y0 : hf_V} (Z0 : hf_wz XV Y0) (C0 : hf_cz (Y0.2.2.2.1 17)) (P0 : ∀ p S, p < v 0 → S < 2 ^ v 1 → (Y0.2.2.2.1 17 (4096 * p + S) = 1 ↔ zP v (v (70 + 4 * b + 1)) w (v (70 + 4 * b)) 0 p S)) : ∃ Y, lpX0_walksBy_75 hf_N o (Int32.ofNat b) (zway w) (Int32.ofNat H) (Int32.ofNat (v (70 + 4 * b))) (Int32.ofNat 0) (hf_xc g o Y0) = some (hf_xc g o Y) ∧ hf_wy XV Y ∧ zbst (fun a S => D a S ∨ (a = w ∧ S < 2 ^ v 1 ∧ ∃ p, p < v 0 ∧ zP v (v (70 + 4 * b + 1)) w (v (70 + 4 * b)) H p S)) (zval v (zhas v b) (v (70 + 4 * b))) Y := by
  have q1 := W.v1
  have q2 := W.v2
  have q3 := W.v3
  obtain ⟨p1, p2, p3⟩ := zpow12 q1
  have hq := (W.2.2.1 b hb).1
  refine hf_loopR (fun n i Y => lpX0_walksBy_75 n o (Int32.ofNat b) (zway w) (Int32.ofNat H) (Int32.ofNat (v (70 + 4 * b))) (Int32.ofNat i) (hf_xc g o Y)) (fun i Y => hf_wz XV Y ∧ hf_cz (Y.2.2.2.1 17) ∧ ∀ p S, p < v 0 → S < 2 ^ v 1 → (Y.2.2.2.1 17 (4096 * p + S) = 1 ↔ zP v (v (70 + 4 * b + 1)) w (v (70 + 4 * b)) i p S)) H (fun r => ∃ Y, r = some (hf_xc g o Y) ∧ hf_wy XV Y ∧ zbst (fun a S => D a S ∨ (a = w ∧ S < 2 ^ v 1 ∧ ∃ p, p < v 0 ∧ zP v (v (70 + 4 * b + 1)) w (v (70 + 4 * b)) H p S)) (zval v (zhas v b) (v (70 + 4 * b))) Y) (fun i n Y hi hP => ?_) (fun n Y hP => ?_) Y0 ⟨Z0, C0, P0⟩ (fuel := hf_N) (by unfold hf_N; omega)
  · obtain ⟨z1, z2, z3⟩ := hP
    have XY : hf_XX (hf_xc g o Y) o f st := X.xc e (by rw [z1.1]) (by rw [z1.1])
    have SY : hf_SS (hf_xc g o Y) st v := S.xc e Y
    obtain ⟨Y1, y1, y2, y3, y4⟩ := x_walkBuys e X F S W (t := v 3 + i) (q := v (70 + 4 * b)) hq (by omega) z1 z2
    have X1 : hf_XX (hf_xc g o Y1) o f st := X.xc e (by rw [y2.1]) (by rw [y2.1])
    have hst : ∀ lo hi, lo ≤ hi → hi < 3 → (∀ y, (lo ≤ y ∧ y ≤ hi) ↔ ((i = 0 → y = w) ∧ y < 3)) → ∃ Y', spX0_goesAll o (zway lo) (zway hi) (hf_xc g o Y1) = some (hf_xc g o Y') ∧ hf_wz XV Y' ∧ hf_cz (Y'.2.2.2.1 17) ∧ ∀ p S, p < v 0 → S < 2 ^ v 1 → (Y'.2.2.2.1 17 (4096 * p + S) = 1 ↔ zP v (v (70 + 4 * b + 1)) w (v (70 + 4 * b)) (i + 1) p S) := by
      intro lo hi' h1 h2 h3
      obtain ⟨Y', w1, w2, w3, w4⟩ := x_walkGoes e X F W h0 h1 h2 y2 y3
      refine ⟨Y', w1, w2, w3, fun p S hp hS => ?_⟩
      rw [w4 p S hp hS]
      constructor
      · rintro ⟨p', y, c1, c2, c3, c4, c5⟩
        obtain ⟨S0, d1, d2, d3⟩ := (y4 p' S c1 hS).mp c2
        obtain ⟨e1, e2⟩ := (h3 y).mp ⟨c3, c4⟩
        exact ⟨p', y, c1, ⟨S0, d1, (z3 p' S0 c1 d1).mp d2, d3⟩, e1, e2, c5⟩
      · rintro ⟨p', y, c1, ⟨S0, d1, d2, d3⟩, e1, e2, c5⟩
        obtain ⟨c3, c4⟩ := (h3 y).mpr ⟨e1, e2⟩
        exact ⟨p', y, c1, (y4 p' S c1 hS).mpr ⟨S0, d1, (z3 p' S0 c1 d1).mpr d2, d3⟩, c3, c4, c5⟩
    by_cases hi0 : i = 0
    · obtain ⟨Y', w1, w2, w3, w4⟩ := hst w w (Nat.le_refl _) hw (fun y => by omega)
      refine ⟨Y', ?_, w2, w3, w4⟩
      show ndX0_walksBy_75 (lpX0_walksBy_75 n) _ _ _ _ _ _ _ = _
      unfold ndX0_walksBy_75 ndX0_walksBy_108 ndX0_walksBy_118
      rw [if_neg (z_nle hi (by omega)), XY.st, Option.bind_some, SY.now, Option.bind_some, XY.ob, z_add, y1, Option.bind_some, if_pos (by rw [hi0]; rfl), if_pos (by rw [hi0]; rfl), X1.ob, w1, Option.bind_some, hf_let_eq, z_lit 1, z_add]
    · obtain ⟨Y', w1, w2, w3, w4⟩ := hst 0 2 (by omega) (by omega) (fun y => by omega)
      have hn0 : ¬ Int32.ofNat i = 0 := fun z => hi0 ((z_eq (b := 0) (by omega) (by decide)).mp z)
      have w1' : spX0_goesAll o (-1 : Int32) (1 : Int32) (hf_xc g o Y1) = some (hf_xc g o Y') := w1
      refine ⟨Y', ?_, w2, w3, w4⟩
      show ndX0_walksBy_75 (lpX0_walksBy_75 n) _ _ _ _ _ _ _ = _
      unfold ndX0_walksBy_75 ndX0_walksBy_108 ndX0_walksBy_118
      rw [if_neg (z_nle hi (by omega)), XY.st, Option.bind_some, SY.now, Option.bind_some, XY.ob, z_add, y1, Option.bind_some, if_neg hn0, if_neg hn0, X1.ob, w1', Option.bind_some, hf_let_eq, z_lit 1, z_add]
  · obtain ⟨z1, z2, z3⟩ := hP
    have XY : hf_XX (hf_xc g o Y) o f st := X.xc e (by rw [z1.1]) (by rw [z1.1])
    have SY : hf_SS (hf_xc g o Y) st v := S.xc e Y
    have FY : hf_F (hf_xc g o Y) f v := F.xc e Y
    have eY : hf_ob 1 0 (hf_xc g o Y) o = some Y := hf_ob_xc g o Y
    have BY : zbst D (zval v (zhas v b) (v (70 + 4 * b))) Y := by
      unfold zbst at B ⊢
      rw [z1.2.1]
      exact B
    obtain ⟨Y', w1, w2, w3⟩ := x_walkEnds eY XY FY W z2 (D := D) (w := w) (th := zhas v b) hq hw (zhas_lt2 v b) (fun s hs => by rw [z1.2.2.2 12 (by decide) (by decide)]; exact hA s hs) (fun S hS ⟨p, hp, hpS⟩ => zP_cost _ _ _ ((z3 p S hp hS).mp hpS)) BY
    rw [hf_xc_xc] at w1
    refine ⟨Y', ?_, z1.wy.trans w2, w3.congr (fun a S => or_congr Iff.rfl ⟨fun ⟨c1, c2, p, c3, c4⟩ => ⟨c1, c2, p, c3, (z3 p S c3 c2).mp c4⟩, fun ⟨c1, c2, p, c3, c4⟩ => ⟨c1, c2, p, c3, (z3 p S c3 c2).mpr c4⟩⟩)⟩
    show ndX0_walksBy_75 (lpX0_walksBy_75 n) _ _ _ _ _ _ _ = _
    unfold ndX0_walksBy_75
    rw [if_pos (z_yle (Nat.le_refl _) (by omega)), XY.st, Option.bind_some, XY.fa, Option.bind_some, SY.ob, x_halvesOf FY SY W (by omega), hf_b2_some]
    exact w1
theorem x_walksBy (e : hf_ob 1 0 g o = some XV) (X : hf_XX g o f st) (F : hf_F g f v) (S : hf_SS g st v) (W : hf_wf v) (h0 : 0 < v 0) {D : Nat → Nat → Prop} {b w : Nat} (hb : b < v 2) (hw : w < 3) (hH : zleft v ≤ 12) (hA : ∀ s, s < 2 ^ v 1 → XV.2.2.2.1 12 s = Int32.ofNat (zW v s)) (B : zbst D (zval v (zhas v b) (v (70 + 4 * b))) XV) : ∃ Y, spX0_walksBy o (Int32.ofNat b) (zway w) g = some (hf_xc g o Y) ∧ hf_wy XV Y ∧ zbst (fun a S => D a S ∨ (a = w ∧ S < 2 ^ v 1 ∧ ∃ p, p < v 0 ∧ zP v (v (70 + 4 * b + 1)) w (v (70 + 4 * b)) (zleft v) p S)) (zval v (zhas v b) (v (70 + 4 * b))) Y := by
  have q0 := W.v0
  have q1 := W.v1
  have q2 := W.v2
  obtain ⟨p1, p2, p3⟩ := zpow12 q1
  have hq := (W.2.2.1 b hb).1
  have hsp := (W.2.2.1 b hb).2.1
  unfold spX0_walksBy
  rw [X.fa, Option.bind_some, X.st, Option.bind_some, S.now, Option.bind_some, F.ob, x_left F W h0, hf_b2_some, X.st, Option.bind_some, S.ob, S.purse hb q2, Option.bind_some]
  have key : ∃ Y, lpX0_walksBy_29 hf_N o (Int32.ofNat b) (zway w) (Int32.ofNat (zleft v)) (Int32.ofNat (v (70 + 4 * b))) (Int32.ofNat 0) (hf_xc g o XV) = some (hf_xc g o Y) ∧ hf_wy XV Y ∧ zbst (fun a S => D a S ∨ (a = w ∧ S < 2 ^ v 1 ∧ ∃ p, p < v 0 ∧ zP v (v (70 + 4 * b + 1)) w (v (70 + 4 * b)) (zleft v) p S)) (zval v (zhas v b) (v (70 + 4 * b))) Y := by
    refine hf_loopR (fun n i Y => lpX0_walksBy_29 n o (Int32.ofNat b) (zway w) (Int32.ofNat (zleft v)) (Int32.ofNat (v (70 + 4 * b))) (Int32.ofNat i) (hf_xc g o Y)) (fun i Y => hf_wz XV Y ∧ ∀ j, j < i → Y.2.2.2.1 17 j = 0) 32768 (fun r => ∃ Y, r = some (hf_xc g o Y) ∧ hf_wy XV Y ∧ zbst (fun a S => D a S ∨ (a = w ∧ S < 2 ^ v 1 ∧ ∃ p, p < v 0 ∧ zP v (v (70 + 4 * b + 1)) w (v (70 + 4 * b)) (zleft v) p S)) (zval v (zhas v b) (v (70 + 4 * b))) Y) (fun i n Y hi hP => ?_) (fun n Y hP => ?_) XV ⟨hf_wz.rfl_ XV, fun j hj => by omega⟩ (fuel := hf_N) (by unfold hf_N; omega)
    · obtain ⟨z1, z2⟩ := hP
      have XY : hf_XX (hf_xc g o Y) o f st := X.xc e (by rw [z1.1]) (by rw [z1.1])
      have eY : hf_ob 1 0 (hf_xc g o Y) o = some Y := hf_ob_xc g o Y
      refine ⟨hf_ua Y 17 i 0, ?_, z1.ua (Or.inl rfl) _ _, fun j hj => ?_⟩
      · show ndX0_walksBy_29 (lpX0_walksBy_29 n) _ _ _ _ _ _ _ = _
        unfold ndX0_walksBy_29
        rw [XY.ob, XY.ob, z_lit 32768, if_neg (z_nle hi (by decide)), XY.ob, vp_nar01.1, hf_si_eq eY 17 hi (by omega), Option.bind_some, hf_let_eq, z_lit 1, z_add]
        unfold hf_xc
        rw [hf_up_up]
      · rw [hf_ua_at]
        by_cases ej : j = i
        · rw [if_pos ej]
        · rw [if_neg ej]; exact z2 j (by omega)
    · obtain ⟨z1, z2⟩ := hP
      have XY : hf_XX (hf_xc g o Y) o f st := X.xc e (by rw [z1.1]) (by rw [z1.1])
      have SY : hf_SS (hf_xc g o Y) st v := S.xc e Y
      have eY : hf_ob 1 0 (hf_xc g o Y) o = some Y := hf_ob_xc g o Y
      have u17 : (hf_ua Y 17 (4096 * v (70 + 4 * b + 1)) 1).2.2.2.1 17 = fun j => if j = 4096 * v (70 + 4 * b + 1) then 1 else Y.2.2.2.1 17 j := by
        funext j
        rw [hf_ua_at]
      obtain ⟨Y', w1, w2, w3⟩ := x_walkT e X F S W h0 hb hw hH hA B (Y0 := hf_ua Y 17 (4096 * v (70 + 4 * b + 1)) 1) (z1.ua (Or.inl rfl) _ _) (fun j hj => by
        rw [u17]
        show (if _ then _ else _) = _ ∨ (if _ then _ else _) = _
        by_cases ej : j = 4096 * v (70 + 4 * b + 1)
        · rw [if_pos ej]; exact Or.inr rfl
        · rw [if_neg ej]; exact Or.inl (z2 j hj)) (fun p S hp hS => by
        rw [u17]
        show (if 4096 * p + S = 4096 * v (70 + 4 * b + 1) then _ else _) = _ ↔ _ ∧ _
        by_cases ej : 4096 * p + S = 4096 * v (70 + 4 * b + 1)
        · rw [if_pos ej]
          exact ⟨fun _ => by omega, fun _ => rfl⟩
        · rw [if_neg ej, z2 _ (by omega)]
          exact ⟨fun h => absurd h (by decide), fun h => by omega⟩)
      refine ⟨Y', ?_, w2, w3⟩
      show ndX0_walksBy_29 (lpX0_walksBy_29 n) _ _ _ _ _ _ _ = _
      unfold ndX0_walksBy_29
      have hi1 : (4096 : Int32) * Int32.ofNat (v (70 + 4 * b + 1)) = Int32.ofNat (4096 * v (70 + 4 * b + 1)) := by rw [z_lit, z_mul]
      rw [XY.ob, XY.ob, z_lit 32768, if_pos (z_yle (Nat.le_refl _) (by decide)), XY.ob, XY.st, Option.bind_some, SY.ob, SY.spot hb q2, Option.bind_some, hi1, vp_nar01.2, hf_si_eq eY 17 (by omega) (by omega), Option.bind_some]
      unfold hf_xc at w1 ⊢
      rw [hf_up_up]
      exact w1
  rw [hf_xc_self e] at key
  exact key
end ZW
set_option maxRecDepth 100000
set_option maxHeartbeats 1000000
/-! walks: the model's marks -/
def hf_vz (A B : hf_V) : Prop := B.1 = A.1 ∧ ∀ j, j ≠ 27 → j ≠ 28 → B.2.2.2.1 j = A.2.2.2.1 j
theorem hf_vz.rfl_ (A : hf_V) : hf_vz A A := ⟨rfl, fun _ _ _ => rfl⟩
theorem hf_vz.ua {A B : hf_V} (H : hf_vz A B) {k : Nat} (hk : k = 27 ∨ k = 28) (i : Nat) (x : Int32) : hf_vz A (hf_ua B k i x) := ⟨H.1, fun j a b => by rw [hf_ua_ne _ (by omega)]; exact H.2 j a b⟩
theorem hf_vz.sv {A B : hf_V} {v : Nat → Nat} (H : hf_vz A B) (S : hf_sv A v) : hf_sv B v := fun k => by rw [H.2 20 (by decide) (by decide)]; exact S k
/-- marks: bits under 8 -/
def hf_na (a : Nat → Int32) (A : Nat → Nat) : Prop := ∀ j, j < 2048 → a j = Int32.ofNat (A j) ∧ A j < 8
theorem hf_na.ua {B : hf_V} {k : Nat} {A : Nat → Nat} (H : hf_na (B.2.2.2.1 k) A) (i : Nat) {x : Nat} (hx : x < 8) : hf_na ((hf_ua B k i (Int32.ofNat x)).2.2.2.1 k) (zup A i x) := fun j hj => by
  rw [hf_ua_at]
  by_cases e : j = i
  · rw [if_pos e, e, zup_at]; exact ⟨rfl, hx⟩
  · rw [if_neg e, zup_ne _ e]; exact H j hj
theorem zway_1 : ∀ a, a < 4 → zway a + 1 = Int32.ofNat a := by decide
def zmk (F y m : Nat) : Nat := if F = 0 then m else 1 <<< y
theorem zmk_lt {F y m : Nat} (hy : y < 3) (hm : m < 8) : zmk F y m < 8 := by
  unfold zmk
  split
  · exact hm
  · rw [Nat.one_shiftLeft]
    exact Nat.pow_lt_pow_right (n := 3) (by decide) hy
theorem z_or8 {a b : Nat} (ha : a < 8) (hb : b < 8) : a ||| b < 8 := Nat.or_lt_two_pow (n := 3) ha hb
def zpl (p T : Nat) : Nat := 256 * p + T
theorem z_pl (p T : Nat) : Int32.ofNat p * (256 : Int32) + Int32.ofNat T = Int32.ofNat (zpl p T) := by
  rw [z_lit, z_mul, z_add, Nat.mul_comm]
  rfl
theorem z_or256 {T s : Nat} (hT : T < 256) (hs : s < 8) : T ||| 1 <<< s < 256 := by
  refine Nat.or_lt_two_pow (n := 8) hT ?_
  rw [Nat.one_shiftLeft]
  exact Nat.pow_lt_pow_right (n := 8) (by decide) hs
def zto2 (v : Nat → Nat) (t p y T : Nat) : Nat := zpl (zto v p y) (T ||| 1 <<< zst v (zto v p y) t)
section ZM
variable {V : hf_V} {v : Nat → Nat}
theorem m_wo3 (S : hf_sv V v) (W : hf_wf v) (h0 : 0 < v 0) {k24 : Int32 → Int32 → Int32 → hf_V → Option hf_V} {k37 : Int32 → Int32 → Int32 → Int32 → hf_V → Option hf_V} {t F p T m : Nat} (ht : t < 1000) (hF : F ≤ 1) (hp : p < v 0) (hT : T < 256) (hm : m < 8) {B0 : hf_V} {C0 : Nat → Nat} (Z0 : hf_vz V B0) (N0 : hf_na (B0.2.2.2.1 28) C0) : ∃ B C, lpX4_walksOn_69 k24 k37 hf_N (Int32.ofNat t) (Int32.ofNat F) (Int32.ofNat p) (Int32.ofNat T) (Int32.ofNat m) (zway 0) B0 = k37 (Int32.ofNat t) (Int32.ofNat F) (Int32.ofNat p) (Int32.ofNat (T + 1)) B ∧ hf_vz V B ∧ B.2.2.2.1 27 = B0.2.2.2.1 27 ∧ hf_na (B.2.2.2.1 28) C ∧ ∀ j w, (C j).testBit w = true ↔ (C0 j).testBit w = true ∨ ∃ y, y < 3 ∧ j = zto2 v t p y T ∧ (zmk F y m).testBit w = true := by
  have q0 := W.v0
  have q4 := W.v4
  have key : ∃ R : hf_V × (Nat → Nat), lpX4_walksOn_69 k24 k37 hf_N (Int32.ofNat t) (Int32.ofNat F) (Int32.ofNat p) (Int32.ofNat T) (Int32.ofNat m) (zway 0) B0 = k37 (Int32.ofNat t) (Int32.ofNat F) (Int32.ofNat p) (Int32.ofNat (T + 1)) R.1 ∧ hf_vz V R.1 ∧ R.1.2.2.2.1 27 = B0.2.2.2.1 27 ∧ hf_na (R.1.2.2.2.1 28) R.2 ∧ ∀ j w, (R.2 j).testBit w = true ↔ (C0 j).testBit w = true ∨ ∃ y, y < 3 ∧ j = zto2 v t p y T ∧ (zmk F y m).testBit w = true := by
    refine hf_loopR (fun n i (R : hf_V × (Nat → Nat)) => lpX4_walksOn_69 k24 k37 n (Int32.ofNat t) (Int32.ofNat F) (Int32.ofNat p) (Int32.ofNat T) (Int32.ofNat m) (zway i) R.1) (fun i R => hf_vz V R.1 ∧ R.1.2.2.2.1 27 = B0.2.2.2.1 27 ∧ hf_na (R.1.2.2.2.1 28) R.2 ∧ ∀ j w, (R.2 j).testBit w = true ↔ (C0 j).testBit w = true ∨ ∃ y, y < i ∧ j = zto2 v t p y T ∧ (zmk F y m).testBit w = true) 3 (fun r => ∃ R : hf_V × (Nat → Nat), r = k37 (Int32.ofNat t) (Int32.ofNat F) (Int32.ofNat p) (Int32.ofNat (T + 1)) R.1 ∧ hf_vz V R.1 ∧ R.1.2.2.2.1 27 = B0.2.2.2.1 27 ∧ hf_na (R.1.2.2.2.1 28) R.2 ∧ ∀ j w, (R.2 j).testBit w = true ↔ (C0 j).testBit w = true ∨ ∃ y, y < 3 ∧ j = zto2 v t p y T ∧ (zmk F y m).testBit w = true) (fun i n R hi hP => ?_) (fun n R hP => ?_) (B0, C0) ⟨Z0, rfl, N0, fun j w => ⟨Or.inl, fun h => h.elim id (fun ⟨y, h1, _⟩ => by omega)⟩⟩ (fuel := hf_N) (by unfold hf_N; omega)
    · obtain ⟨B, C⟩ := R
      obtain ⟨z1, z2, z3, z4⟩ := hP
      simp only at z1 z2 z3 z4
      have SB := z1.sv S
      have hto : zto v p i < v 0 := Nat.mod_lt _ h0
      have hst := (z_st t hto).1
      have hor := z_or256 hT (show zst v (zto v p i) t < 8 by omega)
      have hidx : zto2 v t p i T < 2048 := by
        unfold zto2 zpl
        omega
      have hx : C (zto2 v t p i T) ||| zmk F i m < 8 := z_or8 (z3 _ hidx).2 (zmk_lt hi hm)
      refine ⟨(hf_ua B 28 (zto2 v t p i T) (Int32.ofNat (C (zto2 v t p i T) ||| zmk F i m)), zup C (zto2 v t p i T) (C (zto2 v t p i T) ||| zmk F i m)), ?_, z1.ua (Or.inr rfl) _ _, by show (hf_ua _ _ _ _).2.2.2.1 27 = _; rw [hf_ua_ne _ (by decide)]; exact z2, z3.ua _ hx, fun j w => ?_⟩
      · show ndX4_walksOn_69 k24 k37 (lpX4_walksOn_69 k24 k37 n) _ _ _ _ _ _ _ = _
        unfold ndX4_walksOn_69 ndX4_walksOn_133
        have e1 : Int32.ofNat p + zway i + Int32.ofNat (v 0) - (Int32.ofNat p + zway i + Int32.ofNat (v 0)) / Int32.ofNat (v 0) * Int32.ofNat (v 0) = Int32.ofNat (zto v p i) := by
          rw [z_way h0, z_div (by omega) (by omega), z_mul, z_rem]
          rfl
        have e2 : ∀ s, spX4_placeOf (Int32.ofNat (zto v p i)) (Int32.ofNat s) = some (Int32.ofNat (zpl (zto v p i) s)) := fun s => by
          unfold spX4_placeOf
          rw [z_pl]
        rw [if_neg (show ¬ (2 : Int32) ≤ zway i from by
          have : (2 : Int32) = zway 3 := by decide
          rw [this, ← Int32.not_lt, Decidable.not_not, zway_lt _ (by omega) _ (by omega)]
          exact hi), SB.l0, Option.bind_some, Option.bind_some, if_neg (fun z => by
          have := (z_eq (b := 0) (by omega) (by decide)).mp z
          omega), hf_let_eq, e1, m_stallAt SB hto q0 ht (by omega), hf_b2_some, z_sh1 (by omega), z_or, e2, Option.bind_some]
        have e3 : zpl (zto v p i) (T ||| 1 <<< zst v (zto v p i) t) = zto2 v t p i T := rfl
        rw [e3, z_ld hidx (by omega), Option.bind_some, (z3 _ hidx).1]
        by_cases hF0 : F = 0
        · rw [if_pos (by rw [hF0]; rfl), z_sd hidx (by omega), hf_let_eq, zway_s _ (by omega), z_or]
          unfold zmk
          rw [if_pos hF0]
        · have hne : ¬ (Int32.ofNat F = 0) := fun z => hF0 ((z_eq (b := 0) (by omega) (by decide)).mp z)
          rw [if_neg hne, z_sd hidx (by omega), hf_let_eq]
          conv => lhs; rw [zway_s _ (by omega)]
          have e4 : (1 : Int32) <<< (zway (i + 1) &&& 31) = Int32.ofNat (1 <<< i) := by
            rw [← zway_s _ (by omega), zway_1 _ (by omega), z_sh1 (by omega)]
          rw [e4, z_or]
          unfold zmk
          rw [if_neg hF0]
      · show (zup C _ _ j).testBit w = true ↔ _
        by_cases ej : j = zto2 v t p i T
        · subst ej
          rw [zup_at, Nat.testBit_or, Bool.or_eq_true, z4]
          constructor
          · rintro ((h | ⟨y, h1, h2⟩) | h)
            · exact Or.inl h
            · exact Or.inr ⟨y, by omega, h2⟩
            · exact Or.inr ⟨i, by omega, rfl, h⟩
          · rintro (h | ⟨y, h1, h2, h3⟩)
            · exact Or.inl (Or.inl h)
            · by_cases ey : y = i
              · subst ey; exact Or.inr h3
              · exact Or.inl (Or.inr ⟨y, by omega, h2, h3⟩)
        · rw [zup_ne _ ej, z4]
          refine or_congr Iff.rfl ⟨fun ⟨y, h1, h2⟩ => ⟨y, by omega, h2⟩, fun ⟨y, h1, h2, h3⟩ => ?_⟩
          by_cases ey : y = i
          · subst ey; exact absurd h2 ej
          · exact ⟨y, by omega, h2, h3⟩
    · obtain ⟨B, C⟩ := R
      refine ⟨(B, C), ?_, hP⟩
      show ndX4_walksOn_69 k24 k37 (lpX4_walksOn_69 k24 k37 n) _ _ _ _ _ _ _ = _
      unfold ndX4_walksOn_69 ndX4_walksOn_141
      rw [if_pos (show (2 : Int32) ≤ zway 3 by decide), hf_let_eq, z_lit 1, z_add]
  obtain ⟨R, hR⟩ := key
  exact ⟨R.1, R.2, hR⟩
theorem m_wo2 (S : hf_sv V v) (W : hf_wf v) (h0 : 0 < v 0) {k24 : Int32 → Int32 → Int32 → hf_V → Option hf_V} {t F p : Nat} (ht : t < 1000) (hF : F ≤ 1) (hp : p < v 0) {A : Nat → Nat} {B0 : hf_V} {C0 : Nat → Nat} (Z0 : hf_vz V B0) (NA : hf_na (B0.2.2.2.1 27) A) (N0 : hf_na (B0.2.2.2.1 28) C0) : ∃ B C, lpX4_walksOn_37 k24 hf_N (Int32.ofNat t) (Int32.ofNat F) (Int32.ofNat p) (Int32.ofNat 0) B0 = k24 (Int32.ofNat t) (Int32.ofNat F) (Int32.ofNat (p + 1)) B ∧ hf_vz V B ∧ B.2.2.2.1 27 = B0.2.2.2.1 27 ∧ hf_na (B.2.2.2.1 28) C ∧ ∀ j w, (C j).testBit w = true ↔ (C0 j).testBit w = true ∨ ∃ T y, T < 256 ∧ A (zpl p T) ≠ 0 ∧ y < 3 ∧ j = zto2 v t p y T ∧ (zmk F y (A (zpl p T))).testBit w = true := by
  have q0 := W.v0
  have key : ∃ R : hf_V × (Nat → Nat), lpX4_walksOn_37 k24 hf_N (Int32.ofNat t) (Int32.ofNat F) (Int32.ofNat p) (Int32.ofNat 0) B0 = k24 (Int32.ofNat t) (Int32.ofNat F) (Int32.ofNat (p + 1)) R.1 ∧ hf_vz V R.1 ∧ R.1.2.2.2.1 27 = B0.2.2.2.1 27 ∧ hf_na (R.1.2.2.2.1 28) R.2 ∧ ∀ j w, (R.2 j).testBit w = true ↔ (C0 j).testBit w = true ∨ ∃ T y, T < 256 ∧ A (zpl p T) ≠ 0 ∧ y < 3 ∧ j = zto2 v t p y T ∧ (zmk F y (A (zpl p T))).testBit w = true := by
    refine hf_loopR (fun n i (R : hf_V × (Nat → Nat)) => lpX4_walksOn_37 k24 n (Int32.ofNat t) (Int32.ofNat F) (Int32.ofNat p) (Int32.ofNat i) R.1) (fun i R => hf_vz V R.1 ∧ R.1.2.2.2.1 27 = B0.2.2.2.1 27 ∧ hf_na (R.1.2.2.2.1 28) R.2 ∧ ∀ j w, (R.2 j).testBit w = true ↔ (C0 j).testBit w = true ∨ ∃ T y, T < i ∧ A (zpl p T) ≠ 0 ∧ y < 3 ∧ j = zto2 v t p y T ∧ (zmk F y (A (zpl p T))).testBit w = true) 256 (fun r => ∃ R : hf_V × (Nat → Nat), r = k24 (Int32.ofNat t) (Int32.ofNat F) (Int32.ofNat (p + 1)) R.1 ∧ hf_vz V R.1 ∧ R.1.2.2.2.1 27 = B0.2.2.2.1 27 ∧ hf_na (R.1.2.2.2.1 28) R.2 ∧ ∀ j w, (R.2 j).testBit w = true ↔ (C0 j).testBit w = true ∨ ∃ T y, T < 256 ∧ A (zpl p T) ≠ 0 ∧ y < 3 ∧ j = zto2 v t p y T ∧ (zmk F y (A (zpl p T))).testBit w = true) (fun i n R hi hP => ?_) (fun n R hP => ?_) (B0, C0) ⟨Z0, rfl, N0, fun j w => ⟨Or.inl, fun h => h.elim id (fun ⟨T, y, h1, _⟩ => by omega)⟩⟩ (fuel := hf_N) (by unfold hf_N; omega)
    · obtain ⟨B, C⟩ := R
      obtain ⟨z1, z2, z3, z4⟩ := hP
      simp only at z1 z2 z3 z4
      have hidx : zpl p i < 2048 := by unfold zpl; omega
      obtain ⟨hA1, hA2⟩ := NA _ hidx
      have hgo : lpX4_walksOn_37 k24 (n + 1) (Int32.ofNat t) (Int32.ofNat F) (Int32.ofNat p) (Int32.ofNat i) B = if A (zpl p i) = 0 then lpX4_walksOn_37 k24 n (Int32.ofNat t) (Int32.ofNat F) (Int32.ofNat p) (Int32.ofNat (i + 1)) B else lpX4_walksOn_69 k24 (lpX4_walksOn_37 k24 n) hf_N (Int32.ofNat t) (Int32.ofNat F) (Int32.ofNat p) (Int32.ofNat i) (Int32.ofNat (A (zpl p i))) (zway 0) B := by
        show ndX4_walksOn_37 k24 (lpX4_walksOn_37 k24 n) _ _ _ _ _ = _
        unfold ndX4_walksOn_37 ndX4_walksOn_141 spX4_placeOf
        rw [z_lit 256, if_neg (z_nle hi (by decide))]
        rw [show Int32.ofNat 256 = (256 : Int32) from rfl, z_pl, Option.bind_some, z_ld hidx (by omega), Option.bind_some, z2, hA1, hf_let_eq, z_lit 1, z_add]
        by_cases e : A (zpl p i) = 0
        · rw [if_pos e, if_pos (by rw [e]; rfl)]
        · have hne : ¬ (Int32.ofNat (A (zpl p i)) = 0) := fun z => e ((z_eq (b := 0) (by omega) (by decide)).mp z)
          rw [if_neg e, if_neg hne]
          rfl
      by_cases eA : A (zpl p i) = 0
      · refine ⟨(B, C), ?_, z1, z2, z3, fun j w => (z4 j w).trans (or_congr Iff.rfl ⟨fun ⟨T, y, h1, h2⟩ => ⟨T, y, by omega, h2⟩, fun ⟨T, y, h1, h2, h3⟩ => ?_⟩)⟩
        · show lpX4_walksOn_37 k24 (n + 1) (Int32.ofNat t) (Int32.ofNat F) (Int32.ofNat p) (Int32.ofNat i) B = _
          rw [hgo, if_pos eA]
        · by_cases eT : T = i
          · subst eT; exact absurd eA h2
          · exact ⟨T, y, by omega, h2, h3⟩
      · obtain ⟨B', C', y1, y2, y3, y4, y5⟩ := m_wo3 S W h0 (k24 := k24) (k37 := lpX4_walksOn_37 k24 n) (T := i) (m := A (zpl p i)) ht hF hp hi hA2 z1 z3
        refine ⟨(B', C'), ?_, y2, y3.trans z2, y4, fun j w => ?_⟩
        · show lpX4_walksOn_37 k24 (n + 1) (Int32.ofNat t) (Int32.ofNat F) (Int32.ofNat p) (Int32.ofNat i) B = _
          rw [hgo, if_neg eA]
          exact y1
        · show (C' j).testBit w = true ↔ _
          rw [y5, z4]
          constructor
          · rintro ((h | ⟨T, y, h1, h2⟩) | ⟨y, h1, h2, h3⟩)
            · exact Or.inl h
            · exact Or.inr ⟨T, y, by omega, h2⟩
            · exact Or.inr ⟨i, y, by omega, eA, h1, h2, h3⟩
          · rintro (h | ⟨T, y, h1, h2, h3, h4, h5⟩)
            · exact Or.inl (Or.inl h)
            · by_cases eT : T = i
              · subst eT; exact Or.inr ⟨y, h3, h4, h5⟩
              · exact Or.inl (Or.inr ⟨T, y, by omega, h2, h3, h4, h5⟩)
    · obtain ⟨B, C⟩ := R
      refine ⟨(B, C), ?_, hP⟩
      show ndX4_walksOn_37 k24 (lpX4_walksOn_37 k24 n) _ _ _ _ _ = _
      unfold ndX4_walksOn_37
      rw [z_lit 256, if_pos (z_yle (Nat.le_refl _) (by decide)), hf_let_eq, z_lit 1, z_add]
  obtain ⟨R, hR⟩ := key
  exact ⟨R.1, R.2, hR⟩
/-- the copy -/
theorem m_wo4 {B0 : hf_V} {C : Nat → Nat} (Z0 : hf_vz V B0) (N0 : hf_na (B0.2.2.2.1 28) C) : ∃ B, lpX4_walksOn_155 hf_N (Int32.ofNat 0) B0 = some B ∧ hf_vz V B ∧ hf_na (B.2.2.2.1 27) C := by
  refine hf_loopR (fun n i B => lpX4_walksOn_155 n (Int32.ofNat i) B) (fun i B => hf_vz V B ∧ B.2.2.2.1 28 = B0.2.2.2.1 28 ∧ ∀ j, j < i → B.2.2.2.1 27 j = Int32.ofNat (C j)) 2048 (fun r => ∃ B, r = some B ∧ hf_vz V B ∧ hf_na (B.2.2.2.1 27) C) (fun i n B hi hP => ?_) (fun n B hP => ?_) B0 ⟨Z0, rfl, fun j hj => by omega⟩ (fuel := hf_N) (by unfold hf_N; omega)
  · obtain ⟨z1, z2, z3⟩ := hP
    refine ⟨hf_ua B 27 i (Int32.ofNat (C i)), ?_, z1.ua (Or.inl rfl) _ _, by rw [hf_ua_ne _ (by decide)]; exact z2, fun j hj => ?_⟩
    · show ndX4_walksOn_155 (lpX4_walksOn_155 n) _ _ = _
      unfold ndX4_walksOn_155
      rw [z_lit 2048, if_neg (z_nle hi (by decide)), z_ld hi (by omega), Option.bind_some, z_sd hi (by omega), hf_let_eq, z_lit 1, z_add, z2, (N0 i hi).1]
    · rw [hf_ua_at]
      by_cases ej : j = i
      · rw [if_pos ej, ej]
      · rw [if_neg ej]; exact z3 j (by omega)
  · obtain ⟨z1, z2, z3⟩ := hP
    refine ⟨B, ?_, z1, fun j hj => ⟨z3 j hj, (N0 j hj).2⟩⟩
    show ndX4_walksOn_155 (lpX4_walksOn_155 n) _ _ = _
    unfold ndX4_walksOn_155
    rw [z_lit 2048, if_pos (z_yle (Nat.le_refl _) (by decide))]
theorem m_walksOn (S : hf_sv V v) (W : hf_wf v) (h0 : 0 < v 0) {t F : Nat} (ht : t < 1000) (hF : F ≤ 1) {A : Nat → Nat} {B0 : hf_V} (Z0 : hf_vz V B0) (NA : hf_na (B0.2.2.2.1 27) A) : ∃ B C, spX4_walksOn (Int32.ofNat t) (Int32.ofNat F) B0 = some B ∧ hf_vz V B ∧ hf_na (B.2.2.2.1 27) C ∧ ∀ j w, (C j).testBit w = true ↔ ∃ p T y, p < v 0 ∧ T < 256 ∧ A (zpl p T) ≠ 0 ∧ y < 3 ∧ j = zto2 v t p y T ∧ (zmk F y (A (zpl p T))).testBit w = true := by
  have q0 := W.v0
  have mid : ∀ B1, hf_vz V B1 → B1.2.2.2.1 27 = B0.2.2.2.1 27 → (∀ j, j < 2048 → B1.2.2.2.1 28 j = 0) → ∃ B C, lpX4_walksOn_24 hf_N (Int32.ofNat t) (Int32.ofNat F) (Int32.ofNat 0) B1 = some B ∧ hf_vz V B ∧ hf_na (B.2.2.2.1 27) C ∧ ∀ j w, (C j).testBit w = true ↔ ∃ p T y, p < v 0 ∧ T < 256 ∧ A (zpl p T) ≠ 0 ∧ y < 3 ∧ j = zto2 v t p y T ∧ (zmk F y (A (zpl p T))).testBit w = true := by
    intro B1 H1 H2 H3
    refine hf_loopR (fun n i (R : hf_V × (Nat → Nat)) => lpX4_walksOn_24 n (Int32.ofNat t) (Int32.ofNat F) (Int32.ofNat i) R.1) (fun i R => hf_vz V R.1 ∧ R.1.2.2.2.1 27 = B0.2.2.2.1 27 ∧ hf_na (R.1.2.2.2.1 28) R.2 ∧ ∀ j w, (R.2 j).testBit w = true ↔ ∃ p T y, p < i ∧ T < 256 ∧ A (zpl p T) ≠ 0 ∧ y < 3 ∧ j = zto2 v t p y T ∧ (zmk F y (A (zpl p T))).testBit w = true) (v 0) (fun r => ∃ B C, r = some B ∧ hf_vz V B ∧ hf_na (B.2.2.2.1 27) C ∧ ∀ j w, (C j).testBit w = true ↔ ∃ p T y, p < v 0 ∧ T < 256 ∧ A (zpl p T) ≠ 0 ∧ y < 3 ∧ j = zto2 v t p y T ∧ (zmk F y (A (zpl p T))).testBit w = true) (fun i n R hi hP => ?_) (fun n R hP => ?_) (B1, fun _ => 0) ⟨H1, H2, fun j hj => ⟨H3 j hj, (by decide : (0 : Nat) < 8)⟩, fun j w => ⟨fun h => by simp at h, fun ⟨p, T, y, h, _⟩ => by omega⟩⟩ (fuel := hf_N) (by unfold hf_N; omega)
    · obtain ⟨B, C⟩ := R
      obtain ⟨z1, z2, z3, z4⟩ := hP
      simp only at z1 z2 z3 z4
      have SB := z1.sv S
      obtain ⟨B', C', y1, y2, y3, y4, y5⟩ := m_wo2 S W h0 (k24 := lpX4_walksOn_24 n) (p := i) (A := A) ht hF hi z1 (by rw [z2]; exact NA) z3
      refine ⟨(B', C'), ?_, y2, y3.trans z2, y4, fun j w => ?_⟩
      · show ndX4_walksOn_24 (lpX4_walksOn_24 n) _ _ _ _ = _
        unfold ndX4_walksOn_24
        rw [SB.l0, Option.bind_some, if_neg (z_nle hi (by omega))]
        exact y1
      · show (C' j).testBit w = true ↔ _
        rw [y5, z4]
        constructor
        · rintro (⟨p, T, y, h1, h2⟩ | ⟨T, y, h1, h2⟩)
          · exact ⟨p, T, y, by omega, h2⟩
          · exact ⟨i, T, y, by omega, h1, h2⟩
        · rintro ⟨p, T, y, h1, h2, h3⟩
          by_cases ep : p = i
          · subst ep; exact Or.inr ⟨T, y, h2, h3⟩
          · exact Or.inl ⟨p, T, y, by omega, h2, h3⟩
    · obtain ⟨B, C⟩ := R
      obtain ⟨z1, z2, z3, z4⟩ := hP
      simp only at z1 z2 z3 z4
      have SB := z1.sv S
      obtain ⟨B', y1, y2, y3⟩ := m_wo4 z1 z3
      refine ⟨B', C, ?_, y2, y3, z4⟩
      show ndX4_walksOn_24 (lpX4_walksOn_24 n) _ _ _ _ = _
      unfold ndX4_walksOn_24
      rw [SB.l0, Option.bind_some, if_pos (z_yle (Nat.le_refl _) (by omega))]
      exact y1
  have key : ∃ B C, lpX4_walksOn_2 hf_N (Int32.ofNat t) (Int32.ofNat F) (Int32.ofNat 0) B0 = some B ∧ hf_vz V B ∧ hf_na (B.2.2.2.1 27) C ∧ ∀ j w, (C j).testBit w = true ↔ ∃ p T y, p < v 0 ∧ T < 256 ∧ A (zpl p T) ≠ 0 ∧ y < 3 ∧ j = zto2 v t p y T ∧ (zmk F y (A (zpl p T))).testBit w = true := by
    refine hf_loopR (fun n i B => lpX4_walksOn_2 n (Int32.ofNat t) (Int32.ofNat F) (Int32.ofNat i) B) (fun i B => hf_vz V B ∧ B.2.2.2.1 27 = B0.2.2.2.1 27 ∧ ∀ j, j < i → B.2.2.2.1 28 j = 0) 2048 (fun r => ∃ B C, r = some B ∧ hf_vz V B ∧ hf_na (B.2.2.2.1 27) C ∧ ∀ j w, (C j).testBit w = true ↔ ∃ p T y, p < v 0 ∧ T < 256 ∧ A (zpl p T) ≠ 0 ∧ y < 3 ∧ j = zto2 v t p y T ∧ (zmk F y (A (zpl p T))).testBit w = true) (fun i n B hi hP => ?_) (fun n B hP => ?_) B0 ⟨Z0, rfl, fun j hj => by omega⟩ (fuel := hf_N) (by unfold hf_N; omega)
    · obtain ⟨z1, z2, z3⟩ := hP
      refine ⟨hf_ua B 28 i 0, ?_, z1.ua (Or.inr rfl) _ _, by rw [hf_ua_ne _ (by decide)]; exact z2, fun j hj => ?_⟩
      · show ndX4_walksOn_2 (lpX4_walksOn_2 n) _ _ _ _ = _
        unfold ndX4_walksOn_2
        rw [z_lit 2048, if_neg (z_nle hi (by decide)), z_sd hi (by omega), hf_let_eq, z_lit 1, z_add]
      · rw [hf_ua_at]
        by_cases ej : j = i
        · rw [if_pos ej]
        · rw [if_neg ej]; exact z3 j (by omega)
    · obtain ⟨z1, z2, z3⟩ := hP
      have : lpX4_walksOn_2 (n + 1) (Int32.ofNat t) (Int32.ofNat F) (Int32.ofNat 2048) B = lpX4_walksOn_24 hf_N (Int32.ofNat t) (Int32.ofNat F) (Int32.ofNat 0) B := by
        show ndX4_walksOn_2 (lpX4_walksOn_2 n) _ _ _ _ = _
        unfold ndX4_walksOn_2
        rw [z_lit 2048, if_pos (z_yle (Nat.le_refl _) (by decide))]
        rfl
      show ∃ _ _, lpX4_walksOn_2 (n + 1) (Int32.ofNat t) (Int32.ofNat F) (Int32.ofNat 2048) B = _ ∧ _
      rw [this]
      exact mid B z1 z2 z3
  exact key
end ZM
set_option maxRecDepth 100000
set_option maxHeartbeats 1000000
/-! walks: the model's walksTill, goingsFor -/
/-- where one can be and the stalls one was at, t hours on, the first going w -/
def zQ (v : Nat → Nat) (s0 w : Nat) : Nat → Nat → Nat → Prop
  | 0, p, T => p = s0 ∧ T = 1 <<< zst v s0 (v 3)
  | t + 1, p, T => ∃ p' T' y, p' < v 0 ∧ T' < 256 ∧ zQ v s0 w t p' T' ∧ (t = 0 → y = w) ∧ y < 3 ∧ p = zto v p' y ∧ T = T' ||| 1 <<< zst v p (v 3 + (t + 1))
theorem z_bitx {a : Nat} (h : a ≠ 0) : ∃ i, a.testBit i = true := by
  refine Classical.byContradiction (fun hn => h (Nat.eq_of_testBit_eq (fun i => ?_)))
  rw [Nat.zero_testBit]
  cases e : a.testBit i with
  | false => rfl
  | true => exact absurd ⟨i, e⟩ hn
theorem z_bit0 {a i : Nat} (h : a.testBit i = true) : a ≠ 0 := fun e => by
  rw [e, Nat.zero_testBit] at h
  cases h
theorem z_bit8 {a i : Nat} (ha : a < 8) (h : a.testBit i = true) : i < 3 := by
  refine Nat.lt_of_not_le (fun hi => ?_)
  have : a.testBit i = false := Nat.testBit_lt_two_pow (Nat.lt_of_lt_of_le ha (show 8 ≤ 2 ^ i from Nat.pow_le_pow_right (show 0 < 2 by decide) hi))
  rw [this] at h
  cases h
section ZM
variable {V : hf_V} {v : Nat → Nat}
theorem m_wtL (S : hf_sv V v) (W : hf_wf v) (h0 : 0 < v 0) {s0 H : Nat} (hs : s0 < v 0) (hH : H < 12) {B0 : hf_V} {A0 : Nat → Nat} (Z0 : hf_vz V B0) (N0 : hf_na (B0.2.2.2.1 27) A0) (I0 : ∀ j w, (A0 j).testBit w = true ↔ w < 3 ∧ ∃ p T, p < v 0 ∧ T < 256 ∧ j = zpl p T ∧ zQ v s0 w 0 p T) : ∃ B A, lpX4_walksTill_56 hf_N (Int32.ofNat (H + 1)) (Int32.ofNat 1) B0 = some B ∧ hf_vz V B ∧ hf_na (B.2.2.2.1 27) A ∧ ∀ j w, (A j).testBit w = true ↔ w < 3 ∧ ∃ p T, p < v 0 ∧ T < 256 ∧ j = zpl p T ∧ zQ v s0 w H p T := by
  have q0 := W.v0
  have q3 := W.v3
  refine hf_loopR (fun n i (R : hf_V × (Nat → Nat)) => lpX4_walksTill_56 n (Int32.ofNat (H + 1)) (Int32.ofNat (i + 1)) R.1) (fun i R => hf_vz V R.1 ∧ hf_na (R.1.2.2.2.1 27) R.2 ∧ ∀ j w, (R.2 j).testBit w = true ↔ w < 3 ∧ ∃ p T, p < v 0 ∧ T < 256 ∧ j = zpl p T ∧ zQ v s0 w i p T) H (fun r => ∃ B A, r = some B ∧ hf_vz V B ∧ hf_na (B.2.2.2.1 27) A ∧ ∀ j w, (A j).testBit w = true ↔ w < 3 ∧ ∃ p T, p < v 0 ∧ T < 256 ∧ j = zpl p T ∧ zQ v s0 w H p T) (fun i n R hi hP => ?_) (fun n R hP => ?_) (B0, A0) ⟨Z0, N0, I0⟩ (fuel := hf_N) (by unfold hf_N; omega)
  · obtain ⟨B, A⟩ := R
    obtain ⟨z1, z2, z3⟩ := hP
    simp only at z1 z2 z3
    have SB := z1.sv S
    obtain ⟨F, hF, hF0⟩ : ∃ F, F ≤ 1 ∧ (F = 1 ↔ i = 0) := by
      by_cases e : i = 0
      · exact ⟨1, by omega, by omega⟩
      · exact ⟨0, by omega, by omega⟩
    obtain ⟨B', C, y1, y2, y3, y4⟩ := m_walksOn S W h0 (t := v 3 + (i + 1)) (F := F) (by omega) hF z1 z2
    refine ⟨(B', C), ?_, y2, y3, fun j w => ?_⟩
    · show ndX4_walksTill_56 (lpX4_walksTill_56 n) _ _ _ = _
      unfold ndX4_walksTill_56 ndX4_walksTill_83
      rw [if_neg (z_nle (show i + 1 < H + 1 by omega) (by omega)), SB.l3, Option.bind_some, z_add]
      by_cases e : i = 0
      · have hf1 : F = 1 := hF0.mpr e
        rw [hf1] at y1
        have y1' : spX4_walksOn (Int32.ofNat (v 3 + (i + 1))) (1 : Int32) B = some B' := y1
        rw [if_pos (by rw [e]; rfl), y1', Option.bind_some, hf_let_eq, z_lit 1, z_add]
      · have hf1 : F = 0 := by omega
        rw [hf1] at y1
        have y1' : spX4_walksOn (Int32.ofNat (v 3 + (i + 1))) (0 : Int32) B = some B' := y1
        have hne : ¬ (Int32.ofNat (i + 1) = 1) := fun z => by
          have := (z_eq (b := 1) (by omega) (by decide)).mp z
          omega
        rw [if_neg hne, y1', Option.bind_some, hf_let_eq, z_lit 1, z_add]
    · show (C j).testBit w = true ↔ _
      rw [y4]
      have hpl : ∀ {p T p' T' : Nat}, T < 256 → T' < 256 → zpl p T = zpl p' T' → p = p' ∧ T = T' := fun h1 h2 h3 => by
        unfold zpl at h3
        omega
      constructor
      · rintro ⟨p, T, y, h1, h2, h3, h4, h5, h6⟩
        have hto : zto v p y < v 0 := Nat.mod_lt _ h0
        have hst := (z_st (v 3 + (i + 1)) hto).1
        have hor := z_or256 h2 (show zst v (zto v p y) (v 3 + (i + 1)) < 8 by omega)
        have hq : w < 3 ∧ zQ v s0 w i p T ∧ (i = 0 → y = w) := by
          by_cases e : i = 0
          · have hf1 : F = 1 := hF0.mpr e
            unfold zmk at h6
            rw [if_neg (by omega), zbit1, decide_eq_true_eq] at h6
            obtain ⟨w', hw'⟩ := z_bitx h3
            obtain ⟨a1, p', T', a2, a3, a4, a5⟩ := (z3 _ _).mp hw'
            obtain ⟨rfl, rfl⟩ := hpl h2 a3 a4
            subst e
            exact ⟨by omega, a5, fun _ => h6.symm⟩
          · unfold zmk at h6
            rw [if_pos (by omega)] at h6
            obtain ⟨a1, p', T', a2, a3, a4, a5⟩ := (z3 _ _).mp h6
            obtain ⟨rfl, rfl⟩ := hpl h2 a3 a4
            exact ⟨a1, a5, fun z => absurd z e⟩
        exact ⟨hq.1, zto v p y, _, hto, hor, h5, p, T, y, h1, h2, hq.2.1, hq.2.2, h4, rfl, rfl⟩
      · rintro ⟨hw, p2, T2, h1, h2, rfl, p, T, y, h3, h4, h5, h6, h7, rfl, rfl⟩
        have hbit : ∀ w', w' < 3 → zQ v s0 w' i p T → (A (zpl p T)).testBit w' = true := fun w' hw' hQ => (z3 _ _).mpr ⟨hw', p, T, h3, h4, rfl, hQ⟩
        have hb := hbit w hw h5
        refine ⟨p, T, y, h3, h4, z_bit0 hb, h7, rfl, ?_⟩
        unfold zmk
        by_cases e : i = 0
        · have hf1 : F = 1 := hF0.mpr e
          rw [if_neg (by omega), zbit1, decide_eq_true_eq]
          exact (h6 e).symm
        · rw [if_pos (by omega)]
          exact hb
  · obtain ⟨B, A⟩ := R
    obtain ⟨z1, z2, z3⟩ := hP
    refine ⟨B, A, ?_, z1, z2, z3⟩
    show ndX4_walksTill_56 (lpX4_walksTill_56 n) _ _ _ = _
    unfold ndX4_walksTill_56
    rw [if_pos (z_yle (Nat.le_refl _) (by omega))]
theorem m_walksTill (S : hf_sv V v) (W : hf_wf v) (h0 : 0 < v 0) {b H : Nat} (hb : b < v 2) (hH : H < 12) : ∃ B A, spX4_walksTill (Int32.ofNat b) (Int32.ofNat (H + 1)) V = some B ∧ hf_vz V B ∧ hf_na (B.2.2.2.1 27) A ∧ ∀ j w, (A j).testBit w = true ↔ w < 3 ∧ ∃ p T, p < v 0 ∧ T < 256 ∧ j = zpl p T ∧ zQ v (v (70 + 4 * b + 1)) w H p T := by
  have q0 := W.v0
  have q2 := W.v2
  have q3 := W.v3
  have q4 := W.v4
  have hsp := (W.2.2.1 b hb).2.1
  have hst := (z_st (v 3) hsp).1
  unfold spX4_walksTill
  refine hf_loopR (fun n i B => lpX4_walksTill_2 n (Int32.ofNat b) (Int32.ofNat (H + 1)) (Int32.ofNat i) B) (fun i B => hf_vz V B ∧ ∀ j, j < i → B.2.2.2.1 27 j = 0) 2048 (fun r => ∃ B A, r = some B ∧ hf_vz V B ∧ hf_na (B.2.2.2.1 27) A ∧ ∀ j w, (A j).testBit w = true ↔ w < 3 ∧ ∃ p T, p < v 0 ∧ T < 256 ∧ j = zpl p T ∧ zQ v (v (70 + 4 * b + 1)) w H p T) (fun i n B hi hP => ?_) (fun n B hP => ?_) V ⟨hf_vz.rfl_ V, fun j hj => by omega⟩ (fuel := hf_N) (by unfold hf_N; omega)
  · obtain ⟨z1, z2⟩ := hP
    refine ⟨hf_ua B 27 i 0, ?_, z1.ua (Or.inl rfl) _ _, fun j hj => ?_⟩
    · show ndX4_walksTill_2 (lpX4_walksTill_2 n) _ _ _ _ = _
      unfold ndX4_walksTill_2
      rw [z_lit 2048, if_neg (z_nle hi (by decide)), z_sd hi (by omega), hf_let_eq, z_lit 1, z_add]
    · rw [hf_ua_at]
      by_cases ej : j = i
      · rw [if_pos ej]
      · rw [if_neg ej]; exact z2 j (by omega)
  · obtain ⟨z1, z2⟩ := hP
    have SB := z1.sv S
    have hk : 1 <<< zst v (v (70 + 4 * b + 1)) (v 3) < 256 := by
      rw [Nat.one_shiftLeft]
      exact Nat.pow_lt_pow_right (n := 8) (by decide) (by omega)
    obtain ⟨K, hK⟩ : ∃ K, K = zpl (v (70 + 4 * b + 1)) (1 <<< zst v (v (70 + 4 * b + 1)) (v 3)) := ⟨_, rfl⟩
    have hK2 : K < 2048 := by
      rw [hK]
      unfold zpl
      omega
    obtain ⟨B', A', w1, w2, w3, w4⟩ := m_wtL (s0 := v (70 + 4 * b + 1)) S W h0 hsp hH (B0 := hf_ua B 27 K (Int32.ofNat 7)) (A0 := zup (fun _ => 0) K 7) (z1.ua (Or.inl rfl) _ _) (hf_na.ua (A := fun _ => 0) (fun j hj => ⟨z2 j hj, (by decide : (0 : Nat) < 8)⟩) K (by decide)) (fun j w => by
      by_cases ej : j = K
      · subst ej
        rw [zup_at]
        have h7 : (7 : Nat).testBit w = true ↔ w < 3 := by
          constructor
          · exact z_bit8 (by decide)
          · intro h
            have : w = 0 ∨ w = 1 ∨ w = 2 := by omega
            rcases this with rfl | rfl | rfl <;> decide
        rw [h7]
        exact ⟨fun h => ⟨h, _, _, hsp, hk, hK, rfl, rfl⟩, fun h => h.1⟩
      · rw [zup_ne _ ej, Nat.zero_testBit]
        refine ⟨fun h => (by cases h), fun ⟨h1, p, T, h2, h3, h4, h5, h6⟩ => ?_⟩
        subst h5
        rw [h6] at h4
        exact absurd (h4.trans hK.symm) ej)
    refine ⟨B', A', ?_, w2, w3, w4⟩
    show ndX4_walksTill_2 (lpX4_walksTill_2 n) _ _ _ _ = _
    unfold ndX4_walksTill_2
    have e2 : ∀ s, spX4_placeOf (Int32.ofNat (v (70 + 4 * b + 1))) (Int32.ofNat s) = some (Int32.ofNat (zpl (v (70 + 4 * b + 1)) s)) := fun s => by
      unfold spX4_placeOf
      rw [z_pl]
    rw [z_lit 2048, if_pos (z_yle (Nat.le_refl _) (by decide)), m_buyer1 SB (by omega), hf_b2_some, SB.l3, Option.bind_some, m_stallAt SB hsp q0 (by omega) (by omega), hf_b2_some, z_sh1 (by omega), e2, Option.bind_some, ← hK, z_sd hK2 (by omega)]
    exact w1
theorem m_goingsFor {A : Nat → Nat} (NA : hf_na (V.2.2.2.1 27) A) {st : Nat} (hs : st < 2147483648) : ∃ G, spX4_goingsFor (Int32.ofNat st) V = some (Int32.ofNat G, V) ∧ G < 8 ∧ ∀ w, G.testBit w = true ↔ ∃ j, j < 2048 ∧ j % 256 &&& st = st ∧ (A j).testBit w = true := by
  unfold spX4_goingsFor
  refine hf_loopR (fun n i (G : Nat) => lpX4_goingsFor_4 n (Int32.ofNat st) (Int32.ofNat G) (Int32.ofNat i) V) (fun i G => G < 8 ∧ ∀ w, G.testBit w = true ↔ ∃ j, j < i ∧ j % 256 &&& st = st ∧ (A j).testBit w = true) 2048 (fun r => ∃ G, r = some (Int32.ofNat G, V) ∧ G < 8 ∧ ∀ w, G.testBit w = true ↔ ∃ j, j < 2048 ∧ j % 256 &&& st = st ∧ (A j).testBit w = true) (fun i n G hi hP => ?_) (fun n G hP => ?_) 0 ⟨by decide, fun w => ⟨fun h => absurd rfl (z_bit0 h), fun ⟨j, h, _⟩ => by omega⟩⟩ (fuel := hf_N) (by unfold hf_N; omega)
  · obtain ⟨z1, z2⟩ := hP
    obtain ⟨hA1, hA2⟩ := NA i hi
    have hr : Int32.ofNat i - Int32.ofNat i / (256 : Int32) * (256 : Int32) = Int32.ofNat (i % 256) := by
      rw [z_lit, z_div (by omega) (by decide), z_mul, z_rem]
    have hlt : i % 256 &&& st < 2147483648 := Nat.lt_of_le_of_lt Nat.and_le_right hs
    by_cases hc : i % 256 &&& st = st
    · refine ⟨G ||| A i, ?_, z_or8 z1 hA2, fun w => ?_⟩
      · show ndX4_goingsFor_4 (lpX4_goingsFor_4 n) _ _ _ _ = _
        unfold ndX4_goingsFor_4 ndX4_goingsFor_31
        rw [z_lit 2048, if_neg (z_nle hi (by decide)), if_neg (show ¬ ((256 : Int32) = 0) by decide), hr, z_and, if_pos (by rw [hc]), z_ld hi (by omega), Option.bind_some, hA1, z_or, hf_let_eq, hf_let_eq, z_lit 1, z_add]
      · rw [Nat.testBit_or, Bool.or_eq_true, z2]
        constructor
        · rintro (⟨j, h1, h2⟩ | h)
          · exact ⟨j, by omega, h2⟩
          · exact ⟨i, by omega, hc, h⟩
        · rintro ⟨j, h1, h2, h3⟩
          by_cases ej : j = i
          · subst ej; exact Or.inr h3
          · exact Or.inl ⟨j, by omega, h2, h3⟩
    · refine ⟨G, ?_, z1, fun w => (z2 w).trans ⟨fun ⟨j, h1, h2⟩ => ⟨j, by omega, h2⟩, fun ⟨j, h1, h2, h3⟩ => ?_⟩⟩
      · show ndX4_goingsFor_4 (lpX4_goingsFor_4 n) _ _ _ _ = _
        unfold ndX4_goingsFor_4 ndX4_goingsFor_31
        rw [z_lit 2048, if_neg (z_nle hi (by decide)), if_neg (show ¬ ((256 : Int32) = 0) by decide), hr, z_and, if_neg (fun z => hc ((z_eq hlt hs).mp z)), hf_let_eq, z_lit 1, z_add]
      · by_cases ej : j = i
        · subst ej; exact absurd h2 hc
        · exact ⟨j, by omega, h2, h3⟩
  · refine ⟨G, ?_, hP.1, hP.2⟩
    show ndX4_goingsFor_4 (lpX4_goingsFor_4 n) _ _ _ _ = _
    unfold ndX4_goingsFor_4
    rw [z_lit 2048, if_pos (z_yle (Nat.le_refl _) (by decide))]
end ZM
