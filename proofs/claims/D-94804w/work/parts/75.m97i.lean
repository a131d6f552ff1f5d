set_option maxRecDepth 100000
set_option maxHeartbeats 1000000
/-! walks: buysAll -/
section ZW
variable {g : hf_H} {o f st : Nat} {v : Nat → Nat} {XV : hf_V}
theorem x_wb2 (e : hf_ob 1 0 g o = some XV) (X : hf_XX g o f st) (F : hf_F g f v) (W : hf_wf v) {k2 : Nat → Int32 → Int32 → Int32 → hf_H → Option hf_H} {t q p : Nat} {a : Int32} (hq : q < 1000000) (hp : p < 8) {Y0 : hf_V} (Z0 : hf_wz XV Y0) (C0 : hf_cz (Y0.2.2.2.1 17)) : ∃ Y, lpX0_buysAll_38 k2 hf_N o a (Int32.ofNat q) (Int32.ofNat p) (Int32.ofNat (zat v (zst v p t))) (Int32.ofNat 0) (hf_xc g o Y0) = k2 o a (Int32.ofNat q) (Int32.ofNat (p + 1)) (hf_xc g o Y) ∧ hf_wz XV Y ∧ hf_cz (Y.2.2.2.1 17) ∧ (∀ i, Y0.2.2.2.1 17 i = 1 → Y.2.2.2.1 17 i = 1) ∧ (∀ i, Y.2.2.2.1 17 i = 1 → Y0.2.2.2.1 17 i = 1 ∨ ∃ S, S < 2 ^ v 1 ∧ i = 4096 * p + S ∧ ∃ S0, S0 < 2 ^ v 1 ∧ Y0.2.2.2.1 17 (4096 * p + S0) = 1 ∧ zcl v q t p S0 S) ∧ ∀ S, S < 2 ^ v 1 → Y.2.2.2.1 17 (4096 * p + S) = 1 → ∀ k, k < v 1 → zpk v q t p S k → Y.2.2.2.1 17 (4096 * p + (S ||| 1 <<< k)) = 1 := by
  have q1 := W.v1
  obtain ⟨p1, p2, p3⟩ := zpow12 q1
  refine hf_loopR (fun n i Y => lpX0_buysAll_38 k2 n o a (Int32.ofNat q) (Int32.ofNat p) (Int32.ofNat (zat v (zst v p t))) (Int32.ofNat i) (hf_xc g o Y)) (fun i Y => hf_wz XV Y ∧ hf_cz (Y.2.2.2.1 17) ∧ (∀ i, Y0.2.2.2.1 17 i = 1 → Y.2.2.2.1 17 i = 1) ∧ (∀ i, Y.2.2.2.1 17 i = 1 → Y0.2.2.2.1 17 i = 1 ∨ ∃ S, S < 2 ^ v 1 ∧ i = 4096 * p + S ∧ ∃ S0, S0 < 2 ^ v 1 ∧ Y0.2.2.2.1 17 (4096 * p + S0) = 1 ∧ zcl v q t p S0 S) ∧ ∀ S, S < i → Y.2.2.2.1 17 (4096 * p + S) = 1 → ∀ k, k < v 1 → zpk v q t p S k → Y.2.2.2.1 17 (4096 * p + (S ||| 1 <<< k)) = 1) (2 ^ v 1) (fun r => ∃ Y, r = k2 o a (Int32.ofNat q) (Int32.ofNat (p + 1)) (hf_xc g o Y) ∧ hf_wz XV Y ∧ hf_cz (Y.2.2.2.1 17) ∧ (∀ i, Y0.2.2.2.1 17 i = 1 → Y.2.2.2.1 17 i = 1) ∧ (∀ i, Y.2.2.2.1 17 i = 1 → Y0.2.2.2.1 17 i = 1 ∨ ∃ S, S < 2 ^ v 1 ∧ i = 4096 * p + S ∧ ∃ S0, S0 < 2 ^ v 1 ∧ Y0.2.2.2.1 17 (4096 * p + S0) = 1 ∧ zcl v q t p S0 S) ∧ ∀ S, S < 2 ^ v 1 → Y.2.2.2.1 17 (4096 * p + S) = 1 → ∀ k, k < v 1 → zpk v q t p S k → Y.2.2.2.1 17 (4096 * p + (S ||| 1 <<< k)) = 1) (fun i n Y hi hP => ?_) (fun n Y hP => ?_) Y0 ⟨Z0, C0, fun _ h => h, fun _ h => Or.inl h, fun S hS => by omega⟩ (fuel := hf_N) (by unfold hf_N; omega)
  · obtain ⟨z1, z2, z3, z4, z5⟩ := hP
    have XY : hf_XX (hf_xc g o Y) o f st := X.xc e (by rw [z1.1]) (by rw [z1.1])
    have FY : hf_F (hf_xc g o Y) f v := F.xc e Y
    have eY : hf_ob 1 0 (hf_xc g o Y) o = some Y := hf_ob_xc g o Y
    have hgo : lpX0_buysAll_38 k2 (n + 1) o a (Int32.ofNat q) (Int32.ofNat p) (Int32.ofNat (zat v (zst v p t))) (Int32.ofNat i) (hf_xc g o Y) = if Y.2.2.2.1 17 (4096 * p + i) = 0 then lpX0_buysAll_38 k2 n o a (Int32.ofNat q) (Int32.ofNat p) (Int32.ofNat (zat v (zst v p t))) (Int32.ofNat (i + 1)) (hf_xc g o Y) else lpX0_buysAll_71 k2 (lpX0_buysAll_38 k2 n) hf_N o a (Int32.ofNat q) (Int32.ofNat p) (Int32.ofNat (zat v (zst v p t))) (Int32.ofNat i) (Int32.ofNat 0) (hf_xc g o Y) := by
      show ndX0_buysAll_38 k2 (lpX0_buysAll_38 k2 n) _ _ _ _ _ _ _ = _
      unfold ndX0_buysAll_38 ndX0_buysAll_135
      rw [XY.ob, x_many XY FY, hf_b2_some, z_sh1 (by omega), p1, if_neg (z_nle hi (by omega)), XY.ob, z_row, hf_ai_eq eY, z_ld (by omega) (by omega), Option.bind_some, hf_let_eq, z_lit 1, z_add]
      rfl
    rcases z2 (4096 * p + i) (by omega) with c0 | c1
    · refine ⟨Y, by rw [hgo, if_pos c0], z1, z2, z3, z4, fun S hS hc k hk hz => ?_⟩
      by_cases eS : S = i
      · rw [eS, c0] at hc
        exact absurd hc (by decide)
      · exact z5 S (by omega) hc k hk hz
    · obtain ⟨Y', y1, y2, y3, y4, y5, y6⟩ := x_wb3 e X F W (k2 := k2) (k38 := lpX0_buysAll_38 k2 n) (t := t) (a := a) hq hp hi z1 z2
      refine ⟨Y', by rw [hgo, if_neg (by rw [c1]; decide)]; exact y1, y2, y3, fun j hj => y4 j (z3 j hj), fun j hj => ?_, fun S hS hc k hk hz => ?_⟩
      · rcases y5 j hj with h1 | ⟨k, hk, hz, rfl⟩
        · exact z4 j h1
        · right
          refine ⟨i ||| 1 <<< k, z_or1b hi hk, rfl, ?_⟩
          rcases z4 _ c1 with h1 | ⟨S, hS, h2, S0, h3, h4, h5⟩
          · exact ⟨i, hi, h1, .step _ _ _ (.rfl_ i) hk hz⟩
          · have : S = i := by omega
            subst this
            exact ⟨S0, h3, h4, .step _ _ _ h5 hk hz⟩
      · by_cases eS : S = i
        · subst eS
          exact y6 k hk hz
        · rcases y5 _ hc with h1 | ⟨k', hk', hz', h2⟩
          · exact y4 _ (z5 S (by omega) h1 k hk hz)
          · have := z_lt_or hz'.1.2
            omega
  · obtain ⟨z1, z2, z3, z4, z5⟩ := hP
    have XY : hf_XX (hf_xc g o Y) o f st := X.xc e (by rw [z1.1]) (by rw [z1.1])
    have FY : hf_F (hf_xc g o Y) f v := F.xc e Y
    refine ⟨Y, ?_, z1, z2, z3, z4, z5⟩
    show ndX0_buysAll_38 k2 (lpX0_buysAll_38 k2 n) _ _ _ _ _ _ _ = _
    unfold ndX0_buysAll_38
    rw [XY.ob, x_many XY FY, hf_b2_some, z_sh1 (by omega), p1, if_pos (z_yle (Nat.le_refl _) (by omega)), hf_let_eq, z_lit 1, z_add]
theorem x_walkBuys (e : hf_ob 1 0 g o = some XV) (X : hf_XX g o f st) (F : hf_F g f v) (S : hf_SS g st v) (W : hf_wf v) {t q : Nat} (hq : q < 1000000) (ht : t < 1000) {Y0 : hf_V} (Z0 : hf_wz XV Y0) (C0 : hf_cz (Y0.2.2.2.1 17)) : ∃ Y, spX0_buysAll o (Int32.ofNat t) (Int32.ofNat q) (hf_xc g o Y0) = some (hf_xc g o Y) ∧ hf_wz XV Y ∧ hf_cz (Y.2.2.2.1 17) ∧ ∀ p S, p < v 0 → S < 2 ^ v 1 → (Y.2.2.2.1 17 (4096 * p + S) = 1 ↔ ∃ S0, S0 < 2 ^ v 1 ∧ Y0.2.2.2.1 17 (4096 * p + S0) = 1 ∧ zcl v q t p S0 S) := by
  have q0 := W.v0
  have q1 := W.v1
  obtain ⟨p1, p2, p3⟩ := zpow12 q1
  have fin : ∀ Y : hf_V, (∀ i, Y0.2.2.2.1 17 i = 1 → Y.2.2.2.1 17 i = 1) → (∀ i, Y.2.2.2.1 17 i = 1 → Y0.2.2.2.1 17 i = 1 ∨ ∃ p S, p < v 0 ∧ S < 2 ^ v 1 ∧ i = 4096 * p + S ∧ ∃ S0, S0 < 2 ^ v 1 ∧ Y0.2.2.2.1 17 (4096 * p + S0) = 1 ∧ zcl v q t p S0 S) → (∀ p S, p < v 0 → S < 2 ^ v 1 → Y.2.2.2.1 17 (4096 * p + S) = 1 → ∀ k, k < v 1 → zpk v q t p S k → Y.2.2.2.1 17 (4096 * p + (S ||| 1 <<< k)) = 1) → ∀ p S, p < v 0 → S < 2 ^ v 1 → (Y.2.2.2.1 17 (4096 * p + S) = 1 ↔ ∃ S0, S0 < 2 ^ v 1 ∧ Y0.2.2.2.1 17 (4096 * p + S0) = 1 ∧ zcl v q t p S0 S) := by
    intro Y m1 m2 m3 p S hp hS
    constructor
    · intro h
      rcases m2 _ h with h1 | ⟨p', S', h1, h2, h3, S0, h4, h5, h6⟩
      · exact ⟨S, hS, h1, .rfl_ S⟩
      · have e1 : p' = p := by omega
        have e2 : S' = S := by omega
        subst e1; subst e2
        exact ⟨S0, h4, h5, h6⟩
    · rintro ⟨S0, h1, h2, h3⟩
      clear hS
      have : S < 2 ^ v 1 ∧ Y.2.2.2.1 17 (4096 * p + S) = 1 := by
        exact h3 (fun S => S < 2 ^ v 1 ∧ Y.2.2.2.1 17 (4096 * p + S) = 1) ⟨h1, m1 _ h2⟩ (fun S2 k ih b c => ⟨z_or1b ih.1 b, m3 p _ hp ih.1 ih.2 k b c⟩)
      exact this.2
  have key : ∃ Y, lpX0_buysAll_2 hf_N o (Int32.ofNat t) (Int32.ofNat q) (Int32.ofNat 0) (hf_xc g o Y0) = some (hf_xc g o Y) ∧ hf_wz XV Y ∧ hf_cz (Y.2.2.2.1 17) ∧ ∀ p S, p < v 0 → S < 2 ^ v 1 → (Y.2.2.2.1 17 (4096 * p + S) = 1 ↔ ∃ S0, S0 < 2 ^ v 1 ∧ Y0.2.2.2.1 17 (4096 * p + S0) = 1 ∧ zcl v q t p S0 S) := by
    refine hf_loopR (fun n i Y => lpX0_buysAll_2 n o (Int32.ofNat t) (Int32.ofNat q) (Int32.ofNat i) (hf_xc g o Y)) (fun i Y => hf_wz XV Y ∧ hf_cz (Y.2.2.2.1 17) ∧ (∀ i, Y0.2.2.2.1 17 i = 1 → Y.2.2.2.1 17 i = 1) ∧ (∀ j, Y.2.2.2.1 17 j = 1 → Y0.2.2.2.1 17 j = 1 ∨ ∃ p S, p < i ∧ S < 2 ^ v 1 ∧ j = 4096 * p + S ∧ ∃ S0, S0 < 2 ^ v 1 ∧ Y0.2.2.2.1 17 (4096 * p + S0) = 1 ∧ zcl v q t p S0 S) ∧ ∀ p S, p < i → S < 2 ^ v 1 → Y.2.2.2.1 17 (4096 * p + S) = 1 → ∀ k, k < v 1 → zpk v q t p S k → Y.2.2.2.1 17 (4096 * p + (S ||| 1 <<< k)) = 1) (v 0) (fun r => ∃ Y, r = some (hf_xc g o Y) ∧ hf_wz XV Y ∧ hf_cz (Y.2.2.2.1 17) ∧ ∀ p S, p < v 0 → S < 2 ^ v 1 → (Y.2.2.2.1 17 (4096 * p + S) = 1 ↔ ∃ S0, S0 < 2 ^ v 1 ∧ Y0.2.2.2.1 17 (4096 * p + S0) = 1 ∧ zcl v q t p S0 S)) (fun i n Y hi hP => ?_) (fun n Y hP => ?_) Y0 ⟨Z0, C0, fun _ h => h, fun _ h => Or.inl h, fun p S hp => by omega⟩ (fuel := hf_N) (by unfold hf_N; omega)
    · obtain ⟨z1, z2, z3, z4, z5⟩ := hP
      have XY : hf_XX (hf_xc g o Y) o f st := X.xc e (by rw [z1.1]) (by rw [z1.1])
      have FY : hf_F (hf_xc g o Y) f v := F.xc e Y
      have SY : hf_SS (hf_xc g o Y) st v := S.xc e Y
      have hst := (z_st t hi).1
      obtain ⟨Y', y1, y2, y3, y4, y5, y6⟩ := x_wb2 e X F W (k2 := lpX0_buysAll_2 n) (t := t) (p := i) (a := Int32.ofNat t) hq (by omega) z1 z2
      refine ⟨Y', ?_, y2, y3, fun j hj => y4 j (z3 j hj), fun j hj => ?_, fun p S hp hS hc k hk hz => ?_⟩
      · show ndX0_buysAll_2 (lpX0_buysAll_2 n) _ _ _ _ _ = _
        unfold ndX0_buysAll_2
        rw [XY.fa, Option.bind_some, FY.stalls, Option.bind_some, if_neg (z_nle hi (by omega)), XY.st, Option.bind_some, Option.bind_some, Option.bind_some, FY.ob, x_stallAt FY W hi ht, hf_b2_some, SY.ob, x_halvesAt FY SY W (by omega), hf_b2_some]
        exact y1
      · rcases y5 j hj with h1 | ⟨S, h1, h2, S0, h3, h4, h5⟩
        · rcases z4 j h1 with h2 | ⟨p', S', h2, h3⟩
          · exact Or.inl h2
          · exact Or.inr ⟨p', S', by omega, h3⟩
        · right
          refine ⟨i, S, by omega, h1, h2, S0, h3, ?_, h5⟩
          rcases z4 _ h4 with h6 | ⟨p', S', h6, h7, h8, -⟩
          · exact h6
          · omega
      · by_cases ep : p = i
        · subst ep
          exact y6 S hS hc k hk hz
        · have hc' : Y.2.2.2.1 17 (4096 * p + S) = 1 := by
            rcases y5 _ hc with h1 | ⟨S', h1, h2, -⟩
            · exact h1
            · omega
          exact y4 _ (z5 p S (by omega) hS hc' k hk hz)
    · obtain ⟨z1, z2, z3, z4, z5⟩ := hP
      have XY : hf_XX (hf_xc g o Y) o f st := X.xc e (by rw [z1.1]) (by rw [z1.1])
      have FY : hf_F (hf_xc g o Y) f v := F.xc e Y
      refine ⟨Y, ?_, z1, z2, fin Y z3 z4 z5⟩
      show ndX0_buysAll_2 (lpX0_buysAll_2 n) _ _ _ _ _ = _
      unfold ndX0_buysAll_2
      rw [XY.fa, Option.bind_some, FY.stalls, Option.bind_some, if_pos (z_yle (Nat.le_refl _) (by omega))]
  exact key
end ZW
set_option maxRecDepth 100000
set_option maxHeartbeats 1000000
/-! walks: goesAll -/
def zto (v : Nat → Nat) (p y : Nat) : Nat := (p + y + v 0 - 1) % v 0
theorem zway_lt : ∀ a, a < 4 → ∀ b, b < 4 → (zway a < zway b ↔ a < b) := by decide
theorem zway_s : ∀ a, a < 4 → zway a + 1 = zway (a + 1) := by decide
theorem zto_idx (v : Nat → Nat) {p y S : Nat} (h0 : 0 < v 0) (h8 : v 0 ≤ 8) (hp : p < 8) (hy : y < 3) : (4096 : Int32) * (Int32.ofNat p + zway y + Int32.ofNat (v 0) - (Int32.ofNat p + zway y + Int32.ofNat (v 0)) / Int32.ofNat (v 0) * Int32.ofNat (v 0)) + Int32.ofNat S = Int32.ofNat (4096 * zto v p y + S) := by
  rw [z_way h0, z_div (by omega) (by omega), z_mul, z_rem, z_row]
  rfl
section ZW
variable {g : hf_H} {o f st : Nat} {v : Nat → Nat} {XV : hf_V}
/-- Y's two arrays stand well, the first as Y0's -/
def hf_wdd (XV Y0 Y : hf_V) : Prop := hf_wz XV Y ∧ Y.2.2.2.1 17 = Y0.2.2.2.1 17 ∧ hf_cz (Y.2.2.2.1 18)
theorem hf_wdd.ua {XV Y0 Y : hf_V} (H : hf_wdd XV Y0 Y) (i : Nat) : hf_wdd XV Y0 (hf_ua Y 18 i 1) := ⟨H.1.ua (Or.inr rfl) _ _, by rw [hf_ua_ne _ (by decide)]; exact H.2.1, fun j hj => by
  rw [hf_ua_at]
  by_cases h : j = i
  · rw [if_pos h]; exact Or.inr rfl
  · rw [if_neg h]; exact H.2.2 j hj⟩
theorem x_ga3 (e : hf_ob 1 0 g o = some XV) (X : hf_XX g o f st) (F : hf_F g f v) (W : hf_wf v) (h0 : 0 < v 0) {k26 : Nat → Int32 → Int32 → Int32 → hf_H → Option hf_H} {k40 : Nat → Int32 → Int32 → Int32 → Int32 → hf_H → Option hf_H} {lo hi p S : Nat} (hlh : lo ≤ hi) (hhi : hi < 3) (hp : p < 8) (hS : S < 4096) {B Y0 : hf_V} (Z0 : hf_wdd XV B Y0) : ∃ Y, lpX0_goesAll_73 k26 k40 hf_N o (zway lo) (zway hi) (Int32.ofNat p) (Int32.ofNat S) (zway lo) (hf_xc g o Y0) = k40 o (zway lo) (zway hi) (Int32.ofNat p) (Int32.ofNat (S + 1)) (hf_xc g o Y) ∧ hf_wdd XV B Y ∧ ∀ j, Y.2.2.2.1 18 j = 1 ↔ Y0.2.2.2.1 18 j = 1 ∨ ∃ y, lo ≤ y ∧ y ≤ hi ∧ j = 4096 * zto v p y + S := by
  have q0 := W.v0
  refine hf_loopR (fun n i Y => lpX0_goesAll_73 k26 k40 n o (zway lo) (zway hi) (Int32.ofNat p) (Int32.ofNat S) (zway (lo + i)) (hf_xc g o Y)) (fun i Y => hf_wdd XV B Y ∧ ∀ j, Y.2.2.2.1 18 j = 1 ↔ Y0.2.2.2.1 18 j = 1 ∨ ∃ y, lo ≤ y ∧ y < lo + i ∧ j = 4096 * zto v p y + S) (hi + 1 - lo) (fun r => ∃ Y, r = k40 o (zway lo) (zway hi) (Int32.ofNat p) (Int32.ofNat (S + 1)) (hf_xc g o Y) ∧ hf_wdd XV B Y ∧ ∀ j, Y.2.2.2.1 18 j = 1 ↔ Y0.2.2.2.1 18 j = 1 ∨ ∃ y, lo ≤ y ∧ y ≤ hi ∧ j = 4096 * zto v p y + S) (fun i n Y hi' hP => ?_) (fun n Y hP => ?_) Y0 ⟨Z0, fun j => ⟨Or.inl, fun h => h.elim id (fun ⟨y, h1, h2, _⟩ => by omega)⟩⟩ (fuel := hf_N) (by unfold hf_N; omega)
  · obtain ⟨z1, z2⟩ := hP
    have XY : hf_XX (hf_xc g o Y) o f st := X.xc e (by rw [z1.1.1]) (by rw [z1.1.1])
    have FY : hf_F (hf_xc g o Y) f v := F.xc e Y
    have eY : hf_ob 1 0 (hf_xc g o Y) o = some Y := hf_ob_xc g o Y
    have ht : zto v p (lo + i) < v 0 := Nat.mod_lt _ h0
    refine ⟨hf_ua Y 18 (4096 * zto v p (lo + i) + S) 1, ?_, z1.ua _, fun j => ?_⟩
    · show ndX0_goesAll_73 k26 k40 (lpX0_goesAll_73 k26 k40 n) _ _ _ _ _ _ _ = _
      unfold ndX0_goesAll_73
      rw [if_neg (fun z => by
        rw [zway_lt _ (by omega) _ (by omega)] at z
        omega), XY.ob, XY.fa, Option.bind_some, FY.stalls, Option.bind_some, Option.bind_some, FY.stalls, Option.bind_some, if_neg (fun z => by
        have := (z_eq (b := 0) (by omega) (by decide)).mp z
        omega), zto_idx v h0 q0 hp (by omega), vp_nar01.2, hf_si_eq eY 18 (by omega) (by omega), Option.bind_some, hf_let_eq, zway_s _ (by omega)]
      unfold hf_xc
      rw [hf_up_up]
      rfl
    · rw [hf_ua_at]
      by_cases ej : j = 4096 * zto v p (lo + i) + S
      · rw [if_pos ej]
        exact ⟨fun _ => Or.inr ⟨lo + i, by omega, by omega, ej⟩, fun _ => rfl⟩
      · rw [if_neg ej, z2]
        refine ⟨fun h => h.imp id (fun ⟨y, h1, h2, h3⟩ => ⟨y, h1, by omega, h3⟩), fun h => h.imp id (fun ⟨y, h1, h2, h3⟩ => ?_)⟩
        by_cases ey : y = lo + i
        · subst ey; exact absurd h3 ej
        · exact ⟨y, h1, by omega, h3⟩
  · obtain ⟨z1, z2⟩ := hP
    refine ⟨Y, ?_, z1, fun j => (z2 j).trans ⟨fun h => h.imp id (fun ⟨y, h1, h2, h3⟩ => ⟨y, h1, by omega, h3⟩), fun h => h.imp id (fun ⟨y, h1, h2, h3⟩ => ⟨y, h1, by omega, h3⟩)⟩⟩
    show ndX0_goesAll_73 k26 k40 (lpX0_goesAll_73 k26 k40 n) _ _ _ _ _ _ _ = _
    unfold ndX0_goesAll_73 ndX0_goesAll_118
    rw [if_pos (by
      show zway hi < zway (lo + (hi + 1 - lo))
      rw [zway_lt _ (by omega) _ (by omega)]
      omega), hf_let_eq, z_lit 1, z_add]
theorem x_ga2 (e : hf_ob 1 0 g o = some XV) (X : hf_XX g o f st) (F : hf_F g f v) (W : hf_wf v) (h0 : 0 < v 0) {k26 : Nat → Int32 → Int32 → Int32 → hf_H → Option hf_H} {lo hi p : Nat} (hlh : lo ≤ hi) (hhi : hi < 3) (hp : p < 8) {B Y0 : hf_V} (C0 : hf_cz (B.2.2.2.1 17)) (Z0 : hf_wdd XV B Y0) : ∃ Y, lpX0_goesAll_40 k26 hf_N o (zway lo) (zway hi) (Int32.ofNat p) (Int32.ofNat 0) (hf_xc g o Y0) = k26 o (zway lo) (zway hi) (Int32.ofNat (p + 1)) (hf_xc g o Y) ∧ hf_wdd XV B Y ∧ ∀ j, Y.2.2.2.1 18 j = 1 ↔ Y0.2.2.2.1 18 j = 1 ∨ ∃ S y, S < 2 ^ v 1 ∧ B.2.2.2.1 17 (4096 * p + S) = 1 ∧ lo ≤ y ∧ y ≤ hi ∧ j = 4096 * zto v p y + S := by
  have q0 := W.v0
  have q1 := W.v1
  obtain ⟨p1, p2, p3⟩ := zpow12 q1
  refine hf_loopR (fun n i Y => lpX0_goesAll_40 k26 n o (zway lo) (zway hi) (Int32.ofNat p) (Int32.ofNat i) (hf_xc g o Y)) (fun i Y => hf_wdd XV B Y ∧ ∀ j, Y.2.2.2.1 18 j = 1 ↔ Y0.2.2.2.1 18 j = 1 ∨ ∃ S y, S < i ∧ B.2.2.2.1 17 (4096 * p + S) = 1 ∧ lo ≤ y ∧ y ≤ hi ∧ j = 4096 * zto v p y + S) (2 ^ v 1) (fun r => ∃ Y, r = k26 o (zway lo) (zway hi) (Int32.ofNat (p + 1)) (hf_xc g o Y) ∧ hf_wdd XV B Y ∧ ∀ j, Y.2.2.2.1 18 j = 1 ↔ Y0.2.2.2.1 18 j = 1 ∨ ∃ S y, S < 2 ^ v 1 ∧ B.2.2.2.1 17 (4096 * p + S) = 1 ∧ lo ≤ y ∧ y ≤ hi ∧ j = 4096 * zto v p y + S) (fun i n Y hi' hP => ?_) (fun n Y hP => ?_) Y0 ⟨Z0, fun j => ⟨Or.inl, fun h => h.elim id (fun ⟨S, y, h1, _⟩ => by omega)⟩⟩ (fuel := hf_N) (by unfold hf_N; omega)
  · obtain ⟨z1, z2⟩ := hP
    have XY : hf_XX (hf_xc g o Y) o f st := X.xc e (by rw [z1.1.1]) (by rw [z1.1.1])
    have FY : hf_F (hf_xc g o Y) f v := F.xc e Y
    have eY : hf_ob 1 0 (hf_xc g o Y) o = some Y := hf_ob_xc g o Y
    have hgo : lpX0_goesAll_40 k26 (n + 1) o (zway lo) (zway hi) (Int32.ofNat p) (Int32.ofNat i) (hf_xc g o Y) = if B.2.2.2.1 17 (4096 * p + i) = 0 then lpX0_goesAll_40 k26 n o (zway lo) (zway hi) (Int32.ofNat p) (Int32.ofNat (i + 1)) (hf_xc g o Y) else lpX0_goesAll_73 k26 (lpX0_goesAll_40 k26 n) hf_N o (zway lo) (zway hi) (Int32.ofNat p) (Int32.ofNat i) (zway lo) (hf_xc g o Y) := by
      show ndX0_goesAll_40 k26 (lpX0_goesAll_40 k26 n) _ _ _ _ _ _ = _
      unfold ndX0_goesAll_40 ndX0_goesAll_118
      rw [XY.ob, x_many XY FY, hf_b2_some, z_sh1 (by omega), p1, if_neg (z_nle hi' (by omega)), XY.ob, z_row, hf_ai_eq eY, z_ld (by omega) (by omega), Option.bind_some, hf_let_eq, z_lit 1, z_add, z1.2.1]
    rcases C0 (4096 * p + i) (by omega) with c0 | c1
    · refine ⟨Y, by rw [hgo, if_pos c0], z1, fun j => (z2 j).trans ⟨fun h => h.imp id (fun ⟨S, y, h1, h2⟩ => ⟨S, y, by omega, h2⟩), fun h => h.imp id (fun ⟨S, y, h1, h2, h3⟩ => ?_)⟩⟩
      by_cases eS : S = i
      · rw [eS, c0] at h2
        exact absurd h2 (by decide)
      · exact ⟨S, y, by omega, h2, h3⟩
    · obtain ⟨Y', y1, y2, y3⟩ := x_ga3 e X F W h0 (k26 := k26) (k40 := lpX0_goesAll_40 k26 n) (S := i) hlh hhi hp (by omega) z1
      refine ⟨Y', by rw [hgo, if_neg (by rw [c1]; decide)]; exact y1, y2, fun j => ?_⟩
      rw [y3, z2]
      constructor
      · rintro ((h | ⟨S, y, h1, h2⟩) | ⟨y, h1, h2, h3⟩)
        · exact Or.inl h
        · exact Or.inr ⟨S, y, by omega, h2⟩
        · exact Or.inr ⟨i, y, by omega, c1, h1, h2, h3⟩
      · rintro (h | ⟨S, y, h1, h2, h3, h4, h5⟩)
        · exact Or.inl (Or.inl h)
        · by_cases eS : S = i
          · subst eS
            exact Or.inr ⟨y, h3, h4, h5⟩
          · exact Or.inl (Or.inr ⟨S, y, by omega, h2, h3, h4, h5⟩)
  · obtain ⟨z1, z2⟩ := hP
    have XY : hf_XX (hf_xc g o Y) o f st := X.xc e (by rw [z1.1.1]) (by rw [z1.1.1])
    have FY : hf_F (hf_xc g o Y) f v := F.xc e Y
    refine ⟨Y, ?_, z1, z2⟩
    show ndX0_goesAll_40 k26 (lpX0_goesAll_40 k26 n) _ _ _ _ _ _ = _
    unfold ndX0_goesAll_40
    rw [XY.ob, x_many XY FY, hf_b2_some, z_sh1 (by omega), p1, if_pos (z_yle (Nat.le_refl _) (by omega)), hf_let_eq, z_lit 1, z_add]
/-- the copy -/
theorem x_ga4 (e : hf_ob 1 0 g o = some XV) (X : hf_XX g o f st) {Y0 : hf_V} (Z0 : hf_wz XV Y0) (C0 : hf_cz (Y0.2.2.2.1 18)) : ∃ Y, lpX0_goesAll_132 hf_N o (Int32.ofNat 0) (hf_xc g o Y0) = some (hf_xc g o Y) ∧ hf_wz XV Y ∧ ∀ j, j < 32768 → Y.2.2.2.1 17 j = Y0.2.2.2.1 18 j := by
  refine hf_loopR (fun n i Y => lpX0_goesAll_132 n o (Int32.ofNat i) (hf_xc g o Y)) (fun i Y => hf_wz XV Y ∧ Y.2.2.2.1 18 = Y0.2.2.2.1 18 ∧ ∀ j, j < i → Y.2.2.2.1 17 j = Y0.2.2.2.1 18 j) 32768 (fun r => ∃ Y, r = some (hf_xc g o Y) ∧ hf_wz XV Y ∧ ∀ j, j < 32768 → Y.2.2.2.1 17 j = Y0.2.2.2.1 18 j) (fun i n Y hi hP => ?_) (fun n Y hP => ?_) Y0 ⟨Z0, rfl, fun j hj => by omega⟩ (fuel := hf_N) (by unfold hf_N; omega)
  · obtain ⟨z1, z2, z3⟩ := hP
    have XY : hf_XX (hf_xc g o Y) o f st := X.xc e (by rw [z1.1]) (by rw [z1.1])
    have eY : hf_ob 1 0 (hf_xc g o Y) o = some Y := hf_ob_xc g o Y
    have hn : vp_nar .boolean (Y.2.2.2.1 18 i) = Y.2.2.2.1 18 i := by
      rw [z2]
      rcases C0 i hi with h | h <;> rw [h]
      · exact vp_nar01.1
      · exact vp_nar01.2
    refine ⟨hf_ua Y 17 i (Y.2.2.2.1 18 i), ?_, z1.ua (Or.inl rfl) _ _, by rw [hf_ua_ne _ (by decide)]; exact z2, fun j hj => ?_⟩
    · show ndX0_goesAll_132 (lpX0_goesAll_132 n) _ _ _ = _
      unfold ndX0_goesAll_132
      rw [XY.ob, XY.ob, z_lit 32768, if_neg (z_nle hi (by decide)), XY.ob, XY.ob, hf_ai_eq eY, z_ld hi (by omega), Option.bind_some, hn, hf_si_eq eY 17 hi (by omega), Option.bind_some, hf_let_eq, z_lit 1, z_add]
      unfold hf_xc
      rw [hf_up_up]
    · rw [hf_ua_at]
      by_cases ej : j = i
      · rw [if_pos ej, ej, z2]
      · rw [if_neg ej]; exact z3 j (by omega)
  · obtain ⟨z1, z2, z3⟩ := hP
    have XY : hf_XX (hf_xc g o Y) o f st := X.xc e (by rw [z1.1]) (by rw [z1.1])
    refine ⟨Y, ?_, z1, z3⟩
    show ndX0_goesAll_132 (lpX0_goesAll_132 n) _ _ _ = _
    unfold ndX0_goesAll_132
    rw [XY.ob, XY.ob, z_lit 32768, if_pos (z_yle (Nat.le_refl _) (by decide))]
theorem x_walkGoes (e : hf_ob 1 0 g o = some XV) (X : hf_XX g o f st) (F : hf_F g f v) (W : hf_wf v) (h0 : 0 < v 0) {lo hi : Nat} (hlh : lo ≤ hi) (hhi : hi < 3) {Y0 : hf_V} (Z0 : hf_wz XV Y0) (C0 : hf_cz (Y0.2.2.2.1 17)) : ∃ Y, spX0_goesAll o (zway lo) (zway hi) (hf_xc g o Y0) = some (hf_xc g o Y) ∧ hf_wz XV Y ∧ hf_cz (Y.2.2.2.1 17) ∧ ∀ p S, p < v 0 → S < 2 ^ v 1 → (Y.2.2.2.1 17 (4096 * p + S) = 1 ↔ ∃ p' y, p' < v 0 ∧ Y0.2.2.2.1 17 (4096 * p' + S) = 1 ∧ lo ≤ y ∧ y ≤ hi ∧ p = zto v p' y) := by
  have q0 := W.v0
  have q1 := W.v1
  obtain ⟨p1, p2, p3⟩ := zpow12 q1
  have copy : ∀ Y1, hf_wdd XV Y0 Y1 → (∀ j, j < 32768 → (Y1.2.2.2.1 18 j = 1 ↔ ∃ p' S y, p' < v 0 ∧ S < 2 ^ v 1 ∧ Y0.2.2.2.1 17 (4096 * p' + S) = 1 ∧ lo ≤ y ∧ y ≤ hi ∧ j = 4096 * zto v p' y + S)) → ∃ Y, lpX0_goesAll_132 hf_N o (Int32.ofNat 0) (hf_xc g o Y1) = some (hf_xc g o Y) ∧ hf_wz XV Y ∧ hf_cz (Y.2.2.2.1 17) ∧ ∀ p S, p < v 0 → S < 2 ^ v 1 → (Y.2.2.2.1 17 (4096 * p + S) = 1 ↔ ∃ p' y, p' < v 0 ∧ Y0.2.2.2.1 17 (4096 * p' + S) = 1 ∧ lo ≤ y ∧ y ≤ hi ∧ p = zto v p' y) := by
    intro Y1 H1 H2
    obtain ⟨Y, y1, y2, y3⟩ := x_ga4 e X H1.1 H1.2.2
    refine ⟨Y, y1, y2, fun j hj => by rw [y3 j hj]; exact H1.2.2 j hj, fun p S hp hS => ?_⟩
    rw [y3 _ (by omega), H2 _ (by omega)]
    constructor
    · rintro ⟨p', S', y, h1, h2, h3, h4, h5, h6⟩
      have e1 : S' = S := by omega
      subst e1
      exact ⟨p', y, h1, h3, h4, h5, by omega⟩
    · rintro ⟨p', y, h1, h2, h3, h4, rfl⟩
      exact ⟨p', S, y, h1, hS, h2, h3, h4, rfl⟩
  have mid : ∀ Y1, hf_wdd XV Y0 Y1 → (∀ j, j < 32768 → Y1.2.2.2.1 18 j = 0) → ∃ Y, lpX0_goesAll_26 hf_N o (zway lo) (zway hi) (Int32.ofNat 0) (hf_xc g o Y1) = some (hf_xc g o Y) ∧ hf_wz XV Y ∧ hf_cz (Y.2.2.2.1 17) ∧ ∀ p S, p < v 0 → S < 2 ^ v 1 → (Y.2.2.2.1 17 (4096 * p + S) = 1 ↔ ∃ p' y, p' < v 0 ∧ Y0.2.2.2.1 17 (4096 * p' + S) = 1 ∧ lo ≤ y ∧ y ≤ hi ∧ p = zto v p' y) := by
    intro Y1 H1 H2
    refine hf_loopR (fun n i Y => lpX0_goesAll_26 n o (zway lo) (zway hi) (Int32.ofNat i) (hf_xc g o Y)) (fun i Y => hf_wdd XV Y0 Y ∧ ∀ j, j < 32768 → (Y.2.2.2.1 18 j = 1 ↔ ∃ p' S y, p' < i ∧ S < 2 ^ v 1 ∧ Y0.2.2.2.1 17 (4096 * p' + S) = 1 ∧ lo ≤ y ∧ y ≤ hi ∧ j = 4096 * zto v p' y + S)) (v 0) (fun r => ∃ Y, r = some (hf_xc g o Y) ∧ hf_wz XV Y ∧ hf_cz (Y.2.2.2.1 17) ∧ ∀ p S, p < v 0 → S < 2 ^ v 1 → (Y.2.2.2.1 17 (4096 * p + S) = 1 ↔ ∃ p' y, p' < v 0 ∧ Y0.2.2.2.1 17 (4096 * p' + S) = 1 ∧ lo ≤ y ∧ y ≤ hi ∧ p = zto v p' y)) (fun i n Y hi' hP => ?_) (fun n Y hP => ?_) Y1 ⟨H1, fun j hj => ⟨fun h => by rw [H2 j hj] at h; exact absurd h (by decide), fun ⟨p', S, y, h, _⟩ => by omega⟩⟩ (fuel := hf_N) (by unfold hf_N; omega)
    · obtain ⟨z1, z2⟩ := hP
      have XY : hf_XX (hf_xc g o Y) o f st := X.xc e (by rw [z1.1.1]) (by rw [z1.1.1])
      have FY : hf_F (hf_xc g o Y) f v := F.xc e Y
      obtain ⟨Y', y1, y2, y3⟩ := x_ga2 e X F W h0 (k26 := lpX0_goesAll_26 n) (p := i) hlh hhi (by omega) C0 z1
      refine ⟨Y', ?_, y2, fun j hj => ?_⟩
      · show ndX0_goesAll_26 (lpX0_goesAll_26 n) _ _ _ _ _ = _
        unfold ndX0_goesAll_26
        rw [XY.fa, Option.bind_some, FY.stalls, Option.bind_some, if_neg (z_nle hi' (by omega))]
        exact y1
      · rw [y3, z2 j hj]
        constructor
        · rintro (⟨p', S, y, h1, h2⟩ | ⟨S, y, h1, h2, h3⟩)
          · exact ⟨p', S, y, by omega, h2⟩
          · exact ⟨i, S, y, by omega, h1, h2, h3⟩
        · rintro ⟨p', S, y, h1, h2, h3⟩
          by_cases ep : p' = i
          · subst ep
            exact Or.inr ⟨S, y, h2, h3⟩
          · exact Or.inl ⟨p', S, y, by omega, h2, h3⟩
    · obtain ⟨z1, z2⟩ := hP
      have XY : hf_XX (hf_xc g o Y) o f st := X.xc e (by rw [z1.1.1]) (by rw [z1.1.1])
      have FY : hf_F (hf_xc g o Y) f v := F.xc e Y
      have : lpX0_goesAll_26 (n + 1) o (zway lo) (zway hi) (Int32.ofNat (v 0)) (hf_xc g o Y) = lpX0_goesAll_132 hf_N o (Int32.ofNat 0) (hf_xc g o Y) := by
        show ndX0_goesAll_26 (lpX0_goesAll_26 n) _ _ _ _ _ = _
        unfold ndX0_goesAll_26
        rw [XY.fa, Option.bind_some, FY.stalls, Option.bind_some, if_pos (z_yle (Nat.le_refl _) (by omega))]
        rfl
      show ∃ _, lpX0_goesAll_26 (n + 1) o (zway lo) (zway hi) (Int32.ofNat (v 0)) (hf_xc g o Y) = _ ∧ _
      rw [this]
      exact copy Y z1 z2
  have key : ∃ Y, lpX0_goesAll_2 hf_N o (zway lo) (zway hi) (Int32.ofNat 0) (hf_xc g o Y0) = some (hf_xc g o Y) ∧ hf_wz XV Y ∧ hf_cz (Y.2.2.2.1 17) ∧ ∀ p S, p < v 0 → S < 2 ^ v 1 → (Y.2.2.2.1 17 (4096 * p + S) = 1 ↔ ∃ p' y, p' < v 0 ∧ Y0.2.2.2.1 17 (4096 * p' + S) = 1 ∧ lo ≤ y ∧ y ≤ hi ∧ p = zto v p' y) := by
    refine hf_loopR (fun n i Y => lpX0_goesAll_2 n o (zway lo) (zway hi) (Int32.ofNat i) (hf_xc g o Y)) (fun i Y => hf_wz XV Y ∧ Y.2.2.2.1 17 = Y0.2.2.2.1 17 ∧ ∀ j, j < i → Y.2.2.2.1 18 j = 0) 32768 (fun r => ∃ Y, r = some (hf_xc g o Y) ∧ hf_wz XV Y ∧ hf_cz (Y.2.2.2.1 17) ∧ ∀ p S, p < v 0 → S < 2 ^ v 1 → (Y.2.2.2.1 17 (4096 * p + S) = 1 ↔ ∃ p' y, p' < v 0 ∧ Y0.2.2.2.1 17 (4096 * p' + S) = 1 ∧ lo ≤ y ∧ y ≤ hi ∧ p = zto v p' y)) (fun i n Y hi' hP => ?_) (fun n Y hP => ?_) Y0 ⟨Z0, rfl, fun j hj => by omega⟩ (fuel := hf_N) (by unfold hf_N; omega)
    · obtain ⟨z1, z2, z3⟩ := hP
      have XY : hf_XX (hf_xc g o Y) o f st := X.xc e (by rw [z1.1]) (by rw [z1.1])
      have eY : hf_ob 1 0 (hf_xc g o Y) o = some Y := hf_ob_xc g o Y
      refine ⟨hf_ua Y 18 i 0, ?_, z1.ua (Or.inr rfl) _ _, by rw [hf_ua_ne _ (by decide)]; exact z2, fun j hj => ?_⟩
      · show ndX0_goesAll_2 (lpX0_goesAll_2 n) _ _ _ _ _ = _
        unfold ndX0_goesAll_2
        rw [XY.ob, XY.ob, z_lit 32768, if_neg (z_nle hi' (by decide)), XY.ob, vp_nar01.1, hf_si_eq eY 18 hi' (by omega), Option.bind_some, hf_let_eq, z_lit 1, z_add]
        unfold hf_xc
        rw [hf_up_up]
      · rw [hf_ua_at]
        by_cases ej : j = i
        · rw [if_pos ej]
        · rw [if_neg ej]; exact z3 j (by omega)
    · obtain ⟨z1, z2, z3⟩ := hP
      have XY : hf_XX (hf_xc g o Y) o f st := X.xc e (by rw [z1.1]) (by rw [z1.1])
      have : lpX0_goesAll_2 (n + 1) o (zway lo) (zway hi) (Int32.ofNat 32768) (hf_xc g o Y) = lpX0_goesAll_26 hf_N o (zway lo) (zway hi) (Int32.ofNat 0) (hf_xc g o Y) := by
        show ndX0_goesAll_2 (lpX0_goesAll_2 n) _ _ _ _ _ = _
        unfold ndX0_goesAll_2
        rw [XY.ob, XY.ob, z_lit 32768, if_pos (z_yle (Nat.le_refl _) (by decide))]
        rfl
      show ∃ _, lpX0_goesAll_2 (n + 1) o (zway lo) (zway hi) (Int32.ofNat 32768) (hf_xc g o Y) = _ ∧ _
      rw [this]
      exact mid Y ⟨z1, z2, fun j hj => Or.inl (z3 j hj)⟩ z3
  exact key
end ZW
set_option maxRecDepth 100000
set_option maxHeartbeats 1000000
/-! walks: walksBy -/
/-- the best of D by val: most b, least way w, least set s -/
def zB3 (D : Nat → Nat → Prop) (val : Nat → Nat) (b w s : Nat) : Prop := (∃ S, D w S ∧ val S = b) ∧ (∃ w', D w' s ∧ val s = b) ∧ ∀ w' S, D w' S → val S ≤ b ∧ (val S = b → w ≤ w' ∧ s ≤ S)
def zbst (D : Nat → Nat → Prop) (val : Nat → Nat) (Y : hf_V) : Prop := ((∀ w S, ¬ D w S) ∧ Y.1 19 = -1) ∨ ∃ b w s, Y.1 19 = Int32.ofNat b ∧ Y.1 20 = zway w ∧ Y.1 21 = Int32.ofNat s ∧ b < 2000000 ∧ w < 3 ∧ s < 4096 ∧ zB3 D val b w s
theorem zbst.congr {D E : Nat → Nat → Prop} {val : Nat → Nat} {Y : hf_V} (H : zbst D val Y) (h : ∀ w S, D w S ↔ E w S) : zbst E val Y := by
  have : D = E := by
    funext w S
    exact propext (h w S)
  rw [← this]
  exact H
theorem zB3.uq {D : Nat → Nat → Prop} {val : Nat → Nat} {b w s b' w' s' : Nat} (H : zB3 D val b w s) (K : zB3 D val b' w' s') : b = b' ∧ w = w' ∧ s = s' := by
  obtain ⟨⟨S1, a1, a2⟩, ⟨u1, a3, a4⟩, a5⟩ := H
  obtain ⟨⟨S2, b1, b2⟩, ⟨u2, b3, b4⟩, b5⟩ := K
  have h1 := (b5 _ _ a1).1
  have h2 := (a5 _ _ b1).1
  have hb : b = b' := by omega
  subst hb
  have h3 := ((b5 _ _ a1).2 a2).1
  have h4 := ((a5 _ _ b1).2 b2).1
  have h5 := ((b5 _ _ a3).2 a4).2
  have h6 := ((a5 _ _ b3).2 b4).2
  exact ⟨rfl, by omega, by omega⟩
/-- the same but for the walk's fields and arrays -/
def hf_wy (A B : hf_V) : Prop := B.2.2.1 = A.2.2.1 ∧ (∀ j, j ≠ 19 → j ≠ 20 → j ≠ 21 → B.1 j = A.1 j) ∧ B.2.2.2.2 = A.2.2.2.2 ∧ ∀ j, j ≠ 17 → j ≠ 18 → B.2.2.2.1 j = A.2.2.2.1 j
theorem hf_wy.trans {A B C : hf_V} (H : hf_wy A B) (K : hf_wy B C) : hf_wy A C := ⟨K.1.trans H.1, fun j a b c => (K.2.1 j a b c).trans (H.2.1 j a b c), K.2.2.1.trans H.2.2.1, fun j a b => (K.2.2.2 j a b).trans (H.2.2.2 j a b)⟩
theorem hf_wz.wy {A B : hf_V} (H : hf_wz A B) : hf_wy A B := ⟨H.1, fun j _ _ _ => by rw [H.2.1], H.2.2.1, H.2.2.2⟩
theorem hf_wy.rfl_ (A : hf_V) : hf_wy A A := (hf_wz.rfl_ A).wy
theorem hf_wy.xz {A B : hf_V} (H : hf_wy A B) : hf_xz A B := ⟨H.1, fun k hk => H.2.1 k (by omega) (by omega) (by omega), fun k hk => H.2.2.2 k (by omega) (by omega), by rw [H.2.2.1]⟩
theorem zb_m1 {b : Nat} (h : b < 2000000) : ¬ (Int32.ofNat b ≤ (-1 : Int32)) := fun z => by
  have h1 := Int32.le_iff_toInt_le.mp z
  have e1 : Int32.toInt (-1) = -1 := by decide
  have e2 : (Int32.ofNat b).toInt = (b : Int) := by
    rw [Int32.toInt_ofNat_of_lt (by omega)]
  rw [e1, e2] at h1
  omega
section ZW
variable {g : hf_H} {o f st : Nat} {v : Nat → Nat} {XV : hf_V}
theorem x_comes {Y : hf_V} {D : Nat → Nat → Prop} {val : Nat → Nat} (e : hf_ob 1 0 g o = some Y) (B : zbst D val Y) {w S : Nat} (hw : w < 3) (hS : S < 4096) (hv : val S < 2000000) : ∃ Y', spX0_comes o (Int32.ofNat (val S)) (zway w) (Int32.ofNat S) g = some (hf_xc g o Y') ∧ Y'.2 = Y.2 ∧ (∀ j, j ≠ 19 → j ≠ 20 → j ≠ 21 → Y'.1 j = Y.1 j) ∧ zbst (fun a b => D a b ∨ (a = w ∧ b = S)) val Y' := by
  unfold spX0_comes
  have o1 : ∀ (Z : hf_V), hf_ob 1 0 (hf_up g o (.inl (1, 0, Z))) o = some Z := fun Z => hf_ob_up g o 1 0 Z
  have new : ¬ Int32.ofNat (val S) ≤ Y.1 19 → (∀ w' S', D w' S' → val S' < val S) → ∃ Y', ((hf_gi 1 0 19 g o).bind fun x1 => if Int32.ofNat (val S) ≤ x1 then ((hf_gi 1 0 19 g o).bind fun x2 => if Int32.ofNat (val S) = x2 then ((hf_gi 1 0 20 g o).bind fun x3 => hf_let (if zway w < x3 then zway w else x3) fun x4 => (hf_pi 1 0 20 g o x4).bind fun g5 => (hf_gi 1 0 21 g5 o).bind fun x6 => hf_let (if Int32.ofNat S < x6 then Int32.ofNat S else x6) fun x7 => (hf_pi 1 0 21 g5 o x7).bind fun g8 => some g8) else some g) else (hf_pi 1 0 19 g o (Int32.ofNat (val S))).bind fun g9 => (hf_pi 1 0 20 g9 o (zway w)).bind fun g10 => (hf_pi 1 0 21 g10 o (Int32.ofNat S)).bind fun g11 => some g11) = some (hf_xc g o Y') ∧ Y'.2 = Y.2 ∧ (∀ j, j ≠ 19 → j ≠ 20 → j ≠ 21 → Y'.1 j = Y.1 j) ∧ zbst (fun a b => D a b ∨ (a = w ∧ b = S)) val Y' := fun hle hD => by
    refine ⟨hf_ui (hf_ui (hf_ui Y 19 (Int32.ofNat (val S))) 20 (zway w)) 21 (Int32.ofNat S), ?_, rfl, fun j h1 h2 h3 => ?_, Or.inr ⟨val S, w, S, ?_, ?_, hf_ui_at _ _ _, hv, hw, hS, ⟨S, Or.inr ⟨rfl, rfl⟩, rfl⟩, ⟨w, Or.inr ⟨rfl, rfl⟩, rfl⟩, fun w' S' h => ?_⟩⟩
    · rw [hf_gi_eq e, Option.bind_some, if_neg hle, hf_pi_eq e, Option.bind_some, hf_pi_eq (o1 _), Option.bind_some, hf_up_up, hf_pi_eq (o1 _), Option.bind_some, hf_up_up]
      rfl
    · rw [hf_ui_ne _ h3, hf_ui_ne _ h2, hf_ui_ne _ h1]
    · rw [hf_ui_ne _ (by decide), hf_ui_ne _ (by decide), hf_ui_at]
    · rw [hf_ui_ne _ (by decide), hf_ui_at]
    · rcases h with h | ⟨rfl, rfl⟩
      · have := hD w' S' h
        exact ⟨by omega, fun z => by omega⟩
      · exact ⟨Nat.le_refl _, fun _ => ⟨Nat.le_refl _, Nat.le_refl _⟩⟩
  rcases B with ⟨b1, b2⟩ | ⟨b, wy, s, b1, b2, b3, b4, b5, b6, b7⟩
  · exact new (by rw [b2]; exact zb_m1 hv) (fun w' S' h => absurd h (b1 w' S'))
  · by_cases hlt : b < val S
    · exact new (by rw [b1]; exact z_nle hlt (by omega)) (fun w' S' h => by
        have := (b7.2.2 w' S' h).1
        omega)
    · rw [hf_gi_eq e, Option.bind_some, if_pos (by rw [b1]; exact z_yle (by omega) (by omega)), Option.bind_some, b1]
      by_cases heq : val S = b
      · rw [if_pos (by rw [heq]), hf_gi_eq e, Option.bind_some, b2, hf_let_eq, hf_pi_eq e, Option.bind_some, hf_gi_eq (o1 _), Option.bind_some, hf_ui_ne _ (by decide), b3, hf_let_eq, hf_pi_eq (o1 _), Option.bind_some, hf_up_up]
        have e1 : (if zway w < zway wy then zway w else zway wy) = zway (min w wy) := by
          by_cases z : w < wy
          · rw [if_pos ((zway_lt _ (by omega) _ (by omega)).mpr z), Nat.min_eq_left (by omega)]
          · rw [if_neg (fun y => z ((zway_lt _ (by omega) _ (by omega)).mp y)), Nat.min_eq_right (by omega)]
        have e2 : (if Int32.ofNat S < Int32.ofNat s then Int32.ofNat S else Int32.ofNat s) = Int32.ofNat (min S s) := by
          by_cases z : S < s
          · rw [if_pos ((z_lt (by omega) (by omega)).mpr z), Nat.min_eq_left (by omega)]
          · rw [if_neg (fun y => z ((z_lt (by omega) (by omega)).mp y)), Nat.min_eq_right (by omega)]
        rw [e1, e2]
        obtain ⟨⟨S1, c1, c2⟩, ⟨w1, c3, c4⟩, c5⟩ := b7
        refine ⟨_, rfl, rfl, fun j h1 h2 h3 => ?_, Or.inr ⟨b, min w wy, min S s, ?_, ?_, hf_ui_at _ _ _, b4, ?_, ?_, ?_, ?_, fun w' S' h => ?_⟩⟩
        · rw [hf_ui_ne _ h3, hf_ui_ne _ h2]
        · rw [hf_ui_ne _ (by decide), hf_ui_ne _ (by decide), b1]
        · rw [hf_ui_ne _ (by decide), hf_ui_at]
        · have := Nat.min_le_left w wy
          omega
        · have := Nat.min_le_left S s
          omega
        · by_cases z : w < wy
          · rw [Nat.min_eq_left (by omega)]
            exact ⟨S, Or.inr ⟨rfl, rfl⟩, heq⟩
          · rw [Nat.min_eq_right (by omega)]
            exact ⟨S1, Or.inl c1, c2⟩
        · by_cases z : S < s
          · rw [Nat.min_eq_left (by omega)]
            exact ⟨w, Or.inr ⟨rfl, rfl⟩, heq⟩
          · rw [Nat.min_eq_right (by omega)]
            exact ⟨w1, Or.inl c3, c4⟩
        · have m1 := Nat.min_le_left w wy
          have m2 := Nat.min_le_right w wy
          have m3 := Nat.min_le_left S s
          have m4 := Nat.min_le_right S s
          rcases h with h | ⟨rfl, rfl⟩
          · obtain ⟨d1, d2⟩ := c5 w' S' h
            exact ⟨d1, fun z => by
              have := d2 z
              omega⟩
          · exact ⟨by omega, fun _ => ⟨m1, m3⟩⟩
      · rw [if_neg (fun z => heq ((z_eq (by omega) (by omega)).mp z))]
        refine ⟨Y, by rw [hf_xc_self e], rfl, fun _ _ _ _ => rfl, Or.inr ⟨b, wy, s, b1, b2, b3, b4, b5, b6, ?_⟩⟩
        obtain ⟨⟨S1, c1, c2⟩, ⟨w1, c3, c4⟩, c5⟩ := b7
        refine ⟨⟨S1, Or.inl c1, c2⟩, ⟨w1, Or.inl c3, c4⟩, fun w' S' h => ?_⟩
        rcases h with h | ⟨rfl, rfl⟩
        · exact c5 w' S' h
        · exact ⟨by omega, fun z => absurd z heq⟩
/-- is the set at any spot -/
theorem x_walkIs (e : hf_ob 1 0 g o = some XV) (X : hf_XX g o f st) (F : hf_F g f v) (W : hf_wf v) {k144 : Nat → Int32 → Int32 → Int32 → Int32 → hf_H → Option hf_H} {a : Int32} {q th S : Nat} (hS : S < 4096) (C : hf_cz (XV.2.2.2.1 17)) : ((¬ ∃ p, p < v 0 ∧ XV.2.2.2.1 17 (4096 * p + S) = 1) ∧ lpX0_walksBy_161 k144 hf_N o a (Int32.ofNat q) (Int32.ofNat th) (Int32.ofNat S) (Int32.ofNat 0) (Int32.ofNat 0) g = k144 o a (Int32.ofNat q) (Int32.ofNat th) (Int32.ofNat (S + 1)) g) ∨ ((∃ p, p < v 0 ∧ XV.2.2.2.1 17 (4096 * p + S) = 1) ∧ lpX0_walksBy_161 k144 hf_N o a (Int32.ofNat q) (Int32.ofNat th) (Int32.ofNat S) (Int32.ofNat 0) (Int32.ofNat 0) g = (hf_ai 0 12 4096 g o (Int32.ofNat (th ||| S))).bind fun x3 => (spX0_comes o ((x3 + Int32.ofNat q) - Int32.ofNat (zcost v (v 1) S)) a (Int32.ofNat S) g).bind fun g6 => k144 o a (Int32.ofNat q) (Int32.ofNat th) (Int32.ofNat (S + 1)) g6) := by
  have q0 := W.v0
  refine hf_loopR (fun n i (b : Nat) => lpX0_walksBy_161 k144 n o a (Int32.ofNat q) (Int32.ofNat th) (Int32.ofNat S) (Int32.ofNat b) (Int32.ofNat i) g) (fun i b => b ≤ 1 ∧ (b = 1 ↔ ∃ p, p < i ∧ XV.2.2.2.1 17 (4096 * p + S) = 1)) (v 0) (fun r => ((¬ ∃ p, p < v 0 ∧ XV.2.2.2.1 17 (4096 * p + S) = 1) ∧ r = k144 o a (Int32.ofNat q) (Int32.ofNat th) (Int32.ofNat (S + 1)) g) ∨ ((∃ p, p < v 0 ∧ XV.2.2.2.1 17 (4096 * p + S) = 1) ∧ r = (hf_ai 0 12 4096 g o (Int32.ofNat (th ||| S))).bind fun x3 => (spX0_comes o ((x3 + Int32.ofNat q) - Int32.ofNat (zcost v (v 1) S)) a (Int32.ofNat S) g).bind fun g6 => k144 o a (Int32.ofNat q) (Int32.ofNat th) (Int32.ofNat (S + 1)) g6)) (fun i n b hi hP => ?_) (fun n b hP => ?_) 0 ⟨by omega, ⟨fun h => by omega, fun ⟨p, h, _⟩ => by omega⟩⟩ (fuel := hf_N) (by unfold hf_N; omega)
  · obtain ⟨z1, z2⟩ := hP
    by_cases hb : b = 1
    · subst hb
      refine ⟨1, ?_, Nat.le_refl _, ⟨fun _ => ?_, fun _ => rfl⟩⟩
      · show ndX0_walksBy_161 k144 (lpX0_walksBy_161 k144 n) _ _ _ _ _ _ _ _ = _
        unfold ndX0_walksBy_161 ndX0_walksBy_195 ndX0_walksBy_200
        rw [X.fa, Option.bind_some, F.stalls, Option.bind_some, if_neg (z_nle hi (by omega)), if_neg (show ¬ (Int32.ofNat 1 = 0) by decide), hf_let_eq, z_lit 1, z_add]
      · obtain ⟨p, h1, h2⟩ := z2.mp rfl
        exact ⟨p, by omega, h2⟩
    · have hb0 : b = 0 := by omega
      subst hb0
      rcases C (4096 * i + S) (by omega) with c | c
      · refine ⟨0, ?_, by omega, ⟨fun h => by omega, fun ⟨p, h1, h2⟩ => ?_⟩⟩
        · show ndX0_walksBy_161 k144 (lpX0_walksBy_161 k144 n) _ _ _ _ _ _ _ _ = _
          unfold ndX0_walksBy_161 ndX0_walksBy_200
          rw [X.fa, Option.bind_some, F.stalls, Option.bind_some, if_neg (z_nle hi (by omega)), if_pos (show Int32.ofNat 0 = 0 from rfl), X.ob, z_row, hf_ai_eq e, z_ld (by omega) (by omega), Option.bind_some, if_pos c, hf_let_eq, z_lit 1, z_add]
          rfl
        · by_cases ep : p = i
          · subst ep
            rw [c] at h2
            exact absurd h2 (by decide)
          · exact z2.mpr ⟨p, by omega, h2⟩
      · refine ⟨1, ?_, by omega, ⟨fun _ => ⟨i, by omega, c⟩, fun _ => rfl⟩⟩
        show ndX0_walksBy_161 k144 (lpX0_walksBy_161 k144 n) _ _ _ _ _ _ _ _ = _
        unfold ndX0_walksBy_161 ndX0_walksBy_195 ndX0_walksBy_200
        rw [X.fa, Option.bind_some, F.stalls, Option.bind_some, if_neg (z_nle hi (by omega)), if_pos (show Int32.ofNat 0 = 0 from rfl), X.ob, z_row, hf_ai_eq e, z_ld (by omega) (by omega), Option.bind_some, if_neg (by rw [c]; decide), hf_let_eq, z_lit 1, z_add]
  · obtain ⟨z1, z2⟩ := hP
    by_cases hb : b = 1
    · subst hb
      refine Or.inr ⟨z2.mp rfl, ?_⟩
      show ndX0_walksBy_161 k144 (lpX0_walksBy_161 k144 n) _ _ _ _ _ _ _ _ = _
      unfold ndX0_walksBy_161 ndX0_walksBy_240
      rw [X.fa, Option.bind_some, F.stalls, Option.bind_some, if_pos (z_yle (Nat.le_refl _) (by omega)), if_neg (show ¬ (Int32.ofNat 1 = 0) by decide), X.ob, z_or]
      congr 1
      funext x3
      rw [X.ob, x_costOf X F W hS, hf_b2_some, X.ob]
      congr 1
      funext g6
      rw [hf_let_eq, z_lit 1, z_add]
    · have hb0 : b = 0 := by omega
      subst hb0
      refine Or.inl ⟨fun h => hb (z2.mpr h), ?_⟩
      show ndX0_walksBy_161 k144 (lpX0_walksBy_161 k144 n) _ _ _ _ _ _ _ _ = _
      unfold ndX0_walksBy_161 ndX0_walksBy_240
      rw [X.fa, Option.bind_some, F.stalls, Option.bind_some, if_pos (z_yle (Nat.le_refl _) (by omega)), if_pos (show Int32.ofNat 0 = 0 from rfl), hf_let_eq, z_lit 1, z_add]
end ZW
