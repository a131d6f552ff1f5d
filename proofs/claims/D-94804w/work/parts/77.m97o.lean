set_option maxRecDepth 100000
set_option maxHeartbeats 1000000
/-! walks: the model's offers -/
def zbsm (D : Nat → Nat → Prop) (val : Nat → Nat) (Y : hf_V) : Prop := ((∀ w S, ¬ D w S) ∧ Y.1 29 = -1) ∨ ∃ b w s, Y.1 29 = Int32.ofNat b ∧ Y.1 30 = zway w ∧ Y.1 31 = Int32.ofNat s ∧ b < 2000000 ∧ w < 3 ∧ s < 4096 ∧ zB3 D val b w s
theorem zbsm.congr {D E : Nat → Nat → Prop} {val : Nat → Nat} {Y : hf_V} (H : zbsm D val Y) (h : ∀ w S, D w S ↔ E w S) : zbsm E val Y := by
  have : D = E := by
    funext w S
    exact propext (h w S)
  rw [← this]
  exact H
def zstl (v : Nat → Nat) (S : Nat) : Nat → Nat
  | 0 => 0
  | n + 1 => if S.testBit n then zstl v S n ||| 1 <<< v (10 + 5 * n + 3) else zstl v S n
theorem zstl_bit {v : Nat → Nat} {S : Nat} : ∀ n i, (zstl v S n).testBit i = true ↔ ∃ k, k < n ∧ S.testBit k = true ∧ v (10 + 5 * k + 3) = i
  | 0, i => ⟨fun h => absurd rfl (z_bit0 h), fun ⟨k, h, _⟩ => by omega⟩
  | n + 1, i => by
    have ih := zstl_bit (v := v) (S := S) n i
    show (if S.testBit n = true then zstl v S n ||| 1 <<< v (10 + 5 * n + 3) else zstl v S n).testBit i = true ↔ _
    by_cases e : S.testBit n = true
    · rw [if_pos e, Nat.testBit_or, zbit1, Bool.or_eq_true, ih, decide_eq_true_eq]
      constructor
      · rintro (⟨k, h1, h2⟩ | h)
        · exact ⟨k, by omega, h2⟩
        · exact ⟨n, by omega, e, h.symm⟩
      · rintro ⟨k, h1, h2, h3⟩
        by_cases ek : k = n
        · subst ek; exact Or.inr h3.symm
        · exact Or.inl ⟨k, by omega, h2, h3⟩
    · rw [if_neg e, ih]
      refine ⟨fun ⟨k, h1, h2⟩ => ⟨k, by omega, h2⟩, fun ⟨k, h1, h2, h3⟩ => ⟨k, ?_, h2, h3⟩⟩
      by_cases ek : k = n
      · subst ek; exact absurd h2 e
      · omega
theorem zstl_lt {v : Nat → Nat} {S : Nat} (n : Nat) (h : ∀ k, k < n → S.testBit k = true → v (10 + 5 * k + 3) < 8) : zstl v S n < 256 := by
  refine Nat.lt_of_not_le (fun hle => ?_)
  have h1 : zstl v S n ≠ zstl v S n % 2 ^ 8 := by
    have : zstl v S n % 256 < 256 := Nat.mod_lt _ (by decide)
    show zstl v S n ≠ zstl v S n % 256
    omega
  refine h1 (Nat.eq_of_testBit_eq (fun i => ?_))
  rw [Nat.testBit_mod_two_pow]
  by_cases hi : i < 8
  · simp [hi]
  · cases e : (zstl v S n).testBit i with
    | false => simp
    | true =>
      obtain ⟨k, k1, k2, k3⟩ := (zstl_bit n i).mp e
      have := h k k1 k2
      omega
/-- what can be offered -/
def zRM (v : Nat → Nat) (A : Nat → Nat) (q S w : Nat) : Prop := zcost v (v 1) S ≤ q ∧ w < 3 ∧ ∃ j, j < 2048 ∧ j % 256 &&& zstl v S (v 1) = zstl v S (v 1) ∧ (A j).testBit w = true
section ZM
variable {V : hf_V} {v : Nat → Nat}
theorem m_offers (Sv : hf_sv V v) (W : hf_wf v) (hA : ∀ s, s < 2 ^ v 1 → V.2.2.2.1 22 s = Int32.ofNat (zW v s)) {A : Nat → Nat} (NA : hf_na (V.2.2.2.1 27) A) {b S : Nat} (hb : b < v 2) (hS : S < 2 ^ v 1) (hst : ∀ k, k < v 1 → S.testBit k = true → v (10 + 5 * k + 3) < 8) {D : Nat → Nat → Prop} (hD : ∀ w s, D w s → s < S) (B : zbsm D (zval v (zhas v b) (v (70 + 4 * b))) V) : ∃ V', spX4_offers (Int32.ofNat b) (Int32.ofNat S) V = some V' ∧ V'.2 = V.2 ∧ (∀ j, j ≠ 29 → j ≠ 30 → j ≠ 31 → V'.1 j = V.1 j) ∧ zbsm (fun w s => D w s ∨ (s = S ∧ zRM v A (v (70 + 4 * b)) S w)) (zval v (zhas v b) (v (70 + 4 * b))) V' := by
  have q1 := W.v1
  have q2 := W.v2
  obtain ⟨p1, p2, p3⟩ := zpow12 q1
  have hq := (W.2.2.1 b hb).1
  have hlt := zstl_lt (v := v) (S := S) (v 1) hst
  have hstn : ∀ n, n ≤ v 1 → zstl v S n < 256 := fun n hn => zstl_lt n (fun k hk h => hst k (by omega) h)
  have hc := zcost_le v S (v 1) (fun k hk => (W.2.1 k hk).2.2.1)
  have hor : zhas v b ||| S < 2 ^ v 1 := Nat.or_lt_two_pow (zhas_lt2 v b) hS
  have hWl := zW_le (v := v) (zhas v b ||| S) q1
  obtain ⟨G, g1, g2, g3⟩ := m_goingsFor NA (st := zstl v S (v 1)) (by omega)
  have hend : ∀ n, lpX4_offers_8 (n + 1) (Int32.ofNat b) (Int32.ofNat S) (Int32.ofNat (zcost v (v 1) S)) (Int32.ofNat (zstl v S (v 1))) (Int32.ofNat (v 1)) V = lpX4_offers_8 1 (Int32.ofNat b) (Int32.ofNat S) (Int32.ofNat (zcost v (v 1) S)) (Int32.ofNat (zstl v S (v 1))) (Int32.ofNat (v 1)) V := fun n => by
    show ndX4_offers_8 (lpX4_offers_8 n) _ _ _ _ _ _ = ndX4_offers_8 (lpX4_offers_8 0) _ _ _ _ _ _
    unfold ndX4_offers_8
    rw [Sv.l1, Option.bind_some, Option.bind_some, if_pos (z_yle (Nat.le_refl _) (by omega)), if_pos (z_yle (Nat.le_refl _) (by omega))]
  have hloop : spX4_offers (Int32.ofNat b) (Int32.ofNat S) V = lpX4_offers_8 1 (Int32.ofNat b) (Int32.ofNat S) (Int32.ofNat (zcost v (v 1) S)) (Int32.ofNat (zstl v S (v 1))) (Int32.ofNat (v 1)) V := by
    unfold spX4_offers
    refine hf_loop (fun n i => lpX4_offers_8 n (Int32.ofNat b) (Int32.ofNat S) (Int32.ofNat (zcost v i S)) (Int32.ofNat (zstl v S i)) (Int32.ofNat i) V) (v 1) _ (fun i n hi => ?_) (fun n => hend n) (fuel := hf_N) (by unfold hf_N; omega)
    show ndX4_offers_8 (lpX4_offers_8 n) _ _ _ _ _ _ = _
    unfold ndX4_offers_8 ndX4_offers_55
    rw [Sv.l1, Option.bind_some, if_neg (z_nle hi (by omega)), m_isOf (by omega) (by omega), Option.bind_some]
    have e1 : zcost v (i + 1) S = zcost v i S + (if S.testBit i then v (10 + 5 * i + 2) else 0) := rfl
    have e2 : zstl v S (i + 1) = if S.testBit i then zstl v S i ||| 1 <<< v (10 + 5 * i + 3) else zstl v S i := rfl
    by_cases hbt : S.testBit i = true
    · have := hst i hi hbt
      rw [if_pos hbt, if_neg (show ¬ (Int32.ofNat 1 = 0) by decide), m_half2 Sv (by omega), hf_b2_some, hf_let_eq, m_half3 Sv (by omega), hf_b2_some, z_sh1 (by omega), hf_let_eq, hf_let_eq, z_add, z_or, z_lit 1, z_add, e1, e2, if_pos hbt, if_pos hbt]
    · rw [if_neg hbt, if_pos (show Int32.ofNat 0 = 0 from rfl), hf_let_eq, z_lit 1, z_add, e1, e2, if_neg hbt, if_neg hbt]
      rfl
  rw [hloop]
  show ∃ V', ndX4_offers_8 (lpX4_offers_8 0) _ _ _ _ _ _ = _ ∧ _
  unfold ndX4_offers_8
  have hm0 : spX4_buyerOf (Int32.ofNat b) (0 : Int32) V = some (Int32.ofNat (v (70 + 4 * b)), V) := m_buyer0 Sv (by omega)
  rw [Sv.l1, Option.bind_some, if_pos (z_yle (Nat.le_refl _) (by omega)), m_hasOf Sv q1 (by omega), hf_b2_some, z_or, z_ld (by omega) (by omega), Option.bind_some, hA _ hor, hm0, hf_b2_some, hf_let_eq, hm0, hf_b2_some]
  have same : (∀ w, zRM v A (v (70 + 4 * b)) S w → ∃ x w' s, zB3 D (zval v (zhas v b) (v (70 + 4 * b))) x w' s ∧ V.1 29 = Int32.ofNat x ∧ x < 2000000 ∧ zval v (zhas v b) (v (70 + 4 * b)) S < x) → ∃ V', some V = some V' ∧ V'.2 = V.2 ∧ (∀ j, j ≠ 29 → j ≠ 30 → j ≠ 31 → V'.1 j = V.1 j) ∧ zbsm (fun w s => D w s ∨ (s = S ∧ zRM v A (v (70 + 4 * b)) S w)) (zval v (zhas v b) (v (70 + 4 * b))) V' := fun h => by
    refine ⟨V, rfl, rfl, fun _ _ _ _ => rfl, ?_⟩
    rcases B with ⟨b1, b2⟩ | ⟨x, w, s, b1, b2, b3, b4, b5, b6, ⟨⟨S1, c1, c2⟩, ⟨w1, c3, c4⟩, c5⟩⟩
    · left
      refine ⟨fun w s h2 => ?_, b2⟩
      rcases h2 with h2 | ⟨rfl, h2⟩
      · exact b1 w s h2
      · obtain ⟨x, w', s', ⟨⟨S1, c1, _⟩, _⟩, _⟩ := h w h2
        exact b1 _ _ c1
    · right
      refine ⟨x, w, s, b1, b2, b3, b4, b5, b6, ⟨S1, Or.inl c1, c2⟩, ⟨w1, Or.inl c3, c4⟩, fun w' s' h2 => ?_⟩
      rcases h2 with h2 | ⟨rfl, h2⟩
      · exact c5 _ _ h2
      · obtain ⟨x', w'', s'', _, d2, d3, d4⟩ := h w' h2
        have : x = x' := (z_eq (by omega) (by omega)).mp (b1.symm.trans d2)
        subst this
        exact ⟨by omega, fun z => by omega⟩
  by_cases hcq : v (70 + 4 * b) < zcost v (v 1) S
  · rw [if_pos ((z_lt (by omega) (by omega)).mpr hcq)]
    exact same (fun w h => by
      have := h.1
      omega)
  have hval : zval v (zhas v b) (v (70 + 4 * b)) S = zW v (zhas v b ||| S) + v (70 + 4 * b) - zcost v (v 1) S := rfl
  rw [if_neg (fun z => hcq ((z_lt (by omega) (by omega)).mp z)), z_add, z_sub (by omega), ← hval]
  by_cases hle : V.1 29 ≤ Int32.ofNat (zval v (zhas v b) (v (70 + 4 * b)) S)
  case neg =>
    rw [if_neg hle]
    refine same (fun w h => ?_)
    rcases B with ⟨b1, b2⟩ | ⟨x, w', s, b1, b2, b3, b4, b5, b6, b7⟩
    · rw [b2] at hle
      exact absurd (show (-1 : Int32) ≤ _ from by
        rw [Int32.le_iff_toInt_le]
        have e1 : Int32.toInt (-1) = -1 := by decide
        rw [e1, Int32.toInt_ofNat_of_lt (by omega)]
        omega) hle
    · refine ⟨x, w', s, b7, b1, b4, ?_⟩
      refine Nat.lt_of_not_le (fun h2 => hle ?_)
      rw [b1]
      exact z_yle h2 (by omega)
  rw [if_pos hle, g1, hf_b2_some]
  by_cases hG : G = 0
  · rw [if_pos (by rw [hG]; rfl)]
    refine same (fun w h => ?_)
    have := (g3 w).mpr h.2.2
    exact absurd hG (z_bit0 this)
  have hGn : ¬ (Int32.ofNat G = 0) := fun z => hG ((z_eq (b := 0) (by omega) (by decide)).mp z)
  rw [if_neg hGn]
  obtain ⟨f, f1, f2, f3, f4⟩ : ∃ f, f < 3 ∧ G.testBit f = true ∧ (∀ w, G.testBit w = true → f ≤ w) ∧ ((spX4_isOf (Int32.ofNat G) (0 : Int32)).bind fun x12 => if x12 = 0 then ((spX4_isOf (Int32.ofNat G) (1 : Int32)).bind fun x13 => if x13 = 0 then (ndX4_offers_145 (Int32.ofNat S) (Int32.ofNat (zval v (zhas v b) (v (70 + 4 * b)) S)) (1 : Int32) V) else ndX4_offers_145 (Int32.ofNat S) (Int32.ofNat (zval v (zhas v b) (v (70 + 4 * b)) S)) (0 : Int32) V) else ndX4_offers_145 (Int32.ofNat S) (Int32.ofNat (zval v (zhas v b) (v (70 + 4 * b)) S)) (-1 : Int32) V) = ndX4_offers_145 (Int32.ofNat S) (Int32.ofNat (zval v (zhas v b) (v (70 + 4 * b)) S)) (zway f) V := by
    have i0 : spX4_isOf (Int32.ofNat G) (0 : Int32) = some (Int32.ofNat (if G.testBit 0 then 1 else 0)) := m_isOf (k := 0) (by omega) (by decide)
    have i1 : spX4_isOf (Int32.ofNat G) (1 : Int32) = some (Int32.ofNat (if G.testBit 1 then 1 else 0)) := m_isOf (k := 1) (by omega) (by decide)
    rw [i0, i1, Option.bind_some, Option.bind_some]
    have n1 : ¬ (Int32.ofNat 1 = 0) := by decide
    by_cases t0 : G.testBit 0 = true
    · rw [if_pos t0]
      exact ⟨0, by decide, t0, fun w _ => Nat.zero_le _, by rw [if_neg n1]; rfl⟩
    · by_cases t1 : G.testBit 1 = true
      · rw [if_neg t0, if_pos t1]
        refine ⟨1, by decide, t1, fun w hw => ?_, by rw [if_pos (show Int32.ofNat 0 = 0 from rfl), if_neg n1]; rfl⟩
        refine Nat.lt_of_not_le (fun h => ?_)
        have : w = 0 := by omega
        subst this
        exact t0 hw
      · rw [if_neg t0, if_neg t1]
        have hge : ∀ w, G.testBit w = true → 2 ≤ w := fun w hw => by
          refine Nat.lt_of_not_le (fun h => ?_)
          have : w = 0 ∨ w = 1 := by omega
          rcases this with rfl | rfl
          · exact t0 hw
          · exact t1 hw
        obtain ⟨w, hw⟩ := z_bitx hG
        have h2 := hge w hw
        have h3 := z_bit8 g2 hw
        have : w = 2 := by omega
        subst this
        exact ⟨2, by decide, hw, hge, by rw [if_pos (show Int32.ofNat 0 = 0 from rfl), if_pos (show Int32.ofNat 0 = 0 from rfl)]; rfl⟩
  rw [f4]
  have hR : ∀ w, zRM v A (v (70 + 4 * b)) S w ↔ G.testBit w = true := fun w => ⟨fun h => (g3 w).mpr h.2.2, fun h => ⟨by omega, z_bit8 g2 h, (g3 w).mp h⟩⟩
  have new : ¬ Int32.ofNat (zval v (zhas v b) (v (70 + 4 * b)) S) ≤ V.1 29 → (∀ w s, D w s → zval v (zhas v b) (v (70 + 4 * b)) s < zval v (zhas v b) (v (70 + 4 * b)) S) → ∃ V', ndX4_offers_145 (Int32.ofNat S) (Int32.ofNat (zval v (zhas v b) (v (70 + 4 * b)) S)) (zway f) V = some V' ∧ V'.2 = V.2 ∧ (∀ j, j ≠ 29 → j ≠ 30 → j ≠ 31 → V'.1 j = V.1 j) ∧ zbsm (fun w s => D w s ∨ (s = S ∧ zRM v A (v (70 + 4 * b)) S w)) (zval v (zhas v b) (v (70 + 4 * b))) V' := fun h1 h2 => by
    unfold ndX4_offers_145 ndX4_offers_173 ndX4_offers_192
    rw [if_neg h1, hf_let_eq, hf_let_eq, hf_let_eq, hf_let_eq, hf_let_eq]
    have e30 : (hf_ui (hf_ui (hf_ui V 29 (Int32.ofNat (zval v (zhas v b) (v (70 + 4 * b)) S))) 30 (zway f)) 31 (Int32.ofNat S)).1 30 = zway f := by rw [hf_ui_ne _ (by decide), hf_ui_at]
    rw [e30, ite_self]
    refine ⟨_, rfl, rfl, fun j j1 j2 j3 => ?_, Or.inr ⟨_, f, S, ?_, hf_ui_at _ _ _, ?_, show zval v (zhas v b) (v (70 + 4 * b)) S < 2000000 by omega, f1, by omega, ⟨S, Or.inr ⟨rfl, (hR f).mpr f2⟩, rfl⟩, ⟨f, Or.inr ⟨rfl, (hR f).mpr f2⟩, rfl⟩, fun w' s' h => ?_⟩⟩
    · rw [hf_ui_ne _ j2, hf_ui_ne _ j3, hf_ui_ne _ j2, hf_ui_ne _ j1]
    · rw [hf_ui_ne _ (by decide), hf_ui_ne _ (by decide), hf_ui_ne _ (by decide), hf_ui_at]
    · rw [hf_ui_ne _ (by decide), hf_ui_at]
    · rcases h with h | ⟨rfl, h⟩
      · have := h2 w' s' h
        exact ⟨by omega, fun z => by omega⟩
      · exact ⟨Nat.le_refl _, fun _ => ⟨f3 w' ((hR w').mp h), Nat.le_refl _⟩⟩
  rcases B with ⟨b1, b2⟩ | ⟨x, w, s, b1, b2, b3, b4, b5, b6, b7⟩
  · exact new (by rw [b2]; exact zb_m1 (by omega)) (fun w s h => absurd h (b1 w s))
  · by_cases hlt2 : x < zval v (zhas v b) (v (70 + 4 * b)) S
    · exact new (by rw [b1]; exact z_nle hlt2 (by omega)) (fun w' s' h => by
        have := (b7.2.2 w' s' h).1
        omega)
    · have hx : zval v (zhas v b) (v (70 + 4 * b)) S = x := by
        rw [b1] at hle
        refine Nat.le_antisymm (by omega) (Nat.le_of_not_lt (fun z => ?_))
        exact absurd hle (z_nle z (by omega))
      unfold ndX4_offers_145 ndX4_offers_173 ndX4_offers_192
      rw [if_pos (by rw [b1, hx]; exact z_yle (Nat.le_refl _) (by omega)), hf_let_eq, hf_let_eq, b2]
      have e1 : (if zway w ≤ zway f then some (hf_ui V 30 (zway w)) else some (hf_ui V 30 (zway f))) = some (hf_ui V 30 (zway (min w f))) := by
        by_cases z : w ≤ f
        · rw [if_pos (by
            rw [← Int32.not_lt, zway_lt _ (by omega) _ (by omega)]
            omega), Nat.min_eq_left z]
        · rw [if_neg (by
            rw [← Int32.not_lt, zway_lt _ (by omega) _ (by omega)]
            omega), Nat.min_eq_right (by omega)]
      rw [e1]
      obtain ⟨⟨S1, c1, c2⟩, ⟨w1, c3, c4⟩, c5⟩ := b7
      have m1 := Nat.min_le_left w f
      have m2 := Nat.min_le_right w f
      refine ⟨_, rfl, rfl, fun j j1 j2 j3 => hf_ui_ne _ j2 _, Or.inr ⟨x, min w f, s, ?_, hf_ui_at _ _ _, ?_, b4, by omega, b6, ?_, ⟨w1, Or.inl c3, c4⟩, fun w' s' h => ?_⟩⟩
      · rw [hf_ui_ne _ (by decide), b1]
      · rw [hf_ui_ne _ (by decide), b3]
      · by_cases z : w ≤ f
        · rw [Nat.min_eq_left z]
          exact ⟨S1, Or.inl c1, c2⟩
        · rw [Nat.min_eq_right (by omega)]
          exact ⟨S, Or.inr ⟨rfl, (hR f).mpr f2⟩, hx⟩
      · rcases h with h | ⟨rfl, h⟩
        · obtain ⟨d1, d2⟩ := c5 w' s' h
          exact ⟨d1, fun z => by
            have := d2 z
            omega⟩
        · have h1 := f3 w' ((hR w').mp h)
          have h2 := hD _ _ c3
          exact ⟨by omega, fun _ => by omega⟩
end ZM
set_option maxRecDepth 100000
set_option maxHeartbeats 1000000
/-! walks: the plain law -/
def zsub (v : Nat → Nat) (S T : Nat) : Prop := ∀ k, k < v 1 → S.testBit k = true → T.testBit (v (10 + 5 * k + 3)) = true
theorem z_tb_lt {S n k : Nat} (hS : S < 2 ^ n) (h : S.testBit k = true) : k < n := by
  refine Nat.lt_of_not_le (fun hk => ?_)
  have : S.testBit k = false := Nat.testBit_lt_two_pow (Nat.lt_of_lt_of_le hS (Nat.pow_le_pow_right (show 0 < 2 by decide) hk))
  rw [this] at h
  cases h
theorem z_lt_tb {S n : Nat} (h : ∀ k, S.testBit k = true → k < n) : S < 2 ^ n := by
  refine Nat.lt_of_not_le (fun hle => ?_)
  have h1 : S ≠ S % 2 ^ n := by
    have := Nat.mod_lt S (Nat.two_pow_pos n)
    omega
  refine h1 (Nat.eq_of_testBit_eq (fun i => ?_))
  rw [Nat.testBit_mod_two_pow]
  cases e : S.testBit i with
  | false => simp
  | true =>
    have := h i e
    simp [this]
theorem zcost_mono {v : Nat → Nat} {S T : Nat} (h : ∀ k, S.testBit k = true → T.testBit k = true) : ∀ n, zcost v n S ≤ zcost v n T
  | 0 => Nat.le_refl _
  | n + 1 => by
    have h1 := zcost_mono (v := v) h n
    show zcost v n S + (if S.testBit n then v (10 + 5 * n + 2) else 0) ≤ zcost v n T + (if T.testBit n then v (10 + 5 * n + 2) else 0)
    by_cases e : S.testBit n = true
    · rw [if_pos e, if_pos (h n e)]
      omega
    · rw [if_neg e]
      omega
section ZL
variable {v : Nat → Nat} {q t p : Nat}
theorem zat_bit (s k : Nat) : (zat v s).testBit k = true ↔ k < v 1 ∧ v (10 + 5 * k + 3) = s := by
  unfold zat
  rw [zset_bit, Bool.and_eq_true, decide_eq_true_eq, beq_iff_eq]
theorem zcl_lt {S0 S : Nat} (H : zcl v q t p S0 S) (h : S0 < 2 ^ v 1) : S < 2 ^ v 1 := by
  exact H (fun S => S < 2 ^ v 1) h (fun S2 k ih b _ => z_or1b ih b)
theorem zcl_sub {S0 S : Nat} (H : zcl v q t p S0 S) : ∀ k, S.testBit k = true → S0.testBit k = true ∨ (zat v (zst v p t)).testBit k = true := by
  refine H (fun S => ∀ k, S.testBit k = true → S0.testBit k = true ∨ (zat v (zst v p t)).testBit k = true) (fun k h => Or.inl h) (fun S2 k ih b c => ?_)
  · intro j hj
    rw [Nat.testBit_or, zbit1, Bool.or_eq_true, decide_eq_true_eq] at hj
    rcases hj with h | rfl
    · exact ih j h
    · exact Or.inr c.1.1
theorem zcl_of {S0 S : Nat} (h1 : ∀ k, S0.testBit k = true → S.testBit k = true) (h2 : ∀ k, S.testBit k = true → k < v 1 ∧ (S0.testBit k = true ∨ (zat v (zst v p t)).testBit k = true)) (hc : zcost v (v 1) S ≤ q) : zcl v q t p S0 S := by
  have step : ∀ i, zcl v q t p S0 (S0 ||| S % 2 ^ i) := by
    intro i
    induction i with
    | zero =>
      have : S0 ||| S % 2 ^ 0 = S0 := by
        rw [Nat.pow_zero, Nat.mod_one, Nat.or_zero]
      rw [this]
      exact .rfl_ S0
    | succ i ih =>
      by_cases e : S.testBit i = true ∧ S0.testBit i = false
      · have e2 : S0 ||| S % 2 ^ (i + 1) = (S0 ||| S % 2 ^ i) ||| 1 <<< i := by
          refine Nat.eq_of_testBit_eq (fun j => ?_)
          rw [Nat.testBit_or, Nat.testBit_or, Nat.testBit_or, zbit1, Nat.testBit_mod_two_pow, Nat.testBit_mod_two_pow]
          by_cases ej : j = i
          · subst ej; simp [e.1]
          · have : (j < i + 1) ↔ (j < i) := by omega
            simp [ej, this]
        rw [e2]
        obtain ⟨h3, h4⟩ := h2 i e.1
        refine .step _ _ i ih h3 ⟨⟨h4.resolve_left (by rw [e.2]; decide), ?_⟩, ?_⟩
        · rw [Nat.testBit_or, e.2, Nat.testBit_mod_two_pow]
          simp
        · rw [← e2]
          refine Nat.le_trans (zcost_mono (fun k hk => ?_) _) hc
          rw [Nat.testBit_or, Bool.or_eq_true, Nat.testBit_mod_two_pow, Bool.and_eq_true] at hk
          rcases hk with hk | hk
          · exact h1 k hk
          · exact hk.2
      · have e2 : S0 ||| S % 2 ^ (i + 1) = S0 ||| S % 2 ^ i := by
          refine Nat.eq_of_testBit_eq (fun j => ?_)
          rw [Nat.testBit_or, Nat.testBit_or, Nat.testBit_mod_two_pow, Nat.testBit_mod_two_pow]
          by_cases ej : j = i
          · subst ej
            cases e3 : S.testBit j with
            | false => simp
            | true =>
              cases e4 : S0.testBit j with
              | true => simp
              | false => exact absurd ⟨e3, e4⟩ e
          · have : (j < i + 1) ↔ (j < i) := by omega
            simp [this]
        rw [e2]
        exact ih
  have e : S0 ||| S % 2 ^ v 1 = S := by
    refine Nat.eq_of_testBit_eq (fun j => ?_)
    rw [Nat.testBit_or, Nat.testBit_mod_two_pow]
    cases e3 : S.testBit j with
    | true => simp [(h2 j e3).1]
    | false =>
      cases e4 : S0.testBit j with
      | false => simp
      | true =>
        have := h1 j e4
        rw [e3] at this
        cases this
  have := step (v 1)
  rw [e] at this
  exact this
end ZL
section ZL
variable {v : Nat → Nat} {q s0 w : Nat}
theorem zB_iff (W : hf_wf v) (hs : s0 < v 0) : ∀ t p S, p < v 0 → ((∃ S0, S0 < 2 ^ v 1 ∧ zP v s0 w q t p S0 ∧ zcl v q (v 3 + t) p S0 S) ↔ S < 2 ^ v 1 ∧ zcost v (v 1) S ≤ q ∧ ∃ T, T < 256 ∧ zQ v s0 w t p T ∧ zsub v S T)
  | 0, p, S, hp => by
    have q0 := W.v0
    have hst := (z_st (v 3) hs).1
    have hk : 1 <<< zst v s0 (v 3) < 256 := by
      rw [Nat.one_shiftLeft]
      exact Nat.pow_lt_pow_right (n := 8) (by decide) (by omega)
    constructor
    · rintro ⟨S0, h1, ⟨rfl, rfl⟩, h3⟩
      refine ⟨zcl_lt h3 h1, zcl_cost h3 (by rw [zcost_0]; exact Nat.zero_le _), _, hk, ⟨rfl, rfl⟩, fun k hk2 hb => ?_⟩
      rcases zcl_sub h3 k hb with h4 | h4
      · rw [Nat.zero_testBit] at h4; cases h4
      · rw [zbit1, decide_eq_true_eq]
        exact ((zat_bit _ _).mp h4).2
    · rintro ⟨h1, h2, T, h3, ⟨rfl, rfl⟩, h4⟩
      refine ⟨0, Nat.two_pow_pos _, ⟨rfl, rfl⟩, zcl_of (fun k hk => ?_) (fun k hk2 => ⟨z_tb_lt h1 hk2, Or.inr ?_⟩) h2⟩
      · rw [Nat.zero_testBit] at hk; cases hk
      · have h5 := z_tb_lt h1 hk2
        have h6 := h4 k h5 hk2
        rw [zbit1, decide_eq_true_eq] at h6
        exact (zat_bit _ _).mpr ⟨h5, h6⟩
  | t + 1, p, S, hp => by
    have q0 := W.v0
    have hst := (z_st (v 3 + (t + 1)) hp).1
    constructor
    · rintro ⟨S0, h1, ⟨p', y, h2, h3, h4, h5, h6⟩, h7⟩
      obtain ⟨a1, a2, T', a3, a4, a5⟩ := (zB_iff W hs t p' S0 h2).mp h3
      refine ⟨zcl_lt h7 h1, zcl_cost h7 a2, _, z_or256 a3 (show zst v p (v 3 + (t + 1)) < 8 by omega), ⟨p', T', y, h2, a3, a4, h4, h5, h6, rfl⟩, fun k hk hb => ?_⟩
      rw [Nat.testBit_or, zbit1, Bool.or_eq_true, decide_eq_true_eq]
      rcases zcl_sub h7 k hb with h8 | h8
      · exact Or.inl (a5 k hk h8)
      · exact Or.inr ((zat_bit _ _).mp h8).2
    · rintro ⟨h1, h2, T, h3, ⟨p', T', y, b1, b2, b3, b4, b5, b6, rfl⟩, h5⟩
      have hbit : ∀ k, (zset (fun k => S.testBit k && T'.testBit (v (10 + 5 * k + 3))) (v 1)).testBit k = true ↔ k < v 1 ∧ S.testBit k = true ∧ T'.testBit (v (10 + 5 * k + 3)) = true := fun k => by
        rw [zset_bit, Bool.and_eq_true, decide_eq_true_eq, Bool.and_eq_true]
      refine ⟨zset (fun k => S.testBit k && T'.testBit (v (10 + 5 * k + 3))) (v 1), zset_lt _ _, ⟨p', y, b1, (zB_iff W hs t p' _ b1).mpr ⟨zset_lt _ _, ?_, T', b2, b3, fun k hk hb => ((hbit k).mp hb).2.2⟩, b4, b5, b6⟩, zcl_of (fun k hk => ((hbit k).mp hk).2.1) (fun k hk => ⟨z_tb_lt h1 hk, ?_⟩) h2⟩
      · exact Nat.le_trans (zcost_mono (fun k hk => ((hbit k).mp hk).2.1) _) h2
      · have h6 := z_tb_lt h1 hk
        have h7 := h5 k h6 hk
        rw [Nat.testBit_or, zbit1, Bool.or_eq_true, decide_eq_true_eq] at h7
        rcases h7 with h7 | h7
        · exact Or.inl ((hbit k).mpr ⟨h6, hk, h7⟩)
        · exact Or.inr ((zat_bit _ _).mpr ⟨h6, h7⟩)
theorem zR_iff (W : hf_wf v) (hs : s0 < v 0) (hw : w < 3) (t S : Nat) : (∃ p, p < v 0 ∧ zP v s0 w q (t + 1) p S) ↔ S < 2 ^ v 1 ∧ zcost v (v 1) S ≤ q ∧ ∃ p T, p < v 0 ∧ T < 256 ∧ zQ v s0 w t p T ∧ zsub v S T := by
  constructor
  · rintro ⟨p, h1, p', y, h2, h3, h4⟩
    obtain ⟨a1, a2, T, a3⟩ := (zB_iff W hs t p' S h2).mp h3
    exact ⟨a1, a2, p', T, h2, a3⟩
  · rintro ⟨h1, h2, p, T, h3, h4⟩
    exact ⟨zto v p w, Nat.mod_lt _ (by omega), p, w, h3, (zB_iff W hs t p S h3).mpr ⟨h1, h2, T, h4⟩, fun _ => rfl, hw, rfl⟩
theorem zQ_ex (W : hf_wf v) (hs : s0 < v 0) (hw : w < 3) : ∀ t, ∃ p T, p < v 0 ∧ T < 256 ∧ zQ v s0 w t p T
  | 0 => by
    have q0 := W.v0
    have hst := (z_st (v 3) hs).1
    refine ⟨s0, _, hs, ?_, rfl, rfl⟩
    rw [Nat.one_shiftLeft]
    exact Nat.pow_lt_pow_right (n := 8) (by decide) (by omega)
  | t + 1 => by
    have q0 := W.v0
    obtain ⟨p, T, h1, h2, h3⟩ := zQ_ex W hs hw t
    have hp : zto v p w < v 0 := Nat.mod_lt _ (by omega)
    have hst := (z_st (v 3 + (t + 1)) hp).1
    exact ⟨zto v p w, _, hp, z_or256 h2 (show zst v (zto v p w) (v 3 + (t + 1)) < 8 by omega), p, T, w, h1, h2, h3, fun _ => rfl, hw, rfl, rfl⟩
theorem zRM_iff {A : Nat → Nat} {t : Nat} (W : hf_wf v) (hA : ∀ j w, (A j).testBit w = true ↔ w < 3 ∧ ∃ p T, p < v 0 ∧ T < 256 ∧ j = zpl p T ∧ zQ v s0 w t p T) (S : Nat) : zRM v A q S w ↔ w < 3 ∧ zcost v (v 1) S ≤ q ∧ ∃ p T, p < v 0 ∧ T < 256 ∧ zQ v s0 w t p T ∧ zsub v S T := by
  have q0 := W.v0
  have hsub : ∀ T, (T &&& zstl v S (v 1) = zstl v S (v 1)) ↔ zsub v S T := fun T => by
    constructor
    · intro h k hk hb
      have h1 : (zstl v S (v 1)).testBit (v (10 + 5 * k + 3)) = true := (zstl_bit _ _).mpr ⟨k, hk, hb, rfl⟩
      rw [← h, Nat.testBit_and, Bool.and_eq_true] at h1
      exact h1.1
    · intro h
      refine Nat.eq_of_testBit_eq (fun i => ?_)
      rw [Nat.testBit_and]
      cases e : (zstl v S (v 1)).testBit i with
      | false => simp
      | true =>
        obtain ⟨k, k1, k2, k3⟩ := (zstl_bit _ _).mp e
        have := h k k1 k2
        rw [k3] at this
        simp [this]
  constructor
  · rintro ⟨h1, h2, j, h3, h4, h5⟩
    obtain ⟨_, p, T, h6, h7, rfl, h8⟩ := (hA _ _).mp h5
    have e : zpl p T % 256 = T := by unfold zpl; omega
    rw [e] at h4
    exact ⟨h2, h1, p, T, h6, h7, h8, (hsub T).mp h4⟩
  · rintro ⟨h1, h2, p, T, h3, h4, h5, h6⟩
    have e : zpl p T % 256 = T := by unfold zpl; omega
    exact ⟨h2, h1, zpl p T, by unfold zpl; omega, by rw [e]; exact (hsub T).mpr h6, (hA _ _).mpr ⟨h1, p, T, h3, h4, rfl, h5⟩⟩
theorem zsub_ats {S T : Nat} (hS : S < 2 ^ v 1) (hT : T < 256) (h : zsub v S T) : hf_nd S (zats v) = 0 := by
  refine Nat.eq_of_testBit_eq (fun i => ?_)
  rw [hf_nd_bit, Nat.zero_testBit]
  cases e : S.testBit i with
  | false => rfl
  | true =>
    have h1 := z_tb_lt hS e
    have h2 := z_tb_lt (n := 8) hT (h i h1 e)
    have : (zats v).testBit i = true := by
      unfold zats
      rw [zset_bit, Bool.and_eq_true, decide_eq_true_eq, decide_eq_true_eq]
      exact ⟨h1, by omega⟩
    rw [this]
    rfl
end ZL
section ZM
variable {V : hf_V} {v : Nat → Nat}
theorem m_walkL (Sv : hf_sv V v) (W : hf_wf v) (hA : ∀ s, s < 2 ^ v 1 → V.2.2.2.1 22 s = Int32.ofNat (zW v s)) {A : Nat → Nat} (NA : hf_na (V.2.2.2.1 27) A) {b : Nat} (hb : b < v 2) (h29 : V.1 29 = -1) {c : Int32} : ∃ V', lpX4_walk_118 hf_N (Int32.ofNat b) c (Int32.ofNat (zats v)) (Int32.ofNat 0) V = some (if c = 0 then V'.1 29 else if c = (1 : Int32) then V'.1 30 else V'.1 31, V') ∧ V'.2 = V.2 ∧ (∀ j, j ≠ 29 → j ≠ 30 → j ≠ 31 → V'.1 j = V.1 j) ∧ zbsm (fun w S => S < 2 ^ v 1 ∧ hf_nd S (zats v) = 0 ∧ zRM v A (v (70 + 4 * b)) S w) (zval v (zhas v b) (v (70 + 4 * b))) V' := by
  have q0 := W.v0
  have q1 := W.v1
  obtain ⟨p1, p2, p3⟩ := zpow12 q1
  refine hf_loopR (fun n i Y => lpX4_walk_118 n (Int32.ofNat b) c (Int32.ofNat (zats v)) (Int32.ofNat i) Y) (fun i Y => Y.2 = V.2 ∧ (∀ j, j ≠ 29 → j ≠ 30 → j ≠ 31 → Y.1 j = V.1 j) ∧ zbsm (fun w S => S < i ∧ hf_nd S (zats v) = 0 ∧ zRM v A (v (70 + 4 * b)) S w) (zval v (zhas v b) (v (70 + 4 * b))) Y) (2 ^ v 1) (fun r => ∃ V', r = some (if c = 0 then V'.1 29 else if c = (1 : Int32) then V'.1 30 else V'.1 31, V') ∧ V'.2 = V.2 ∧ (∀ j, j ≠ 29 → j ≠ 30 → j ≠ 31 → V'.1 j = V.1 j) ∧ zbsm (fun w S => S < 2 ^ v 1 ∧ hf_nd S (zats v) = 0 ∧ zRM v A (v (70 + 4 * b)) S w) (zval v (zhas v b) (v (70 + 4 * b))) V') (fun i n Y hi hP => ?_) (fun n Y hP => ?_) V ⟨rfl, fun _ _ _ _ => rfl, Or.inl ⟨fun w S h => by omega, h29⟩⟩ (fuel := hf_N) (by unfold hf_N; omega)
  · obtain ⟨z1, z2, z3⟩ := hP
    have SY : hf_sv Y v := fun k => by rw [z1]; exact Sv k
    have hnd : hf_nd i (zats v) < 2147483648 := Nat.lt_of_le_of_lt (hf_nd_le _ _) (by omega)
    by_cases hz : hf_nd i (zats v) = 0
    · obtain ⟨Y', y1, y2, y3, y4⟩ := m_offers SY W (fun s hs => by rw [z1]; exact hA s hs) (A := A) (by rw [z1]; exact NA) hb hi (fun k hk hbt => by
        have h1 : (hf_nd i (zats v)).testBit k = false := by rw [hz, Nat.zero_testBit]
        rw [hf_nd_bit, hbt, Bool.true_and] at h1
        have h2 : (zats v).testBit k = true := by
          cases e : (zats v).testBit k with
          | true => rfl
          | false => rw [e] at h1; cases h1
        unfold zats at h2
        rw [zset_bit, Bool.and_eq_true, decide_eq_true_eq, decide_eq_true_eq] at h2
        have := (W.2.1 k hk).2.2.2.2.1
        omega) (fun w s h => h.1) z3
      refine ⟨Y', ?_, y2.trans z1, fun j a b c => (y3 j a b c).trans (z2 j a b c), y4.congr (fun w S => ⟨?_, ?_⟩)⟩
      · show ndX4_walk_118 (lpX4_walk_118 n) _ _ _ _ _ = _
        unfold ndX4_walk_118 ndX4_walk_148
        rw [SY.l1, Option.bind_some, z_sh1 (by omega), p1, if_neg (z_nle hi (by omega)), z_nd, if_pos (by rw [hz]; rfl), y1, Option.bind_some, hf_let_eq, z_lit 1, z_add]
      · rintro (⟨h1, h2⟩ | ⟨rfl, h⟩)
        · exact ⟨by omega, h2⟩
        · exact ⟨by omega, hz, h⟩
      · rintro ⟨h1, h2, h3⟩
        by_cases e : S = i
        · subst e; exact Or.inr ⟨rfl, h3⟩
        · exact Or.inl ⟨by omega, h2, h3⟩
    · refine ⟨Y, ?_, z1, z2, z3.congr (fun w S => ⟨fun ⟨h1, h2⟩ => ⟨by omega, h2⟩, fun ⟨h1, h2, h3⟩ => ?_⟩)⟩
      · show ndX4_walk_118 (lpX4_walk_118 n) _ _ _ _ _ = _
        unfold ndX4_walk_118 ndX4_walk_148
        have hne : ¬ (Int32.ofNat (hf_nd i (zats v)) = 0) := fun z => hz ((z_eq (b := 0) hnd (by decide)).mp z)
        rw [SY.l1, Option.bind_some, z_sh1 (by omega), p1, if_neg (z_nle hi (by omega)), z_nd, if_neg hne, hf_let_eq, z_lit 1, z_add]
      · by_cases e : S = i
        · subst e; exact absurd h2 hz
        · exact ⟨by omega, h2, h3⟩
  · obtain ⟨z1, z2, z3⟩ := hP
    have SY : hf_sv Y v := fun k => by rw [z1]; exact Sv k
    refine ⟨Y, ?_, z1, z2, z3⟩
    show ndX4_walk_118 (lpX4_walk_118 n) _ _ _ _ _ = _
    unfold ndX4_walk_118
    rw [SY.l1, Option.bind_some, z_sh1 (by omega), p1, if_pos (z_yle (Nat.le_refl _) (by omega))]
    by_cases e : c = 0
    · rw [if_pos e, if_pos e]
    · rw [if_neg e, if_neg e]
      by_cases e1 : c = (1 : Int32)
      · rw [if_pos e1, if_pos e1]
      · rw [if_neg e1, if_neg e1]
end ZM
set_option maxRecDepth 100000
set_option maxHeartbeats 1000000
/-! walk -/
section ZI
variable {P : Nat} {g : hf_H} {o f st kp rl rd : Nat} {V XV : hf_V} {ps ik sk : Nat → Nat} {v : Nat → Nat}
theorem hf_vz.mz {A B : hf_V} (H : hf_vz A B) : hf_mz A B := ⟨fun k _ => by rw [H.1], fun k _ h2 h3 _ => H.2 k h2 h3⟩
theorem op_walk (J : hf_INV P g o V) (a c : Int32) : hf_OPr P g o (spX0_walk o a c g) (spX4_walk a c V) := by
  obtain ⟨XV, f, st, kp, rl, rd, ps, ik, sk, v, I⟩ := J
  have q0 := I.W.v0
  have q1 := I.W.v1
  have q2 := I.W.v2
  have q3 := I.W.v3
  have q6 := I.W.v6
  obtain ⟨p1, p2, p3⟩ := zpow12 q1
  have m3 : ∀ x : Int32, spX4_in x.toInt64 (0 : Int64) (2 : Int64) = some (if zin x 3 then Int32.ofNat 1 else Int32.ofNat 0) := fun x => m_inl x (n := 2) (by decide)
  have x3 : spX0_in c.toInt64 (0 : Int64) (2 : Int64) = some (if zin c 3 then Int32.ofNat 1 else Int32.ofNat 0) := m3 c
  unfold spX0_walk spX4_walk
  rw [I.X.ob, x_isBuyer I.X I.F I.W, hf_b2_some, m_isBuyerZ I.sv, hf_b2_some]
  by_cases hz : zin a (v 2)
  case neg =>
    rw [z1F hz, z1F hz]
    exact I.same _
  obtain ⟨b, hb, rfl⟩ := zin_ex hz (by omega)
  rw [z1T hz, z1T hz, x3, Option.bind_some, m3, Option.bind_some]
  by_cases hc : zin c 3
  case neg =>
    rw [z1F hc, z1F hc]
    exact I.same _
  obtain ⟨k, hk, rfl⟩ := zin_ex hc (by decide)
  have h0 : 0 < v 0 := by
    refine Nat.pos_of_ne_zero (fun e => ?_)
    have := I.W.1.2.2.2.2.2.2.2.2.2 e
    omega
  have hmh : (hf_b2 (spX4_isDusk V) fun x5 V4 => if x5 = 0 then ((hf_ld 123 (V4.2.2.2.1 20) (6 : Int32)).bind fun x6 => (hf_ld 123 (V4.2.2.2.1 20) (3 : Int32)).bind fun x7 => ndX4_walk_48 (Int32.ofNat b) (Int32.ofNat k) (x6 - x7) V4) else ndX4_walk_48 (Int32.ofNat b) (Int32.ofNat k) (0 : Int32) V4) = ndX4_walk_48 (Int32.ofNat b) (Int32.ofNat k) (Int32.ofNat (zleft v)) V := by
    rw [m_isDusk I.sv, hf_b2_some]
    by_cases e : v 3 < v 6
    · rw [if_pos e, if_pos (show Int32.ofNat 0 = 0 from rfl), I.sv.l6, Option.bind_some, I.sv.l3, Option.bind_some, z_sub (by omega)]
      rfl
    · rw [if_neg e, if_neg (show ¬ (Int32.ofNat 1 = 0) by decide)]
      have : zleft v = 0 := by unfold zleft; omega
      rw [this]
      rfl
  rw [z1T hc, z1T hc, hmh, I.X.fa, Option.bind_some, I.X.st, Option.bind_some, I.S.now, Option.bind_some, I.F.ob, x_left I.F I.W h0, hf_b2_some]
  have hzl : zleft v ≤ 24 := by unfold zleft; omega
  unfold ndX4_walk_48
  by_cases h12 : zleft v ≤ 12
  case neg =>
    rw [if_neg (show ¬ (Int32.ofNat (zleft v) ≤ (12 : Int32)) from z_nle (b := 12) (by omega) (by omega)), if_neg (show ¬ (Int32.ofNat (zleft v) ≤ (12 : Int32)) from z_nle (b := 12) (by omega) (by omega))]
    exact I.same _
  rw [if_pos (show (Int32.ofNat (zleft v) ≤ (12 : Int32)) from z_yle (b := 12) h12 (by decide)), if_pos (show (Int32.ofNat (zleft v) ≤ (12 : Int32)) from z_yle (b := 12) h12 (by decide)), I.X.ob]
  obtain ⟨XV1, x1, I1, xw⟩ := I.fills
  obtain ⟨XV2, hXV2⟩ : ∃ X, X = hf_ui XV1 19 (-1) := ⟨_, rfl⟩
  have hg2 : hf_up (hf_xc g o XV1) o (.inl (1, 0, hf_ui XV1 19 (-1))) = hf_xc g o XV2 := by
    rw [hXV2]
    unfold hf_xc
    rw [hf_up_up]
  rw [x1, Option.bind_some, hf_pi_eq (hf_ob_xc g o XV1), Option.bind_some, hg2]
  have hA1 : ∀ s, s < 2 ^ v 1 → XV1.2.2.2.1 12 s = Int32.ofNat (zW v s) := fun s hs => by
    have := xw s hs
    rw [hf_ai_eq (hf_ob_xc g o XV1), z_ld (by omega) (by omega)] at this
    exact Option.some.inj this
  have hA2 : ∀ s, s < 2 ^ v 1 → XV2.2.2.2.1 12 s = Int32.ofNat (zW v s) := fun s hs => by
    rw [hXV2]
    exact hA1 s hs
  have xz12 : hf_xz XV1 XV2 := by
    rw [hXV2]
    exact ⟨rfl, fun k hk => hf_ui_ne _ (by omega) _, fun _ _ => rfl, rfl⟩
  have xz1 : hf_xz XV XV2 := by
    obtain ⟨y1, y2, y3, y4⟩ := xz12
    obtain ⟨a1, a2, a3, a4, -⟩ := I.1
    have hs := x_fillsWorths I.X I.F I.W I.e
    rw [x1] at hs
    have h1 := Option.some.inj hs
    have h2 := hf_ob_xc g o XV1
    rw [h1] at h2
    have h3 := h2.symm.trans (hf_ob_xc g o _)
    have h4 := Option.some.inj h3
    rw [h4] at y1 y2 y3 y4
    exact ⟨y1, y2, fun k hk => (y3 k hk).trans (hf_sa_ne XV (by omega) _), y4⟩
  have I2 : hf_I P (hf_xc g o XV2) o V XV2 f st kp rl rd ps ik sk v := I.xc xz1 (hf_mz.rfl_ V) I.sv
  have hq := (I.W.2.2.1 b hb).1
  have hsp := (I.W.2.2.1 b hb).2.1
  have wr := fun s => zW_le (v := v) s q1
  -- reading the answer
  have hread : ∀ Y, ndX0_walk_119 o (Int32.ofNat k) (hf_xc g o Y) = some (if k = 0 then Y.1 19 else if k = 1 then Y.1 20 else Y.1 21, hf_xc g o Y) := fun Y => by
    unfold ndX0_walk_119
    have eY := hf_ob_xc g o Y
    rw [hf_gi_eq eY, hf_gi_eq eY, hf_gi_eq eY, Option.bind_some, Option.bind_some, Option.bind_some]
    by_cases e0 : k = 0
    · rw [if_pos e0, if_pos (by rw [e0]; rfl)]
    · have n0 : ¬ (Int32.ofNat k = 0) := fun z => e0 ((z_eq (b := 0) (by omega) (by decide)).mp z)
      rw [if_neg e0, if_neg n0]
      by_cases e1 : k = 1
      · rw [if_pos e1, if_pos (by rw [e1]; rfl)]
      · have n1 : ¬ (Int32.ofNat k = 1) := fun z => e1 ((z_eq (b := 1) (by omega) (by decide)).mp z)
        rw [if_neg e1, if_neg n1]
  by_cases hz0 : zleft v = 0
  · have e0 : Int32.ofNat (zleft v) = 0 := by rw [hz0]; rfl
    have hm0 : spX4_buyerOf (Int32.ofNat b) (0 : Int32) V = some (Int32.ofNat (v (70 + 4 * b)), V) := m_buyer0 I.sv (by omega)
    have o2 : ∀ (Z : hf_V), hf_ob 1 0 (hf_up (hf_xc g o XV2) o (.inl (1, 0, Z))) o = some Z := fun Z => hf_ob_up _ o 1 0 Z
    have hx19 : XV2.1 19 = -1 := by rw [hXV2, hf_ui_at]
    have hh := zhas_lt2 v b
    rw [if_pos e0, if_pos e0, I2.X.ob, I2.X.st, Option.bind_some, I2.X.fa, Option.bind_some, I2.S.ob, x_halvesOf I2.F I2.S I2.W (by omega), hf_b2_some, hf_ai_eq I2.e, z_ld (by omega) (by omega), hA2 _ hh, Option.bind_some, I2.X.st, Option.bind_some, I2.S.ob, I2.S.purse hb q2, Option.bind_some, I2.X.ob, z_add]
    unfold spX0_comes
    have hwr := wr (zhas v b)
    rw [hf_gi_eq I2.e, Option.bind_some, hx19, if_neg (zb_m1 (by omega)), hf_pi_eq I2.e, Option.bind_some, hf_pi_eq (o2 _), Option.bind_some, hf_up_up, hf_pi_eq (o2 _), Option.bind_some, hf_up_up, Option.bind_some]
    obtain ⟨Y, hY⟩ : ∃ Y, Y = hf_ui (hf_ui (hf_ui XV2 19 (Int32.ofNat (zW v (zhas v b) + v (70 + 4 * b)))) 20 (-2)) 21 0 := ⟨_, rfl⟩
    have hgY : hf_up (hf_xc g o XV2) o (.inl (1, 0, hf_ui (hf_ui (hf_ui XV2 19 (Int32.ofNat (zW v (zhas v b) + v (70 + 4 * b)))) 20 (-2)) 21 0)) = hf_xc g o Y := by
      rw [hY]
      unfold hf_xc
      rw [hf_up_up]
    have xzY : hf_xz XV Y := by
      obtain ⟨y1, y2, y3, y4⟩ := xz1
      rw [hY]
      exact ⟨y1, fun k hk => by rw [hf_ui_ne _ (by omega), hf_ui_ne _ (by omega), hf_ui_ne _ (by omega)]; exact y2 k hk, y3, y4⟩
    have y19 : Y.1 19 = Int32.ofNat (zW v (zhas v b) + v (70 + 4 * b)) := by rw [hY, hf_ui_ne _ (by decide), hf_ui_ne _ (by decide), hf_ui_at]
    have y20 : Y.1 20 = -2 := by rw [hY, hf_ui_ne _ (by decide), hf_ui_at]
    have y21 : Y.1 21 = 0 := by rw [hY, hf_ui_at]
    rw [hgY, hread, y19, y20, y21]
    have IY := I.xc xzY (hf_mz.rfl_ V) I.sv
    refine ⟨_, _, V, rfl, ?_, IY.inv, I.fk Y⟩
    by_cases ek0 : k = 0
    · rw [if_pos ek0, if_pos (by rw [ek0]; rfl), m_hasOf I.sv q1 (by omega), hf_b2_some, I.mw hh, Option.bind_some, hm0, hf_b2_some, z_add]
    · have n0 : ¬ (Int32.ofNat k = 0) := fun z => ek0 ((z_eq (b := 0) (by omega) (by decide)).mp z)
      rw [if_neg ek0, if_neg n0]
      by_cases ek1 : k = 1
      · rw [if_pos ek1, if_pos (by rw [ek1]; rfl)]
      · have n1 : ¬ (Int32.ofNat k = 1) := fun z => ek1 ((z_eq (b := 1) (by omega) (by decide)).mp z)
        rw [if_neg ek1, if_neg n1]
  have n0 : ¬ (Int32.ofNat (zleft v) = 0) := fun z => hz0 ((z_eq (b := 0) (by omega) (by decide)).mp z)
  obtain ⟨H, hH⟩ : ∃ H, zleft v = H + 1 := ⟨zleft v - 1, by omega⟩
  rw [if_neg n0, if_neg n0]
  -- the model
  obtain ⟨B, A, b1, b2, b3, b4⟩ := m_walksTill I.sv I.W h0 hb (H := H) (by omega)
  have S1 := b2.sv I.sv
  have S2 : hf_sv (hf_ui B 29 (-1)) v := S1.ui_ 29 _
  obtain ⟨V', w1, w2, w3, w4⟩ := m_walkL S2 I.W (fun s hs => by
    show B.2.2.2.1 22 s = _
    rw [b2.2 22 (by decide) (by decide)]
    exact (I.2.2.2.2.1 s hs).1) (A := A) b3 hb (hf_ui_at B 29 (-1)) (c := Int32.ofNat k)
  have w1' : lpX4_walk_118 hf_N (Int32.ofNat b) (Int32.ofNat k) (Int32.ofNat (zats v)) (0 : Int32) (hf_ui B 29 (-1)) = _ := w1
  rw [hH, b1, Option.bind_some, hf_let_eq, m_atStalls S2 q1, hf_b2_some, w1']
  -- HalfFair
  have key : ∃ Y, lpX0_walk_100 hf_N o (Int32.ofNat b) (Int32.ofNat k) (zway 0) (hf_xc g o XV2) = some (if k = 0 then Y.1 19 else if k = 1 then Y.1 20 else Y.1 21, hf_xc g o Y) ∧ hf_wy XV2 Y ∧ zbst (fun a S => a < 3 ∧ S < 2 ^ v 1 ∧ ∃ p, p < v 0 ∧ zP v (v (70 + 4 * b + 1)) a (v (70 + 4 * b)) (zleft v) p S) (zval v (zhas v b) (v (70 + 4 * b))) Y := by
    refine hf_loopR (fun n i Y => lpX0_walk_100 n o (Int32.ofNat b) (Int32.ofNat k) (zway i) (hf_xc g o Y)) (fun i Y => hf_wy XV2 Y ∧ zbst (fun a S => a < i ∧ S < 2 ^ v 1 ∧ ∃ p, p < v 0 ∧ zP v (v (70 + 4 * b + 1)) a (v (70 + 4 * b)) (zleft v) p S) (zval v (zhas v b) (v (70 + 4 * b))) Y) 3 (fun r => ∃ Y, r = some (if k = 0 then Y.1 19 else if k = 1 then Y.1 20 else Y.1 21, hf_xc g o Y) ∧ hf_wy XV2 Y ∧ zbst (fun a S => a < 3 ∧ S < 2 ^ v 1 ∧ ∃ p, p < v 0 ∧ zP v (v (70 + 4 * b + 1)) a (v (70 + 4 * b)) (zleft v) p S) (zval v (zhas v b) (v (70 + 4 * b))) Y) (fun i n Y hi hP => ?_) (fun n Y hP => ?_) XV2 ⟨hf_wy.rfl_ XV2, Or.inl ⟨fun w S h => by omega, by rw [hXV2, hf_ui_at]⟩⟩ (fuel := hf_N) (by unfold hf_N; omega)
    · obtain ⟨z1, z2⟩ := hP
      have IY : hf_I P (hf_xc g o Y) o V Y f st kp rl rd ps ik sk v := by
        have := I2.xc z1.xz (hf_mz.rfl_ V) I.sv
        rw [hf_xc_xc] at this
        exact this
      obtain ⟨Y', y1, y2, y3⟩ := x_walksBy IY.e IY.X IY.F IY.S IY.W h0 hb hi h12 (fun s hs => by rw [z1.2.2.2 12 (by decide) (by decide)]; exact hA2 s hs) z2
      rw [hf_xc_xc] at y1
      refine ⟨Y', ?_, z1.trans y2, y3.congr (fun w S => ⟨?_, ?_⟩)⟩
      · show ndX0_walk_100 (lpX0_walk_100 n) _ _ _ _ _ = _
        unfold ndX0_walk_100
        rw [if_neg (show ¬ (1 : Int32) < zway i from by
          have : (1 : Int32) = zway 2 := by decide
          rw [this, zway_lt _ (by omega) _ (by omega)]
          omega), IY.X.ob, y1, Option.bind_some, hf_let_eq, zway_s _ (by omega)]
      · rintro (⟨h1, h2⟩ | ⟨rfl, h2⟩)
        · exact ⟨by omega, h2⟩
        · exact ⟨by omega, h2⟩
      · rintro ⟨h1, h2⟩
        by_cases e : w = i
        · exact Or.inr ⟨e, by rw [← e]; exact h2⟩
        · exact Or.inl ⟨by omega, h2⟩
    · obtain ⟨z1, z2⟩ := hP
      refine ⟨Y, ?_, z1, z2⟩
      show ndX0_walk_100 (lpX0_walk_100 n) _ _ _ _ _ = _
      unfold ndX0_walk_100
      rw [if_pos (show (1 : Int32) < zway 3 by decide)]
      exact hread Y
  obtain ⟨Y, y1, y2, y3⟩ := key
  have y1' : lpX0_walk_100 hf_N o (Int32.ofNat b) (Int32.ofNat k) (-1 : Int32) (hf_xc g o XV2) = _ := y1
  rw [y1']
  -- both alike
  have hiff : ∀ w S, (w < 3 ∧ S < 2 ^ v 1 ∧ ∃ p, p < v 0 ∧ zP v (v (70 + 4 * b + 1)) w (v (70 + 4 * b)) (zleft v) p S) ↔ (S < 2 ^ v 1 ∧ hf_nd S (zats v) = 0 ∧ zRM v A (v (70 + 4 * b)) S w) := fun w S => by
    rw [zRM_iff I.W b4, hH]
    constructor
    · rintro ⟨h1, h2, h3⟩
      obtain ⟨_, h4, p, T, h5, h6, h7, h8⟩ := (zR_iff I.W hsp h1 H S).mp h3
      exact ⟨h2, zsub_ats h2 h6 h8, h1, h4, p, T, h5, h6, h7, h8⟩
    · rintro ⟨h1, _, h2, h3, h4⟩
      exact ⟨h2, h1, (zR_iff I.W hsp h2 H S).mpr ⟨h1, h3, h4⟩⟩
  have ans : (if k = 0 then Y.1 19 else if k = 1 then Y.1 20 else Y.1 21) = (if Int32.ofNat k = 0 then V'.1 29 else if Int32.ofNat k = (1 : Int32) then V'.1 30 else V'.1 31) := by
    have y3' := y3.congr hiff
    obtain ⟨pe, Te, e1, e2, e3⟩ := zQ_ex (w := 0) I.W hsp (by decide) H
    have hne : (0 : Nat) < 2 ^ v 1 ∧ hf_nd 0 (zats v) = 0 ∧ zRM v A (v (70 + 4 * b)) 0 0 := by
      have h4 : zsub v 0 Te := fun k _ h => by
        rw [Nat.zero_testBit] at h
        cases h
      exact ⟨p3, zsub_ats p3 e2 h4, (zRM_iff I.W b4 0).mpr ⟨by decide, by rw [zcost_0]; exact Nat.zero_le _, pe, Te, e1, e2, e3, h4⟩⟩
    rcases y3' with ⟨d1, _⟩ | ⟨x, w, s, d1, d2, d3, _, _, _, d4⟩
    · exact absurd hne (d1 0 0)
    rcases w4 with ⟨c1, _⟩ | ⟨x', w', s', c1, c2, c3, _, _, _, c4⟩
    · exact absurd hne (c1 0 0)
    obtain ⟨rfl, rfl, rfl⟩ := d4.uq c4
    rw [d1, d2, d3, c1, c2, c3]
    by_cases ek0 : k = 0
    · rw [if_pos ek0, if_pos (by rw [ek0]; rfl)]
    · have n0 : ¬ (Int32.ofNat k = 0) := fun z => ek0 ((z_eq (b := 0) (by omega) (by decide)).mp z)
      rw [if_neg ek0, if_neg n0]
      by_cases ek1 : k = 1
      · rw [if_pos ek1, if_pos (by rw [ek1]; rfl)]
      · have n1 : ¬ (Int32.ofNat k = 1) := fun z => ek1 ((z_eq (b := 1) (by omega) (by decide)).mp z)
        rw [if_neg ek1, if_neg n1]
  have mzV : hf_mz V V' := by
    have h1 := b2.mz
    refine ⟨fun j hj => ?_, fun j j1 j2 j3 j4 => ?_⟩
    · rw [w3 j (by omega) (by omega) (by omega), hf_ui_ne _ (by omega)]
      exact h1.1 j hj
    · rw [w2]
      exact h1.2 j j1 j2 j3 j4
  have svV : hf_sv V' v := fun j => by
    rw [w2]
    exact S1 j
  have IY := I2.xc y2.xz mzV svV
  rw [hf_xc_xc] at IY
  rw [ans]
  exact ⟨_, hf_xc g o Y, V', rfl, rfl, IY.inv, I.fk Y⟩
end ZI
