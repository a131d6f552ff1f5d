set_option maxRecDepth 100000
set_option maxHeartbeats 1000000
/-! texts: words and numbers, HalfFair -/
section ZX
variable {g : hf_H} {pa o : Nat} {PV : hf_V} {B : Nat → Nat} {T a : Nat} {gs : hf_gs} {l : Nat} {W : List Nat}
theorem hf_sr.pc (H : hf_sr g l W) (P : hf_px g pa o PV B T) (PV' : hf_V) : hf_sr (hf_pc g pa PV') l W := by
  obtain ⟨v, x, y, f, h1, h2, h3⟩ := H
  have e := hf_ob_spec P.2.1
  have n1 : l ≠ pa := fun z => by
    subst z
    rw [h1] at e
    cases e
  have n2 : v ≠ pa := fun z => by
    subst z
    rw [h2] at e
    cases e
  refine ⟨v, x, y, f, ?_, ?_, h3⟩
  · unfold hf_pc hf_up
    simp only [if_neg n1]
    exact h1
  · unfold hf_pc hf_up
    simp only [if_neg n2]
    exact h2
theorem x_w71 (P : hf_px g pa o PV B T) (S : hf_sr g l W) (hW : zwok W) (h1 : PV.1 1 = Int32.ofNat a) (ha : a + W.length ≤ 400) : ∀ n k fuel, W.length - k = n → k ≤ W.length → (∀ j, j < k → B (a + j) = W.getD j 0) → n < fuel → lpX5_isWord_71 gs fuel pa l (1 : Int32) (Int32.ofNat k) g = some (if ∀ j, j < W.length → B (a + j) = W.getD j 0 then 1 else 0, g)
  | n, k, 0, _, _, _, hf => by omega
  | n, k, fuel + 1, hn, hk, hp, hf => by
    have hw := hW.2.1
    show ndX5_isWord_71 gs (lpX5_isWord_71 gs fuel) pa l 1 (Int32.ofNat k) g = _
    unfold ndX5_isWord_71 ndX5_isWord_113
    rw [S.stb, x_len S (by omega), hf_b2_some]
    by_cases e : k < W.length
    · have hc := hW.2.2 k e
      have a1 : Int32.ofNat a + Int32.ofNat k = Int32.ofNat (a + k) := z_add a k
      have a2 : Int32.ofNat k + (1 : Int32) = Int32.ofNat (k + 1) := z_add k 1
      rw [if_neg (z_nle e (by omega)), if_neg (by decide), P.gio, Option.bind_some, P.oob, P.gi, Option.bind_some, h1, a1, P.tape (by omega), Option.bind_some, S.stb, x_charAt S (by omega) e (by omega), hf_b2_some, hf_let_eq, hf_let_eq, a2]
      have hb := P.b (k := a + k) (by omega)
      have hz : zbyt (B (a + k)) = Int32.ofNat (W.getD k 0) ↔ B (a + k) = W.getD k 0 := by
        by_cases h128 : B (a + k) < 128
        · rw [zbyt_small _ h128, z_eq (by omega) (by omega)]
        · refine ⟨fun z => ?_, fun z => by omega⟩
          exfalso
          have key : ∀ n, n < 256 → 128 ≤ n → ¬ ((97 : Int32) ≤ zbyt n) := by decide
          refine key _ hb (by omega) ?_
          rw [z]
          exact z_yle (a := 97) hc.1 (by omega)
      by_cases ez : B (a + k) = W.getD k 0
      · rw [if_pos (hz.mpr ez)]
        exact x_w71 P S hW h1 ha (n - 1) (k + 1) fuel (by omega) (by omega) (fun j hj => by
          by_cases ej : j = k
          · subst ej; exact ez
          · exact hp j (by omega)) (by omega)
      · rw [if_neg (fun z => ez (hz.mp z)), if_neg (fun z => ez (z k e))]
        cases fuel with
        | zero => omega
        | succ fuel =>
          show ndX5_isWord_71 gs (lpX5_isWord_71 gs fuel) pa l 0 (Int32.ofNat (k + 1)) g = _
          unfold ndX5_isWord_71
          rw [S.stb, x_len S (by omega), hf_b2_some, if_pos (Or.inl rfl), if_pos rfl, ite_self]
    · have ek : k = W.length := by omega
      subst ek
      rw [if_pos (z_yle (Nat.le_refl _) (by omega)), if_pos (Or.inr rfl), if_pos hp]
theorem x_w71b (P : hf_px g pa o PV B T) (S : hf_sr g l W) (hW : zwok W) : lpX5_isWord_71 gs hf_N pa l (0 : Int32) (0 : Int32) g = some (0, g) := by
  have hw := hW.2.1
  have hN : hf_N = 4294967295 + 1 := rfl
  rw [hN]
  show ndX5_isWord_71 gs (lpX5_isWord_71 gs 4294967295) pa l 0 0 g = _
  unfold ndX5_isWord_71
  rw [S.stb, x_len S (by omega), hf_b2_some, if_pos (Or.inl rfl), if_pos rfl, ite_self]
theorem x_isWordL (P : hf_px g pa o PV B T) (S : hf_sr g l W) (hW : zwok W) (h1 : PV.1 1 = Int32.ofNat a) (ha : a ≤ T) : ∀ n q fuel, T - q = n → a ≤ q → q ≤ zwe B T a → n < fuel → lpX5_isWord_10 gs fuel pa l (Int32.ofNat q) g = some (Int32.ofNat (if zwe B T a - a = W.length ∧ ∀ k, k < W.length → B (a + k) = W.getD k 0 then 1 else 0), g)
  | n, q, 0, _, _, _, hf => by omega
  | n, q, fuel + 1, hn, hq1, hq2, hf => by
    have hT := P.T4
    have hw := hW.2.1
    obtain ⟨w1, w2⟩ := zwe_le (B := B) (T := T) ha
    obtain ⟨i1, i2⟩ := zwe_in (B := B) (T - a) a rfl ha
    have end_ : q = zwe B T a → ndX5_isWord_49 gs pa l (Int32.ofNat q) g = some (Int32.ofNat (if zwe B T a - a = W.length ∧ ∀ k, k < W.length → B (a + k) = W.getD k 0 then 1 else 0), g) := by
      intro eq
      unfold ndX5_isWord_49 ndX5_isWord_67
      rw [P.gi, Option.bind_some, S.stb, x_len S (by omega), hf_b2_some, h1, z_sub hq1]
      by_cases el : q - a = W.length
      · rw [if_pos (by rw [el])]
        have key := x_w71 (gs := gs) P S hW h1 (by omega) _ 0 hf_N rfl (Nat.zero_le _) (fun j hj => by omega) (by unfold hf_N; omega)
        refine (show _ = _ from key).trans ?_
        by_cases ea : ∀ j, j < W.length → B (a + j) = W.getD j 0
        · rw [if_pos ea, if_pos ⟨by omega, ea⟩]; rfl
        · rw [if_neg ea, if_neg (fun z => ea z.2)]; rfl
      · rw [if_neg (fun z => el ((z_eq (by omega) (by omega)).mp z)), x_w71b P S hW, if_neg (fun z => el (by omega))]
        rfl
    show ndX5_isWord_10 gs (lpX5_isWord_10 gs fuel) pa l (Int32.ofNat q) g = _
    unfold ndX5_isWord_10
    have a2 : Int32.ofNat q + (1 : Int32) = Int32.ofNat (q + 1) := z_add q 1
    rw [P.gio, Option.bind_some, P.tm, Option.bind_some]
    by_cases e : q < T
    · rw [if_neg (z_nle e (by omega)), Option.bind_some, P.oob, P.tape (by omega), Option.bind_some, z_in97 _ (P.b (by omega)), Option.bind_some]
      by_cases el : 97 ≤ B q ∧ B q ≤ 122
      · have : q < zwe B T a := by
          refine Nat.lt_of_le_of_ne hq2 (fun z => ?_)
          rw [← z] at i2
          exact i2 ⟨e, el⟩
        rw [if_pos el, if_neg (by decide), hf_let_eq, a2]
        exact x_isWordL P S hW h1 ha (n - 1) (q + 1) fuel (by omega) (by omega) (by omega) (by omega)
      · rw [if_neg el, if_pos rfl]
        refine end_ (Nat.le_antisymm hq2 (Nat.le_of_not_lt (fun z => ?_)))
        exact el (i1 q hq1 z).2
    · rw [if_pos (z_yle (by omega) (by omega))]
      exact end_ (by omega)
theorem x_isWord (P : hf_px g pa o PV B T) (S : hf_sr g l W) (hW : zwok W) (h1 : PV.1 1 = Int32.ofNat a) (ha : a ≤ T) : spX5_isWord gs pa l g = some (Int32.ofNat (if zis B T a W then 1 else 0), hf_pc g pa (hf_ui PV 1 (Int32.ofNat (zsk B T a)))) := by
  have hT := P.T4
  obtain ⟨s1, s2⟩ := zsk_le (B := B) ha
  obtain ⟨w1, w2⟩ := zwe_le (B := B) (T := T) s2
  have P' := P.pc (PV' := hf_ui PV 1 (Int32.ofNat (zsk B T a))) rfl
  unfold spX5_isWord
  rw [P.pob, x_next P h1 ha, hf_b2_some, P'.gi, Option.bind_some, hf_ui_at]
  have key := x_isWordL (gs := gs) P' (S.pc P _) hW (hf_ui_at _ _ _) s2 _ (zsk B T a) hf_N rfl (Nat.le_refl _) w1 (by unfold hf_N; omega)
  rw [key]
  have hz : (zwe B T (zsk B T a) - zsk B T a = W.length ∧ ∀ k, k < W.length → B (zsk B T a + k) = W.getD k 0) ↔ zis B T a W := ⟨fun z => zisP.s z, fun z => zis.p z⟩
  by_cases e : zis B T a W
  · rw [if_pos (hz.mpr e), if_pos e]
  · rw [if_neg (fun z => e (hz.mp z)), if_neg e]
theorem x_takes (P : hf_px g pa o PV B T) (S : hf_sr g l W) (hW : zwok W) (h1 : PV.1 1 = Int32.ofNat a) (ha : a ≤ T) : spX5_takes gs pa l g = some (Int32.ofNat (if zis B T a W then 1 else 0), hf_pc g pa (hf_ui PV 1 (Int32.ofNat (if zis B T a W then zwe B T (zsk B T a) else zsk B T a)))) := by
  have hT := P.T4
  have hw := hW.2.1
  obtain ⟨s1, s2⟩ := zsk_le (B := B) ha
  obtain ⟨w1, w2⟩ := zwe_le (B := B) (T := T) s2
  have P' := P.pc (PV' := hf_ui PV 1 (Int32.ofNat (zsk B T a))) rfl
  unfold spX5_takes ndX5_takes_23
  rw [P.pob, x_isWord P S hW h1 ha, hf_b2_some, P'.gi, Option.bind_some, hf_ui_at]
  by_cases e : zis B T a W
  · rw [if_pos e, if_pos e, if_neg (show ¬ (Int32.ofNat 1 = 0) by decide), (S.pc P _).stb, x_len (S.pc P _) (by omega), hf_b2_some, P'.pi, Option.bind_some, hf_pc_pc, hf_ui_ui, z_add, if_pos (show Int32.ofNat 1 = 0 ∨ Int32.ofNat 1 = 1 from Or.inr rfl)]
    have : zsk B T a + W.length = zwe B T (zsk B T a) := by
      have := (zis.p e).1
      omega
    rw [this]
  · have a0 : Int32.ofNat (zsk B T a) + (0 : Int32) = Int32.ofNat (zsk B T a) := z_add _ 0
    rw [if_neg e, if_neg e, if_pos (show Int32.ofNat 0 = 0 from rfl), P'.pi, Option.bind_some, hf_pc_pc, hf_ui_ui, a0, if_pos (show Int32.ofNat 0 = 0 ∨ Int32.ofNat 0 = 1 from Or.inl rfl)]
end ZX
/-- a throw: the wrong's number is c -/
def hf_wr (g : hf_H) (o c : Nat) (g' : hf_H) : Prop := ∃ WV, hf_ob 0 3 g (o + 19) = some WV ∧ g' = hf_up g (o + 19) (.inl (0, 3, hf_ui WV 6 (Int32.ofNat c)))
section ZX
variable {g : hf_H} {pa o : Nat} {PV : hf_V} {B : Nat → Nat} {T a : Nat} {gs : hf_gs} {l : Nat} {W : List Nat}
theorem x_fails (P : hf_px g pa o PV B T) (k p : Nat) : ∃ g', spX0_fails o (Int32.ofNat k) (Int32.ofNat p) g = some (o + 19, g') ∧ (∃ WV, hf_ob 0 3 g' (o + 19) = some WV) ∧ hf_wr g o (1 + 8 * p + k) g' := by
  obtain ⟨⟨t1, t2, ⟨XV, t3, t4, t5, t6⟩, WV, t7⟩, p2, p3⟩ := P
  have n1 : o ≠ o + 19 := by omega
  refine ⟨hf_up g (o + 19) (.inl (0, 3, hf_ui WV 6 (Int32.ofNat (1 + 8 * p + k)))), ?_, ⟨_, hf_ob_up g (o + 19) 0 3 _⟩, WV, t7, rfl⟩
  unfold spX0_fails
  have e1 : hf_ga 1 0 4 g o = some (o + 19) := by rw [hf_ga_eq t3, t6]
  have e2 : (1 : Int32) + (8 : Int32) * Int32.ofNat p + Int32.ofNat k = Int32.ofNat (1 + 8 * p + k) := by rw [z_lit 1, z_lit 8, z_mul, z_add, z_add]
  have e3 : ∀ x, hf_ga 1 0 4 (hf_up g (o + 19) x) o = some (o + 19) := fun x => by
    have : hf_ob 1 0 (hf_up g (o + 19) x) o = some XV := by rw [hf_ob_ne n1]; exact t3
    rw [hf_ga_eq this, t6]
  have e4 : hf_pi 0 3 6 g (o + 19) (Int32.ofNat (1 + 8 * p + k)) = some (hf_up g (o + 19) (.inl (0, 3, hf_ui WV 6 (Int32.ofNat (1 + 8 * p + k))))) := by
    unfold hf_pi
    rw [t7]; rfl
  rw [e1, Option.bind_some, e2, e4, Option.bind_some, e3, Option.bind_some]
/-- the throw's whole text -/
theorem x_throw (P : hf_px g pa o PV B T) (k p : Nat) {τ : Type} : ∃ g', (((hf_ga 0 5 6 g pa).bind fun x6 => (hf_ob 1 0 g x6).bind fun _ => hf_b2 (spX0_fails x6 (Int32.ofNat k) (Int32.ofNat p) g) fun x9 g8 => (hf_ob 0 3 g8 x9).bind fun _ => some (.inl x9, g8)) : Option ((Nat ⊕ τ) × hf_H)) = some (.inl (o + 19), g') ∧ hf_wr g o (1 + 8 * p + k) g' := by
  obtain ⟨g', h1, ⟨WV, h2⟩, h3⟩ := x_fails P k p
  refine ⟨g', ?_, h3⟩
  rw [P.gio, Option.bind_some, P.oob, h1, hf_b2_some, h2, Option.bind_some]
theorem x_numL (o : Nat) (B : Nat → Nat) (T pa p : Nat) (hp : p ≤ T) (lo hi : Int32) : ∀ n q g PV fuel, hf_px g pa o PV B T → PV.1 1 = Int32.ofNat q → zde B T p - q = n → p ≤ q → q ≤ zde B T p → n < fuel → (zde B T p - p ≤ 5 ∧ lo ≤ Int32.ofNat (znm B T p) ∧ Int32.ofNat (znm B T p) ≤ hi ∧ lpX5_number_33 fuel pa lo hi (Int32.ofNat p) (Int32.ofNat (zdv B p (min 5 (q - p)))) g = some (.inr (Int32.ofNat (znm B T p)), hf_pc g pa (hf_ui PV 1 (Int32.ofNat (zde B T p))))) ∨ (¬ (zde B T p - p ≤ 5 ∧ lo ≤ Int32.ofNat (znm B T p) ∧ Int32.ofNat (znm B T p) ≤ hi) ∧ ∃ g', lpX5_number_33 fuel pa lo hi (Int32.ofNat p) (Int32.ofNat (zdv B p (min 5 (q - p)))) g = some (.inl (o + 19), g') ∧ hf_wr (hf_pc g pa (hf_ui PV 1 (Int32.ofNat (zde B T p)))) o (1 + 8 * p + 1) g')
  | n, q, g, PV, 0, _, _, _, _, _, hf => by omega
  | n, q, g, PV, fuel + 1, P, h1, hn, hq1, hq2, hf => by
    have hT := P.T4
    obtain ⟨w1, w2⟩ := zde_le (B := B) (T := T) hp
    obtain ⟨i1, i2⟩ := zde_in (B := B) (T - p) p rfl hp
    have hdig : ∀ j, p ≤ j → j < zde B T p → 48 ≤ B j ∧ B j ≤ 57 := fun j h1 h2 => (i1 j h1 h2).2
    have a1 : Int32.ofNat q - Int32.ofNat p = Int32.ofNat (q - p) := z_sub hq1
    have a2 : Int32.ofNat q + (1 : Int32) = Int32.ofNat (q + 1) := z_add q 1
    have hgo : ∀ x, lpX5_number_33 (fuel + 1) pa lo hi (Int32.ofNat p) x g = ndX5_number_33 (lpX5_number_33 fuel) pa lo hi (Int32.ofNat p) x g := fun _ => rfl
    rw [hgo]
    unfold ndX5_number_33 ndX5_number_68 ndX5_number_106
    rw [P.pob, x_isDigit P h1 (by omega), hf_b2_some]
    by_cases e : q < zde B T p
    · have hl := i1 q hq1 e
      have hb := P.b (k := q) (by omega)
      have P' := P.pc (PV' := hf_ui PV 1 (Int32.ofNat (q + 1))) rfl
      have ih := x_numL o B T pa p hp lo hi (n - 1) (q + 1) _ _ fuel P' (hf_ui_at _ _ _) (by omega) (by omega) (by omega) (by omega)
      rw [hf_pc_pc, hf_ui_ui] at ih
      rw [if_pos hl, if_neg (show ¬ (Int32.ofNat 1 = 0) by decide), P.gi, Option.bind_some, h1, a1, Option.bind_some, a2, P.pi, Option.bind_some]
      by_cases e5 : 5 ≤ q - p
      · rw [if_pos (show (5 : Int32) ≤ Int32.ofNat (q - p) from z_yle (a := 5) e5 (by omega))]
        have e6 : min 5 (q - p) = min 5 (q + 1 - p) := by omega
        rw [e6]
        exact ih
      · rw [if_neg (show ¬ (5 : Int32) ≤ Int32.ofNat (q - p) from z_nle (a := 5) (by omega) (by decide)), P.pob, x_sign P h1 (by omega), hf_b2_some, P.gi, Option.bind_some, h1, a2, P.pi, Option.bind_some]
        have e6 : min 5 (q + 1 - p) = min 5 (q - p) + 1 := by omega
        have hbd := zdv_lt B p (min 5 (q - p)) (fun k hk => (hdig (p + k) (by omega) (by omega)).2)
        have hb2 : (10 : Nat) ^ min 5 (q - p) ≤ 10 ^ 5 := Nat.pow_le_pow_right (by decide) (by omega)
        have e7 : (10 : Int32) * Int32.ofNat (zdv B p (min 5 (q - p))) + zch B T q - (48 : Int32) = Int32.ofNat (zdv B p (min 5 (q + 1 - p))) := by
          have h1 := hl.2.1
          have h3 : zdv B p (min 5 (q + 1 - p)) = 10 * zdv B p (min 5 (q - p)) + (B q - 48) := by
            rw [e6]
            show 10 * zdv B p (min 5 (q - p)) + (B (p + min 5 (q - p)) - 48) = _
            rw [show p + min 5 (q - p) = q by omega]
          unfold zch
          rw [if_pos hl.1, z_lit 10, z_lit 48, z_mul, z_add, z_sub (by omega), h3]
          congr 1
          omega
        rw [e7]
        exact ih
    · have eq : q = zde B T p := by omega
      subst eq
      have hz : zdv B p (min 5 (zde B T p - p)) = znm B T p := rfl
      rw [if_neg i2, if_pos (show Int32.ofNat 0 = 0 from rfl), P.gi, Option.bind_some, h1, a1, hz]
      obtain ⟨g', t1, t2⟩ := x_throw (τ := Int32) P 1 p
      have t1' : ((hf_ga 0 5 6 g pa).bind fun x1 => (hf_ob 1 0 g x1).bind fun _ => hf_b2 (spX0_fails x1 (1 : Int32) (Int32.ofNat p) g) fun x3 g2 => (hf_ob 0 3 g2 x3).bind fun _ => (some (.inl x3, g2) : Option ((Nat ⊕ Int32) × hf_H))) = some (.inl (o + 19), g') := t1
      rw [t1', hf_ui_self h1, P.self]
      by_cases e5 : 5 < zde B T p - p
      · rw [if_pos (show (5 : Int32) < Int32.ofNat (zde B T p - p) from (z_lt (a := 5) (by decide) (by omega)).mpr e5)]
        exact Or.inr ⟨fun z => by omega, g', rfl, t2⟩
      · rw [if_neg (show ¬ (5 : Int32) < Int32.ofNat (zde B T p - p) from fun z => e5 ((z_lt (a := 5) (by decide) (by omega)).mp z)), z_in3, Option.bind_some]
        by_cases hr : lo ≤ Int32.ofNat (znm B T p) ∧ Int32.ofNat (znm B T p) ≤ hi
        · rw [if_pos hr, if_neg (show ¬ (Int32.ofNat 1 = 0) by decide)]
          exact Or.inl ⟨by omega, hr.1, hr.2, rfl⟩
        · rw [if_neg hr, if_pos (show Int32.ofNat 0 = 0 from rfl)]
          exact Or.inr ⟨fun z => hr z.2, g', rfl, t2⟩
end ZX
set_option maxRecDepth 100000
set_option maxHeartbeats 1000000
/-! texts: numbers whole; what a parse leaves as it was -/
def znok (B : Nat → Nat) (T p : Nat) (lo hi : Int32) : Prop := zde B T p - p ≤ 5 ∧ lo ≤ Int32.ofNat (znm B T p) ∧ Int32.ofNat (znm B T p) ≤ hi
section ZX
variable {g : hf_H} {pa o : Nat} {PV : hf_V} {B : Nat → Nat} {T a : Nat} {gs : hf_gs} {l : Nat} {W : List Nat}
theorem x_number (P : hf_px g pa o PV B T) (h1 : PV.1 1 = Int32.ofNat a) (ha : a ≤ T) (lo hi : Int32) : (zdg B T (zsk B T a) ∧ znok B T (zsk B T a) lo hi ∧ spX5_number pa lo hi g = some (.inr (Int32.ofNat (znm B T (zsk B T a))), hf_pc g pa (hf_ui PV 1 (Int32.ofNat (zde B T (zsk B T a)))))) ∨ (zdg B T (zsk B T a) ∧ ¬ znok B T (zsk B T a) lo hi ∧ ∃ g', spX5_number pa lo hi g = some (.inl (o + 19), g') ∧ hf_wr (hf_pc g pa (hf_ui PV 1 (Int32.ofNat (zde B T (zsk B T a))))) o (1 + 8 * zsk B T a + 1) g') ∨ (¬ zdg B T (zsk B T a) ∧ ∃ g', spX5_number pa lo hi g = some (.inl (o + 19), g') ∧ hf_wr (hf_pc g pa (hf_ui PV 1 (Int32.ofNat (zsk B T a)))) o (1 + 8 * zsk B T a + 0) g') := by
  have hT := P.T4
  obtain ⟨s1, s2⟩ := zsk_le (B := B) ha
  obtain ⟨w1, w2⟩ := zde_le (B := B) (T := T) s2
  have P' := P.pc (PV' := hf_ui PV 1 (Int32.ofNat (zsk B T a))) rfl
  have h1' : (hf_ui PV 1 (Int32.ofNat (zsk B T a))).1 1 = Int32.ofNat (zsk B T a) := hf_ui_at _ _ _
  unfold spX5_number
  rw [P.pob, x_next P h1 ha, hf_b2_some, P'.pob, x_isDigit P' h1' s2, hf_b2_some]
  by_cases e : zdg B T (zsk B T a)
  · rw [if_pos e, if_neg (show ¬ (Int32.ofNat 1 = 0) by decide), P'.gi, Option.bind_some, h1']
    have key := x_numL o B T pa (zsk B T a) s2 lo hi _ (zsk B T a) _ _ hf_N P' h1' rfl (Nat.le_refl _) w1 (by unfold hf_N; omega)
    rw [Nat.sub_self, hf_pc_pc, hf_ui_ui] at key
    rcases key with ⟨k1, k2, k3, k4⟩ | ⟨k1, g', k2, k3⟩
    · exact Or.inl ⟨e, ⟨k1, k2, k3⟩, k4⟩
    · exact Or.inr (Or.inl ⟨e, k1, g', k2, k3⟩)
  · rw [if_neg e, if_pos (show Int32.ofNat 0 = 0 from rfl)]
    obtain ⟨g', t1, t2⟩ := x_throw (τ := Int32) P' 0 (zsk B T a)
    rw [P'.gio, Option.bind_some, P'.oob] at t1
    rw [P'.gio, Option.bind_some, P'.gi, Option.bind_some, P'.oob, h1']
    exact Or.inr (Or.inr ⟨e, g', t1, t2⟩)
end ZX
/-- g' is g but for the parser, the wrong, and n new cells at most -/
def hf_gk (pa o : Nat) (g g' : hf_H) (n : Nat) : Prop := (∀ q, q < g.2.1 → q ≠ pa → q ≠ o + 19 → g'.1 q = g.1 q) ∧ g.2.1 ≤ g'.2.1 ∧ g'.2.1 ≤ g.2.1 + n ∧ g'.2.2 ≤ g.2.2 + 4 * n ∧ ∀ q, g'.2.1 ≤ q → g'.1 q = none
def hf_no (g : hf_H) : Prop := ∀ q, g.2.1 ≤ q → g.1 q = none
section ZG
variable {g g' k : hf_H} {pa o n m : Nat}
theorem hf_no.lt (N : hf_no g) {q : Nat} {x : hf_C} (e : g.1 q = some x) : q < g.2.1 := by
  refine Nat.lt_of_not_le (fun h => ?_)
  rw [N q h] at e
  cases e
theorem hf_no.olt (N : hf_no g) {q md ci : Nat} {V : hf_V} (e : hf_ob md ci g q = some V) : q < g.2.1 := N.lt (hf_ob_spec e)
theorem hf_gk.no (K : hf_gk pa o g g' n) : hf_no g' := K.2.2.2.2
theorem hf_gk.rfl_ (N : hf_no g) : hf_gk pa o g g 0 := ⟨fun _ _ _ _ => rfl, Nat.le_refl _, Nat.le_refl _, Nat.le_refl _, N⟩
theorem hf_gk.trans (A : hf_gk pa o g g' n) (C : hf_gk pa o g' k m) : hf_gk pa o g k (n + m) := by
  obtain ⟨a1, a2, a3, a4, a5⟩ := A
  obtain ⟨c1, c2, c3, c4, c5⟩ := C
  exact ⟨fun q h1 h2 h3 => (c1 q (by omega) h2 h3).trans (a1 q h1 h2 h3), by omega, by omega, by omega, c5⟩
theorem hf_gk.mono (A : hf_gk pa o g g' n) (h : n ≤ m) : hf_gk pa o g g' m := ⟨A.1, A.2.1, by have := A.2.2.1; omega, by have := A.2.2.2.1; omega, A.2.2.2.2⟩
theorem hf_gk.up (N : hf_no g) {q : Nat} (hq : q = pa ∨ q = o + 19) {md ci : Nat} {V : hf_V} (e : hf_ob md ci g q = some V) (x : hf_C) : hf_gk pa o g (hf_up g q x) 0 := by
  have hl := N.olt e
  refine ⟨fun b h1 h2 h3 => ?_, Nat.le_refl _, Nat.le_refl _, Nat.le_refl _, fun b hb => ?_⟩
  · have : b ≠ q := by
      rcases hq with rfl | rfl
      · exact h2
      · exact h3
    unfold hf_up
    simp only [if_neg this]
  · have hb2 : g.2.1 ≤ b := hb
    have : b ≠ q := by omega
    unfold hf_up
    simp only [if_neg this]
    exact N b hb2
theorem hf_gk.pc (N : hf_no g) {PV : hf_V} (e : hf_ob 0 5 g pa = some PV) (PV' : hf_V) : hf_gk pa o g (hf_pc g pa PV') 0 := hf_gk.up N (Or.inl rfl) e _
theorem hf_gk.wr (N : hf_no g) {c : Nat} (H : hf_wr g o c g') : hf_gk pa o g g' 0 := by
  obtain ⟨WV, h1, rfl⟩ := H
  exact hf_gk.up N (Or.inr rfl) h1 _
theorem ob_nw (N : hf_no g) {md ci q : Nat} {V : hf_V} (e : hf_ob md ci g q = some V) (x : hf_C) (j : Nat) : hf_ob md ci (hf_nw g x j) q = some V := by
  have hl := N.olt e
  have h1 := hf_ob_spec e
  unfold hf_ob hf_nw
  simp only [if_neg (show ¬ q = g.2.1 by omega), h1]
  simp
theorem hf_gk.nw (N : hf_no g) (x : hf_C) {j : Nat} (hj : j ≤ 4) : hf_gk pa o g (hf_nw g x j) 1 := by
  refine ⟨fun q h1 _ _ => ?_, ?_, ?_, ?_, fun q hq => ?_⟩
  · unfold hf_nw
    simp only [if_neg (show ¬ q = g.2.1 by omega)]
  · show g.2.1 ≤ g.2.1 + 1
    omega
  · exact Nat.le_refl _
  · show g.2.2 + j ≤ _
    omega
  · have hq2 : g.2.1 + 1 ≤ q := hq
    unfold hf_nw
    simp only [if_neg (show ¬ q = g.2.1 by omega)]
    exact N q (by omega)
/-- the new cell itself may change -/
theorem hf_gk.up2 (K : hf_gk pa o g g' n) {q : Nat} (hq : g.2.1 ≤ q) {md ci : Nat} {V : hf_V} (e : hf_ob md ci g' q = some V) (x : hf_C) : hf_gk pa o g (hf_up g' q x) n := by
  obtain ⟨a1, a2, a3, a4, a5⟩ := K
  have hl := hf_no.olt a5 e
  refine ⟨fun b h1 h2 h3 => ?_, a2, a3, a4, fun b hb => ?_⟩
  · unfold hf_up
    simp only [if_neg (show ¬ b = q by omega)]
    exact a1 b h1 h2 h3
  · have hb2 : g'.2.1 ≤ b := hb
    unfold hf_up
    simp only [if_neg (show ¬ b = q by omega)]
    exact a5 b hb2
theorem hf_gk.ob (K : hf_gk pa o g g' n) (N : hf_no g) {q md ci : Nat} {V : hf_V} (e : hf_ob md ci g q = some V) (h1 : q ≠ pa) (h2 : q ≠ o + 19) : hf_ob md ci g' q = some V := by
  have h3 := K.1 q (N.olt e) h1 h2
  have h4 := hf_ob_spec e
  unfold hf_ob
  rw [h3, h4]
  simp
theorem hf_gk.kv (K : hf_gk pa o g g' n) (N : hf_no g) {PV WV : hf_V} (e5 : hf_ob 0 5 g pa = some PV) (e3 : hf_ob 0 3 g (o + 19) = some WV) : hf_kv g g' := fun a ci V h1 h2 e => K.ob N e (hf_ob_dif e e5 (by omega)) (hf_ob_dif e e3 (by omega))
theorem hf_gk.sr (K : hf_gk pa o g g' n) (N : hf_no g) {PV WV : hf_V} (e5 : hf_ob 0 5 g pa = some PV) (e3 : hf_ob 0 3 g (o + 19) = some WV) {l : Nat} {W : List Nat} (S : hf_sr g l W) : hf_sr g' l W := by
  obtain ⟨v, x, y, f, h1, h2, h3⟩ := S
  have go : ∀ q z, g.1 q = some (.inr (.inr z)) → g'.1 q = some (.inr (.inr z)) := fun q z hz => by
    rw [K.1 q (N.lt hz) (fun e => by
      subst e
      rw [hf_ob_spec e5] at hz
      cases hz) (fun e => by
      subst e
      rw [hf_ob_spec e3] at hz
      cases hz)]
    exact hz
  exact ⟨v, x, y, f, go _ _ h1, go _ _ h2, h3⟩
end ZG
set_option maxRecDepth 100000
set_option maxHeartbeats 1000000
/-! texts: the words -/
def zws : List (List Nat) := [[98, 117, 121, 101, 114], [112, 117, 114, 115, 101], [115, 112, 111, 116], [104, 111, 117, 114], [108, 101, 102, 116], [104, 97, 115], [104, 97, 108, 102], [115, 104, 97, 112, 101], [115, 105, 100, 101], [112, 114, 105, 99, 101], [102, 105, 116, 115], [110, 101, 97, 114, 108, 121], [107, 110, 111, 119, 110], [110, 111, 116], [97, 110, 100], [111, 114], [110, 101, 97, 114], [100, 117, 115, 107], [104, 101, 97, 114], [115, 116, 97, 108, 108, 115], [104, 97, 108, 102], [102, 111, 114, 103, 101, 100], [98, 117, 121, 101, 114], [99, 108, 117, 98], [98, 117, 121], [103, 111], [105, 102]]
def zw (i : Nat) : List Nat := zws.getD i []
theorem zw_ok : ∀ i, i < 27 → zwok (zw i) := by
  have : ∀ i, i < 27 → 0 < (zw i).length ∧ (zw i).length < 8 ∧ ∀ k, k < 8 → k < (zw i).length → 97 ≤ (zw i).getD k 0 ∧ (zw i).getD k 0 ≤ 122 := by decide
  intro i hi
  obtain ⟨h1, h2, h3⟩ := this i hi
  exact ⟨h1, h2, fun k hk => h3 k (by omega) hk⟩
def zwI (i : Nat) : Int64 := Int64.ofNat (zen (fun k => (zw i).getD k 0) (zw i).length)
theorem zwI_0 : (422877685106 : Int64) = zwI 0 := congrArg Int64.ofNat (show 422877685106 = zen (fun k => (zw 0).getD k 0) (zw 0).length by decide)
theorem zwI_1 : (483006772069 : Int64) = zwI 1 := congrArg Int64.ofNat (show 483006772069 = zen (fun k => (zw 1).getD k 0) (zw 1).length by decide)
theorem zwI_2 : (1936748404 : Int64) = zwI 2 := congrArg Int64.ofNat (show 1936748404 = zen (fun k => (zw 2).getD k 0) (zw 2).length by decide)
theorem zwI_3 : (1752135026 : Int64) = zwI 3 := congrArg Int64.ofNat (show 1752135026 = zen (fun k => (zw 3).getD k 0) (zw 3).length by decide)
theorem zwI_4 : (1818584692 : Int64) = zwI 4 := congrArg Int64.ofNat (show 1818584692 = zen (fun k => (zw 4).getD k 0) (zw 4).length by decide)
theorem zwI_5 : (6840691 : Int64) = zwI 5 := congrArg Int64.ofNat (show 6840691 = zen (fun k => (zw 5).getD k 0) (zw 5).length by decide)
theorem zwI_6 : (1751215206 : Int64) = zwI 6 := congrArg Int64.ofNat (show 1751215206 = zen (fun k => (zw 6).getD k 0) (zw 6).length by decide)
theorem zwI_7 : (495672455269 : Int64) = zwI 7 := congrArg Int64.ofNat (show 495672455269 = zen (fun k => (zw 7).getD k 0) (zw 7).length by decide)
theorem zwI_8 : (1936286821 : Int64) = zwI 8 := congrArg Int64.ofNat (show 1936286821 = zen (fun k => (zw 8).getD k 0) (zw 8).length by decide)
theorem zwI_9 : (482955846501 : Int64) = zwI 9 := congrArg Int64.ofNat (show 482955846501 = zen (fun k => (zw 9).getD k 0) (zw 9).length by decide)
theorem zwI_10 : (1718187123 : Int64) = zwI 10 := congrArg Int64.ofNat (show 1718187123 = zen (fun k => (zw 10).getD k 0) (zw 10).length by decide)
theorem zwI_11 : (121381705641081 : Int64) = zwI 11 := congrArg Int64.ofNat (show 121381705641081 = zen (fun k => (zw 11).getD k 0) (zw 11).length by decide)
theorem zwI_12 : (461414299502 : Int64) = zwI 12 := congrArg Int64.ofNat (show 461414299502 = zen (fun k => (zw 12).getD k 0) (zw 12).length by decide)
theorem zwI_13 : (7237492 : Int64) = zwI 13 := congrArg Int64.ofNat (show 7237492 = zen (fun k => (zw 13).getD k 0) (zw 13).length by decide)
theorem zwI_14 : (6385252 : Int64) = zwI 14 := congrArg Int64.ofNat (show 6385252 = zen (fun k => (zw 14).getD k 0) (zw 14).length by decide)
theorem zwI_15 : (28530 : Int64) = zwI 15 := congrArg Int64.ofNat (show 28530 = zen (fun k => (zw 15).getD k 0) (zw 15).length by decide)
theorem zwI_16 : (1852137842 : Int64) = zwI 16 := congrArg Int64.ofNat (show 1852137842 = zen (fun k => (zw 16).getD k 0) (zw 16).length by decide)
theorem zwI_17 : (1685418859 : Int64) = zwI 17 := congrArg Int64.ofNat (show 1685418859 = zen (fun k => (zw 17).getD k 0) (zw 17).length by decide)
theorem zwI_18 : (1751474546 : Int64) = zwI 18 := congrArg Int64.ofNat (show 1751474546 = zen (fun k => (zw 18).getD k 0) (zw 18).length by decide)
theorem zwI_19 : (126943687896179 : Int64) = zwI 19 := congrArg Int64.ofNat (show 126943687896179 = zen (fun k => (zw 19).getD k 0) (zw 19).length by decide)
theorem zwI_20 : (1751215206 : Int64) = zwI 20 := congrArg Int64.ofNat (show 1751215206 = zen (fun k => (zw 20).getD k 0) (zw 20).length by decide)
theorem zwI_21 : (112628846781796 : Int64) = zwI 21 := congrArg Int64.ofNat (show 112628846781796 = zen (fun k => (zw 21).getD k 0) (zw 21).length by decide)
theorem zwI_22 : (422877685106 : Int64) = zwI 22 := congrArg Int64.ofNat (show 422877685106 = zen (fun k => (zw 22).getD k 0) (zw 22).length by decide)
theorem zwI_23 : (1668052322 : Int64) = zwI 23 := congrArg Int64.ofNat (show 1668052322 = zen (fun k => (zw 23).getD k 0) (zw 23).length by decide)
theorem zwI_24 : (6452601 : Int64) = zwI 24 := congrArg Int64.ofNat (show 6452601 = zen (fun k => (zw 24).getD k 0) (zw 24).length by decide)
theorem zwI_25 : (26479 : Int64) = zwI 25 := congrArg Int64.ofNat (show 26479 = zen (fun k => (zw 25).getD k 0) (zw 25).length by decide)
theorem zwI_26 : (26982 : Int64) = zwI 26 := congrArg Int64.ofNat (show 26982 = zen (fun k => (zw 26).getD k 0) (zw 26).length by decide)
theorem zw_len : ∀ i, i < 27 → hf_len i = (zw i).length := by decide
theorem zw_bt : ∀ i, i < 27 → ∀ k, k < 8 → hf_bt i k = Int32.ofNat ((zw i).getD k 0) := by decide
theorem zis_sk {B : Nat → Nat} {T a : Nat} (ha : a ≤ T) (W : List Nat) : zis B T (zsk B T a) W ↔ zis B T a W := by
  have e : zisP B T (zsk B T a) W ↔ zisP B T a W := by
    unfold zisP
    rw [zsk_idem B T _ a rfl ha]
  exact ⟨fun h => zisP.s (e.mp (zis.p h)), fun h => zisP.s (e.mpr (zis.p h))⟩
/-- which word is asked here; 13: none -/
noncomputable def zwF (B : Nat → Nat) (T a : Nat) : Nat → Nat → Nat
  | 0, k => k
  | n + 1, k => if zis B T a (zw k) then k else zwF B T a n (k + 1)
noncomputable def zwh (B : Nat → Nat) (T a : Nat) : Nat := zwF B T a 13 0
theorem zwF_le (B : Nat → Nat) (T a : Nat) : ∀ n k, k ≤ zwF B T a n k ∧ zwF B T a n k ≤ k + n
  | 0, k => ⟨Nat.le_refl _, Nat.le_refl _⟩
  | n + 1, k => by
    have := zwF_le B T a n (k + 1)
    unfold zwF
    split <;> omega
theorem zwF_is (B : Nat → Nat) (T a : Nat) : ∀ n k, zwF B T a n k < k + n → zis B T a (zw (zwF B T a n k))
  | 0, k, h => by
    have : zwF B T a 0 k = k := rfl
    omega
  | n + 1, k, h => by
    unfold zwF at h ⊢
    by_cases e : zis B T a (zw k)
    · rw [if_pos e]; exact e
    · rw [if_neg e] at h ⊢
      exact zwF_is B T a n (k + 1) (by omega)
section ZM
variable {V : hf_V} {B : Nat → Nat} {T a : Nat}
theorem m_isW (H : hf_mt V B T) (h8 : V.1 8 = Int32.ofNat a) (ha : a ≤ T) {i : Nat} (hi : i < 27) : spX4_isWord (zwI i) V = some (Int32.ofNat (if zis B T a (zw i) then 1 else 0), hf_ui V 8 (Int32.ofNat (zsk B T a))) := m_isWord H h8 ha (zw_ok i hi)
theorem m_isW2 (H : hf_mt V B T) (ha : a ≤ T) {i : Nat} (hi : i < 27) : spX4_isWord (zwI i) (hf_ui V 8 (Int32.ofNat (zsk B T a))) = some (Int32.ofNat (if zis B T a (zw i) then 1 else 0), hf_ui V 8 (Int32.ofNat (zsk B T a))) := by
  have s2 := (zsk_le (B := B) ha).2
  rw [m_isW (H.ui (k := 8) (by decide) (Int32.ofNat (zsk B T a))) (hf_ui_at _ _ _) s2 hi, hf_ui_ui, zsk_idem B T _ a rfl ha]
  by_cases e : zis B T a (zw i)
  · rw [if_pos e, if_pos ((zis_sk ha _).mpr e)]
  · rw [if_neg e, if_neg (fun z => e ((zis_sk ha _).mp z))]
theorem m_wordHere (H : hf_mt V B T) (h8 : V.1 8 = Int32.ofNat a) (ha : a ≤ T) : spX4_wordHere V = some (if zwh B T a < 13 then Int32.ofNat (zwh B T a) else -1, hf_ui V 8 (Int32.ofNat (zsk B T a))) := by
  have n1 : ¬ (Int32.ofNat 1 = 0) := by decide
  have n0 : Int32.ofNat 0 = 0 := rfl
  unfold spX4_wordHere
  rw [zwI_0, zwI_1, zwI_2, zwI_3, zwI_4, zwI_5, zwI_6, zwI_7, zwI_8, zwI_9, zwI_10, zwI_11, zwI_12, m_isW H h8 ha (i := 0) (by decide), hf_b2_some]
  by_cases h0 : zis B T a (zw 0)
  · have e : zwh B T a = 0 := by
      unfold zwh
      simp only [zwF, if_pos h0, Nat.reduceAdd, Nat.zero_add]
    rw [if_pos h0, if_neg n1, e, if_pos (by decide)]
    rfl
  rw [if_neg h0, if_pos n0, m_isW2 H ha (i := 1) (by decide), hf_b2_some]
  by_cases h1 : zis B T a (zw 1)
  · have e : zwh B T a = 1 := by
      unfold zwh
      simp only [zwF, if_neg h0, if_pos h1, Nat.reduceAdd, Nat.zero_add]
    rw [if_pos h1, if_neg n1, e, if_pos (by decide)]
    rfl
  rw [if_neg h1, if_pos n0, m_isW2 H ha (i := 2) (by decide), hf_b2_some]
  by_cases h2 : zis B T a (zw 2)
  · have e : zwh B T a = 2 := by
      unfold zwh
      simp only [zwF, if_neg h0, if_neg h1, if_pos h2, Nat.reduceAdd, Nat.zero_add]
    rw [if_pos h2, if_neg n1, e, if_pos (by decide)]
    rfl
  rw [if_neg h2, if_pos n0, m_isW2 H ha (i := 3) (by decide), hf_b2_some]
  by_cases h3 : zis B T a (zw 3)
  · have e : zwh B T a = 3 := by
      unfold zwh
      simp only [zwF, if_neg h0, if_neg h1, if_neg h2, if_pos h3, Nat.reduceAdd, Nat.zero_add]
    rw [if_pos h3, if_neg n1, e, if_pos (by decide)]
    rfl
  rw [if_neg h3, if_pos n0, m_isW2 H ha (i := 4) (by decide), hf_b2_some]
  by_cases h4 : zis B T a (zw 4)
  · have e : zwh B T a = 4 := by
      unfold zwh
      simp only [zwF, if_neg h0, if_neg h1, if_neg h2, if_neg h3, if_pos h4, Nat.reduceAdd, Nat.zero_add]
    rw [if_pos h4, if_neg n1, e, if_pos (by decide)]
    rfl
  rw [if_neg h4, if_pos n0, m_isW2 H ha (i := 5) (by decide), hf_b2_some]
  by_cases h5 : zis B T a (zw 5)
  · have e : zwh B T a = 5 := by
      unfold zwh
      simp only [zwF, if_neg h0, if_neg h1, if_neg h2, if_neg h3, if_neg h4, if_pos h5, Nat.reduceAdd, Nat.zero_add]
    rw [if_pos h5, if_neg n1, e, if_pos (by decide)]
    rfl
  rw [if_neg h5, if_pos n0, m_isW2 H ha (i := 6) (by decide), hf_b2_some]
  by_cases h6 : zis B T a (zw 6)
  · have e : zwh B T a = 6 := by
      unfold zwh
      simp only [zwF, if_neg h0, if_neg h1, if_neg h2, if_neg h3, if_neg h4, if_neg h5, if_pos h6, Nat.reduceAdd, Nat.zero_add]
    rw [if_pos h6, if_neg n1, e, if_pos (by decide)]
    rfl
  rw [if_neg h6, if_pos n0, m_isW2 H ha (i := 7) (by decide), hf_b2_some]
  by_cases h7 : zis B T a (zw 7)
  · have e : zwh B T a = 7 := by
      unfold zwh
      simp only [zwF, if_neg h0, if_neg h1, if_neg h2, if_neg h3, if_neg h4, if_neg h5, if_neg h6, if_pos h7, Nat.reduceAdd, Nat.zero_add]
    rw [if_pos h7, if_neg n1, e, if_pos (by decide)]
    rfl
  rw [if_neg h7, if_pos n0, m_isW2 H ha (i := 8) (by decide), hf_b2_some]
  by_cases h8 : zis B T a (zw 8)
  · have e : zwh B T a = 8 := by
      unfold zwh
      simp only [zwF, if_neg h0, if_neg h1, if_neg h2, if_neg h3, if_neg h4, if_neg h5, if_neg h6, if_neg h7, if_pos h8, Nat.reduceAdd, Nat.zero_add]
    rw [if_pos h8, if_neg n1, e, if_pos (by decide)]
    rfl
  rw [if_neg h8, if_pos n0, m_isW2 H ha (i := 9) (by decide), hf_b2_some]
  by_cases h9 : zis B T a (zw 9)
  · have e : zwh B T a = 9 := by
      unfold zwh
      simp only [zwF, if_neg h0, if_neg h1, if_neg h2, if_neg h3, if_neg h4, if_neg h5, if_neg h6, if_neg h7, if_neg h8, if_pos h9, Nat.reduceAdd, Nat.zero_add]
    rw [if_pos h9, if_neg n1, e, if_pos (by decide)]
    rfl
  rw [if_neg h9, if_pos n0, m_isW2 H ha (i := 10) (by decide), hf_b2_some]
  by_cases h10 : zis B T a (zw 10)
  · have e : zwh B T a = 10 := by
      unfold zwh
      simp only [zwF, if_neg h0, if_neg h1, if_neg h2, if_neg h3, if_neg h4, if_neg h5, if_neg h6, if_neg h7, if_neg h8, if_neg h9, if_pos h10, Nat.reduceAdd, Nat.zero_add]
    rw [if_pos h10, if_neg n1, e, if_pos (by decide)]
    rfl
  rw [if_neg h10, if_pos n0, m_isW2 H ha (i := 11) (by decide), hf_b2_some]
  by_cases h11 : zis B T a (zw 11)
  · have e : zwh B T a = 11 := by
      unfold zwh
      simp only [zwF, if_neg h0, if_neg h1, if_neg h2, if_neg h3, if_neg h4, if_neg h5, if_neg h6, if_neg h7, if_neg h8, if_neg h9, if_neg h10, if_pos h11, Nat.reduceAdd, Nat.zero_add]
    rw [if_pos h11, if_neg n1, e, if_pos (by decide)]
    rfl
  rw [if_neg h11, if_pos n0, m_isW2 H ha (i := 12) (by decide), hf_b2_some]
  by_cases h12 : zis B T a (zw 12)
  · have e : zwh B T a = 12 := by
      unfold zwh
      simp only [zwF, if_neg h0, if_neg h1, if_neg h2, if_neg h3, if_neg h4, if_neg h5, if_neg h6, if_neg h7, if_neg h8, if_neg h9, if_neg h10, if_neg h11, if_pos h12, Nat.reduceAdd, Nat.zero_add]
    rw [if_pos h12, if_neg n1, e, if_pos (by decide)]
    rfl
  rw [if_neg h12, if_pos n0]
  have e : zwh B T a = 13 := by
    unfold zwh
    simp only [zwF, if_neg h0, if_neg h1, if_neg h2, if_neg h3, if_neg h4, if_neg h5, if_neg h6, if_neg h7, if_neg h8, if_neg h9, if_neg h10, if_neg h11, if_neg h12, Nat.reduceAdd, Nat.zero_add]
  rw [e, if_neg (by decide)]
theorem m_puts {t L : Nat} (h11 : V.1 11 = Int32.ofNat t) (h4 : V.2.2.2.1 4 t = Int32.ofNat L) (ht : t ≤ 5) (hL : L < 400) (s x : Nat) : spX4_puts (Int32.ofNat s) (Int32.ofNat x) V = some (hf_ua (hf_ua V 3 (400 * t + L) (Int32.ofNat (s + 16 * x))) 4 t (Int32.ofNat (L + 1))) := by
  unfold spX4_puts
  have e1 : (400 : Int32) * Int32.ofNat t + Int32.ofNat L = Int32.ofNat (400 * t + L) := by rw [z_lit 400, z_mul, z_add]
  have e2 : Int32.ofNat s + (16 : Int32) * Int32.ofNat x = Int32.ofNat (s + 16 * x) := by rw [z_lit 16, z_mul, z_add]
  have e3 : (hf_ua V 3 (400 * t + L) (Int32.ofNat (s + 16 * x))).1 11 = Int32.ofNat t := h11
  have e4 : (hf_ua V 3 (400 * t + L) (Int32.ofNat (s + 16 * x))).2.2.2.1 4 t = Int32.ofNat L := by rw [hf_ua_ne _ (by decide), h4]
  have e5 : Int32.ofNat L + (1 : Int32) = Int32.ofNat (L + 1) := z_add L 1
  rw [h11, z_ld (by omega) (by omega), Option.bind_some, h4, e1, e2, z_sd (by omega) (by omega), e3, hf_let_eq, z_ld (by omega) (by omega), Option.bind_some, e4, e5, z_sd (by omega) (by omega)]
end ZM
