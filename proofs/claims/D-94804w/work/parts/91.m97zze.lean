set_option maxRecDepth 100000
set_option maxHeartbeats 1000000
/-! texts: a fair's clause: which word begins it -/
section ZQ
variable {gs : hf_gs} {pa o nm : Nat} {B : Nat → Nat} {T : Nat} {g g0 : hf_H} {PV V : hf_V} {a kc fa l1 d1 l2 d2 n : Nat} {p q : Nat → Nat} {v : Nat → Nat} {t5 t6 t8 : Bool}
theorem zFR.wrapM {X : Option ((Nat ⊕ Unit) × hf_H)} {M : Option (Int32 × hf_V)} (H : zFR gs pa o nm B T g0 V n a kc fa X M) : zFR gs pa o nm B T g0 V n a kc fa X (hf_b2 M fun x V' => if x = 0 ∨ x = 1 then some (x, V') else none) := by
  rcases H with ⟨g', V', h1, h2, h3⟩ | ⟨g', PV', V', a', l1, d1, l2, d2, p, q, v, t5, t6, t8, h1, h2, h3⟩
  · exact Or.inl ⟨g', V', h1, by rw [h2, hf_b2_some, if_pos (Or.inl rfl)], h3⟩
  · exact Or.inr ⟨g', PV', V', a', l1, d1, l2, d2, p, q, v, t5, t6, t8, h1, by rw [h2, hf_b2_some, if_pos (Or.inr rfl)], h3⟩
theorem zFR.wrapX {X : Option ((Nat ⊕ Unit) × hf_H)} {M : Option (Int32 × hf_V)} (H : zFR gs pa o nm B T g0 V n a kc fa X M) : zFR gs pa o nm B T g0 V n a kc fa (hf_bT X fun _ g5 => some (.inr (), g5)) M := by
  rcases H with ⟨g', V', h1, h2, h3⟩ | ⟨g', PV', V', a', l1, d1, l2, d2, p, q, v, t5, t6, t8, h1, h2, h3⟩
  · exact Or.inl ⟨g', V', by rw [h1, hf_bT_inl], h2, h3⟩
  · exact Or.inr ⟨g', PV', V', a', l1, d1, l2, d2, p, q, v, t5, t6, t8, by rw [h1, hf_bT_inr], h2, h3⟩
/-- a clause is counted, its word passed -/
theorem zFS.begun (R : zFS gs pa o nm B T g PV V a kc fa l1 d1 l2 d2 p q v t5 t6 t8) {e : Nat} (he : e ≤ T) (hk : kc < 40) : zFS gs pa o nm B T (hf_pc g pa (hf_ui (hf_ui PV 4 (Int32.ofNat (kc + 1))) 1 (Int32.ofNat e))) (hf_ui (hf_ui PV 4 (Int32.ofNat (kc + 1))) 1 (Int32.ofNat e)) (hf_ui (hf_ui V 14 (Int32.ofNat (kc + 1))) 8 (Int32.ofNat e)) e (kc + 1) fa l1 d1 l2 d2 p q v t5 t6 t8 := by
  obtain ⟨S, ⟨c4, c5, c14, c11, hk'⟩, O, M, W⟩ := R
  obtain ⟨N, P, p0, p1, p3, wo, mt, v8, v9, v12, ha, hm⟩ := S
  obtain ⟨WV, w3⟩ := P.w3
  have K := hf_gk.pc (o := o) N P.2.1 (hf_ui (hf_ui PV 4 (Int32.ofNat (kc + 1))) 1 (Int32.ofNat e))
  refine ⟨⟨K.no, P.pc rfl, p0, hf_ui_at _ _ _, by rw [hf_ui_ne _ (by decide), hf_ui_ne _ (by decide)]; exact p3, K.wo N P.2.1 w3 wo, (mt.ui (by decide) _).ui (by decide) _, hf_ui_at _ _ _, by rw [hf_ui_ne _ (by decide), hf_ui_ne _ (by decide)]; exact v9, by rw [hf_ui_ne _ (by decide), hf_ui_ne _ (by decide)]; exact v12, he, hm⟩, ⟨by rw [hf_ui_ne _ (by decide), hf_ui_at], by rw [hf_ui_ne _ (by decide), hf_ui_ne _ (by decide)]; exact c5, by rw [hf_ui_ne _ (by decide), hf_ui_at], by rw [hf_ui_ne _ (by decide), hf_ui_ne _ (by decide)]; exact c11, by omega⟩, O.gk K N P.2.1 w3, M, W⟩
/-- the outcome of a clause -/
def zFC (gs : hf_gs) (pa o nm : Nat) (B : Nat → Nat) (T : Nat) (g0 : hf_H) (V : hf_V) (n a kc fa : Nat) (X : Option ((Nat ⊕ Unit) × hf_H)) (M : Option (Int32 × hf_V)) : Prop := (∃ g' V', X = some (.inl (o + 19), g') ∧ M = some (0, V') ∧ zff g0 g' pa o (n + (T + 1 - a)) V V') ∨ ∃ g' PV' V' a' l1 d1 l2 d2 p q v t5 t6 t8, X = some (.inr (), g') ∧ M = some (1, V') ∧ zFS gs pa o nm B T g' PV' V' a' kc fa l1 d1 l2 d2 p q v t5 t6 t8 ∧ a < a' ∧ (g0.2.1 ≤ l1 ∧ g0.2.1 ≤ d1 ∧ g0.2.1 ≤ l2 ∧ g0.2.1 ≤ d2) ∧ hf_gm pa o g0 g' (n + (a' - a)) ∧ zvf V V'
/-- from the word's end on -/
theorem zFR.fc {X : Option ((Nat ⊕ Unit) × hf_H)} {M : Option (Int32 × hf_V)} {Ve : hf_V} {e : Nat} (H : zFR gs pa o nm B T g0 Ve n e kc fa X M) (h : a + 4 ≤ e) (he : e ≤ T) (Z : zvf V Ve) : zFC gs pa o nm B T g0 V n a kc fa X M := by
  rcases H with ⟨g', V', h1, h2, c, q1, q2, q3, q4, q5, q6, q7⟩ | ⟨g', PV', V', a', l1, d1, l2, d2, p, q, v, t5, t6, t8, h1, h2, h3, h4, h5, h6, h7⟩
  · exact Or.inl ⟨g', V', h1, h2, c, q1, q2, q3, q4, q5.mono (by omega), Z.trans q6, q7⟩
  · exact Or.inr ⟨g', PV', V', a', l1, d1, l2, d2, p, q, v, t5, t6, t8, h1, h2, h3, by omega, h5, h6.mono (by omega), Z.trans h7⟩
/-- what begins gives where a fair's clause starts; g1: behind the spaces -/
def zBG (gs : hf_gs) (pa o : Nat) (B : Nat → Nat) (T a kc : Nat) (gq g1 ge : hf_H) (i : Nat) : Prop := ∀ may, may ≤ 1 → (¬ zis B T a (zw i) → spX5_begins gs pa (gs.2 i) (Int32.ofNat may) gq = some (.inr 0, g1)) ∧ (zis B T a (zw i) → (kc = 40 ∨ may = 0) → ∃ g', spX5_begins gs pa (gs.2 i) (Int32.ofNat may) gq = some (.inl (o + 19), g') ∧ hf_wr g1 o (1 + 8 * zsk B T a + 4) g') ∧ (zis B T a (zw i) → kc ≠ 40 → may = 1 → spX5_begins gs pa (gs.2 i) (Int32.ofNat may) gq = some (.inr 1, ge))
theorem zFS.begins (R : zFS gs pa o nm B T g PV V a kc fa l1 d1 l2 d2 p q v t5 t6 t8) {i : Nat} (hi : i < 27) : zBG gs pa o B T a kc g (hf_pc g pa (hf_ui PV 1 (Int32.ofNat (zsk B T a)))) (hf_pc g pa (hf_ui (hf_ui PV 4 (Int32.ofNat (kc + 1))) 1 (Int32.ofNat (zwe B T (zsk B T a))))) i ∧ zBG gs pa o B T a kc (hf_pc g pa (hf_ui PV 1 (Int32.ofNat (zsk B T a)))) (hf_pc g pa (hf_ui PV 1 (Int32.ofNat (zsk B T a)))) (hf_pc g pa (hf_ui (hf_ui PV 4 (Int32.ofNat (kc + 1))) 1 (Int32.ofNat (zwe B T (zsk B T a))))) i := by
  obtain ⟨S, ⟨c4, c5, c14, c11, hk'⟩, O, M, W⟩ := R
  obtain ⟨N, P, p0, p1, p3, wo, mt, v8, v9, v12, ha, hm⟩ := S
  obtain ⟨WV, w3⟩ := P.w3
  have s2 := (zsk_le (B := B) ha).2
  have hpp : zsk B T (zsk B T a) = zsk B T a := zsk_idem B T _ a rfl ha
  have hself : ∀ x y : Int32, hf_ui (hf_ui (hf_ui PV 1 (Int32.ofNat (zsk B T a))) 4 x) 1 y = hf_ui (hf_ui PV 4 x) 1 y := fun x y => by
    unfold hf_ui
    refine Prod.ext ?_ rfl
    funext j
    by_cases e : j = 1
    · simp [e]
    · simp [e]
  have K01 : hf_gk pa o g (hf_pc g pa (hf_ui PV 1 (Int32.ofNat (zsk B T a)))) 0 := hf_gk.pc N P.2.1 _
  have P1 : hf_px (hf_pc g pa (hf_ui PV 1 (Int32.ofNat (zsk B T a)))) pa o (hf_ui PV 1 (Int32.ofNat (zsk B T a))) B T := P.pc rfl
  constructor
  · intro may hmay
    rcases x_begins (gs := gs) (w := i) (k := kc) (most := 40) (may := may) P (wo.2 i hi) hi p1 ha c4 c5 (by omega) (by decide) hmay with ⟨z, x1⟩ | ⟨z, z2, g', x1, x2⟩ | ⟨z, z2, z3, x1⟩
    · exact ⟨fun _ => x1, fun h => absurd h z, fun h => absurd h z⟩
    · exact ⟨fun h => absurd z h, fun _ _ => ⟨g', x1, x2⟩, fun _ h1 h2 => by omega⟩
    · refine ⟨fun h => absurd z h, fun _ h => by omega, fun _ _ _ => ?_⟩
      rw [x1, hself]
  · intro may hmay
    have hzz := zis_sk (B := B) ha (zw i)
    have xb := x_begins (gs := gs) (w := i) (k := kc) (most := 40) (may := may) P1 (K01.sr N P.2.1 w3 (wo.2 i hi)) hi (hf_ui_at _ _ _) s2 (by rw [hf_ui_ne _ (by decide)]; exact c4) (by rw [hf_ui_ne _ (by decide)]; exact c5) (by omega) (by decide) hmay
    rw [hpp, hf_ui_ui, hf_pc_pc] at xb
    rcases xb with ⟨z, x1⟩ | ⟨z, z2, g', x1, x2⟩ | ⟨z, z2, z3, x1⟩
    · exact ⟨fun _ => x1, fun h => absurd (hzz.mpr h) z, fun h => absurd (hzz.mpr h) z⟩
    · exact ⟨fun h => absurd (hzz.mp z) h, fun _ _ => ⟨g', x1, x2⟩, fun _ h1 h2 => by omega⟩
    · refine ⟨fun h => absurd (hzz.mp z) h, fun _ h => by omega, fun _ _ _ => ?_⟩
      rw [x1, hself, hf_pc_pc]
/-- may a clause of a word stand here -/
def zmay (v : Nat → Nat) (t5 t6 t8 : Bool) (i : Nat) : Nat := if i = 19 then (if v 0 = 0 then 1 else 0) else if v 0 = 0 then 0 else if i = 20 then (if 12 ≤ v 1 then 0 else 1) else if i = 22 then (if 4 ≤ v 2 then 0 else 1) else if i = 16 then (if t5 then 0 else 1) else if i = 17 then (if t6 then 0 else 1) else if i = 18 then (if t8 then 0 else 1) else 1
theorem zmay_le (v : Nat → Nat) (t5 t6 t8 : Bool) (i : Nat) : zmay v t5 t6 t8 i ≤ 1 := by
  unfold zmay
  repeat' split
  all_goals decide
section ZX
variable {g1 ge : hf_H} {FV : hf_V}
/-- HalfFair's chain of words -/
theorem x_chain1 (P : hf_px g pa o PV B T) (O : zFO g fa l1 d1 l2 d2 p q v t5 t6 t8) (hv : v 0 < 1000) : spX5_clause gs pa fa g = ndX5_clause_25 gs pa fa (Int32.ofNat (if v 0 = 0 then 0 else 1)) pa (gs.2 19) (Int32.ofNat (zmay v t5 t6 t8 19)) g := by
  obtain ⟨FV, f1, f2, f3, f4, f5, f6, f7, f8, f9, f10⟩ := O
  unfold spX5_clause ndX5_clause_12 zmay
  rw [hf_gi_eq f1, f9.1, Option.bind_some]
  by_cases c : v 0 = 0
  · rw [if_pos (show Int32.ofNat (v 0) ≤ (0 : Int32) by rw [c]; decide), if_pos rfl, if_pos c, if_pos rfl, if_pos c]
    rfl
  · rw [if_neg (show ¬ Int32.ofNat (v 0) ≤ (0 : Int32) from z_nle (b := 0) (by omega) (by omega)), if_neg (by decide), if_neg c, if_pos rfl, if_neg c]
    rfl
theorem x_chain2 (P : hf_px g pa o PV B T) (P1 : hf_px g1 pa o PV B T ∨ ∃ PV1, hf_px g1 pa o PV1 B T) (O1 : zFO g1 fa l1 d1 l2 d2 p q v t5 t6 t8) (W : zFW v) (b : zBG gs pa o B T a kc g g1 ge 19) (hz : ¬ zis B T a (zw 19)) : ndX5_clause_25 gs pa fa (Int32.ofNat (if v 0 = 0 then 0 else 1)) pa (gs.2 19) (Int32.ofNat (zmay v t5 t6 t8 19)) g = ndX5_clause_63 gs pa fa (Int32.ofNat (if v 0 = 0 then 0 else 1)) pa (gs.2 20) (Int32.ofNat (zmay v t5 t6 t8 20)) g1 := by
  obtain ⟨FV, f1, f2, f3, f4, f5, f6, f7, f8, f9, f10⟩ := O1
  have w1 := W.1.1.2.1
  have ob1 : ∀ (τ : Type) (K : Option τ), ((hf_ob 0 19 g1 l1).bind fun _ => K) = K := fun τ K => f5.L.ob K
  unfold ndX5_clause_25 ndX5_clause_62
  rw [P.pob, (b _ (zmay_le v t5 t6 t8 19)).1 hz, hf_bT_inr, if_pos rfl]
  have hm : zmay v t5 t6 t8 20 = if v 0 = 0 then 0 else if 12 ≤ v 1 then 0 else 1 := by
    unfold zmay
    rw [if_neg (by decide), if_pos rfl]
  rw [hm]
  by_cases c : v 0 = 0
  · rw [if_pos c, if_pos zz00, if_pos c]
    rfl
  · rw [if_neg c, if_neg zz10, if_neg c, hf_ga_eq f1, f2, Option.bind_some, ob1, f5.L.size, hf_b2_some]
    by_cases c2 : 12 ≤ v 1
    · rw [if_pos (show (12 : Int32) ≤ Int32.ofNat (v 1) from z_yle (a := 12) c2 (by omega)), if_pos c2]
      rfl
    · rw [if_neg (show ¬ (12 : Int32) ≤ Int32.ofNat (v 1) from z_nle (a := 12) (by omega) (by decide)), if_neg c2]
      rfl
theorem x_chain3 {PV1 : hf_V} (P1 : hf_px g1 pa o PV1 B T) (O1 : zFO g1 fa l1 d1 l2 d2 p q v t5 t6 t8) (W : zFW v) (b : ∀ i, i < 27 → zBG gs pa o B T a kc g1 g1 ge i) (hz : ¬ zis B T a (zw 20)) (hz2 : ¬ zis B T a (zw 21)) : ndX5_clause_63 gs pa fa (Int32.ofNat (if v 0 = 0 then 0 else 1)) pa (gs.2 20) (Int32.ofNat (zmay v t5 t6 t8 20)) g1 = ndX5_clause_138 gs pa fa (Int32.ofNat (if v 0 = 0 then 0 else 1)) pa (gs.2 22) (Int32.ofNat (zmay v t5 t6 t8 22)) g1 := by
  obtain ⟨FV, f1, f2, f3, f4, f5, f6, f7, f8, f9, f10⟩ := O1
  have w2 := W.1.1.2.2.1
  have ob1 : ∀ (τ : Type) (K : Option τ), ((hf_ob 0 19 g1 l2).bind fun _ => K) = K := fun τ K => f6.L.ob K
  unfold ndX5_clause_63 ndX5_clause_137
  have hb : (if v 0 = 0 then 0 else 1) ≤ 1 := by split <;> decide
  rw [P1.pob, (b 20 (by decide) _ (zmay_le v t5 t6 t8 20)).1 hz, hf_bT_inr, if_pos rfl, P1.pob, (b 21 (by decide) _ hb).1 hz2, hf_bT_inr, if_pos rfl]
  have hm : zmay v t5 t6 t8 22 = if v 0 = 0 then 0 else if 4 ≤ v 2 then 0 else 1 := by
    unfold zmay
    rw [if_neg (by decide), if_neg (show ¬ (22 = 20) by decide), if_pos rfl]
  rw [hm]
  by_cases c : v 0 = 0
  · rw [if_pos c, if_pos zz00, if_pos c]
    rfl
  · rw [if_neg c, if_neg zz10, if_neg c, hf_ga_eq f1, f3, Option.bind_some, ob1, f6.L.size, hf_b2_some]
    by_cases c2 : 4 ≤ v 2
    · rw [if_pos (show (4 : Int32) ≤ Int32.ofNat (v 2) from z_yle (a := 4) c2 (by omega)), if_pos c2]
      rfl
    · rw [if_neg (show ¬ (4 : Int32) ≤ Int32.ofNat (v 2) from z_nle (a := 4) (by omega) (by decide)), if_neg c2]
      rfl
theorem x_chain4 {PV1 : hf_V} (P1 : hf_px g1 pa o PV1 B T) (b : ∀ i, i < 27 → zBG gs pa o B T a kc g1 g1 ge i) (hz : ¬ zis B T a (zw 22)) (hz2 : ¬ zis B T a (zw 23)) : ndX5_clause_138 gs pa fa (Int32.ofNat (if v 0 = 0 then 0 else 1)) pa (gs.2 22) (Int32.ofNat (zmay v t5 t6 t8 22)) g1 = hf_bT (spX5_once gs pa fa (Int32.ofNat (if v 0 = 0 then 0 else 1)) g1) fun _ g5 => some (.inr (), g5) := by
  unfold ndX5_clause_138
  have hb : (if v 0 = 0 then 0 else 1) ≤ 1 := by split <;> decide
  rw [P1.pob, (b 22 (by decide) _ (zmay_le v t5 t6 t8 22)).1 hz, hf_bT_inr, if_pos rfl, P1.pob, (b 23 (by decide) _ hb).1 hz2, hf_bT_inr, if_pos rfl, P1.pob]
theorem zbi_0 {t : Bool} : (zbi t = 0) ↔ t = false := by cases t <;> decide
theorem x_chain5 (O1 : zFO g1 fa l1 d1 l2 d2 p q v t5 t6 t8) : spX5_once gs pa fa (Int32.ofNat (if v 0 = 0 then 0 else 1)) g1 = ndX5_once_19 gs pa fa (Int32.ofNat (if v 0 = 0 then 0 else 1)) pa (gs.2 16) (Int32.ofNat (zmay v t5 t6 t8 16)) g1 := by
  obtain ⟨FV, f1, f2, f3, f4, f5, f6, f7, f8, f9, f10⟩ := O1
  unfold spX5_once ndX5_once_18
  have hm : zmay v t5 t6 t8 16 = if v 0 = 0 then 0 else if t5 then 0 else 1 := by
    unfold zmay
    rw [if_neg (by decide), if_neg (show ¬ (16 = 20) by decide), if_neg (show ¬ (16 = 22) by decide), if_pos rfl]
  rw [hm]
  by_cases c : v 0 = 0
  · rw [if_pos c, if_pos zz00, if_pos c]
    rfl
  · rw [if_neg c, if_neg zz10, if_neg c, hf_gi_eq f1, f9.2.2.2.2.2.2.2.1, Option.bind_some]
    cases t5 <;> rfl
theorem x_chain6 {PV1 : hf_V} (P1 : hf_px g1 pa o PV1 B T) (O1 : zFO g1 fa l1 d1 l2 d2 p q v t5 t6 t8) (b : ∀ i, i < 27 → zBG gs pa o B T a kc g1 g1 ge i) (hz : ¬ zis B T a (zw 16)) : ndX5_once_19 gs pa fa (Int32.ofNat (if v 0 = 0 then 0 else 1)) pa (gs.2 16) (Int32.ofNat (zmay v t5 t6 t8 16)) g1 = ndX5_once_63 gs pa fa (Int32.ofNat (if v 0 = 0 then 0 else 1)) pa (gs.2 17) (Int32.ofNat (zmay v t5 t6 t8 17)) g1 := by
  obtain ⟨FV, f1, f2, f3, f4, f5, f6, f7, f8, f9, f10⟩ := O1
  unfold ndX5_once_19 ndX5_once_62
  rw [P1.pob, (b 16 (by decide) _ (zmay_le v t5 t6 t8 16)).1 hz, hf_bT_inr, if_pos rfl]
  have hm : zmay v t5 t6 t8 17 = if v 0 = 0 then 0 else if t6 then 0 else 1 := by
    unfold zmay
    rw [if_neg (by decide), if_neg (show ¬ (17 = 20) by decide), if_neg (show ¬ (17 = 22) by decide), if_neg (show ¬ (17 = 16) by decide), if_pos rfl]
  rw [hm]
  by_cases c : v 0 = 0
  · rw [if_pos c, if_pos zz00, if_pos c]
    rfl
  · rw [if_neg c, if_neg zz10, if_neg c, hf_gi_eq f1, f9.2.2.2.2.2.2.2.2.1, Option.bind_some]
    cases t6 <;> rfl
theorem x_chain7 {PV1 : hf_V} (P1 : hf_px g1 pa o PV1 B T) (O1 : zFO g1 fa l1 d1 l2 d2 p q v t5 t6 t8) (b : ∀ i, i < 27 → zBG gs pa o B T a kc g1 g1 ge i) (hz : ¬ zis B T a (zw 17)) : ndX5_once_63 gs pa fa (Int32.ofNat (if v 0 = 0 then 0 else 1)) pa (gs.2 17) (Int32.ofNat (zmay v t5 t6 t8 17)) g1 = ndX5_once_96 gs pa fa pa (gs.2 18) (Int32.ofNat (zmay v t5 t6 t8 18)) g1 := by
  obtain ⟨FV, f1, f2, f3, f4, f5, f6, f7, f8, f9, f10⟩ := O1
  unfold ndX5_once_63 ndX5_once_95
  rw [P1.pob, (b 17 (by decide) _ (zmay_le v t5 t6 t8 17)).1 hz, hf_bT_inr, if_pos rfl]
  have hm : zmay v t5 t6 t8 18 = if v 0 = 0 then 0 else if t8 then 0 else 1 := by
    unfold zmay
    rw [if_neg (by decide), if_neg (show ¬ (18 = 20) by decide), if_neg (show ¬ (18 = 22) by decide), if_neg (show ¬ (18 = 16) by decide), if_neg (show ¬ (18 = 17) by decide), if_pos rfl]
  rw [hm]
  by_cases c : v 0 = 0
  · rw [if_pos c, if_pos zz00, if_pos c]
    rfl
  · rw [if_neg c, if_neg zz10, if_neg c, hf_gi_eq f1, f9.2.2.2.2.2.2.2.2.2, Option.bind_some]
    cases t8 <;> rfl
end ZX
end ZQ
set_option maxRecDepth 100000
set_option maxHeartbeats 1000000
/-! texts: a fair's clause, whole -/
section ZM
variable {V1 V2 : hf_V} {B : Nat → Nat} {T a q : Nat} {v : Nat → Nat} {t5 t6 t8 : Bool}
/-- the words at q, where no space stands -/
def zMI (V : hf_V) (B : Nat → Nat) (T a : Nat) : Prop := ∀ j, j < 27 → spX4_isWord (zwI j) V = some (Int32.ofNat (if zis B T a (zw j) then 1 else 0), V)
theorem zMI.y {V : hf_V} (H : zMI V B T a) {j : Nat} (hj : j < 27) (h : zis B T a (zw j)) : spX4_isWord (zwI j) V = some (Int32.ofNat 1, V) := by
  rw [H j hj, if_pos h]
theorem zMI.n {V : hf_V} (H : zMI V B T a) {j : Nat} (hj : j < 27) (h : ¬ zis B T a (zw j)) : spX4_isWord (zwI j) V = some (Int32.ofNat 0, V) := by
  rw [H j hj, if_neg h]
theorem zMI_of {V : hf_V} (mt : hf_mt V B T) (ha : a ≤ T) (h8 : V.1 8 = Int32.ofNat (zsk B T a)) : zMI V B T a := fun j hj => by
  have s2 := (zsk_le (B := B) ha).2
  have hpp : zsk B T (zsk B T a) = zsk B T a := zsk_idem B T _ a rfl ha
  have h1 := m_isW mt h8 s2 hj
  rw [hpp, hf_ui_self h8] at h1
  rw [h1]
  by_cases e : zis B T a (zw j)
  · rw [if_pos e, if_pos ((zis_sk ha _).mpr e)]
  · rw [if_neg e, if_neg (fun z => e ((zis_sk ha _).mp z))]
theorem m_isFair1 (H : zMI V1 B T a) (h : zis B T a (zw 19) ∨ zis B T a (zw 20) ∨ zis B T a (zw 21) ∨ zis B T a (zw 22) ∨ zis B T a (zw 23) ∨ zis B T a (zw 16) ∨ zis B T a (zw 17) ∨ zis B T a (zw 18)) : spX4_isFairWord V1 = some (1, V1) := by
  unfold spX4_isFairWord
  rw [zwI_19, zwI_20, zwI_21, zwI_22, zwI_23, zwI_16, zwI_17, zwI_18]
  by_cases h19 : zis B T a (zw 19)
  · rw [H.y (by decide) h19, hf_b2_some, if_neg zz10]
  rw [H.n (by decide) h19, hf_b2_some, if_pos zz00]
  by_cases h20 : zis B T a (zw 20)
  · rw [H.y (by decide) h20, hf_b2_some, if_neg zz10]
  rw [H.n (by decide) h20, hf_b2_some, if_pos zz00]
  by_cases h21 : zis B T a (zw 21)
  · rw [H.y (by decide) h21, hf_b2_some, if_neg zz10]
  rw [H.n (by decide) h21, hf_b2_some, if_pos zz00]
  by_cases h22 : zis B T a (zw 22)
  · rw [H.y (by decide) h22, hf_b2_some, if_neg zz10]
  rw [H.n (by decide) h22, hf_b2_some, if_pos zz00]
  by_cases h23 : zis B T a (zw 23)
  · rw [H.y (by decide) h23, hf_b2_some, if_neg zz10]
  rw [H.n (by decide) h23, hf_b2_some, if_pos zz00]
  by_cases h16 : zis B T a (zw 16)
  · rw [H.y (by decide) h16, hf_b2_some, if_neg zz10]
  rw [H.n (by decide) h16, hf_b2_some, if_pos zz00]
  by_cases h17 : zis B T a (zw 17)
  · rw [H.y (by decide) h17, hf_b2_some, if_neg zz10]
  rw [H.n (by decide) h17, hf_b2_some, if_pos zz00]
  by_cases h18 : zis B T a (zw 18)
  · rw [H.y (by decide) h18, hf_b2_some, if_neg zz10]
  exfalso
  rcases h with h | h | h | h | h | h | h | h
  · exact h19 h
  · exact h20 h
  · exact h21 h
  · exact h22 h
  · exact h23 h
  · exact h16 h
  · exact h17 h
  · exact h18 h
theorem m_isFair0 (H : zMI V1 B T a) (h19 : ¬ zis B T a (zw 19)) (h20 : ¬ zis B T a (zw 20)) (h21 : ¬ zis B T a (zw 21)) (h22 : ¬ zis B T a (zw 22)) (h23 : ¬ zis B T a (zw 23)) (h16 : ¬ zis B T a (zw 16)) (h17 : ¬ zis B T a (zw 17)) (h18 : ¬ zis B T a (zw 18)) : spX4_isFairWord V1 = some (0, V1) := by
  unfold spX4_isFairWord
  rw [zwI_19, zwI_20, zwI_21, zwI_22, zwI_23, zwI_16, zwI_17, zwI_18, H.n (by decide) h19, hf_b2_some, if_pos zz00, H.n (by decide) h20, hf_b2_some, if_pos zz00, H.n (by decide) h21, hf_b2_some, if_pos zz00, H.n (by decide) h22, hf_b2_some, if_pos zz00, H.n (by decide) h23, hf_b2_some, if_pos zz00, H.n (by decide) h16, hf_b2_some, if_pos zz00, H.n (by decide) h17, hf_b2_some, if_pos zz00, H.n (by decide) h18, hf_b2_some, if_pos zz00]
def zwr (M : Option (Int32 × hf_V)) : Option (Int32 × hf_V) := hf_b2 M fun x V' => if x = 0 ∨ x = 1 then some (x, V') else none
/-- the model's line, behind 'stalls' -/
def zln1 (q : Nat) (V2 : hf_V) : Option (Int32 × hf_V) :=
  hf_b2 (spX4_isWord (zwI 20) V2) fun x5 V4 =>
  if x5 = 0 then (hf_b2 (spX4_isWord (zwI 21) V4) fun x7 V6 =>
  if x7 = 0 then (hf_b2 (spX4_isWord (zwI 22) V6) fun x9 V8 =>
  if x9 = 0 then (hf_b2 (spX4_isWord (zwI 23) V8) fun x11 V10 =>
  if x11 = 0 then (hf_b2 (spX4_isWord (zwI 16) V10) fun x13 V12 =>
  if x13 = 0 then (hf_b2 (spX4_isWord (zwI 18) V12) fun x15 V14 =>
  if x15 = 0 then (hf_b2 (spX4_isOnceHere (6 : Int32) (Int32.ofNat q) (1 : Int32) (24 : Int32) V14) fun x17 V16 =>
  if x17 = 0 then (some ((0 : Int32), V16)) else
  hf_b2 (spX4_cellHere (7 : Int32) (1 : Int32) (99 : Int32) V16) fun x19 V18 =>
  if x19 = 0 then (some ((0 : Int32), V18)) else
  some ((1 : Int32), V18)) else
  zwr (spX4_isOnceHere (8 : Int32) (Int32.ofNat q) (0 : Int32) (7 : Int32) V14)) else
  zwr (spX4_isOnceHere (5 : Int32) (Int32.ofNat q) (0 : Int32) (9 : Int32) V12)) else
  zwr (spX4_isClubHere V10)) else
  zwr (spX4_isBuyerHere (Int32.ofNat q) V8)) else
  zwr (spX4_isForgedHere V6)) else
  zwr (spX4_isHalfHere (Int32.ofNat q) V4)
theorem m_line (H : zMI V2 B T a) (h9 : V2.1 9 = 0) (r0 : V2.2.2.2.1 7 0 = Int32.ofNat (v 0)) (hv : v 0 < 1000) : spX4_fairLineHere (Int32.ofNat q) V2 = if zis B T a (zw 19) then zwr (spX4_areStallsHere (Int32.ofNat q) V2) else if v 0 = 0 then some (0, hf_ui V2 9 (Int32.ofNat (1 + 8 * q + 4))) else zln1 q V2 := by
  have l0 : hf_ld 86 (V2.2.2.2.1 7) (0 : Int32) = some (V2.2.2.2.1 7 0) := z_ld (i := 0) (by decide) (by decide)
  have hfl : spX4_fails (4 : Int32) (Int32.ofNat q) V2 = some (0, hf_ui V2 9 (Int32.ofNat (1 + 8 * q + 4))) := m_fails0 h9 4 q
  have e0 : (Int32.ofNat (v 0) = (0 : Int32)) ↔ v 0 = 0 := z_eq (b := 0) (by omega) (by decide)
  unfold spX4_fairLineHere
  rw [zwI_19]
  by_cases h : zis B T a (zw 19)
  · rw [H.y (by decide) h, hf_b2_some, if_neg zz10, if_pos h]
    rfl
  · rw [H.n (by decide) h, hf_b2_some, if_pos zz00, if_neg h, l0, r0, Option.bind_some]
    by_cases c : v 0 = 0
    · rw [if_pos (e0.mpr c), if_pos c, hfl, hf_b2_some, if_pos (Or.inl rfl)]
    · rw [if_neg (fun z => c (e0.mp z)), if_neg c, zwI_20, zwI_21, zwI_22, zwI_23, zwI_16, zwI_18]
      rfl
/-- the model's clause, of a fair -/
theorem m_clauseF {V : hf_V} {kc : Nat} (mt : hf_mt V B T) (ha : a ≤ T) (v8 : V.1 8 = Int32.ofNat a) (v9 : V.1 9 = 0) (v11 : V.1 11 = 6) (v14 : V.1 14 = Int32.ofNat kc) (hk : kc ≤ 40) (hV1 : V1 = hf_ui V 8 (Int32.ofNat (zsk B T a))) (hV2 : V2 = hf_ui V1 14 (Int32.ofNat (kc + 1))) : zMI V1 B T a ∧ zMI V2 B T a ∧ spX4_clauseHere V = hf_b2 (spX4_isFairWord V1) fun x6 V5 => if x6 = 0 then ndX4_clauseHere_59 (Int32.ofNat (zsk B T a)) V5 else ndX4_clauseHere_66 (Int32.ofNat (zsk B T a)) 1 V5 := by
  have mt1 : hf_mt V1 B T := by rw [hV1]; exact mt.ui (by decide) _
  have w8 : V1.1 8 = Int32.ofNat (zsk B T a) := by rw [hV1, hf_ui_at]
  have w11 : V1.1 11 = 6 := by rw [hV1, hf_ui_ne _ (by decide)]; exact v11
  refine ⟨zMI_of mt1 ha w8, zMI_of (by rw [hV2]; exact mt1.ui (by decide) _) ha (by rw [hV2, hf_ui_ne _ (by decide)]; exact w8), ?_⟩
  unfold spX4_clauseHere
  rw [m_see mt v8 ha, hf_b2_some, ← hV1, w8, hf_let_eq, w11, if_pos rfl]
  unfold ndX4_clauseHere_24
  rw [if_neg (by decide)]
end ZM
section ZQ
variable {gs : hf_gs} {pa o nm : Nat} {B : Nat → Nat} {T : Nat} {g g0 : hf_H} {PV V : hf_V} {a kc fa l1 d1 l2 d2 n : Nat} {p q : Nat → Nat} {v : Nat → Nat} {t5 t6 t8 : Bool}
theorem xm_clauseF (R : zFS gs pa o nm B T g PV V a kc fa l1 d1 l2 d2 p q v t5 t6 t8) (K : hf_gm pa o g0 g n) (hfa : g0.2.1 ≤ fa) (hlt : g0.2.1 ≤ l1 ∧ g0.2.1 ≤ d1 ∧ g0.2.1 ≤ l2 ∧ g0.2.1 ≤ d2) : (∃ kc', zFC gs pa o nm B T g0 V n a kc' fa (spX5_clause gs pa fa g) (spX4_clauseHere V)) := by
  have R0 := R
  obtain ⟨⟨N, P, p0, p1, p3, wo, mt, v8, v9, v12, ha, hm⟩, ⟨c4, c5, c14, c11, hk40⟩, O, M, W⟩ := R
  have hT4 := P.T4
  obtain ⟨s1, s2⟩ := zsk_le (B := B) ha
  have w0 := W.1.1.1
  have w1 := W.1.1.2.1
  have w2 := W.1.1.2.2.1
  obtain ⟨V1, hV1⟩ : ∃ x, x = hf_ui V 8 (Int32.ofNat (zsk B T a)) := ⟨_, rfl⟩
  obtain ⟨V2, hV2⟩ : ∃ x, x = hf_ui V1 14 (Int32.ofNat (kc + 1)) := ⟨_, rfl⟩
  obtain ⟨I1, I2, hM⟩ := m_clauseF mt ha v8 v9 c11 c14 hk40 hV1 hV2
  obtain ⟨PV1, hPV1⟩ : ∃ x, x = hf_ui PV 1 (Int32.ofNat (zsk B T a)) := ⟨_, rfl⟩
  obtain ⟨g1, hg1⟩ : ∃ x, x = hf_pc g pa PV1 := ⟨_, rfl⟩
  obtain ⟨q', hq'⟩ : ∃ x, x = zsk B T a := ⟨_, rfl⟩
  obtain ⟨e, he⟩ : ∃ x, x = zwe B T q' := ⟨_, rfl⟩
  obtain ⟨PVe, hPVe⟩ : ∃ x, x = hf_ui (hf_ui PV 4 (Int32.ofNat (kc + 1))) 1 (Int32.ofNat e) := ⟨_, rfl⟩
  obtain ⟨ge, hge⟩ : ∃ x, x = hf_pc g pa PVe := ⟨_, rfl⟩
  obtain ⟨Ve, hVe⟩ : ∃ x, x = hf_ui (hf_ui V 14 (Int32.ofNat (kc + 1))) 8 (Int32.ofNat e) := ⟨_, rfl⟩
  have bg : ∀ i, i < 27 → zBG gs pa o B T a kc g g1 ge i ∧ zBG gs pa o B T a kc g1 g1 ge i := fun i hi => by
    have := R0.begins hi
    rw [← hPV1, ← hg1, ← hq', ← he, ← hPVe, ← hge] at this
    exact this
  have b1 : ∀ i, i < 27 → zBG gs pa o B T a kc g1 g1 ge i := fun i hi => (bg i hi).2
  rw [← hq'] at hM s1 s2 hV1 hPV1
  have P1 : hf_px g1 pa o PV1 B T := by rw [hg1]; exact P.pc (by rw [hPV1]; rfl)
  have K01 : hf_gk pa o g g1 0 := by rw [hg1]; exact hf_gk.pc N P.2.1 _
  obtain ⟨WV, w3⟩ := P.w3
  have O1 : zFO g1 fa l1 d1 l2 d2 p q v t5 t6 t8 := O.gk K01 N P.2.1 w3
  have w9 : V1.1 9 = 0 := by rw [hV1, hf_ui_ne _ (by decide)]; exact v9
  have w14 : V1.1 14 = Int32.ofNat kc := by rw [hV1, hf_ui_ne _ (by decide)]; exact c14
  have y9 : V2.1 9 = 0 := by rw [hV2, hf_ui_ne _ (by decide)]; exact w9
  have arr : V2.2 = V.2 := by rw [hV2, hV1]; rfl
  have arr1 : V1.2 = V.2 := by rw [hV1]; rfl
  have r0 : V2.2.2.2.1 7 0 = Int32.ofNat (v 0) := by rw [arr]; exact M.1 0 (by decide) (by decide) (by decide) (by decide)
  have Z1 : zvf V V1 := by rw [hV1]; exact (zvf.rfl_ V).ui (by omega) _
  have Z2 : zvf V V2 := by rw [hV2]; exact Z1.ui (by omega) _
  have Ze : zvf V Ve := by rw [hVe]; exact ((zvf.rfl_ V).ui (by omega) _).ui (by omega) _
  have h7 : zh7 V := M.h7 W
  have hpass : spX4_passWord V2 = some Ve := by
    have mt2 : hf_mt V2 B T := by rw [hV2, hV1]; exact (mt.ui (by decide) _).ui (by decide) _
    have h8 : V2.1 8 = Int32.ofNat q' := by rw [hV2, hf_ui_ne _ (by decide), hV1, hf_ui_at]
    rw [m_passWord mt2 h8 s2, ← he, hV2, hV1, hVe]
    congr 1
    unfold hf_ui
    refine Prod.ext ?_ rfl
    funext j
    by_cases e8 : j = 8
    · simp [e8]
    · simp [e8]
  have hea : Ve.2 = V.2 := by rw [hVe]; rfl
  have hpa7 : V2.2.2.2.1 7 = Ve.2.2.2.1 7 := by rw [arr, hea]
  -- wrong: may not
  have fin4 : ∀ (X : Option ((Nat ⊕ Unit) × hf_H)) (Mm : Option (Int32 × hf_V)) (U : hf_V) (g' : hf_H) (c kk : Nat), X = some (.inl (o + 19), g') → hf_wr g1 o (1 + 8 * q' + c) g' → c < 8 → Mm = some (0, hf_ui U 9 (Int32.ofNat (1 + 8 * q' + c))) → zvf V U → U.2 = V.2 → zFC gs pa o nm B T g0 V n a kk fa X Mm := fun X Mm U g' c kk h1 h2 h3 h4 h5 h6 => by
    refine Or.inl ⟨g', _, h1, h4, 1 + 8 * q' + c, h2.gi, hf_ui_at _ _ _, by omega, by omega, ((K.trans K01.gm).trans (hf_gk.wr K01.no h2).gm).mono (by omega), h5.ui (by omega) _, fun k hk => ?_⟩
    show ∃ n, n < 16777216 ∧ U.2.2.2.1 7 k = Int32.ofNat n
    rw [h6]
    exact h7 k hk
  have hfl4 : spX4_fails (4 : Int32) (Int32.ofNat q') V1 = some (0, hf_ui V1 9 (Int32.ofNat (1 + 8 * q' + 4))) := m_fails0 w9 4 q'
  have hfl42 : spX4_fails (4 : Int32) (Int32.ofNat q') V2 = some (0, hf_ui V2 9 (Int32.ofNat (1 + 8 * q' + 4))) := m_fails0 y9 4 q'
  have e40 : (Int32.ofNat kc = (40 : Int32)) ↔ kc = 40 := z_eq (b := 40) (by omega) (by decide)
  have a14 : Int32.ofNat kc + (1 : Int32) = Int32.ofNat (kc + 1) := z_add kc 1
  have hMw : (zis B T a (zw 19) ∨ zis B T a (zw 20) ∨ zis B T a (zw 21) ∨ zis B T a (zw 22) ∨ zis B T a (zw 23) ∨ zis B T a (zw 16) ∨ zis B T a (zw 17) ∨ zis B T a (zw 18)) → spX4_clauseHere V = if kc = 40 then some (0, hf_ui V1 9 (Int32.ofNat (1 + 8 * q' + 4))) else zwr (spX4_fairLineHere (Int32.ofNat q') V2) := fun h => by
    rw [hM, m_isFair1 I1 h, hf_b2_some, if_neg (by decide)]
    unfold ndX4_clauseHere_66 ndX4_clauseHere_81
    rw [if_neg (by decide), w14]
    by_cases c : kc = 40
    · rw [if_pos (e40.mpr c), if_pos c, hfl4, hf_b2_some, if_pos (Or.inl rfl)]
    · rw [if_neg (fun z => c (e40.mp z)), if_neg c, a14, hf_let_eq, ← hV2, if_neg (by decide)]
      rfl
  have hline := m_line (q := q') (v := v) I2 y9 r0 (by omega)
  have hc1 := x_chain1 (gs := gs) P O (by omega : v 0 < 1000)
  -- one word
  have word : ∀ (i : Nat) (bodyX : Option ((Nat ⊕ Unit) × hf_H)) (Mb : Option (Int32 × hf_V)), (i = 19 ∨ i = 20 ∨ i = 21 ∨ i = 22 ∨ i = 23 ∨ i = 16 ∨ i = 17 ∨ i = 18) → zis B T a (zw i) → ((kc = 40 ∨ zmay v t5 t6 t8 i = 0) → ∃ g', spX5_clause gs pa fa g = some (.inl (o + 19), g') ∧ hf_wr g1 o (1 + 8 * zsk B T a + 4) g') → (kc ≠ 40 → zmay v t5 t6 t8 i = 1 → spX5_clause gs pa fa g = bodyX) → (spX4_fairLineHere (Int32.ofNat q') V2 = Mb) → (zmay v t5 t6 t8 i = 0 → zwr Mb = some (0, hf_ui V2 9 (Int32.ofNat (1 + 8 * q' + 4)))) → (kc < 40 → zmay v t5 t6 t8 i = 1 → zFS gs pa o nm B T ge PVe Ve e (kc + 1) fa l1 d1 l2 d2 p q v t5 t6 t8 → hf_gm pa o g0 ge n → zFR gs pa o nm B T g0 Ve n e (kc + 1) fa bodyX (zwr Mb)) → ∃ kc', zFC gs pa o nm B T g0 V n a kc' fa (spX5_clause gs pa fa g) (spX4_clauseHere V) := by
    intro i bodyX Mb hi hz hX1 hX2 hMb hM0 hB
    have hi27 : i < 27 := by omega
    have hw4 : 4 ≤ (zw i).length := by
      rcases hi with rfl | rfl | rfl | rfl | rfl | rfl | rfl | rfl <;> decide
    have hwe := zis.we hz (zw_ok i hi27) ha
    rw [← hq', ← he] at hwe
    have hMw' := hMw (by
      rcases hi with rfl | rfl | rfl | rfl | rfl | rfl | rfl | rfl
      · exact Or.inl hz
      · exact Or.inr (Or.inl hz)
      · exact Or.inr (Or.inr (Or.inl hz))
      · exact Or.inr (Or.inr (Or.inr (Or.inl hz)))
      · exact Or.inr (Or.inr (Or.inr (Or.inr (Or.inl hz))))
      · exact Or.inr (Or.inr (Or.inr (Or.inr (Or.inr (Or.inl hz)))))
      · exact Or.inr (Or.inr (Or.inr (Or.inr (Or.inr (Or.inr (Or.inl hz))))))
      · exact Or.inr (Or.inr (Or.inr (Or.inr (Or.inr (Or.inr (Or.inr hz)))))))
    rw [hMb] at hMw'
    refine ⟨kc + 1, ?_⟩
    by_cases c : kc = 40
    · rw [if_pos c] at hMw'
      obtain ⟨g', x1, x2⟩ := hX1 (Or.inl c)
      rw [← hq'] at x2
      exact fin4 _ _ V1 g' 4 _ x1 x2 (by decide) hMw' Z1 arr1
    · rw [if_neg c] at hMw'
      by_cases d : zmay v t5 t6 t8 i = 0
      · obtain ⟨g', x1, x2⟩ := hX1 (Or.inr d)
        rw [← hq'] at x2
        exact fin4 _ _ V2 g' 4 _ x1 x2 (by decide) (hMw'.trans (hM0 d)) Z2 arr
      · have d1 : zmay v t5 t6 t8 i = 1 := by
          have := zmay_le v t5 t6 t8 i
          omega
        have Re := R0.begun (e := e) (by omega) (by omega)
        rw [← hPVe, ← hge, ← hVe] at Re
        have Ke : hf_gm pa o g0 ge n := by
          rw [hge]
          exact (K.trans (hf_gk.pc N P.2.1 _).gm).mono (by omega)
        have hb := hB (by omega) d1 Re Ke
        rw [hX2 c d1, hMw']
        exact hb.fc (by omega) (by omega) Ze
  have zwrf : ∀ (U : hf_V) (x : Int32), zwr (some (0, hf_ui U 9 x)) = some (0, hf_ui U 9 x) := fun U x => by
    unfold zwr
    rw [hf_b2_some, if_pos (Or.inl rfl)]
  have hme : ∀ i, i ≠ 19 → i ≠ 20 → i ≠ 22 → i ≠ 16 → i ≠ 17 → i ≠ 18 → zmay v t5 t6 t8 i = if v 0 = 0 then 0 else 1 := fun i h1 h2 h3 h4 h5 h6 => by
    unfold zmay
    rw [if_neg h1, if_neg h2, if_neg h3, if_neg h4, if_neg h5, if_neg h6]
  have no : ∀ {i j : Nat}, i < 27 → j < 27 → zis B T a (zw i) → zw i ≠ zw j → ¬ zis B T a (zw j) := fun hi hj h hne => zis_no hi hj h hne
  have l86 : ∀ k : Nat, k < 86 → hf_ld 86 (V2.2.2.2.1 7) (Int32.ofNat k) = some (V2.2.2.2.1 7 k) := fun k hk => z_ld hk (by omega)
  by_cases h19 : zis B T a (zw 19)
  · -- stalls
    have hmm : zmay v t5 t6 t8 19 = if v 0 = 0 then 1 else 0 := by
      unfold zmay
      rw [if_pos rfl]
    refine word 19 (hf_bT (spX5_stalls pa fa ge) fun _ g6 => some (.inr (), g6)) (zwr (spX4_areStallsHere (Int32.ofNat q') V2)) (Or.inl rfl) h19 (fun hc => ?_) (fun hc hd => ?_) (by rw [hline, if_pos h19]) (fun hd => ?_) (fun hc hd Re Ke => ?_)
    · obtain ⟨g', x1, x2⟩ := ((bg 19 (by decide)).1 _ (zmay_le v t5 t6 t8 19)).2.1 h19 hc
      refine ⟨g', ?_, x2⟩
      rw [hc1]
      unfold ndX5_clause_25
      rw [P.pob, x1, hf_bT_inl]
    · rw [hc1]
      unfold ndX5_clause_25
      rw [P.pob, ((bg 19 (by decide)).1 _ (zmay_le v t5 t6 t8 19)).2.2 h19 hc hd, hf_bT_inr, if_neg (by decide)]
      have Pe : hf_px ge pa o PVe B T := by rw [hge]; exact P.pc (by rw [hPVe]; rfl)
      rw [Pe.pob]
    · rw [hmm] at hd
      have hv0 : ¬ v 0 = 0 := fun z => by rw [if_pos z] at hd; cases hd
      have : spX4_areStallsHere (Int32.ofNat q') V2 = some (0, hf_ui V2 9 (Int32.ofNat (1 + 8 * q' + 4))) := by
        unfold spX4_areStallsHere
        have l0 := l86 0 (by decide)
        have l0' : hf_ld 86 (V2.2.2.2.1 7) (0 : Int32) = _ := l0
        rw [l0', r0, Option.bind_some, if_neg (show ¬ Int32.ofNat (v 0) ≤ (0 : Int32) from z_nle (b := 0) (by omega) (by omega)), hfl42, hf_b2_some, if_pos (Or.inl rfl)]
      rw [this, zwrf, zwrf]
    · rw [hmm] at hd
      have hv0 : v 0 = 0 := by
        by_cases z : v 0 = 0
        · exact z
        · rw [if_neg z] at hd
          cases hd
      exact (fair_stalls hpass hpa7 Re hv0 _ Ke hfa hlt).wrapX.wrapM.wrapM
  rw [if_neg h19] at hline
  have hc2 := x_chain2 (gs := gs) (kc := kc) (ge := ge) P (Or.inr ⟨PV1, P1⟩) O1 W (bg 19 (by decide)).1 h19
  have Pe : hf_px ge pa o PVe B T := by rw [hge]; exact P.pc (by rw [hPVe]; rfl)
  have hbb : (if v 0 = 0 then 0 else 1) ≤ 1 := by split <;> decide
  by_cases h20 : zis B T a (zw 20)
  · -- half
    have hmm : zmay v t5 t6 t8 20 = if v 0 = 0 then 0 else if 12 ≤ v 1 then 0 else 1 := by
      unfold zmay
      rw [if_neg (by decide), if_pos rfl]
    have hln : zln1 q' V2 = zwr (spX4_isHalfHere (Int32.ofNat q') V2) := by
      unfold zln1
      rw [I2.y (by decide) h20, hf_b2_some, if_neg zz10]
    rw [hln] at hline
    refine word 20 (hf_bT (spX5_half gs pa fa ge) fun _ g15 => some (.inr (), g15)) _ (Or.inr (Or.inl rfl)) h20 (fun hc => ?_) (fun hc hd => ?_) hline (fun hd => ?_) (fun hc hd Re Ke => ?_)
    · obtain ⟨g', x1, x2⟩ := (b1 20 (by decide) _ (zmay_le v t5 t6 t8 20)).2.1 h20 hc
      refine ⟨g', ?_, x2⟩
      rw [hc1, hc2]
      unfold ndX5_clause_63
      rw [P1.pob, x1, hf_bT_inl]
    · rw [hc1, hc2]
      unfold ndX5_clause_63
      rw [P1.pob, (b1 20 (by decide) _ (zmay_le v t5 t6 t8 20)).2.2 h20 hc hd, hf_bT_inr, if_neg (by decide), Pe.pob]
    · by_cases z : v 0 = 0
      · rw [if_pos z, zwrf]
      · rw [if_neg z]
        rw [hmm, if_neg z] at hd
        have h12 : v 1 = 12 := by
          by_cases y : 12 ≤ v 1
          · omega
          · rw [if_neg y] at hd
            cases hd
        have : spX4_isHalfHere (Int32.ofNat q') V2 = some (0, hf_ui V2 9 (Int32.ofNat (1 + 8 * q' + 4))) := by
          unfold spX4_isHalfHere
          have l1' : hf_ld 86 (V2.2.2.2.1 7) (1 : Int32) = _ := l86 1 (by decide)
          rw [l1', arr, M.1 1 (by decide) (by decide) (by decide) (by decide), h12, Option.bind_some, if_pos (show Int32.ofNat 12 = (12 : Int32) from rfl), hfl42, hf_b2_some, if_pos (Or.inl rfl)]
        rw [this, zwrf, zwrf]
    · have z : ¬ v 0 = 0 := fun z => by rw [hmm, if_pos z] at hd; cases hd
      rw [hmm, if_neg z] at hd
      have h12 : v 1 < 12 := by
        by_cases y : 12 ≤ v 1
        · rw [if_pos y] at hd
          cases hd
        · omega
      rw [if_neg z]
      exact (fair_half hpass hpa7 Re h12 _ Ke hlt).wrapX.wrapM.wrapM
  by_cases h21 : zis B T a (zw 21)
  · -- forged
    have hmm := hme 21 (by decide) (by decide) (by decide) (by decide) (by decide) (by decide)
    have hln : zln1 q' V2 = zwr (spX4_isForgedHere V2) := by
      unfold zln1
      rw [I2.n (by decide) h20, hf_b2_some, if_pos zz00, I2.y (by decide) h21, hf_b2_some, if_neg zz10]
    rw [hln] at hline
    refine word 21 ((hf_gi 1 1 9 ge fa).bind fun x8 => (hf_ga 1 1 0 ge fa).bind fun x9 => (hf_ob 0 19 ge x9).bind fun _ => hf_b2 (spJ2_size x9 ge) fun x11 g10 => (hf_ob 0 5 g10 pa).bind fun _ => hf_bT (spX5_number pa (0 : Int32) (x11 - (1 : Int32)) g10) fun x13 g12 => (hf_pi 1 1 9 g12 fa (x8 ||| ((1 : Int32) <<< (x13 &&& 31)))).bind fun g14 => some (.inr (), g14)) _ (Or.inr (Or.inr (Or.inl rfl))) h21 (fun hc => ?_) (fun hc hd => ?_) hline (fun hd => ?_) (fun hc hd Re Ke => ?_)
    · rw [hmm] at hc
      obtain ⟨g', x1, x2⟩ := (b1 21 (by decide) _ hbb).2.1 h21 hc
      refine ⟨g', ?_, x2⟩
      rw [hc1, hc2]
      unfold ndX5_clause_63
      rw [P1.pob, (b1 20 (by decide) _ (zmay_le v t5 t6 t8 20)).1 h20, hf_bT_inr, if_pos rfl, P1.pob, x1, hf_bT_inl]
    · rw [hmm] at hd
      rw [hc1, hc2]
      unfold ndX5_clause_63
      rw [P1.pob, (b1 20 (by decide) _ (zmay_le v t5 t6 t8 20)).1 h20, hf_bT_inr, if_pos rfl, P1.pob, (b1 21 (by decide) _ hbb).2.2 h21 hc hd, hf_bT_inr, if_neg (by decide)]
    · rw [hmm] at hd
      have z : v 0 = 0 := by
        by_cases z : v 0 = 0
        · exact z
        · rw [if_neg z] at hd
          cases hd
      rw [if_pos z, zwrf]
    · have z : ¬ v 0 = 0 := fun z => by rw [hmm, if_pos z] at hd; cases hd
      rw [if_neg z]
      exact (fair_forged hpass Re Ke hfa hlt).wrapM.wrapM
  have hc3 := x_chain3 (gs := gs) (kc := kc) (ge := ge) P1 O1 W b1 h20 h21
  by_cases h22 : zis B T a (zw 22)
  · -- buyer
    have hmm : zmay v t5 t6 t8 22 = if v 0 = 0 then 0 else if 4 ≤ v 2 then 0 else 1 := by
      unfold zmay
      rw [if_neg (by decide), if_neg (show ¬ (22 = 20) by decide), if_pos rfl]
    have hln : zln1 q' V2 = zwr (spX4_isBuyerHere (Int32.ofNat q') V2) := by
      unfold zln1
      rw [I2.n (by decide) h20, hf_b2_some, if_pos zz00, I2.n (by decide) h21, hf_b2_some, if_pos zz00, I2.y (by decide) h22, hf_b2_some, if_neg zz10]
    rw [hln] at hline
    refine word 22 ((hf_ob 0 5 ge pa).bind fun _ => hf_bT (spX5_number pa (0 : Int32) (999 : Int32) ge) fun x8 g7 => (hf_ga 1 1 1 g7 fa).bind fun x9 => hf_mk g7 (.inl (0, 7, hf_V0)) 2 fun x10 g11 => (hf_gi 1 1 3 g11 fa).bind fun x12 => (hf_ob 0 5 g11 pa).bind fun _ => hf_bT (spX5_number pa (0 : Int32) (x12 - (1 : Int32)) g11) fun x14 g13 => (spX7_init x10 x8 x14 g13).bind fun g15 => (hf_ob 0 19 g15 x9).bind fun _ => hf_b2 (spJ2_add gs x9 x10 g15) fun x17 g16 => some (.inr (), g16)) _ (Or.inr (Or.inr (Or.inr (Or.inl rfl)))) h22 (fun hc => ?_) (fun hc hd => ?_) hline (fun hd => ?_) (fun hc hd Re Ke => ?_)
    · obtain ⟨g', x1, x2⟩ := (b1 22 (by decide) _ (zmay_le v t5 t6 t8 22)).2.1 h22 hc
      refine ⟨g', ?_, x2⟩
      rw [hc1, hc2, hc3]
      unfold ndX5_clause_138
      rw [P1.pob, x1, hf_bT_inl]
    · rw [hc1, hc2, hc3]
      unfold ndX5_clause_138
      rw [P1.pob, (b1 22 (by decide) _ (zmay_le v t5 t6 t8 22)).2.2 h22 hc hd, hf_bT_inr, if_neg (by decide)]
    · by_cases z : v 0 = 0
      · rw [if_pos z, zwrf]
      · rw [if_neg z]
        rw [hmm, if_neg z] at hd
        have h4 : v 2 = 4 := by
          by_cases y : 4 ≤ v 2
          · omega
          · rw [if_neg y] at hd
            cases hd
        have : spX4_isBuyerHere (Int32.ofNat q') V2 = some (0, hf_ui V2 9 (Int32.ofNat (1 + 8 * q' + 4))) := by
          unfold spX4_isBuyerHere
          have l1' : hf_ld 86 (V2.2.2.2.1 7) (2 : Int32) = _ := l86 2 (by decide)
          rw [l1', arr, M.1 2 (by decide) (by decide) (by decide) (by decide), h4, Option.bind_some, if_pos (show Int32.ofNat 4 = (4 : Int32) from rfl), hfl42, hf_b2_some, if_pos (Or.inl rfl)]
        rw [this, zwrf, zwrf]
    · have z : ¬ v 0 = 0 := fun z => by rw [hmm, if_pos z] at hd; cases hd
      rw [hmm, if_neg z] at hd
      have h4 : v 2 < 4 := by
        by_cases y : 4 ≤ v 2
        · rw [if_pos y] at hd
          cases hd
        · omega
      rw [if_neg z]
      exact (fair_buyer hpass hpa7 Re h4 _ Ke hlt).wrapM.wrapM
  by_cases h23 : zis B T a (zw 23)
  · -- club
    have hmm := hme 23 (by decide) (by decide) (by decide) (by decide) (by decide) (by decide)
    have hln : zln1 q' V2 = zwr (spX4_isClubHere V2) := by
      unfold zln1
      rw [I2.n (by decide) h20, hf_b2_some, if_pos zz00, I2.n (by decide) h21, hf_b2_some, if_pos zz00, I2.n (by decide) h22, hf_b2_some, if_pos zz00, I2.y (by decide) h23, hf_b2_some, if_neg zz10]
    rw [hln] at hline
    refine word 23 (hf_bT (spX5_club pa fa ge) fun _ g6 => some (.inr (), g6)) _ (Or.inr (Or.inr (Or.inr (Or.inr (Or.inl rfl))))) h23 (fun hc => ?_) (fun hc hd => ?_) hline (fun hd => ?_) (fun hc hd Re Ke => ?_)
    · rw [hmm] at hc
      obtain ⟨g', x1, x2⟩ := (b1 23 (by decide) _ hbb).2.1 h23 hc
      refine ⟨g', ?_, x2⟩
      rw [hc1, hc2, hc3]
      unfold ndX5_clause_138
      rw [P1.pob, (b1 22 (by decide) _ (zmay_le v t5 t6 t8 22)).1 h22, hf_bT_inr, if_pos rfl, P1.pob, x1, hf_bT_inl]
    · rw [hmm] at hd
      rw [hc1, hc2, hc3]
      unfold ndX5_clause_138
      rw [P1.pob, (b1 22 (by decide) _ (zmay_le v t5 t6 t8 22)).1 h22, hf_bT_inr, if_pos rfl, P1.pob, (b1 23 (by decide) _ hbb).2.2 h23 hc hd, hf_bT_inr, if_neg (by decide), Pe.pob]
    · rw [hmm] at hd
      have z : v 0 = 0 := by
        by_cases z : v 0 = 0
        · exact z
        · rw [if_neg z] at hd
          cases hd
      rw [if_pos z, zwrf]
    · have z : ¬ v 0 = 0 := fun z => by rw [hmm, if_pos z] at hd; cases hd
      rw [if_neg z]
      exact (fair_club hpass Re Ke hfa hlt).wrapX.wrapM.wrapM
  have hc4 := x_chain4 (gs := gs) (kc := kc) (ge := ge) (fa := fa) (v := v) (t5 := t5) (t6 := t6) (t8 := t8) P1 b1 h22 h23
  have hc5 := x_chain5 (gs := gs) (pa := pa) O1
  have hln5 : zln1 q' V2 = hf_b2 (spX4_isWord (zwI 16) V2) fun x13 V12 => if x13 = 0 then (hf_b2 (spX4_isWord (zwI 18) V12) fun x15 V14 => if x15 = 0 then (hf_b2 (spX4_isOnceHere (6 : Int32) (Int32.ofNat q') (1 : Int32) (24 : Int32) V14) fun x17 V16 => if x17 = 0 then (some ((0 : Int32), V16)) else hf_b2 (spX4_cellHere (7 : Int32) (1 : Int32) (99 : Int32) V16) fun x19 V18 => if x19 = 0 then (some ((0 : Int32), V18)) else some ((1 : Int32), V18)) else zwr (spX4_isOnceHere (8 : Int32) (Int32.ofNat q') (0 : Int32) (7 : Int32) V14)) else zwr (spX4_isOnceHere (5 : Int32) (Int32.ofNat q') (0 : Int32) (9 : Int32) V12) := by
    unfold zln1
    rw [I2.n (by decide) h20, hf_b2_some, if_pos zz00, I2.n (by decide) h21, hf_b2_some, if_pos zz00, I2.n (by decide) h22, hf_b2_some, if_pos zz00, I2.n (by decide) h23, hf_b2_some, if_pos zz00]
  -- told once already
  have told : ∀ (k : Nat) (lo hi : Int32), (k = 5 ∧ t5 = true) ∨ (k = 6 ∧ t6 = true) ∨ (k = 8 ∧ t8 = true) → spX4_isOnceHere (Int32.ofNat k) (Int32.ofNat q') lo hi V2 = some (0, hf_ui V2 9 (Int32.ofNat (1 + 8 * q' + 4))) := fun k lo hi hk => by
    have hR : V2.2.2.2.1 7 k = Int32.ofNat (v k) := by
      rw [arr]
      rcases hk with ⟨rfl, h⟩ | ⟨rfl, h⟩ | ⟨rfl, h⟩
      · have := M.2.1; rw [h] at this; exact this
      · have := M.2.2.1; rw [h] at this; exact this
      · have := M.2.2.2.2.1; rw [h] at this; exact this
    have hb := W.1.2.2.2 k
    unfold spX4_isOnceHere
    rw [l86 k (by omega), hR, Option.bind_some, if_neg (z_n0 _ (by omega)), hfl42, hf_b2_some, if_pos (Or.inl rfl)]
  by_cases h16 : zis B T a (zw 16)
  · -- near
    have hmm : zmay v t5 t6 t8 16 = if v 0 = 0 then 0 else if t5 then 0 else 1 := by
      unfold zmay
      rw [if_neg (by decide), if_neg (show ¬ (16 = 20) by decide), if_neg (show ¬ (16 = 22) by decide), if_pos rfl]
    rw [hln5, I2.y (by decide) h16, hf_b2_some, if_neg zz10] at hline
    refine word 16 (hf_bT ((hf_ob 0 5 ge pa).bind fun _ => hf_bT (spX5_number pa (0 : Int32) (9 : Int32) ge) fun x5 g4 => (hf_pi 1 1 5 g4 fa x5).bind fun g6 => (hf_pi 1 1 10 g6 fa (1 : Int32)).bind fun g7 => some (.inr (), g7)) fun _ g5 => some (.inr (), g5)) _ (Or.inr (Or.inr (Or.inr (Or.inr (Or.inr (Or.inl rfl)))))) h16 (fun hc => ?_) (fun hc hd => ?_) hline (fun hd => ?_) (fun hc hd Re Ke => ?_)
    · obtain ⟨g', x1, x2⟩ := (b1 16 (by decide) _ (zmay_le v t5 t6 t8 16)).2.1 h16 hc
      refine ⟨g', ?_, x2⟩
      rw [hc1, hc2, hc3, hc4, hc5]
      unfold ndX5_once_19
      rw [P1.pob, x1, hf_bT_inl, hf_bT_inl]
    · rw [hc1, hc2, hc3, hc4, hc5]
      unfold ndX5_once_19
      rw [P1.pob, (b1 16 (by decide) _ (zmay_le v t5 t6 t8 16)).2.2 h16 hc hd, hf_bT_inr, if_neg (by decide)]
    · by_cases z : v 0 = 0
      · rw [if_pos z, zwrf]
      · rw [if_neg z]
        rw [hmm, if_neg z] at hd
        have h5 : t5 = true := by
          cases t5 with
          | true => rfl
          | false => cases hd
        have := told 5 0 9 (Or.inl ⟨rfl, h5⟩)
        have this' : spX4_isOnceHere (5 : Int32) (Int32.ofNat q') 0 9 V2 = _ := this
        rw [this', zwrf, zwrf]
    · have z : ¬ v 0 = 0 := fun z => by rw [hmm, if_pos z] at hd; cases hd
      rw [hmm, if_neg z] at hd
      have h5 : t5 = false := by
        cases t5 with
        | false => rfl
        | true => cases hd
      subst h5
      rw [if_neg z]
      exact (fair_near hpass hpa7 Re _ Ke hfa hlt).wrapX.wrapM.wrapM
  have hc6 := x_chain6 (gs := gs) (kc := kc) (ge := ge) P1 O1 b1 h16
  rw [hln5, I2.n (by decide) h16, hf_b2_some, if_pos zz00] at hline
  by_cases h17 : zis B T a (zw 17)
  · -- dusk
    have h18 : ¬ zis B T a (zw 18) := no (by decide) (by decide) h17 (by decide)
    have hmm : zmay v t5 t6 t8 17 = if v 0 = 0 then 0 else if t6 then 0 else 1 := by
      unfold zmay
      rw [if_neg (by decide), if_neg (show ¬ (17 = 20) by decide), if_neg (show ¬ (17 = 22) by decide), if_neg (show ¬ (17 = 16) by decide), if_pos rfl]
    rw [I2.n (by decide) h18, hf_b2_some, if_pos zz00] at hline
    refine word 17 (hf_bT (hf_bT (spX5_dusk pa fa ge) fun _ g4 => some (.inr (), g4)) fun _ g5 => some (.inr (), g5)) _ (Or.inr (Or.inr (Or.inr (Or.inr (Or.inr (Or.inr (Or.inl rfl))))))) h17 (fun hc => ?_) (fun hc hd => ?_) hline (fun hd => ?_) (fun hc hd Re Ke => ?_)
    · obtain ⟨g', x1, x2⟩ := (b1 17 (by decide) _ (zmay_le v t5 t6 t8 17)).2.1 h17 hc
      refine ⟨g', ?_, x2⟩
      rw [hc1, hc2, hc3, hc4, hc5, hc6]
      unfold ndX5_once_63
      rw [P1.pob, x1, hf_bT_inl, hf_bT_inl]
    · rw [hc1, hc2, hc3, hc4, hc5, hc6]
      unfold ndX5_once_63
      rw [P1.pob, (b1 17 (by decide) _ (zmay_le v t5 t6 t8 17)).2.2 h17 hc hd, hf_bT_inr, if_neg (by decide), Pe.pob]
    · by_cases z : v 0 = 0
      · rw [if_pos z, zwrf]
      · rw [if_neg z]
        rw [hmm, if_neg z] at hd
        have h6 : t6 = true := by
          cases t6 with
          | true => rfl
          | false => cases hd
        have := told 6 1 24 (Or.inr (Or.inl ⟨rfl, h6⟩))
        have this' : spX4_isOnceHere (6 : Int32) (Int32.ofNat q') 1 24 V2 = _ := this
        rw [this', hf_b2_some, if_pos rfl, zwrf]
    · have z : ¬ v 0 = 0 := fun z => by rw [hmm, if_pos z] at hd; cases hd
      rw [hmm, if_neg z] at hd
      have h6 : t6 = false := by
        cases t6 with
        | false => rfl
        | true => cases hd
      subst h6
      rw [if_neg z]
      exact (fair_dusk hpass hpa7 Re _ Ke hfa hlt).wrapX.wrapX.wrapM
  have hc7 := x_chain7 (gs := gs) (kc := kc) (ge := ge) P1 O1 b1 h17
  by_cases h18 : zis B T a (zw 18)
  · -- hear
    have hmm : zmay v t5 t6 t8 18 = if v 0 = 0 then 0 else if t8 then 0 else 1 := by
      unfold zmay
      rw [if_neg (by decide), if_neg (show ¬ (18 = 20) by decide), if_neg (show ¬ (18 = 22) by decide), if_neg (show ¬ (18 = 16) by decide), if_neg (show ¬ (18 = 17) by decide), if_pos rfl]
    rw [I2.y (by decide) h18, hf_b2_some, if_neg zz10] at hline
    refine word 18 (hf_bT ((hf_ob 0 5 ge pa).bind fun _ => hf_bT (spX5_number pa (0 : Int32) (7 : Int32) ge) fun x5 g4 => (hf_pi 1 1 8 g4 fa x5).bind fun g6 => (hf_pi 1 1 12 g6 fa (1 : Int32)).bind fun g7 => some (.inr (), g7)) fun _ g5 => some (.inr (), g5)) _ (Or.inr (Or.inr (Or.inr (Or.inr (Or.inr (Or.inr (Or.inr rfl))))))) h18 (fun hc => ?_) (fun hc hd => ?_) hline (fun hd => ?_) (fun hc hd Re Ke => ?_)
    · obtain ⟨g', x1, x2⟩ := (b1 18 (by decide) _ (zmay_le v t5 t6 t8 18)).2.1 h18 hc
      refine ⟨g', ?_, x2⟩
      rw [hc1, hc2, hc3, hc4, hc5, hc6, hc7]
      unfold ndX5_once_96
      rw [P1.pob, x1, hf_bT_inl, hf_bT_inl]
    · rw [hc1, hc2, hc3, hc4, hc5, hc6, hc7]
      unfold ndX5_once_96
      rw [P1.pob, (b1 18 (by decide) _ (zmay_le v t5 t6 t8 18)).2.2 h18 hc hd, hf_bT_inr, if_neg (by decide)]
    · by_cases z : v 0 = 0
      · rw [if_pos z, zwrf]
      · rw [if_neg z]
        rw [hmm, if_neg z] at hd
        have h8 : t8 = true := by
          cases t8 with
          | true => rfl
          | false => cases hd
        have := told 8 0 7 (Or.inr (Or.inr ⟨rfl, h8⟩))
        have this' : spX4_isOnceHere (8 : Int32) (Int32.ofNat q') 0 7 V2 = _ := this
        rw [this', zwrf, zwrf]
    · have z : ¬ v 0 = 0 := fun z => by rw [hmm, if_pos z] at hd; cases hd
      rw [hmm, if_neg z] at hd
      have h8 : t8 = false := by
        cases t8 with
        | false => rfl
        | true => cases hd
      subst h8
      rw [if_neg z]
      exact (fair_hear hpass hpa7 Re _ Ke hfa hlt).wrapX.wrapM.wrapM
  -- no word of a fair
  rw [m_isFair0 I1 h19 h20 h21 h22 h23 h16 h17 h18, hf_b2_some, if_pos rfl] at hM
  obtain ⟨g3, t1, t2⟩ := x_throw (τ := Unit) P1 0 q'
  rw [P1.gio, Option.bind_some, P1.oob] at t1
  have hfl : spX4_fails (0 : Int32) (Int32.ofNat q') V1 = some (0, hf_ui V1 9 (Int32.ofNat (1 + 8 * q' + 0))) := m_fails0 w9 0 q'
  have q1 : PV1.1 1 = Int32.ofNat q' := by rw [hPV1, hf_ui_at]
  have hX : spX5_clause gs pa fa g = some (.inl (o + 19), g3) := by
    rw [hc1, hc2, hc3, hc4, hc5, hc6, hc7]
    unfold ndX5_once_96
    rw [P1.pob, (b1 18 (by decide) _ (zmay_le v t5 t6 t8 18)).1 h18, hf_bT_inr, if_pos rfl, P1.gio, Option.bind_some, P1.gi, Option.bind_some, q1, P1.oob]
    have t1' : hf_b2 (spX0_fails o (0 : Int32) (Int32.ofNat q') g1) (fun x6 g5 => (hf_ob 0 3 g5 x6).bind fun _ => (some (.inl x6, g5) : Option ((Nat ⊕ Unit) × hf_H))) = some (.inl (o + 19), g3) := t1
    rw [t1', hf_bT_inl]
  refine ⟨kc, fin4 _ _ V1 g3 0 _ hX t2 (by decide) ?_ Z1 arr1⟩
  rw [hM]
  unfold ndX4_clauseHere_59
  rw [hfl, hf_b2_some, if_pos (Or.inl rfl)]
end ZQ
set_option maxRecDepth 100000
set_option maxHeartbeats 1000000
/-! texts: a fair is made; its clauses -/
theorem hf_Ld.cells {g g' : hf_H} {l d n : Nat} {p : Nat → Nat} (L : hf_Ld g l d n p) (h1 : g'.1 l = g.1 l) (h2 : g'.1 d = g.1 d) : hf_Ld g' l d n p := by
  obtain ⟨LV, N, B, e1, e2, e3, e4, e5, e6⟩ := L
  refine ⟨LV, N, B, hf_ob_eq e1 h1, e2, e3, ?_, e5, e6⟩
  unfold hf_Ar at e4 ⊢
  rw [h2]
  exact e4
section ZX
variable {gs : hf_gs} {h : hf_H}
theorem x_psi {g : hf_H} {x k : Nat} {f : Nat → Int32} {y : Int32} (e : g.1 x = some (.inr (.inl (0, .int, 4, .inl f)))) (hk : k < 4) : hf_psi .int g x (Int32.ofNat k) y = some (hf_up g x (.inr (.inl (0, .int, 4, .inl fun j => if j = k then y else f j)))) := by
  have hcl : (Int32.ofNat k).toNatClampNeg = k := z_cl (by omega)
  unfold hf_psi
  rw [e]
  simp only [hcl]
  rw [if_pos ⟨trivial, trivial, fun z => by
    rcases z with z | z
    · exact z_n0 _ (by omega) z
    · omega⟩]
theorem x_fairNew (N : hf_no h) : ∃ g FV, spX1_init gs h.2.1 (hf_nw h (.inl (0, 1, hf_V0)) 13) = some g ∧ hf_ob 1 1 g h.2.1 = some FV ∧ FV.2.2.1 0 = some (h.2.1 + 1) ∧ FV.2.2.1 1 = some (h.2.1 + 3) ∧ (∀ p, hf_Ld g (h.2.1 + 1) (h.2.1 + 2) 0 p) ∧ (∀ p, hf_Ld g (h.2.1 + 3) (h.2.1 + 4) 0 p) ∧ (∀ k, k ≠ 6 → k ≠ 7 → k ≠ 8 → FV.1 k = 0) ∧ FV.1 6 = 12 ∧ FV.1 7 = 5 ∧ FV.1 8 = 1 ∧ (∀ b, b < 4 → FV.2.2.2.1 2 b = Int32.ofNat (1 <<< b)) ∧ (∀ q, q < h.2.1 → g.1 q = h.1 q) ∧ g.2.1 = h.2.1 + 6 ∧ g.2.2 = h.2.2 + 27 ∧ hf_no g := by
  obtain ⟨fa, hfa⟩ : ∃ y, y = h.2.1 := ⟨_, rfl⟩
  rw [← hfa]
  obtain ⟨g1, hg1⟩ : ∃ y, y = hf_nw h (.inl (0, 1, hf_V0)) 13 := ⟨_, rfl⟩
  have N1 : hf_no g1 := by rw [hg1]; exact N.nw _ _
  have e1 : hf_ob 0 1 g1 fa = some hf_V0 := by rw [hg1, hfa]; exact ob_new h 0 1 hf_V0 13
  have s1 : g1.2.1 = fa + 1 := by rw [hg1, hfa]; rfl
  have s1' : g1.2.2 = h.2.2 + 13 := by rw [hg1]; rfl
  have k1 : ∀ q, q < fa → g1.1 q = h.1 q := fun q hq => by rw [hg1]; exact nw_lt _ _ (by omega)
  obtain ⟨g2, hg2⟩ : ∃ y, y = hf_nw g1 (.inl (0, 19, hf_V0)) 3 := ⟨_, rfl⟩
  have N2 : hf_no g2 := by rw [hg2]; exact N1.nw _ _
  have e2 : hf_ob 0 19 g2 (fa + 1) = some hf_V0 := by rw [hg2, ← s1]; exact ob_new g1 0 19 hf_V0 3
  have s2 : g2.2.1 = fa + 2 := by
    rw [hg2]
    show g1.2.1 + 1 = _
    omega
  have s2' : g2.2.2 = h.2.2 + 16 := by
    rw [hg2]
    show g1.2.2 + 3 = _
    omega
  have k2 : ∀ q, q < fa + 1 → g2.1 q = g1.1 q := fun q hq => by rw [hg2]; exact nw_lt _ _ (by omega)
  obtain ⟨g3, x1, x2, x3, x4, x5, x6⟩ := x_list0 (gs := gs) N2 e2
  rw [s2] at x2 x4
  have x3' : ∀ q, q < fa + 2 → q ≠ fa + 1 → g3.1 q = g2.1 q := fun q hq hn => x3 q (by omega) hn
  have e3 : hf_ob 0 1 g3 fa = some hf_V0 := hf_ob_eq e1 (by rw [x3' fa (by omega) (by omega), k2 fa (by omega)])
  obtain ⟨A, hA⟩ : ∃ A, A = hf_uq hf_V0 0 (some (fa + 1)) := ⟨_, rfl⟩
  obtain ⟨g4, hg4⟩ : ∃ y, y = hf_up g3 fa (.inl (0, 1, A)) := ⟨_, rfl⟩
  have N4 : hf_no g4 := by rw [hg4]; exact x6.up e3 _
  have e4 : hf_ob 0 1 g4 fa = some A := by rw [hg4]; exact hf_ob_up _ _ _ _ _
  have s4 : g4.2.1 = fa + 3 := by
    rw [hg4]
    show g3.2.1 = _
    omega
  have s4' : g4.2.2 = h.2.2 + 18 := by
    rw [hg4]
    show g3.2.2 = _
    omega
  have k4 : ∀ q, q ≠ fa → g4.1 q = g3.1 q := fun q hq => by rw [hg4]; exact up_ne _ hq
  obtain ⟨g6, hg6⟩ : ∃ y, y = hf_nw g4 (.inl (0, 19, hf_V0)) 3 := ⟨_, rfl⟩
  have N6 : hf_no g6 := by rw [hg6]; exact N4.nw _ _
  have e6 : hf_ob 0 19 g6 (fa + 3) = some hf_V0 := by rw [hg6, ← s4]; exact ob_new g4 0 19 hf_V0 3
  have s6 : g6.2.1 = fa + 4 := by
    rw [hg6]
    show g4.2.1 + 1 = _
    omega
  have s6' : g6.2.2 = h.2.2 + 21 := by
    rw [hg6]
    show g4.2.2 + 3 = _
    omega
  have k6 : ∀ q, q < fa + 3 → g6.1 q = g4.1 q := fun q hq => by rw [hg6]; exact nw_lt _ _ (by omega)
  obtain ⟨g7, y1, y2, y3, y4, y5, y6⟩ := x_list0 (gs := gs) N6 e6
  rw [s6] at y2 y4
  have y3' : ∀ q, q < fa + 4 → q ≠ fa + 3 → g7.1 q = g6.1 q := fun q hq hn => y3 q (by omega) hn
  have e7 : hf_ob 0 1 g7 fa = some A := hf_ob_eq e4 (by rw [y3' fa (by omega) (by omega), k6 fa (by omega)])
  obtain ⟨C, hC⟩ : ∃ C, C = hf_uq A 1 (some (fa + 3)) := ⟨_, rfl⟩
  obtain ⟨g8, hg8⟩ : ∃ y, y = hf_up g7 fa (.inl (0, 1, C)) := ⟨_, rfl⟩
  have N8 : hf_no g8 := by rw [hg8]; exact y6.up e7 _
  have e8 : hf_ob 0 1 g8 fa = some C := by rw [hg8]; exact hf_ob_up _ _ _ _ _
  have s8 : g8.2.1 = fa + 5 := by
    rw [hg8]
    show g7.2.1 = _
    omega
  have s8' : g8.2.2 = h.2.2 + 23 := by
    rw [hg8]
    show g7.2.2 = _
    omega
  have k8 : ∀ q, q ≠ fa → g8.1 q = g7.1 q := fun q hq => by rw [hg8]; exact up_ne _ hq
  have z4 : (4 : Int32).toNatClampNeg = 4 := by decide
  obtain ⟨g10, hg10⟩ : ∃ y, y = hf_nw g8 (.inr (.inl (0, .int, 4, hf_z .int))) 4 := ⟨_, rfl⟩
  have N10 : hf_no g10 := by rw [hg10]; exact N8.nw _ _
  have s10 : g10.2.1 = fa + 6 := by
    rw [hg10]
    show g8.2.1 + 1 = _
    omega
  have s10' : g10.2.2 = h.2.2 + 27 := by
    rw [hg10]
    show g8.2.2 + 4 = _
    omega
  have k10 : ∀ q, q < fa + 5 → g10.1 q = g8.1 q := fun q hq => by rw [hg10]; exact nw_lt _ _ (by omega)
  have a10 : g10.1 (fa + 5) = some (.inr (.inl (0, .int, 4, .inl fun _ => 0))) := by rw [hg10, ← s8]; exact nw_at _ _ _
  have p0 := x_psi (k := 0) (y := 1) a10 (by decide)
  have p1 := x_psi (k := 1) (y := 2) (up_at g10 (fa + 5) _ : (hf_up g10 (fa + 5) (.inr (.inl (0, .int, 4, .inl fun j => if j = 0 then 1 else (0 : Int32))))).1 (fa + 5) = _) (by decide)
  rw [hf_up_up] at p1
  have p2 := x_psi (k := 2) (y := 4) (up_at g10 (fa + 5) _ : (hf_up g10 (fa + 5) (.inr (.inl (0, .int, 4, .inl fun j => if j = 1 then 2 else if j = 0 then 1 else (0 : Int32))))).1 (fa + 5) = _) (by decide)
  rw [hf_up_up] at p2
  have p3 := x_psi (k := 3) (y := 8) (up_at g10 (fa + 5) _ : (hf_up g10 (fa + 5) (.inr (.inl (0, .int, 4, .inl fun j => if j = 2 then 4 else if j = 1 then 2 else if j = 0 then 1 else (0 : Int32))))).1 (fa + 5) = _) (by decide)
  rw [hf_up_up] at p3
  obtain ⟨fc, hfc⟩ : ∃ fc : Nat → Int32, fc = fun j => if j = 3 then 8 else if j = 2 then 4 else if j = 1 then 2 else if j = 0 then 1 else (0 : Int32) := ⟨_, rfl⟩
  obtain ⟨g14, hg14⟩ : ∃ y, y = hf_up g10 (fa + 5) (.inr (.inl (0, .int, 4, .inl fc))) := ⟨_, rfl⟩
  rw [← hfc, ← hg14] at p3
  have k14 : ∀ q, q ≠ fa + 5 → g14.1 q = g10.1 q := fun q hq => by rw [hg14]; exact up_ne _ hq
  have e14 : hf_ob 0 1 g14 fa = some C := hf_ob_eq e8 (by rw [k14 fa (by omega), k10 fa (by omega)])
  obtain ⟨F, hF⟩ : ∃ F, F = hf_ui (hf_ui (hf_ui (hf_uq C 2 (some (fa + 5))) 6 12) 7 5) 8 1 := ⟨_, rfl⟩
  obtain ⟨g18, hg18⟩ : ∃ y, y = hf_up g14 fa (.inl (0, 1, F)) := ⟨_, rfl⟩
  have k18 : ∀ q, q ≠ fa → g18.1 q = g14.1 q := fun q hq => by rw [hg18]; exact up_ne _ hq
  have e18 : hf_ob 0 1 g18 fa = some F := by rw [hg18]; exact hf_ob_up _ _ _ _ _
  have a18 : g18.1 (fa + 5) = some (.inr (.inl (0, .int, 4, .inl fc))) := by rw [k18 _ (by omega), hg14]; exact up_at _ _ _
  have hs18 : g18.2 = g10.2 := by rw [hg18, hg14]; rfl
  have isA : hf_isA g18 (fa + 5) .int 4 = true := by
    unfold hf_isA
    rw [a18]
    rfl
  have hF2 : F.2.2.1 2 = some (fa + 5) := by rw [hF]; rfl
  have hfold : hf_fold 1 g18 fa = some (fun q => if q = fa then some (.inl (1, 1, hf_tk g18 fa 1 F)) else if (hf_own 1).any (fun k => decide (q = fa + (hf_of 1 k).1)) then none else g18.1 q, g18.2) := by
    unfold hf_fold
    rw [e18, Option.bind_some, if_pos]
    show ([2].all fun k => decide (F.2.2.1 k = some (fa + (hf_of 1 k).1)) && hf_isA g18 (fa + (hf_of 1 k).1) (hf_el (hf_ty 1 k)) (hf_of 1 k).2) = true
    have hi : hf_isA g18 (fa + (hf_of 1 2).1) (hf_el (hf_ty 1 2)) (hf_of 1 2).2 = true := isA
    have hd : F.2.2.1 2 = some (fa + (hf_of 1 2).1) := hF2
    simp only [List.all_cons, List.all_nil, Bool.and_true, hi, hd, decide_true]
  obtain ⟨G, hG⟩ : ∃ G : hf_H, G = (fun q => if q = fa then some (.inl (1, 1, hf_tk g18 fa 1 F)) else if (hf_own 1).any (fun k => decide (q = fa + (hf_of 1 k).1)) then none else g18.1 q, g18.2) := ⟨_, rfl⟩
  have hany : ∀ q, (hf_own 1).any (fun k => decide (q = fa + (hf_of 1 k).1)) = decide (q = fa + 5) := fun q => by
    show ([2].any fun k => decide (q = fa + (hf_of 1 k).1)) = _
    show (decide (q = fa + (hf_of 1 2).1) || false) = _
    rw [Bool.or_false]
    rfl
  have kG : ∀ q, q ≠ fa → q ≠ fa + 5 → G.1 q = g18.1 q := fun q h1 h2 => by
    rw [hG]
    show (if q = fa then _ else if _ then none else g18.1 q) = _
    rw [if_neg h1, hany, decide_eq_false h2]
    rfl
  have eG : G.1 fa = some (.inl (1, 1, hf_tk g18 fa 1 F)) := by
    rw [hG]
    exact if_pos rfl
  have obG : hf_ob 1 1 G fa = some (hf_tk g18 fa 1 F) := by
    unfold hf_ob
    rw [eG]
    simp
  have sG : G.2 = g10.2 := by rw [hG]; exact hs18
  refine ⟨G, hf_tk g18 fa 1 F, ?_, obG, by show F.2.2.1 0 = _; rw [hF, hC, hA]; rfl, by show F.2.2.1 1 = _; rw [hF, hC]; rfl, fun p => ?_, fun p => ?_, fun k h6 h7 h8 => ?_, ?_, ?_, ?_, fun b hb => ?_, fun q hq => ?_, by rw [sG]; exact s10, by rw [sG]; exact s10', fun q hq => ?_⟩
  · have z0' : hf_psi .int g10 (fa + 5) (0 : Int32) (1 : Int32) = _ := p0
    have z1' : hf_psi .int (hf_up g10 (fa + 5) (.inr (.inl (0, .int, 4, .inl fun j => if j = 0 then 1 else (0 : Int32))))) (fa + 5) (1 : Int32) (2 : Int32) = _ := p1
    have z2' : hf_psi .int (hf_up g10 (fa + 5) (.inr (.inl (0, .int, 4, .inl fun j => if j = 1 then 2 else if j = 0 then 1 else (0 : Int32))))) (fa + 5) (2 : Int32) (4 : Int32) = _ := p2
    have z3' : hf_psi .int (hf_up g10 (fa + 5) (.inr (.inl (0, .int, 4, .inl fun j => if j = 2 then 4 else if j = 1 then 2 else if j = 0 then 1 else (0 : Int32))))) (fa + 5) (3 : Int32) (8 : Int32) = _ := p3
    have hs1 : g1.2.1 = fa + 1 := s1
    unfold spX1_init
    rw [← hg1, hf_mk_eq, ← hg2, hs1, x1, Option.bind_some, hf_pq_eq e3, Option.bind_some, ← hA, ← hg4, hf_mk_eq, ← hg6, s4, y1, Option.bind_some, hf_pq_eq e7, Option.bind_some, ← hC, ← hg8, z4, if_neg (by decide), hf_mk_eq, ← hg10, s8, z0', Option.bind_some, z1', Option.bind_some, z2', Option.bind_some, z3', Option.bind_some, hf_pq_eq e14, Option.bind_some, hf_pi_eq (hf_ob_up _ _ _ _ _), Option.bind_some, hf_up_up, hf_pi_eq (hf_ob_up _ _ _ _ _), Option.bind_some, hf_up_up, hf_pi_eq (hf_ob_up _ _ _ _ _), Option.bind_some, hf_up_up, ← hF, ← hg18, hfold, Option.bind_some, hG]
  · refine (x2 p).cells ?_ ?_
    · rw [kG _ (by omega) (by omega), k18 _ (by omega), k14 _ (by omega), k10 _ (by omega), k8 _ (by omega), y3' _ (by omega) (by omega), k6 _ (by omega), k4 _ (by omega)]
    · rw [kG _ (by omega) (by omega), k18 _ (by omega), k14 _ (by omega), k10 _ (by omega), k8 _ (by omega), y3' _ (by omega) (by omega), k6 _ (by omega), k4 _ (by omega)]
  · refine (y2 p).cells ?_ ?_
    · rw [kG _ (by omega) (by omega), k18 _ (by omega), k14 _ (by omega), k10 _ (by omega), k8 _ (by omega)]
    · rw [kG _ (by omega) (by omega), k18 _ (by omega), k14 _ (by omega), k10 _ (by omega), k8 _ (by omega)]
  · show F.1 k = 0
    rw [hF, hf_ui_ne _ h8, hf_ui_ne _ h7, hf_ui_ne _ h6, hC, hA]
    rfl
  · show F.1 6 = 12
    rw [hF, hf_ui_ne _ (by decide), hf_ui_ne _ (by decide), hf_ui_at]
  · show F.1 7 = 5
    rw [hF, hf_ui_ne _ (by decide), hf_ui_at]
  · show F.1 8 = 1
    rw [hF, hf_ui_at]
  · have hci : (hf_tk g18 fa 1 F).2.2.2.1 2 = fc := by
      show hf_ci g18 (fa + (hf_of 1 2).1) = fc
      show hf_ci g18 (fa + 5) = fc
      unfold hf_ci
      rw [a18]
    rw [hci, hfc]
    rcases (show b = 0 ∨ b = 1 ∨ b = 2 ∨ b = 3 by omega) with rfl | rfl | rfl | rfl <;> rfl
  · rw [kG _ (by omega) (by omega), k18 _ (by omega), k14 _ (by omega), k10 _ (by omega), k8 _ (by omega), y3' _ (by omega) (by omega), k6 _ (by omega), k4 _ (by omega), x3' _ (by omega) (by omega), k2 _ (by omega), k1 _ hq]
  · rw [sG] at hq
    rw [kG _ (by omega) (by omega), k18 _ (by omega), k14 _ (by omega)]
    exact N10 q hq
end ZX
