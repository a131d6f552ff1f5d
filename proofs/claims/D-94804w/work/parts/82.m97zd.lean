set_option maxRecDepth 100000
set_option maxHeartbeats 1000000
/-! texts: compare -/
def zRC (r : Nat) (g : hf_H) (k : Nat) (cs : List Nat) : Prop := hf_Cnd 1 g r cs ∧ cs.length + 3 = 2 * k ∧ zlv cs + 1 = k
/-- code of a comparison -/
def zcp (c al : Nat) : Nat := if c = 60 then (if al = 0 then 6 else 7) else if c = 61 then 8 else if al = 0 then 10 else 9
section ZQ
variable {gs : hf_gs} {pa o nm : Nat} {B : Nat → Nat} {T t : Nat}
/-- behind the sign: the other sum -/
theorem xm_cmp2 {g0 : hf_H} {PV0 V0 : hf_V} {a0 m0 L0 : Nat} {l : Nat} {g : hf_H} {PV V : hf_V} {a m k1 : Nat} {cs : List Nat} {c al p : Nat} (kf kt : Nat → hf_H → Option ((Nat ⊕ Nat) × hf_H)) (hc : c = 60 ∨ c = 61 ∨ c = 62) (hal : al = 0 ∨ (al = 1 ∧ c ≠ 61)) (hL0 : L0 + cs.length + 2 * (60 - m) < 400) (N0 : hf_no g0) (S : hf_ps gs g pa o nm PV B T V a m) (r1 : a0 < a) (r2 : m0 + k1 + 1 = m) (r3 : hf_gk pa o g0 g (a - a0 - 1)) (r4 : hf_pz PV0 PV) (r5 : hf_vq V0 V t L0) (r6 : hf_tt V t (L0 + cs.length)) (r7 : zcds V t L0 cs) (r8 : zRV l g k1 cs) : zRO gs g0 pa o nm PV0 B T V0 a0 m0 t L0 (hf_mk g (.inl (0, 16, hf_V0)) 4 fun x2 g3 => (hf_ob 0 5 g3 pa).bind fun _ => hf_bT (spX5_sum gs pa g3) fun x5 g4 => (spX16_init x2 l x5 (Int32.ofNat c) (Int32.ofNat al) g4).bind fun g6 => some (.inr x2, g6)) (hf_b2 (spX4_sum V) fun x2 V1 => if x2 = 0 then (some ((0 : Int32), V1)) else (spX4_puts (Int32.ofNat (zcp c al)) (0 : Int32) V1).bind fun V3 => some ((1 : Int32), V3)) zRC := by
  obtain ⟨N, P, p0, p1, p3, wo, mt, v8, v9, v12, ha, hm⟩ := id S
  obtain ⟨WV, w3⟩ := P.w3
  obtain ⟨g6, hg6⟩ : ∃ x, x = hf_nw g (.inl (0, 16, hf_V0)) 4 := ⟨_, rfl⟩
  have P6 : hf_px g6 pa o PV B T := by rw [hg6]; exact P.nw N _ _
  have K6 : hf_gk pa o g g6 1 := by rw [hg6]; exact hf_gk.nw N _ (by decide)
  have e6 : hf_ob 0 16 g6 g.2.1 = some hf_V0 := by rw [hg6]; exact ob_new g 0 16 hf_V0 4
  have S6 : hf_ps gs g6 pa o nm PV B T V a m := ⟨K6.no, P6, p0, p1, p3, K6.wo N P.2.1 w3 wo, mt, v8, v9, v12, ha, hm⟩
  have hq : pa < g.2.1 := N.olt P.2.1
  rw [hf_mk_eq, ← hg6, P6.pob]
  rcases xm_psum g6 PV V a m (L0 + cs.length) S6 r6 hL0 with ⟨g', V', x1, x2, x3⟩ | ⟨r, g7, PV2, V2, a2, m2, cs2, x1, x2, S7, x3, x4, K67, x5, x6, x7, x8, x9, x10, x11⟩
  · left
    rw [x1, hf_bT_inl, x2, hf_b2_some, if_pos rfl]
    exact ⟨g', V', rfl, rfl, x3.lift (r3.trans K6) r5 (by omega) (by omega) ha⟩
  · right
    obtain ⟨N7, P7, y0, y1, y3, wo7, mt7, z8, z9, z12, ha2, hm2⟩ := S7
    have hk : 1 ≤ m2 - m := by
      rcases Nat.eq_zero_or_pos (m2 - m) with h | h
      · rw [h] at x9
        cases x9
      · exact h
    have e7 : hf_ob 0 16 g7 g.2.1 = some hf_V0 := by
      refine K67.ob K6.no e6 (by omega) (fun z => ?_)
      have := N.olt w3
      omega
    have K47 : hf_gk pa o g g7 (1 + (a2 - a)) := K6.trans K67
    obtain ⟨J, hJ⟩ : ∃ J, J = hf_ui (hf_ui (hf_uq (hf_uq hf_V0 0 (some l)) 1 (some r)) 2 (Int32.ofNat c)) 3 (Int32.ofNat al) := ⟨_, rfl⟩
    obtain ⟨g9, hg9⟩ : ∃ x, x = hf_up g7 g.2.1 (.inl (0, 16, J)) := ⟨_, rfl⟩
    have hin : spX16_init g.2.1 l r (Int32.ofNat c) (Int32.ofNat al) g7 = some g9 := by
      unfold spX16_init spX14_init
      rw [Option.bind_some]
      unfold hf_pq hf_pi
      rw [e7]
      show Option.bind (some (hf_up g7 g.2.1 _)) _ = _
      rw [Option.bind_some, hf_ob_up]
      show Option.bind (some (hf_up _ g.2.1 _)) _ = _
      rw [Option.bind_some, hf_up_up, hf_ob_up]
      show Option.bind (some (hf_up _ g.2.1 _)) _ = _
      rw [Option.bind_some, hf_up_up, if_pos (by rcases hal with h | ⟨h, _⟩ <;> rw [h] <;> decide), hf_ob_up]
      show Option.bind (some (hf_up _ g.2.1 _)) _ = _
      rw [Option.bind_some, hf_up_up, hg9, hJ]
    have P9 : hf_px g9 pa o PV2 B T := by rw [hg9]; exact P7.up e7 (by decide) (by decide)
    have K49 : hf_gk pa o g g9 (1 + (a2 - a)) := by rw [hg9]; exact K47.up2 (Nat.le_refl _) e7 _
    have e9 : hf_ob 0 16 g9 g.2.1 = some J := by rw [hg9]; exact hf_ob_up _ _ _ _ _
    have K09 : hf_gk pa o g0 g9 (a2 - a0) := (r3.trans K49).mono (by omega)
    have hs16 : zcp c al < 16 ∧ 2 ≤ zcp c al := by
      unfold zcp
      split
      · split <;> omega
      · split
        · omega
        · split <;> omega
    obtain ⟨V4, u1, u2, u3, u4, u5⟩ := x7.puts (by omega) (zcp c al) 0 (by omega) (fun h => by omega)
    have u1' : spX4_puts (Int32.ofNat (zcp c al)) (0 : Int32) V2 = some V4 := u1
    rw [x1, hf_bT_inr, hin, Option.bind_some, x2, hf_b2_some, if_neg (by decide), u1', Option.bind_some]
    have hmt4 : hf_mt V4 B T := by
      obtain ⟨b1, b2, b3⟩ := mt7
      refine ⟨b1, by rw [u2]; exact b2, fun k hk => ?_⟩
      rw [u3.1 0 (by decide) (by decide)]
      exact b3 k hk
    have hvl : hf_Val (m2 - m) g9 r cs2 := by rw [hg9]; exact hf_Val.blank e7 (by decide) _ _ _ _ x9
    have hll : hf_Val k1 g9 l cs := hf_Val.kv (hf_gk.kv K49 N P.2.1 w3) _ _ _ r8.1
    refine ⟨g.2.1, g9, PV2, V4, a2, m2, cs ++ cs2 ++ [zcp c al + 16 * 0], rfl, rfl, ⟨K49.no, P9, y0, y1, y3, K49.wo N P.2.1 w3 wo, hmt4, by rw [u2]; exact z8, by rw [u2]; exact z9, by rw [u2]; exact z12, ha2, hm2⟩, by omega, by omega, K09, r4.trans x5, (r5.trans x6 (by omega)).trans ⟨fun k _ _ _ => by rw [u2], u3⟩ (by omega), ?_, ?_, ?_, ?_, ?_⟩
    · rw [List.length_append, List.length_append]
      rw [show L0 + (cs.length + cs2.length + [zcp c al + 16 * 0].length) = L0 + cs.length + cs2.length + 1 from by simp; omega]
      exact u4
    · refine zcds.app (zcds.app ?_ ?_) ?_
      · exact (r7.vt x6.2 (Nat.le_refl _)).vt u3 (by omega)
      · exact x8.vt u3 (Nat.le_refl _)
      · rw [List.length_append, ← Nat.add_assoc]
        exact u5
    · have h60 := r8.2.1
      refine Or.inr (Or.inl ⟨J, l, r, cs, cs2, zcp c al + 16 * 0, e9, by rw [hJ]; rfl, by rw [hJ]; rfl, hf_Val.mono _ _ _ _ _ (by omega) hll, hf_Val.mono _ _ _ _ _ (by omega) hvl, rfl, ?_⟩)
      have hJ2 : J.1 2 = Int32.ofNat c := by rw [hJ, hf_ui_ne _ (by decide), hf_ui_at]
      have hJ3 : J.1 3 = Int32.ofNat al := by rw [hJ, hf_ui_at]
      rw [hJ2, hJ3]
      unfold zcp
      rcases hc with rfl | rfl | rfl <;> rcases hal with rfl | ⟨rfl, h⟩
      · exact Or.inl ⟨rfl, rfl, rfl⟩
      · exact Or.inr (Or.inl ⟨rfl, rfl, rfl⟩)
      · exact Or.inr (Or.inr (Or.inl ⟨rfl, rfl, rfl⟩))
      · exact absurd rfl h
      · exact Or.inr (Or.inr (Or.inr (Or.inr ⟨rfl, rfl, rfl⟩)))
      · exact Or.inr (Or.inr (Or.inr (Or.inl ⟨rfl, rfl, rfl⟩)))
    · rw [List.length_append, List.length_append]
      have := r8.2.1
      simp
      omega
    · rw [zlv_app, zlv_app, x11, r8.2.2]
      have : zlv [zcp c al + 16 * 0] = 0 := by
        unfold zlv zlv
        rw [if_neg (by omega)]
      rw [this]
      omega
end ZQ
set_option maxRecDepth 100000
set_option maxHeartbeats 1000000
/-! texts: compare, whole -/
section ZQ
variable {gs : hf_gs} {pa o nm : Nat} {B : Nat → Nat} {T t : Nat}
/-- HalfFair's comparison, as fact has it behind the words -/
def xcmp (gs : hf_gs) (kf kt : Nat → hf_H → Option ((Nat ⊕ Nat) × hf_H)) (l0 : Nat) (g6 : hf_H) : Option ((Nat ⊕ Nat) × hf_H) :=
  (hf_ob 0 5 g6 l0).bind fun _ =>
  hf_bT (spX5_sum gs l0 g6) fun x9 g8 =>
  (hf_ob 0 5 g8 l0).bind fun _ =>
  hf_b2 (spX5_next l0 g8) fun x11 g10 =>
  if x11 = (60 : Int32) then (ndX5_fact_172 gs kf kt l0 x9 x11 g10) else
  if x11 = (61 : Int32) then (ndX5_fact_172 gs kf kt l0 x9 x11 g10) else
  if x11 = (62 : Int32) then (ndX5_fact_172 gs kf kt l0 x9 x11 g10) else
  (hf_ga 0 5 6 g10 l0).bind fun x12 =>
  (hf_gi 0 5 1 g10 l0).bind fun x13 =>
  (hf_ob 1 0 g10 x12).bind fun _ =>
  hf_b2 (spX0_fails x12 (0 : Int32) x13 g10) fun x15 g14 =>
  (hf_ob 0 3 g14 x15).bind fun _ => some (.inl x15, g14)
theorem xm_compare (kf kt : Nat → hf_H → Option ((Nat ⊕ Nat) × hf_H)) (g : hf_H) (PV V : hf_V) (a m L : Nat) (S : hf_ps gs g pa o nm PV B T V a m) (TT : hf_tt V t L) (hL : L + 2 * (60 - m) < 400) : zRO gs g pa o nm PV B T V a m t L (xcmp gs kf kt pa g) (spX4_compare V) zRC := by
  unfold xcmp spX4_compare
  rw [S.2.1.pob]
  rcases xm_psum g PV V a m L S TT hL with ⟨g', V', h1, h2, h3⟩ | ⟨l, g8, PV8, V8, a8, m8, cs, h1, h2, S8, h4, h5, h6, h7, h8, h9, h10, h11⟩
  · left
    rw [h1, hf_bT_inl, h2, hf_b2_some, if_pos rfl]
    exact ⟨g', V', rfl, rfl, h3⟩
  rw [h1, hf_bT_inr, h2, hf_b2_some, if_neg (by decide), S8.2.1.pob]
  have hk : m < m8 := by
    rcases Nat.eq_zero_or_pos (m8 - m) with h | h
    · rw [h] at h11
      cases h11.1
    · omega
  have R8 : hf_rd gs pa o nm B T t g PV V a m L l g8 PV8 V8 a8 m8 cs := ⟨S8, h4, hk, h6, h7, h8, h9, h10, h11⟩
  have ha := S8.2.2.2.2.2.2.2.2.2.2.1
  obtain ⟨s1, s2⟩ := zsk_le (B := B) ha
  obtain ⟨p, hp⟩ : ∃ p, p = zsk B T a8 := ⟨_, rfl⟩
  rw [← hp] at s1 s2
  have R1 := R8.at_ s1 s2
  have P := S8.2.1
  have hT := P.T4
  have hb : p < T → B p < 256 := fun h => P.b (by omega)
  have xn := x_next P S8.2.2.2.1 ha
  have ms := m_see S8.2.2.2.2.2.2.1 S8.2.2.2.2.2.2.2.1 ha
  rw [← hp] at xn ms
  obtain ⟨PV1, hPV1⟩ : ∃ x, x = hf_ui PV8 1 (Int32.ofNat p) := ⟨_, rfl⟩
  obtain ⟨V1, hV1⟩ : ∃ x, x = hf_ui V8 8 (Int32.ofNat p) := ⟨_, rfl⟩
  obtain ⟨g1, hg1⟩ : ∃ x, x = hf_pc g8 pa PV1 := ⟨_, rfl⟩
  rw [← hPV1, ← hg1] at xn
  rw [← hV1] at ms
  rw [← hPV1, ← hg1, ← hV1] at R1
  obtain ⟨S1, r1, r2, r3, r4, r5, r6, r7, r8⟩ := R1
  obtain ⟨N1, P1, q0, q1, q3, wo1, mt1, w8, w9, w12, -, hm8⟩ := id S1
  obtain ⟨WV, w3⟩ := P1.w3
  rw [xn, hf_b2_some, ms, hf_b2_some, hf_let_eq, w8]
  have e60 : (zch B T p = (60 : Int32)) ↔ p < T ∧ B p = 60 := z_chz hb 60 (by decide)
  have e61 : (zch B T p = (61 : Int32)) ↔ p < T ∧ B p = 61 := z_chz hb 61 (by decide)
  have e62 : (zch B T p = (62 : Int32)) ↔ p < T ∧ B p = 62 := z_chz hb 62 (by decide)
  have main : p < T → (B p = 60 ∨ B p = 61 ∨ B p = 62) → zch B T p = Int32.ofNat (B p) → zRO gs g pa o nm PV B T V a m t L (ndX5_fact_172 gs kf kt pa l (zch B T p) g1) (ndX4_compare_44 (zch B T p) (Int32.ofNat p) V1) zRC := by
    intro hpT hc hz
    rw [hz]
    -- where the signs end
    obtain ⟨al, hal, halv⟩ : ∃ al, (al = 0 ∨ (al = 1 ∧ B p ≠ 61)) ∧ ((al = 1) ↔ (B p ≠ 61 ∧ p + 1 < T ∧ B (p + 1) = 61)) := by
      by_cases h : B p ≠ 61 ∧ p + 1 < T ∧ B (p + 1) = 61
      · exact ⟨1, Or.inr ⟨rfl, h.1⟩, fun _ => h, fun _ => rfl⟩
      · exact ⟨0, Or.inl rfl, fun z => by omega, fun z => absurd z h⟩
    have hq2 : p + 1 + al ≤ T := by
      rcases hal with h | ⟨h, _⟩
      · omega
      · have := (halv.mp h).2.1
        omega
    have a1 : Int32.ofNat p + (1 : Int32) = Int32.ofNat (p + 1) := z_add p 1
    have a2 : Int32.ofNat (p + 1) + (1 : Int32) = Int32.ofNat (p + 1 + 1) := z_add (p + 1) 1
    have n61 : (Int32.ofNat (B p) = (61 : Int32)) ↔ B p = 61 := z_eq (b := 61) (by omega) (by decide)
    have n60 : (Int32.ofNat (B p) = (60 : Int32)) ↔ B p = 60 := z_eq (b := 60) (by omega) (by decide)
    -- the model
    have hM : ndX4_compare_44 (Int32.ofNat (B p)) (Int32.ofNat p) V1 = ndX4_compare_105 (Int32.ofNat (B p)) (Int32.ofNat p) (Int32.ofNat al) (hf_ui V1 8 (Int32.ofNat (p + 1 + al))) := by
      unfold ndX4_compare_44 ndX4_compare_89 ndX4_compare_90
      have i8 : (hf_ui V1 8 (Int32.ofNat (p + 1))).1 8 = Int32.ofNat (p + 1) := hf_ui_at _ _ _
      have i1 : (hf_ui V1 8 (Int32.ofNat (p + 1))).1 1 = Int32.ofNat T := by rw [hf_ui_ne _ (by decide)]; exact mt1.2.1
      rw [w8, a1, hf_let_eq, i8, i1]
      by_cases h61 : B p = 61
      · have : al = 0 := by
          rcases hal with h | ⟨_, h⟩
          · exact h
          · exact absurd h61 h
        subst this
        rw [if_pos (n61.mpr h61), if_pos rfl]
        rfl
      · rw [if_neg (fun z => h61 (n61.mp z))]
        by_cases hlt : p + 1 < T
        · have hb1 := P.b (k := p + 1) (by omega)
          have z61 : (zbyt (B (p + 1)) = (61 : Int32)) ↔ B (p + 1) = 61 := zbyt_eq (n := 61) hb1 (by decide)
          have tp : hf_ld 400 ((hf_ui V1 8 (Int32.ofNat (p + 1))).2.2.2.1 0) (Int32.ofNat (p + 1)) = some (zbyt (B (p + 1))) := by
            rw [z_ld (by omega) (by omega)]
            exact congrArg some (mt1.2.2 (p + 1) (by omega)).1
          rw [if_neg (z_nle hlt (by omega)), tp, Option.bind_some]
          by_cases h1 : B (p + 1) = 61
          · have : al = 1 := halv.mpr ⟨h61, hlt, h1⟩
            subst this
            rw [if_pos (z61.mpr h1), if_neg (by decide), a2, hf_let_eq, hf_ui_ui]
            rfl
          · have : al = 0 := by
              rcases hal with h | ⟨h, _⟩
              · exact h
              · exact absurd (halv.mp h).2.2 h1
            subst this
            rw [if_neg (fun z => h1 (z61.mp z)), if_pos rfl]
            rfl
        · have : al = 0 := by
            rcases hal with h | ⟨h, _⟩
            · exact h
            · exact absurd (halv.mp h).2.1 hlt
          subst this
          rw [if_pos (z_yle (by omega) (by omega)), if_pos rfl]
          rfl
    obtain ⟨V2, hV2⟩ : ∃ x, x = hf_ui V1 8 (Int32.ofNat (p + 1 + al)) := ⟨_, rfl⟩
    have v29 : V2.1 9 = 0 := by rw [hV2, hf_ui_ne _ (by decide), w9]
    have v212 : V2.1 12 = Int32.ofNat m8 := by rw [hV2, hf_ui_ne _ (by decide), w12]
    have Q2 : hf_vq V V2 t L := by rw [hV2]; exact r5.ui (Or.inl rfl) _
    rw [hM, ← hV2]
    unfold ndX4_compare_105
    rw [m_makes v212 v29 hm8]
    unfold ndX5_fact_172
    rw [P1.gi, Option.bind_some, q1, P1.pob]
    rcases x_counts P1 q3 hm8 p with ⟨k1, g3, k2, k3⟩ | ⟨k1, k2⟩
    · left
      rw [k2, hf_bT_inl, if_pos k1, hf_b2_some, if_pos rfl]
      exact ⟨g3, _, rfl, rfl, 1 + 8 * p + 3, k3.gi, hf_ui_at _ _ _, by omega, by omega, (r3.trans (hf_gk.wr r3.no k3)).mono (by omega), Q2.fail _⟩
    · obtain ⟨PV2, hPV2⟩ : ∃ x, x = hf_ui PV1 3 (Int32.ofNat (m8 + 1)) := ⟨_, rfl⟩
      obtain ⟨g2, hg2⟩ : ∃ x, x = hf_pc g1 pa PV2 := ⟨_, rfl⟩
      rw [← hPV2, ← hg2] at k2
      have P2 : hf_px g2 pa o PV2 B T := by rw [hg2]; exact P1.pc (by rw [hPV2]; rfl)
      have q21 : PV2.1 1 = Int32.ofNat p := by rw [hPV2, hf_ui_ne _ (by decide), q1]
      obtain ⟨PV3, hPV3⟩ : ∃ x, x = hf_ui PV2 1 (Int32.ofNat (p + 1)) := ⟨_, rfl⟩
      obtain ⟨g3, hg3⟩ : ∃ x, x = hf_pc g2 pa PV3 := ⟨_, rfl⟩
      have P3 : hf_px g3 pa o PV3 B T := by rw [hg3]; exact P2.pc (by rw [hPV3]; rfl)
      have q31 : PV3.1 1 = Int32.ofNat (p + 1) := by rw [hPV3, hf_ui_at]
      obtain ⟨PV4, hPV4⟩ : ∃ x, x = hf_ui PV3 1 (Int32.ofNat (p + 1 + al)) := ⟨_, rfl⟩
      obtain ⟨g4, hg4⟩ : ∃ x, x = hf_pc g3 pa PV4 := ⟨_, rfl⟩
      have P4 : hf_px g4 pa o PV4 B T := by rw [hg4]; exact P3.pc (by rw [hPV4]; rfl)
      have K14 : hf_gk pa o g1 g4 0 := by
        rw [hg4, hg3, hg2, hf_pc_pc, hf_pc_pc]
        exact hf_gk.pc N1 P1.2.1 _
      rw [k2, hf_bT_inr, P2.gi, Option.bind_some, q21, a1, P2.pi, Option.bind_some, ← hPV3, ← hg3, if_neg (show ¬ m8 = 60 by omega), hf_b2_some, if_neg (show ¬ ((1 : Int32) = 0) by decide)]
      have h210 : ∀ s0, s0 = Int32.ofNat al → ndX5_fact_210 gs kf kt pa l (Int32.ofNat (B p)) s0 g3 = hf_mk g4 (.inl (0, 16, hf_V0)) 4 fun x2 g3 => (hf_ob 0 5 g3 pa).bind fun _ => hf_bT (spX5_sum gs pa g3) fun x5 g4 => (spX16_init x2 l x5 (Int32.ofNat (B p)) (Int32.ofNat al) g4).bind fun g6 => some (.inr x2, g6) := by
        intro s0 hs0
        subst hs0
        unfold ndX5_fact_210 ndX5_fact_227
        rw [P3.gi, Option.bind_some, q31]
        rcases hal with rfl | ⟨rfl, _⟩
        · have a0 : Int32.ofNat (p + 1) + (0 : Int32) = Int32.ofNat (p + 1 + 0) := z_add _ 0
          rw [if_pos (show Int32.ofNat 0 = 0 from rfl), a0, P3.pi, Option.bind_some, ← hPV4, ← hg4]
        · have a0 : Int32.ofNat (p + 1) + (1 : Int32) = Int32.ofNat (p + 1 + 1) := z_add _ 1
          rw [if_neg (show ¬ (Int32.ofNat 1 = 0) by decide), a0, P3.pi, Option.bind_some, ← hPV4, ← hg4]
      have hX : (if Int32.ofNat (B p) = (61 : Int32) then (ndX5_fact_209 gs kf kt pa l (Int32.ofNat (B p)) g3) else (hf_ob 0 5 g3 pa).bind fun _ => hf_b2 (spX5_sign pa g3) fun x6 g5 => if x6 = (61 : Int32) then (ndX5_fact_210 gs kf kt pa l (Int32.ofNat (B p)) (1 : Int32) g5) else ndX5_fact_209 gs kf kt pa l (Int32.ofNat (B p)) g5) = hf_mk g4 (.inl (0, 16, hf_V0)) 4 fun x2 g3 => (hf_ob 0 5 g3 pa).bind fun _ => hf_bT (spX5_sum gs pa g3) fun x5 g4 => (spX16_init x2 l x5 (Int32.ofNat (B p)) (Int32.ofNat al) g4).bind fun g6 => some (.inr x2, g6) := by
        unfold ndX5_fact_209
        by_cases h61 : B p = 61
        · have : al = 0 := by
            rcases hal with h | ⟨_, h⟩
            · exact h
            · exact absurd h61 h
          rw [if_pos (n61.mpr h61)]
          exact h210 _ (by rw [this]; rfl)
        · have hb1 : p + 1 < T → B (p + 1) < 256 := fun h => P.b (by omega)
          have z61 : (zch B T (p + 1) = (61 : Int32)) ↔ p + 1 < T ∧ B (p + 1) = 61 := z_chz hb1 61 (by decide)
          rw [if_neg (fun z => h61 (n61.mp z)), P3.pob, x_sign P3 q31 (by omega), hf_b2_some]
          by_cases h1 : p + 1 < T ∧ B (p + 1) = 61
          · rw [if_pos (z61.mpr h1)]
            exact h210 _ (by rw [halv.mpr ⟨h61, h1⟩]; rfl)
          · rw [if_neg (fun z => h1 (z61.mp z))]
            have : al = 0 := by
              rcases hal with h | ⟨h, _⟩
              · exact h
              · exact absurd (halv.mp h).2 h1
            exact h210 _ (by rw [this]; rfl)
      rw [hX]
      obtain ⟨V3, hV3⟩ : ∃ x, x = hf_ui V2 12 (Int32.ofNat (m8 + 1)) := ⟨_, rfl⟩
      rw [← hV3]
      have h152 : (if Int32.ofNat (B p) = (60 : Int32) then (if Int32.ofNat al = 0 then (ndX4_compare_152 (0 : Int32) V3) else ndX4_compare_152 (1 : Int32) V3) else if Int32.ofNat (B p) = (61 : Int32) then (ndX4_compare_152 (2 : Int32) V3) else if Int32.ofNat al = 0 then (ndX4_compare_152 (4 : Int32) V3) else ndX4_compare_152 (3 : Int32) V3) = hf_b2 (spX4_sum V3) fun x2 V1 => if x2 = 0 then (some ((0 : Int32), V1)) else (spX4_puts (Int32.ofNat (zcp (B p) al)) (0 : Int32) V1).bind fun V3 => some ((1 : Int32), V3) := by
        unfold ndX4_compare_152 zcp
        by_cases h60 : B p = 60
        · rw [if_pos (n60.mpr h60), if_pos h60]
          rcases hal with rfl | ⟨rfl, _⟩
          · rfl
          · rfl
        · rw [if_neg (fun z => h60 (n60.mp z)), if_neg h60]
          by_cases h61 : B p = 61
          · rw [if_pos (n61.mpr h61), if_pos h61]
            rfl
          · rw [if_neg (fun z => h61 (n61.mp z)), if_neg h61]
            rcases hal with rfl | ⟨rfl, _⟩
            · rfl
            · rfl
      rw [h152]
      have hll : zRV l g4 (m8 - m) cs := ⟨hf_Val.kv (hf_gk.kv K14 N1 P1.2.1 w3) _ _ _ r8.1, r8.2⟩
      have S4 : hf_ps gs g4 pa o nm PV4 B T V3 (p + 1 + al) (m8 + 1) := ⟨K14.no, P4, by rw [hPV4, hPV3, hPV2]; exact q0, by rw [hPV4, hf_ui_at], by rw [hPV4, hf_ui_ne _ (by decide), hPV3, hf_ui_ne _ (by decide), hPV2, hf_ui_at], K14.wo N1 P1.2.1 w3 wo1, by rw [hV3, hV2]; exact (mt1.ui (by decide) _).ui (by decide) _, by rw [hV3, hf_ui_ne _ (by decide), hV2, hf_ui_at], by rw [hV3, hf_ui_ne _ (by decide)]; exact v29, by rw [hV3, hf_ui_at], hq2, by omega⟩
      have hlen := r8.2.1
      exact xm_cmp2 kf kt hc hal (by omega) S.1 S4 (by omega) (k1 := m8 - m) (by omega) ((r3.trans K14).mono (by omega)) (r4.trans ⟨by rw [hPV4, hPV3, hPV2]; rfl, fun k h1 h3 => by rw [hPV4, hf_ui_ne _ h1, hPV3, hf_ui_ne _ h1, hPV2, hf_ui_ne _ h3]⟩) (by rw [hV3]; exact Q2.ui (Or.inr (Or.inr rfl)) _) (by rw [hV3, hV2]; exact (r6.ui (by decide) _).ui (by decide) _) (by rw [hV3, hV2]; exact r7) hll (p := p)
  by_cases c60 : p < T ∧ B p = 60
  · rw [if_pos (e60.mpr c60), if_pos (e60.mpr c60)]
    exact main c60.1 (Or.inl c60.2) (by unfold zch; rw [if_pos c60.1])
  rw [if_neg (fun z => c60 (e60.mp z)), if_neg (fun z => c60 (e60.mp z))]
  by_cases c61 : p < T ∧ B p = 61
  · rw [if_pos (e61.mpr c61), if_pos (e61.mpr c61)]
    exact main c61.1 (Or.inr (Or.inl c61.2)) (by unfold zch; rw [if_pos c61.1])
  rw [if_neg (fun z => c61 (e61.mp z)), if_neg (fun z => c61 (e61.mp z))]
  by_cases c62 : p < T ∧ B p = 62
  · rw [if_pos (e62.mpr c62), if_pos (e62.mpr c62)]
    exact main c62.1 (Or.inr (Or.inr c62.2)) (by unfold zch; rw [if_pos c62.1])
  rw [if_neg (fun z => c62 (e62.mp z)), if_neg (fun z => c62 (e62.mp z))]
  left
  obtain ⟨g3, t1, t2⟩ := x_throw (τ := Nat) P1 0 p
  rw [P1.gio, Option.bind_some, P1.oob] at t1
  have hfl : spX4_fails (0 : Int32) (Int32.ofNat p) V1 = some (0, hf_ui V1 9 (Int32.ofNat (1 + 8 * p + 0))) := m_fails0 w9 0 p
  rw [P1.gio, Option.bind_some, P1.gi, Option.bind_some, q1, P1.oob, hfl, hf_b2_some, if_pos (Or.inl rfl)]
  exact ⟨g3, _, t1, rfl, 1 + 8 * p + 0, t2.gi, hf_ui_at _ _ _, by omega, by omega, (r3.trans (hf_gk.wr r3.no t2)).mono (by omega), r5.fail _⟩
end ZQ
set_option maxRecDepth 100000
set_option maxHeartbeats 1000000
/-! texts: the model's open stack -/
/-- what is open, the last on top -/
def hf_os (V : hf_V) (q : List Nat) : Prop := q.length < 400 ∧ V.1 16 = Int32.ofNat q.length ∧ ∀ k, k < q.length → V.2.2.2.1 15 k = Int32.ofNat (q.getD k 0)
def zstr (x : Nat) : Nat := if x = 13 then 1 else if x = 12 then 2 else if x = 11 then 3 else 0
theorem m_strength {x : Nat} (hx : x < 1000) : spX4_strength (Int32.ofNat x) = some (Int32.ofNat (zstr x)) := by
  unfold spX4_strength zstr
  have e13 : (Int32.ofNat x = (13 : Int32)) ↔ x = 13 := z_eq (b := 13) (by omega) (by decide)
  have e12 : (Int32.ofNat x = (12 : Int32)) ↔ x = 12 := z_eq (b := 12) (by omega) (by decide)
  have e11 : (Int32.ofNat x = (11 : Int32)) ↔ x = 11 := z_eq (b := 11) (by omega) (by decide)
  by_cases h13 : x = 13
  · rw [if_pos (e13.mpr h13), if_pos h13]; rfl
  rw [if_neg (fun z => h13 (e13.mp z)), if_neg h13]
  by_cases h12 : x = 12
  · rw [if_pos (e12.mpr h12), if_pos h12]; rfl
  rw [if_neg (fun z => h12 (e12.mp z)), if_neg h12]
  by_cases h11 : x = 11
  · rw [if_pos (e11.mpr h11), if_pos h11]; rfl
  rw [if_neg (fun z => h11 (e11.mp z)), if_neg h11]; rfl
section ZM
variable {V : hf_V} {t L : Nat}
theorem m_settle0 {q : List Nat} (O : hf_os V q) (hx : ∀ k, k < q.length → q.getD k 0 < 1000) {least : Nat} (hl : least < 10) (h : q = [] ∨ zstr (q.getD (q.length - 1) 0) < least) (n : Nat) : lpX4_settles_0 (n + 1) (Int32.ofNat least) V = some V := by
  obtain ⟨o1, o2, o3⟩ := O
  show ndX4_settles_0 (lpX4_settles_0 n) _ _ = _
  unfold ndX4_settles_0
  rw [o2]
  by_cases e : q.length = 0
  · rw [if_pos (by rw [e]; decide)]
  · have hz : ¬ (Int32.ofNat q.length ≤ 0) := z_nle (b := 0) (by omega) (by omega)
    have a1 : Int32.ofNat q.length - (1 : Int32) = Int32.ofNat (q.length - 1) := z_sub (b := 1) (by omega)
    have h2 : zstr (q.getD (q.length - 1) 0) < least := by
      rcases h with h | h
      · rw [h] at e; exact absurd rfl e
      · exact h
    have h3 : zstr (q.getD (q.length - 1) 0) < 1000 := by omega
    rw [if_neg hz, a1, z_ld (by omega) (by omega), Option.bind_some, o3 _ (by omega), m_strength (hx _ (by omega)), Option.bind_some, if_pos ((z_lt (by omega) (by omega)).mpr h2)]
theorem m_settle1 {q : List Nat} {x d : Nat} (O : hf_os V (q ++ [x])) (hx : x = 11 ∨ x = 12 ∨ x = 13) {least : Nat} (hs : least ≤ zstr x) (TT : hf_tt V t L) (hL : L < 400) (hd : V.1 13 = Int32.ofNat d) (hd1 : x = 11 → 1 ≤ d) (n : Nat) : ∃ V', lpX4_settles_0 (n + 1) (Int32.ofNat least) V = lpX4_settles_0 n (Int32.ofNat least) V' ∧ hf_os V' q ∧ V'.1 13 = Int32.ofNat (if x = 11 then d - 1 else d) ∧ (∀ k, k ≠ 13 → k ≠ 16 → V'.1 k = V.1 k) ∧ hf_vt V V' t L ∧ hf_tt V' t (L + 1) ∧ zcds V' t L [x] := by
  obtain ⟨o1, o2, o3⟩ := O
  rw [List.length_append] at o1 o2 o3
  have hl1 : [x].length = 1 := rfl
  rw [hl1] at o1 o2 o3
  have hst : zstr x ≤ 3 := by
    rcases hx with rfl | rfl | rfl <;> decide
  have htop : V.2.2.2.1 15 q.length = Int32.ofNat x := by
    rw [o3 q.length (by omega), List.getD_eq_getElem?_getD, List.getElem?_append_right (by omega), Nat.sub_self]
    rfl
  have a1 : Int32.ofNat (q.length + 1) - (1 : Int32) = Int32.ofNat q.length := z_sub (a := q.length + 1) (b := 1) (by omega)
  have hz : ¬ (Int32.ofNat (q.length + 1) ≤ 0) := z_nle (b := 0) (by omega) (by omega)
  obtain ⟨V1, hV1⟩ : ∃ y, y = hf_ui V 16 (Int32.ofNat q.length) := ⟨_, rfl⟩
  have T1 : hf_tt V1 t L := by rw [hV1]; exact TT.ui (by decide) _
  have v16 : V1.1 16 = Int32.ofNat q.length := by rw [hV1, hf_ui_at]
  have v15 : V1.2.2.2.1 15 = V.2.2.2.1 15 := by rw [hV1]; rfl
  obtain ⟨V2, u1, u2, u3, u4, u5⟩ := T1.puts hL x 0 (by omega) (fun h => by omega)
  have u1' : spX4_puts (Int32.ofNat x) (0 : Int32) V1 = some V2 := u1
  have w15 : V2.2.2.2.1 15 = V.2.2.2.1 15 := by rw [u3.1 15 (by decide) (by decide), v15]
  have w16 : V2.1 16 = Int32.ofNat q.length := by rw [u2, v16]
  have n11 : (Int32.ofNat x = (11 : Int32)) ↔ x = 11 := z_eq (b := 11) (by omega) (by decide)
  have hos : ∀ k, k < q.length → V.2.2.2.1 15 k = Int32.ofNat (q.getD k 0) := fun k hk => by
    rw [o3 k (by omega), List.getD_eq_getElem?_getD, List.getElem?_append_left hk, ← List.getD_eq_getElem?_getD]
  have go : ∃ V3, lpX4_settles_0 (n + 1) (Int32.ofNat least) V = lpX4_settles_0 n (Int32.ofNat least) V3 ∧ V3 = (if x = 11 then hf_ui V2 13 (Int32.ofNat (d - 1)) else V2) := by
    refine ⟨_, ?_, rfl⟩
    show ndX4_settles_0 (lpX4_settles_0 n) _ _ = _
    unfold ndX4_settles_0
    have v13 : V2.1 13 = Int32.ofNat d := by rw [u2, hV1, hf_ui_ne _ (by decide), hd]
    rw [o2, if_neg hz, a1, z_ld (by omega) (by omega), Option.bind_some, htop, m_strength (by omega), Option.bind_some, if_neg (fun z => by
      rw [z_lt (by omega) (by omega)] at z
      omega), hf_let_eq, ← hV1, v16, v15, z_ld (by omega) (by omega), Option.bind_some, htop, u1', Option.bind_some, w16, w15, z_ld (by omega) (by omega), Option.bind_some, htop, v13]
    by_cases h11 : x = 11
    · have a2 : Int32.ofNat d - (1 : Int32) = Int32.ofNat (d - 1) := z_sub (b := 1) (hd1 h11)
      rw [if_pos (n11.mpr h11), if_pos h11, a2, hf_let_eq]
    · rw [if_neg (fun z => h11 (n11.mp z)), if_neg h11]
  obtain ⟨V3, g1, g2⟩ := go
  have e3 : V3.2 = V2.2 := by
    rw [g2]
    split <;> rfl
  have i3 : ∀ k, k ≠ 13 → V3.1 k = V2.1 k := fun k hk => by
    rw [g2]
    split
    · exact hf_ui_ne _ hk _
    · rfl
  refine ⟨V3, g1, ⟨by omega, by rw [i3 16 (by decide), w16], fun k hk => by rw [e3, w15]; exact hos k hk⟩, ?_, fun k h1 h2 => by rw [i3 k h1, u2, hV1, hf_ui_ne _ h2], ?_, ?_, ?_⟩
  · rw [g2]
    by_cases h11 : x = 11
    · rw [if_pos h11, if_pos h11, hf_ui_at]
    · rw [if_neg h11, if_neg h11, u2, hV1, hf_ui_ne _ (by decide), hd]
  · have : hf_vt V V2 t L := by rw [hV1] at u3; exact u3
    unfold hf_vt at this ⊢
    rw [e3]
    exact this
  · obtain ⟨y1, y2, y3⟩ := u4
    exact ⟨y1, by rw [i3 11 (by decide)]; exact y2, by rw [e3]; exact y3⟩
  · intro k hk
    rw [e3]
    exact u5 k hk
end ZM
