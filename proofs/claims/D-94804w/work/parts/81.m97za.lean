set_option maxRecDepth 100000
set_option maxHeartbeats 1000000
/-! texts: joined values -/
theorem hf_Val.blank {h : hf_H} {x ci : Nat} (e : hf_ob 0 ci h x = some hf_V0) (hc : 12 ≤ ci) (Y : hf_C) : ∀ (d a : Nat) (c : List Nat), hf_Val d h a c → hf_Val d (hf_up h x Y) a c
  | 0, _, _, H => by cases H
  | d + 1, a, c, H => by
    rcases H with ⟨V, k, e1, e2⟩ | ⟨V, k, e1, e2⟩ | ⟨V, a1, a2, c1, c2, s, e1, e2, e3, e4, e5, e6⟩
    · exact Or.inl ⟨V, k, by rw [hf_ob_ne (hf_ob_dif e1 e (by omega))]; exact e1, e2⟩
    · exact Or.inr (Or.inl ⟨V, k, by rw [hf_ob_ne (hf_ob_dif e1 e (by omega))]; exact e1, e2⟩)
    · have hne : a ≠ x := fun z => by
        subst z
        have h1 := (hf_ob_spec e1).symm.trans (hf_ob_spec e)
        cases h1
        cases e2
      exact Or.inr (Or.inr ⟨V, a1, a2, c1, c2, s, by rw [hf_ob_ne hne]; exact e1, e2, e3, hf_Val.blank e hc Y d a1 c1 e4, hf_Val.blank e hc Y d a2 c2 e5, e6⟩)
def zRV (r : Nat) (g : hf_H) (k : Nat) (cs : List Nat) : Prop := hf_Val k g r cs ∧ cs.length + 1 = 2 * k ∧ zlv cs = k
theorem hf_rf.lift {g g1 g' : hf_H} {pa o T a a1 : Nat} {V V1 V' : hf_V} {t L L1 n : Nat} (H : hf_rf g1 g' pa o T a1 V1 V' t L1) (K : hf_gk pa o g g1 n) (Q : hf_vq V V1 t L) (h1 : L ≤ L1) (h2 : a + n ≤ a1) (h3 : a1 ≤ T) : hf_rf g g' pa o T a V V' t L := by
  obtain ⟨c, c1, c2, c3, c4, c5, c6⟩ := H
  exact ⟨c, c1, c2, c3, c4, (K.trans c5).mono (by omega), Q.vf c6 h1⟩
section ZQ
variable {gs : hf_gs} {pa o nm : Nat} {B : Nat → Nat} {T t : Nat}
/-- read so far, from (g0, V0, a0, m0) on: the value l, its codes cs -/
def hf_rd (gs : hf_gs) (pa o nm : Nat) (B : Nat → Nat) (T t : Nat) (g0 : hf_H) (PV0 V0 : hf_V) (a0 m0 L0 : Nat) (l : Nat) (g : hf_H) (PV V : hf_V) (a m : Nat) (cs : List Nat) : Prop := hf_ps gs g pa o nm PV B T V a m ∧ a0 < a ∧ m0 < m ∧ hf_gk pa o g0 g (a - a0) ∧ hf_pz PV0 PV ∧ hf_vq V0 V t L0 ∧ hf_tt V t (L0 + cs.length) ∧ zcds V t L0 cs ∧ zRV l g (m - m0) cs
theorem xm_join {g0 : hf_H} {PV0 V0 : hf_V} {a0 m0 L0 : Nat} (subX : hf_H → Option ((Nat ⊕ Nat) × hf_H)) (subM : hf_V → Option (Int32 × hf_V)) (hsub : ∀ g PV V a m L, hf_ps gs g pa o nm PV B T V a m → hf_tt V t L → L + 2 * (60 - m) < 400 → zRO gs g pa o nm PV B T V a m t L (subX g) (subM V) zRV) (N0 : hf_no g0) {PVo : hf_V} (e05 : hf_ob 0 5 g0 pa = some PVo) (hL0 : L0 + 2 * (60 - m0) < 400) {l : Nat} {g : hf_H} {PV V : hf_V} {a m : Nat} {cs : List Nat} (R : hf_rd gs pa o nm B T t g0 PV0 V0 a0 m0 L0 l g PV V a m cs) (haT : a < T) {s : Nat} (hop : (B a = 43 ∧ s = 2) ∨ (B a = 45 ∧ s = 3) ∨ (B a = 42 ∧ s = 4) ∨ (B a = 47 ∧ s = 5) ∨ (B a = 37 ∧ s = 14)) (kX : Nat → hf_H → Option ((Nat ⊕ Nat) × hf_H)) (kM : hf_V → Option (Int32 × hf_V)) :
  (∃ g' V', ((hf_ob 0 5 g pa).bind fun _ => hf_b2 (spX5_sign pa g) fun x2 g1 => (hf_gi 0 5 1 g1 pa).bind fun x3 => (hf_pi 0 5 1 g1 pa (x3 + (1 : Int32))).bind fun g4 => hf_mk g4 (.inl (0, 12, hf_V0)) 3 fun x5 g6 => (hf_ob 0 5 g6 pa).bind fun _ => hf_bT (subX g6) fun x8 g7 => (spX12_init x5 l x8 x2 g7).bind fun g9 => kX x5 g9) = some (.inl (o + 19), g') ∧ (hf_let (hf_ui V 8 ((V.1 8) + (1 : Int32))) fun V1 => hf_b2 (subM V1) fun x3 V2 => if x3 = 0 then (some ((0 : Int32), V2)) else (spX4_puts (Int32.ofNat s) (0 : Int32) V2).bind fun V4 => kM V4) = some (0, V') ∧ hf_rf g0 g' pa o T a0 V0 V' t L0) ∨ ∃ l' g' PV' V' a' m' cs', ((hf_ob 0 5 g pa).bind fun _ => hf_b2 (spX5_sign pa g) fun x2 g1 => (hf_gi 0 5 1 g1 pa).bind fun x3 => (hf_pi 0 5 1 g1 pa (x3 + (1 : Int32))).bind fun g4 => hf_mk g4 (.inl (0, 12, hf_V0)) 3 fun x5 g6 => (hf_ob 0 5 g6 pa).bind fun _ => hf_bT (subX g6) fun x8 g7 => (spX12_init x5 l x8 x2 g7).bind fun g9 => kX x5 g9) = kX l' g' ∧ (hf_let (hf_ui V 8 ((V.1 8) + (1 : Int32))) fun V1 => hf_b2 (subM V1) fun x3 V2 => if x3 = 0 then (some ((0 : Int32), V2)) else (spX4_puts (Int32.ofNat s) (0 : Int32) V2).bind fun V4 => kM V4) = kM V' ∧ hf_rd gs pa o nm B T t g0 PV0 V0 a0 m0 L0 l' g' PV' V' a' m' cs' ∧ a < a' := by
  obtain ⟨S, r1, r2, r3, r4, r5, r6, r7, r8, r9, r10⟩ := R
  have S0 := S
  obtain ⟨N, P, p0, p1, p3, wo, mt, v8, v9, v12, ha, hm⟩ := S
  have hT := P.T4
  have a1 : Int32.ofNat a + (1 : Int32) = Int32.ofNat (a + 1) := z_add a 1
  have S1 := S0.at_ (a' := a + 1) haT
  obtain ⟨PV1, hPV1⟩ : ∃ x, x = hf_ui PV 1 (Int32.ofNat (a + 1)) := ⟨_, rfl⟩
  obtain ⟨V1, hV1⟩ : ∃ x, x = hf_ui V 8 (Int32.ofNat (a + 1)) := ⟨_, rfl⟩
  obtain ⟨g4, hg4⟩ : ∃ x, x = hf_pc g pa PV1 := ⟨_, rfl⟩
  rw [← hPV1, ← hg4, ← hV1] at S1
  obtain ⟨N4, P4, q0, q1, q3, wo4, mt1, w8, w9, w12, -, -⟩ := S1
  obtain ⟨WV, w3⟩ := P4.w3
  have K4 : hf_gk pa o g g4 0 := by rw [hg4]; exact hf_gk.pc N P.2.1 _
  obtain ⟨g6, hg6⟩ : ∃ x, x = hf_nw g4 (.inl (0, 12, hf_V0)) 3 := ⟨_, rfl⟩
  have P6 : hf_px g6 pa o PV1 B T := by rw [hg6]; exact P4.nw N4 _ _
  have K46 : hf_gk pa o g4 g6 1 := by rw [hg6]; exact hf_gk.nw N4 _ (by decide)
  have e6 : hf_ob 0 12 g6 g4.2.1 = some hf_V0 := by rw [hg6]; exact ob_new g4 0 12 hf_V0 3
  have S6 : hf_ps gs g6 pa o nm PV1 B T V1 (a + 1) m := ⟨K46.no, P6, q0, q1, q3, K46.wo N4 P4.2.1 w3 wo4, mt1, w8, w9, w12, haT, hm⟩
  have T1 : hf_tt V1 t (L0 + cs.length) := by rw [hV1]; exact r6.ui (by decide) _
  have Q1 : hf_vq V0 V1 t L0 := by rw [hV1]; exact r5.ui (Or.inl rfl) _
  have hq4 : pa < g4.2.1 := N4.olt P4.2.1
  have hsg : spX5_sign pa g = some (Int32.ofNat (B a), g) := by
    rw [x_sign P p1 ha]
    unfold zch
    rw [if_pos haT]
  have K06 : hf_gk pa o g0 g6 (a - a0 + 1) := (r3.trans K4).trans K46
  rw [P.pob, hsg, hf_b2_some, P.gi, Option.bind_some, p1, a1, P.pi, Option.bind_some, ← hPV1, ← hg4, hf_mk_eq, ← hg6, P6.pob, v8, a1, hf_let_eq, ← hV1]
  have hLb : L0 + cs.length + 2 * (60 - m) < 400 := by omega
  rcases hsub g6 PV1 V1 (a + 1) m (L0 + cs.length) S6 T1 hLb with ⟨g', V', x1, x2, x3⟩ | ⟨r, g7, PV2, V2, a2, m2, cs2, x1, x2, S7, x3, x4, K67, x5, x6, x7, x8, x9, x10, x11⟩
  · left
    rw [x1, hf_bT_inl, x2, hf_b2_some, if_pos rfl]
    exact ⟨g', V', rfl, rfl, x3.lift K06 Q1 (by omega) (by omega) haT⟩
  · right
    obtain ⟨N7, P7, y0, y1, y3, wo7, mt7, z8, z9, z12, ha2, hm2⟩ := S7
    have hk : 1 ≤ m2 - m := by
      rcases Nat.eq_zero_or_pos (m2 - m) with h | h
      · rw [h] at x9
        cases x9
      · exact h
    have e7 : hf_ob 0 12 g7 g4.2.1 = some hf_V0 := by
      have hlt : g4.2.1 < g6.2.1 := K46.no.olt e6
      refine K67.ob K46.no e6 (by omega) (fun z => ?_)
      have := N4.olt w3
      omega
    have K47 : hf_gk pa o g4 g7 (1 + (a2 - (a + 1))) := K46.trans K67
    obtain ⟨J, hJ⟩ : ∃ J, J = hf_ui (hf_uq (hf_uq hf_V0 0 (some l)) 1 (some r)) 2 (Int32.ofNat (B a)) := ⟨_, rfl⟩
    obtain ⟨g9, hg9⟩ : ∃ x, x = hf_up g7 g4.2.1 (.inl (0, 12, J)) := ⟨_, rfl⟩
    have hin : spX12_init g4.2.1 l r (Int32.ofNat (B a)) g7 = some g9 := by
      unfold spX12_init spX9_init
      rw [Option.bind_some]
      unfold hf_pq hf_pi
      rw [e7]
      show Option.bind (some (hf_up g7 g4.2.1 _)) _ = _
      rw [Option.bind_some, hf_ob_up]
      show Option.bind (some (hf_up _ g4.2.1 _)) _ = _
      rw [Option.bind_some, hf_up_up, hf_ob_up]
      show Option.bind (some (hf_up _ g4.2.1 _)) _ = _
      rw [Option.bind_some, hf_up_up, hg9, hJ]
    have P9 : hf_px g9 pa o PV2 B T := by rw [hg9]; exact P7.up e7 (by decide) (by decide)
    have K49 : hf_gk pa o g4 g9 (1 + (a2 - (a + 1))) := by rw [hg9]; exact K47.up2 (Nat.le_refl _) e7 _
    have e9 : hf_ob 0 12 g9 g4.2.1 = some J := by rw [hg9]; exact hf_ob_up _ _ _ _ _
    have K09 : hf_gk pa o g0 g9 (a2 - a0) := ((r3.trans K4).trans K49).mono (by omega)
    have hs16 : s < 16 := by omega
    obtain ⟨V4, u1, u2, u3, u4, u5⟩ := x7.puts (by omega) s 0 (by omega) (fun h => by omega)
    have u1' : spX4_puts (Int32.ofNat s) (0 : Int32) V2 = some V4 := u1
    rw [x1, hf_bT_inr, hin, Option.bind_some, x2, hf_b2_some, if_neg (by decide), u1', Option.bind_some]
    have hmt4 : hf_mt V4 B T := by
      obtain ⟨b1, b2, b3⟩ := mt7
      refine ⟨b1, by rw [u2]; exact b2, fun k hk => ?_⟩
      rw [u3.1 0 (by decide) (by decide)]
      exact b3 k hk
    have hvl : hf_Val (m2 - m) g9 r cs2 := by rw [hg9]; exact hf_Val.blank e7 (by decide) _ _ _ _ x9
    obtain ⟨WV0, w30⟩ := P.w3
    have hll : hf_Val (m - m0) g9 l cs := hf_Val.kv (hf_gk.kv (K4.trans K49) N P.2.1 w30) _ _ _ r8
    refine ⟨g4.2.1, g9, PV2, V4, a2, m2, cs ++ cs2 ++ [s + 16 * 0], rfl, rfl, ⟨⟨K49.no, P9, y0, y1, y3, K49.wo N4 P4.2.1 w3 wo4, hmt4, by rw [u2]; exact z8, by rw [u2]; exact z9, by rw [u2]; exact z12, ha2, hm2⟩, by omega, by omega, K09, r4.trans (by rw [hPV1] at x5; exact ⟨x5.1, fun k h1 h3 => (x5.2 k h1 h3).trans (hf_ui_ne _ h1 _)⟩), (Q1.trans x6 (by omega)).trans ⟨fun k _ _ _ => by rw [u2], u3⟩ (by omega), ?_, ?_, ?_, ?_, ?_⟩, by omega⟩
    · rw [List.length_append, List.length_append]
      rw [show L0 + (cs.length + cs2.length + [s + 16 * 0].length) = L0 + cs.length + cs2.length + 1 from by simp; omega]
      exact u4
    · refine zcds.app (zcds.app ?_ ?_) ?_
      · have h1 : zcds V2 t L0 cs := by
          have : zcds V1 t L0 cs := by rw [hV1]; exact r7
          exact this.vt x6.2 (Nat.le_refl _)
        exact h1.vt u3 (by omega)
      · exact x8.vt u3 (Nat.le_refl _)
      · rw [List.length_append, ← Nat.add_assoc]
        exact u5
    · have hd : ∃ d, m2 - m0 = d + 1 := ⟨m2 - m0 - 1, by omega⟩
      obtain ⟨d, hd⟩ := hd
      rw [hd]
      refine Or.inr (Or.inr ⟨J, l, r, cs, cs2, s + 16 * 0, e9, by rw [hJ]; rfl, by rw [hJ]; rfl, hf_Val.mono _ _ _ _ _ (by omega) hll, hf_Val.mono _ _ _ _ _ (by omega) hvl, rfl, ?_⟩)
      have hJ2 : J.1 2 = Int32.ofNat (B a) := by rw [hJ]; exact hf_ui_at _ _ _
      rw [hJ2]
      rcases hop with ⟨h1, h2⟩ | ⟨h1, h2⟩ | ⟨h1, h2⟩ | ⟨h1, h2⟩ | ⟨h1, h2⟩ <;> rw [h1, h2]
      · exact Or.inl ⟨rfl, rfl⟩
      · exact Or.inr (Or.inl ⟨rfl, rfl⟩)
      · exact Or.inr (Or.inr (Or.inl ⟨rfl, rfl⟩))
      · exact Or.inr (Or.inr (Or.inr (Or.inl ⟨rfl, rfl⟩)))
      · exact Or.inr (Or.inr (Or.inr (Or.inr ⟨rfl, rfl⟩)))
    · rw [List.length_append, List.length_append]
      simp
      omega
    · rw [zlv_app, zlv_app, r10, x11]
      have : zlv [s + 16 * 0] = 0 := by
        unfold zlv zlv
        rw [if_neg (by omega)]
      rw [this]
      omega
end ZQ
set_option maxRecDepth 100000
set_option maxHeartbeats 1000000
/-! texts: term, sum -/
theorem z_chz {B : Nat → Nat} {T p : Nat} (hb : p < T → B p < 256) (n : Nat) (hn : n < 256) : (zch B T p = Int32.ofNat n) ↔ p < T ∧ B p = n := by
  unfold zch
  by_cases e : p < T
  · rw [if_pos e]
    have := hb e
    exact ⟨fun h => ⟨e, (z_eq (by omega) (by omega)).mp h⟩, fun h => by rw [h.2]⟩
  · rw [if_neg e]
    have key : ∀ n, n < 256 → ¬ ((-1 : Int32) = Int32.ofNat n) := by decide
    exact ⟨fun h => absurd h (key n hn), fun h => absurd h.1 e⟩
theorem zbyt_eq {a n : Nat} (ha : a < 256) (hn : n < 128) : (zbyt a = Int32.ofNat n) ↔ a = n := by
  have key : ∀ a, a < 256 → 128 ≤ a → ¬ ((0 : Int32) ≤ zbyt a) := by decide
  by_cases h : a < 128
  · rw [zbyt_small _ h, z_eq (by omega) (by omega)]
  · refine ⟨fun z => ?_, fun z => by omega⟩
    exfalso
    refine key a ha (by omega) ?_
    rw [z]
    exact z_yle (a := 0) (Nat.zero_le _) (by omega)
section ZQ
variable {gs : hf_gs} {pa o nm : Nat} {B : Nat → Nat} {T t : Nat} {g0 : hf_H} {PV0 V0 : hf_V} {a0 m0 L0 : Nat}
theorem hf_rd.at_ {l : Nat} {g : hf_H} {PV V : hf_V} {a m : Nat} {cs : List Nat} (R : hf_rd gs pa o nm B T t g0 PV0 V0 a0 m0 L0 l g PV V a m cs) {p : Nat} (h1 : a ≤ p) (h2 : p ≤ T) : hf_rd gs pa o nm B T t g0 PV0 V0 a0 m0 L0 l (hf_pc g pa (hf_ui PV 1 (Int32.ofNat p))) (hf_ui PV 1 (Int32.ofNat p)) (hf_ui V 8 (Int32.ofNat p)) p m cs := by
  obtain ⟨S, r1, r2, r3, r4, r5, r6, r7, r8, r9⟩ := R
  have K : hf_gk pa o g (hf_pc g pa (hf_ui PV 1 (Int32.ofNat p))) 0 := hf_gk.pc S.1 S.2.1.2.1 _
  obtain ⟨WV, w3⟩ := S.2.1.w3
  exact ⟨S.at_ h2, by omega, r2, (r3.trans K).mono (by omega), r4.ui (Or.inl rfl) _, r5.ui (Or.inl rfl) _, r6.ui (by decide) _, r7, hf_Val.kv (K.kv S.1 S.2.1.2.1 w3) _ _ _ r8, r9⟩
theorem hf_rd.ro {l : Nat} {g : hf_H} {PV V : hf_V} {a m : Nat} {cs : List Nat} (R : hf_rd gs pa o nm B T t g0 PV0 V0 a0 m0 L0 l g PV V a m cs) : zRO gs g0 pa o nm PV0 B T V0 a0 m0 t L0 (some (.inr l, g)) (some (1, V)) zRV := by
  obtain ⟨S, r1, r2, r3, r4, r5, r6, r7, r8⟩ := R
  exact Or.inr ⟨l, g, PV, V, a, m, cs, rfl, rfl, S, r1, by omega, r3, r4, r5, r6, r7, r8⟩
theorem xm_valueR (g : hf_H) (PV V : hf_V) (a m L : Nat) (S : hf_ps gs g pa o nm PV B T V a m) (TT : hf_tt V t L) (hL : L + 2 * (60 - m) < 400) : zRO gs g pa o nm PV B T V a m t L (spX5_value gs pa g) (spX4_value V) zRV := by
  rcases xm_value S TT (by omega) with h | ⟨r, g', PV', V', a', m', cs, h1, h2, h3, h4, h5, h6, h7, h8, h9, h10, h11, h12, h13, h14⟩
  · exact Or.inl h
  · exact Or.inr ⟨r, g', PV', V', a', m', cs, h1, h2, h3, h4, h5, h6, h7, h8, h9, h10, by rw [h12]; exact h11, by omega, by omega⟩
theorem xm_termL (N0 : hf_no g0) {PVo : hf_V} (e05 : hf_ob 0 5 g0 pa = some PVo) (hL0 : L0 + 2 * (60 - m0) < 400) {l : Nat} {g : hf_H} {PV V : hf_V} {a m : Nat} {cs : List Nat} (R : hf_rd gs pa o nm B T t g0 PV0 V0 a0 m0 L0 l g PV V a m cs) : zRO gs g0 pa o nm PV0 B T V0 a0 m0 t L0 (lpX5_term_5 gs hf_N pa l g) (lpX4_term_9 hf_N V) zRV := by
  refine hf_whileR2 (fun n (s : Nat × hf_H × hf_V × hf_V × Nat × Nat × List Nat) => lpX5_term_5 gs n pa s.1 s.2.1) (fun n (s : Nat × hf_H × hf_V × hf_V × Nat × Nat × List Nat) => lpX4_term_9 n s.2.2.2.1) (fun s => T - s.2.2.2.2.1) (fun s => hf_rd gs pa o nm B T t g0 PV0 V0 a0 m0 L0 s.1 s.2.1 s.2.2.1 s.2.2.2.1 s.2.2.2.2.1 s.2.2.2.2.2.1 s.2.2.2.2.2.2) (fun X M => zRO gs g0 pa o nm PV0 B T V0 a0 m0 t L0 X M zRV) (fun f s H => ?_) (l, g, PV, V, a, m, cs) R (fuel := hf_N) (by
    have := R.1.2.1.T4
    show T - a < hf_N
    unfold hf_N
    omega)
  obtain ⟨l, g, PV, V, a, m, cs⟩ := s
  simp only at H
  have ha := H.1.2.2.2.2.2.2.2.2.2.2.1
  obtain ⟨s1, s2⟩ := zsk_le (B := B) ha
  obtain ⟨p, hp⟩ : ∃ p, p = zsk B T a := ⟨_, rfl⟩
  have hpp : zsk B T p = p := by rw [hp, zsk_idem B T _ a rfl ha]
  rw [← hp] at s1 s2
  have R1 := H.at_ s1 s2
  have P := H.1.2.1
  have hT := P.T4
  have hb : p < T → B p < 256 := fun h => P.b (by omega)
  have xn := x_next P H.1.2.2.2.1 ha
  have ms := m_see H.1.2.2.2.2.2.2.1 H.1.2.2.2.2.2.2.2.1 ha
  rw [← hp] at xn ms
  obtain ⟨PV1, hPV1⟩ : ∃ x, x = hf_ui PV 1 (Int32.ofNat p) := ⟨_, rfl⟩
  obtain ⟨V1, hV1⟩ : ∃ x, x = hf_ui V 8 (Int32.ofNat p) := ⟨_, rfl⟩
  obtain ⟨g1, hg1⟩ : ∃ x, x = hf_pc g pa PV1 := ⟨_, rfl⟩
  rw [← hPV1, ← hg1] at xn
  rw [← hV1] at ms
  rw [← hPV1, ← hg1, ← hV1] at R1
  have P1 := R1.1.2.1
  have w8 := R1.1.2.2.2.2.2.2.2.1
  have mt1 := R1.1.2.2.2.2.2.2.1
  have xs := x_sign P1 R1.1.2.2.2.1 s2
  have ms2 := m_see mt1 w8 s2
  rw [hpp, hf_ui_self w8] at ms2
  have hX : lpX5_term_5 gs (f + 1) pa l g = if zch B T p = (42 : Int32) then ndX5_term_32 gs (lpX5_term_5 gs f) pa l g1 else if zch B T p = (47 : Int32) then ndX5_term_32 gs (lpX5_term_5 gs f) pa l g1 else if zch B T p = (37 : Int32) then ndX5_term_32 gs (lpX5_term_5 gs f) pa l g1 else some (.inr l, g1) := by
    show ndX5_term_5 gs (lpX5_term_5 gs f) pa l g = _
    unfold ndX5_term_5
    rw [P.pob, xn, hf_b2_some, P1.pob, xs, hf_b2_some, P1.pob, xs, hf_b2_some]
  have hM : lpX4_term_9 (f + 1) V = if zch B T p = (42 : Int32) then ndX4_term_36 (lpX4_term_9 f) V1 else if zch B T p = (47 : Int32) then ndX4_term_36 (lpX4_term_9 f) V1 else if zch B T p = (37 : Int32) then ndX4_term_36 (lpX4_term_9 f) V1 else some (1, V1) := by
    show ndX4_term_9 (lpX4_term_9 f) V = _
    unfold ndX4_term_9
    rw [ms, hf_b2_some, ms2, hf_b2_some, ms2, hf_b2_some]
  show zRO gs g0 pa o nm PV0 B T V0 a0 m0 t L0 (lpX5_term_5 gs (f + 1) pa l g) (lpX4_term_9 (f + 1) V) zRV ∨ ∃ s' : Nat × hf_H × hf_V × hf_V × Nat × Nat × List Nat, lpX5_term_5 gs (f + 1) pa l g = lpX5_term_5 gs f pa s'.1 s'.2.1 ∧ lpX4_term_9 (f + 1) V = lpX4_term_9 f s'.2.2.2.1 ∧ _ ∧ T - s'.2.2.2.2.1 < T - a
  rw [hX, hM]
  have e42 : (zch B T p = (42 : Int32)) ↔ p < T ∧ B p = 42 := z_chz hb 42 (by decide)
  have e47 : (zch B T p = (47 : Int32)) ↔ p < T ∧ B p = 47 := z_chz hb 47 (by decide)
  have e37 : (zch B T p = (37 : Int32)) ↔ p < T ∧ B p = 37 := z_chz hb 37 (by decide)
  have go : ∀ s, p < T → ((B p = 43 ∧ s = 2) ∨ (B p = 45 ∧ s = 3) ∨ (B p = 42 ∧ s = 4) ∨ (B p = 47 ∧ s = 5) ∨ (B p = 37 ∧ s = 14)) → ndX4_term_36 (lpX4_term_9 f) V1 = ndX4_term_74 (lpX4_term_9 f) (Int32.ofNat s) V1 → zRO gs g0 pa o nm PV0 B T V0 a0 m0 t L0 (ndX5_term_32 gs (lpX5_term_5 gs f) pa l g1) (ndX4_term_36 (lpX4_term_9 f) V1) zRV ∨ ∃ s' : Nat × hf_H × hf_V × hf_V × Nat × Nat × List Nat, ndX5_term_32 gs (lpX5_term_5 gs f) pa l g1 = lpX5_term_5 gs f pa s'.1 s'.2.1 ∧ ndX4_term_36 (lpX4_term_9 f) V1 = lpX4_term_9 f s'.2.2.2.1 ∧ hf_rd gs pa o nm B T t g0 PV0 V0 a0 m0 L0 s'.1 s'.2.1 s'.2.2.1 s'.2.2.2.1 s'.2.2.2.2.1 s'.2.2.2.2.2.1 s'.2.2.2.2.2.2 ∧ T - s'.2.2.2.2.1 < T - a := by
    intro s hpT hop hm
    rw [hm]
    rcases xm_join (fun g => spX5_value gs pa g) spX4_value xm_valueR N0 e05 hL0 R1 hpT hop (fun l g => lpX5_term_5 gs f pa l g) (lpX4_term_9 f) with ⟨g', V', j1, j2, j3⟩ | ⟨l', g', PV', V', a', m', cs', j1, j2, j3, j4⟩
    · exact Or.inl (Or.inl ⟨g', V', j1, j2, j3⟩)
    · exact Or.inr ⟨(l', g', PV', V', a', m', cs'), j1, j2, j3, by
        show T - a' < T - a
        omega⟩
  have tape : p < T → hf_ld 400 (V1.2.2.2.1 0) (V1.1 8) = some (zbyt (B p)) := fun h => by
    rw [w8, z_ld (by omega) (by omega), (mt1.2.2 p (by omega)).1]
  have b42 : p < T → (zbyt (B p) = (42 : Int32) ↔ B p = 42) := fun h => zbyt_eq (n := 42) (hb h) (by decide)
  have b47 : p < T → (zbyt (B p) = (47 : Int32) ↔ B p = 47) := fun h => zbyt_eq (n := 47) (hb h) (by decide)
  by_cases c42 : p < T ∧ B p = 42
  · rw [if_pos (e42.mpr c42), if_pos (e42.mpr c42)]
    refine go 4 c42.1 (Or.inr (Or.inr (Or.inl ⟨c42.2, rfl⟩))) ?_
    unfold ndX4_term_36
    rw [tape c42.1, Option.bind_some, if_pos ((b42 c42.1).mpr c42.2)]
    rfl
  rw [if_neg (fun z => c42 (e42.mp z)), if_neg (fun z => c42 (e42.mp z))]
  by_cases c47 : p < T ∧ B p = 47
  · rw [if_pos (e47.mpr c47), if_pos (e47.mpr c47)]
    refine go 5 c47.1 (Or.inr (Or.inr (Or.inr (Or.inl ⟨c47.2, rfl⟩)))) ?_
    unfold ndX4_term_36
    rw [tape c47.1, Option.bind_some, Option.bind_some, if_neg (fun z => c42 ⟨c47.1, (b42 c47.1).mp z⟩), if_pos ((b47 c47.1).mpr c47.2)]
    rfl
  rw [if_neg (fun z => c47 (e47.mp z)), if_neg (fun z => c47 (e47.mp z))]
  by_cases c37 : p < T ∧ B p = 37
  · rw [if_pos (e37.mpr c37), if_pos (e37.mpr c37)]
    refine go 14 c37.1 (Or.inr (Or.inr (Or.inr (Or.inr ⟨c37.2, rfl⟩)))) ?_
    unfold ndX4_term_36
    rw [tape c37.1, Option.bind_some, Option.bind_some, if_neg (fun z => c42 ⟨c37.1, (b42 c37.1).mp z⟩), if_neg (fun z => c47 ⟨c37.1, (b47 c37.1).mp z⟩)]
    rfl
  rw [if_neg (fun z => c37 (e37.mp z)), if_neg (fun z => c37 (e37.mp z))]
  exact Or.inl R1.ro
end ZQ
set_option maxRecDepth 100000
set_option maxHeartbeats 1000000
/-! texts: term and sum, whole -/
section ZQ
variable {gs : hf_gs} {pa o nm : Nat} {B : Nat → Nat} {T t : Nat} {g0 : hf_H} {PV0 V0 : hf_V} {a0 m0 L0 : Nat}
theorem xm_term (g : hf_H) (PV V : hf_V) (a m L : Nat) (S : hf_ps gs g pa o nm PV B T V a m) (TT : hf_tt V t L) (hL : L + 2 * (60 - m) < 400) : zRO gs g pa o nm PV B T V a m t L (spX5_term gs pa g) (spX4_term V) zRV := by
  unfold spX5_term spX4_term
  rw [S.2.1.pob]
  rcases xm_valueR g PV V a m L S TT hL with ⟨g', V', h1, h2, h3⟩ | ⟨r, g', PV', V', a', m', cs, h1, h2, h3, h4, h5, h6, h7, h8, h9, h10, h11⟩
  · left
    rw [h1, hf_bT_inl, h2, hf_b2_some, if_pos rfl]
    exact ⟨g', V', rfl, rfl, h3⟩
  · rw [h1, hf_bT_inr, h2, hf_b2_some, if_neg (by decide)]
    have hk : m < m' := by
      rcases Nat.eq_zero_or_pos (m' - m) with h | h
      · rw [h] at h11
        cases h11.1
      · omega
    exact xm_termL S.1 S.2.1.2.1 hL ⟨h3, h4, hk, h6, h7, h8, h9, h10, h11⟩
theorem xm_sumL (N0 : hf_no g0) {PVo : hf_V} (e05 : hf_ob 0 5 g0 pa = some PVo) (hL0 : L0 + 2 * (60 - m0) < 400) {l : Nat} {g : hf_H} {PV V : hf_V} {a m : Nat} {cs : List Nat} (R : hf_rd gs pa o nm B T t g0 PV0 V0 a0 m0 L0 l g PV V a m cs) : zRO gs g0 pa o nm PV0 B T V0 a0 m0 t L0 (lpX5_sum_5 gs hf_N pa l g) (lpX4_sum_9 hf_N V) zRV := by
  refine hf_whileR2 (fun n (s : Nat × hf_H × hf_V × hf_V × Nat × Nat × List Nat) => lpX5_sum_5 gs n pa s.1 s.2.1) (fun n (s : Nat × hf_H × hf_V × hf_V × Nat × Nat × List Nat) => lpX4_sum_9 n s.2.2.2.1) (fun s => T - s.2.2.2.2.1) (fun s => hf_rd gs pa o nm B T t g0 PV0 V0 a0 m0 L0 s.1 s.2.1 s.2.2.1 s.2.2.2.1 s.2.2.2.2.1 s.2.2.2.2.2.1 s.2.2.2.2.2.2) (fun X M => zRO gs g0 pa o nm PV0 B T V0 a0 m0 t L0 X M zRV) (fun f s H => ?_) (l, g, PV, V, a, m, cs) R (fuel := hf_N) (by
    have := R.1.2.1.T4
    show T - a < hf_N
    unfold hf_N
    omega)
  obtain ⟨l, g, PV, V, a, m, cs⟩ := s
  simp only at H
  have ha := H.1.2.2.2.2.2.2.2.2.2.2.1
  obtain ⟨s1, s2⟩ := zsk_le (B := B) ha
  obtain ⟨p, hp⟩ : ∃ p, p = zsk B T a := ⟨_, rfl⟩
  have hpp : zsk B T p = p := by rw [hp, zsk_idem B T _ a rfl ha]
  rw [← hp] at s1 s2
  have R1 := H.at_ s1 s2
  have P := H.1.2.1
  have hT := P.T4
  have hb : p < T → B p < 256 := fun h => P.b (by omega)
  have xn := x_next P H.1.2.2.2.1 ha
  have ms := m_see H.1.2.2.2.2.2.2.1 H.1.2.2.2.2.2.2.2.1 ha
  rw [← hp] at xn ms
  obtain ⟨PV1, hPV1⟩ : ∃ x, x = hf_ui PV 1 (Int32.ofNat p) := ⟨_, rfl⟩
  obtain ⟨V1, hV1⟩ : ∃ x, x = hf_ui V 8 (Int32.ofNat p) := ⟨_, rfl⟩
  obtain ⟨g1, hg1⟩ : ∃ x, x = hf_pc g pa PV1 := ⟨_, rfl⟩
  rw [← hPV1, ← hg1] at xn
  rw [← hV1] at ms
  rw [← hPV1, ← hg1, ← hV1] at R1
  have P1 := R1.1.2.1
  have w8 := R1.1.2.2.2.2.2.2.2.1
  have mt1 := R1.1.2.2.2.2.2.2.1
  have xs := x_sign P1 R1.1.2.2.2.1 s2
  have ms2 := m_see mt1 w8 s2
  rw [hpp, hf_ui_self w8] at ms2
  have hX : lpX5_sum_5 gs (f + 1) pa l g = if zch B T p = (43 : Int32) then ndX5_sum_23 gs (lpX5_sum_5 gs f) pa l g1 else if zch B T p = (45 : Int32) then ndX5_sum_23 gs (lpX5_sum_5 gs f) pa l g1 else some (.inr l, g1) := by
    show ndX5_sum_5 gs (lpX5_sum_5 gs f) pa l g = _
    unfold ndX5_sum_5
    rw [P.pob, xn, hf_b2_some, P1.pob, xs, hf_b2_some]
  have hM : lpX4_sum_9 (f + 1) V = if zch B T p = (43 : Int32) then ndX4_sum_27 (lpX4_sum_9 f) V1 else if zch B T p = (45 : Int32) then ndX4_sum_27 (lpX4_sum_9 f) V1 else some (1, V1) := by
    show ndX4_sum_9 (lpX4_sum_9 f) V = _
    unfold ndX4_sum_9
    rw [ms, hf_b2_some, ms2, hf_b2_some]
  show zRO gs g0 pa o nm PV0 B T V0 a0 m0 t L0 (lpX5_sum_5 gs (f + 1) pa l g) (lpX4_sum_9 (f + 1) V) zRV ∨ ∃ s' : Nat × hf_H × hf_V × hf_V × Nat × Nat × List Nat, lpX5_sum_5 gs (f + 1) pa l g = lpX5_sum_5 gs f pa s'.1 s'.2.1 ∧ lpX4_sum_9 (f + 1) V = lpX4_sum_9 f s'.2.2.2.1 ∧ _ ∧ T - s'.2.2.2.2.1 < T - a
  rw [hX, hM]
  have e43 : (zch B T p = (43 : Int32)) ↔ p < T ∧ B p = 43 := z_chz hb 43 (by decide)
  have e45 : (zch B T p = (45 : Int32)) ↔ p < T ∧ B p = 45 := z_chz hb 45 (by decide)
  have go : ∀ s, p < T → ((B p = 43 ∧ s = 2) ∨ (B p = 45 ∧ s = 3) ∨ (B p = 42 ∧ s = 4) ∨ (B p = 47 ∧ s = 5) ∨ (B p = 37 ∧ s = 14)) → ndX4_sum_27 (lpX4_sum_9 f) V1 = ndX4_sum_46 (lpX4_sum_9 f) (Int32.ofNat s) V1 → zRO gs g0 pa o nm PV0 B T V0 a0 m0 t L0 (ndX5_sum_23 gs (lpX5_sum_5 gs f) pa l g1) (ndX4_sum_27 (lpX4_sum_9 f) V1) zRV ∨ ∃ s' : Nat × hf_H × hf_V × hf_V × Nat × Nat × List Nat, ndX5_sum_23 gs (lpX5_sum_5 gs f) pa l g1 = lpX5_sum_5 gs f pa s'.1 s'.2.1 ∧ ndX4_sum_27 (lpX4_sum_9 f) V1 = lpX4_sum_9 f s'.2.2.2.1 ∧ hf_rd gs pa o nm B T t g0 PV0 V0 a0 m0 L0 s'.1 s'.2.1 s'.2.2.1 s'.2.2.2.1 s'.2.2.2.2.1 s'.2.2.2.2.2.1 s'.2.2.2.2.2.2 ∧ T - s'.2.2.2.2.1 < T - a := by
    intro s hpT hop hm
    rw [hm]
    rcases xm_join (fun g => spX5_term gs pa g) spX4_term xm_term N0 e05 hL0 R1 hpT hop (fun l g => lpX5_sum_5 gs f pa l g) (lpX4_sum_9 f) with ⟨g', V', j1, j2, j3⟩ | ⟨l', g', PV', V', a', m', cs', j1, j2, j3, j4⟩
    · exact Or.inl (Or.inl ⟨g', V', j1, j2, j3⟩)
    · exact Or.inr ⟨(l', g', PV', V', a', m', cs'), j1, j2, j3, by
        show T - a' < T - a
        omega⟩
  have tape : p < T → hf_ld 400 (V1.2.2.2.1 0) (V1.1 8) = some (zbyt (B p)) := fun h => by
    rw [w8, z_ld (by omega) (by omega), (mt1.2.2 p (by omega)).1]
  have b43 : p < T → (zbyt (B p) = (43 : Int32) ↔ B p = 43) := fun h => zbyt_eq (n := 43) (hb h) (by decide)
  by_cases c43 : p < T ∧ B p = 43
  · rw [if_pos (e43.mpr c43), if_pos (e43.mpr c43)]
    refine go 2 c43.1 (Or.inl ⟨c43.2, rfl⟩) ?_
    unfold ndX4_sum_27
    rw [tape c43.1, Option.bind_some, if_pos ((b43 c43.1).mpr c43.2)]
    rfl
  rw [if_neg (fun z => c43 (e43.mp z)), if_neg (fun z => c43 (e43.mp z))]
  by_cases c45 : p < T ∧ B p = 45
  · rw [if_pos (e45.mpr c45), if_pos (e45.mpr c45)]
    refine go 3 c45.1 (Or.inr (Or.inl ⟨c45.2, rfl⟩)) ?_
    unfold ndX4_sum_27
    rw [tape c45.1, Option.bind_some, if_neg (fun z => c43 ⟨c45.1, (b43 c45.1).mp z⟩)]
    rfl
  rw [if_neg (fun z => c45 (e45.mp z)), if_neg (fun z => c45 (e45.mp z))]
  exact Or.inl R1.ro
theorem xm_psum (g : hf_H) (PV V : hf_V) (a m L : Nat) (S : hf_ps gs g pa o nm PV B T V a m) (TT : hf_tt V t L) (hL : L + 2 * (60 - m) < 400) : zRO gs g pa o nm PV B T V a m t L (spX5_sum gs pa g) (spX4_sum V) zRV := by
  unfold spX5_sum spX4_sum
  rw [S.2.1.pob]
  rcases xm_term g PV V a m L S TT hL with ⟨g', V', h1, h2, h3⟩ | ⟨r, g', PV', V', a', m', cs, h1, h2, h3, h4, h5, h6, h7, h8, h9, h10, h11⟩
  · left
    rw [h1, hf_bT_inl, h2, hf_b2_some, if_pos rfl]
    exact ⟨g', V', rfl, rfl, h3⟩
  · rw [h1, hf_bT_inr, h2, hf_b2_some, if_neg (by decide)]
    have hk : m < m' := by
      rcases Nat.eq_zero_or_pos (m' - m) with h | h
      · rw [h] at h11
        cases h11.1
      · omega
    exact xm_sumL S.1 S.2.1.2.1 hL ⟨h3, h4, hk, h6, h7, h8, h9, h10, h11⟩
end ZQ
