set_option maxRecDepth 100000
set_option maxHeartbeats 1000000
/-! texts: a state of both parsers -/
def hf_nm (g : hf_H) (gs : hf_gs) (nm : Nat) : Prop := ∃ x, g.1 nm = some (.inr (.inr (x, some (.object "java/lang/String", 13, .inr (.inr fun k => some (gs.2 k))))))
def hf_wo (g : hf_H) (gs : hf_gs) (nm : Nat) : Prop := hf_nm g gs nm ∧ ∀ i, i < 27 → hf_sr g (gs.2 i) (zw i)
def hf_ps (gs : hf_gs) (g : hf_H) (pa o nm : Nat) (PV : hf_V) (B : Nat → Nat) (T : Nat) (V : hf_V) (a m : Nat) : Prop := hf_no g ∧ hf_px g pa o PV B T ∧ PV.2.2.1 0 = some nm ∧ PV.1 1 = Int32.ofNat a ∧ PV.1 3 = Int32.ofNat m ∧ hf_wo g gs nm ∧ hf_mt V B T ∧ V.1 8 = Int32.ofNat a ∧ V.1 9 = 0 ∧ V.1 12 = Int32.ofNat m ∧ a ≤ T ∧ m ≤ 60
def hf_tt (V : hf_V) (t L : Nat) : Prop := t ≤ 5 ∧ V.1 11 = Int32.ofNat t ∧ V.2.2.2.1 4 t = Int32.ofNat L
/-- what a parse changes of the parser, of the model; of the model where it fails -/
def hf_pz (A B : hf_V) : Prop := B.2 = A.2 ∧ ∀ k, k ≠ 1 → k ≠ 3 → B.1 k = A.1 k
def hf_vt (A B : hf_V) (t L : Nat) : Prop := (∀ j, j ≠ 3 → j ≠ 4 → B.2.2.2.1 j = A.2.2.2.1 j) ∧ (∀ j, (j < 400 * t + L ∨ 400 * t + 400 ≤ j) → B.2.2.2.1 3 j = A.2.2.2.1 3 j) ∧ ∀ j, j ≠ t → B.2.2.2.1 4 j = A.2.2.2.1 4 j
def hf_vq (A B : hf_V) (t L : Nat) : Prop := (∀ k, k ≠ 8 → k ≠ 10 → k ≠ 12 → B.1 k = A.1 k) ∧ hf_vt A B t L
def hf_vf (A B : hf_V) (t L : Nat) : Prop := (∀ k, k ≠ 8 → k ≠ 9 → k ≠ 10 → k ≠ 12 → B.1 k = A.1 k) ∧ hf_vt A B t L
section ZP
variable {A B C : hf_V} {t L L' : Nat}
theorem hf_pz.rfl_ (A : hf_V) : hf_pz A A := ⟨rfl, fun _ _ _ => rfl⟩
theorem hf_pz.trans (H : hf_pz A B) (K : hf_pz B C) : hf_pz A C := ⟨K.1.trans H.1, fun k a b => (K.2 k a b).trans (H.2 k a b)⟩
theorem hf_pz.ui (H : hf_pz A B) {k : Nat} (hk : k = 1 ∨ k = 3) (x : Int32) : hf_pz A (hf_ui B k x) := ⟨H.1, fun j a b => by rw [hf_ui_ne _ (by omega)]; exact H.2 j a b⟩
theorem hf_vt.rfl_ (A : hf_V) (t L : Nat) : hf_vt A A t L := ⟨fun _ _ _ => rfl, fun _ _ => rfl, fun _ _ => rfl⟩
theorem hf_vt.trans (H : hf_vt A B t L) (K : hf_vt B C t L') (h : L ≤ L') : hf_vt A C t L := ⟨fun j a b => (K.1 j a b).trans (H.1 j a b), fun j a => (K.2.1 j (by omega)).trans (H.2.1 j a), fun j a => (K.2.2 j a).trans (H.2.2 j a)⟩
theorem hf_vq.rfl_ (A : hf_V) (t L : Nat) : hf_vq A A t L := ⟨fun _ _ _ _ => rfl, hf_vt.rfl_ A t L⟩
theorem hf_vq.trans (H : hf_vq A B t L) (K : hf_vq B C t L') (h : L ≤ L') : hf_vq A C t L := ⟨fun k a b c => (K.1 k a b c).trans (H.1 k a b c), H.2.trans K.2 h⟩
theorem hf_vq.vf (H : hf_vq A B t L) (K : hf_vf B C t L') (h : L ≤ L') : hf_vf A C t L := ⟨fun k a b c d => (K.1 k a b c d).trans (H.1 k a c d), H.2.trans K.2 h⟩
theorem hf_vq.ui (H : hf_vq A B t L) {k : Nat} (hk : k = 8 ∨ k = 10 ∨ k = 12) (x : Int32) : hf_vq A (hf_ui B k x) t L := ⟨fun j a b c => by rw [hf_ui_ne _ (by omega)]; exact H.1 j a b c, H.2⟩
theorem hf_vq.fail (H : hf_vq A B t L) (x : Int32) : hf_vf A (hf_ui B 9 x) t L := ⟨fun j a b c d => by rw [hf_ui_ne _ b]; exact H.1 j a c d, H.2⟩
theorem hf_tt.ui {V : hf_V} (H : hf_tt V t L) {k : Nat} (hk : 11 ≠ k) (x : Int32) : hf_tt (hf_ui V k x) t L := ⟨H.1, by rw [hf_ui_ne _ hk]; exact H.2.1, H.2.2⟩
/-- a code put -/
theorem hf_tt.puts {V : hf_V} (H : hf_tt V t L) (hL : L < 400) (s x : Nat) (hc : s + 16 * x < 16777216) (hw : (s + 16 * x) % 16 = 1 → (s + 16 * x) / 16 < 13) : ∃ V', spX4_puts (Int32.ofNat s) (Int32.ofNat x) V = some V' ∧ V'.1 = V.1 ∧ hf_vt V V' t L ∧ hf_tt V' t (L + 1) ∧ zcds V' t L [s + 16 * x] := by
  obtain ⟨h1, h2, h3⟩ := H
  refine ⟨_, m_puts h2 h3 h1 hL s x, rfl, ⟨fun j a b => by rw [hf_ua_ne _ b, hf_ua_ne _ a], fun j hj => ?_, fun j hj => ?_⟩, ⟨h1, h2, ?_⟩, fun k hk => ?_⟩
  · rw [hf_ua_ne _ (by decide), hf_ua_at, if_neg (by omega)]
  · rw [hf_ua_at, if_neg hj, hf_ua_ne _ (by decide)]
  · rw [hf_ua_at, if_pos rfl]
  · have hk0 : k = 0 := by
      simp at hk
      omega
    subst hk0
    refine ⟨?_, hc, hw⟩
    rw [hf_ua_ne _ (by decide), hf_ua_at, if_pos (by omega)]
    rfl
/-- codes stay where no code is put -/
theorem zcds.vt {V V' : hf_V} {b : Nat} {c : List Nat} (H : zcds V t b c) (K : hf_vt V V' t L) (h : b + c.length ≤ L) : zcds V' t b c := fun k hk => by
  rw [K.2.1 _ (by omega)]
  exact H k hk
theorem zcds.app {V : hf_V} {b : Nat} {c d : List Nat} (H : zcds V t b c) (K : zcds V t (b + c.length) d) : zcds V t b (c ++ d) := fun k hk => by
  rw [List.length_append] at hk
  by_cases e : k < c.length
  · have := H k e
    rw [List.getD_eq_getElem?_getD, List.getElem?_append_left e, ← List.getD_eq_getElem?_getD]
    exact this
  · have := K (k - c.length) (by omega)
    rw [List.getD_eq_getElem?_getD, List.getElem?_append_right (by omega), ← List.getD_eq_getElem?_getD]
    rw [show b + c.length + (k - c.length) = b + k by omega] at this
    exact this
end ZP
section ZQ
variable {gs : hf_gs} {g g' : hf_H} {pa o nm n : Nat} {PV : hf_V} {B : Nat → Nat} {T a m : Nat} {V : hf_V}
theorem hf_gk.wo (K : hf_gk pa o g g' n) (N : hf_no g) {PV WV : hf_V} (e5 : hf_ob 0 5 g pa = some PV) (e3 : hf_ob 0 3 g (o + 19) = some WV) (H : hf_wo g gs nm) : hf_wo g' gs nm := by
  obtain ⟨⟨x, h1⟩, h2⟩ := H
  refine ⟨⟨x, ?_⟩, fun i hi => K.sr N e5 e3 (h2 i hi)⟩
  rw [K.1 nm (N.lt h1) (fun e => by
    subst e
    rw [hf_ob_spec e5] at h1
    cases h1) (fun e => by
    subst e
    rw [hf_ob_spec e3] at h1
    cases h1)]
  exact h1
theorem hf_px.nw (P : hf_px g pa o PV B T) (N : hf_no g) (x : hf_C) (j : Nat) : hf_px (hf_nw g x j) pa o PV B T := by
  obtain ⟨⟨t1, t2, ⟨XV, t3, t4⟩, WV, t7⟩, p2, p3⟩ := P
  exact ⟨⟨t1, t2, ⟨XV, ob_nw N t3 x j, t4⟩, WV, ob_nw N t7 x j⟩, ob_nw N p2 x j, p3⟩
theorem hf_px.w3 (P : hf_px g pa o PV B T) : ∃ WV, hf_ob 0 3 g (o + 19) = some WV := P.1.2.2.2
/-- another object's cell changes -/
theorem hf_px.up (P : hf_px g pa o PV B T) {q ci : Nat} {Q Q' : hf_V} (e : hf_ob 0 ci g q = some Q) (h5 : ci ≠ 5) (h3 : ci ≠ 3) : hf_px (hf_up g q (.inl (0, ci, Q'))) pa o PV B T := by
  refine ⟨P.1.up e (by omega) (by omega), ?_, P.2.2⟩
  rw [hf_ob_ne (hf_ob_dif P.2.1 e (by omega))]
  exact P.2.1
/-- the parser moves on; so does the model -/
theorem hf_ps.at_ (S : hf_ps gs g pa o nm PV B T V a m) {a' : Nat} (h : a' ≤ T) : hf_ps gs (hf_pc g pa (hf_ui PV 1 (Int32.ofNat a'))) pa o nm (hf_ui PV 1 (Int32.ofNat a')) B T (hf_ui V 8 (Int32.ofNat a')) a' m := by
  obtain ⟨N, P, p0, p1, p3, wo, mt, v8, v9, v12, ha, hm⟩ := S
  obtain ⟨WV, w3⟩ := P.w3
  have K : hf_gk pa o g (hf_pc g pa (hf_ui PV 1 (Int32.ofNat a'))) 0 := hf_gk.pc N P.2.1 _
  exact ⟨K.no, P.pc rfl, p0, hf_ui_at _ _ _, by rw [hf_ui_ne _ (by decide)]; exact p3, K.wo N P.2.1 w3 wo, mt.ui (by decide) _, hf_ui_at _ _ _, by rw [hf_ui_ne _ (by decide)]; exact v9, by rw [hf_ui_ne _ (by decide)]; exact v12, h, hm⟩
end ZQ
set_option maxRecDepth 100000
set_option maxHeartbeats 1000000
/-! texts: value -/
theorem hf_bT_inl {α β : Type} (q : Nat) (g : hf_H) (K : α → hf_H → Option ((Nat ⊕ β) × hf_H)) : hf_bT (some (.inl q, g)) K = some (.inl q, g) := rfl
theorem hf_bT_inr {α β : Type} (x : α) (g : hf_H) (K : α → hf_H → Option ((Nat ⊕ β) × hf_H)) : hf_bT (some (.inr x, g)) K = K x g := rfl
theorem ob_new (g : hf_H) (md ci : Nat) (V : hf_V) (j : Nat) : hf_ob md ci (hf_nw g (.inl (md, ci, V)) j) g.2.1 = some V := by
  unfold hf_ob hf_nw
  simp
theorem hf_wr.gi {g g' : hf_H} {o c : Nat} (H : hf_wr g o c g') : hf_gi 0 3 6 g' (o + 19) = some (Int32.ofNat c) := by
  obtain ⟨WV, h1, rfl⟩ := H
  unfold hf_gi
  rw [hf_ob_up]
  show some ((hf_ui WV 6 (Int32.ofNat c)).1 6) = _
  rw [hf_ui_at]
/-- both fail alike -/
def hf_rf (g g' : hf_H) (pa o T a : Nat) (V V' : hf_V) (t L : Nat) : Prop := ∃ c, hf_gi 0 3 6 g' (o + 19) = some (Int32.ofNat c) ∧ V'.1 9 = Int32.ofNat c ∧ 1 ≤ c ∧ c < 100000 ∧ hf_gk pa o g g' (T + 1 - a) ∧ hf_vf V V' t L
/-- both fail alike, or both have read the same -/
def zRO {τ : Type} (gs : hf_gs) (g : hf_H) (pa o nm : Nat) (PV : hf_V) (B : Nat → Nat) (T : Nat) (V : hf_V) (a m t L : Nat) (X : Option ((Nat ⊕ τ) × hf_H)) (M : Option (Int32 × hf_V)) (R : τ → hf_H → Nat → List Nat → Prop) : Prop :=
  (∃ g' V', X = some (.inl (o + 19), g') ∧ M = some (0, V') ∧ hf_rf g g' pa o T a V V' t L) ∨ ∃ r g' PV' V' a' m' cs, X = some (.inr r, g') ∧ M = some (1, V') ∧ hf_ps gs g' pa o nm PV' B T V' a' m' ∧ a < a' ∧ m ≤ m' ∧ hf_gk pa o g g' (a' - a) ∧ hf_pz PV PV' ∧ hf_vq V V' t L ∧ hf_tt V' t (L + cs.length) ∧ zcds V' t L cs ∧ R r g' (m' - m) cs
section ZQ
variable {gs : hf_gs} {g g' : hf_H} {pa o nm n : Nat} {PV : hf_V} {B : Nat → Nat} {T a m : Nat} {V : hf_V} {t L : Nat}
theorem hf_nm.pal (H : hf_nm g gs nm) : hf_pal (.object "java/lang/String") g nm = some (Int32.ofNat 13) := by
  obtain ⟨x, h⟩ := H
  unfold hf_pal hf_pa
  rw [h]
  simp
theorem hf_nm.paq (H : hf_nm g gs nm) {k : Nat} (hk : k < 13) : hf_nn (hf_paq (.object "java/lang/String") g nm (Int32.ofNat k)) = some (gs.2 k) := by
  obtain ⟨x, h⟩ := H
  unfold hf_paq hf_pa
  rw [h]
  simp only [if_true, Option.bind_some]
  rw [z_ld hk (by omega), hf_nn_some]
theorem hf_ps.gis (S : hf_ps gs g pa o nm PV B T V a m) : hf_ga 0 5 0 g pa = some nm := by
  unfold hf_ga
  rw [S.2.1.2.1, Option.bind_some, S.2.2.1]
theorem x_valL (S : hf_ps gs g pa o nm PV B T V a m) (hs : zsk B T a = a) : ∀ n k fuel, n = 13 - k → k ≤ 13 → n < fuel → ∃ f, lpX5_value_41 gs fuel pa (Int32.ofNat a) (Int32.ofNat k) g = ndX5_value_41 gs (lpX5_value_41 gs f) pa (Int32.ofNat a) (Int32.ofNat (zwF B T a n k)) g
  | 0, k, fuel, hn, hk, hf => by
    cases fuel with
    | zero => omega
    | succ fuel => exact ⟨fuel, rfl⟩
  | n + 1, k, fuel, hn, hk, hf => by
    cases fuel with
    | zero => omega
    | succ fuel =>
      unfold zwF
      by_cases e : zis B T a (zw k)
      · rw [if_pos e]
        exact ⟨fuel, rfl⟩
      · rw [if_neg e]
        have ih := x_valL S hs n (k + 1) fuel (by omega) (by omega) (by omega)
        obtain ⟨f, hf'⟩ := ih
        refine ⟨f, ?_⟩
        rw [← hf']
        show ndX5_value_41 gs (lpX5_value_41 gs fuel) pa (Int32.ofNat a) (Int32.ofNat k) g = _
        have P := S.2.1
        unfold ndX5_value_41
        have a2 : Int32.ofNat k + (1 : Int32) = Int32.ofNat (k + 1) := z_add k 1
        have hw := x_isWord (gs := gs) P (S.2.2.2.2.2.1.2 k (by omega)) (zw_ok k (by omega)) S.2.2.2.1 S.2.2.2.2.2.2.2.2.2.2.1
        rw [hs, hf_ui_self S.2.2.2.1, P.self, if_neg e] at hw
        rw [S.gis, Option.bind_some, S.2.2.2.2.2.1.1.pal, Option.bind_some, if_neg (z_nle (by omega) (by omega)), Option.bind_some, S.2.2.2.2.2.1.1.paq (by omega), Option.bind_some, P.pob, hw, hf_b2_some, if_pos (show Int32.ofNat 0 = 0 from rfl), hf_let_eq, a2]
theorem m_makes (h12 : V.1 12 = Int32.ofNat m) (h9 : V.1 9 = 0) (hm : m ≤ 60) (p : Nat) : spX4_makes (Int32.ofNat p) V = some (if m = 60 then (0, hf_ui V 9 (Int32.ofNat (1 + 8 * p + 3))) else (1, hf_ui V 12 (Int32.ofNat (m + 1)))) := by
  unfold spX4_makes
  have hfl : spX4_fails (3 : Int32) (Int32.ofNat p) V = some (0, hf_ui V 9 (Int32.ofNat (1 + 8 * p + 3))) := m_fails0 h9 3 p
  have a1 : Int32.ofNat m + (1 : Int32) = Int32.ofNat (m + 1) := z_add m 1
  rw [h12, hfl, hf_b2_some, a1, hf_let_eq, if_pos (Or.inl rfl)]
  by_cases e : m = 60
  · rw [if_pos (by rw [e]; rfl), if_pos e]
  · have hne : ¬ (Int32.ofNat m = 60) := fun z => e ((z_eq (b := 60) (by omega) (by decide)).mp z)
    rw [if_neg hne, if_neg e]
theorem x_counts (S : hf_px g pa o PV B T) (h3 : PV.1 3 = Int32.ofNat m) (hm : m ≤ 60) (p : Nat) : (m = 60 ∧ ∃ g', spX5_counts pa (Int32.ofNat p) g = some (.inl (o + 19), g') ∧ hf_wr g o (1 + 8 * p + 3) g') ∨ (m < 60 ∧ spX5_counts pa (Int32.ofNat p) g = some (.inr (), hf_pc g pa (hf_ui PV 3 (Int32.ofNat (m + 1))))) := by
  have a1 : Int32.ofNat m + (1 : Int32) = Int32.ofNat (m + 1) := z_add m 1
  unfold spX5_counts
  rw [S.gi, Option.bind_some, h3]
  by_cases e : m = 60
  · rw [if_pos (by rw [e]; rfl)]
    obtain ⟨g', t1, t2⟩ := x_throw (τ := Unit) S 3 p
    exact Or.inl ⟨e, g', t1, t2⟩
  · have hne : ¬ (Int32.ofNat m = 60) := fun z => e ((z_eq (b := 60) (by omega) (by decide)).mp z)
    rw [if_neg hne, Option.bind_some, a1, S.pi, Option.bind_some]
    exact Or.inr ⟨by omega, rfl⟩
end ZQ
set_option maxRecDepth 100000
set_option maxHeartbeats 1000000
/-! texts: value, whole -/
theorem hf_mk_eq {τ : Type} (h : hf_H) (x : hf_C) (n : Nat) (K : Nat → hf_H → Option τ) : hf_mk h x n K = K h.2.1 (hf_nw h x n) := rfl
section ZQ
variable {gs : hf_gs} {g g' : hf_H} {pa o nm n : Nat} {PV : hf_V} {B : Nat → Nat} {T a m : Nat} {V : hf_V} {t L : Nat}
theorem xm_value (S : hf_ps gs g pa o nm PV B T V a m) (TT : hf_tt V t L) (hL : L < 400) : zRO gs g pa o nm PV B T V a m t L (spX5_value gs pa g) (spX4_value V) (fun r g' k cs => hf_Val 1 g' r cs ∧ k = 1 ∧ cs.length = 1 ∧ zlv cs = 1) := by
  have S0 := S
  obtain ⟨N, P, p0, p1, p3, wo, mt, v8, v9, v12, ha, hm⟩ := S
  have hT := P.T4
  obtain ⟨s1, s2⟩ := zsk_le (B := B) ha
  obtain ⟨p, hp⟩ : ∃ p, p = zsk B T a := ⟨_, rfl⟩
  have hpp : zsk B T p = p := by rw [hp, zsk_idem B T _ a rfl ha]
  rw [← hp] at s1 s2
  have S1 := S0.at_ (a' := p) s2
  obtain ⟨PV1, hPV1⟩ : ∃ x, x = hf_ui PV 1 (Int32.ofNat p) := ⟨_, rfl⟩
  obtain ⟨V1, hV1⟩ : ∃ x, x = hf_ui V 8 (Int32.ofNat p) := ⟨_, rfl⟩
  obtain ⟨g1, hg1⟩ : ∃ x, x = hf_pc g pa PV1 := ⟨_, rfl⟩
  rw [← hPV1, ← hg1, ← hV1] at S1
  obtain ⟨N1, P1, q0, q1, q3, wo1, mt1, w8, w9, w12, -, -⟩ := id S1
  have xn := x_next P p1 ha
  rw [← hp, ← hPV1, ← hg1] at xn
  have ms := m_see mt v8 ha
  rw [← hp, ← hV1] at ms
  have K01 : hf_gk pa o g g1 0 := by rw [hg1]; exact hf_gk.pc N P.2.1 _
  have Z1 : hf_pz PV PV1 := by rw [hPV1]; exact (hf_pz.rfl_ PV).ui (Or.inl rfl) _
  have Q1 : hf_vq V V1 t L := by rw [hV1]; exact (hf_vq.rfl_ V t L).ui (Or.inl rfl) _
  have T1 : hf_tt V1 t L := by rw [hV1]; exact TT.ui (by decide) _
  obtain ⟨WV, w3⟩ := P1.w3
  unfold spX5_value spX4_value
  rw [P.pob, xn, hf_b2_some, P1.gi, Option.bind_some, q1, P1.pob, x_isDigit P1 q1 s2, hf_b2_some, ms, hf_b2_some, hf_let_eq, w8, m_isDigit mt1 s2, hf_b2_some]
  have fin : ∀ (g2 g3 : hf_H) (V2 : hf_V) (c : Nat), hf_gk pa o g g2 1 → hf_wr g2 o c g3 → V2.1 9 = Int32.ofNat c → 1 ≤ c → c < 100000 → hf_vf V V2 t L → hf_rf g g3 pa o T a V V2 t L := fun g2 g3 V2 c h1 h2 h3 h4 h5 h6 => ⟨c, h2.gi, h3, h4, h5, (h1.trans (hf_gk.wr h1.no h2)).mono (by omega), h6⟩
  by_cases e : zdg B T p
  · rw [if_pos e, if_neg (show ¬ (Int32.ofNat 1 = 0) by decide), if_neg (show ¬ (Int32.ofNat 1 = 0) by decide)]
    rw [hf_mk_eq]
    obtain ⟨g7, hg7⟩ : ∃ x, x = hf_nw g1 (.inl (0, 10, hf_V0)) 1 := ⟨_, rfl⟩
    have P7 : hf_px g7 pa o PV1 B T := by rw [hg7]; exact P1.nw N1 _ _
    have K17 : hf_gk pa o g1 g7 1 := by rw [hg7]; exact hf_gk.nw N1 _ (by decide)
    have e7 : hf_ob 0 10 g7 g1.2.1 = some hf_V0 := by rw [hg7]; exact ob_new g1 0 10 hf_V0 1
    have hpa : pa < g1.2.1 := N1.olt P1.2.1
    obtain ⟨d1, d2⟩ := zde_le (B := B) (T := T) s2
    have d3 : p < zde B T p := by
      rw [zde_step e.1, if_pos e.2]
      exact Nat.lt_of_lt_of_le (Nat.lt_succ_self p) (zde_le (B := B) (T := T) (show p + 1 ≤ T from e.1)).1
    have mn := m_numberHere mt1 w8 w9 s2 (0 : Int32) (99999 : Int32)
    rw [hpp, if_pos e] at mn
    have xnum := x_number P7 q1 s2 (0 : Int32) (99999 : Int32)
    rw [hpp] at xnum
    rw [← hg7, P7.pob]
    rcases xnum with ⟨-, c1, c2⟩ | ⟨-, c1, g3, c2, c3⟩ | ⟨c1, -⟩
    · -- a number
      have hv : znm B T p ≤ 99999 := by
        have hdig := zde_in (B := B) (T := T) (T - p) p rfl s2
        have := zdv_lt B p (min 5 (zde B T p - p)) (fun k hk => (hdig.1 (p + k) (by omega) (by omega)).2.2)
        have h5 : (10 : Nat) ^ min 5 (zde B T p - p) ≤ 10 ^ 5 := Nat.pow_le_pow_right (by decide) (by omega)
        unfold znm
        omega
      obtain ⟨PV2, hPV2⟩ : ∃ x, x = hf_ui PV1 1 (Int32.ofNat (zde B T p)) := ⟨_, rfl⟩
      obtain ⟨g8, hg8⟩ : ∃ x, x = hf_pc g7 pa PV2 := ⟨_, rfl⟩
      rw [← hPV2, ← hg8] at c2
      have P8 : hf_px g8 pa o PV2 B T := by rw [hg8]; exact P7.pc (by rw [hPV2]; rfl)
      have e8 : hf_ob 0 10 g8 g1.2.1 = some hf_V0 := by
        rw [hg8]
        unfold hf_pc
        rw [hf_ob_ne (by omega)]
        exact e7
      have K18 : hf_gk pa o g1 g8 1 := by rw [hg8]; exact K17.trans (hf_gk.pc K17.no P7.2.1 _)
      obtain ⟨g9, hg9⟩ : ∃ x, x = hf_up g8 g1.2.1 (.inl (0, 10, hf_ui hf_V0 0 (Int32.ofNat (znm B T p)))) := ⟨_, rfl⟩
      have P9 : hf_px g9 pa o PV2 B T := by rw [hg9]; exact P8.up e8 (by decide) (by decide)
      have K19 : hf_gk pa o g1 g9 1 := by rw [hg9]; exact K18.up2 (Nat.le_refl _) e8 _
      have e9 : hf_ob 0 10 g9 g1.2.1 = some (hf_ui hf_V0 0 (Int32.ofNat (znm B T p))) := by rw [hg9]; exact hf_ob_up _ _ _ _ _
      have hin : spX10_init g1.2.1 (Int32.ofNat (znm B T p)) g8 = some g9 := by
        unfold spX10_init spX9_init
        rw [Option.bind_some]
        unfold hf_pi
        rw [e8, hg9]
        rfl
      rw [c2, hf_bT_inr, hin, Option.bind_some, P9.pob]
      unfold znok at c1
      rw [if_pos c1] at mn
      obtain ⟨V2, hV2⟩ : ∃ x, x = hf_ui (hf_ui V1 8 (Int32.ofNat (zde B T p))) 10 (Int32.ofNat (znm B T p)) := ⟨_, rfl⟩
      rw [← hV2] at mn
      have v29 : V2.1 9 = 0 := by rw [hV2, hf_ui_ne _ (by decide), hf_ui_ne _ (by decide), w9]
      have v212 : V2.1 12 = Int32.ofNat m := by rw [hV2, hf_ui_ne _ (by decide), hf_ui_ne _ (by decide), w12]
      have v28 : V2.1 8 = Int32.ofNat (zde B T p) := by rw [hV2, hf_ui_ne _ (by decide), hf_ui_at]
      have v210 : V2.1 10 = Int32.ofNat (znm B T p) := by rw [hV2, hf_ui_at]
      have Q2 : hf_vq V V2 t L := by rw [hV2]; exact (Q1.ui (Or.inl rfl) _).ui (Or.inr (Or.inl rfl)) _
      have T2 : hf_tt V2 t L := by rw [hV2]; exact (T1.ui (by decide) _).ui (by decide) _
      have mt2 : hf_mt V2 B T := by rw [hV2]; exact (mt1.ui (by decide) _).ui (by decide) _
      have PV23 : PV2.1 3 = Int32.ofNat m := by rw [hPV2, hf_ui_ne _ (by decide), q3]
      rw [mn, hf_b2_some, if_neg (by decide), m_makes v212 v29 hm]
      rcases x_counts P9 PV23 hm p with ⟨k1, g3, k2, k3⟩ | ⟨k1, k2⟩
      · left
        rw [k2, hf_bT_inl, if_pos k1, hf_b2_some, if_pos rfl]
        exact ⟨g3, _, rfl, rfl, fin g9 g3 _ _ (by have := K01.trans K19; exact this) k3 (hf_ui_at _ _ _) (by omega) (by omega) (Q2.fail _)⟩
      · right
        obtain ⟨PV3, hPV3⟩ : ∃ x, x = hf_ui PV2 3 (Int32.ofNat (m + 1)) := ⟨_, rfl⟩
        obtain ⟨g10, hg10⟩ : ∃ x, x = hf_pc g9 pa PV3 := ⟨_, rfl⟩
        rw [← hPV3, ← hg10] at k2
        have K1a : hf_gk pa o g1 g10 1 := by rw [hg10]; exact K19.trans (hf_gk.pc K19.no P9.2.1 _)
        have P10 : hf_px g10 pa o PV3 B T := by rw [hg10]; exact P9.pc (by rw [hPV3]; rfl)
        have e10 : hf_ob 0 10 g10 g1.2.1 = some (hf_ui hf_V0 0 (Int32.ofNat (znm B T p))) := by
          rw [hg10]
          unfold hf_pc
          rw [hf_ob_ne (by omega)]
          exact e9
        obtain ⟨V3, hV3⟩ : ∃ x, x = hf_ui V2 12 (Int32.ofNat (m + 1)) := ⟨_, rfl⟩
        have T3 : hf_tt V3 t L := by rw [hV3]; exact T2.ui (by decide) _
        have v310 : V3.1 10 = Int32.ofNat (znm B T p) := by rw [hV3, hf_ui_ne _ (by decide), v210]
        obtain ⟨V4, u1, u2, u3, u4, u5⟩ := T3.puts hL 0 (znm B T p) (by omega) (fun h => by omega)
        have u1' : spX4_puts (0 : Int32) (Int32.ofNat (znm B T p)) V3 = some V4 := u1
        have Q3 : hf_vq V V3 t L := by rw [hV3]; exact Q2.ui (Or.inr (Or.inr rfl)) _
        have Q4 : hf_vq V V4 t L := Q3.trans ⟨fun k _ _ _ => by rw [u2], u3⟩ (Nat.le_refl _)
        rw [k2, hf_bT_inr, if_neg (by omega), hf_b2_some, if_neg (by decide), ← hV3, v310, u1', Option.bind_some]
        have hmt4 : hf_mt V4 B T := by
          obtain ⟨x1, x2, x3⟩ := mt2
          have hV31 : V3.2 = V2.2 := by rw [hV3]; rfl
          refine ⟨x1, ?_, fun k hk => ?_⟩
          · rw [u2, hV3, hf_ui_ne _ (by decide)]; exact x2
          · rw [u3.1 0 (by decide) (by decide), hV31]; exact x3 k hk
        refine ⟨g1.2.1, g10, PV3, V4, zde B T p, m + 1, [0 + 16 * znm B T p], rfl, rfl, ⟨K1a.no, P10, by rw [hPV3, hPV2]; exact q0, by rw [hPV3, hf_ui_ne _ (by decide), hPV2, hf_ui_at], by rw [hPV3, hf_ui_at], K1a.wo N1 P1.2.1 w3 wo1, hmt4, by rw [u2, hV3, hf_ui_ne _ (by decide), v28], by rw [u2, hV3, hf_ui_ne _ (by decide), v29], by rw [u2, hV3, hf_ui_at], d2, by omega⟩, by omega, by omega, (K01.trans K1a).mono (by omega), Z1.trans ⟨by rw [hPV3, hPV2]; rfl, fun k h1 h3 => by rw [hPV3, hf_ui_ne _ h3, hPV2, hf_ui_ne _ h1]⟩, Q4, u4, u5, Or.inl ⟨_, _, e10, hf_ui_at _ _ _, hv, by rw [Nat.zero_add]⟩, by omega, rfl, ?_⟩
        unfold zlv zlv
        rw [if_pos (by omega)]
    · left
      rw [c2, hf_bT_inl]
      unfold znok at c1
      rw [if_neg c1] at mn
      rw [mn, hf_b2_some, if_pos rfl]
      refine ⟨g3, _, rfl, rfl, fin _ g3 _ _ (K01.trans (K17.trans (hf_gk.pc K17.no P7.2.1 _))) c3 (hf_ui_at _ _ _) (by omega) (by omega) (((Q1.ui (Or.inl rfl) _).ui (Or.inr (Or.inl rfl)) _).fail _)⟩
    · exact absurd e c1
  · rw [if_neg e, if_pos (show Int32.ofNat 0 = 0 from rfl), if_pos (show Int32.ofNat 0 = 0 from rfl)]
    have mw := m_wordHere mt1 w8 s2
    rw [hpp, hf_ui_self w8] at mw
    rw [mw, hf_b2_some]
    obtain ⟨fu, hx⟩ := x_valL S1 hpp 13 0 hf_N rfl (by omega) (by unfold hf_N; omega)
    have hx' : lpX5_value_41 gs hf_N pa (Int32.ofNat p) (0 : Int32) g1 = ndX5_value_41 gs (lpX5_value_41 gs fu) pa (Int32.ofNat p) (Int32.ofNat (zwh B T p)) g1 := hx
    rw [hx']
    unfold ndX5_value_41
    rw [S1.gis, Option.bind_some, wo1.1.pal, Option.bind_some]
    have hle : zwh B T p ≤ 13 := by
      have := (zwF_le B T p 13 0).2
      unfold zwh
      omega
    by_cases ew : zwh B T p < 13
    case neg =>
      left
      obtain ⟨g3, t1, t2⟩ := x_throw (τ := Nat) P1 0 p
      have t1' : ((hf_ga 1 0 6 g1 pa).bind fun _ => (none : Option Nat)) = ((hf_ga 1 0 6 g1 pa).bind fun _ => (none : Option Nat)) := rfl
      rw [if_pos (z_yle (by omega) (by omega)), if_neg ew, if_neg (show ¬ ((0 : Int32) ≤ -1) by decide)]
      have hfl : spX4_fails (0 : Int32) (Int32.ofNat p) V1 = some (0, hf_ui V1 9 (Int32.ofNat (1 + 8 * p + 0))) := m_fails0 w9 0 p
      rw [hfl, hf_b2_some, if_pos (Or.inl rfl)]
      refine ⟨g3, _, t1, rfl, fin g1 g3 _ _ (K01.mono (by omega)) t2 (hf_ui_at _ _ _) (by omega) (by omega) (Q1.fail _)⟩
    have hz : zis B T p (zw (zwh B T p)) := zwF_is B T p 13 0 (by unfold zwh at ew; omega)
    have wlen := (zw_ok (zwh B T p) (by omega))
    have hsr := wo1.2 (zwh B T p) (by omega)
    have hlen : zwe B T p = p + (zw (zwh B T p)).length := by
      have h1 := (zis.p hz).1
      rw [hpp] at h1
      have := (zwe_le (B := B) (T := T) s2).1
      have := wlen.1
      omega
    have hweT := (zwe_le (B := B) (T := T) s2).2
    have hw := x_isWord (gs := gs) P1 hsr wlen q1 s2
    rw [hpp, hf_ui_self q1, P1.self, if_pos hz] at hw
    rw [if_neg (z_nle ew (by omega)), Option.bind_some, wo1.1.paq ew, Option.bind_some, P1.pob, hw, hf_b2_some, if_neg (show ¬ (Int32.ofNat 1 = 0) by decide), P1.pob, if_pos ew, if_pos (show (0 : Int32) ≤ Int32.ofNat (zwh B T p) from z_yle (a := 0) (Nat.zero_le _) (by omega)), m_makes w12 w9 hm]
    rcases x_counts P1 q3 hm p with ⟨k1, g3, k2, k3⟩ | ⟨k1, k2⟩
    · left
      rw [k2, hf_bT_inl, if_pos k1, hf_b2_some, if_pos rfl]
      exact ⟨g3, _, rfl, rfl, fin g1 g3 _ _ (K01.mono (by omega)) k3 (hf_ui_at _ _ _) (by omega) (by omega) (Q1.fail _)⟩
    · right
      obtain ⟨PV2, hPV2⟩ : ∃ x, x = hf_ui PV1 3 (Int32.ofNat (m + 1)) := ⟨_, rfl⟩
      obtain ⟨g2, hg2⟩ : ∃ x, x = hf_pc g1 pa PV2 := ⟨_, rfl⟩
      rw [← hPV2, ← hg2] at k2
      have P2 : hf_px g2 pa o PV2 B T := by rw [hg2]; exact P1.pc (by rw [hPV2]; rfl)
      have K12 : hf_gk pa o g1 g2 0 := by rw [hg2]; exact hf_gk.pc N1 P1.2.1 _
      have wo2 := K12.wo N1 P1.2.1 w3 wo1
      have q21 : PV2.1 1 = Int32.ofNat p := by rw [hPV2, hf_ui_ne _ (by decide), q1]
      have gis2 : hf_ga 0 5 0 g2 pa = some nm := by
        unfold hf_ga
        rw [P2.2.1, Option.bind_some, hPV2]
        exact q0
      obtain ⟨PV3, hPV3⟩ : ∃ x, x = hf_ui PV2 1 (Int32.ofNat (zwe B T p)) := ⟨_, rfl⟩
      obtain ⟨g3, hg3⟩ : ∃ x, x = hf_pc g2 pa PV3 := ⟨_, rfl⟩
      have P3 : hf_px g3 pa o PV3 B T := by rw [hg3]; exact P2.pc (by rw [hPV3]; rfl)
      have K13 : hf_gk pa o g1 g3 0 := by rw [hg3]; exact K12.trans (hf_gk.pc K12.no P2.2.1 _)
      obtain ⟨g4, hg4⟩ : ∃ x, x = hf_nw g3 (.inl (0, 11, hf_V0)) 1 := ⟨_, rfl⟩
      have P4 : hf_px g4 pa o PV3 B T := by rw [hg4]; exact P3.nw K13.no _ _
      have K14 : hf_gk pa o g1 g4 1 := by rw [hg4]; exact K13.trans (hf_gk.nw K13.no _ (by decide))
      have e4 : hf_ob 0 11 g4 g3.2.1 = some hf_V0 := by rw [hg4]; exact ob_new g3 0 11 hf_V0 1
      obtain ⟨g5, hg5⟩ : ∃ x, x = hf_up g4 g3.2.1 (.inl (0, 11, hf_ui hf_V0 0 (Int32.ofNat (zwh B T p)))) := ⟨_, rfl⟩
      have P5 : hf_px g5 pa o PV3 B T := by rw [hg5]; exact P4.up e4 (by decide) (by decide)
      have K15 : hf_gk pa o g1 g5 1 := by rw [hg5]; exact K14.up2 K13.2.1 e4 _
      have e5 : hf_ob 0 11 g5 g3.2.1 = some (hf_ui hf_V0 0 (Int32.ofNat (zwh B T p))) := by rw [hg5]; exact hf_ob_up _ _ _ _ _
      have hin : spX11_init g3.2.1 (Int32.ofNat (zwh B T p)) g4 = some g5 := by
        unfold spX11_init spX9_init
        rw [Option.bind_some]
        unfold hf_pi
        rw [e4, hg5]
        rfl
      rw [k2, hf_bT_inr, P2.gi, Option.bind_some, q21, gis2, Option.bind_some, wo2.1.paq ew, Option.bind_some, (wo2.2 _ (by omega)).stb, x_len (wo2.2 (zwh B T p) (by omega)) (by have := wlen.2.1; omega), hf_b2_some, z_add, ← hlen, P2.pi, Option.bind_some, ← hPV3, ← hg3]
      rw [hf_mk_eq, ← hg4, hin, Option.bind_some, if_neg (by omega), hf_b2_some, if_neg (by decide)]
      obtain ⟨V2, hV2⟩ : ∃ x, x = hf_ui V1 12 (Int32.ofNat (m + 1)) := ⟨_, rfl⟩
      obtain ⟨V3, hV3⟩ : ∃ x, x = hf_ui V2 8 (Int32.ofNat (zwe B T p)) := ⟨_, rfl⟩
      have mt2 : hf_mt V2 B T := by rw [hV2]; exact mt1.ui (by decide) _
      have v28 : V2.1 8 = Int32.ofNat p := by rw [hV2, hf_ui_ne _ (by decide), w8]
      have mpw := m_passWord mt2 v28 s2
      rw [← hV3] at mpw
      have T3 : hf_tt V3 t L := by rw [hV3, hV2]; exact (T1.ui (by decide) _).ui (by decide) _
      obtain ⟨V4, u1, u2, u3, u4, u5⟩ := T3.puts hL 1 (zwh B T p) (by omega) (fun _ => by omega)
      have u1' : spX4_puts (1 : Int32) (Int32.ofNat (zwh B T p)) V3 = some V4 := u1
      have Q3 : hf_vq V V3 t L := by rw [hV3, hV2]; exact (Q1.ui (Or.inr (Or.inr rfl)) _).ui (Or.inl rfl) _
      have Q4 : hf_vq V V4 t L := Q3.trans ⟨fun k _ _ _ => by rw [u2], u3⟩ (Nat.le_refl _)
      rw [← hV2, mpw, Option.bind_some, u1', Option.bind_some]
      have hmt4 : hf_mt V4 B T := by
        obtain ⟨x1, x2, x3⟩ := mt2
        have hV31 : V3.2 = V2.2 := by rw [hV3]; rfl
        refine ⟨x1, ?_, fun k hk => ?_⟩
        · rw [u2, hV3, hf_ui_ne _ (by decide)]; exact x2
        · rw [u3.1 0 (by decide) (by decide), hV31]; exact x3 k hk
      have := wlen.1
      refine ⟨g3.2.1, g5, PV3, V4, zwe B T p, m + 1, [1 + 16 * zwh B T p], rfl, rfl, ⟨K15.no, P5, by rw [hPV3, hPV2]; exact q0, by rw [hPV3, hf_ui_at], by rw [hPV3, hf_ui_ne _ (by decide), hPV2, hf_ui_at], K15.wo N1 P1.2.1 w3 wo1, hmt4, by rw [u2, hV3, hf_ui_at], by rw [u2, hV3, hf_ui_ne _ (by decide), hV2, hf_ui_ne _ (by decide), w9], by rw [u2, hV3, hf_ui_ne _ (by decide), hV2, hf_ui_at], hweT, by omega⟩, by omega, by omega, (K01.trans K15).mono (by omega), Z1.trans ⟨by rw [hPV3, hPV2]; rfl, fun k h1 h3 => by rw [hPV3, hf_ui_ne _ h1, hPV2, hf_ui_ne _ h3]⟩, Q4, u4, u5, Or.inr (Or.inl ⟨_, _, e5, hf_ui_at _ _ _, ew, rfl⟩), by omega, rfl, ?_⟩
      unfold zlv zlv
      rw [if_pos (by omega)]
end ZQ
