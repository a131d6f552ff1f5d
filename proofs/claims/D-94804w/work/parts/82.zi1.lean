set_option maxRecDepth 100000
set_option maxHeartbeats 1000000
/-! what stays true between the law's calls -/
/-- what was there is there, but for the places D -/
def hf_kp (D : Nat → Prop) (h g : hf_H) : Prop := ∀ a x, h.1 a = some x → ¬ D a → g.1 a = some x
/-- the places D are the rules' list and array, or objects that acts write -/
def hf_dirt (Rg D : Nat → Prop) (h : hf_H) : Prop := ∀ a, D a → (Rg a ∧ ∀ md ci V, hf_ob md ci h a = some V → ci = 19) ∨ ∃ ci V, hf_ob 1 ci h a = some V ∧ ci ≠ 1
section ZI
variable {D Rg : Nat → Prop} {h g : hf_H}
theorem hf_kp.up (h : hf_H) (a : Nat) (x : hf_C) : hf_kp (fun q => q = a) h (hf_up h a x) := fun b y hb hd => by
  unfold hf_up
  simp only [if_neg hd]
  exact hb
theorem hf_kp.ob (K : hf_kp D h g) {a md ci : Nat} {V : hf_V} (e : hf_ob md ci h a = some V) (hd : ¬ D a) : hf_ob md ci g a = some V := by
  have h1 := K a _ (hf_ob_spec e) hd
  unfold hf_ob
  rw [h1]
  simp
theorem hf_kp.pa (K : hf_kp D h g) {a : Nat} {ty : FieldType} {r : Nat × hf_B} (e : hf_pa ty h a = some r) (hd : ¬ D a) : hf_pa ty g a = some r := by
  cases h1 : h.1 a with
  | none =>
    unfold hf_pa at e
    rw [h1] at e
    cases e
  | some x =>
    have h2 := K a x h1 hd
    unfold hf_pa at e ⊢
    rw [h1] at e
    rw [h2]
    exact e
theorem hf_dirt.nob (hD : hf_dirt Rg D h) {a md ci : Nat} {V : hf_V} (e : hf_ob md ci h a = some V) (h19 : ci ≠ 19) (h1 : md = 0 ∨ ci = 1) : ¬ D a := fun hd => by
  rcases hD a hd with ⟨_, h2⟩ | ⟨cj, U, h2, h3⟩
  · exact h19 (h2 md ci V e)
  · have e1 := hf_ob_spec e
    have e2 := hf_ob_spec h2
    rw [e1] at e2
    cases e2
    omega
theorem hf_dirt.npa (hD : hf_dirt Rg D h) {a : Nat} {ty : FieldType} {r : Nat × hf_B} (e : hf_pa ty h a = some r) (hR : ¬ Rg a) : ¬ D a := fun hd => by
  rcases hD a hd with ⟨h1, _⟩ | ⟨cj, U, h2, h3⟩
  · exact hR h1
  · have e2 := hf_ob_spec h2
    unfold hf_pa at e
    rw [e2] at e
    cases e
theorem hf_dirt.nli (hD : hf_dirt Rg D h) {a : Nat} {V : hf_V} (e : hf_ob 0 19 h a = some V) (hR : ¬ Rg a) : ¬ D a := fun hd => by
  rcases hD a hd with ⟨h1, _⟩ | ⟨cj, U, h2, h3⟩
  · exact hR h1
  · have e1 := hf_ob_spec e
    have e2 := hf_ob_spec h2
    rw [e1] at e2
    cases e2
end ZI
/-- a list, its array at d -/
def hf_Ld (h : hf_H) (l d n : Nat) (p : Nat → Nat) : Prop := ∃ (LV : hf_V) (N : Nat) (B : Nat → Option Nat), hf_ob 0 19 h l = some LV ∧ LV.1 2 = Int32.ofNat n ∧ LV.2.2.1 1 = some d ∧ hf_pa (.object "java/lang/Object") h d = some (N, .inr (.inr B)) ∧ n ≤ N ∧ ∀ k, k < n → B k = some (p k)
theorem hf_Ld.L {h : hf_H} {l d n : Nat} {p : Nat → Nat} (L : hf_Ld h l d n p) : hf_L h l n p := by
  obtain ⟨LV, N, B, e1, e2, e3, e4, e5, e6⟩ := L
  exact ⟨LV, d, N, B, e1, e2, e3, e4, e5, e6⟩
/-- a list apart from the rules' list -/
def hf_Ls (Rg : Nat → Prop) (h : hf_H) (l n : Nat) (p : Nat → Nat) : Prop := ¬ Rg l ∧ ∃ d, ¬ Rg d ∧ hf_Ld h l d n p
def hf_Fs (Rg : Nat → Prop) (h : hf_H) (f : Nat) (v : Nat → Nat) : Prop := ∃ (FV : hf_V) (l m : Nat) (p q : Nat → Nat) (HV : Nat → hf_V), hf_ob 1 1 h f = some FV ∧ FV.2.2.1 0 = some l ∧ FV.2.2.1 1 = some m ∧ hf_Ls Rg h l (v 1) p ∧ hf_Ls Rg h m (v 2) q ∧ (∀ k, k < v 1 → hf_ob 0 6 h (p k) = some (HV k) ∧ (HV k).1 1 = Int32.ofNat (v (10 + 5 * k + 0)) ∧ (HV k).1 2 = Int32.ofNat (v (10 + 5 * k + 1)) ∧ (HV k).1 3 = Int32.ofNat (v (10 + 5 * k + 2))) ∧ FV.1 3 = Int32.ofNat (v 0) ∧ (0 < v 0 → FV.1 4 = Int32.ofNat (v 4) ∧ FV.1 5 = Int32.ofNat (v 5) ∧ FV.1 6 = Int32.ofNat (v 6) ∧ FV.1 7 = Int32.ofNat (v 7) ∧ FV.1 8 = Int32.ofNat (v 8) ∧ FV.1 9 = Int32.ofNat (zset (fun k => v (10 + 5 * k + 4) == 1) (v 1))) ∧ ∀ b, b < v 2 → FV.2.2.2.1 2 b = Int32.ofNat (v (70 + 4 * b + 3))
theorem hf_Fs.F {Rg : Nat → Prop} {h : hf_H} {f : Nat} {v : Nat → Nat} (H : hf_Fs Rg h f v) : hf_F h f v := by
  obtain ⟨FV, l, m, p, q, HV, f1, f2, f3, ⟨f4, d4, f4', f4''⟩, ⟨f5, d5, f5', f5''⟩, f6, f7, f8, f9⟩ := H
  exact ⟨FV, l, m, p, q, HV, f1, f2, f3, f4''.L, f5''.L, f6, f7, f8, f9⟩
def hf_Rs (Rg : Nat → Prop) (h : hf_H) (a : Nat) (V : hf_V) (t : Nat) : Prop := t ≤ 5 ∧ ∃ (RV : hf_V) (l n : Nat) (p : Nat → Nat), hf_ob 0 8 h a = some RV ∧ RV.2.2.1 0 = some l ∧ hf_Ls Rg h l n p ∧ n ≤ 12 ∧ V.2.2.2.1 6 t = Int32.ofNat n ∧ ∀ k, k < n → hf_Told h (p k) V t k
theorem hf_Rs.R {Rg : Nat → Prop} {h : hf_H} {a t : Nat} {V : hf_V} (H : hf_Rs Rg h a V t) : hf_Rul h a V t := by
  obtain ⟨ht, RV, l, n, p, e1, e2, ⟨e3, d3, e3', e3''⟩, e4, e5, e6⟩ := H
  exact ⟨ht, RV, l, n, p, e1, e2, e3''.L, e4, e5, e6⟩
theorem hf_Rs.tx {Rg : Nat → Prop} {h : hf_H} {a t : Nat} {V V' : hf_V} (H : hf_Rs Rg h a V t) (T : hf_txq V V') : hf_Rs Rg h a V' t := by
  obtain ⟨ht, RV, l, n, p, e1, e2, e3, e4, e5, e6⟩ := H
  exact ⟨ht, RV, l, n, p, e1, e2, e3, e4, by rw [T.2.2]; exact e5, fun k hk => (e6 k hk).tx T⟩
section ZI
variable {D Rg : Nat → Prop} {h g : hf_H}
theorem hf_Ls.kp {l n : Nat} {p : Nat → Nat} (L : hf_Ls Rg h l n p) (K : hf_kp D h g) (hD : hf_dirt Rg D h) : hf_Ls Rg g l n p := by
  obtain ⟨h1, d, h2, LV, N, B, e1, e2, e3, e4, e5, e6⟩ := L
  exact ⟨h1, d, h2, LV, N, B, K.ob e1 (hD.nli e1 h1), e2, e3, K.pa e4 (hD.npa e4 h2), e5, e6⟩
theorem hf_Fs.kp {f : Nat} {v : Nat → Nat} (F : hf_Fs Rg h f v) (K : hf_kp D h g) (hD : hf_dirt Rg D h) : hf_Fs Rg g f v := by
  obtain ⟨FV, l, m, p, q, HV, f1, f2, f3, f4, f5, f6, f7, f8, f9⟩ := F
  exact ⟨FV, l, m, p, q, HV, K.ob f1 (hD.nob f1 (by decide) (Or.inr rfl)), f2, f3, f4.kp K hD, f5.kp K hD, fun k hk => ⟨K.ob (f6 k hk).1 (hD.nob (f6 k hk).1 (by decide) (Or.inl rfl)), (f6 k hk).2⟩, f7, f8, f9⟩
theorem hf_kp.kv (K : hf_kp D h g) (hD : hf_dirt Rg D h) : hf_kv h g := fun a ci V h1 h2 e => K.ob e (hD.nob e (by omega) (Or.inl rfl))
theorem hf_Rs.kp {a t : Nat} {V : hf_V} (R : hf_Rs Rg h a V t) (K : hf_kp D h g) (hD : hf_dirt Rg D h) : hf_Rs Rg g a V t := by
  obtain ⟨ht, RV, l, n, p, e1, e2, e3, e4, e5, e6⟩ := R
  exact ⟨ht, RV, l, n, p, K.ob e1 (hD.nob e1 (by decide) (Or.inl rfl)), e2, e3.kp K hD, e4, e5, fun k hk => (e6 k hk).kv (K.kv hD)⟩
theorem hf_Fs.fe {f : Nat} {v w : Nat → Nat} (F : hf_Fs Rg h f v) (E : hf_fe v w) : hf_Fs Rg h f w := by
  obtain ⟨a0, a1, a2, a4, a5, a6, a7, a8, a9, a10⟩ := E
  obtain ⟨FV, l, m, p, q, HV, f1, f2, f3, f4, f5, f6, f7, f8, f9⟩ := F
  refine ⟨FV, l, m, p, q, HV, f1, f2, f3, by rw [a1]; exact f4, by rw [a2]; exact f5, fun k hk => ?_, by rw [a0]; exact f7, fun h0 => ?_, fun b hb => ?_⟩
  · rw [a1] at hk
    obtain ⟨c0, c1, c2, c4⟩ := a9 k hk
    rw [c0, c1, c2]
    exact f6 k hk
  · rw [a0] at h0
    obtain ⟨g1, g2, g3, g4, g5, g6⟩ := f8 h0
    rw [a1, a4, a5, a6, a7, a8]
    refine ⟨g1, g2, g3, g4, g5, g6.trans ?_⟩
    congr 1
    exact zset_congr _ (fun k hk => by rw [(a9 k hk).2.2.2])
  · rw [a2] at hb
    rw [a10 b hb]
    exact f9 b hb
end ZI
/-- trials told -/
def hf_TR (A B C : Nat → Int32) (n : Int32) (v : Nat → Nat) : Prop := n = Int32.ofNat (v 122) ∧ v 122 ≤ 12 ∧ ∀ k, k < v 122 → A k = Int32.ofNat (v (86 + 3 * k)) ∧ v (86 + 3 * k) < v 1 ∧ B k = Int32.ofNat (v (86 + 3 * k + 1)) ∧ v (86 + 3 * k + 1) < v 1 ∧ C k = Int32.ofNat (v (86 + 3 * k + 2)) ∧ v (86 + 3 * k + 2) ≤ 1
/-- well told, no purse over P -/
def hf_wp (P : Nat) (v : Nat → Nat) : Prop := hf_wf v ∧ ∀ b, b < v 2 → v (70 + 4 * b) ≤ P
/-- tape, trials, draw -/
def hf_IT (XV V : hf_V) (v : Nat → Nat) : Prop := (∃ T, T ≤ 400 ∧ XV.1 6 = Int32.ofNat T ∧ V.1 1 = Int32.ofNat T) ∧ (∀ k, k < 400 → XV.2.2.2.1 5 k = V.2.2.2.1 0 k) ∧ (∃ d, d < 2147483648 ∧ XV.1 11 = Int32.ofNat d ∧ V.1 21 = Int32.ofNat d) ∧ hf_TR (XV.2.2.2.1 7) (XV.2.2.2.1 8) (XV.2.2.2.1 9) (XV.1 10) v
def hf_IW (V : hf_V) (v : Nat → Nat) : Prop := ∀ s, s < 2 ^ v 1 → V.2.2.2.1 22 s = Int32.ofNat (zW v s) ∧ (0 < s → V.2.2.2.1 23 s = zcode (zM v s))
/-- the states kept to be undone: u of them, the next place pa -/
def hf_IU (P : Nat) (g : hf_H) (XV V : hf_V) (v : Nat → Nat) (ps : Nat → Nat) : Prop := ∃ u pa, u ≤ 20 ∧ pa < 20 ∧ XV.1 14 = Int32.ofNat u ∧ V.1 25 = Int32.ofNat u ∧ XV.1 15 = Int32.ofNat pa ∧ ∀ j, j < u → ∃ w, hf_wp P w ∧ hf_fe v w ∧ (∀ k, k < 86 → V.2.2.2.1 24 (86 * j + k) = Int32.ofNat (w k)) ∧ hf_SS g (ps ((pa + 20 - u + j) % 20)) w
/-- an image -/
def hf_im (P : Nat) (Rg : Nat → Prop) (g : hf_H) (o : Nat) (V : hf_V) (k ik sk : Nat) : Prop := ∃ (IV : hf_V) (fk : Nat) (w : Nat → Nat) (d : Nat), hf_ob 1 18 g ik = some IV ∧ IV.2.2.1 7 = some o ∧ IV.2.2.1 0 = some fk ∧ IV.2.2.1 1 = some sk ∧ hf_Fs Rg g fk w ∧ hf_SS g sk w ∧ hf_wp P w ∧ (∀ i, i < 123 → V.2.2.2.1 34 (123 * k + i) = Int32.ofNat (w i)) ∧ hf_TR (IV.2.2.2.1 2) (IV.2.2.2.1 3) (IV.2.2.2.1 4) (IV.1 5) w ∧ d < 2147483648 ∧ IV.1 6 = Int32.ofNat d ∧ V.2.2.2.1 35 k = Int32.ofNat d
def hf_II (P : Nat) (Rg : Nat → Prop) (g : hf_H) (o : Nat) (XV V : hf_V) (st kp : Nat) (ps ik sk : Nat → Nat) : Prop := ∀ k, k < 4 → (XV.2.2.2.2.2 22 k = none ∧ V.2.2.2.1 36 k = 0) ∨ (XV.2.2.2.2.2 22 k = some (ik k) ∧ V.2.2.2.1 36 k = 1 ∧ hf_im P Rg g o V k (ik k) (sk k) ∧ sk k ≠ st ∧ sk k ≠ kp ∧ (∀ j, j < 20 → sk k ≠ ps j) ∧ ∀ k', k' < 4 → k' ≠ k → XV.2.2.2.2.2 22 k' ≠ none → ik k' ≠ ik k ∧ sk k' ≠ sk k)
/-- HalfFair's own objects -/
def hf_IH (g : hf_H) (o : Nat) (XV : hf_V) (f st kp rl : Nat) (ps : Nat → Nat) : Prop := hf_ob 1 0 g o = some XV ∧ XV.2.2.1 0 = some f ∧ XV.2.2.1 1 = some st ∧ XV.2.2.1 2 = some kp ∧ XV.2.2.1 3 = some rl ∧ (∃ KV, hf_ob 1 2 g kp = some KV) ∧ st ≠ kp ∧ ∀ k, k < 20 → XV.2.2.2.2.2 13 k = some (ps k) ∧ (∃ PV, hf_ob 1 2 g (ps k) = some PV) ∧ ps k ≠ st ∧ ps k ≠ kp ∧ ∀ j, j < 20 → ps j = ps k → j = k
def hf_IR (Rg : Nat → Prop) (g : hf_H) (rl rd : Nat) (V : hf_V) : Prop := ∃ (nr : Nat) (p : Nat → Nat), hf_Ld g rl rd nr p ∧ nr ≤ 6 ∧ V.1 2 = Int32.ofNat nr ∧ ∀ t, t < nr → hf_Rs Rg g (p t) V t
def hf_rg (rl rd : Nat) : Nat → Prop := fun a => a = rl ∨ a = rd
def hf_I (P : Nat) (g : hf_H) (o : Nat) (V XV : hf_V) (f st kp rl rd : Nat) (ps ik sk : Nat → Nat) (v : Nat → Nat) : Prop := hf_IH g o XV f st kp rl ps ∧ (hf_Fs (hf_rg rl rd) g f v ∧ hf_SS g st v ∧ hf_wp P v ∧ hf_sv V v) ∧ hf_IR (hf_rg rl rd) g rl rd V ∧ hf_IT XV V v ∧ hf_IW V v ∧ hf_IU P g XV V v ps ∧ hf_II P (hf_rg rl rd) g o XV V st kp ps ik sk ∧ (∀ a, g.2.1 ≤ a → g.1 a = none) ∧ ∀ k, (k < 5 ∨ 9 ≤ k) → ∃ n, n < 16777216 ∧ V.2.2.2.1 7 k = Int32.ofNat n
def hf_INV (P : Nat) (g : hf_H) (o : Nat) (V : hf_V) : Prop := ∃ (XV : hf_V) (f st kp rl rd : Nat) (ps ik sk : Nat → Nat) (v : Nat → Nat), hf_I P g o V XV f st kp rl rd ps ik sk v
/-- the model's cell, the cells of the start, the room -/
def hf_kf (h g : hf_H) : Prop := (∀ a V, hf_ob 1 4 h a = some V → hf_ob 1 4 g a = some V) ∧ (∀ a x, h.1 a = some (.inr (.inr x)) → g.1 a = some (.inr (.inr x))) ∧ g.2.1 ≤ h.2.1 + 18000 ∧ g.2.2 ≤ h.2.2 + 84000
theorem hf_kf.rfl_ (h : hf_H) : hf_kf h h := ⟨fun _ _ e => e, fun _ _ e => e, by omega, by omega⟩
