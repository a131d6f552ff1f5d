set_option maxRecDepth 100000
set_option maxHeartbeats 1000000
/-! what stays true between the law's calls -/
/-- what was there is there, but for the places D -/
def hf_kp (D : Nat → Prop) (h g : hf_H) : Prop := ∀ a x, h.1 a = some x → ¬ D a → g.1 a = some x
/-- the places D are the rules' list and array, or objects that acts write -/
def hf_dirt (Rg D : Nat → Prop) (h : hf_H) : Prop := ∀ a, D a → (Rg a ∧ ∀ md ci V, hf_ob md ci h a = some V → ci = 19) ∨ ∃ md ci V, hf_ob md ci h a = some V ∧ ((md = 1 ∧ ci ≠ 1) ∨ ci = 3)
section ZI
variable {D Rg : Nat → Prop} {h g : hf_H}
theorem hf_kp.up (h : hf_H) (a : Nat) (x : hf_C) : hf_kp (fun q => q = a) h (hf_up h a x) := fun b y hb hd => by
  unfold hf_up
  simp only [if_neg hd]
  exact hb
theorem hf_kp.ob (K : hf_kp D h g) {a md ci : Nat} {V : hf_V} (e : hf_ob md ci h a = some V) (hd : ¬ D a) : hf_ob md ci g a = some V := by
  have h1 := K a _ (hf_ob_spec e) hd
  unfold hf_ob
  rw [h1]
  simp
theorem hf_kp.pa (K : hf_kp D h g) {a : Nat} {ty : FieldType} {r : Nat × hf_B} (e : hf_pa ty h a = some r) (hd : ¬ D a) : hf_pa ty g a = some r := by
  cases h1 : h.1 a with
  | none =>
    unfold hf_pa at e
    rw [h1] at e
    cases e
  | some x =>
    have h2 := K a x h1 hd
    unfold hf_pa at e ⊢
    rw [h1] at e
    rw [h2]
    exact e
theorem hf_dirt.nob (hD : hf_dirt Rg D h) {a md ci : Nat} {V : hf_V} (e : hf_ob md ci h a = some V) (h19 : ci ≠ 19) (h1 : md = 0 ∨ ci = 1) (h3 : ci ≠ 3 := by first | decide | omega) : ¬ D a := fun hd => by
  rcases hD a hd with ⟨_, h2⟩ | ⟨mj, cj, U, h2, h4⟩
  · exact h19 (h2 md ci V e)
  · have e1 := hf_ob_spec e
    have e2 := hf_ob_spec h2
    rw [e1] at e2
    cases e2
    omega
theorem hf_dirt.npa (hD : hf_dirt Rg D h) {a : Nat} {ty : FieldType} {r : Nat × hf_B} (e : hf_pa ty h a = some r) (hR : ¬ Rg a) : ¬ D a := fun hd => by
  rcases hD a hd with ⟨h1, _⟩ | ⟨mj, cj, U, h2, h3⟩
  · exact hR h1
  · have e2 := hf_ob_spec h2
    unfold hf_pa at e
    rw [e2] at e
    cases e
theorem hf_dirt.nli (hD : hf_dirt Rg D h) {a : Nat} {V : hf_V} (e : hf_ob 0 19 h a = some V) (hR : ¬ Rg a) : ¬ D a := fun hd => by
  rcases hD a hd with ⟨h1, _⟩ | ⟨mj, cj, U, h2, h3⟩
  · exact hR h1
  · have e1 := hf_ob_spec e
    have e2 := hf_ob_spec h2
    rw [e1] at e2
    cases e2
    omega
end ZI
/-- a list's array -/
def hf_Ar (h : hf_H) (d N : Nat) (B : Nat → Option Nat) : Prop := h.1 d = some (.inr (.inl (0, .object "java/lang/Object", N, .inr (.inr B))))
theorem hf_Ar.pa {h : hf_H} {d N : Nat} {B : Nat → Option Nat} (H : hf_Ar h d N B) : hf_pa (.object "java/lang/Object") h d = some (N, .inr (.inr B)) := by
  unfold hf_pa
  rw [H]
  exact if_pos rfl
/-- a list, its array at d -/
def hf_Ld (h : hf_H) (l d n : Nat) (p : Nat → Nat) : Prop := ∃ (LV : hf_V) (N : Nat) (B : Nat → Option Nat), hf_ob 0 19 h l = some LV ∧ LV.1 2 = Int32.ofNat n ∧ LV.2.2.1 1 = some d ∧ hf_Ar h d N B ∧ (n ≤ N ∧ N ≤ 2 * n + 2 ∧ 2 ≤ N) ∧ ∀ k, k < n → B k = some (p k)
theorem hf_Ld.L {h : hf_H} {l d n : Nat} {p : Nat → Nat} (L : hf_Ld h l d n p) : hf_L h l n p := by
  obtain ⟨LV, N, B, e1, e2, e3, e4, e5, e6⟩ := L
  exact ⟨LV, d, N, B, e1, e2, e3, e4.pa, e5.1, e6⟩
/-- a list apart from the rules' list -/
def hf_Ls (Rg : Nat → Prop) (h : hf_H) (l n : Nat) (p : Nat → Nat) : Prop := ¬ Rg l ∧ ∃ d, ¬ Rg d ∧ hf_Ld h l d n p
def hf_Fs (Rg : Nat → Prop) (h : hf_H) (f : Nat) (v : Nat → Nat) : Prop := ∃ (FV : hf_V) (l m : Nat) (p q : Nat → Nat) (HV : Nat → hf_V), hf_ob 1 1 h f = some FV ∧ FV.2.2.1 0 = some l ∧ FV.2.2.1 1 = some m ∧ hf_Ls Rg h l (v 1) p ∧ hf_Ls Rg h m (v 2) q ∧ (∀ k, k < v 1 → hf_ob 0 6 h (p k) = some (HV k) ∧ (HV k).1 1 = Int32.ofNat (v (10 + 5 * k + 0)) ∧ (HV k).1 2 = Int32.ofNat (v (10 + 5 * k + 1)) ∧ (HV k).1 3 = Int32.ofNat (v (10 + 5 * k + 2))) ∧ FV.1 3 = Int32.ofNat (v 0) ∧ (0 < v 0 → FV.1 4 = Int32.ofNat (v 4) ∧ FV.1 5 = Int32.ofNat (v 5) ∧ FV.1 6 = Int32.ofNat (v 6) ∧ FV.1 7 = Int32.ofNat (v 7) ∧ FV.1 8 = Int32.ofNat (v 8) ∧ FV.1 9 = Int32.ofNat (zset (fun k => v (10 + 5 * k + 4) == 1) (v 1))) ∧ ∀ b, b < v 2 → FV.2.2.2.1 2 b = Int32.ofNat (v (70 + 4 * b + 3))
theorem hf_Fs.F {Rg : Nat → Prop} {h : hf_H} {f : Nat} {v : Nat → Nat} (H : hf_Fs Rg h f v) : hf_F h f v := by
  obtain ⟨FV, l, m, p, q, HV, f1, f2, f3, ⟨f4, d4, f4', f4''⟩, ⟨f5, d5, f5', f5''⟩, f6, f7, f8, f9⟩ := H
  exact ⟨FV, l, m, p, q, HV, f1, f2, f3, f4''.L, f5''.L, f6, f7, f8, f9⟩
def hf_Rs (Rg : Nat → Prop) (h : hf_H) (a : Nat) (V : hf_V) (t : Nat) : Prop := t ≤ 5 ∧ ∃ (RV : hf_V) (l n : Nat) (p : Nat → Nat), hf_ob 0 8 h a = some RV ∧ RV.2.2.1 0 = some l ∧ hf_Ls Rg h l n p ∧ n ≤ 12 ∧ V.2.2.2.1 6 t = Int32.ofNat n ∧ ∀ k, k < n → hf_Told h (p k) V t k
theorem hf_Rs.R {Rg : Nat → Prop} {h : hf_H} {a t : Nat} {V : hf_V} (H : hf_Rs Rg h a V t) : hf_Rul h a V t := by
  obtain ⟨ht, RV, l, n, p, e1, e2, ⟨e3, d3, e3', e3''⟩, e4, e5, e6⟩ := H
  exact ⟨ht, RV, l, n, p, e1, e2, e3''.L, e4, e5, e6⟩
theorem hf_Rs.tx {Rg : Nat → Prop} {h : hf_H} {a t : Nat} {V V' : hf_V} (H : hf_Rs Rg h a V t) (T : hf_txq V V') : hf_Rs Rg h a V' t := by
  obtain ⟨ht, RV, l, n, p, e1, e2, e3, e4, e5, e6⟩ := H
  exact ⟨ht, RV, l, n, p, e1, e2, e3, e4, by rw [T.2.2]; exact e5, fun k hk => (e6 k hk).tx T⟩
section ZI
variable {D Rg : Nat → Prop} {h g : hf_H}
theorem hf_Ls.kp {l n : Nat} {p : Nat → Nat} (L : hf_Ls Rg h l n p) (K : hf_kp D h g) (hD : hf_dirt Rg D h) : hf_Ls Rg g l n p := by
  obtain ⟨h1, d, h2, LV, N, B, e1, e2, e3, e4, e5, e6⟩ := L
  exact ⟨h1, d, h2, LV, N, B, K.ob e1 (hD.nli e1 h1), e2, e3, K d _ e4 (hD.npa e4.pa h2), e5, e6⟩
theorem hf_Fs.kp {f : Nat} {v : Nat → Nat} (F : hf_Fs Rg h f v) (K : hf_kp D h g) (hD : hf_dirt Rg D h) : hf_Fs Rg g f v := by
  obtain ⟨FV, l, m, p, q, HV, f1, f2, f3, f4, f5, f6, f7, f8, f9⟩ := F
  exact ⟨FV, l, m, p, q, HV, K.ob f1 (hD.nob f1 (by decide) (Or.inr rfl)), f2, f3, f4.kp K hD, f5.kp K hD, fun k hk => ⟨K.ob (f6 k hk).1 (hD.nob (f6 k hk).1 (by decide) (Or.inl rfl)), (f6 k hk).2⟩, f7, f8, f9⟩
theorem hf_kp.kv (K : hf_kp D h g) (hD : hf_dirt Rg D h) : hf_kv h g := fun a ci V h1 h2 e => K.ob e (hD.nob e (by omega) (Or.inl rfl))
theorem hf_Rs.kp {a t : Nat} {V : hf_V} (R : hf_Rs Rg h a V t) (K : hf_kp D h g) (hD : hf_dirt Rg D h) : hf_Rs Rg g a V t := by
  obtain ⟨ht, RV, l, n, p, e1, e2, e3, e4, e5, e6⟩ := R
  exact ⟨ht, RV, l, n, p, K.ob e1 (hD.nob e1 (by decide) (Or.inl rfl)), e2, e3.kp K hD, e4, e5, fun k hk => (e6 k hk).kv (K.kv hD)⟩
theorem hf_Fs.fe {f : Nat} {v w : Nat → Nat} (F : hf_Fs Rg h f v) (E : hf_fe v w) : hf_Fs Rg h f w := by
  obtain ⟨a0, a1, a2, a4, a5, a6, a7, a8, a9, a10⟩ := E
  obtain ⟨FV, l, m, p, q, HV, f1, f2, f3, f4, f5, f6, f7, f8, f9⟩ := F
  refine ⟨FV, l, m, p, q, HV, f1, f2, f3, by rw [a1]; exact f4, by rw [a2]; exact f5, fun k hk => ?_, by rw [a0]; exact f7, fun h0 => ?_, fun b hb => ?_⟩
  · rw [a1] at hk
    obtain ⟨c0, c1, c2, c4⟩ := a9 k hk
    rw [c0, c1, c2]
    exact f6 k hk
  · rw [a0] at h0
    obtain ⟨g1, g2, g3, g4, g5, g6⟩ := f8 h0
    rw [a1, a4, a5, a6, a7, a8]
    refine ⟨g1, g2, g3, g4, g5, g6.trans ?_⟩
    congr 1
    exact zset_congr _ (fun k hk => by rw [(a9 k hk).2.2.2])
  · rw [a2] at hb
    rw [a10 b hb]
    exact f9 b hb
end ZI
/-- trials told -/
def hf_TR (A B C : Nat → Int32) (n : Int32) (v : Nat → Nat) : Prop := n = Int32.ofNat (v 122) ∧ v 122 ≤ 12 ∧ ∀ k, k < v 122 → A k = Int32.ofNat (v (86 + 3 * k)) ∧ v (86 + 3 * k) < v 1 ∧ B k = Int32.ofNat (v (86 + 3 * k + 1)) ∧ v (86 + 3 * k + 1) < v 1 ∧ C k = Int32.ofNat (v (86 + 3 * k + 2)) ∧ v (86 + 3 * k + 2) ≤ 1
/-- well told, no purse over P -/
def hf_wp (P : Nat) (v : Nat → Nat) : Prop := hf_wf v ∧ ∀ b, b < v 2 → v (70 + 4 * b) ≤ P
/-- a byte's number -/
def zbyt (n : Nat) : Int32 := if n < 128 then Int32.ofNat n else Int32.ofNat n - Int32.ofNat 256
def hf_bz (x : Int32) : Prop := ∃ n, n < 256 ∧ x = zbyt n
/-- tape, trials, draw -/
def hf_IT (XV V : hf_V) (v : Nat → Nat) : Prop := (∃ T, T ≤ 400 ∧ XV.1 6 = Int32.ofNat T ∧ V.1 1 = Int32.ofNat T) ∧ (∀ k, k < 400 → XV.2.2.2.1 5 k = V.2.2.2.1 0 k ∧ hf_bz (V.2.2.2.1 0 k)) ∧ (∃ d, d < 2147483648 ∧ XV.1 11 = Int32.ofNat d ∧ V.1 21 = Int32.ofNat d) ∧ hf_TR (XV.2.2.2.1 7) (XV.2.2.2.1 8) (XV.2.2.2.1 9) (XV.1 10) v
def hf_IW (V : hf_V) (v : Nat → Nat) : Prop := ∀ s, s < 2 ^ v 1 → V.2.2.2.1 22 s = Int32.ofNat (zW v s) ∧ (0 < s → V.2.2.2.1 23 s = zcode (zM v s))
/-- the states kept to be undone: u of them, the next place pa -/
def hf_IU (P : Nat) (g : hf_H) (XV V : hf_V) (v : Nat → Nat) (ps : Nat → Nat) : Prop := ∃ u pa, u ≤ 20 ∧ pa < 20 ∧ XV.1 14 = Int32.ofNat u ∧ V.1 25 = Int32.ofNat u ∧ XV.1 15 = Int32.ofNat pa ∧ ∀ j, j < u → ∃ w, hf_wp P w ∧ hf_fe v w ∧ (∀ k, k < 86 → V.2.2.2.1 24 (86 * j + k) = Int32.ofNat (w k)) ∧ hf_SS g (ps ((pa + 20 - u + j) % 20)) w
/-- an image -/
def hf_im (P : Nat) (Rg : Nat → Prop) (g : hf_H) (o : Nat) (V : hf_V) (k ik sk : Nat) : Prop := ∃ (IV : hf_V) (fk : Nat) (w : Nat → Nat) (d : Nat), hf_ob 1 18 g ik = some IV ∧ IV.2.2.1 7 = some o ∧ IV.2.2.1 0 = some fk ∧ IV.2.2.1 1 = some sk ∧ hf_Fs Rg g fk w ∧ hf_SS g sk w ∧ hf_wp P w ∧ (∀ i, i < 123 → V.2.2.2.1 34 (123 * k + i) = Int32.ofNat (w i)) ∧ hf_TR (IV.2.2.2.1 2) (IV.2.2.2.1 3) (IV.2.2.2.1 4) (IV.1 5) w ∧ d < 2147483648 ∧ IV.1 6 = Int32.ofNat d ∧ V.2.2.2.1 35 k = Int32.ofNat d
def hf_II (P : Nat) (Rg : Nat → Prop) (g : hf_H) (o : Nat) (XV V : hf_V) (st kp : Nat) (ps ik sk : Nat → Nat) : Prop := ∀ k, k < 4 → (XV.2.2.2.2.2 22 k = none ∧ V.2.2.2.1 36 k = 0) ∨ (XV.2.2.2.2.2 22 k = some (ik k) ∧ V.2.2.2.1 36 k = 1 ∧ hf_im P Rg g o V k (ik k) (sk k) ∧ sk k ≠ st ∧ sk k ≠ kp ∧ (∀ j, j < 20 → sk k ≠ ps j) ∧ ∀ k', k' < 4 → k' ≠ k → XV.2.2.2.2.2 22 k' ≠ none → ik k' ≠ ik k ∧ sk k' ≠ sk k)
/-- HalfFair's own objects -/
def hf_IH (g : hf_H) (o : Nat) (XV : hf_V) (f st kp rl : Nat) (ps : Nat → Nat) : Prop := hf_ob 1 0 g o = some XV ∧ XV.2.2.1 0 = some f ∧ XV.2.2.1 1 = some st ∧ XV.2.2.1 2 = some kp ∧ (XV.2.2.1 3 = some rl ∧ XV.2.2.1 4 = some (o + 19)) ∧ (∃ KV, hf_ob 1 2 g kp = some KV) ∧ st ≠ kp ∧ ∀ k, k < 20 → XV.2.2.2.2.2 13 k = some (ps k) ∧ (∃ PV, hf_ob 1 2 g (ps k) = some PV) ∧ ps k ≠ st ∧ ps k ≠ kp ∧ ∀ j, j < 20 → ps j = ps k → j = k
def hf_IR (Rg : Nat → Prop) (g : hf_H) (rl rd : Nat) (V : hf_V) : Prop := ∃ (nr : Nat) (p : Nat → Nat), hf_Ld g rl rd nr p ∧ nr ≤ 6 ∧ V.1 2 = Int32.ofNat nr ∧ ∀ t, t < nr → hf_Rs Rg g (p t) V t
def hf_rg (rl rd : Nat) : Nat → Prop := fun a => a = rl ∨ a = rd
def hf_I (P : Nat) (g : hf_H) (o : Nat) (V XV : hf_V) (f st kp rl rd : Nat) (ps ik sk : Nat → Nat) (v : Nat → Nat) : Prop := hf_IH g o XV f st kp rl ps ∧ (hf_Fs (hf_rg rl rd) g f v ∧ hf_SS g st v ∧ hf_wp P v ∧ hf_sv V v) ∧ hf_IR (hf_rg rl rd) g rl rd V ∧ hf_IT XV V v ∧ hf_IW V v ∧ hf_IU P g XV V v ps ∧ hf_II P (hf_rg rl rd) g o XV V st kp ps ik sk ∧ (∀ a, g.2.1 ≤ a → g.1 a = none) ∧ ∀ k, (k < 5 ∨ 9 ≤ k) → ∃ n, n < 16777216 ∧ V.2.2.2.1 7 k = Int32.ofNat n
def hf_INV (P : Nat) (g : hf_H) (o : Nat) (V : hf_V) : Prop := ∃ (XV : hf_V) (f st kp rl rd : Nat) (ps ik sk : Nat → Nat) (v : Nat → Nat), hf_I P g o V XV f st kp rl rd ps ik sk v
/-- the model's cell, the cells of the start, the room -/
def hf_kf (h g : hf_H) : Prop := (∀ a V, hf_ob 1 4 h a = some V → hf_ob 1 4 g a = some V) ∧ (∀ a x, h.1 a = some (.inr (.inr x)) → g.1 a = some (.inr (.inr x))) ∧ g.2.1 ≤ h.2.1 + 18000 ∧ g.2.2 ≤ h.2.2 + 84000 ∧ ∀ a V, hf_ob 0 3 h a = some V → ∃ V', hf_ob 0 3 g a = some V'
theorem hf_kf.rfl_ (h : hf_H) : hf_kf h h := ⟨fun _ _ e => e, fun _ _ e => e, by omega, by omega, fun _ V e => ⟨V, e⟩⟩
set_option maxRecDepth 100000
set_option maxHeartbeats 1000000
/-! how what stays true is kept -/
/-- all is kept but for HalfFair, states, images -/
def hf_kq (h g : hf_H) : Prop := ∀ a x, h.1 a = some x → (∀ ci V, x = .inl (1, ci, V) → ci ≠ 0 ∧ ci ≠ 2 ∧ ci ≠ 18) → g.1 a = some x
section ZI
variable {h g k : hf_H} {Rg : Nat → Prop}
theorem hf_kq.rfl_ (h : hf_H) : hf_kq h h := fun a x e _ => e
theorem hf_kq.trans (A : hf_kq h g) (B : hf_kq g k) : hf_kq h k := fun a x e n => B a x (A a x e n) n
theorem hf_kq.up {a ci : Nat} {V : hf_V} (e : hf_ob 1 ci h a = some V) (hc : ci = 0 ∨ ci = 2 ∨ ci = 18) (x : hf_C) : hf_kq h (hf_up h a x) := fun b y hb n => by
  have hne : b ≠ a := fun z => by
    subst z
    rw [hf_ob_spec e] at hb
    cases hb
    have := n ci V rfl
    omega
  unfold hf_up
  simp only [if_neg hne]
  exact hb
theorem hf_kq.kp (K : hf_kq h g) : hf_kp (fun a => ∃ ci V, hf_ob 1 ci h a = some V ∧ (ci = 0 ∨ ci = 2 ∨ ci = 18)) h g := fun a x e n => K a x e (fun ci V hx => by
  subst hx
  refine ⟨fun z => n ⟨ci, V, ?_, Or.inl z⟩, fun z => n ⟨ci, V, ?_, Or.inr (Or.inl z)⟩, fun z => n ⟨ci, V, ?_, Or.inr (Or.inr z)⟩⟩
  all_goals
    unfold hf_ob
    rw [e]
    simp)
theorem hf_kq_dirt (h : hf_H) (Rg : Nat → Prop) : hf_dirt Rg (fun a => ∃ ci V, hf_ob 1 ci h a = some V ∧ (ci = 0 ∨ ci = 2 ∨ ci = 18)) h := fun a ⟨ci, V, e, hc⟩ => Or.inr ⟨1, ci, V, e, by omega⟩
theorem hf_Fs.kq {f : Nat} {v : Nat → Nat} (F : hf_Fs Rg h f v) (K : hf_kq h g) : hf_Fs Rg g f v := F.kp K.kp (hf_kq_dirt h Rg)
theorem hf_Rs.kq {a t : Nat} {V : hf_V} (F : hf_Rs Rg h a V t) (K : hf_kq h g) : hf_Rs Rg g a V t := F.kp K.kp (hf_kq_dirt h Rg)
theorem hf_kq.ob (K : hf_kq h g) {a md ci : Nat} {V : hf_V} (e : hf_ob md ci h a = some V) (hc : md = 0 ∨ (ci ≠ 0 ∧ ci ≠ 2 ∧ ci ≠ 18)) : hf_ob md ci g a = some V := by
  have h1 := K a _ (hf_ob_spec e) (fun cj U hx => by
    cases hx
    rcases hc with hc | hc
    · cases hc
    · exact hc)
  unfold hf_ob
  rw [h1]
  simp
theorem hf_kq.pa (K : hf_kq h g) {a : Nat} {ty : FieldType} {r : Nat × hf_B} (e : hf_pa ty h a = some r) : hf_pa ty g a = some r := by
  refine K.kp.pa e (fun ⟨ci, V, e2, _⟩ => ?_)
  have e3 := hf_ob_spec e2
  unfold hf_pa at e
  rw [e3] at e
  cases e
theorem hf_Ld.kq {l d n : Nat} {p : Nat → Nat} (L : hf_Ld h l d n p) (K : hf_kq h g) : hf_Ld g l d n p := by
  obtain ⟨LV, N, B, e1, e2, e3, e4, e5, e6⟩ := L
  exact ⟨LV, N, B, K.ob e1 (Or.inl rfl), e2, e3, K d _ e4 (fun ci V hx => by cases hx), e5, e6⟩
theorem hf_kq.kf (K : hf_kq h g) (h2 : g.2 = h.2) : hf_kf h g := by
  refine ⟨fun a V e => K.ob e (Or.inr (by decide)), fun a x e => K a _ e (fun ci V hx => by cases hx), ?_, ?_, fun a V e => ⟨V, K.ob e (Or.inl rfl)⟩⟩
  · rw [h2]; omega
  · rw [h2]; omega
end ZI
/-- what acts leave of HalfFair, of the model -/
def hf_xz (A B : hf_V) : Prop := B.2.2.1 = A.2.2.1 ∧ (∀ k, k = 6 ∨ k = 10 ∨ k = 11 ∨ k = 14 ∨ k = 15 → B.1 k = A.1 k) ∧ (∀ k, k = 5 ∨ k = 7 ∨ k = 8 ∨ k = 9 → B.2.2.2.1 k = A.2.2.2.1 k) ∧ B.2.2.2.2.2 = A.2.2.2.2.2
def hf_mz (A B : hf_V) : Prop := (∀ k, k = 1 ∨ k = 2 ∨ k = 21 ∨ k = 25 → B.1 k = A.1 k) ∧ ∀ k, k ≠ 20 → k ≠ 27 → k ≠ 28 → k ≠ 32 → B.2.2.2.1 k = A.2.2.2.1 k
theorem hf_xz.rfl_ (A : hf_V) : hf_xz A A := ⟨rfl, fun _ _ => rfl, fun _ _ => rfl, rfl⟩
theorem hf_xz.xw (A : hf_V) (W : Nat → Int64) : hf_xz A (hf_xw A W) := ⟨rfl, fun _ _ => rfl, fun _ _ => rfl, rfl⟩
theorem hf_mz.rfl_ (A : hf_V) : hf_mz A A := ⟨fun _ _ => rfl, fun _ _ _ _ _ => rfl⟩
theorem hf_mz.trans {A B C : hf_V} (H : hf_mz A B) (K : hf_mz B C) : hf_mz A C := ⟨fun k a => (K.1 k a).trans (H.1 k a), fun k a b c d => (K.2 k a b c d).trans (H.2 k a b c d)⟩
theorem hf_mq.mz {A B : hf_V} (H : hf_mq A B) : hf_mz A B := ⟨fun k a => H.1 k (by omega) (by omega), fun k a _ _ _ => H.2.2.2.1 k a⟩
theorem hf_mz.tx {A B : hf_V} (H : hf_mz A B) : hf_txq A B := ⟨H.2 3 (by decide) (by decide) (by decide) (by decide), H.2 5 (by decide) (by decide) (by decide) (by decide), H.2 6 (by decide) (by decide) (by decide) (by decide)⟩
theorem hf_TR.eq {A B C : Nat → Int32} {n : Int32} {v w : Nat → Nat} (T : hf_TR A B C n v) (h1 : w 1 = v 1) (h : ∀ k, 86 ≤ k → w k = v k) : hf_TR A B C n w := by
  obtain ⟨t1, t2, t3⟩ := T
  unfold hf_TR
  rw [h 122 (by decide), h1]
  refine ⟨t1, t2, fun k hk => ?_⟩
  rw [h (86 + 3 * k) (by omega), h (86 + 3 * k + 1) (by omega), h (86 + 3 * k + 2) (by omega)]
  exact t3 k hk
/-- worths by the fair alone -/
theorem zfo_fe {v w : Nat → Nat} (E : hf_fe v w) {a b : Nat} (ha : a < v 1) (hb : b < v 1) : zfo w a b = zfo v a b := by
  obtain ⟨a0, a1, a2, a4, a5, a6, a7, a8, a9, a10⟩ := E
  obtain ⟨c0, c1, c2, c4⟩ := a9 a ha
  obtain ⟨d0, d1, d2, d4⟩ := a9 b hb
  unfold zfo zft
  rw [c4, d4, c1, d1, c0, d0, a5]
theorem zinn_fe {v w : Nat → Nat} (E : hf_fe v w) (T : Nat → Nat) (r h : Nat) (hh : h < v 1) : ∀ n, h + 1 + n ≤ v 1 → zinn w T r h n = zinn v T r h n
  | 0, _ => rfl
  | n + 1, hn => by
    show zstep w T r h (h + 1 + n) (zinn w T r h n) = zstep v T r h (h + 1 + n) (zinn v T r h n)
    rw [zinn_fe E T r h hh n (by omega)]
    unfold zstep
    rw [zfo_fe E hh (by omega)]
theorem zTab_fe {v w : Nat → Nat} (E : hf_fe v w) (hn : v 1 ≤ 12) : ∀ n, n < 2 ^ v 1 → zTab w n = zTab v n
  | 0, _ => rfl
  | n + 1, hk => by
    have ih := zTab_fe E hn n (by omega)
    have h12 := (zpow12 hn).2.1
    have hl := z_low (s := n + 1) (by omega) (by omega)
    have hlow : zlow (n + 1) < v 1 := by
      by_cases z : zlow (n + 1) < v 1
      · exact z
      · have h1 : (n + 1).testBit (zlow (n + 1)) = false := Nat.testBit_lt_two_pow (Nat.lt_of_lt_of_le hk (Nat.pow_le_pow_right (by decide) (by omega)))
        rw [hl.2.1] at h1
        cases h1
    have he : zent w (zTab w n).1 (n + 1) = zent v (zTab v n).1 (n + 1) := by
      unfold zent
      rw [ih, E.2.1]
      exact zinn_fe E _ _ _ hlow _ (by omega)
    show (zup (zTab w n).1 (n + 1) (zent w (zTab w n).1 (n + 1)).1, zup (zTab w n).2 (n + 1) (zent w (zTab w n).1 (n + 1)).2) = _
    rw [he, ih]
    rfl
theorem hf_IW.fe {V V' : hf_V} {v w : Nat → Nat} (H : hf_IW V v) (E : hf_fe v w) (hn : v 1 ≤ 12) (h22 : V'.2.2.2.1 22 = V.2.2.2.1 22) (h23 : V'.2.2.2.1 23 = V.2.2.2.1 23) : hf_IW V' w := by
  have hp := (zpow12 hn).2.2
  have e1 := E.2.1
  intro s hs
  rw [e1] at hs
  unfold zW zM
  rw [e1, zTab_fe E hn _ (by omega), h22, h23]
  exact H s hs
section ZI
variable {P : Nat} {g g' : hf_H} {o f st kp rl rd : Nat} {V V' XV XV' : hf_V} {ps ik sk : Nat → Nat} {v v' : Nat → Nat}
theorem hf_I.X (I : hf_I P g o V XV f st kp rl rd ps ik sk v) : hf_XX g o f st := ⟨XV, I.1.1, I.1.2.1, I.1.2.2.1⟩
theorem hf_I.F (I : hf_I P g o V XV f st kp rl rd ps ik sk v) : hf_F g f v := I.2.1.1.F
theorem hf_I.S (I : hf_I P g o V XV f st kp rl rd ps ik sk v) : hf_SS g st v := I.2.1.2.1
theorem hf_I.W (I : hf_I P g o V XV f st kp rl rd ps ik sk v) : hf_wf v := I.2.1.2.2.1.1
theorem hf_I.Wp (I : hf_I P g o V XV f st kp rl rd ps ik sk v) : hf_wp P v := I.2.1.2.2.1
theorem hf_I.sv (I : hf_I P g o V XV f st kp rl rd ps ik sk v) : hf_sv V v := I.2.1.2.2.2
theorem hf_I.e (I : hf_I P g o V XV f st kp rl rd ps ik sk v) : hf_ob 1 0 g o = some XV := I.1.1
theorem hf_I.inv (I : hf_I P g o V XV f st kp rl rd ps ik sk v) : hf_INV P g o V := ⟨XV, f, st, kp, rl, rd, ps, ik, sk, v, I⟩
/-- an act: the state, the kept state, what does not matter -/
theorem hf_I.act (I : hf_I P g o V XV f st kp rl rd ps ik sk v) (K : hf_kq g g') (hx : hf_ob 1 0 g' o = some XV') (xz : hf_xz XV XV') (mz : hf_mz V V') (hS : hf_SS g' st v') (Wf : hf_wp P v') (E : hf_fe v v') (sv : hf_sv V' v') (ht : ∀ k, 86 ≤ k → v' k = v k) (ho : ∀ s SV, s ≠ st → s ≠ kp → hf_ob 1 2 g s = some SV → hf_ob 1 2 g' s = some SV) (hk : ∃ KV, hf_ob 1 2 g' kp = some KV) (hi : ∀ i IV, hf_ob 1 18 g i = some IV → hf_ob 1 18 g' i = some IV) (hn : ∀ a, g'.2.1 ≤ a → g'.1 a = none) : hf_I P g' o V' XV' f st kp rl rd ps ik sk v' := by
  obtain ⟨⟨a1, a2, a3, a4, a5, a6, a7, a8⟩, ⟨b1, b2, b3, b4⟩, ⟨nr, p, c1, c2, c3, c4⟩, ⟨d1, d2, d3, d4⟩, i5, ⟨u, pa, u1, u2, u3, u4, u5, u6⟩, i7, i8, i9⟩ := I
  obtain ⟨x1, x2, x3, x4⟩ := xz
  have hSS : ∀ s w, s ≠ st → s ≠ kp → hf_SS g s w → hf_SS g' s w := fun s w n1 n2 ⟨SV, e1, e2⟩ => ⟨SV, ho s SV n1 n2 e1, e2⟩
  refine ⟨⟨hx, by rw [x1]; exact a2, by rw [x1]; exact a3, by rw [x1]; exact a4, by rw [x1]; exact a5, hk, a7, fun k hk => ?_⟩, ⟨(b1.kq K).fe E, hS, Wf, sv⟩, ⟨nr, p, c1.kq K, c2, (mz.1 2 (by omega)).trans c3, fun t ht => ((c4 t ht).kq K).tx mz.tx⟩, ⟨?_, fun k hk => ?_, ?_, ?_⟩, i5.fe E b3.1.v1 (mz.2 22 (by decide) (by decide) (by decide) (by decide)) (mz.2 23 (by decide) (by decide) (by decide) (by decide)), ⟨u, pa, u1, u2, (x2 14 (by omega)).trans u3, (mz.1 25 (by omega)).trans u4, (x2 15 (by omega)).trans u5, fun j hj => ?_⟩, fun k hk => ?_, hn, fun k hk => ?_⟩
  · obtain ⟨q1, ⟨PV, q2⟩, q3, q4, q5⟩ := a8 k hk
    rw [x4]
    exact ⟨q1, ⟨PV, ho _ PV q3 q4 q2⟩, q3, q4, q5⟩
  · obtain ⟨T, t1, t2, t3⟩ := d1
    exact ⟨T, t1, (x2 6 (by omega)).trans t2, (mz.1 1 (by omega)).trans t3⟩
  · rw [x3 5 (by omega), mz.2 0 (by decide) (by decide) (by decide) (by decide)]
    exact d2 k hk
  · obtain ⟨d, t1, t2, t3⟩ := d3
    exact ⟨d, t1, (x2 11 (by omega)).trans t2, (mz.1 21 (by omega)).trans t3⟩
  · rw [x3 7 (by omega), x3 8 (by omega), x3 9 (by omega), x2 10 (by omega)]
    exact d4.eq E.2.1 ht
  · obtain ⟨w, w1, w2, w3, w4⟩ := u6 j hj
    have hm : (pa + 20 - u + j) % 20 < 20 := Nat.mod_lt _ (by decide)
    obtain ⟨q1, _, q3, q4, q5⟩ := a8 _ hm
    refine ⟨w, w1, ?_, fun k hk => ?_, hSS _ w q3 q4 w4⟩
    · obtain ⟨e0, e1, e2, e4, e5, e6, e7, e8, e9, e10⟩ := E
      obtain ⟨f0, f1, f2, f4, f5, f6, f7, f8, f9, f10⟩ := w2
      refine ⟨f0.trans e0.symm, f1.trans e1.symm, f2.trans e2.symm, f4.trans e4.symm, f5.trans e5.symm, f6.trans e6.symm, f7.trans e7.symm, f8.trans e8.symm, fun k hk => ?_, fun b hb => (f10 b (by omega)).trans (e10 b (by omega)).symm⟩
      obtain ⟨m0, m1, m2, m4⟩ := e9 k (by omega)
      obtain ⟨n0, n1, n2, n4⟩ := f9 k (by omega)
      exact ⟨n0.trans m0.symm, n1.trans m1.symm, n2.trans m2.symm, n4.trans m4.symm⟩
    · rw [mz.2 24 (by decide) (by decide) (by decide) (by decide)]
      exact w3 k hk
  · rw [x4, mz.2 36 (by decide) (by decide) (by decide) (by decide)]
    rcases i7 k hk with ⟨q1, q2⟩ | ⟨q1, q2, ⟨IV, fk, w, d, r1, r2, r3, r4, r5, r6, r7, r8, r9, r10, r11, r12⟩, q4, q5, q6, q7⟩
    · exact Or.inl ⟨q1, q2⟩
    · refine Or.inr ⟨q1, q2, ⟨IV, fk, w, d, hi _ IV r1, r2, r3, r4, r5.kq K, hSS _ w q4 q5 r6, r7, fun i hi2 => ?_, r9, r10, r11, ?_⟩, q4, q5, q6, q7⟩
      · rw [mz.2 34 (by decide) (by decide) (by decide) (by decide)]
        exact r8 i hi2
      · rw [mz.2 35 (by decide) (by decide) (by decide) (by decide)]
        exact r12
  · rw [mz.2 7 (by decide) (by decide) (by decide) (by decide)]
    exact i9 k hk
/-- HalfFair's fields that do not matter change -/
theorem hf_I.xc (I : hf_I P g o V XV f st kp rl rd ps ik sk v) (xz : hf_xz XV XV') (mz : hf_mz V V') (sv : hf_sv V' v) : hf_I P (hf_xc g o XV') o V' XV' f st kp rl rd ps ik sk v := by
  have e := I.e
  have hs : ∀ s SV, hf_ob 1 2 g s = some SV → hf_ob 1 2 (hf_xc g o XV') s = some SV := fun s SV es => by
    unfold hf_xc
    rw [hf_ob_ne (hf_ob_dif es e (by decide))]
    exact es
  obtain ⟨SV, s1, s2⟩ := I.S
  obtain ⟨KV, k1⟩ := I.1.2.2.2.2.2.1
  refine I.act (hf_kq.up e (Or.inl rfl) _) (hf_ob_xc g o XV') xz mz ⟨SV, hs _ SV s1, s2⟩ I.Wp (hf_fe.rfl_ v) sv (fun _ _ => rfl) (fun s SV _ _ es => hs s SV es) ⟨KV, hs _ KV k1⟩ (fun i IV ei => ?_) (fun a ha => ?_)
  · unfold hf_xc
    rw [hf_ob_ne (hf_ob_dif ei e (by decide))]
    exact ei
  · have h1 := I.2.2.2.2.2.2.2.1 a ha
    have hne : a ≠ o := fun z => by
      subst z
      rw [hf_ob_spec e] at h1
      cases h1
    unfold hf_xc hf_up
    simp only [if_neg hne]
    exact h1
/-- the state changes -/
theorem hf_I.sc (I : hf_I P g o V XV f st kp rl rd ps ik sk v) (mz : hf_mz V V') {SV : hf_V} (hS : hf_S2 SV v') (Wf : hf_wp P v') (E : hf_fe v v') (sv : hf_sv V' v') (ht : ∀ k, 86 ≤ k → v' k = v k) : hf_I P (hf_sc g st SV) o V' XV f st kp rl rd ps ik sk v' := by
  obtain ⟨SV0, s1, s2⟩ := I.S
  obtain ⟨KV, k1⟩ := I.1.2.2.2.2.2.1
  have hkn := I.1.2.2.2.2.2.2.1
  refine I.act (hf_kq.up s1 (Or.inr (Or.inl rfl)) _) ?_ (hf_xz.rfl_ XV) mz (hf_SS.sc g st hS) Wf E sv ht (fun s SV' n1 _ es => ?_) ⟨KV, ?_⟩ (fun i IV ei => ?_) (fun a ha => ?_)
  · unfold hf_sc
    rw [hf_ob_ne (hf_ob_dif I.e s1 (by decide))]
    exact I.e
  · unfold hf_sc
    rw [hf_ob_ne n1]
    exact es
  · unfold hf_sc
    rw [hf_ob_ne (fun z => hkn z.symm)]
    exact k1
  · unfold hf_sc
    rw [hf_ob_ne (hf_ob_dif ei s1 (by decide))]
    exact ei
  · have h1 := I.2.2.2.2.2.2.2.1 a ha
    have hne : a ≠ st := fun z => by
      subst z
      rw [hf_ob_spec s1] at h1
      cases h1
    unfold hf_sc hf_up
    simp only [if_neg hne]
    exact h1
/-- the kept state changes -/
theorem hf_I.kc (I : hf_I P g o V XV f st kp rl rd ps ik sk v) (mz : hf_mz V V') (SV : hf_V) (sv : hf_sv V' v) : hf_I P (hf_sc g kp SV) o V' XV f st kp rl rd ps ik sk v := by
  obtain ⟨SV0, s1, s2⟩ := I.S
  obtain ⟨KV, k1⟩ := I.1.2.2.2.2.2.1
  have hkn := I.1.2.2.2.2.2.2.1
  refine I.act (hf_kq.up k1 (Or.inr (Or.inl rfl)) _) ?_ (hf_xz.rfl_ XV) mz ⟨SV0, ?_, s2⟩ I.Wp (hf_fe.rfl_ v) sv (fun _ _ => rfl) (fun s SV' _ n1 es => ?_) ⟨SV, hf_ob_sc g kp SV⟩ (fun i IV ei => ?_) (fun a ha => ?_)
  · unfold hf_sc
    rw [hf_ob_ne (hf_ob_dif I.e k1 (by decide))]
    exact I.e
  · unfold hf_sc
    rw [hf_ob_ne hkn]
    exact s1
  · unfold hf_sc
    rw [hf_ob_ne n1]
    exact es
  · unfold hf_sc
    rw [hf_ob_ne (hf_ob_dif ei k1 (by decide))]
    exact ei
  · have h1 := I.2.2.2.2.2.2.2.1 a ha
    have hne : a ≠ kp := fun z => by
      subst z
      rw [hf_ob_spec k1] at h1
      cases h1
    unfold hf_sc hf_up
    simp only [if_neg hne]
    exact h1
end ZI
set_option maxRecDepth 100000
set_option maxHeartbeats 1000000
/-! an act kept, all forgotten, undone -/
section ZI
variable {P : Nat} {g g' : hf_H} {o f st kp rl rd : Nat} {V V' XV XV' : hf_V} {ps ik sk : Nat → Nat} {v v' : Nat → Nat}
theorem m_keepsAct (S : hf_sv V v) {u : Nat} (hu : V.1 25 = Int32.ofNat u) (h20 : u ≤ 20) : ∃ F : Nat → Int32, spX4_keepsAct V = some (hf_ui (hf_sa V 24 F) 25 (Int32.ofNat (min 20 (u + 1)))) ∧ (∀ k, k < 86 → F (86 * (min 20 (u + 1) - 1) + k) = Int32.ofNat (v k)) ∧ ∀ j k, j + 1 < min 20 (u + 1) → k < 86 → F (86 * j + k) = V.2.2.2.1 24 (86 * (j + (if u = 20 then 1 else 0)) + k) := by
  by_cases e : u = 20
  · subst e
    refine ⟨_, m_keepsAct12 S hu, fun k hk => ?_, fun j k hj hk => ?_⟩
    · show zkeepF _ v 19 (86 * 19 + k) = _
      unfold zkeepF
      rw [if_pos (by omega), show 86 * 19 + k - 19 * 86 = k by omega]
    · have hj2 : j + 1 < 20 := hj
      unfold zkeepF
      rw [if_neg (by omega)]
      show (if 86 * j + k < 1634 then V.2.2.2.1 24 (86 * j + k + 86) else V.2.2.2.1 24 (86 * j + k)) = _
      rw [if_pos (by omega), if_pos rfl, show 86 * (j + 1) + k = 86 * j + k + 86 by omega]
  · have hm : min 20 (u + 1) = u + 1 := by omega
    rw [hm]
    refine ⟨zkeepF (V.2.2.2.1 24) v u, ?_, fun k hk => ?_, fun j k hj hk => ?_⟩
    · unfold spX4_keepsAct
      rw [hu, if_neg (show ¬ Int32.ofNat u = 20 from fun z => e ((z_eq (a := u) (b := 20) (by omega) (by decide)).mp z)), m_keepsAct50 S hu (by omega)]
    · unfold zkeepF
      rw [show 86 * (u + 1 - 1) + k = u * 86 + k by omega, if_pos (by omega), show u * 86 + k - u * 86 = k by omega]
    · unfold zkeepF
      rw [if_neg (by omega), if_neg e]
      rfl
theorem x_keeps (I : hf_I P g o V XV f st kp rl rd ps ik sk v) {u pa : Nat} (hu : XV.1 14 = Int32.ofNat u) (h20 : u ≤ 20) (hp : XV.1 15 = Int32.ofNat pa) (hpa : pa < 20) : ∃ DV, spX0_keeps o g = some (hf_xc (hf_sc g (ps pa) DV) o (hf_ui (hf_ui XV 15 (Int32.ofNat ((pa + 1) % 20))) 14 (Int32.ofNat (min 20 (u + 1))))) ∧ hf_S2 DV v := by
  obtain ⟨SV, s1, s2⟩ := I.S
  obtain ⟨q1, ⟨PV, q2⟩, q3, q4, q5⟩ := I.1.2.2.2.2.2.2.2 pa hpa
  obtain ⟨DV, d1, d2⟩ := x_copyFrom s1 q2 (Ne.symm q3)
  refine ⟨DV, ?_, s2.cp I.W d2⟩
  have e := I.e
  have e2 : hf_ob 1 0 (hf_sc g (ps pa) DV) o = some XV := by
    unfold hf_sc
    rw [hf_ob_ne (hf_ob_dif e q2 (by decide))]
    exact e
  unfold spX0_keeps
  rw [I.X.ob, hf_gi_eq e, Option.bind_some, hp, hf_aq_eq e, z_ld hpa (by omega), q1, hf_nn_some, Option.bind_some, I.X.st, Option.bind_some, q2, Option.bind_some, d1, Option.bind_some, hf_gi_eq e2, Option.bind_some, hp, if_neg (by decide)]
  have a1 : Int32.ofNat pa + 1 = Int32.ofNat (pa + 1) := z_add pa 1
  have a2 : Int32.ofNat (pa + 1) - Int32.ofNat (pa + 1) / 20 * 20 = Int32.ofNat ((pa + 1) % 20) := by
    have h1 : Int32.ofNat (pa + 1) / 20 = Int32.ofNat ((pa + 1) / 20) := z_div (b := 20) (by omega) (by decide)
    have h2 : Int32.ofNat ((pa + 1) / 20) * 20 = Int32.ofNat ((pa + 1) / 20 * 20) := z_mul _ 20
    rw [h1, h2, z_rem]
  rw [a1, a2, hf_pi_eq e2, Option.bind_some]
  have e3 : hf_ob 1 0 (hf_up (hf_sc g (ps pa) DV) o (.inl (1, 0, hf_ui XV 15 (Int32.ofNat ((pa + 1) % 20))))) o = some (hf_ui XV 15 (Int32.ofNat ((pa + 1) % 20))) := hf_ob_up _ o 1 0 _
  rw [hf_gi_eq e3, Option.bind_some, hf_ui_ne _ (by decide), hu, hf_let_eq]
  have b1 : Int32.ofNat u + 1 = Int32.ofNat (u + 1) := z_add u 1
  have b2 : (if Int32.ofNat (u + 1) < 20 then Int32.ofNat (u + 1) else 20) = Int32.ofNat (min 20 (u + 1)) := by
    by_cases c : u + 1 < 20
    · rw [if_pos (show Int32.ofNat (u + 1) < 20 from (z_lt (b := 20) (by omega) (by decide)).mpr c), show min 20 (u + 1) = u + 1 by omega]
    · rw [if_neg (show ¬ Int32.ofNat (u + 1) < 20 from fun z => c ((z_lt (b := 20) (by omega) (by decide)).mp z)), show min 20 (u + 1) = 20 by omega]
      rfl
  rw [b1, b2, hf_pi_eq e3, Option.bind_some, hf_up_up]
  rfl
theorem hf_I.keeps (I : hf_I P g o V XV f st kp rl rd ps ik sk v) : ∃ g1 V1 XV1, spX0_keeps o g = some g1 ∧ spX4_keepsAct V = some V1 ∧ hf_I P g1 o V1 XV1 f st kp rl rd ps ik sk v ∧ hf_kq g g1 ∧ g1.2 = g.2 := by
  have I0 := I
  obtain ⟨⟨a1, a2, a3, a4, a5, a6, a7, a8⟩, ⟨b1, b2, b3, b4⟩, ⟨nr, p, c1, c2, c3, c4⟩, ⟨d1, d2, d3, d4⟩, i5, ⟨u, pa, u1, u2, u3, u4, u5, u6⟩, i7, i8, i9⟩ := I
  obtain ⟨DV, x1, x2⟩ := x_keeps I0 u3 u1 u5 u2
  obtain ⟨F, m1, m2, m3⟩ := m_keepsAct b4 u4 u1
  obtain ⟨q1, ⟨PV, q2⟩, q3, q4, q5⟩ := a8 pa u2
  have e2 : hf_ob 1 0 (hf_sc g (ps pa) DV) o = some XV := by
    unfold hf_sc
    rw [hf_ob_ne (hf_ob_dif a1 q2 (by decide))]
    exact a1
  have K : hf_kq g (hf_xc (hf_sc g (ps pa) DV) o (hf_ui (hf_ui XV 15 (Int32.ofNat ((pa + 1) % 20))) 14 (Int32.ofNat (min 20 (u + 1))))) := (hf_kq.up q2 (Or.inr (Or.inl rfl)) _).trans (hf_kq.up e2 (Or.inl rfl) _)
  have hob : ∀ s md ci W, hf_ob md ci g s = some W → s ≠ ps pa → s ≠ o → hf_ob md ci (hf_xc (hf_sc g (ps pa) DV) o (hf_ui (hf_ui XV 15 (Int32.ofNat ((pa + 1) % 20))) 14 (Int32.ofNat (min 20 (u + 1))))) s = some W := fun s md ci W es n1 n2 => by
    unfold hf_xc hf_sc
    rw [hf_ob_ne n2, hf_ob_ne n1]
    exact es
  have hst : ∀ s W, hf_ob 1 2 g s = some W → s ≠ ps pa → hf_ob 1 2 (hf_xc (hf_sc g (ps pa) DV) o (hf_ui (hf_ui XV 15 (Int32.ofNat ((pa + 1) % 20))) 14 (Int32.ofNat (min 20 (u + 1))))) s = some W := fun s W es n1 => hob s 1 2 W es n1 (hf_ob_dif es a1 (by decide))
  have hSS : ∀ s w, s ≠ ps pa → hf_SS g s w → hf_SS (hf_xc (hf_sc g (ps pa) DV) o (hf_ui (hf_ui XV 15 (Int32.ofNat ((pa + 1) % 20))) 14 (Int32.ofNat (min 20 (u + 1))))) s w := fun s w n1 ⟨SV, e1, e2⟩ => ⟨SV, hst s SV e1 n1, e2⟩
  have hpa2 : hf_ob 1 2 (hf_xc (hf_sc g (ps pa) DV) o (hf_ui (hf_ui XV 15 (Int32.ofNat ((pa + 1) % 20))) 14 (Int32.ofNat (min 20 (u + 1))))) (ps pa) = some DV := by
    unfold hf_xc
    rw [hf_ob_ne (hf_ob_dif q2 a1 (by decide))]
    exact hf_ob_sc g (ps pa) DV
  refine ⟨_, _, _, x1, m1, ⟨⟨hf_ob_xc _ o _, a2, a3, a4, a5, ?_, a7, fun k hk => ?_⟩, ⟨b1.kq K, hSS st v (Ne.symm q3) b2, b3, (b4.sa (by decide) F).ui 25 _⟩, ⟨nr, p, c1.kq K, c2, c3, fun t ht => ((c4 t ht).kq K).tx ⟨rfl, rfl, rfl⟩⟩, ⟨?_, fun k hk => d2 k hk, ?_, ?_⟩, i5.fe (hf_fe.rfl_ v) b3.1.v1 rfl rfl, ⟨min 20 (u + 1), (pa + 1) % 20, by omega, Nat.mod_lt _ (by decide), hf_ui_at _ _ _, hf_ui_at _ _ _, ?_, fun j hj => ?_⟩, fun k hk => ?_, fun a ha => ?_, i9⟩, K, rfl⟩
  · obtain ⟨KV, k1⟩ := a6
    exact ⟨KV, hst kp KV k1 (Ne.symm q4)⟩
  · obtain ⟨r1, ⟨PV', r2⟩, r3, r4, r5⟩ := a8 k hk
    refine ⟨r1, ?_, r3, r4, r5⟩
    by_cases z : ps k = ps pa
    · rw [z]; exact ⟨DV, hpa2⟩
    · exact ⟨PV', hst _ PV' r2 z⟩
  · obtain ⟨T, t1, t2, t3⟩ := d1
    exact ⟨T, t1, t2, t3⟩
  · obtain ⟨d, t1, t2, t3⟩ := d3
    exact ⟨d, t1, t2, t3⟩
  · exact d4
  · rw [hf_ui_ne _ (by decide), hf_ui_at]
  · by_cases hj2 : j + 1 < min 20 (u + 1)
    · obtain ⟨w, w1, w2, w3, w4⟩ := u6 (j + (if u = 20 then 1 else 0)) (by split <;> omega)
      refine ⟨w, w1, w2, fun k hk => (m3 j k hj2 hk).trans (w3 k hk), ?_⟩
      have hidx : ((pa + 1) % 20 + 20 - min 20 (u + 1) + j) % 20 = (pa + 20 - u + (j + (if u = 20 then 1 else 0))) % 20 := by
        split <;> omega
      rw [hidx]
      have hm : (pa + 20 - u + (j + (if u = 20 then 1 else 0))) % 20 < 20 := Nat.mod_lt _ (by decide)
      refine hSS _ w (fun z => ?_) w4
      have := q5 _ hm z
      revert this
      split <;> omega
    · have hj3 : j = min 20 (u + 1) - 1 := by omega
      refine ⟨v, b3, hf_fe.rfl_ v, fun k hk => ?_, ?_⟩
      · rw [hj3]; exact m2 k hk
      · have hidx : ((pa + 1) % 20 + 20 - min 20 (u + 1) + j) % 20 = pa := by omega
        rw [hidx]
        exact ⟨DV, hpa2, x2⟩
  · rcases i7 k hk with ⟨r1, r2⟩ | ⟨r1, r2, ⟨IV, fk, w, d, t1, t2, t3, t4, t5, t6, t7, t8⟩, r4, r5, r6, r7⟩
    · exact Or.inl ⟨r1, r2⟩
    · refine Or.inr ⟨r1, r2, ⟨IV, fk, w, d, hob _ 1 18 IV t1 (hf_ob_dif t1 q2 (by decide)) (hf_ob_dif t1 a1 (by decide)), t2, t3, t4, t5.kq K, hSS _ w (r6 pa u2) t6, t7, t8⟩, r4, r5, r6, r7⟩
  · have h1 := i8 a ha
    have n1 : a ≠ ps pa := fun z => by
      subst z
      rw [hf_ob_spec q2] at h1
      cases h1
    have n2 : a ≠ o := fun z => by
      subst z
      rw [hf_ob_spec a1] at h1
      cases h1
    unfold hf_xc hf_sc hf_up
    simp only [if_neg n1, if_neg n2]
    exact h1
/-- all that was kept is forgotten -/
theorem hf_I.forgets (I : hf_I P g o V XV f st kp rl rd ps ik sk v) : hf_I P (hf_xc g o (hf_ui XV 14 0)) o (hf_ui V 25 0) (hf_ui XV 14 0) f st kp rl rd ps ik sk v := by
  have I0 := I
  obtain ⟨⟨a1, a2, a3, a4, a5, a6, a7, a8⟩, ⟨b1, b2, b3, b4⟩, ⟨nr, p, c1, c2, c3, c4⟩, ⟨d1, d2, d3, d4⟩, i5, ⟨u, pa, u1, u2, u3, u4, u5, u6⟩, i7, i8, i9⟩ := I
  have K : hf_kq g (hf_xc g o (hf_ui XV 14 0)) := hf_kq.up a1 (Or.inl rfl) _
  have hob : ∀ s md ci W, hf_ob md ci g s = some W → s ≠ o → hf_ob md ci (hf_xc g o (hf_ui XV 14 0)) s = some W := fun s md ci W es n2 => by
    unfold hf_xc
    rw [hf_ob_ne n2]
    exact es
  have hst : ∀ s W, hf_ob 1 2 g s = some W → hf_ob 1 2 (hf_xc g o (hf_ui XV 14 0)) s = some W := fun s W es => hob s 1 2 W es (hf_ob_dif es a1 (by decide))
  have hSS : ∀ s w, hf_SS g s w → hf_SS (hf_xc g o (hf_ui XV 14 0)) s w := fun s w ⟨SV, e1, e2⟩ => ⟨SV, hst s SV e1, e2⟩
  refine ⟨⟨hf_ob_xc _ o _, a2, a3, a4, a5, ?_, a7, fun k hk => ?_⟩, ⟨b1.kq K, hSS st v b2, b3, b4.ui 25 _⟩, ⟨nr, p, c1.kq K, c2, c3, fun t ht => ((c4 t ht).kq K).tx ⟨rfl, rfl, rfl⟩⟩, ⟨?_, d2, ?_, d4⟩, i5.fe (hf_fe.rfl_ v) b3.1.v1 rfl rfl, ⟨0, pa, by omega, u2, hf_ui_at _ _ _, hf_ui_at _ _ _, u5, fun j hj => by omega⟩, fun k hk => ?_, fun a ha => ?_, i9⟩
  · obtain ⟨KV, k1⟩ := a6
    exact ⟨KV, hst kp KV k1⟩
  · obtain ⟨r1, ⟨PV', r2⟩, r3, r4, r5⟩ := a8 k hk
    exact ⟨r1, ⟨PV', hst _ PV' r2⟩, r3, r4, r5⟩
  · obtain ⟨T, t1, t2, t3⟩ := d1
    exact ⟨T, t1, t2, t3⟩
  · obtain ⟨d, t1, t2, t3⟩ := d3
    exact ⟨d, t1, t2, t3⟩
  · rcases i7 k hk with ⟨r1, r2⟩ | ⟨r1, r2, ⟨IV, fk, w, d, t1, t2, t3, t4, t5, t6, t7, t8⟩, r4, r5, r6, r7⟩
    · exact Or.inl ⟨r1, r2⟩
    · exact Or.inr ⟨r1, r2, ⟨IV, fk, w, d, hob _ 1 18 IV t1 (hf_ob_dif t1 a1 (by decide)), t2, t3, t4, t5.kq K, hSS _ w t6, t7, t8⟩, r4, r5, r6, r7⟩
  · have h1 := i8 a ha
    have n2 : a ≠ o := fun z => by
      subst z
      rw [hf_ob_spec a1] at h1
      cases h1
    unfold hf_xc hf_up
    simp only [if_neg n2]
    exact h1
end ZI
