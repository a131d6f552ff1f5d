set_option maxRecDepth 100000
set_option maxHeartbeats 1000000
/-! how what stays true is kept -/
/-- all is kept but for HalfFair, states, images -/
def hf_kq (h g : hf_H) : Prop := ∀ a x, h.1 a = some x → (∀ ci V, x = .inl (1, ci, V) → ci ≠ 0 ∧ ci ≠ 2 ∧ ci ≠ 18) → g.1 a = some x
section ZI
variable {h g k : hf_H} {Rg : Nat → Prop}
theorem hf_kq.rfl_ (h : hf_H) : hf_kq h h := fun a x e _ => e
theorem hf_kq.trans (A : hf_kq h g) (B : hf_kq g k) : hf_kq h k := fun a x e n => B a x (A a x e n) n
theorem hf_kq.up {a ci : Nat} {V : hf_V} (e : hf_ob 1 ci h a = some V) (hc : ci = 0 ∨ ci = 2 ∨ ci = 18) (x : hf_C) : hf_kq h (hf_up h a x) := fun b y hb n => by
  have hne : b ≠ a := fun z => by
    subst z
    rw [hf_ob_spec e] at hb
    cases hb
    have := n ci V rfl
    omega
  unfold hf_up
  simp only [if_neg hne]
  exact hb
theorem hf_kq.kp (K : hf_kq h g) : hf_kp (fun a => ∃ ci V, hf_ob 1 ci h a = some V ∧ (ci = 0 ∨ ci = 2 ∨ ci = 18)) h g := fun a x e n => K a x e (fun ci V hx => by
  subst hx
  refine ⟨fun z => n ⟨ci, V, ?_, Or.inl z⟩, fun z => n ⟨ci, V, ?_, Or.inr (Or.inl z)⟩, fun z => n ⟨ci, V, ?_, Or.inr (Or.inr z)⟩⟩
  all_goals
    unfold hf_ob
    rw [e]
    simp)
theorem hf_kq_dirt (h : hf_H) (Rg : Nat → Prop) : hf_dirt Rg (fun a => ∃ ci V, hf_ob 1 ci h a = some V ∧ (ci = 0 ∨ ci = 2 ∨ ci = 18)) h := fun a ⟨ci, V, e, hc⟩ => Or.inr ⟨ci, V, e, by omega⟩
theorem hf_Fs.kq {f : Nat} {v : Nat → Nat} (F : hf_Fs Rg h f v) (K : hf_kq h g) : hf_Fs Rg g f v := F.kp K.kp (hf_kq_dirt h Rg)
theorem hf_Rs.kq {a t : Nat} {V : hf_V} (F : hf_Rs Rg h a V t) (K : hf_kq h g) : hf_Rs Rg g a V t := F.kp K.kp (hf_kq_dirt h Rg)
theorem hf_kq.ob (K : hf_kq h g) {a md ci : Nat} {V : hf_V} (e : hf_ob md ci h a = some V) (hc : md = 0 ∨ (ci ≠ 0 ∧ ci ≠ 2 ∧ ci ≠ 18)) : hf_ob md ci g a = some V := by
  have h1 := K a _ (hf_ob_spec e) (fun cj U hx => by
    cases hx
    rcases hc with hc | hc
    · cases hc
    · exact hc)
  unfold hf_ob
  rw [h1]
  simp
theorem hf_kq.pa (K : hf_kq h g) {a : Nat} {ty : FieldType} {r : Nat × hf_B} (e : hf_pa ty h a = some r) : hf_pa ty g a = some r := by
  refine K.kp.pa e (fun ⟨ci, V, e2, _⟩ => ?_)
  have e3 := hf_ob_spec e2
  unfold hf_pa at e
  rw [e3] at e
  cases e
theorem hf_Ld.kq {l d n : Nat} {p : Nat → Nat} (L : hf_Ld h l d n p) (K : hf_kq h g) : hf_Ld g l d n p := by
  obtain ⟨LV, N, B, e1, e2, e3, e4, e5, e6⟩ := L
  exact ⟨LV, N, B, K.ob e1 (Or.inl rfl), e2, e3, K.pa e4, e5, e6⟩
theorem hf_kq.kf (K : hf_kq h g) (h2 : g.2 = h.2) : hf_kf h g := by
  refine ⟨fun a V e => K.ob e (Or.inr (by decide)), fun a x e => K a _ e (fun ci V hx => by cases hx), ?_, ?_⟩
  · rw [h2]; omega
  · rw [h2]; omega
end ZI
/-- what acts leave of HalfFair, of the model -/
def hf_xz (A B : hf_V) : Prop := B.2.2.1 = A.2.2.1 ∧ (∀ k, k = 6 ∨ k = 10 ∨ k = 11 ∨ k = 14 ∨ k = 15 → B.1 k = A.1 k) ∧ (∀ k, k = 5 ∨ k = 7 ∨ k = 8 ∨ k = 9 → B.2.2.2.1 k = A.2.2.2.1 k) ∧ B.2.2.2.2.2 = A.2.2.2.2.2
def hf_mz (A B : hf_V) : Prop := (∀ k, k = 1 ∨ k = 2 ∨ k = 21 ∨ k = 25 → B.1 k = A.1 k) ∧ ∀ k, k ≠ 20 → k ≠ 27 → k ≠ 28 → k ≠ 32 → B.2.2.2.1 k = A.2.2.2.1 k
theorem hf_xz.rfl_ (A : hf_V) : hf_xz A A := ⟨rfl, fun _ _ => rfl, fun _ _ => rfl, rfl⟩
theorem hf_xz.xw (A : hf_V) (W : Nat → Int64) : hf_xz A (hf_xw A W) := ⟨rfl, fun _ _ => rfl, fun _ _ => rfl, rfl⟩
theorem hf_mz.rfl_ (A : hf_V) : hf_mz A A := ⟨fun _ _ => rfl, fun _ _ _ _ _ => rfl⟩
theorem hf_mz.trans {A B C : hf_V} (H : hf_mz A B) (K : hf_mz B C) : hf_mz A C := ⟨fun k a => (K.1 k a).trans (H.1 k a), fun k a b c d => (K.2 k a b c d).trans (H.2 k a b c d)⟩
theorem hf_mq.mz {A B : hf_V} (H : hf_mq A B) : hf_mz A B := ⟨fun k a => H.1 k (by omega) (by omega), fun k a _ _ _ => H.2.2.2.1 k a⟩
theorem hf_mz.tx {A B : hf_V} (H : hf_mz A B) : hf_txq A B := ⟨H.2 3 (by decide) (by decide) (by decide) (by decide), H.2 5 (by decide) (by decide) (by decide) (by decide), H.2 6 (by decide) (by decide) (by decide) (by decide)⟩
theorem hf_TR.eq {A B C : Nat → Int32} {n : Int32} {v w : Nat → Nat} (T : hf_TR A B C n v) (h1 : w 1 = v 1) (h : ∀ k, 86 ≤ k → w k = v k) : hf_TR A B C n w := by
  obtain ⟨t1, t2, t3⟩ := T
  unfold hf_TR
  rw [h 122 (by decide), h1]
  refine ⟨t1, t2, fun k hk => ?_⟩
  rw [h (86 + 3 * k) (by omega), h (86 + 3 * k + 1) (by omega), h (86 + 3 * k + 2) (by omega)]
  exact t3 k hk
/-- worths by the fair alone -/
theorem zfo_fe {v w : Nat → Nat} (E : hf_fe v w) {a b : Nat} (ha : a < v 1) (hb : b < v 1) : zfo w a b = zfo v a b := by
  obtain ⟨a0, a1, a2, a4, a5, a6, a7, a8, a9, a10⟩ := E
  obtain ⟨c0, c1, c2, c4⟩ := a9 a ha
  obtain ⟨d0, d1, d2, d4⟩ := a9 b hb
  unfold zfo zft
  rw [c4, d4, c1, d1, c0, d0, a5]
theorem zinn_fe {v w : Nat → Nat} (E : hf_fe v w) (T : Nat → Nat) (r h : Nat) (hh : h < v 1) : ∀ n, h + 1 + n ≤ v 1 → zinn w T r h n = zinn v T r h n
  | 0, _ => rfl
  | n + 1, hn => by
    show zstep w T r h (h + 1 + n) (zinn w T r h n) = zstep v T r h (h + 1 + n) (zinn v T r h n)
    rw [zinn_fe E T r h hh n (by omega)]
    unfold zstep
    rw [zfo_fe E hh (by omega)]
theorem zTab_fe {v w : Nat → Nat} (E : hf_fe v w) (hn : v 1 ≤ 12) : ∀ n, n < 2 ^ v 1 → zTab w n = zTab v n
  | 0, _ => rfl
  | n + 1, hk => by
    have ih := zTab_fe E hn n (by omega)
    have h12 := (zpow12 hn).2.1
    have hl := z_low (s := n + 1) (by omega) (by omega)
    have hlow : zlow (n + 1) < v 1 := by
      by_cases z : zlow (n + 1) < v 1
      · exact z
      · have h1 : (n + 1).testBit (zlow (n + 1)) = false := Nat.testBit_lt_two_pow (Nat.lt_of_lt_of_le hk (Nat.pow_le_pow_right (by decide) (by omega)))
        rw [hl.2.1] at h1
        cases h1
    have he : zent w (zTab w n).1 (n + 1) = zent v (zTab v n).1 (n + 1) := by
      unfold zent
      rw [ih, E.2.1]
      exact zinn_fe E _ _ _ hlow _ (by omega)
    show (zup (zTab w n).1 (n + 1) (zent w (zTab w n).1 (n + 1)).1, zup (zTab w n).2 (n + 1) (zent w (zTab w n).1 (n + 1)).2) = _
    rw [he, ih]
    rfl
theorem hf_IW.fe {V V' : hf_V} {v w : Nat → Nat} (H : hf_IW V v) (E : hf_fe v w) (hn : v 1 ≤ 12) (h22 : V'.2.2.2.1 22 = V.2.2.2.1 22) (h23 : V'.2.2.2.1 23 = V.2.2.2.1 23) : hf_IW V' w := by
  have hp := (zpow12 hn).2.2
  have e1 := E.2.1
  intro s hs
  rw [e1] at hs
  unfold zW zM
  rw [e1, zTab_fe E hn _ (by omega), h22, h23]
  exact H s hs
section ZI
variable {P : Nat} {g g' : hf_H} {o f st kp rl rd : Nat} {V V' XV XV' : hf_V} {ps ik sk : Nat → Nat} {v v' : Nat → Nat}
theorem hf_I.X (I : hf_I P g o V XV f st kp rl rd ps ik sk v) : hf_XX g o f st := ⟨XV, I.1.1, I.1.2.1, I.1.2.2.1⟩
theorem hf_I.F (I : hf_I P g o V XV f st kp rl rd ps ik sk v) : hf_F g f v := I.2.1.1.F
theorem hf_I.S (I : hf_I P g o V XV f st kp rl rd ps ik sk v) : hf_SS g st v := I.2.1.2.1
theorem hf_I.W (I : hf_I P g o V XV f st kp rl rd ps ik sk v) : hf_wf v := I.2.1.2.2.1.1
theorem hf_I.Wp (I : hf_I P g o V XV f st kp rl rd ps ik sk v) : hf_wp P v := I.2.1.2.2.1
theorem hf_I.sv (I : hf_I P g o V XV f st kp rl rd ps ik sk v) : hf_sv V v := I.2.1.2.2.2
theorem hf_I.e (I : hf_I P g o V XV f st kp rl rd ps ik sk v) : hf_ob 1 0 g o = some XV := I.1.1
theorem hf_I.inv (I : hf_I P g o V XV f st kp rl rd ps ik sk v) : hf_INV P g o V := ⟨XV, f, st, kp, rl, rd, ps, ik, sk, v, I⟩
/-- an act: the state, the kept state, what does not matter -/
theorem hf_I.act (I : hf_I P g o V XV f st kp rl rd ps ik sk v) (K : hf_kq g g') (hx : hf_ob 1 0 g' o = some XV') (xz : hf_xz XV XV') (mz : hf_mz V V') (hS : hf_SS g' st v') (Wf : hf_wp P v') (E : hf_fe v v') (sv : hf_sv V' v') (ht : ∀ k, 86 ≤ k → v' k = v k) (ho : ∀ s SV, s ≠ st → s ≠ kp → hf_ob 1 2 g s = some SV → hf_ob 1 2 g' s = some SV) (hk : ∃ KV, hf_ob 1 2 g' kp = some KV) (hi : ∀ i IV, hf_ob 1 18 g i = some IV → hf_ob 1 18 g' i = some IV) (hn : ∀ a, g'.2.1 ≤ a → g'.1 a = none) : hf_I P g' o V' XV' f st kp rl rd ps ik sk v' := by
  obtain ⟨⟨a1, a2, a3, a4, a5, a6, a7, a8⟩, ⟨b1, b2, b3, b4⟩, ⟨nr, p, c1, c2, c3, c4⟩, ⟨d1, d2, d3, d4⟩, i5, ⟨u, pa, u1, u2, u3, u4, u5, u6⟩, i7, i8, i9⟩ := I
  obtain ⟨x1, x2, x3, x4⟩ := xz
  have hSS : ∀ s w, s ≠ st → s ≠ kp → hf_SS g s w → hf_SS g' s w := fun s w n1 n2 ⟨SV, e1, e2⟩ => ⟨SV, ho s SV n1 n2 e1, e2⟩
  refine ⟨⟨hx, by rw [x1]; exact a2, by rw [x1]; exact a3, by rw [x1]; exact a4, by rw [x1]; exact a5, hk, a7, fun k hk => ?_⟩, ⟨(b1.kq K).fe E, hS, Wf, sv⟩, ⟨nr, p, c1.kq K, c2, (mz.1 2 (by omega)).trans c3, fun t ht => ((c4 t ht).kq K).tx mz.tx⟩, ⟨?_, fun k hk => ?_, ?_, ?_⟩, i5.fe E b3.1.v1 (mz.2 22 (by decide) (by decide) (by decide) (by decide)) (mz.2 23 (by decide) (by decide) (by decide) (by decide)), ⟨u, pa, u1, u2, (x2 14 (by omega)).trans u3, (mz.1 25 (by omega)).trans u4, (x2 15 (by omega)).trans u5, fun j hj => ?_⟩, fun k hk => ?_, hn, fun k hk => ?_⟩
  · obtain ⟨q1, ⟨PV, q2⟩, q3, q4, q5⟩ := a8 k hk
    rw [x4]
    exact ⟨q1, ⟨PV, ho _ PV q3 q4 q2⟩, q3, q4, q5⟩
  · obtain ⟨T, t1, t2, t3⟩ := d1
    exact ⟨T, t1, (x2 6 (by omega)).trans t2, (mz.1 1 (by omega)).trans t3⟩
  · rw [x3 5 (by omega), mz.2 0 (by decide) (by decide) (by decide) (by decide)]
    exact d2 k hk
  · obtain ⟨d, t1, t2, t3⟩ := d3
    exact ⟨d, t1, (x2 11 (by omega)).trans t2, (mz.1 21 (by omega)).trans t3⟩
  · rw [x3 7 (by omega), x3 8 (by omega), x3 9 (by omega), x2 10 (by omega)]
    exact d4.eq E.2.1 ht
  · obtain ⟨w, w1, w2, w3, w4⟩ := u6 j hj
    have hm : (pa + 20 - u + j) % 20 < 20 := Nat.mod_lt _ (by decide)
    obtain ⟨q1, _, q3, q4, q5⟩ := a8 _ hm
    refine ⟨w, w1, ?_, fun k hk => ?_, hSS _ w q3 q4 w4⟩
    · obtain ⟨e0, e1, e2, e4, e5, e6, e7, e8, e9, e10⟩ := E
      obtain ⟨f0, f1, f2, f4, f5, f6, f7, f8, f9, f10⟩ := w2
      refine ⟨f0.trans e0.symm, f1.trans e1.symm, f2.trans e2.symm, f4.trans e4.symm, f5.trans e5.symm, f6.trans e6.symm, f7.trans e7.symm, f8.trans e8.symm, fun k hk => ?_, fun b hb => (f10 b (by omega)).trans (e10 b (by omega)).symm⟩
      obtain ⟨m0, m1, m2, m4⟩ := e9 k (by omega)
      obtain ⟨n0, n1, n2, n4⟩ := f9 k (by omega)
      exact ⟨n0.trans m0.symm, n1.trans m1.symm, n2.trans m2.symm, n4.trans m4.symm⟩
    · rw [mz.2 24 (by decide) (by decide) (by decide) (by decide)]
      exact w3 k hk
  · rw [x4, mz.2 36 (by decide) (by decide) (by decide) (by decide)]
    rcases i7 k hk with ⟨q1, q2⟩ | ⟨q1, q2, ⟨IV, fk, w, d, r1, r2, r3, r4, r5, r6, r7, r8, r9, r10, r11, r12⟩, q4, q5, q6, q7⟩
    · exact Or.inl ⟨q1, q2⟩
    · refine Or.inr ⟨q1, q2, ⟨IV, fk, w, d, hi _ IV r1, r2, r3, r4, r5.kq K, hSS _ w q4 q5 r6, r7, fun i hi2 => ?_, r9, r10, r11, ?_⟩, q4, q5, q6, q7⟩
      · rw [mz.2 34 (by decide) (by decide) (by decide) (by decide)]
        exact r8 i hi2
      · rw [mz.2 35 (by decide) (by decide) (by decide) (by decide)]
        exact r12
  · rw [mz.2 7 (by decide) (by decide) (by decide) (by decide)]
    exact i9 k hk
/-- HalfFair's fields that do not matter change -/
theorem hf_I.xc (I : hf_I P g o V XV f st kp rl rd ps ik sk v) (xz : hf_xz XV XV') (mz : hf_mz V V') (sv : hf_sv V' v) : hf_I P (hf_xc g o XV') o V' XV' f st kp rl rd ps ik sk v := by
  have e := I.e
  have hs : ∀ s SV, hf_ob 1 2 g s = some SV → hf_ob 1 2 (hf_xc g o XV') s = some SV := fun s SV es => by
    unfold hf_xc
    rw [hf_ob_ne (hf_ob_dif es e (by decide))]
    exact es
  obtain ⟨SV, s1, s2⟩ := I.S
  obtain ⟨KV, k1⟩ := I.1.2.2.2.2.2.1
  refine I.act (hf_kq.up e (Or.inl rfl) _) (hf_ob_xc g o XV') xz mz ⟨SV, hs _ SV s1, s2⟩ I.Wp (hf_fe.rfl_ v) sv (fun _ _ => rfl) (fun s SV _ _ es => hs s SV es) ⟨KV, hs _ KV k1⟩ (fun i IV ei => ?_) (fun a ha => ?_)
  · unfold hf_xc
    rw [hf_ob_ne (hf_ob_dif ei e (by decide))]
    exact ei
  · have h1 := I.2.2.2.2.2.2.2.1 a ha
    have hne : a ≠ o := fun z => by
      subst z
      rw [hf_ob_spec e] at h1
      cases h1
    unfold hf_xc hf_up
    simp only [if_neg hne]
    exact h1
/-- the state changes -/
theorem hf_I.sc (I : hf_I P g o V XV f st kp rl rd ps ik sk v) (mz : hf_mz V V') {SV : hf_V} (hS : hf_S2 SV v') (Wf : hf_wp P v') (E : hf_fe v v') (sv : hf_sv V' v') (ht : ∀ k, 86 ≤ k → v' k = v k) : hf_I P (hf_sc g st SV) o V' XV f st kp rl rd ps ik sk v' := by
  obtain ⟨SV0, s1, s2⟩ := I.S
  obtain ⟨KV, k1⟩ := I.1.2.2.2.2.2.1
  have hkn := I.1.2.2.2.2.2.2.1
  refine I.act (hf_kq.up s1 (Or.inr (Or.inl rfl)) _) ?_ (hf_xz.rfl_ XV) mz (hf_SS.sc g st hS) Wf E sv ht (fun s SV' n1 _ es => ?_) ⟨KV, ?_⟩ (fun i IV ei => ?_) (fun a ha => ?_)
  · unfold hf_sc
    rw [hf_ob_ne (hf_ob_dif I.e s1 (by decide))]
    exact I.e
  · unfold hf_sc
    rw [hf_ob_ne n1]
    exact es
  · unfold hf_sc
    rw [hf_ob_ne (fun z => hkn z.symm)]
    exact k1
  · unfold hf_sc
    rw [hf_ob_ne (hf_ob_dif ei s1 (by decide))]
    exact ei
  · have h1 := I.2.2.2.2.2.2.2.1 a ha
    have hne : a ≠ st := fun z => by
      subst z
      rw [hf_ob_spec s1] at h1
      cases h1
    unfold hf_sc hf_up
    simp only [if_neg hne]
    exact h1
/-- the kept state changes -/
theorem hf_I.kc (I : hf_I P g o V XV f st kp rl rd ps ik sk v) (mz : hf_mz V V') (SV : hf_V) (sv : hf_sv V' v) : hf_I P (hf_sc g kp SV) o V' XV f st kp rl rd ps ik sk v := by
  obtain ⟨SV0, s1, s2⟩ := I.S
  obtain ⟨KV, k1⟩ := I.1.2.2.2.2.2.1
  have hkn := I.1.2.2.2.2.2.2.1
  refine I.act (hf_kq.up k1 (Or.inr (Or.inl rfl)) _) ?_ (hf_xz.rfl_ XV) mz ⟨SV0, ?_, s2⟩ I.Wp (hf_fe.rfl_ v) sv (fun _ _ => rfl) (fun s SV' _ n1 es => ?_) ⟨SV, hf_ob_sc g kp SV⟩ (fun i IV ei => ?_) (fun a ha => ?_)
  · unfold hf_sc
    rw [hf_ob_ne (hf_ob_dif I.e k1 (by decide))]
    exact I.e
  · unfold hf_sc
    rw [hf_ob_ne hkn]
    exact s1
  · unfold hf_sc
    rw [hf_ob_ne n1]
    exact es
  · unfold hf_sc
    rw [hf_ob_ne (hf_ob_dif ei k1 (by decide))]
    exact ei
  · have h1 := I.2.2.2.2.2.2.2.1 a ha
    have hne : a ≠ kp := fun z => by
      subst z
      rw [hf_ob_spec k1] at h1
      cases h1
    unfold hf_sc hf_up
    simp only [if_neg hne]
    exact h1
end ZI
