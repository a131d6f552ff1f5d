set_option maxRecDepth 100000
set_option maxHeartbeats 1000000
/-! undo, run -/
section ZI
variable {P : Nat} {g : hf_H} {o f st kp rl rd : Nat} {V XV : hf_V} {ps ik sk : Nat → Nat} {v : Nat → Nat}
theorem hf_wf.lo {v w : Nat → Nat} (W : hf_wf w) (h : ∀ k, k < 86 → v k = w k) (hb : ∀ k, v k < 16777216) : hf_wf v := by
  have q1 := W.v1
  have q2 := W.v2
  obtain ⟨w1, w2, w3, w4⟩ := W
  refine ⟨by rw [h 0 (by decide), h 1 (by decide), h 2 (by decide), h 3 (by decide), h 4 (by decide), h 5 (by decide), h 6 (by decide), h 7 (by decide), h 8 (by decide)]; exact w1, fun k hk => ?_, fun b hb2 => ?_, hb⟩
  · rw [h 1 (by decide)] at hk
    rw [h (10 + 5 * k + 0) (by omega), h (10 + 5 * k + 1) (by omega), h (10 + 5 * k + 2) (by omega), h (10 + 5 * k + 3) (by omega), h (10 + 5 * k + 4) (by omega), h 0 (by decide)]
    exact w2 k hk
  · rw [h 2 (by decide)] at hb2
    rw [h (70 + 4 * b) (by omega), h (70 + 4 * b + 1) (by omega), h (70 + 4 * b + 2) (by omega), h (70 + 4 * b + 3) (by omega), h 0 (by decide), h 2 (by decide)]
    exact w3 b hb2
theorem hf_S2.lo {SV : hf_V} {v w : Nat → Nat} (S : hf_S2 SV w) (W : hf_wf w) (h : ∀ k, k < 86 → v k = w k) : hf_S2 SV v := by
  have q1 := W.v1
  have q2 := W.v2
  obtain ⟨s1, s2, s3⟩ := S
  refine ⟨fun k hk => ?_, fun b hb => ?_, ?_⟩
  · rw [h 1 (by decide)] at hk
    rw [h (10 + 5 * k + 3) (by omega)]
    exact s1 k hk
  · rw [h 2 (by decide)] at hb
    rw [h (70 + 4 * b) (by omega), h (70 + 4 * b + 1) (by omega), h (70 + 4 * b + 2) (by omega)]
    exact s2 b hb
  · rw [h 3 (by decide)]
    exact s3
theorem hf_fe.lo {u v w : Nat → Nat} (E : hf_fe u w) (W : hf_wf w) (h : ∀ k, k < 86 → v k = w k) : hf_fe u v := by
  have q1 := W.v1
  have q2 := W.v2
  obtain ⟨e0, e1, e2, e4, e5, e6, e7, e8, e9, e10⟩ := E
  refine ⟨(h 0 (by decide)).trans e0, (h 1 (by decide)).trans e1, (h 2 (by decide)).trans e2, (h 4 (by decide)).trans e4, (h 5 (by decide)).trans e5, (h 6 (by decide)).trans e6, (h 7 (by decide)).trans e7, (h 8 (by decide)).trans e8, fun k hk => ?_, fun b hb => (h _ (by omega)).trans (e10 b hb)⟩
  obtain ⟨m0, m1, m2, m4⟩ := e9 k hk
  exact ⟨(h _ (by omega)).trans m0, (h _ (by omega)).trans m1, (h _ (by omega)).trans m2, (h _ (by omega)).trans m4⟩
theorem m_undoL (S : hf_sv V v) {u : Nat} (hu : V.1 25 = Int32.ofNat u) (h20 : u < 20) {w : Nat → Nat} (hw : ∀ k, k < 86 → V.2.2.2.1 24 (86 * u + k) = Int32.ofNat (w k)) : lpX4_undo_21 hf_N (Int32.ofNat 0) V = some (Int32.ofNat u, hf_sd20 V (fun k => if k < 86 then w k else v k)) := by
  have hst : V = hf_sd20 V (fun k => if k < 0 then w k else v k) := by
    have e : (fun k => if k < 0 then w k else v k) = v := by
      funext k
      rw [if_neg (by omega)]
    rw [e, S.self]
  have key : ∀ N9, 86 < N9 → lpX4_undo_21 N9 (Int32.ofNat 0) (hf_sd20 V (fun k => if k < 0 then w k else v k)) = some (Int32.ofNat u, hf_sd20 V (fun k => if k < 86 then w k else v k)) := by
    intro N9 hN9
    refine hf_loop (fun n i => lpX4_undo_21 n (Int32.ofNat i) (hf_sd20 V (fun k => if k < i then w k else v k))) 86 _ (fun i n hi => ?_) (fun n => ?_) hN9
    · show ndX4_undo_21 (lpX4_undo_21 n) _ _ = _
      unfold ndX4_undo_21
      have h1 : (hf_sd20 V (fun k => if k < i then w k else v k)).1 25 = Int32.ofNat u := hu
      have h2 : (hf_sd20 V (fun k => if k < i then w k else v k)).2.2.2.1 24 = V.2.2.2.1 24 := hf_sa_ne V (by decide) _
      have a1 : (86 : Int32) * Int32.ofNat u + Int32.ofNat i = Int32.ofNat (86 * u + i) := by rw [z_lit, z_mul, z_add]
      rw [h1, a1, h2, z_lit, if_neg (z_nle (a := 86) (by omega) (by decide)), z_ld (by omega) (by omega), Option.bind_some, hw i hi, z_sd (by omega) (by omega), hf_sd20_ua, hf_let_eq, z_lit, z_add]
      congr 2
      funext k
      unfold zup
      by_cases e : k = i
      · rw [if_pos e, if_pos (by omega), e]
      · rw [if_neg e]
        show (if k < i then w k else v k) = _
        by_cases e2 : k < i
        · rw [if_pos e2, if_pos (by omega)]
        · rw [if_neg e2, if_neg (by omega)]
    · show ndX4_undo_21 (lpX4_undo_21 n) _ _ = _
      unfold ndX4_undo_21
      have h1 : (hf_sd20 V (fun k => if k < 86 then w k else v k)).1 25 = Int32.ofNat u := hu
      rw [h1, z_lit, if_pos (z_yle (a := 86) (by decide) (by decide))]
  rw [← hst] at key
  exact key hf_N (by unfold hf_N; omega)
theorem hf_sv.ui_ {V : hf_V} {v : Nat → Nat} (S : hf_sv V v) (k : Nat) (x : Int32) : hf_sv (hf_ui V k x) v := S
theorem op_undo (J : hf_INV P g o V) : hf_OPr P g o (spX0_undo o g) (spX4_undo V) := by
  obtain ⟨XV, f, st, kp, rl, rd, ps, ik, sk, v, I⟩ := J
  have I0 := I
  obtain ⟨⟨a1, a2, a3, a4, a5, a6, a7, a8⟩, ⟨b1, b2, b3, b4⟩, ⟨nr, p, c1, c2, c3, c4⟩, ⟨d1, d2, d3, d4⟩, i5, ⟨u, pa, u1, u2, u3, u4, u5, u6⟩, i7, i8, i9⟩ := I
  unfold spX0_undo spX4_undo
  rw [hf_gi_eq a1, Option.bind_some, u3, u4]
  by_cases hu : u = 0
  · rw [hu, if_pos (show Int32.ofNat 0 = 0 from rfl), if_pos (show Int32.ofNat 0 = 0 from rfl)]
    exact I0.same _
  have hu' : ¬ Int32.ofNat u = 0 := fun z => hu ((z_eq (b := 0) (by omega) (by decide)).mp z)
  rw [if_neg hu', if_neg hu', hf_gi_eq a1, Option.bind_some, u5, if_neg (by decide)]
  obtain ⟨w, w1, w2, w3, w4⟩ := u6 (u - 1) (by omega)
  have hidx : (pa + 20 - u + (u - 1)) % 20 = (pa + 19) % 20 := by omega
  rw [hidx] at w4
  have hm : (pa + 19) % 20 < 20 := Nat.mod_lt _ (by decide)
  have e1 : Int32.ofNat pa + (20 : Int32) - (1 : Int32) = Int32.ofNat (pa + 19) := by
    have h1 : Int32.ofNat pa + (20 : Int32) = Int32.ofNat (pa + 20) := z_add pa 20
    rw [h1]
    exact z_sub (a := pa + 20) (b := 1) (by omega)
  have e2 : Int32.ofNat (pa + 19) - Int32.ofNat (pa + 19) / 20 * 20 = Int32.ofNat ((pa + 19) % 20) := by
    have h1 : Int32.ofNat (pa + 19) / 20 = Int32.ofNat ((pa + 19) / 20) := z_div (b := 20) (by omega) (by decide)
    have h2 : Int32.ofNat ((pa + 19) / 20) * 20 = Int32.ofNat ((pa + 19) / 20 * 20) := z_mul _ 20
    rw [h1, h2, z_rem]
  have e3 : Int32.ofNat u - (1 : Int32) = Int32.ofNat (u - 1) := z_sub (b := 1) (by omega)
  have o1 : hf_ob 1 0 (hf_up g o (.inl (1, 0, hf_ui XV 15 (Int32.ofNat ((pa + 19) % 20))))) o = some (hf_ui XV 15 (Int32.ofNat ((pa + 19) % 20))) := hf_ob_up _ o 1 0 _
  rw [e1, e2, hf_pi_eq a1, Option.bind_some, hf_gi_eq o1, Option.bind_some, hf_ui_ne _ (by decide), u3, e3, hf_pi_eq o1, Option.bind_some, hf_up_up]
  obtain ⟨XV1, hX1⟩ : ∃ X, X = hf_ui (hf_ui XV 15 (Int32.ofNat ((pa + 19) % 20))) 14 (Int32.ofNat (u - 1)) := ⟨_, rfl⟩
  rw [← hX1]
  obtain ⟨g1, hg1⟩ : ∃ x, x = hf_xc g o XV1 := ⟨_, rfl⟩
  have hgx : hf_up g o (.inl (1, 0, XV1)) = g1 := by rw [hg1]; rfl
  rw [hgx]
  have K1 : hf_kq g g1 := by rw [hg1]; exact hf_kq.up a1 (Or.inl rfl) _
  have ob1 : hf_ob 1 0 g1 o = some XV1 := by rw [hg1]; exact hf_ob_xc g o XV1
  have hob : ∀ s md ci W, hf_ob md ci g s = some W → s ≠ o → hf_ob md ci g1 s = some W := fun s md ci W es n2 => by
    rw [hg1]
    unfold hf_xc
    rw [hf_ob_ne n2]
    exact es
  have hst : ∀ s W, hf_ob 1 2 g s = some W → hf_ob 1 2 g1 s = some W := fun s W es => hob s 1 2 W es (hf_ob_dif es a1 (by decide))
  have xr : XV1.2.2.1 = XV.2.2.1 := by rw [hX1]; rfl
  have xq : XV1.2.2.2.2.2 = XV.2.2.2.2.2 := by rw [hX1]; rfl
  have xa : XV1.2.2.2.1 = XV.2.2.2.1 := by rw [hX1]; rfl
  have xi : ∀ k, k ≠ 14 → k ≠ 15 → XV1.1 k = XV.1 k := fun k n1 n2 => by rw [hX1, hf_ui_ne _ n1, hf_ui_ne _ n2]
  have x14 : XV1.1 14 = Int32.ofNat (u - 1) := by rw [hX1, hf_ui_at]
  have x15 : XV1.1 15 = Int32.ofNat ((pa + 19) % 20) := by rw [hX1, hf_ui_ne _ (by decide), hf_ui_at]
  obtain ⟨q1, ⟨PV, q2⟩, q3, q4, q5⟩ := a8 _ hm
  obtain ⟨SV0, s1, s2⟩ := b2
  obtain ⟨PW, r1, r2⟩ := w4
  have r1' := hst _ PW r1
  have s1' := hst _ SV0 s1
  obtain ⟨DV, t1, t2⟩ := x_copyFrom r1' s1' q3
  have X1 : hf_XX g1 o f st := ⟨XV1, ob1, by rw [xr]; exact a2, by rw [xr]; exact a3⟩
  have ob2 : hf_ob 1 0 (hf_sc g1 st DV) o = some XV1 := by
    unfold hf_sc
    rw [hf_ob_ne (hf_ob_dif ob1 s1' (by decide))]
    exact ob1
  have mU := m_undoL (V := hf_ui V 25 (Int32.ofNat (u - 1))) (b4.ui_ 25 _) (u := u - 1) (hf_ui_at _ _ _) (by omega) (w := w) w3
  have mU' : lpX4_undo_21 hf_N (0 : Int32) (hf_ui V 25 (Int32.ofNat (u - 1))) = _ := mU
  rw [X1.st, Option.bind_some, X1.ob, hf_gi_eq ob1, Option.bind_some, x15, hf_aq_eq ob1, z_ld hm (by omega), xq, q1, hf_nn_some, Option.bind_some, s1', Option.bind_some, t1, Option.bind_some, hf_gi_eq ob2, Option.bind_some, x14, hf_let_eq, mU']
  -- the end
  have hlo : ∀ k, k < 86 → (fun k => if k < 86 then w k else v k) k = w k := fun k hk => if_pos hk
  have Wn : hf_wf (fun k => if k < 86 then w k else v k) := w1.1.lo hlo (fun k => by
    show (if k < 86 then w k else v k) < 16777216
    split
    · exact w1.1.b k
    · exact b3.1.b k)
  have En : hf_fe v (fun k => if k < 86 then w k else v k) := w2.lo w1.1 hlo
  have K2 : hf_kq g (hf_sc g1 st DV) := K1.trans (hf_kq.up s1' (Or.inr (Or.inl rfl)) _)
  have ht : ∀ k, 86 ≤ k → (fun k => if k < 86 then w k else v k) k = v k := fun k hk => if_neg (by omega)
  have hst2 : ∀ s W, hf_ob 1 2 g s = some W → s ≠ st → hf_ob 1 2 (hf_sc g1 st DV) s = some W := fun s W es n1 => by
    unfold hf_sc
    rw [hf_ob_ne n1]
    exact hst s W es
  have hSS2 : ∀ s x, s ≠ st → hf_SS g s x → hf_SS (hf_sc g1 st DV) s x := fun s x n1 ⟨SV, e1, e2⟩ => ⟨SV, hst2 s SV e1 n1, e2⟩
  have sv1 : hf_sv (hf_sd20 (hf_ui V 25 (Int32.ofNat (u - 1))) (fun k => if k < 86 then w k else v k)) (fun k => if k < 86 then w k else v k) := hf_sd20_sv _ Wn.b
  have ar : ∀ k, k ≠ 20 → (hf_sd20 (hf_ui V 25 (Int32.ofNat (u - 1))) (fun k => if k < 86 then w k else v k)).2.2.2.1 k = V.2.2.2.1 k := fun k hk => hf_sa_ne _ hk _
  have ai : ∀ k, k ≠ 25 → (hf_sd20 (hf_ui V 25 (Int32.ofNat (u - 1))) (fun k => if k < 86 then w k else v k)).1 k = V.1 k := fun k hk => hf_ui_ne V hk _
  refine ⟨_, _, _, rfl, rfl, ⟨XV1, f, st, kp, rl, rd, ps, ik, sk, _, ⟨ob2, by rw [xr]; exact a2, by rw [xr]; exact a3, by rw [xr]; exact a4, by rw [xr]; exact a5, ?_, a7, fun k hk => ?_⟩, ⟨(b1.kq K2).fe En, hf_SS.sc g1 st ((r2.cp w1.1 t2).lo w1.1 hlo), ⟨Wn, fun b hb => ?_⟩, sv1⟩, ⟨nr, p, c1.kq K2, c2, (ai 2 (by decide)).trans c3, fun t ht => ((c4 t ht).kq K2).tx ⟨ar 3 (by decide), ar 5 (by decide), ar 6 (by decide)⟩⟩, ⟨?_, fun k hk => ?_, ?_, ?_⟩, i5.fe En b3.1.v1 (ar 22 (by decide)) (ar 23 (by decide)), ⟨u - 1, (pa + 19) % 20, by omega, hm, x14, hf_ui_at V 25 (Int32.ofNat (u - 1)), x15, fun j hj => ?_⟩, fun k hk => ?_, fun a ha => ?_, fun k hk => ?_⟩, K2.kf (by rw [hg1]; rfl)⟩
  · obtain ⟨KV, k1⟩ := a6
    exact ⟨KV, hst2 kp KV k1 (Ne.symm a7)⟩
  · obtain ⟨r1, ⟨PV', r2⟩, r3, r4, r5⟩ := a8 k hk
    rw [xq]
    exact ⟨r1, ⟨PV', hst2 _ PV' r2 r3⟩, r3, r4, r5⟩
  · have hb2 : b < w 2 := by
      have : (fun k => if k < 86 then w k else v k) 2 = w 2 := hlo 2 (by decide)
      rw [this] at hb
      exact hb
    have := w1.1.v2
    show (if 70 + 4 * b < 86 then w (70 + 4 * b) else v (70 + 4 * b)) ≤ P
    rw [if_pos (by omega)]
    exact w1.2 b hb2
  · obtain ⟨T, t1, t2, t3⟩ := d1
    exact ⟨T, t1, (xi 6 (by decide) (by decide)).trans t2, (ai 1 (by decide)).trans t3⟩
  · rw [xa, ar 0 (by decide)]
    exact d2 k hk
  · obtain ⟨d, t1, t2, t3⟩ := d3
    exact ⟨d, t1, (xi 11 (by decide) (by decide)).trans t2, (ai 21 (by decide)).trans t3⟩
  · rw [xa, xi 10 (by decide) (by decide)]
    exact d4.eq En.2.1 ht
  · obtain ⟨y, y1, y2, y3, y4⟩ := u6 j (by omega)
    have hidx2 : ((pa + 19) % 20 + 20 - (u - 1) + j) % 20 = (pa + 20 - u + j) % 20 := by omega
    have hm2 : (pa + 20 - u + j) % 20 < 20 := Nat.mod_lt _ (by decide)
    obtain ⟨z1, _, z3, z4, z5⟩ := a8 _ hm2
    refine ⟨y, y1, ?_, fun k hk => ?_, ?_⟩
    · obtain ⟨e0, e1, e2, e4, e5, e6, e7, e8, e9, e10⟩ := En
      obtain ⟨f0, f1, f2, f4, f5, f6, f7, f8, f9, f10⟩ := y2
      refine ⟨f0.trans e0.symm, f1.trans e1.symm, f2.trans e2.symm, f4.trans e4.symm, f5.trans e5.symm, f6.trans e6.symm, f7.trans e7.symm, f8.trans e8.symm, fun k hk => ?_, fun b hb => (f10 b (by omega)).trans (e10 b (by omega)).symm⟩
      obtain ⟨m0, m1, m2, m4⟩ := e9 k (by omega)
      obtain ⟨n0, n1, n2, n4⟩ := f9 k (by omega)
      exact ⟨n0.trans m0.symm, n1.trans m1.symm, n2.trans m2.symm, n4.trans m4.symm⟩
    · rw [ar 24 (by decide)]
      exact y3 k hk
    · rw [hidx2]
      exact hSS2 _ y z3 y4
  · rw [xq, ar 36 (by decide)]
    rcases i7 k hk with ⟨r1, r2⟩ | ⟨r1, r2, ⟨IV, fk, w, d, t1, t2, t3, t4, t5, t6, t7, t8, t9, t10, t11, t12⟩, r4, r5, r6, r7⟩
    · exact Or.inl ⟨r1, r2⟩
    · refine Or.inr ⟨r1, r2, ⟨IV, fk, w, d, ?_, t2, t3, t4, t5.kq K2, hSS2 _ w r4 t6, t7, fun i hi => ?_, t9, t10, t11, ?_⟩, r4, r5, r6, r7⟩
      · unfold hf_sc
        rw [hf_ob_ne (hf_ob_dif t1 s1 (by decide))]
        exact hob _ 1 18 IV t1 (hf_ob_dif t1 a1 (by decide))
      · rw [ar 34 (by decide)]; exact t8 i hi
      · rw [ar 35 (by decide)]; exact t12
  · have ha2 : g.2.1 ≤ a := by
      have : (hf_sc g1 st DV).2 = g.2 := by rw [hg1]; rfl
      rw [this] at ha
      exact ha
    have h1 := i8 a ha2
    have n1 : a ≠ st := fun z => by
      subst z
      rw [hf_ob_spec s1] at h1
      cases h1
    have n2 : a ≠ o := fun z => by
      subst z
      rw [hf_ob_spec a1] at h1
      cases h1
    rw [hg1]
    unfold hf_xc hf_sc hf_up
    simp only [if_neg n1, if_neg n2]
    exact h1
  · rw [ar 7 (by decide)]
    exact i9 k hk
end ZI
set_option maxRecDepth 100000
set_option maxHeartbeats 1000000
/-! run, bring -/
section ZX
variable {h g : hf_H} {o f s s' : Nat} {v v' : Nat → Nat} {XV V V' : hf_V} {a t : Nat}
theorem hf_JJ.kq (B : hf_BB h o f s s' XV V v a t) (J : hf_JJ h o s' XV V v g V' v') : hf_kq h g ∧ g.2 = h.2 ∧ ∃ W, hf_ob 1 0 g o = some (hf_xw XV W) := by
  obtain ⟨W, SV, rfl, j2, Wf, E, Sv, M⟩ := J
  obtain ⟨S1, e1⟩ := hf_JJ.s1 B W
  exact ⟨(hf_kq.up B.2.2.1 (Or.inl rfl) _).trans (hf_kq.up e1 (Or.inr (Or.inl rfl)) _), rfl, W, hf_JJ.oo B W SV⟩
end ZX
section ZI
variable {P : Nat} {g g' : hf_H} {o f st kp rl rd : Nat} {V V' XV : hf_V} {ps ik sk : Nat → Nat} {v v' : Nat → Nat}
theorem hf_JJ.I (I : hf_I P g o V XV f st kp rl rd ps ik sk v) (J : hf_JJ g o st XV V v g' V' v') (hm : ∀ b, v' (70 + 4 * b) ≤ v (70 + 4 * b)) (hi : ∀ k, 86 ≤ k → v' k = v k) : ∃ W, hf_I P g' o V' (hf_xw XV W) f st kp rl rd ps ik sk v' := by
  obtain ⟨W, SV, rfl, j2, Wf, E, Sv, M⟩ := J
  exact ⟨W, (I.xc (hf_xz.xw XV W) (hf_mz.rfl_ V) I.sv).sc M.mz j2 ⟨Wf, fun b hb => Nat.le_trans (hm b) (I.Wp.2 b (by rw [E.2.2.1] at hb; exact hb))⟩ E Sv hi⟩
theorem hf_I.self (I : hf_I P g o V XV f st kp rl rd ps ik sk v) : hf_JJ g o st XV V v g V v := by
  obtain ⟨SV, s1, s2⟩ := I.S
  exact ⟨XV.2.2.2.2.1 16, SV, by rw [hf_xw_self, hf_xc_self I.e, hf_SS.self s1], s2, I.W, hf_fe.rfl_ v, I.sv, hf_mq.rfl_ V⟩
theorem hf_I.rul (I : hf_I P g o V XV f st kp rl rd ps ik sk v) : hf_ga 1 0 3 g o = some rl := by
  rw [hf_ga_eq I.e]
  exact I.1.2.2.2.2.1.1
theorem x_isRule (I : hf_I P g o V XV f st kp rl rd ps ik sk v) {nr : Nat} {p : Nat → Nat} (L : hf_Ld g rl rd nr p) (h6 : nr ≤ 6) (x : Int32) : spX0_isRule o x g = some (if zin x nr then Int32.ofNat 1 else Int32.ofNat 0, g) := by
  unfold spX0_isRule
  rw [I.rul, Option.bind_some, L.L.ob, L.L.size, hf_b2_some, x_inn x (by omega), Option.bind_some, if_pos]
  split
  · exact Or.inr rfl
  · exact Or.inl rfl
theorem m_isRule {nr : Nat} (hn : V.1 2 = Int32.ofNat nr) (h6 : nr ≤ 6) (x : Int32) : spX4_isRule x V = some (if zin x nr then Int32.ofNat 1 else Int32.ofNat 0, V) := by
  unfold spX4_isRule
  rw [hn]
  by_cases h : zin x nr
  · obtain ⟨k, hk, rfl⟩ := zin_ex h (by omega)
    rw [if_pos h, if_neg (z_n0 k (by omega)), if_neg (z_nle hk (by omega))]; rfl
  · rw [if_neg h]
    rcases zin_no h with h1 | ⟨h1, h2⟩
    · rw [if_pos h1]; rfl
    · rw [if_neg h1, if_pos h2]; rfl
theorem zin_48 {x : Int32} (h : 1 ≤ x ∧ x ≤ 48) : ∃ n, 1 ≤ n ∧ n ≤ 48 ∧ x = Int32.ofNat n := by
  have h0 : (0 : Int32) ≤ x := Int32.le_trans (by decide) h.1
  obtain ⟨m, hb, rfl⟩ : ∃ m : Nat, m < 2147483648 ∧ x = Int32.ofNat m := ⟨x.toNatClampNeg, Int32.toNatClampNeg_lt x, (Int32.ofNat_toNatClampNeg x h0).symm⟩
  exact ⟨m, (z_le (a := 1) (by decide) hb).mp h.1, (z_le (b := 48) hb (by decide)).mp h.2, rfl⟩
theorem op_run (J : hf_INV P g o V) (a b : Int32) : hf_OPr P g o (spX0_run o a b g) (spX4_run a b V) := by
  obtain ⟨XV, f, st, kp, rl, rd, ps, ik, sk, v, I⟩ := J
  obtain ⟨nr, p, c1, c2, c3, c4⟩ := I.2.2.1
  have q3 := I.W.v3
  unfold spX0_run spX4_run
  rw [I.X.ob, x_isFair I.X I.F I.W, hf_b2_some, m_isFair I.sv, hf_b2_some]
  by_cases h0 : v 0 = 0
  · rw [if_pos h0, if_pos (show Int32.ofNat 0 = 0 from rfl), if_pos (show Int32.ofNat 0 = 0 from rfl)]; exact I.same _
  rw [if_neg h0, if_neg (show ¬ Int32.ofNat 1 = 0 by decide), if_neg (show ¬ Int32.ofNat 1 = 0 by decide), I.X.ob, x_isRule I c1 c2, hf_b2_some, m_isRule c3 c2, hf_b2_some]
  by_cases hz : zin a nr
  case neg => rw [z1F hz, z1F hz]; exact I.same _
  have xb : spX0_in b.toInt64 (1 : Int64) (48 : Int64) = some (if 1 ≤ b ∧ b ≤ 48 then Int32.ofNat 1 else Int32.ofNat 0) := z_in3 b 1 48
  have mb : spX4_in b.toInt64 (1 : Int64) (48 : Int64) = some (if 1 ≤ b ∧ b ≤ 48 then Int32.ofNat 1 else Int32.ofNat 0) := xb
  rw [z1T hz, z1T hz, xb, Option.bind_some, mb, Option.bind_some]
  by_cases hb : 1 ≤ b ∧ b ≤ 48
  case neg => rw [z1F hb, z1F hb]; exact I.same _
  obtain ⟨t, ht, rfl⟩ := zin_ex hz (by omega)
  obtain ⟨n, hn1, hn2, rfl⟩ := zin_48 hb
  rw [z1T hb, z1T hb, I.X.st, Option.bind_some, I.S.now, Option.bind_some, I.sv.l3, Option.bind_some, z_add]
  by_cases h9 : v 3 + n ≤ 99
  case neg =>
    have h9' : ¬ Int32.ofNat (v 3 + n) ≤ 99 := z_nle (a := v 3 + n) (b := 99) (by omega) (by omega)
    rw [if_neg h9', if_neg h9']; exact I.same _
  have h9' : Int32.ofNat (v 3 + n) ≤ 99 := z_yle (b := 99) h9 (by decide)
  rw [if_pos h9', if_pos h9', I.X.ob]
  have xf : spX0_forgets o g = some (hf_xc g o (hf_ui XV 14 0)) := by
    unfold spX0_forgets
    rw [hf_pi_eq I.e, Option.bind_some]
    rfl
  rw [xf, Option.bind_some, hf_let_eq]
  have I1 := I.forgets
  have K1 : hf_kq g (hf_xc g o (hf_ui XV 14 0)) := hf_kq.up I.e (Or.inl rfl) _
  have R1 : hf_Rul (hf_xc g o (hf_ui XV 14 0)) (p t) (hf_ui V 25 0) t := ((c4 t ht).kq K1).R.tx ⟨rfl, rfl, rfl⟩
  have B : hf_BB (hf_xc g o (hf_ui XV 14 0)) o f st st (hf_ui XV 14 0) (hf_ui V 25 0) v (p t) t := ⟨I1.X, I1.F, I1.e, (by obtain ⟨SV, s1, s2⟩ := I1.S; exact ⟨SV, s1⟩), R1⟩
  have L1 := c1.kq K1
  have key : hf_OPr P (hf_xc g o (hf_ui XV 14 0)) o (lpX0_run_49 hf_N o (Int32.ofNat t) (Int32.ofNat n) (Int32.ofNat 0) (hf_xc g o (hf_ui XV 14 0))) (lpX4_run_49 hf_N (Int32.ofNat t) (Int32.ofNat n) (Int32.ofNat 0) (hf_ui V 25 0)) := by
    refine hf_loopR2 (fun m i (z : hf_H × hf_V × (Nat → Nat)) => lpX0_run_49 m o (Int32.ofNat t) (Int32.ofNat n) (Int32.ofNat i) z.1) (fun m i (z : hf_H × hf_V × (Nat → Nat)) => lpX4_run_49 m (Int32.ofNat t) (Int32.ofNat n) (Int32.ofNat i) z.2.1) (fun i z => hf_JJ (hf_xc g o (hf_ui XV 14 0)) o st (hf_ui XV 14 0) (hf_ui V 25 0) v z.1 z.2.1 z.2.2 ∧ z.2.2 3 = v 3 + i ∧ (∀ b, z.2.2 (70 + 4 * b) ≤ v (70 + 4 * b)) ∧ ∀ k, 86 ≤ k → z.2.2 k = v k) n (fun r1 r2 => hf_OPr P (hf_xc g o (hf_ui XV 14 0)) o r1 r2) (fun i m z hi hP => ?_) (fun m z hP => ?_) (hf_xc g o (hf_ui XV 14 0), hf_ui V 25 0, v) ⟨I1.self, rfl, fun _ => Nat.le_refl _, fun _ _ => rfl⟩ (fuel := hf_N) (by unfold hf_N; omega)
    · obtain ⟨g1, V1, v1⟩ := z
      obtain ⟨p1, p2, p3, p4⟩ := hP
      simp only at p1 p2 p3 p4
      right
      obtain ⟨X1, F1, S1, Wf1, Sv1, E1, Rr1⟩ := p1.x2 B
      obtain ⟨Kq, hc2, W, ew⟩ := p1.kq B
      obtain ⟨S, g2, V2, v2, b1, b2, b3, b4, b5, b6⟩ := xm_hour B p1 (by omega)
      have L2 := L1.kq Kq
      have rl2 : hf_ga 1 0 3 g1 o = some rl := by
        rw [hf_ga_eq ew]
        exact I.1.2.2.2.2.1.1
      have hob8 : ∀ K : Option (Int32 × hf_H), ((hf_ob 0 8 g1 (p t)).bind fun _ => K) = K := fun K => by
        obtain ⟨_, RV, l, nn, p, r1, -⟩ := Rr1
        rw [r1]; rfl
      refine ⟨(g2, V2, v2), ?_, ?_, b3, by show v2 3 = v 3 + (i + 1); omega, fun c => Nat.le_trans (b5.2.2.1 c) (p3 c), fun k hk => (b5.2.2.2 k hk).trans (p4 k hk)⟩
      · show ndX0_run_49 (lpX0_run_49 m) o (Int32.ofNat t) (Int32.ofNat n) (Int32.ofNat i) g1 = lpX0_run_49 m o (Int32.ofNat t) (Int32.ofNat n) (Int32.ofNat (i + 1)) g2
        unfold ndX0_run_49
        rw [if_neg (z_nle hi (by omega)), X1.st, Option.bind_some, rl2, Option.bind_some, L2.L.ob, L2.L.get ht (by omega), hf_b2_some, hob8, X1.ob, b1, hf_b2_some, hf_let_eq, z_lit, z_add]
      · show ndX4_run_49 (lpX4_run_49 m) (Int32.ofNat t) (Int32.ofNat n) (Int32.ofNat i) V1 = lpX4_run_49 m (Int32.ofNat t) (Int32.ofNat n) (Int32.ofNat (i + 1)) V2
        unfold ndX4_run_49
        rw [if_neg (z_nle hi (by omega)), b2, Option.bind_some, hf_let_eq, z_lit, z_add]
    · obtain ⟨g1, V1, v1⟩ := z
      obtain ⟨p1, p2, p3, p4⟩ := hP
      simp only at p1 p2 p3 p4
      obtain ⟨W, I2⟩ := hf_JJ.I I1 p1 p3 p4
      obtain ⟨Kq, hc2, -⟩ := p1.kq B
      refine ⟨Int32.ofNat (v1 3), g1, V1, ?_, ?_, I2.inv, Kq.kf hc2⟩
      · show ndX0_run_49 (lpX0_run_49 m) o (Int32.ofNat t) (Int32.ofNat n) (Int32.ofNat n) g1 = _
        unfold ndX0_run_49
        rw [if_pos (z_yle (Nat.le_refl _) (by omega)), I2.X.st, Option.bind_some, I2.S.now, Option.bind_some]
      · show ndX4_run_49 (lpX4_run_49 m) (Int32.ofNat t) (Int32.ofNat n) (Int32.ofNat n) V1 = _
        unfold ndX4_run_49
        rw [if_pos (z_yle (Nat.le_refl _) (by omega)), I2.sv.l3, Option.bind_some]
  obtain ⟨r, g', V', h1, h2, h3, h4⟩ := key
  refine ⟨r, g', V', h1, h2, h3, ?_⟩
  obtain ⟨k1, k2, k3, k4, k5⟩ := h4
  obtain ⟨j1, j2, j3, j4, j5⟩ := K1.kf (g := hf_xc g o (hf_ui XV 14 0)) rfl
  exact ⟨fun a W e => k1 a W (j1 a W e), fun a x e => k2 a x (j2 a x e), k3, k4, fun a W e => (j5 a W e).elim (fun W' e' => k5 a W' e')⟩
end ZI
set_option maxRecDepth 100000
set_option maxHeartbeats 1000000
/-! what is there; trials, seed, tape -/
section ZI
variable {P : Nat} {g g' : hf_H} {o f st kp rl rd : Nat} {V V' XV : hf_V} {ps ik sk : Nat → Nat} {v v' : Nat → Nat}
theorem hf_I.fit0 (I : hf_I P g o V XV f st kp rl rd ps ik sk v) (x : Int32) : (hf_ob 1 0 g o) = some XV := I.e
theorem zne {k m : Nat} (h : k ≠ m) (hk : k < 2147483648) (hm : m < 2147483648) : ¬ Int32.ofNat k = Int32.ofNat m := fun z => h ((z_eq hk hm).mp z)
theorem op_half (J : hf_INV P g o V) (a b : Int32) : hf_OPr P g o (spX0_half o a b g) (spX4_half a b V) := by
  obtain ⟨XV, f, st, kp, rl, rd, ps, ik, sk, v, I⟩ := J
  have q1 := I.W.v1
  unfold spX0_half spX4_half
  rw [I.X.ob, x_isHalf I.X I.F I.W, hf_b2_some, m_isHalfZ I.sv, hf_b2_some]
  by_cases hz : zin a (v 1)
  case neg => rw [z1F hz, z1F hz]; exact I.same _
  have m4 : spX4_in b.toInt64 (0 : Int64) (4 : Int64) = some (if zin b 5 then Int32.ofNat 1 else Int32.ofNat 0) := m_inl b (n := 4) (by decide)
  rw [z1T hz, z1T hz, m4, Option.bind_some]
  obtain ⟨k, hk, rfl⟩ := zin_ex hz (by omega)
  have h0 := I.W.h0 hk
  have qk := I.W.half hk
  by_cases hw : zin b 5
  case neg =>
    have hn : ∀ j, j < 5 → ¬ b = Int32.ofNat j := fun j hj z => hw (by rw [z]; exact zin_of hj (by decide))
    rw [z1F hw, if_neg (show ¬ b = 0 from hn 0 (by decide)), if_neg (show ¬ b = 1 from hn 1 (by decide)), if_neg (show ¬ b = 2 from hn 2 (by decide)), if_neg (show ¬ b = 3 from hn 3 (by decide)), if_neg (show ¬ b = 4 from hn 4 (by decide))]
    exact I.same _
  rw [z1T hw]
  obtain ⟨j, hj, rfl⟩ := zin_ex hw (by decide)
  rcases (show j = 0 ∨ j = 1 ∨ j = 2 ∨ j = 3 ∨ j = 4 by omega) with rfl | rfl | rfl | rfl | rfl
  · rw [if_pos (show Int32.ofNat 0 = 0 from rfl), if_neg (show ¬ Int32.ofNat 0 = 2 by decide), I.X.fa, Option.bind_some, I.F.shape I.W hk, m_halfOf I.sv (w := 0) (by omega), hf_b2_some]
    exact I.same _
  · rw [if_neg (show ¬ Int32.ofNat 1 = 0 by decide), if_pos (show Int32.ofNat 1 = 1 from rfl), if_neg (show ¬ Int32.ofNat 1 = 2 by decide), I.X.fa, Option.bind_some, I.F.side I.W hk, m_halfOf I.sv (w := 1) (by omega), hf_b2_some]
    exact I.same _
  · rw [if_neg (show ¬ Int32.ofNat 2 = 0 by decide), if_neg (show ¬ Int32.ofNat 2 = 1 by decide), if_pos (show Int32.ofNat 2 = 2 from rfl), if_pos (show Int32.ofNat 2 = 2 from rfl), I.X.fa, Option.bind_some, I.X.st, Option.bind_some, I.S.now, Option.bind_some, I.F.ob, x_priceAt I.F I.W hk, hf_b2_some, m_priceOf I.sv (by omega), hf_b2_some]
    exact I.same _
  · rw [if_neg (show ¬ Int32.ofNat 3 = 0 by decide), if_neg (show ¬ Int32.ofNat 3 = 1 by decide), if_neg (show ¬ Int32.ofNat 3 = 2 by decide), if_pos (show Int32.ofNat 3 = 3 from rfl), if_neg (show ¬ Int32.ofNat 3 = 2 by decide), I.X.st, Option.bind_some, I.S.ob, I.S.where_ hk q1, Option.bind_some, m_halfOf I.sv (w := 3) (by omega), hf_b2_some]
    exact I.same _
  · have hf := zforg_lt v q1
    have e4 : (if (if (zforg v).testBit k then 1 else 0) = 0 then 0 else 1) = v (10 + 5 * k + 4) := by
      rw [zforg_bit v k hk]
      rcases (show v (10 + 5 * k + 4) = 0 ∨ v (10 + 5 * k + 4) = 1 by omega) with e | e <;> rw [e] <;> rfl
    rw [if_neg (show ¬ Int32.ofNat 4 = 0 by decide), if_neg (show ¬ Int32.ofNat 4 = 1 by decide), if_neg (show ¬ Int32.ofNat 4 = 2 by decide), if_neg (show ¬ Int32.ofNat 4 = 3 by decide), if_pos (show Int32.ofNat 4 = 4 from rfl), if_neg (show ¬ Int32.ofNat 4 = 2 by decide), I.X.fa, Option.bind_some, I.F.forged h0, Option.bind_some, x_has (by omega) (by omega), Option.bind_some, x_bit (by split <;> omega), Option.bind_some, m_halfOf I.sv (w := 4) (by omega), hf_b2_some, e4]
    exact I.same _
theorem op_fit (J : hf_INV P g o V) (a b : Int32) : hf_OPr P g o (spX0_fit o a b g) (spX4_fit a b V) := by
  obtain ⟨XV, f, st, kp, rl, rd, ps, ik, sk, v, I⟩ := J
  have q1 := I.W.v1
  unfold spX0_fit spX4_fit
  rw [I.X.ob, x_isHalf I.X I.F I.W, hf_b2_some, m_isHalfZ I.sv, hf_b2_some]
  by_cases hz : zin a (v 1)
  case neg => rw [z1F hz, z1F hz]; exact I.same _
  rw [z1T hz, z1T hz, I.X.ob, x_isHalf I.X I.F I.W, hf_b2_some, m_isHalfZ I.sv, hf_b2_some]
  by_cases hw : zin b (v 1)
  case neg => rw [z1F hw, z1F hw]; exact I.same _
  rw [z1T hw, z1T hw]
  obtain ⟨i, hi, rfl⟩ := zin_ex hz (by omega)
  obtain ⟨k, hk, rfl⟩ := zin_ex hw (by omega)
  by_cases he : Int32.ofNat i = Int32.ofNat k
  case pos => rw [if_pos he, if_pos he]; exact I.same _
  rw [if_neg he, if_neg he, I.X.ob, x_fit2 I.X I.F I.W hi hk, hf_b2_some, m_fitOf I.sv (by omega) (by omega), hf_b2_some]
  exact I.same _
theorem op_spot (J : hf_INV P g o V) (a b : Int32) : hf_OPr P g o (spX0_spot o a b g) (spX4_spot a b V) := by
  obtain ⟨XV, f, st, kp, rl, rd, ps, ik, sk, v, I⟩ := J
  have q0 := I.W.v0
  have q3 := I.W.v3
  have q4 := I.W.v4
  unfold spX0_spot spX4_spot
  rw [I.X.ob, x_isStall I.X I.F I.W, hf_b2_some, I.sv.l0, Option.bind_some]
  by_cases hz : zin a (v 0)
  case neg =>
    rw [z1F hz]
    rcases zin_no hz with h1 | ⟨h1, h2⟩
    · rw [if_pos h1]; exact I.same _
    · rw [if_neg h1, if_pos h2]; exact I.same _
  obtain ⟨i, hi, rfl⟩ := zin_ex hz (by omega)
  have x99 : spX0_in b.toInt64 (0 : Int64) (99 : Int64) = some (if zin b 100 then Int32.ofNat 1 else Int32.ofNat 0) := x_inl b (n := 99) (by decide)
  have m99 : spX4_in b.toInt64 (0 : Int64) (99 : Int64) = some (if zin b 100 then Int32.ofNat 1 else Int32.ofNat 0) := x99
  rw [z1T hz, if_neg (z_n0 i (by omega)), if_neg (z_nle hi (by omega)), x99, Option.bind_some, m99, Option.bind_some]
  by_cases hw : zin b 100
  case neg => rw [z1F hw, z1F hw]; exact I.same _
  obtain ⟨k, hk, rfl⟩ := zin_ex hw (by decide)
  rw [z1T hw, z1T hw, I.X.fa, Option.bind_some, I.X.st, Option.bind_some, I.S.now, Option.bind_some, I.F.ob, z_add, x_spotOf I.F I.W (by omega) (by omega) (by omega), hf_b2_some, I.sv.l3, Option.bind_some, z_add, m_spotAt I.sv (by omega) (by omega) (by omega) (by omega), hf_b2_some]
  exact I.same _
theorem op_count (J : hf_INV P g o V) (a : Int32) : hf_OPr P g o (spX0_count o a g) (spX4_count a V) := by
  obtain ⟨XV, f, st, kp, rl, rd, ps, ik, sk, v, I⟩ := J
  have q1 := I.W.v1
  have q3 := I.W.v3
  have q6 := I.W.v6
  unfold spX0_count spX4_count ndX4_count_60
  by_cases h0 : a = 0
  · subst h0
    rw [if_pos rfl, if_pos rfl, I.X.fa, Option.bind_some, I.F.stalls, Option.bind_some, I.sv.l0, Option.bind_some]; exact I.same _
  rw [if_neg h0, if_neg h0]
  by_cases h1 : a = 1
  · subst h1
    rw [if_pos rfl, if_pos rfl, I.X.ob, x_many I.X I.F, hf_b2_some, I.sv.l1, Option.bind_some]; exact I.same _
  rw [if_neg h1, if_neg h1]
  by_cases h2 : a = 2
  · subst h2
    rw [if_pos rfl, if_pos rfl, I.X.ob, x_buyers I.X I.F, hf_b2_some, I.sv.l2, Option.bind_some]; exact I.same _
  rw [if_neg h2, if_neg h2]
  by_cases h3 : a = 3
  · obtain ⟨nr, p, c1, c2, c3, c4⟩ := I.2.2.1
    subst h3
    rw [if_pos rfl, if_pos rfl, I.rul, Option.bind_some, c1.L.ob, c1.L.size, hf_b2_some, c3]; exact I.same _
  rw [if_neg h3, if_neg h3]
  by_cases h4 : a = 4
  · subst h4
    rw [if_pos rfl, if_pos rfl, I.X.st, Option.bind_some, I.S.now, Option.bind_some, I.sv.l3, Option.bind_some]; exact I.same _
  rw [if_neg h4, if_neg h4]
  by_cases h5 : a = 5
  · subst h5
    rw [if_pos rfl, if_pos rfl, I.X.ob, x_isFair I.X I.F I.W, hf_b2_some, m_isFair I.sv, hf_b2_some]
    by_cases hv : v 0 = 0
    · rw [if_pos hv, if_pos (show Int32.ofNat 0 = 0 from rfl), if_pos (show Int32.ofNat 0 = 0 from rfl)]; exact I.same _
    rw [if_neg hv, if_neg (show ¬ Int32.ofNat 1 = 0 by decide), if_neg (show ¬ Int32.ofNat 1 = 0 by decide), I.X.fa, Option.bind_some, I.X.st, Option.bind_some, I.S.now, Option.bind_some, I.F.ob, x_left I.F I.W (by omega), hf_b2_some, m_isDusk I.sv, hf_b2_some]
    by_cases e : v 3 < v 6
    · rw [if_pos e, if_pos (show Int32.ofNat 0 = 0 from rfl), I.sv.l6, Option.bind_some, I.sv.l3, Option.bind_some, z_sub (by omega)]; exact I.same _
    · have e9 : zleft v = 0 := by unfold zleft; omega
      rw [if_neg e, if_neg (show ¬ Int32.ofNat 1 = 0 by decide), e9]; exact I.same _
  rw [if_neg h5, if_neg h5]
  by_cases h6 : a = 6
  · subst h6
    rw [if_pos rfl, if_pos rfl, I.X.st, Option.bind_some, I.X.fa, Option.bind_some, I.S.ob, x_atStalls I.F I.S I.W, hf_b2_some, x_bits _ (zats_lt v q1), Option.bind_some, m_atStalls I.sv q1, hf_b2_some, m_bits _ (zats_lt v q1), Option.bind_some]; exact I.same _
  rw [if_neg h6, if_neg h6]
  by_cases h7 : a = 7
  · subst h7
    rw [if_pos rfl, if_pos rfl, hf_gi_eq I.e, Option.bind_some, I.sv.l122, Option.bind_some, I.2.2.2.1.2.2.2.1]; exact I.same _
  rw [if_neg h7, if_neg h7]
  by_cases h8 : a = 8
  · obtain ⟨u, pa, u1, u2, u3, u4, u5, u6⟩ := I.2.2.2.2.2.1
    subst h8
    rw [if_pos rfl, if_pos rfl, hf_gi_eq I.e, Option.bind_some, u3, u4]; exact I.same _
  rw [if_neg h8, if_neg h8]
  by_cases h9 : a = 9
  · obtain ⟨d, d1, d2, d3⟩ := I.2.2.2.1.2.2.1
    subst h9
    rw [if_pos rfl, if_pos rfl, hf_gi_eq I.e, Option.bind_some, d2, d3]; exact I.same _
  rw [if_neg h9, if_neg h9]
  by_cases h10 : a = 10
  · obtain ⟨T, t1, t2, t3⟩ := I.2.2.2.1.1
    subst h10
    rw [if_pos rfl, if_pos rfl, hf_gi_eq I.e, Option.bind_some, t2, t3]; exact I.same _
  rw [if_neg h10, if_neg h10]
  exact I.same _
/-- fields of HalfFair and of the model change that hold tape, trials, draws -/
theorem hf_I.field (I : hf_I P g o V XV f st kp rl rd ps ik sk v) {XV' : hf_V} (x1 : XV'.2.2.1 = XV.2.2.1) (x2 : XV'.2.2.2.2.2 = XV.2.2.2.2.2) (x3 : ∀ k, k = 14 ∨ k = 15 → XV'.1 k = XV.1 k) (m1 : ∀ k, k = 2 ∨ k = 25 → V'.1 k = V.1 k) (m2 : ∀ k, k ≠ 0 → k ≠ 20 → V'.2.2.2.1 k = V.2.2.2.1 k) (sv : hf_sv V' v') (hlo : ∀ k, k < 86 → v' k = v k) (T : hf_IT XV' V' v') : hf_I P (hf_xc g o XV') o V' XV' f st kp rl rd ps ik sk v' := by
  have I0 := I
  obtain ⟨⟨a1, a2, a3, a4, a5, a6, a7, a8⟩, ⟨b1, b2, b3, b4⟩, ⟨nr, p, c1, c2, c3, c4⟩, i4, i5, ⟨u, pa, u1, u2, u3, u4, u5, u6⟩, i7, i8, i9⟩ := I
  have K : hf_kq g (hf_xc g o XV') := hf_kq.up a1 (Or.inl rfl) _
  have hob : ∀ s md ci W, hf_ob md ci g s = some W → s ≠ o → hf_ob md ci (hf_xc g o XV') s = some W := fun s md ci W es n2 => by
    unfold hf_xc
    rw [hf_ob_ne n2]
    exact es
  have hst : ∀ s W, hf_ob 1 2 g s = some W → hf_ob 1 2 (hf_xc g o XV') s = some W := fun s W es => hob s 1 2 W es (hf_ob_dif es a1 (by decide))
  have hSS : ∀ s w, hf_SS g s w → hf_SS (hf_xc g o XV') s w := fun s w ⟨SV, e1, e2⟩ => ⟨SV, hst s SV e1, e2⟩
  have Wn : hf_wf v' := b3.1.lo hlo (fun k => (sv k).2)
  have En : hf_fe v v' := (hf_fe.rfl_ v).lo b3.1 hlo
  obtain ⟨SV, s1, s2⟩ := b2
  refine ⟨⟨hf_ob_xc _ o _, by rw [x1]; exact a2, by rw [x1]; exact a3, by rw [x1]; exact a4, by rw [x1]; exact a5, ?_, a7, fun k hk => ?_⟩, ⟨(b1.kq K).fe En, ⟨SV, hst st SV s1, s2.lo b3.1 hlo⟩, ⟨Wn, fun b hb => ?_⟩, sv⟩, ⟨nr, p, c1.kq K, c2, (m1 2 (Or.inl rfl)).trans c3, fun t ht => ((c4 t ht).kq K).tx ⟨m2 3 (by decide) (by decide), m2 5 (by decide) (by decide), m2 6 (by decide) (by decide)⟩⟩, T, i5.fe En b3.1.v1 (m2 22 (by decide) (by decide)) (m2 23 (by decide) (by decide)), ⟨u, pa, u1, u2, (x3 14 (Or.inl rfl)).trans u3, (m1 25 (Or.inr rfl)).trans u4, (x3 15 (Or.inr rfl)).trans u5, fun j hj => ?_⟩, fun k hk => ?_, fun a ha => ?_, fun k hk => ?_⟩
  · obtain ⟨KV, k1⟩ := a6
    exact ⟨KV, hst kp KV k1⟩
  · obtain ⟨r1, ⟨PV', r2⟩, r3, r4, r5⟩ := a8 k hk
    rw [x2]
    exact ⟨r1, ⟨PV', hst _ PV' r2⟩, r3, r4, r5⟩
  · have q2 := Wn.v2
    rw [hlo _ (by omega)]
    exact b3.2 b (by rw [hlo 2 (by decide)] at hb; exact hb)
  · obtain ⟨w, w1, w2, w3, w4⟩ := u6 j hj
    refine ⟨w, w1, ?_, fun k hk => ?_, hSS _ w w4⟩
    · obtain ⟨e0, e1, e2, e4, e5, e6, e7, e8, e9, e10⟩ := En
      obtain ⟨f0, f1, f2, f4, f5, f6, f7, f8, f9, f10⟩ := w2
      refine ⟨f0.trans e0.symm, f1.trans e1.symm, f2.trans e2.symm, f4.trans e4.symm, f5.trans e5.symm, f6.trans e6.symm, f7.trans e7.symm, f8.trans e8.symm, fun k hk => ?_, fun b hb => (f10 b (by omega)).trans (e10 b (by omega)).symm⟩
      obtain ⟨m0, m1, m2, m4⟩ := e9 k (by omega)
      obtain ⟨n0, n1, n2, n4⟩ := f9 k (by omega)
      exact ⟨n0.trans m0.symm, n1.trans m1.symm, n2.trans m2.symm, n4.trans m4.symm⟩
    · rw [m2 24 (by decide) (by decide)]; exact w3 k hk
  · rw [x2, m2 36 (by decide) (by decide)]
    rcases i7 k hk with ⟨r1, r2⟩ | ⟨r1, r2, ⟨IV, fk, w, d, t1, t2, t3, t4, t5, t6, t7, t8, t9, t10, t11, t12⟩, r4, r5, r6, r7⟩
    · exact Or.inl ⟨r1, r2⟩
    · refine Or.inr ⟨r1, r2, ⟨IV, fk, w, d, hob _ 1 18 IV t1 (hf_ob_dif t1 a1 (by decide)), t2, t3, t4, t5.kq K, hSS _ w t6, t7, fun i hi => ?_, t9, t10, t11, ?_⟩, r4, r5, r6, r7⟩
      · rw [m2 34 (by decide) (by decide)]; exact t8 i hi
      · rw [m2 35 (by decide) (by decide)]; exact t12
  · have h1 := i8 a ha
    have n2 : a ≠ o := fun z => by
      subst z
      rw [hf_ob_spec a1] at h1
      cases h1
    unfold hf_xc hf_up
    simp only [if_neg n2]
    exact h1
  · rw [m2 7 (by decide) (by decide)]; exact i9 k hk
theorem hf_I.fk (I : hf_I P g o V XV f st kp rl rd ps ik sk v) (XV' : hf_V) : hf_kf g (hf_xc g o XV') := (hf_kq.up I.e (Or.inl rfl) _).kf rfl
theorem op_seed (J : hf_INV P g o V) (a : Int32) : hf_OPr P g o (spX0_seed o a g) (spX4_seed a V) := by
  obtain ⟨XV, f, st, kp, rl, rd, ps, ik, sk, v, I⟩ := J
  obtain ⟨d1, d2, ⟨d, e1, e2, e3⟩, d4⟩ := I.2.2.2.1
  unfold spX0_seed spX4_seed
  by_cases h : 0 ≤ a
  case neg => rw [if_neg h, if_neg h]; exact I.same _
  rw [if_pos h, if_pos h, hf_gi_eq I.e, Option.bind_some, hf_pi_eq I.e, Option.bind_some, hf_let_eq, hf_let_eq, e2, e3]
  obtain ⟨m, hm, rfl⟩ : ∃ m : Nat, m < 2147483648 ∧ a = Int32.ofNat m := ⟨a.toNatClampNeg, Int32.toNatClampNeg_lt a, (Int32.ofNat_toNatClampNeg a h).symm⟩
  refine ⟨_, _, _, rfl, rfl, (I.field (XV' := hf_ui XV 11 (Int32.ofNat m)) (V' := hf_ui V 21 (Int32.ofNat m)) rfl rfl (fun k hk => hf_ui_ne _ (by omega) _) (fun k hk => hf_ui_ne _ (by omega) _) (fun k _ _ => rfl) (I.sv.ui 21 _) (fun _ _ => rfl) ⟨?_, d2, ⟨m, hm, hf_ui_at _ _ _, hf_ui_at _ _ _⟩, d4⟩).inv, I.fk _⟩
  obtain ⟨T, t1, t2, t3⟩ := d1
  exact ⟨T, t1, t2, t3⟩
theorem op_end (J : hf_INV P g o V) (a : Int32) : hf_OPr P g o (spX0_end o a g) (spX4_end a V) := by
  obtain ⟨XV, f, st, kp, rl, rd, ps, ik, sk, v, I⟩ := J
  obtain ⟨⟨T, t1, t2, t3⟩, d2, ⟨d, e1, e2, e3⟩, d4⟩ := I.2.2.2.1
  unfold spX0_end spX4_end
  by_cases h : a < 0
  case pos => rw [if_pos h, if_pos h]; exact I.same _
  rw [if_neg h, if_neg h, hf_gi_eq I.e, Option.bind_some, t2, t3]
  by_cases h2 : a ≤ Int32.ofNat T
  case neg => rw [if_neg h2, if_neg h2]; exact I.same _
  rw [if_pos h2, if_pos h2, hf_pi_eq I.e, Option.bind_some, hf_let_eq]
  obtain ⟨m, hm, rfl⟩ : ∃ m : Nat, m < 2147483648 ∧ a = Int32.ofNat m := ⟨a.toNatClampNeg, Int32.toNatClampNeg_lt a, (Int32.ofNat_toNatClampNeg a (Int32.not_lt.mp h)).symm⟩
  have hmT : m ≤ T := (z_le hm (by omega)).mp h2
  exact ⟨_, _, _, rfl, rfl, (I.field (XV' := hf_ui XV 6 (Int32.ofNat m)) (V' := hf_ui V 1 (Int32.ofNat m)) rfl rfl (fun k hk => hf_ui_ne _ (by omega) _) (fun k hk => hf_ui_ne _ (by omega) _) (fun k _ _ => rfl) (I.sv.ui 1 _) (fun _ _ => rfl) ⟨⟨m, by omega, hf_ui_at _ _ _, hf_ui_at _ _ _⟩, d2, ⟨d, e1, e2, e3⟩, d4⟩).inv, I.fk _⟩
end ZI
