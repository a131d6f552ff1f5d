set_option maxRecDepth 100000
set_option maxHeartbeats 1000000
/-! an act kept, all forgotten, undone -/
section ZI
variable {P : Nat} {g g' : hf_H} {o f st kp rl rd : Nat} {V V' XV XV' : hf_V} {ps ik sk : Nat → Nat} {v v' : Nat → Nat}
theorem m_keepsAct (S : hf_sv V v) {u : Nat} (hu : V.1 25 = Int32.ofNat u) (h20 : u ≤ 20) : ∃ F : Nat → Int32, spX4_keepsAct V = some (hf_ui (hf_sa V 24 F) 25 (Int32.ofNat (min 20 (u + 1)))) ∧ (∀ k, k < 86 → F (86 * (min 20 (u + 1) - 1) + k) = Int32.ofNat (v k)) ∧ ∀ j k, j + 1 < min 20 (u + 1) → k < 86 → F (86 * j + k) = V.2.2.2.1 24 (86 * (j + (if u = 20 then 1 else 0)) + k) := by
  by_cases e : u = 20
  · subst e
    refine ⟨_, m_keepsAct12 S hu, fun k hk => ?_, fun j k hj hk => ?_⟩
    · show zkeepF _ v 19 (86 * 19 + k) = _
      unfold zkeepF
      rw [if_pos (by omega), show 86 * 19 + k - 19 * 86 = k by omega]
    · have hj2 : j + 1 < 20 := hj
      unfold zkeepF
      rw [if_neg (by omega)]
      show (if 86 * j + k < 1634 then V.2.2.2.1 24 (86 * j + k + 86) else V.2.2.2.1 24 (86 * j + k)) = _
      rw [if_pos (by omega), if_pos rfl, show 86 * (j + 1) + k = 86 * j + k + 86 by omega]
  · have hm : min 20 (u + 1) = u + 1 := by omega
    rw [hm]
    refine ⟨zkeepF (V.2.2.2.1 24) v u, ?_, fun k hk => ?_, fun j k hj hk => ?_⟩
    · unfold spX4_keepsAct
      rw [hu, if_neg (show ¬ Int32.ofNat u = 20 from fun z => e ((z_eq (a := u) (b := 20) (by omega) (by decide)).mp z)), m_keepsAct50 S hu (by omega)]
    · unfold zkeepF
      rw [show 86 * (u + 1 - 1) + k = u * 86 + k by omega, if_pos (by omega), show u * 86 + k - u * 86 = k by omega]
    · unfold zkeepF
      rw [if_neg (by omega), if_neg e]
      rfl
theorem x_keeps (I : hf_I P g o V XV f st kp rl rd ps ik sk v) {u pa : Nat} (hu : XV.1 14 = Int32.ofNat u) (h20 : u ≤ 20) (hp : XV.1 15 = Int32.ofNat pa) (hpa : pa < 20) : ∃ DV, spX0_keeps o g = some (hf_xc (hf_sc g (ps pa) DV) o (hf_ui (hf_ui XV 15 (Int32.ofNat ((pa + 1) % 20))) 14 (Int32.ofNat (min 20 (u + 1))))) ∧ hf_S2 DV v := by
  obtain ⟨SV, s1, s2⟩ := I.S
  obtain ⟨q1, ⟨PV, q2⟩, q3, q4, q5⟩ := I.1.2.2.2.2.2.2.2 pa hpa
  obtain ⟨DV, d1, d2⟩ := x_copyFrom s1 q2 (Ne.symm q3)
  refine ⟨DV, ?_, s2.cp I.W d2⟩
  have e := I.e
  have e2 : hf_ob 1 0 (hf_sc g (ps pa) DV) o = some XV := by
    unfold hf_sc
    rw [hf_ob_ne (hf_ob_dif e q2 (by decide))]
    exact e
  unfold spX0_keeps
  rw [I.X.ob, hf_gi_eq e, Option.bind_some, hp, hf_aq_eq e, z_ld hpa (by omega), q1, hf_nn_some, Option.bind_some, I.X.st, Option.bind_some, q2, Option.bind_some, d1, Option.bind_some, hf_gi_eq e2, Option.bind_some, hp, if_neg (by decide)]
  have a1 : Int32.ofNat pa + 1 = Int32.ofNat (pa + 1) := z_add pa 1
  have a2 : Int32.ofNat (pa + 1) - Int32.ofNat (pa + 1) / 20 * 20 = Int32.ofNat ((pa + 1) % 20) := by
    have h1 : Int32.ofNat (pa + 1) / 20 = Int32.ofNat ((pa + 1) / 20) := z_div (b := 20) (by omega) (by decide)
    have h2 : Int32.ofNat ((pa + 1) / 20) * 20 = Int32.ofNat ((pa + 1) / 20 * 20) := z_mul _ 20
    rw [h1, h2, z_rem]
  rw [a1, a2, hf_pi_eq e2, Option.bind_some]
  have e3 : hf_ob 1 0 (hf_up (hf_sc g (ps pa) DV) o (.inl (1, 0, hf_ui XV 15 (Int32.ofNat ((pa + 1) % 20))))) o = some (hf_ui XV 15 (Int32.ofNat ((pa + 1) % 20))) := hf_ob_up _ o 1 0 _
  rw [hf_gi_eq e3, Option.bind_some, hf_ui_ne _ (by decide), hu, hf_let_eq]
  have b1 : Int32.ofNat u + 1 = Int32.ofNat (u + 1) := z_add u 1
  have b2 : (if Int32.ofNat (u + 1) < 20 then Int32.ofNat (u + 1) else 20) = Int32.ofNat (min 20 (u + 1)) := by
    by_cases c : u + 1 < 20
    · rw [if_pos (show Int32.ofNat (u + 1) < 20 from (z_lt (b := 20) (by omega) (by decide)).mpr c), show min 20 (u + 1) = u + 1 by omega]
    · rw [if_neg (show ¬ Int32.ofNat (u + 1) < 20 from fun z => c ((z_lt (b := 20) (by omega) (by decide)).mp z)), show min 20 (u + 1) = 20 by omega]
      rfl
  rw [b1, b2, hf_pi_eq e3, Option.bind_some, hf_up_up]
  rfl
theorem hf_I.keeps (I : hf_I P g o V XV f st kp rl rd ps ik sk v) : ∃ g1 V1 XV1, spX0_keeps o g = some g1 ∧ spX4_keepsAct V = some V1 ∧ hf_I P g1 o V1 XV1 f st kp rl rd ps ik sk v ∧ hf_kq g g1 ∧ g1.2 = g.2 := by
  have I0 := I
  obtain ⟨⟨a1, a2, a3, a4, a5, a6, a7, a8⟩, ⟨b1, b2, b3, b4⟩, ⟨nr, p, c1, c2, c3, c4⟩, ⟨d1, d2, d3, d4⟩, i5, ⟨u, pa, u1, u2, u3, u4, u5, u6⟩, i7, i8, i9⟩ := I
  obtain ⟨DV, x1, x2⟩ := x_keeps I0 u3 u1 u5 u2
  obtain ⟨F, m1, m2, m3⟩ := m_keepsAct b4 u4 u1
  obtain ⟨q1, ⟨PV, q2⟩, q3, q4, q5⟩ := a8 pa u2
  have e2 : hf_ob 1 0 (hf_sc g (ps pa) DV) o = some XV := by
    unfold hf_sc
    rw [hf_ob_ne (hf_ob_dif a1 q2 (by decide))]
    exact a1
  have K : hf_kq g (hf_xc (hf_sc g (ps pa) DV) o (hf_ui (hf_ui XV 15 (Int32.ofNat ((pa + 1) % 20))) 14 (Int32.ofNat (min 20 (u + 1))))) := (hf_kq.up q2 (Or.inr (Or.inl rfl)) _).trans (hf_kq.up e2 (Or.inl rfl) _)
  have hob : ∀ s md ci W, hf_ob md ci g s = some W → s ≠ ps pa → s ≠ o → hf_ob md ci (hf_xc (hf_sc g (ps pa) DV) o (hf_ui (hf_ui XV 15 (Int32.ofNat ((pa + 1) % 20))) 14 (Int32.ofNat (min 20 (u + 1))))) s = some W := fun s md ci W es n1 n2 => by
    unfold hf_xc hf_sc
    rw [hf_ob_ne n2, hf_ob_ne n1]
    exact es
  have hst : ∀ s W, hf_ob 1 2 g s = some W → s ≠ ps pa → hf_ob 1 2 (hf_xc (hf_sc g (ps pa) DV) o (hf_ui (hf_ui XV 15 (Int32.ofNat ((pa + 1) % 20))) 14 (Int32.ofNat (min 20 (u + 1))))) s = some W := fun s W es n1 => hob s 1 2 W es n1 (hf_ob_dif es a1 (by decide))
  have hSS : ∀ s w, s ≠ ps pa → hf_SS g s w → hf_SS (hf_xc (hf_sc g (ps pa) DV) o (hf_ui (hf_ui XV 15 (Int32.ofNat ((pa + 1) % 20))) 14 (Int32.ofNat (min 20 (u + 1))))) s w := fun s w n1 ⟨SV, e1, e2⟩ => ⟨SV, hst s SV e1 n1, e2⟩
  have hpa2 : hf_ob 1 2 (hf_xc (hf_sc g (ps pa) DV) o (hf_ui (hf_ui XV 15 (Int32.ofNat ((pa + 1) % 20))) 14 (Int32.ofNat (min 20 (u + 1))))) (ps pa) = some DV := by
    unfold hf_xc
    rw [hf_ob_ne (hf_ob_dif q2 a1 (by decide))]
    exact hf_ob_sc g (ps pa) DV
  refine ⟨_, _, _, x1, m1, ⟨⟨hf_ob_xc _ o _, a2, a3, a4, a5, ?_, a7, fun k hk => ?_⟩, ⟨b1.kq K, hSS st v (Ne.symm q3) b2, b3, (b4.sa (by decide) F).ui 25 _⟩, ⟨nr, p, c1.kq K, c2, c3, fun t ht => ((c4 t ht).kq K).tx ⟨rfl, rfl, rfl⟩⟩, ⟨?_, fun k hk => d2 k hk, ?_, ?_⟩, i5.fe (hf_fe.rfl_ v) b3.1.v1 rfl rfl, ⟨min 20 (u + 1), (pa + 1) % 20, by omega, Nat.mod_lt _ (by decide), hf_ui_at _ _ _, hf_ui_at _ _ _, ?_, fun j hj => ?_⟩, fun k hk => ?_, fun a ha => ?_, i9⟩, K, rfl⟩
  · obtain ⟨KV, k1⟩ := a6
    exact ⟨KV, hst kp KV k1 (Ne.symm q4)⟩
  · obtain ⟨r1, ⟨PV', r2⟩, r3, r4, r5⟩ := a8 k hk
    refine ⟨r1, ?_, r3, r4, r5⟩
    by_cases z : ps k = ps pa
    · rw [z]; exact ⟨DV, hpa2⟩
    · exact ⟨PV', hst _ PV' r2 z⟩
  · obtain ⟨T, t1, t2, t3⟩ := d1
    exact ⟨T, t1, t2, t3⟩
  · obtain ⟨d, t1, t2, t3⟩ := d3
    exact ⟨d, t1, t2, t3⟩
  · exact d4
  · rw [hf_ui_ne _ (by decide), hf_ui_at]
  · by_cases hj2 : j + 1 < min 20 (u + 1)
    · obtain ⟨w, w1, w2, w3, w4⟩ := u6 (j + (if u = 20 then 1 else 0)) (by split <;> omega)
      refine ⟨w, w1, w2, fun k hk => (m3 j k hj2 hk).trans (w3 k hk), ?_⟩
      have hidx : ((pa + 1) % 20 + 20 - min 20 (u + 1) + j) % 20 = (pa + 20 - u + (j + (if u = 20 then 1 else 0))) % 20 := by
        split <;> omega
      rw [hidx]
      have hm : (pa + 20 - u + (j + (if u = 20 then 1 else 0))) % 20 < 20 := Nat.mod_lt _ (by decide)
      refine hSS _ w (fun z => ?_) w4
      have := q5 _ hm z
      revert this
      split <;> omega
    · have hj3 : j = min 20 (u + 1) - 1 := by omega
      refine ⟨v, b3, hf_fe.rfl_ v, fun k hk => ?_, ?_⟩
      · rw [hj3]; exact m2 k hk
      · have hidx : ((pa + 1) % 20 + 20 - min 20 (u + 1) + j) % 20 = pa := by omega
        rw [hidx]
        exact ⟨DV, hpa2, x2⟩
  · rcases i7 k hk with ⟨r1, r2⟩ | ⟨r1, r2, ⟨IV, fk, w, d, t1, t2, t3, t4, t5, t6, t7, t8⟩, r4, r5, r6, r7⟩
    · exact Or.inl ⟨r1, r2⟩
    · refine Or.inr ⟨r1, r2, ⟨IV, fk, w, d, hob _ 1 18 IV t1 (hf_ob_dif t1 q2 (by decide)) (hf_ob_dif t1 a1 (by decide)), t2, t3, t4, t5.kq K, hSS _ w (r6 pa u2) t6, t7, t8⟩, r4, r5, r6, r7⟩
  · have h1 := i8 a ha
    have n1 : a ≠ ps pa := fun z => by
      subst z
      rw [hf_ob_spec q2] at h1
      cases h1
    have n2 : a ≠ o := fun z => by
      subst z
      rw [hf_ob_spec a1] at h1
      cases h1
    unfold hf_xc hf_sc hf_up
    simp only [if_neg n1, if_neg n2]
    exact h1
/-- all that was kept is forgotten -/
theorem hf_I.forgets (I : hf_I P g o V XV f st kp rl rd ps ik sk v) : hf_I P (hf_xc g o (hf_ui XV 14 0)) o (hf_ui V 25 0) (hf_ui XV 14 0) f st kp rl rd ps ik sk v := by
  have I0 := I
  obtain ⟨⟨a1, a2, a3, a4, a5, a6, a7, a8⟩, ⟨b1, b2, b3, b4⟩, ⟨nr, p, c1, c2, c3, c4⟩, ⟨d1, d2, d3, d4⟩, i5, ⟨u, pa, u1, u2, u3, u4, u5, u6⟩, i7, i8, i9⟩ := I
  have K : hf_kq g (hf_xc g o (hf_ui XV 14 0)) := hf_kq.up a1 (Or.inl rfl) _
  have hob : ∀ s md ci W, hf_ob md ci g s = some W → s ≠ o → hf_ob md ci (hf_xc g o (hf_ui XV 14 0)) s = some W := fun s md ci W es n2 => by
    unfold hf_xc
    rw [hf_ob_ne n2]
    exact es
  have hst : ∀ s W, hf_ob 1 2 g s = some W → hf_ob 1 2 (hf_xc g o (hf_ui XV 14 0)) s = some W := fun s W es => hob s 1 2 W es (hf_ob_dif es a1 (by decide))
  have hSS : ∀ s w, hf_SS g s w → hf_SS (hf_xc g o (hf_ui XV 14 0)) s w := fun s w ⟨SV, e1, e2⟩ => ⟨SV, hst s SV e1, e2⟩
  refine ⟨⟨hf_ob_xc _ o _, a2, a3, a4, a5, ?_, a7, fun k hk => ?_⟩, ⟨b1.kq K, hSS st v b2, b3, b4.ui 25 _⟩, ⟨nr, p, c1.kq K, c2, c3, fun t ht => ((c4 t ht).kq K).tx ⟨rfl, rfl, rfl⟩⟩, ⟨?_, d2, ?_, d4⟩, i5.fe (hf_fe.rfl_ v) b3.1.v1 rfl rfl, ⟨0, pa, by omega, u2, hf_ui_at _ _ _, hf_ui_at _ _ _, u5, fun j hj => by omega⟩, fun k hk => ?_, fun a ha => ?_, i9⟩
  · obtain ⟨KV, k1⟩ := a6
    exact ⟨KV, hst kp KV k1⟩
  · obtain ⟨r1, ⟨PV', r2⟩, r3, r4, r5⟩ := a8 k hk
    exact ⟨r1, ⟨PV', hst _ PV' r2⟩, r3, r4, r5⟩
  · obtain ⟨T, t1, t2, t3⟩ := d1
    exact ⟨T, t1, t2, t3⟩
  · obtain ⟨d, t1, t2, t3⟩ := d3
    exact ⟨d, t1, t2, t3⟩
  · rcases i7 k hk with ⟨r1, r2⟩ | ⟨r1, r2, ⟨IV, fk, w, d, t1, t2, t3, t4, t5, t6, t7, t8⟩, r4, r5, r6, r7⟩
    · exact Or.inl ⟨r1, r2⟩
    · exact Or.inr ⟨r1, r2, ⟨IV, fk, w, d, hob _ 1 18 IV t1 (hf_ob_dif t1 a1 (by decide)), t2, t3, t4, t5.kq K, hSS _ w t6, t7, t8⟩, r4, r5, r6, r7⟩
  · have h1 := i8 a ha
    have n2 : a ≠ o := fun z => by
      subst z
      rw [hf_ob_spec a1] at h1
      cases h1
    unfold hf_xc hf_up
    simp only [if_neg n2]
    exact h1
end ZI
