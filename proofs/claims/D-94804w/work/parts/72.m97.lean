set_option maxRecDepth 100000
set_option maxHeartbeats 1000000
/-! bring -/
/-- what is told is kept -/
def hf_kt (V : hf_V) (v : Nat → Nat) : Prop := ∀ k, k < 86 → V.2.2.2.1 32 k = Int32.ofNat (v k)
section ZM
variable {V V' : hf_V} {v v' : Nat → Nat}
theorem m_keeps (S : hf_sv V v) : ∃ F, spX4_keeps V = some (hf_sa V 32 F) ∧ ∀ k, k < 86 → F k = Int32.ofNat (v k) := by
  have hst : V = hf_sa V 32 (V.2.2.2.1 32) := by
    unfold hf_sa
    refine Prod.ext rfl (Prod.ext rfl (Prod.ext rfl (Prod.ext ?_ rfl)))
    funext j
    by_cases e : j = 32 <;> simp [e]
  have key : ∃ F, lpX4_keeps_2 hf_N (Int32.ofNat 0) (hf_sa V 32 (V.2.2.2.1 32)) = some (hf_sa V 32 F) ∧ ∀ k, k < 86 → F k = Int32.ofNat (v k) := by
    refine hf_loopR (fun n i F => lpX4_keeps_2 n (Int32.ofNat i) (hf_sa V 32 F)) (fun i F => ∀ k, k < i → F k = Int32.ofNat (v k)) 86 (fun r => ∃ F, r = some (hf_sa V 32 F) ∧ ∀ k, k < 86 → F k = Int32.ofNat (v k)) (fun i n F hi hP => ?_) (fun n F hP => ?_) (V.2.2.2.1 32) (fun k hk => by omega) (fuel := hf_N) (by unfold hf_N; omega)
    · refine ⟨zup F i (Int32.ofNat (v i)), ?_, fun k hk => ?_⟩
      · show ndX4_keeps_2 (lpX4_keeps_2 n) _ _ = _
        unfold ndX4_keeps_2
        have S2 : hf_sv (hf_sa V 32 F) v := S.sa (by decide) F
        rw [z_lit, if_neg (z_nle (a := 86) (by omega) (by decide)), S2.ld (by omega), Option.bind_some, z_sd (by omega) (by omega), hf_ua_sa, hf_let_eq, z_lit, z_add]
      · by_cases e : k = i
        · rw [e, zup_at]
        · rw [zup_ne _ e]; exact hP k (by omega)
    · refine ⟨F, ?_, hP⟩
      show ndX4_keeps_2 (lpX4_keeps_2 n) _ _ = _
      unfold ndX4_keeps_2
      rw [z_lit, if_pos (z_yle (a := 86) (by decide) (by decide))]
  rw [← hst] at key
  exact key
theorem m_putsBack (S : hf_sv V v') (hk : hf_kt V v) (hv : ∀ k, v k < 16777216) (hi : ∀ k, 86 ≤ k → v' k = v k) : spX4_putsBack V = some (hf_sd20 V v) := by
  have hst : V = hf_sd20 V (fun k => if k < 0 then v k else v' k) := by
    have e : (fun k => if k < 0 then v k else v' k) = v' := by
      funext k
      rw [if_neg (by omega)]
    rw [e, S.self]
  have hend : (fun k => if k < 86 then v k else v' k) = v := by
    funext k
    by_cases e : k < 86
    · rw [if_pos e]
    · rw [if_neg e, hi k (by omega)]
  have key : ∀ N9, 86 < N9 → lpX4_putsBack_2 N9 (Int32.ofNat 0) (hf_sd20 V (fun k => if k < 0 then v k else v' k)) = some (hf_sd20 V v) := by
    intro N9 hN9
    refine hf_loop (fun n i => lpX4_putsBack_2 n (Int32.ofNat i) (hf_sd20 V (fun k => if k < i then v k else v' k))) 86 _ (fun i n hi => ?_) (fun n => ?_) hN9
    · show ndX4_putsBack_2 (lpX4_putsBack_2 n) _ _ = _
      unfold ndX4_putsBack_2
      have h2 : (hf_sd20 V (fun k => if k < i then v k else v' k)).2.2.2.1 32 = V.2.2.2.1 32 := hf_sa_ne V (by decide) _
      rw [h2, z_lit, if_neg (z_nle (a := 86) (by omega) (by decide)), z_ld (by omega) (by omega), Option.bind_some, hk i hi, z_sd (by omega) (by omega), hf_sd20_ua, hf_let_eq, z_lit, z_add]
      congr 2
      funext k
      unfold zup
      by_cases e : k = i
      · rw [if_pos e, if_pos (by omega), e]
      · rw [if_neg e]
        show (if k < i then v k else v' k) = _
        by_cases e2 : k < i
        · rw [if_pos e2, if_pos (by omega)]
        · rw [if_neg e2, if_neg (by omega)]
    · show ndX4_putsBack_2 (lpX4_putsBack_2 n) _ _ = _
      unfold ndX4_putsBack_2
      rw [z_lit, if_pos (z_yle (a := 86) (by decide) (by decide)), hend]
  rw [← hst] at key
  exact key hf_N (by unfold hf_N; omega)
theorem m_hoursAhead (S : hf_sv V v) (W : hf_wf v) : spX4_hoursAhead V = some (Int32.ofNat (zleft v), V) := by
  have q3 := W.v3
  have q6 := W.v6
  unfold spX4_hoursAhead ndX4_hoursAhead_25
  rw [m_isDusk S, hf_b2_some]
  by_cases e : v 3 < v 6
  · have h24 : Int32.ofNat (v 6 - v 3) ≤ 24 := z_yle (b := 24) (by omega) (by decide)
    rw [if_pos e, if_pos (show Int32.ofNat 0 = 0 from rfl), S.l6, Option.bind_some, S.l3, Option.bind_some, z_sub (by omega), if_pos h24]
    rfl
  · have e9 : zleft v = 0 := by unfold zleft; omega
    rw [if_neg e, if_neg (show ¬ Int32.ofNat 1 = 0 by decide), if_pos (show (0 : Int32) ≤ 24 by decide), e9]
    rfl
end ZM
theorem z_min24 {n : Nat} (h : n ≤ 24) : (if Int32.ofNat n < (24 : Int32) then Int32.ofNat n else (24 : Int32)) = Int32.ofNat n := by
  by_cases c : n < 24
  · exact if_pos ((z_lt (b := 24) (by omega) (by decide)).mpr c)
  · rw [if_neg (show ¬ Int32.ofNat n < (24 : Int32) from fun z => c ((z_lt (b := 24) (by omega) (by decide)).mp z)), show n = 24 by omega]
    rfl
section ZI
variable {P : Nat} {g g' : hf_H} {o f st kp rl rd : Nat} {V V' XV : hf_V} {ps ik sk : Nat → Nat} {v v' : Nat → Nat}
theorem hf_I.kpo (I : hf_I P g o V XV f st kp rl rd ps ik sk v) : hf_ga 1 0 2 g o = some kp := by
  rw [hf_ga_eq I.e]
  exact I.1.2.2.2.1
/-- both end with the kept state; what is told is put back -/
theorem hf_JJ.Ik (I : hf_I P g o V XV f st kp rl rd ps ik sk v) (J : hf_JJ g o kp XV V v g' V' v') : ∃ W, hf_I P g' o (hf_sd20 V' v) (hf_xw XV W) f st kp rl rd ps ik sk v := by
  obtain ⟨W, SV, rfl, j2, Wf, E, Sv, M⟩ := J
  exact ⟨W, (I.xc (hf_xz.xw XV W) (hf_mz.rfl_ V) I.sv).kc (M.mz.trans (hf_mq.sd20 V' v).mz) SV (hf_sd20_sv V' I.W.b)⟩
theorem xm_sold (I : hf_I P g o V XV f st kp rl rd ps ik sk v) (hk : hf_kt V v) {a t : Nat} (R : hf_Rul g a V t) {s d : Nat} (hs : s < v 0) (hd : d < v 1) : ∃ r g' V' XV', spX0_soldAt o (Int32.ofNat d) (Int32.ofNat s) a g = some (zcode r, g') ∧ spX4_soldFrom (Int32.ofNat t) (Int32.ofNat d) (Int32.ofNat s) (Int32.ofNat (zleft v)) V = some (zcode r, V') ∧ hf_I P g' o V' XV' f st kp rl rd ps ik sk v ∧ hf_kt V' v ∧ hf_kq g g' ∧ g'.2 = g.2 ∧ hf_txq V V' ∧ ∀ n, r = some n → n < 1000 := by
  have q0 := I.W.v0
  have q1 := I.W.v1
  have q3 := I.W.v3
  have q6 := I.W.v6
  have hzl : zleft v ≤ 24 := by unfold zleft; omega
  obtain ⟨SV, s1, s2⟩ := I.S
  obtain ⟨KV, k1⟩ := I.1.2.2.2.2.2.1
  have hkn := I.1.2.2.2.2.2.2.1
  obtain ⟨DV, d1, d2⟩ := x_copyFrom s1 k1 hkn
  have hS2 := (s2.cp I.W d2).where_ I.W (k := d) (by omega) s
  have W2 := I.W.where_ (k := d) (x := s) (by omega) (by omega) (Or.inl hs)
  have E2 := hf_fe.where_ I.W (k := d) (by omega) s
  have B : hf_BB g o f st kp XV V v a t := ⟨I.X, I.F, I.e, ⟨KV, k1⟩, R⟩
  have hg2 : hf_sc g kp (hf_ua DV 0 d (Int32.ofNat s)) = hf_sc (hf_xc g o (hf_xw XV (XV.2.2.2.2.1 16))) kp (hf_ua DV 0 d (Int32.ofNat s)) := by rw [hf_xw_self, hf_xc_self I.e]
  have J0 : hf_JJ g o kp XV V v (hf_sc g kp (hf_ua DV 0 d (Int32.ofNat s))) (hf_sd20 V (zup v (10 + 5 * d + 3) s)) (zup v (10 + 5 * d + 3) s) := ⟨_, _, hg2, hS2, W2, E2, hf_sd20_sv V W2.b, hf_mq.sd20 V _⟩
  obtain ⟨X2, F2, _, _, Sv2, _, _⟩ := J0.x2 B
  have gx : ∀ Y, hf_sc g kp Y = hf_sc (hf_xc g o (hf_xw XV (XV.2.2.2.2.1 16))) kp Y := fun Y => by rw [hf_xw_self, hf_xc_self I.e]
  have ga2 : ∀ W Y, hf_ga 1 0 2 (hf_sc (hf_xc g o (hf_xw XV W)) kp Y) o = some kp := fun W Y => by
    rw [hf_ga_eq (hf_JJ.oo B W Y)]
    exact I.1.2.2.2.1
  have ga2' : ∀ Y, hf_ga 1 0 2 (hf_sc g kp Y) o = some kp := fun Y => by rw [gx]; exact ga2 _ Y
  have stN : hf_gi 1 2 4 (hf_sc g kp (hf_ua DV 0 d (Int32.ofNat s))) st = some (Int32.ofNat (v 3)) := by
    have : hf_ob 1 2 (hf_sc g kp (hf_ua DV 0 d (Int32.ofNat s))) st = some SV := by
      unfold hf_sc
      rw [hf_ob_ne hkn]
      exact s1
    rw [hf_gi_eq this, s2.2.2]
  have F0 : hf_F (hf_sc g kp (hf_ua DV 0 d (Int32.ofNat s))) f v := F2.fe (by
    obtain ⟨e0, e1, e2, e4, e5, e6, e7, e8, e9, e10⟩ := E2
    exact ⟨e0.symm, e1.symm, e2.symm, e4.symm, e5.symm, e6.symm, e7.symm, e8.symm, fun k hk => (by obtain ⟨m0, m1, m2, m4⟩ := e9 k (by omega); exact ⟨m0.symm, m1.symm, m2.symm, m4.symm⟩), fun b hb => (e10 b (by omega)).symm⟩)
  have key : ∃ r g' V' v', lpX0_soldAt_45 hf_N o (Int32.ofNat d) a (Int32.ofNat (zleft v)) (Int32.ofNat 0) (hf_sc g kp (hf_ua DV 0 d (Int32.ofNat s))) = some (zcode r, g') ∧ lpX4_soldFrom_20 hf_N (Int32.ofNat t) (Int32.ofNat d) (Int32.ofNat (zleft v)) (zcode none) (Int32.ofNat 0) (hf_sd20 V (zup v (10 + 5 * d + 3) s)) = ndX4_soldFrom_66 (zcode r) V' ∧ hf_JJ g o kp XV V v g' V' v' ∧ (∀ k, 86 ≤ k → v' k = v k) ∧ ∀ n, r = some n → n < 1000 := by
    refine hf_loopR2 (fun n i (z : Option Nat × hf_H × hf_V × (Nat → Nat)) => match z.1 with | none => lpX0_soldAt_45 n o (Int32.ofNat d) a (Int32.ofNat (zleft v)) (Int32.ofNat i) z.2.1 | some m => some (zcode (some m), z.2.1)) (fun n i (z : Option Nat × hf_H × hf_V × (Nat → Nat)) => lpX4_soldFrom_20 n (Int32.ofNat t) (Int32.ofNat d) (Int32.ofNat (zleft v)) (zcode z.1) (Int32.ofNat i) z.2.2.1) (fun i z => hf_JJ g o kp XV V v z.2.1 z.2.2.1 z.2.2.2 ∧ (∀ k, 86 ≤ k → z.2.2.2 k = v k) ∧ (∀ n, z.1 = some n → n < 1000) ∧ (z.1 = none → z.2.2.2 3 = v 3 + i ∧ z.2.2.2 (10 + 5 * d + 3) < 100)) (zleft v) (fun r1 r2 => ∃ r g' V' v', r1 = some (zcode r, g') ∧ r2 = ndX4_soldFrom_66 (zcode r) V' ∧ hf_JJ g o kp XV V v g' V' v' ∧ (∀ k, 86 ≤ k → v' k = v k) ∧ ∀ n, r = some n → n < 1000) (fun i n z hi hP => ?_) (fun n z hP => ?_) (none, _, _, _) ⟨J0, fun k hk => zup_ne _ (by omega) _, fun n h => (by cases h), fun _ => ⟨zup_ne _ (by omega) _, by show zup v (10 + 5 * d + 3) s (10 + 5 * d + 3) < 100; rw [zup_at]; omega⟩⟩ (fuel := hf_N) (by unfold hf_N; omega)
    · obtain ⟨m, g1, V1, v1⟩ := z
      obtain ⟨p1, p2, p3, p4⟩ := hP
      simp only at p1 p2 p3 p4
      have nM : lpX4_soldFrom_20 (n + 1) (Int32.ofNat t) (Int32.ofNat d) (Int32.ofNat (zleft v)) (zcode m) (Int32.ofNat i) V1 = ndX4_soldFrom_20 (lpX4_soldFrom_20 n) (Int32.ofNat t) (Int32.ofNat d) (Int32.ofNat (zleft v)) (zcode m) (Int32.ofNat i) V1 := rfl
      cases m with
      | some m =>
        left
        refine ⟨some m, g1, V1, v1, rfl, ?_, p1, p2, p3⟩
        show lpX4_soldFrom_20 (n + 1) (Int32.ofNat t) (Int32.ofNat d) (Int32.ofNat (zleft v)) (zcode (some m)) (Int32.ofNat i) V1 = _
        rw [nM]
        unfold ndX4_soldFrom_20
        rw [if_neg (z_nle hi (by omega)), if_pos (show (0 : Int32) ≤ zcode (some m) from Int32.not_lt.mp (z_n0 m (by have := p3 m rfl; omega)))]
      | none =>
        right
        obtain ⟨p5, p6⟩ := p4 rfl
        obtain ⟨X1, F1, S1, Wf1, Sv1, E1, R1⟩ := p1.x2 B
        obtain ⟨S, g2, V2, v2, b1, b2, b3, b4, b5, b6⟩ := xm_hour B p1 (by unfold zleft at hi; omega)
        obtain ⟨X3, F3, S3, Wf3, Sv3, E3, R3⟩ := b3.x2 B
        have e11 : v1 1 = v 1 := E1.2.1
        have hgk : hf_ga 1 0 2 g1 o = some kp := by
          obtain ⟨W, SW, rfl, -⟩ := p1
          exact ga2 W SW
        have hgk2 : hf_ga 1 0 2 g2 o = some kp := by
          obtain ⟨W, SW, rfl, -⟩ := b3
          exact ga2 W SW
        have hSl : S < 4096 := b5.lt (by omega)
        have hbt := (b5.2.1 d (by omega)).1
        have q9 := Sv3.b (10 + 5 * d + 3)
        have aN : Int32.ofNat (v1 3 + 1) - (1 : Int32) = Int32.ofNat (v1 3) := z_sub (a := v1 3 + 1) (b := 1) (by omega)
        have a9 : Int32.ofNat i + (1 : Int32) = Int32.ofNat (i + 1) := z_add _ 1
        have hX : lpX0_soldAt_45 (n + 1) o (Int32.ofNat d) a (Int32.ofNat (zleft v)) (Int32.ofNat i) g1 = if S.testBit d = true then some (Int32.ofNat (v1 3), g2) else lpX0_soldAt_45 n o (Int32.ofNat d) a (Int32.ofNat (zleft v)) (Int32.ofNat (i + 1)) g2 := by
          show ndX0_soldAt_45 (lpX0_soldAt_45 n) _ _ _ _ _ _ = _
          unfold ndX0_soldAt_45
          rw [if_neg (z_nle hi (by omega)), hgk, Option.bind_some, X1.ob, b1, hf_b2_some, x_has (by omega) (by omega), Option.bind_some]
          cases hb : S.testBit d
          · rw [if_pos (show Int32.ofNat (if (false : Bool) = true then 1 else 0) = 0 from rfl), hf_let_eq, a9]; rfl
          · rw [if_neg (show ¬ Int32.ofNat (if (true : Bool) = true then 1 else 0) = 0 by decide), hgk2, Option.bind_some, S3.now, Option.bind_some, b6, aN]; rfl
        have hM : lpX4_soldFrom_20 (n + 1) (Int32.ofNat t) (Int32.ofNat d) (Int32.ofNat (zleft v)) (zcode none) (Int32.ofNat i) V1 = if S.testBit d = true then lpX4_soldFrom_20 n (Int32.ofNat t) (Int32.ofNat d) (Int32.ofNat (zleft v)) (Int32.ofNat (v1 3)) (Int32.ofNat (i + 1)) V2 else lpX4_soldFrom_20 n (Int32.ofNat t) (Int32.ofNat d) (Int32.ofNat (zleft v)) (zcode none) (Int32.ofNat (i + 1)) V2 := by
          rw [nM]
          unfold ndX4_soldFrom_20 ndX4_soldFrom_60
          rw [if_neg (z_nle hi (by omega)), if_neg (show ¬ (0 : Int32) ≤ zcode none by decide), Sv1.l3, Option.bind_some, b2, Option.bind_some, m_half3 Sv3 (by omega), hf_b2_some, hf_let_eq, hf_let_eq, a9]
          by_cases c : S.testBit d = true
          · have h100 : ¬ Int32.ofNat (v2 (10 + 5 * d + 3)) < 100 := fun z => by
              have := (z_lt (b := 100) (by omega) (by decide)).mp z
              have := (hbt.mp c).2
              omega
            rw [if_pos c, if_neg h100]
          · have h100 : Int32.ofNat (v2 (10 + 5 * d + 3)) < 100 := (z_lt (b := 100) (by omega) (by decide)).mpr (by
              by_cases z : v2 (10 + 5 * d + 3) < 100
              · exact z
              · exact absurd (hbt.mpr ⟨p6, by omega⟩) c)
            rw [if_neg c, if_pos h100]
        have hi2 : ∀ k, 86 ≤ k → v2 k = v k := fun k hk => (b5.2.2.2 k hk).trans (p2 k hk)
        by_cases c : S.testBit d = true
        · refine ⟨(some (v1 3), g2, V2, v2), ?_, ?_, b3, hi2, fun n h => ?_, fun h => (by cases h)⟩
          · show lpX0_soldAt_45 (n + 1) o (Int32.ofNat d) a (Int32.ofNat (zleft v)) (Int32.ofNat i) g1 = _
            rw [hX, if_pos c]
            rfl
          · show lpX4_soldFrom_20 (n + 1) (Int32.ofNat t) (Int32.ofNat d) (Int32.ofNat (zleft v)) (zcode none) (Int32.ofNat i) V1 = _
            rw [hM, if_pos c]
            rfl
          · cases h
            have := Wf1.v3
            omega
        · refine ⟨(none, g2, V2, v2), ?_, ?_, b3, hi2, fun n h => (by cases h), fun _ => ⟨by show v2 3 = v 3 + (i + 1); omega, ?_⟩⟩
          · show lpX0_soldAt_45 (n + 1) o (Int32.ofNat d) a (Int32.ofNat (zleft v)) (Int32.ofNat i) g1 = _
            rw [hX, if_neg c]
          · show lpX4_soldFrom_20 (n + 1) (Int32.ofNat t) (Int32.ofNat d) (Int32.ofNat (zleft v)) (zcode none) (Int32.ofNat i) V1 = _
            rw [hM, if_neg c]
          · show v2 (10 + 5 * d + 3) < 100
            by_cases z : v2 (10 + 5 * d + 3) < 100
            · exact z
            · exact absurd (hbt.mpr ⟨p6, by omega⟩) c
    · obtain ⟨m, g1, V1, v1⟩ := z
      obtain ⟨p1, p2, p3, p4⟩ := hP
      simp only at p1 p2 p3 p4
      refine ⟨m, g1, V1, v1, ?_, ?_, p1, p2, p3⟩
      · cases m with
        | some m => rfl
        | none =>
          show ndX0_soldAt_45 (lpX0_soldAt_45 n) _ _ _ _ _ _ = _
          unfold ndX0_soldAt_45
          rw [if_pos (z_yle (Nat.le_refl _) (by omega))]
          rfl
      · show ndX4_soldFrom_20 (lpX4_soldFrom_20 n) _ _ _ _ _ _ = _
        unfold ndX4_soldFrom_20
        rw [if_pos (z_yle (Nat.le_refl _) (by omega))]
  obtain ⟨r, g', V', v', y1, y2, y3, y4, y5⟩ := key
  obtain ⟨W, IK⟩ := hf_JJ.Ik I y3
  have hkt' : hf_kt V' v := fun k hk' => by
    obtain ⟨W, SW, _, _, _, _, _, M⟩ := y3
    rw [M.2.2.2.1 32 (by decide)]
    exact hk k hk'
  have Sv' : hf_sv V' v' := by
    obtain ⟨W, SW, _, _, _, _, Sv, _⟩ := y3
    exact Sv
  have pb := m_putsBack Sv' hkt' I.W.b y4
  have hup : hf_up (hf_sc g kp DV) kp (.inl (1, 2, hf_ua DV 0 d (Int32.ofNat s))) = hf_sc g kp (hf_ua DV 0 d (Int32.ofNat s)) := hf_sc_sc g kp _ _
  refine ⟨r, g', hf_sd20 V' v, hf_xw XV W, ?_, ?_, IK, fun k hk' => ?_, (y3.kq B).1, (y3.kq B).2.1, ?_, y5⟩
  · unfold spX0_soldAt
    rw [I.kpo, Option.bind_some, I.X.st, Option.bind_some, k1, Option.bind_some, d1, Option.bind_some, ga2', Option.bind_some, hf_ob_sc, Option.bind_some, hf_si_eq (hf_ob_sc g kp DV) 0 (by omega) (by omega), Option.bind_some, hup, X2.fa, Option.bind_some, X2.st, Option.bind_some, stN, Option.bind_some, F0.ob, x_left F0 I.W (by omega), hf_b2_some, z_min24 hzl, hf_let_eq]
    exact y1
  · unfold spX4_soldFrom
    rw [zwpos, z_sd (by omega) (by omega), I.sv.ua]
    refine y2.trans ?_
    unfold ndX4_soldFrom_66
    rw [pb, Option.bind_some]
  · have : (hf_sd20 V' v).2.2.2.1 32 = V'.2.2.2.1 32 := hf_sa_ne V' (by decide) _
    rw [this]
    exact hkt' k hk'
  · obtain ⟨W, SW, _, _, _, _, _, M⟩ := y3
    exact (M.trans (hf_mq.sd20 V' v)).tx
end ZI
set_option maxRecDepth 100000
set_option maxHeartbeats 1000000
/-! bring, the rest -/
def zc2 (z : Option (Nat × Nat)) : Int32 := match z with | none => -2 | some (_, m) => Int32.ofNat m
def zbr (z : Option (Nat × Nat)) (i : Nat) (r : Option Nat) : Option (Nat × Nat) := match r with
  | none => z
  | some n => match z with
    | none => some (i, n)
    | some (s, m) => if n < m then some (i, n) else some (s, m)
section ZI
variable {P : Nat} {g g' : hf_H} {o f st kp rl rd : Nat} {V V' XV : hf_V} {ps ik sk : Nat → Nat} {v v' : Nat → Nat}
/-- the model keeps what is told -/
theorem hf_I.mkeeps (I : hf_I P g o V XV f st kp rl rd ps ik sk v) : ∃ V1, spX4_keeps V = some V1 ∧ hf_I P g o V1 XV f st kp rl rd ps ik sk v ∧ hf_kt V1 v ∧ hf_txq V V1 ∧ V1.1 = V.1 ∧ V1.2.1 = V.2.1 := by
  obtain ⟨F, f1, f2⟩ := m_keeps I.sv
  refine ⟨_, f1, ?_, fun k hk => ?_, ⟨hf_sa_ne V (by decide) F, hf_sa_ne V (by decide) F, hf_sa_ne V (by decide) F⟩, rfl, rfl⟩
  · have := I.xc (hf_xz.rfl_ XV) (V' := hf_sa V 32 F) ⟨fun _ _ => rfl, fun k _ _ _ h => hf_sa_ne V h F⟩ (I.sv.sa (by decide) F)
    rw [hf_xc_self I.e] at this
    exact this
  · rw [hf_sa_at]; exact f2 k hk
theorem op_bring (J : hf_INV P g o V) (a b c : Int32) : hf_OPr P g o (spX0_bring o a b c g) (spX4_bring a b c V) := by
  obtain ⟨XV, f, st, kp, rl, rd, ps, ik, sk, v, I⟩ := J
  obtain ⟨nr, p, c1, c2, c3, c4⟩ := I.2.2.1
  have q1 := I.W.v1
  have q0 := I.W.v0
  unfold spX0_bring spX4_bring
  rw [I.X.ob, x_isRule I c1 c2, hf_b2_some, m_isRule c3 c2, hf_b2_some]
  by_cases hz : zin a nr
  case neg => rw [z1F hz, z1F hz]; exact I.same _
  rw [z1T hz, z1T hz, I.X.ob, x_isHalf I.X I.F I.W, hf_b2_some, m_isHalfZ I.sv, hf_b2_some]
  by_cases hw : zin b (v 1)
  case neg => rw [z1F hw, z1F hw]; exact I.same _
  have xe : spX0_in c.toInt64 (0 : Int64) (1 : Int64) = some (if zin c 2 then Int32.ofNat 1 else Int32.ofNat 0) := x_inl c (n := 1) (by decide)
  have me : spX4_in c.toInt64 (0 : Int64) (1 : Int64) = some (if zin c 2 then Int32.ofNat 1 else Int32.ofNat 0) := xe
  rw [z1T hw, z1T hw, xe, Option.bind_some, me, Option.bind_some]
  by_cases hc : zin c 2
  case neg => rw [z1F hc, z1F hc]; exact I.same _
  obtain ⟨t, ht, rfl⟩ := zin_ex hz (by omega)
  obtain ⟨d, hd, rfl⟩ := zin_ex hw (by omega)
  have h0 := I.W.h0 hd
  obtain ⟨V1, k1, I1, k2, k3, -, -⟩ := I.mkeeps
  rw [z1T hc, z1T hc, m_hoursAhead I.sv I.W, hf_b2_some, k1, Option.bind_some]
  have key : ∃ r g' V', lpX0_bring_39 hf_N o (Int32.ofNat t) (Int32.ofNat d) c (zc1 none) (zc2 none) (Int32.ofNat 0) g = some (r, g') ∧ lpX4_bring_49 hf_N (Int32.ofNat t) (Int32.ofNat d) c (Int32.ofNat (zleft v)) (zc1 none) (zc2 none) (Int32.ofNat 0) V1 = some (r, V') ∧ hf_INV P g' o V' ∧ hf_kq g g' ∧ g'.2 = g.2 := by
    refine hf_loopR2 (fun n i (z : Option (Nat × Nat) × hf_H × hf_V × hf_V) => lpX0_bring_39 n o (Int32.ofNat t) (Int32.ofNat d) c (zc1 z.1) (zc2 z.1) (Int32.ofNat i) z.2.1) (fun n i (z : Option (Nat × Nat) × hf_H × hf_V × hf_V) => lpX4_bring_49 n (Int32.ofNat t) (Int32.ofNat d) c (Int32.ofNat (zleft v)) (zc1 z.1) (zc2 z.1) (Int32.ofNat i) z.2.2.1) (fun i z => hf_I P z.2.1 o z.2.2.1 z.2.2.2 f st kp rl rd ps ik sk v ∧ hf_kt z.2.2.1 v ∧ hf_kq g z.2.1 ∧ z.2.1.2 = g.2 ∧ hf_txq V z.2.2.1 ∧ ∀ s m, z.1 = some (s, m) → s < 8 ∧ m < 1000) (v 0) (fun r1 r2 => ∃ r g' V', r1 = some (r, g') ∧ r2 = some (r, V') ∧ hf_INV P g' o V' ∧ hf_kq g g' ∧ g'.2 = g.2) (fun i n z hi hP => ?_) (fun n z hP => ?_) (none, g, V1, XV) ⟨I1, k2, hf_kq.rfl_ g, rfl, k3, fun s m h => (by cases h)⟩ (fuel := hf_N) (by unfold hf_N; omega)
    · obtain ⟨z, g1, W1, XV1⟩ := z
      obtain ⟨p1, p2, p3, p4, p5, p6⟩ := hP
      simp only at p1 p2 p3 p4 p5 p6
      right
      have R1 : hf_Rul g1 (p t) W1 t := ((c4 t ht).kq p3).R.tx p5
      have L1 := c1.kq p3
      have qw := p1.W.b (10 + 5 * d + 3)
      have nX : ∀ x y, lpX0_bring_39 (n + 1) o (Int32.ofNat t) (Int32.ofNat d) c x y (Int32.ofNat i) g1 = ndX0_bring_39 (lpX0_bring_39 n) o (Int32.ofNat t) (Int32.ofNat d) c x y (Int32.ofNat i) g1 := fun x y => rfl
      have nM : ∀ x y, lpX4_bring_49 (n + 1) (Int32.ofNat t) (Int32.ofNat d) c (Int32.ofNat (zleft v)) x y (Int32.ofNat i) W1 = ndX4_bring_49 (lpX4_bring_49 n) (Int32.ofNat t) (Int32.ofNat d) c (Int32.ofNat (zleft v)) x y (Int32.ofNat i) W1 := fun x y => rfl
      have jX : ∀ x y g2, ndX0_bring_119 (lpX0_bring_39 n) o (Int32.ofNat t) (Int32.ofNat d) c x y (Int32.ofNat i) g2 = lpX0_bring_39 n o (Int32.ofNat t) (Int32.ofNat d) c x y (Int32.ofNat (i + 1)) g2 := fun x y g2 => by
        unfold ndX0_bring_119
        rw [hf_let_eq, z_lit, z_add]
      have jM : ∀ x y W2, ndX4_bring_121 (lpX4_bring_49 n) (Int32.ofNat t) (Int32.ofNat d) c (Int32.ofNat (zleft v)) x y (Int32.ofNat i) W2 = lpX4_bring_49 n (Int32.ofNat t) (Int32.ofNat d) c (Int32.ofNat (zleft v)) x y (Int32.ofNat (i + 1)) W2 := fun x y W2 => by
        unfold ndX4_bring_121
        rw [hf_let_eq, z_lit, z_add]
      show ∃ z' : Option (Nat × Nat) × hf_H × hf_V × hf_V, lpX0_bring_39 (n + 1) o (Int32.ofNat t) (Int32.ofNat d) c (zc1 z) (zc2 z) (Int32.ofNat i) g1 = lpX0_bring_39 n o (Int32.ofNat t) (Int32.ofNat d) c (zc1 z'.1) (zc2 z'.1) (Int32.ofNat (i + 1)) z'.2.1 ∧ lpX4_bring_49 (n + 1) (Int32.ofNat t) (Int32.ofNat d) c (Int32.ofNat (zleft v)) (zc1 z) (zc2 z) (Int32.ofNat i) W1 = lpX4_bring_49 n (Int32.ofNat t) (Int32.ofNat d) c (Int32.ofNat (zleft v)) (zc1 z'.1) (zc2 z'.1) (Int32.ofNat (i + 1)) z'.2.2.1 ∧ hf_I P z'.2.1 o z'.2.2.1 z'.2.2.2 f st kp rl rd ps ik sk v ∧ hf_kt z'.2.2.1 v ∧ hf_kq g z'.2.1 ∧ z'.2.1.2 = g.2 ∧ hf_txq V z'.2.2.1 ∧ ∀ s m, z'.1 = some (s, m) → s < 8 ∧ m < 1000
      rw [nX, nM]
      unfold ndX0_bring_39 ndX4_bring_49 ndX0_bring_111 ndX4_bring_113
      rw [p1.X.fa, Option.bind_some, p1.F.stalls, Option.bind_some, if_neg (z_nle hi (by omega)), p1.X.st, Option.bind_some, p1.S.ob, p1.S.where_ hd q1, Option.bind_some, p1.sv.l0, Option.bind_some, if_neg (z_nle hi (by omega)), zwpos, z_ld (by omega) (by omega), p2 _ (by omega), Option.bind_some]
      by_cases e1 : Int32.ofNat i = Int32.ofNat (v (10 + 5 * d + 3))
      · rw [if_pos e1, if_pos e1, jX, jM]
        exact ⟨(z, g1, W1, XV1), rfl, rfl, p1, p2, p3, p4, p5, p6⟩
      obtain ⟨r, g2, W2, XV2, y1, y2, y3, y4, y5, y6, y7, y8⟩ := xm_sold p1 p2 R1 hi hd
      have hob8 : ∀ K : Option (Int32 × hf_H), ((hf_ob 0 8 g1 (p t)).bind fun _ => K) = K := fun K => by
        obtain ⟨_, RV, l, nn, pp, r1, -⟩ := R1
        rw [r1]; rfl
      have ht2 : hf_txq V W2 := ⟨y7.1.trans p5.1, y7.2.1.trans p5.2.1, y7.2.2.trans p5.2.2⟩
      rw [if_neg e1, if_neg e1, p1.rul, Option.bind_some, L1.L.ob, L1.L.get ht (by omega), hf_b2_some, hob8, p1.X.ob, y1, hf_b2_some, y2, hf_b2_some]
      simp only [jX, jM]
      refine ⟨(zbr z i r, g2, W2, XV2), ?_, ?_, y3, y4, p3.trans y5, y6.trans p4, ht2, fun s m h => ?_⟩
      · cases r with
        | none => rw [if_pos (show zcode none = -1 from rfl)]; rfl
        | some x =>
          have hx := y8 x rfl
          have hn1 : ¬ zcode (some x) = -1 := fun z => by
            have h0 : ¬ Int32.ofNat x < 0 := z_n0 x (by omega)
            rw [show Int32.ofNat x = -1 from z] at h0
            exact h0 (by decide)
          rw [if_neg hn1]
          cases z with
          | none => rw [if_pos (show zc1 none = -2 from rfl)]; rfl
          | some q =>
            obtain ⟨s, m⟩ := q
            obtain ⟨s1, s2⟩ := p6 s m rfl
            rw [if_neg (show ¬ zc1 (some (s, m)) = -2 from (zbc_s (k := s) (by omega)).1)]
            show (if Int32.ofNat x < Int32.ofNat m then _ else _) = lpX0_bring_39 n o (Int32.ofNat t) (Int32.ofNat d) c (zc1 (if x < m then some (i, x) else some (s, m))) (zc2 (if x < m then some (i, x) else some (s, m))) (Int32.ofNat (i + 1)) g2
            by_cases c9 : x < m
            · rw [if_pos c9, if_pos ((z_lt (by omega) (by omega)).mpr c9)]; rfl
            · rw [if_neg c9, if_neg (fun z => c9 ((z_lt (by omega) (by omega)).mp z))]
      · cases r with
        | none => rw [if_pos (show zcode none < 0 by decide)]; rfl
        | some x =>
          have hx := y8 x rfl
          rw [if_neg (show ¬ zcode (some x) < 0 from z_n0 x (by omega))]
          cases z with
          | none => rw [if_pos (show zc1 none < 0 by decide)]; rfl
          | some q =>
            obtain ⟨s, m⟩ := q
            obtain ⟨s1, s2⟩ := p6 s m rfl
            rw [if_neg (show ¬ zc1 (some (s, m)) < 0 from z_n0 s (by omega))]
            show (if Int32.ofNat x < Int32.ofNat m then _ else _) = lpX4_bring_49 n (Int32.ofNat t) (Int32.ofNat d) c (Int32.ofNat (zleft v)) (zc1 (if x < m then some (i, x) else some (s, m))) (zc2 (if x < m then some (i, x) else some (s, m))) (Int32.ofNat (i + 1)) W2
            by_cases c9 : x < m
            · rw [if_pos c9, if_pos ((z_lt (by omega) (by omega)).mpr c9)]; rfl
            · rw [if_neg c9, if_neg (fun z => c9 ((z_lt (by omega) (by omega)).mp z))]
      · have h' : zbr z i r = some (s, m) := h
        cases r with
        | none => exact p6 s m h'
        | some x =>
          have hx := y8 x rfl
          cases z with
          | none => cases h'; exact ⟨by omega, hx⟩
          | some q =>
            obtain ⟨s', m'⟩ := q
            have h'' : (if x < m' then some (i, x) else some (s', m')) = some (s, m) := h'
            split at h''
            · cases h''; exact ⟨by omega, hx⟩
            · cases h''; exact p6 _ _ rfl
    · obtain ⟨z, g1, W1, XV1⟩ := z
      obtain ⟨p1, p2, p3, p4, p5, p6⟩ := hP
      simp only at p1 p2 p3 p4 p5 p6
      refine ⟨if c = 0 then zc1 z else zc2 z, g1, W1, ?_, ?_, p1.inv, p3, p4⟩
      · show ndX0_bring_39 (lpX0_bring_39 n) _ _ _ _ _ _ _ _ = _
        unfold ndX0_bring_39
        rw [p1.X.fa, Option.bind_some, p1.F.stalls, Option.bind_some, if_pos (z_yle (Nat.le_refl _) (by omega))]
        by_cases e : c = 0
        · rw [if_pos e, if_pos e]
        · rw [if_neg e, if_neg e]
      · show ndX4_bring_49 (lpX4_bring_49 n) _ _ _ _ _ _ _ _ = _
        unfold ndX4_bring_49
        rw [p1.sv.l0, Option.bind_some, if_pos (z_yle (Nat.le_refl _) (by omega))]
        by_cases e : c = 0
        · rw [if_pos e, if_pos e]
        · rw [if_neg e, if_neg e]
  obtain ⟨r, g', V', y1, y2, y3, y4, y5⟩ := key
  exact ⟨r, g', V', y1, y2, y3, y4.kf y5⟩
end ZI
set_option maxRecDepth 100000
set_option maxHeartbeats 1000000
/-! draws -/
theorem zl_ofNat {n : Nat} (h : n < 2147483648) : (Int32.ofNat n).toInt64 = Int64.ofNat n := by
  apply Int64.toInt_inj.mp
  rw [Int32.toInt_toInt64, Int32.toInt_ofNat_of_lt (by omega), Int64.toInt_ofNat_of_lt (by omega)]
theorem zl_back (n : Nat) : (Int64.ofNat n).toInt32 = Int32.ofNat n := by
  apply Int32.toBitVec.inj
  show (BitVec.ofNat 64 n).signExtend 32 = BitVec.ofNat 32 n
  apply BitVec.eq_of_getLsbD_eq
  intro i hi
  rw [BitVec.getLsbD_signExtend]
  simp only [BitVec.getLsbD_ofNat, hi, decide_true, Bool.true_and]
  rw [if_pos (by omega)]
  simp
  omega
theorem zl_lit (n : Nat) : (OfNat.ofNat n : Int64) = Int64.ofNat n := rfl
theorem zl_rem {a b : Nat} (ha : a < 9223372036854775808) (hb : b < 9223372036854775808) : Int64.ofNat a - Int64.ofNat a / Int64.ofNat b * Int64.ofNat b = Int64.ofNat (a % b) := by
  rw [← Int64.ofNat_div ha hb, ← Int64.ofNat_mul, ← Int64.ofNat_sub _ _ (Nat.div_mul_le_self a b)]
  congr 1
  have := Nat.div_add_mod a b
  rw [Nat.mul_comm] at this
  omega
/-- the next draw -/
def zdr (n : Nat) : Nat := (n * 1103515245 + 12345) % 2147483648
theorem zdr_lt (n : Nat) : zdr n < 2147483648 := Nat.mod_lt _ (by decide)
theorem zdr_l {n : Nat} (h : n < 2147483648) : ((Int64.ofNat n * (1103515245 : Int64)) + (12345 : Int64)) - ((Int64.ofNat n * (1103515245 : Int64)) + (12345 : Int64)) / (2147483648 : Int64) * (2147483648 : Int64) = Int64.ofNat (zdr n) := by
  have h1 : Int64.ofNat n * (1103515245 : Int64) = Int64.ofNat (n * 1103515245) := (Int64.ofNat_mul n 1103515245).symm
  have h2 : Int64.ofNat (n * 1103515245) + (12345 : Int64) = Int64.ofNat (n * 1103515245 + 12345) := (Int64.ofNat_add (n * 1103515245) 12345).symm
  rw [h1, h2]
  exact zl_rem (b := 2147483648) (by omega) (by decide)
theorem m_draw {V : hf_V} {n m : Nat} (hV : V.2.1 33 = Int64.ofNat n) (hn : n < 2147483648) (hm : 0 < m) (hm2 : m < 1000) : spX4_draw (Int32.ofNat m) V = some (Int32.ofNat (zdr n / 65536 % m), hf_ul V 33 (Int64.ofNat (zdr n))) := by
  have hz := zdr_lt n
  unfold spX4_draw
  rw [if_neg (by decide), hV, zdr_l hn, hf_let_eq, if_neg (by decide)]
  have h0 : ¬ (Int32.ofNat m).toInt64 = 0 := fun z => by
    rw [zl_ofNat (by omega)] at z
    have := congrArg Int64.toInt z
    rw [Int64.toInt_ofNat_of_lt (by omega)] at this
    have h8 : Int64.toInt 0 = 0 := by decide
    rw [h8] at this
    omega
  have h33 : (hf_ul V 33 (Int64.ofNat (zdr n))).2.1 33 = Int64.ofNat (zdr n) := by
    unfold hf_ul
    simp
  have h1 : Int64.ofNat (zdr n) / (65536 : Int64) = Int64.ofNat (zdr n / 65536) := (Int64.ofNat_div (by omega) (by decide)).symm
  rw [if_neg h0, h33, h1, zl_ofNat (by omega), zl_rem (by omega) (by omega), zl_back]
theorem x_draws {h : hf_H} {o n m : Nat} {XV : hf_V} (e : hf_ob 1 0 h o = some XV) (hX : XV.1 11 = Int32.ofNat n) (hn : n < 2147483648) (hm : 0 < m) (hm2 : m < 1000) : spX0_draws o (Int32.ofNat m) h = some (Int32.ofNat (zdr n / 65536 % m), hf_xc h o (hf_ui XV 11 (Int32.ofNat (zdr n)))) := by
  have hz := zdr_lt n
  unfold spX0_draws
  have e2 : hf_ob 1 0 (hf_up h o (.inl (1, 0, hf_ui XV 11 (Int32.ofNat (zdr n))))) o = some (hf_ui XV 11 (Int32.ofNat (zdr n))) := hf_ob_up h o 1 0 _
  have h0 : ¬ Int32.ofNat m = 0 := fun z => by have := (z_eq (b := 0) (by omega) (by decide)).mp z; omega
  have h1 : Int32.ofNat (zdr n) / (65536 : Int32) = Int32.ofNat (zdr n / 65536) := z_div (b := 65536) (by omega) (by decide)
  have h2 : Int32.ofNat (zdr n / 65536) / Int32.ofNat m = Int32.ofNat (zdr n / 65536 / m) := z_div (by omega) (by omega)
  rw [hf_gi_eq e, Option.bind_some, hX, if_neg (by decide), zl_ofNat hn, zdr_l hn, zl_back, hf_pi_eq e, Option.bind_some, hf_gi_eq e2, Option.bind_some, hf_ui_at, if_neg (by decide), if_neg h0, h1, h2, z_mul, z_rem]
  rfl
section ZI
variable {P : Nat} {g : hf_H} {o f st kp rl rd : Nat} {V XV : hf_V} {ps ik sk : Nat → Nat} {v : Nat → Nat} {a t : Nat}
/-- both stand with the draw n -/
def hf_JN (g : hf_H) (o kp : Nat) (XV V : hf_V) (v : Nat → Nat) (n : Nat) (g1 : hf_H) (V1 : hf_V) (v1 : Nat → Nat) : Prop := hf_JJ (hf_xc g o (hf_ui XV 11 (Int32.ofNat n))) o kp (hf_ui XV 11 (Int32.ofNat n)) (hf_ul V 33 (Int64.ofNat n)) v g1 V1 v1
def hf_BN (g : hf_H) (o f st kp : Nat) (XV V : hf_V) (v : Nat → Nat) (a t : Nat) : Prop := ∀ n, hf_BB (hf_xc g o (hf_ui XV 11 (Int32.ofNat n))) o f st kp (hf_ui XV 11 (Int32.ofNat n)) (hf_ul V 33 (Int64.ofNat n)) v a t
theorem xm_draw (BN : hf_BN g o f st kp XV V v a t) {n : Nat} (hn : n < 2147483648) {g1 : hf_H} {V1 : hf_V} {v1 : Nat → Nat} (J : hf_JN g o kp XV V v n g1 V1 v1) {m : Nat} (hm : 0 < m) (hm2 : m < 1000) : ∃ g2, spX0_draws o (Int32.ofNat m) g1 = some (Int32.ofNat (zdr n / 65536 % m), g2) ∧ spX4_draw (Int32.ofNat m) V1 = some (Int32.ofNat (zdr n / 65536 % m), hf_ul V1 33 (Int64.ofNat (zdr n))) ∧ hf_JN g o kp XV V v (zdr n) g2 (hf_ul V1 33 (Int64.ofNat (zdr n))) v1 := by
  obtain ⟨W, SV, rfl, j2, Wf, E, Sv, M⟩ := J
  have B := BN n
  have hne := B.ne
  have e1 := hf_JJ.oo B W SV
  have hV : V1.2.1 33 = Int64.ofNat n := by
    rw [M.2.1]
    unfold hf_ul
    simp
  refine ⟨_, x_draws e1 (hf_ui_at XV 11 (Int32.ofNat n)) hn hm hm2, m_draw hV hn hm hm2, W, SV, ?_, j2, Wf, E, Sv, ?_⟩
  · have h1 : hf_ui (hf_xw (hf_ui XV 11 (Int32.ofNat n)) W) 11 (Int32.ofNat (zdr n)) = hf_xw (hf_ui XV 11 (Int32.ofNat (zdr n))) W := by
      unfold hf_ui hf_xw
      refine Prod.ext ?_ rfl
      funext j
      by_cases e : j = 11 <;> simp [e]
    rw [h1]
    unfold hf_xc hf_sc
    rw [hf_up_comm _ hne.symm, hf_up_up, hf_up_up, hf_up_up]
  · refine ⟨M.1, ?_, M.2.2.1, M.2.2.2.1, M.2.2.2.2⟩
    show (hf_ul V1 33 _).2.1 = (hf_ul V 33 _).2.1
    have h2 := M.2.1
    unfold hf_ul at h2 ⊢
    funext j
    show (if j = 33 then _ else V1.2.1 j) = (if j = 33 then _ else V.2.1 j)
    by_cases e : j = 33
    · simp [e]
    · simp only [e, if_false]
      rw [h2]
      show (if j = 33 then _ else V.2.1 j) = _
      rw [if_neg e]
theorem zw_sub (m : Nat) : Int32.ofNat m - (1 : Int32) = zway m := rfl
theorem xm_drawn (BN : hf_BN g o f st kp XV V v a t) {n : Nat} (hn : n < 2147483648) {g1 : hf_H} {V1 : hf_V} {v1 : Nat → Nat} (J : hf_JN g o kp XV V v n g1 V1 v1) (h3 : v1 3 < 99) (p : Int32) : ∃ c n' g2 V2 v2, spX0_drawnHour o kp a p g1 = some (c, g2) ∧ spX4_drawsHour (Int32.ofNat t) p V1 = some V2 ∧ n' < 2147483648 ∧ hf_JN g o kp XV V v n' g2 V2 v2 ∧ v2 3 = v1 3 + 1 ∧ (∀ k, 86 ≤ k → v2 k = v1 k) ∧ V2.1 26 = V1.1 26 + c := by
  obtain ⟨X, F, S, Wf, Sv, E, R⟩ := hf_JJ.x2 (BN n) J
  have q1 := Wf.v1
  have q2 := Wf.v2
  unfold spX0_drawnHour spX4_drawsHour
  refine hf_loopR2 (fun m i (z : Int32 × hf_H × hf_V × (Nat → Nat) × Nat) => lpX0_drawnHour_6 m o kp a p z.1 (Int32.ofNat i) z.2.1) (fun m i (z : Int32 × hf_H × hf_V × (Nat → Nat) × Nat) => lpX4_drawsHour_2 m (Int32.ofNat t) p (Int32.ofNat i) z.2.2.1) (fun i z => z.2.2.2.2 < 2147483648 ∧ hf_JN g o kp XV V v z.2.2.2.2 z.2.1 z.2.2.1 z.2.2.2.1 ∧ hf_fe v1 z.2.2.2.1 ∧ z.2.2.2.1 3 = v1 3 ∧ (∀ k, 86 ≤ k → z.2.2.2.1 k = v1 k) ∧ z.2.2.1.1 26 = V1.1 26 + z.1) (v1 2) (fun r1 r2 => ∃ c n' g2 V2 v2, r1 = some (c, g2) ∧ r2 = some V2 ∧ n' < 2147483648 ∧ hf_JN g o kp XV V v n' g2 V2 v2 ∧ v2 3 = v1 3 + 1 ∧ (∀ k, 86 ≤ k → v2 k = v1 k) ∧ V2.1 26 = V1.1 26 + c) (fun i m z hi hP => ?_) (fun m z hP => ?_) ((0 : Int32), g1, V1, v1, n) ⟨hn, J, hf_fe.rfl_ v1, rfl, fun _ _ => rfl, (Int32.add_zero _).symm⟩ (fuel := hf_N) (by unfold hf_N; omega)
  · obtain ⟨c, ga, Va, va, na⟩ := z
    obtain ⟨p1, p2, p3, p4, p5, p6⟩ := hP
    simp only at p1 p2 p3 p4 p5 p6
    right
    obtain ⟨X1, F1, S1, Wf1, Sv1, E1, R1⟩ := hf_JJ.x2 (BN na) p2
    have e2 : va 2 = v1 2 := p3.2.2.1
    obtain ⟨gb, d1, d2, d3⟩ := xm_draw BN p1 p2 (m := 100) (by decide) (by decide)
    have d1' : spX0_draws o (100 : Int32) ga = some (Int32.ofNat (zdr na / 65536 % 100), gb) := d1
    have d2' : spX4_draw (100 : Int32) Va = some (Int32.ofNat (zdr na / 65536 % 100), hf_ul Va 33 (Int64.ofNat (zdr na))) := d2
    have nX : lpX0_drawnHour_6 (m + 1) o kp a p c (Int32.ofNat i) ga = ndX0_drawnHour_6 (lpX0_drawnHour_6 m) o kp a p c (Int32.ofNat i) ga := rfl
    have nM : lpX4_drawsHour_2 (m + 1) (Int32.ofNat t) p (Int32.ofNat i) Va = ndX4_drawsHour_2 (lpX4_drawsHour_2 m) (Int32.ofNat t) p (Int32.ofNat i) Va := rfl
    have a9 : Int32.ofNat i + (1 : Int32) = Int32.ofNat (i + 1) := z_add _ 1
    -- buying, then a going
    have go : ∀ (nb : Nat) (gc : hf_H) (Vc : hf_V) (fl : Bool) (w : Nat), nb < 2147483648 → w < 3 → hf_JN g o kp XV V v nb gc Vc va → Vc.1 26 = Va.1 26 → ∃ z' : Int32 × hf_H × hf_V × (Nat → Nat) × Nat, ndX0_drawnHour_48 (lpX0_drawnHour_6 m) o kp a p c (Int32.ofNat i) (zb fl) (zway w) gc = lpX0_drawnHour_6 m o kp a p z'.1 (Int32.ofNat (i + 1)) z'.2.1 ∧ ndX4_drawsHour_45 (lpX4_drawsHour_2 m) (Int32.ofNat t) p (Int32.ofNat i) (zb fl) (zway w) Vc = lpX4_drawsHour_2 m (Int32.ofNat t) p (Int32.ofNat (i + 1)) z'.2.2.1 ∧ z'.2.2.2.2 < 2147483648 ∧ hf_JN g o kp XV V v z'.2.2.2.2 z'.2.1 z'.2.2.1 z'.2.2.2.1 ∧ hf_fe v1 z'.2.2.2.1 ∧ z'.2.2.2.1 3 = v1 3 ∧ (∀ k, 86 ≤ k → z'.2.2.2.1 k = v1 k) ∧ z'.2.2.1.1 26 = V1.1 26 + z'.1 := by
      intro nb gc Vc fl w hnb hw Jc h26
      obtain ⟨Xc, Fc, Sc, Wfc, Svc, Ec, Rc⟩ := hf_JJ.x2 (BN nb) Jc
      obtain ⟨S2, g2, V2, v2, b1, b2, b3, b4, b5, b6, b7⟩ := xm_buysAll (BN nb) Jc (b := i) (by omega)
      obtain ⟨X2, F2, SS2, Wf2, Sv2, E2, R2⟩ := hf_JJ.x2 (BN nb) b3
      have e22 : v2 2 = va 2 := b4.2.2.1
      have hSl : S2 < 4096 := b5.lt Wf1.v1
      have fin : ∀ (w' : Nat) (g3 : hf_H) (V3 : hf_V), w' < 3 → hf_JN g o kp XV V v nb g3 V3 v2 → V3.1 26 = V2.1 26 → ∃ g4, ndX0_drawnHour_91 (lpX0_drawnHour_6 m) o kp a p (c + Int32.ofNat (zpop S2)) (Int32.ofNat i) kp f (Int32.ofNat i) (zway w') g3 = lpX0_drawnHour_6 m o kp a p (c + Int32.ofNat (zpop S2)) (Int32.ofNat (i + 1)) g4 ∧ ndX4_drawsHour_71 (lpX4_drawsHour_2 m) (Int32.ofNat t) p (Int32.ofNat i) (Int32.ofNat i) (zway w') V3 = lpX4_drawsHour_2 m (Int32.ofNat t) p (Int32.ofNat (i + 1)) (hf_sd20 V3 (zgo v2 i w')) ∧ hf_JN g o kp XV V v nb g4 (hf_sd20 V3 (zgo v2 i w')) (zgo v2 i w') ∧ hf_fe v1 (zgo v2 i w') ∧ zgo v2 i w' 3 = v1 3 ∧ (∀ k, 86 ≤ k → zgo v2 i w' k = v1 k) ∧ (hf_sd20 V3 (zgo v2 i w')).1 26 = V1.1 26 + (c + Int32.ofNat (zpop S2)) := by
        intro w' g3 V3 hw' J3 h263
        obtain ⟨X3, F3, SS3, Wf3, Sv3, E3, R3⟩ := hf_JJ.x2 (BN nb) J3
        obtain ⟨g4, y1, y2, y3⟩ := xm_goes1 (BN nb) J3 (b := i) (w := w') (by omega) hw'
        obtain ⟨E4, Wf4⟩ := zgo_wf Wf2 (b := i) (w := w') (by omega)
        refine ⟨g4, ?_, ?_, y3, (p3.trans b4).trans E4, by rw [zgo_ot v2 i w' 3 (by omega), b7, p4], fun k hk => ?_, ?_⟩
        · unfold ndX0_drawnHour_91
          rw [SS3.ob, y1, Option.bind_some, hf_let_eq, a9]
        · unfold ndX4_drawsHour_71
          rw [y2, Option.bind_some, hf_let_eq, a9]
        · rw [zgo_ot v2 i w' k (by omega), b5.2.2.2 k hk, p5 k hk]
        · show V3.1 26 = _
          rw [h263, b6, h26, p6, Int32.add_assoc]
      unfold ndX0_drawnHour_48 ndX4_drawsHour_45
      rw [Xc.ob, b1, hf_b2_some, x_bits _ hSl, Option.bind_some, hf_let_eq, X2.fa, Option.bind_some, b2, Option.bind_some]
      cases fl
      · obtain ⟨w', g3, V3, hw', c1, c2, c3, c4⟩ := xm_way (BN nb) b3 (b := i) (by omega)
        obtain ⟨g4, y1, y2, y3, y4, y5, y6, y7⟩ := fin w' g3 V3 hw' c3 c4
        rw [if_pos zb_f, if_pos zb_f, X2.ob, c1, hf_b2_some, c2, hf_b2_some]
        exact ⟨(c + Int32.ofNat (zpop S2), g4, _, _, nb), y1, y2, hnb, y3, y4, y5, y6, y7⟩
      · obtain ⟨g4, y1, y2, y3, y4, y5, y6, y7⟩ := fin w g2 V2 hw b3 rfl
        rw [if_neg (show ¬ zb true = 0 by decide), if_neg (show ¬ zb true = 0 by decide)]
        exact ⟨(c + Int32.ofNat (zpop S2), g4, _, _, nb), y1, y2, hnb, y3, y4, y5, y6, y7⟩
    show ∃ z' : Int32 × hf_H × hf_V × (Nat → Nat) × Nat, lpX0_drawnHour_6 (m + 1) o kp a p c (Int32.ofNat i) ga = lpX0_drawnHour_6 m o kp a p z'.1 (Int32.ofNat (i + 1)) z'.2.1 ∧ lpX4_drawsHour_2 (m + 1) (Int32.ofNat t) p (Int32.ofNat i) Va = lpX4_drawsHour_2 m (Int32.ofNat t) p (Int32.ofNat (i + 1)) z'.2.2.1 ∧ z'.2.2.2.2 < 2147483648 ∧ hf_JN g o kp XV V v z'.2.2.2.2 z'.2.1 z'.2.2.1 z'.2.2.2.1 ∧ hf_fe v1 z'.2.2.2.1 ∧ z'.2.2.2.1 3 = v1 3 ∧ (∀ k, 86 ≤ k → z'.2.2.2.1 k = v1 k) ∧ z'.2.2.1.1 26 = V1.1 26 + z'.1
    rw [nX, nM]
    unfold ndX0_drawnHour_6 ndX4_drawsHour_2
    rw [X1.ob, x_buyers X1 F1, hf_b2_some, if_neg (z_nle (by omega) (by omega)), X1.ob, d1', hf_b2_some, Sv1.l2, Option.bind_some, if_neg (z_nle (by omega) (by omega)), d2', hf_b2_some]
    by_cases hd : p ≤ Int32.ofNat (zdr na / 65536 % 100)
    · rw [if_pos hd, if_pos hd]
      unfold ndX0_drawnHour_30 ndX4_drawsHour_27
      rw [if_pos rfl, if_pos rfl]
      exact go (zdr na) gb _ false 1 (zdr_lt na) (by decide) d3 rfl
    · rw [if_neg hd, if_neg hd]
      obtain ⟨gc, e1, e2', e3⟩ := xm_draw BN (zdr_lt na) d3 (m := 3) (by decide) (by decide)
      obtain ⟨Xb, Fb, Sb, Wfb, Svb, Eb, Rb⟩ := hf_JJ.x2 (BN _) d3
      have e1' : spX0_draws o (3 : Int32) gb = some (Int32.ofNat (zdr (zdr na) / 65536 % 3), gc) := e1
      have e2'' : spX4_draw (3 : Int32) (hf_ul Va 33 (Int64.ofNat (zdr na))) = _ := e2'
      unfold ndX0_drawnHour_30 ndX4_drawsHour_27
      rw [if_neg (by decide), if_neg (by decide), Xb.ob, e1', hf_b2_some, e2'', hf_b2_some, zw_sub]
      exact go (zdr (zdr na)) gc _ true (zdr (zdr na) / 65536 % 3) (zdr_lt _) (Nat.mod_lt _ (by decide)) e3 rfl
  · obtain ⟨c, ga, Va, va, na⟩ := z
    obtain ⟨p1, p2, p3, p4, p5, p6⟩ := hP
    simp only at p1 p2 p3 p4 p5 p6
    obtain ⟨X1, F1, S1, Wf1, Sv1, E1, R1⟩ := hf_JJ.x2 (BN na) p2
    have e2 : va 2 = v1 2 := p3.2.2.1
    obtain ⟨g2, d1, d2, d3⟩ := xm_pass1 (BN na) p2 (by omega)
    have q21 := Wf1.v2
    refine ⟨c, na, g2, hf_sd20 Va (zhour va), zhour va, ?_, ?_, p1, d3, by rw [zhour_3, p4], fun k hk => (zhour_hi va (by omega) k hk).trans (p5 k hk), p6⟩
    · show ndX0_drawnHour_6 (lpX0_drawnHour_6 m) _ _ _ _ _ _ _ = _
      unfold ndX0_drawnHour_6
      rw [X1.ob, x_buyers X1 F1, hf_b2_some, e2, if_pos (z_yle (Nat.le_refl _) (by omega)), X1.fa, Option.bind_some, S1.ob, d1, Option.bind_some]
    · show ndX4_drawsHour_2 (lpX4_drawsHour_2 m) _ _ _ _ = _
      unfold ndX4_drawsHour_2
      rw [Sv1.l2, Option.bind_some, e2, if_pos (z_yle (Nat.le_refl _) (by omega)), d2, Option.bind_some]
end ZI
