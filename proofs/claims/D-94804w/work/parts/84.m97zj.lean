set_option maxRecDepth 100000
set_option maxHeartbeats 1000000
/-! texts: part and test, their loops -/
def hf_rf9 (g g' : hf_H) (pa o T a : Nat) (V V' : hf_V) (t L : Nat) : Prop := ∃ c, hf_gi 0 3 6 g' (o + 19) = some (Int32.ofNat c) ∧ V'.1 9 = Int32.ofNat c ∧ 1 ≤ c ∧ c < 100000 ∧ hf_gk pa o g g' (T + 1 - a) ∧ hf_wf9 V V' t L
theorem hf_rf.r9 {g g' : hf_H} {pa o T a : Nat} {V V' : hf_V} {t L : Nat} (H : hf_rf g g' pa o T a V V' t L) : hf_rf9 g g' pa o T a V V' t L := by
  obtain ⟨c, c1, c2, c3, c4, c5, c6⟩ := H
  exact ⟨c, c1, c2, c3, c4, c5, c6.w9⟩
theorem hf_rf9.lift {g g1 g' : hf_H} {pa o T a a1 : Nat} {V V1 V' : hf_V} {t L L1 n : Nat} (H : hf_rf9 g1 g' pa o T a1 V1 V' t L1) (K : hf_gk pa o g g1 n) (Q : hf_wq V V1 t L) (h1 : L ≤ L1) (h2 : a + n ≤ a1) (h3 : a1 ≤ T) : hf_rf9 g g' pa o T a V V' t L := by
  obtain ⟨c, c1, c2, c3, c4, c5, c6⟩ := H
  exact ⟨c, c1, c2, c3, c4, (K.trans c5).mono (by omega), Q.f9 c6 h1⟩
def zTS (gs : hf_gs) (pa o nm : Nat) (B : Nat → Nat) (T t : Nat) (g : hf_H) (PV V : hf_V) (a m L : Nat) (q : List Nat) (d : Nat) : Prop := hf_ps gs g pa o nm PV B T V a m ∧ hf_tt V t L ∧ hf_os V q ∧ zqq q ∧ PV.1 2 = Int32.ofNat d ∧ V.1 13 = Int32.ofNat d ∧ d ≤ 10
/-- what was read since the start (g0, V0, a0, m0, L0) -/
def zTR (gs : hf_gs) (pa o nm : Nat) (B : Nat → Nat) (T t : Nat) (g0 : hf_H) (PV0 V0 : hf_V) (a0 m0 L0 : Nat) (q : List Nat) (d l ln : Nat) (r : Nat) (g : hf_H) (PV V : hf_V) (a m : Nat) (cs rho : List Nat) (n c s D : Nat) : Prop := zTS gs pa o nm B T t g PV V a m (L0 + cs.length) (q ++ rho) d ∧ (a0 < a ∧ m0 + 3 ≤ m ∧ hf_gk pa o g0 g (a - a0) ∧ hf_pw PV0 PV ∧ hf_wq V0 V t L0 ∧ zcds V t L0 cs) ∧ (zlv cs + m0 + 1 ≤ m ∧ L0 + cs.length + zpend (q ++ rho) + 5 ≤ 6 * m ∧ zok l rho ∧ hf_Cnd D g r (cs ++ rho.reverse) ∧ 3 * D + 3 * d + m0 ≤ m + 30) ∧ (T < n + a ∧ T < c + a ∧ (q ++ rho).length < s) ∧ zno B T ln a
def zTO (gs : hf_gs) (pa o nm : Nat) (B : Nat → Nat) (T t : Nat) (g0 : hf_H) (PV0 V0 : hf_V) (a0 m0 L0 : Nat) (q : List Nat) (d l : Nat) (X : Option ((Nat ⊕ Nat) × hf_H)) (M : Option (Int32 × hf_V)) : Prop := (∃ g' V', X = some (.inl (o + 19), g') ∧ M = some (0, V') ∧ hf_rf9 g0 g' pa o T a0 V0 V' t L0) ∨ ∃ r g PV V a m cs rho n c s D, X = some (.inr r, g) ∧ M = zKB n c s V ∧ zTR gs pa o nm B T t g0 PV0 V0 a0 m0 L0 q d l l r g PV V a m cs rho n c s D
def zCL (gs : hf_gs) (pa o nm : Nat) (B : Nat → Nat) (T t : Nat) (l D : Nat) (kf : Nat → hf_H → Option ((Nat ⊕ Nat) × hf_H)) : Prop := ∀ (g : hf_H) (PV V : hf_V) (a m L : Nat) (q : List Nat) (d n f : Nat), zTS gs pa o nm B T t g PV V a m L q d → 11 ≤ D + d → (l < 3 → zstp l q) → q.length + 1 ≤ 3 * d + l → L + zpend q ≤ 6 * m + d → T < n + a → T + 1 < f + a → zTO gs pa o nm B T t g PV V a m L q d l (kf pa g) (zKA n f 1 V)
/-- HalfFair's loops of part and test -/
def zlpn (gs : hf_gs) (w : Nat) (fl : Int32) (kf : Nat → hf_H → Option ((Nat ⊕ Nat) × hf_H)) (k5 : Nat → Nat → hf_H → Option ((Nat ⊕ Nat) × hf_H)) (l0 : Nat) (l1 : Nat) (V0 : hf_H) : Option ((Nat ⊕ Nat) × hf_H) :=
  (hf_ob 0 5 V0 l0).bind fun _ =>
  hf_b2 (spX5_takes gs l0 (gs.2 w) V0) fun x2 g1 =>
  if x2 = 0 then (some (.inr l1, g1)) else
  hf_mk g1 (.inl (0, 17, hf_V0)) 3 fun x3 g4 =>
  (hf_ob 0 5 g4 l0).bind fun _ =>
  hf_bT (kf l0 g4) fun x6 g5 =>
  (spX17_init x3 l1 x6 fl g5).bind fun g7 =>
  k5 l0 x3 g7
def zlp (gs : hf_gs) (w : Nat) (fl : Int32) (kf : Nat → hf_H → Option ((Nat ⊕ Nat) × hf_H)) : Nat → Nat → Nat → hf_H → Option ((Nat ⊕ Nat) × hf_H)
  | 0 => fun _ _ _ => none
  | n + 1 => fun l0 l1 V0 => zlpn gs w fl kf (zlp gs w fl kf n) l0 l1 V0
theorem zlp_part (gs : hf_gs) (kf : Nat → hf_H → Option ((Nat ⊕ Nat) × hf_H)) : ∀ n, lpX5_part_5 gs kf n = zlp gs 14 0 kf n
  | 0 => rfl
  | n + 1 => by
    show (fun l0 l1 V0 => ndX5_part_5 gs kf (lpX5_part_5 gs kf n) l0 l1 V0) = fun l0 l1 V0 => zlpn gs 14 0 kf (zlp gs 14 0 kf n) l0 l1 V0
    rw [zlp_part gs kf n]
    rfl
theorem zlp_test (gs : hf_gs) (kf : Nat → hf_H → Option ((Nat ⊕ Nat) × hf_H)) : ∀ n, lpX5_test_5 gs kf n = zlp gs 15 1 kf n
  | 0 => rfl
  | n + 1 => by
    show (fun l0 l1 V0 => ndX5_test_5 gs kf (lpX5_test_5 gs kf n) l0 l1 V0) = fun l0 l1 V0 => zlpn gs 15 1 kf (zlp gs 15 1 kf n) l0 l1 V0
    rw [zlp_test gs kf n]
    rfl
theorem zis_at {B : Nat → Nat} {T a : Nat} (ha : a ≤ T) (W : List Nat) : zis B T (zsk B T a) W ↔ zis B T a W := zis_sk ha W
theorem hf_Cnd.kv' {pa o : Nat} {g g' : hf_H} {n : Nat} (K : hf_gk pa o g g' n) (N : hf_no g) {PV WV : hf_V} (e5 : hf_ob 0 5 g pa = some PV) (e3 : hf_ob 0 3 g (o + 19) = some WV) {D r : Nat} {c : List Nat} (H : hf_Cnd D g r c) : hf_Cnd D g' r c := hf_Cnd.kv (hf_gk.kv K N e5 e3) _ _ _ H
section ZQ
variable {gs : hf_gs} {pa o nm : Nat} {B : Nat → Nat} {T t : Nat} {g0 : hf_H} {PV0 V0 : hf_V} {a0 m0 L0 : Nat} {q : List Nat} {d : Nat}
theorem zTS.ms {g : hf_H} {PV V : hf_V} {a m L : Nat} (H : zTS gs pa o nm B T t g PV V a m L q d) : zMS V B T a m q d t L := by
  obtain ⟨⟨N, P, p0, p1, p3, wo, mt, v8, v9, v12, ha, hm⟩, h2, h3, h4, h5, h6, h7⟩ := H
  exact ⟨mt, v8, v9, v12, h2, h3, h6, ha⟩
/-- both move on -/
theorem zTS.at_ {g : hf_H} {PV V : hf_V} {a m L : Nat} (H : zTS gs pa o nm B T t g PV V a m L q d) {a' : Nat} (h : a' ≤ T) : zTS gs pa o nm B T t (hf_pc g pa (hf_ui PV 1 (Int32.ofNat a'))) (hf_ui PV 1 (Int32.ofNat a')) (hf_ui V 8 (Int32.ofNat a')) a' m L q d := by
  obtain ⟨h1, h2, h3, h4, h5, h6, h7⟩ := H
  exact ⟨h1.at_ h, h2.ui (by decide) _, h3.eq (hf_ui_ne _ (by decide) _) rfl, h4, by rw [hf_ui_ne _ (by decide)]; exact h5, by rw [hf_ui_ne _ (by decide)]; exact h6, h7⟩
/-- a state put together anew -/
theorem zTS.mk {g : hf_H} {PV V : hf_V} {a m L : Nat} (N : hf_no g) (P : hf_px g pa o PV B T) (p0 : PV.2.2.1 0 = some nm) (p1 : PV.1 1 = Int32.ofNat a) (p2 : PV.1 2 = Int32.ofNat d) (p3 : PV.1 3 = Int32.ofNat m) (wo : hf_wo g gs nm) (M : zMS V B T a m q d t L) (Q : zqq q) (hd : d ≤ 10) (hm : m ≤ 60) : zTS gs pa o nm B T t g PV V a m L q d := by
  obtain ⟨mt, v8, v9, v12, h2, h3, h6, ha⟩ := M
  exact ⟨⟨N, P, p0, p1, p3, wo, mt, v8, v9, v12, ha, hm⟩, h2, h3, Q, p2, h6, hd⟩
theorem zloop {l x w D0 : Nat} {fl : Int32} (hx : (x = 12 ∧ l = 2 ∧ w = 14 ∧ fl = 0) ∨ (x = 13 ∧ l = 1 ∧ w = 15 ∧ fl = 1)) {kf : Nat → hf_H → Option ((Nat ⊕ Nat) × hf_H)} (hkf : zCL gs pa o nm B T t (l + 1) D0 kf) (hD0 : 11 ≤ D0 + d) (hs : zstp l q) (hq : q.length + 1 ≤ 3 * d + l) (N0 : hf_no g0) {PVo : hf_V} (e05 : hf_ob 0 5 g0 pa = some PVo) : ∀ (fu : Nat) (r : Nat) (g : hf_H) (PV V : hf_V) (a m : Nat) (cs rho : List Nat) (n c s D : Nat), zTR gs pa o nm B T t g0 PV0 V0 a0 m0 L0 q d l (l + 1) r g PV V a m cs rho n c s D → T < fu + a → zTO gs pa o nm B T t g0 PV0 V0 a0 m0 L0 q d l (zlp gs w fl kf fu pa r g) (zKB n c s V)
  | 0, r, g, PV, V, a, m, cs, rho, n, c, s, D, R, hf => by
    have := R.1.1.2.2.2.2.2.2.2.2.2.2.1
    omega
  | fu + 1, r, g, PV, V, a, m, cs, rho, n, c, s, D, R, hf => by
    obtain ⟨S, ⟨r1, r2, r3, r4, r5, r6⟩, ⟨r7, r8, r9, r10, r11⟩, ⟨r12, r13, r14⟩, r15⟩ := R
    have S0 := S
    obtain ⟨⟨N, P, p0, p1, p3, wo, mt, v8, v9, v12, ha, hm⟩, TT, OS, QQ, p2, v13, hd⟩ := S
    have hT := P.T4
    have hqq : zqq q := QQ.left
    have hw : w < 27 := by omega
    have hl3 : l ≤ 2 := by omega
    obtain ⟨n', rfl⟩ : ∃ k, n = k + 1 := ⟨n - 1, by omega⟩
    obtain ⟨c', rfl⟩ : ∃ k, c = k + 1 := ⟨c - 1, by omega⟩
    obtain ⟨s', rfl⟩ : ∃ k, s = k + 1 := ⟨s - 1, by omega⟩
    obtain ⟨s1, s2⟩ := zsk_le (B := B) ha
    have hst : zstp 3 (q ++ rho) := r9.stp (hs.le (by omega)) (Nat.le_refl _)
    have xt := x_takes (gs := gs) P (wo.2 w hw) (zw_ok w hw) p1 ha
    have hX : zlp gs w fl kf (fu + 1) pa r g = zlpn gs w fl kf (zlp gs w fl kf fu) pa r g := rfl
    rw [hX]
    unfold zlpn
    rw [P.pob, xt, hf_b2_some]
    by_cases hz : zis B T a (zw w)
    case neg =>
      right
      rw [if_neg hz, if_neg hz, if_pos (show Int32.ofNat 0 = 0 from rfl)]
      have S1 := S0.at_ s2
      refine ⟨r, _, _, _, zsk B T a, m, cs, rho, n' + 1, c' + 1, s' + 1, D, rfl, zKB_sk S0.ms QQ hst (n' + 1) c' s', S1, ⟨by omega, r2, (r3.trans (hf_gk.pc N P.2.1 _)).mono (by omega), r4.ui (Or.inl rfl) _, r5.ui (Or.inl rfl) _, r6⟩, ⟨r7, r8, r9, ?_, r11⟩, ⟨by omega, by omega, r14⟩, ?_⟩
      · obtain ⟨WV, w3⟩ := P.w3
        exact hf_Cnd.kv' (hf_gk.pc N P.2.1 _) N P.2.1 w3 r10
      · have hz2 : ¬ zis B T (zsk B T a) (zw w) := fun z => hz ((zis_sk ha _).mp z)
        have hid : zsk B T (zsk B T a) = zsk B T a := zsk_idem B T _ a rfl ha
        rcases hx with ⟨_, rfl, rfl, _⟩ | ⟨_, rfl, rfl, _⟩
        · exact ⟨fun _ => ⟨hz2, hid⟩, fun h => absurd h (by decide)⟩
        · exact ⟨fun _ => ⟨fun z => (r15.1 (by decide)).1 ((zis_sk ha _).mp z), hid⟩, fun _ => hz2⟩
    rw [if_pos hz, if_pos hz, if_neg (show ¬ (Int32.ofNat 1 = 0) by decide)]
    have hwok := zw_ok w hw
    have hwe := zis.we hz hwok ha
    have hwl : 2 ≤ (zw w).length := by
      rcases hx with ⟨_, _, rfl, _⟩ | ⟨_, _, rfl, _⟩ <;> decide
    have hpr : zpend rho = rho.length := zok.pend r9.2
    have hpa : zpend (q ++ rho) = zpend q + rho.length := by rw [zpend_app, hpr]
    have hq300 : q.length < 300 := by omega
    have hcl : L0 + cs.length + rho.length ≤ 370 := by omega
    obtain ⟨V1, m1, M1, W1, C1⟩ := m_joins (n := n') (c := c') (s := s') (show (x = 12 ∧ l = 2 ∧ w = 14) ∨ (x = 13 ∧ l = 1 ∧ w = 15) by
      rcases hx with ⟨h1, h2, h3, _⟩ | ⟨h1, h2, h3, _⟩
      · exact Or.inl ⟨h1, h2, h3⟩
      · exact Or.inr ⟨h1, h2, h3⟩) S0.ms hqq hs r9 hz hq300 (by omega)
    rw [m1]
    obtain ⟨e, he⟩ : ∃ e, e = zwe B T (zsk B T a) := ⟨_, rfl⟩
    rw [← he] at M1 hwe ⊢
    have heT : e ≤ T := by omega
    have hae : a + 2 ≤ e := by omega
    obtain ⟨PV1, hPV1⟩ : ∃ y, y = hf_ui PV 1 (Int32.ofNat e) := ⟨_, rfl⟩
    obtain ⟨g1, hg1⟩ : ∃ y, y = hf_pc g pa PV1 := ⟨_, rfl⟩
    rw [← hPV1, ← hg1]
    have P1 : hf_px g1 pa o PV1 B T := by rw [hg1]; exact P.pc (by rw [hPV1]; rfl)
    obtain ⟨WV, w3⟩ := P.w3
    have K1 : hf_gk pa o g g1 0 := by rw [hg1]; exact hf_gk.pc N P.2.1 _
    obtain ⟨WV1, w31⟩ := P1.w3
    rw [hf_mk_eq]
    obtain ⟨g4, hg4⟩ : ∃ y, y = hf_nw g1 (.inl (0, 17, hf_V0)) 3 := ⟨_, rfl⟩
    have P4 : hf_px g4 pa o PV1 B T := by rw [hg4]; exact P1.nw K1.no _ _
    have K14 : hf_gk pa o g1 g4 1 := by rw [hg4]; exact hf_gk.nw K1.no _ (by decide)
    have K4 : hf_gk pa o g g4 1 := (K1.trans K14).mono (by omega)
    have e4 : hf_ob 0 17 g4 g1.2.1 = some hf_V0 := by rw [hg4]; exact ob_new g1 0 17 hf_V0 3
    rw [← hg4, P4.pob]
    have hzx : zstr x = l := by
      rcases hx with ⟨rfl, rfl, _⟩ | ⟨rfl, rfl, _⟩ <;> rfl
    have Qx : zqq (q ++ [x]) := hqq.app (zqq.one (by omega))
    have S4 : zTS gs pa o nm B T t g4 PV1 V1 e m (L0 + cs.length + rho.length) (q ++ [x]) d := zTS.mk K4.no P4 (by rw [hPV1]; exact p0) (by rw [hPV1, hf_ui_at]) (by rw [hPV1, hf_ui_ne _ (by decide)]; exact p2) (by rw [hPV1, hf_ui_ne _ (by decide)]; exact p3) (K4.wo N P.2.1 w3 wo) M1 Qx hd hm
    have hpx : zpend (q ++ [x]) = zpend q + 1 := by
      rw [zpend_app]
      show zpend q + ((if x = 91 then 0 else 1) + 0) = _
      rw [if_neg (by omega)]
    have W01 : hf_wq V0 V1 t L0 := r5.trans W1 (by omega)
    have K04 : hf_gk pa o g0 g4 (a - a0 + 1) := r3.trans K4
    rcases hkf g4 PV1 V1 e m (L0 + cs.length + rho.length) (q ++ [x]) d n' hf_N S4 hD0 (fun _ => zstp_app q (by omega)) (by rw [List.length_append]; show q.length + 1 + 1 ≤ _; omega) (by omega) (by omega) (by unfold hf_N; omega) with ⟨g', V', x1, x2, x3⟩ | ⟨r', g5, PV5, V5, a5, m5, cs5, rho5, n5, c5, s5, D5, x1, x2, S5, ⟨y1, y2, y3, y4, y5, y6⟩, ⟨y7, y8, y9, y10, y11⟩, ⟨y12, y13, y14⟩, y15⟩
    · left
      rw [x1, hf_bT_inl]
      exact ⟨g', V', rfl, x2, x3.lift K04 W01 (by omega) (by omega) heT⟩
    · rw [x1, hf_bT_inr, x2]
      obtain ⟨⟨N5, P5, z0, z1, z3, wo5, mt5, w8, w9, w12, ha5, hm5⟩, TT5, OS5, QQ5, z2, w13, -⟩ := id S5
      have e5 : hf_ob 0 17 g5 g1.2.1 = some hf_V0 := by
        have hlt : g1.2.1 < g4.2.1 := K4.no.olt e4
        have hpa1 : pa < g1.2.1 := K1.no.olt P1.2.1
        have hw1 : o + 19 < g1.2.1 := K1.no.olt w31
        exact y3.ob K4.no e4 (by omega) (by omega)
      obtain ⟨J, hJ⟩ : ∃ J, J = hf_ui (hf_uq (hf_uq hf_V0 0 (some r)) 1 (some r')) 2 fl := ⟨_, rfl⟩
      obtain ⟨g7, hg7⟩ : ∃ y, y = hf_up g5 g1.2.1 (.inl (0, 17, J)) := ⟨_, rfl⟩
      have hfl : fl = 0 ∨ fl = 1 := by
        rcases hx with ⟨_, _, _, h⟩ | ⟨_, _, _, h⟩
        · exact Or.inl h
        · exact Or.inr h
      have hin : spX17_init g1.2.1 r r' fl g5 = some g7 := by
        unfold spX17_init spX14_init
        rw [Option.bind_some]
        unfold hf_pq hf_pi
        rw [e5]
        show Option.bind (some (hf_up g5 g1.2.1 _)) _ = _
        rw [Option.bind_some, hf_ob_up]
        show Option.bind (some (hf_up _ g1.2.1 _)) _ = _
        rw [Option.bind_some, if_pos hfl, hf_up_up, hf_ob_up]
        show Option.bind (some (hf_up _ g1.2.1 _)) _ = _
        rw [Option.bind_some, hf_up_up, hg7, hJ]
      rw [hin, Option.bind_some]
      have P7 : hf_px g7 pa o PV5 B T := by rw [hg7]; exact P5.up e5 (by decide) (by decide)
      have K17 : hf_gk pa o g1 g7 (1 + (a5 - e)) := by rw [hg7]; exact (K14.trans y3).up2 (Nat.le_refl _) e5 _
      have e7 : hf_ob 0 17 g7 g1.2.1 = some J := by rw [hg7]; exact hf_ob_up _ _ _ _ _
      have Kg7 : hf_gk pa o g g7 (1 + (a5 - e)) := (K1.trans K17).mono (by omega)
      have hr' : hf_Cnd D5 g7 r' (cs5 ++ rho5.reverse) := by rw [hg7]; exact hf_Cnd.blank e5 (by decide) _ _ _ _ y10
      have hr : hf_Cnd D g7 r (cs ++ rho.reverse) := hf_Cnd.kv' Kg7 N P.2.1 w3 r10
      have hlen : rho.reverse.length = rho.length := List.length_reverse
      have hcsl : (cs ++ rho.reverse ++ cs5).length = cs.length + rho.length + cs5.length := by rw [List.length_append, List.length_append, hlen]
      have hstk : q ++ [x] ++ rho5 = q ++ ([x] ++ rho5) := List.append_assoc _ _ _
      have C0 : zcds V1 t L0 (cs ++ rho.reverse) := (r6.w0 W1.2 (Nat.le_refl _)).app C1
      have C5 : zcds V5 t L0 (cs ++ rho.reverse ++ cs5) := by
        refine (C0.w0 y5.2 (by rw [List.length_append, hlen]; omega)).app ?_
        rw [List.length_append, hlen, ← Nat.add_assoc]
        exact y6
      rw [hstk] at S5 y8 y14
      have zrev : zlv rho.reverse = 0 := by rw [zlv_rev]; exact zok.lv r9.2
      have S7 : zTS gs pa o nm B T t g7 PV5 V5 a5 m5 (L0 + (cs ++ rho.reverse ++ cs5).length) (q ++ ([x] ++ rho5)) d := by
        have M5 := S5.ms
        rw [show L0 + cs.length + rho.length + cs5.length = L0 + (cs ++ rho.reverse ++ cs5).length by omega] at M5
        exact zTS.mk Kg7.no P7 z0 z1 z2 z3 (Kg7.wo N P.2.1 w3 wo) M5 S5.2.2.2.1 hd hm5
      refine zloop hx hkf hD0 hs hq N0 e05 fu g1.2.1 g7 PV5 V5 a5 m5 (cs ++ rho.reverse ++ cs5) ([x] ++ rho5) n5 c5 s5 (max D D5 + 1) ⟨S7, ⟨by omega, by omega, (r3.trans Kg7).mono (by omega), r4.trans (((hf_pw.rfl_ PV).ui (Or.inl rfl) (Int32.ofNat e)).trans (by rw [← hPV1]; exact y4)), W01.trans y5 (by omega), C5⟩, ⟨?_, ?_, ?_, ?_, ?_⟩, ⟨y12, y13, y14⟩, y15⟩ (by omega)
      · rw [zlv_app, zlv_app, zrev]
        omega
      · rw [hcsl]
        omega
      · refine ⟨?_, fun y hy => ?_⟩
        · have := y9.1
          show rho5.length + 1 + l ≤ 3
          omega
        · rcases List.mem_append.mp hy with h | h
          · rw [List.mem_singleton.mp h]
            exact ⟨by omega, by omega⟩
          · have := y9.2 y h
            exact ⟨this.1, by omega⟩
      · rw [show cs ++ rho.reverse ++ cs5 ++ ([x] ++ rho5).reverse = (cs ++ rho.reverse) ++ (cs5 ++ rho5.reverse) ++ [x] by rw [List.reverse_append]; simp]
        refine Or.inr (Or.inr ⟨J, r, r', _, _, x, e7, by rw [hJ]; rfl, by rw [hJ]; rfl, hf_Cnd.mono _ _ _ _ _ (Nat.le_max_left _ _) hr, hf_Cnd.mono _ _ _ _ _ (Nat.le_max_right _ _) hr', rfl, ?_⟩)
        have hJ2 : J.1 2 = fl := by rw [hJ, hf_ui_at]
        rw [hJ2]
        rcases hx with ⟨rfl, _, _, rfl⟩ | ⟨rfl, _, _, rfl⟩
        · exact Or.inl ⟨rfl, rfl⟩
        · exact Or.inr ⟨rfl, rfl⟩
      · rcases Nat.le_total D D5 with h | h
        · rw [Nat.max_eq_right h]; omega
        · rw [Nat.max_eq_left h]; omega
end ZQ
set_option maxRecDepth 100000
set_option maxHeartbeats 1000000
/-! texts: fact -/
theorem hf_Cnd.len3 {g : hf_H} {r : Nat} {c : List Nat} (H : hf_Cnd 1 g r c) : 3 ≤ c.length := by
  have hv : ∀ d a c, hf_Val d g a c → 1 ≤ c.length := fun d a c h => by
    cases d with
    | zero => cases h
    | succ d =>
      rcases h with ⟨V, k, _, _, _, h⟩ | ⟨V, k, _, _, _, h⟩ | ⟨V, a1, a2, c1, c2, s, _, _, _, _, _, h, _⟩
      · rw [h]; exact Nat.le_refl _
      · rw [h]; exact Nat.le_refl _
      · rw [h, List.length_append]; exact Nat.le_add_left _ _
  rcases H with ⟨V, a1, c1, _, _, h, _⟩ | ⟨V, a1, a2, c1, c2, s, _, _, _, h1, h2, h3, _⟩ | ⟨V, a1, a2, c1, c2, s, _, _, _, h, _, _, _⟩
  · cases h
  · have := hv _ _ _ h1
    have := hv _ _ _ h2
    rw [h3, List.length_append, List.length_append]
    show 3 ≤ c1.length + c2.length + 1
    omega
  · cases h
theorem hf_os.vq {V V' : hf_V} {q : List Nat} {t L : Nat} (H : hf_os V q) (K : hf_vq V V' t L) : hf_os V' q := H.eq (K.1 16 (by decide) (by decide) (by decide)) (K.2.1 15 (by decide) (by decide))
section ZM
variable {V : hf_V} {B : Nat → Nat} {T a m d t L : Nat} {q : List Nat}
/-- one is opened -/
theorem m_opens (H : zMS V B T a m q d t L) (hq : q.length < 300) (hd : d ≤ 10) {x : Nat} : spX4_opens (Int32.ofNat x) V = if d = 10 then some (0, hf_ui V 9 (Int32.ofNat (1 + 8 * a + 2))) else some (1, hf_ui (hf_ua (hf_ui V 13 (Int32.ofNat (d + 1))) 15 q.length (Int32.ofNat x)) 16 (Int32.ofNat (q.length + 1))) := by
  obtain ⟨h1, h2, h3, h4, h5, h6, h7, h8⟩ := H
  have a1 : Int32.ofNat d + (1 : Int32) = Int32.ofNat (d + 1) := z_add d 1
  have a2 : Int32.ofNat q.length + (1 : Int32) = Int32.ofNat (q.length + 1) := z_add _ 1
  have e10 : (Int32.ofNat d = (10 : Int32)) ↔ d = 10 := z_eq (b := 10) (by omega) (by decide)
  unfold spX4_opens
  rw [h7]
  by_cases e : d = 10
  · have hfl : spX4_fails (2 : Int32) (Int32.ofNat a) V = some (0, hf_ui V 9 (Int32.ofNat (1 + 8 * a + 2))) := m_fails0 h3 2 a
    rw [if_pos (e10.mpr e), if_pos e, h2, hfl, hf_b2_some, if_pos (Or.inl rfl)]
  · rw [if_neg (fun z => e (e10.mp z)), if_neg e, a1, hf_let_eq]
    have v16 : (hf_ui V 13 (Int32.ofNat (d + 1))).1 16 = Int32.ofNat q.length := by rw [hf_ui_ne _ (by decide)]; exact h6.2.1
    have v16b : (hf_ua (hf_ui V 13 (Int32.ofNat (d + 1))) 15 q.length (Int32.ofNat x)).1 16 = Int32.ofNat q.length := v16
    rw [v16, z_sd (by omega) (by omega), v16b, a2, hf_let_eq]
theorem zMS.opened (H : zMS V B T a m q d t L) (hq : q.length < 300) {x : Nat} : zMS (hf_ui (hf_ua (hf_ui V 13 (Int32.ofNat (d + 1))) 15 q.length (Int32.ofNat x)) 16 (Int32.ofNat (q.length + 1))) B T a m (q ++ [x]) (d + 1) t L ∧ hf_wq V (hf_ui (hf_ua (hf_ui V 13 (Int32.ofNat (d + 1))) 15 q.length (Int32.ofNat x)) 16 (Int32.ofNat (q.length + 1))) t L := by
  obtain ⟨h1, h2, h3, h4, h5, h6, h7, h8⟩ := H
  have W : hf_wq V (hf_ui (hf_ua (hf_ui V 13 (Int32.ofNat (d + 1))) 15 q.length (Int32.ofNat x)) 16 (Int32.ofNat (q.length + 1))) t L := (((hf_wq.rfl_ V t L).ui (by omega) _).ua15 _ _).ui (by omega) _
  have O1 : hf_os (hf_ui V 13 (Int32.ofNat (d + 1))) q := h6.eq (hf_ui_ne _ (by decide) _) rfl
  have i8 : ∀ k, k ≠ 16 → k ≠ 13 → (hf_ui (hf_ua (hf_ui V 13 (Int32.ofNat (d + 1))) 15 q.length (Int32.ofNat x)) 16 (Int32.ofNat (q.length + 1))).1 k = V.1 k := fun k h1 h2 => by
    rw [hf_ui_ne _ h1]
    exact hf_ui_ne _ h2 _
  refine ⟨⟨h1.wq W, by rw [i8 8 (by decide) (by decide)]; exact h2, by rw [i8 9 (by decide) (by decide)]; exact h3, by rw [i8 12 (by decide) (by decide)]; exact h4, ?_, O1.push (by omega) x, ?_, h8⟩, W⟩
  · obtain ⟨y1, y2, y3⟩ := h5
    refine ⟨y1, by rw [i8 11 (by decide) (by decide)]; exact y2, ?_⟩
    show (hf_ua (hf_ui V 13 (Int32.ofNat (d + 1))) 15 q.length (Int32.ofNat x)).2.2.2.1 4 t = _
    rw [hf_ua_ne _ (by decide)]
    exact y3
  · rw [hf_ui_ne _ (by decide)]
    exact hf_ui_at V 13 (Int32.ofNat (d + 1))
/-- a 'not' is settled -/
theorem m_notted (H : zMS V B T a m (q ++ [11]) (d + 1) t L) (hL : L < 400) (n c s : Nat) : ∃ V', zKB n c (s + 1) V = zKB n c s V' ∧ zMS V' B T a m q d t (L + 1) ∧ hf_wq V V' t L ∧ zcds V' t L [11] := by
  obtain ⟨h1, h2, h3, h4, h5, h6, h7, h8⟩ := H
  obtain ⟨V', s1, s2, s3, s4, s5, s6, s7⟩ := m_settle1 (least := 3) h6 (Or.inl rfl) (by decide) h5 hL h7 (fun _ => by omega) s
  have W : hf_wq V V' t L := ⟨fun k _ _ _ h13 h16 => s4 k h13 h16, s5.wt⟩
  refine ⟨V', ?_, ⟨h1.wq W, by rw [s4 8 (by decide) (by decide)]; exact h2, by rw [s4 9 (by decide) (by decide)]; exact h3, by rw [s4 12 (by decide) (by decide)]; exact h4, s6, s2, by rw [s3, if_pos rfl]; rfl, h8⟩, W, s7⟩
  unfold zKB
  have h3' : (3 : Int32) = Int32.ofNat 3 := rfl
  rw [h3', s1]
end ZM
section ZQ
variable {gs : hf_gs} {pa o nm : Nat} {B : Nat → Nat} {T t : Nat}
theorem x_deeper {g : hf_H} {PV : hf_V} {d p : Nat} (P : hf_px g pa o PV B T) (h2 : PV.1 2 = Int32.ofNat d) (hd : d ≤ 10) : (d = 10 ∧ ∃ g', spX5_goesDeeper pa (Int32.ofNat p) g = some (.inl (o + 19), g') ∧ hf_wr g o (1 + 8 * p + 2) g') ∨ (d < 10 ∧ spX5_goesDeeper pa (Int32.ofNat p) g = some (.inr (), hf_pc g pa (hf_ui PV 2 (Int32.ofNat (d + 1))))) := by
  have a1 : Int32.ofNat d + (1 : Int32) = Int32.ofNat (d + 1) := z_add d 1
  have e10 : (Int32.ofNat d = (10 : Int32)) ↔ d = 10 := z_eq (b := 10) (by omega) (by decide)
  unfold spX5_goesDeeper
  rw [P.gi, Option.bind_some, h2]
  by_cases e : d = 10
  · rw [if_pos (e10.mpr e)]
    obtain ⟨g', t1, t2⟩ := x_throw (τ := Unit) P 2 p
    exact Or.inl ⟨e, g', t1, t2⟩
  · rw [if_neg (fun z => e (e10.mp z)), Option.bind_some, a1, P.pi, Option.bind_some]
    exact Or.inr ⟨by omega, rfl⟩
theorem xm_fact {D : Nat} {kf kt : Nat → hf_H → Option ((Nat ⊕ Nat) × hf_H)} (hkf : zCL gs pa o nm B T t 3 D kf) (hkt : zCL gs pa o nm B T t 1 D kt) : zCL gs pa o nm B T t 3 (D + 1) (spX5_fact gs kf kt) := by
  intro g PV V a m L q d n f S hD _ hq hL hn hf
  have S0 := S
  obtain ⟨⟨N, P, p0, p1, p3, wo, mt, v8, v9, v12, ha, hm⟩, TT, OS, QQ, p2, v13, hd⟩ := S
  have hT := P.T4
  obtain ⟨f', rfl⟩ : ∃ k, f = k + 1 := ⟨f - 1, by omega⟩
  obtain ⟨s1, s2⟩ := zsk_le (B := B) ha
  obtain ⟨p, hp⟩ : ∃ p, p = zsk B T a := ⟨_, rfl⟩
  have hpp : zsk B T p = p := by rw [hp, zsk_idem B T _ a rfl ha]
  rw [← hp] at s1 s2
  have S1 := S0.at_ s2
  have xn := x_next P p1 ha
  have ms := m_see mt v8 ha
  rw [← hp] at xn ms
  obtain ⟨PV1, hPV1⟩ : ∃ x, x = hf_ui PV 1 (Int32.ofNat p) := ⟨_, rfl⟩
  obtain ⟨V1, hV1⟩ : ∃ x, x = hf_ui V 8 (Int32.ofNat p) := ⟨_, rfl⟩
  obtain ⟨g1, hg1⟩ : ∃ x, x = hf_pc g pa PV1 := ⟨_, rfl⟩
  rw [← hPV1, ← hg1] at xn
  rw [← hV1] at ms
  rw [← hPV1, ← hg1, ← hV1] at S1
  obtain ⟨⟨N1, P1, q0, q1, q3, wo1, mt1, w8, w9, w12, -, -⟩, TT1, OS1, -, q2, w13, -⟩ := id S1
  obtain ⟨WV, w3⟩ := P.w3
  obtain ⟨WV1, w31⟩ := P1.w3
  have K01 : hf_gk pa o g g1 0 := by rw [hg1]; exact hf_gk.pc N P.2.1 _
  have Z1 : hf_pw PV PV1 := by rw [hPV1]; exact (hf_pw.rfl_ PV).ui (Or.inl rfl) _
  have Q1 : hf_wq V V1 t L := by rw [hV1]; exact (hf_wq.rfl_ V t L).ui (Or.inl rfl) _
  have hb : p < T → B p < 256 := fun h => P.b (by omega)
  have hq300 : q.length < 300 := by omega
  have xw := x_isWord (gs := gs) P1 (wo1.2 13 (by decide)) (zw_ok 13 (by decide)) q1 s2
  rw [hpp, hf_ui_self q1, P1.self] at xw
  have mw := m_isW mt1 w8 s2 (i := 13) (by decide)
  rw [hpp, hf_ui_self w8] at mw
  have e13 : (7237492 : Int64) = zwI 13 := zwI_13
  unfold spX5_fact zKA
  rw [P.pob, xn, hf_b2_some, P1.gi, Option.bind_some, q1, P1.pob, xw, hf_b2_some]
  show zTO gs pa o nm B T t g PV V a m L q d 3 _ (hf_b2 (ndX4_fact_2 (lpX4_fact_2 f') 1 V) _)
  unfold ndX4_fact_2 ndX4_fact_72
  rw [if_neg (show ¬ (1 : Int32) = 0 by decide), ms, hf_b2_some, e13, mw, hf_b2_some]
  have fin : ∀ (g2 g3 : hf_H) (V2 : hf_V) (c : Nat), hf_gk pa o g g2 0 → hf_wr g2 o c g3 → V2.1 9 = Int32.ofNat c → 1 ≤ c → c < 100000 → hf_wf9 V V2 t L → hf_rf9 g g3 pa o T a V V2 t L := fun g2 g3 V2 c h1 h2 h3 h4 h5 h6 => ⟨c, h2.gi, h3, h4, h5, (h1.trans (hf_gk.wr h1.no h2)).mono (by omega), h6⟩
  by_cases ew : zis B T p (zw 13)
  · -- not
    rw [if_pos ew, if_neg (show ¬ (Int32.ofNat 1 = 0) by decide), if_neg (show ¬ (Int32.ofNat 1 = 0) by decide), P1.pob]
    have hwe := zis.we ew (zw_ok 13 (by decide)) s2
    rw [hpp] at hwe
    have hw3 : (zw 13).length = 3 := rfl
    rw [hw3] at hwe
    have mo := m_opens (x := 11) S1.ms hq300 hd
    have mo' : spX4_opens (11 : Int32) V1 = _ := mo
    rw [mo']
    rcases x_deeper (p := p) P1 q2 hd with ⟨k1, g3, k2, k3⟩ | ⟨k1, k2⟩
    · left
      rw [k2, hf_bT_inl, if_pos k1, hf_b2_some, if_pos rfl, hf_b2_some, if_pos rfl]
      exact ⟨g3, _, rfl, rfl, fin g1 g3 _ _ K01 k3 (hf_ui_at _ _ _) (by omega) (by omega) (Q1.fail _)⟩
    rw [k2, hf_bT_inr, if_neg (by omega), hf_b2_some, if_neg (show ¬ (1 : Int32) = 0 by decide)]
    obtain ⟨M2, W2⟩ := S1.ms.opened hq300 (x := 11)
    obtain ⟨V2, hV2⟩ : ∃ y, y = hf_ui (hf_ua (hf_ui V1 13 (Int32.ofNat (d + 1))) 15 q.length (Int32.ofNat 11)) 16 (Int32.ofNat (q.length + 1)) := ⟨_, rfl⟩
    rw [← hV2] at M2 W2 ⊢
    have mp := m_passWord M2.1 M2.2.1 s2
    rw [mp, Option.bind_some, hwe.1]
    have M3 := M2.at_ (a' := p + 3) (by omega)
    obtain ⟨V3, hV3⟩ : ∃ y, y = hf_ui V2 8 (Int32.ofNat (p + 3)) := ⟨_, rfl⟩
    rw [← hV3] at M3 ⊢
    have W3 : hf_wq V V3 t L := by
      rw [hV3]
      exact (Q1.trans W2 (Nat.le_refl _)).ui (Or.inl rfl) _
    obtain ⟨PV2, hPV2⟩ : ∃ y, y = hf_ui PV1 2 (Int32.ofNat (d + 1)) := ⟨_, rfl⟩
    obtain ⟨PV3, hPV3⟩ : ∃ y, y = hf_ui PV2 1 (Int32.ofNat (p + 3)) := ⟨_, rfl⟩
    obtain ⟨g2, hg2⟩ : ∃ y, y = hf_pc g1 pa PV2 := ⟨_, rfl⟩
    obtain ⟨g3, hg3⟩ : ∃ y, y = hf_pc g2 pa PV3 := ⟨_, rfl⟩
    rw [← hPV2, ← hg2]
    have P2 : hf_px g2 pa o PV2 B T := by rw [hg2]; exact P1.pc (by rw [hPV2]; rfl)
    have q21 : PV2.1 1 = Int32.ofNat p := by rw [hPV2, hf_ui_ne _ (by decide), q1]
    have a3 : Int32.ofNat p + (3 : Int32) = Int32.ofNat (p + 3) := z_add p 3
    rw [P2.gi, Option.bind_some, q21, a3, P2.pi, Option.bind_some, ← hPV3, ← hg3]
    have P3 : hf_px g3 pa o PV3 B T := by rw [hg3]; exact P2.pc (by rw [hPV3]; rfl)
    have K12 : hf_gk pa o g1 g2 0 := by rw [hg2]; exact hf_gk.pc N1 P1.2.1 _
    have K13 : hf_gk pa o g1 g3 0 := by rw [hg3]; exact K12.trans (hf_gk.pc K12.no P2.2.1 _)
    rw [hf_mk_eq]
    obtain ⟨g4, hg4⟩ : ∃ y, y = hf_nw g3 (.inl (0, 15, hf_V0)) 1 := ⟨_, rfl⟩
    have P4 : hf_px g4 pa o PV3 B T := by rw [hg4]; exact P3.nw K13.no _ _
    have K34 : hf_gk pa o g3 g4 1 := by rw [hg4]; exact hf_gk.nw K13.no _ (by decide)
    have K14 : hf_gk pa o g1 g4 1 := (K13.trans K34).mono (by omega)
    have K4 : hf_gk pa o g g4 1 := (K01.trans K14).mono (by omega)
    have e4 : hf_ob 0 15 g4 g3.2.1 = some hf_V0 := by rw [hg4]; exact ob_new g3 0 15 hf_V0 1
    rw [← hg4, P4.pob]
    have r31 : PV3.1 1 = Int32.ofNat (p + 3) := by rw [hPV3, hf_ui_at]
    have r32 : PV3.1 2 = Int32.ofNat (d + 1) := by rw [hPV3, hf_ui_ne _ (by decide), hPV2, hf_ui_at]
    have r33 : PV3.1 3 = Int32.ofNat m := by rw [hPV3, hf_ui_ne _ (by decide), hPV2, hf_ui_ne _ (by decide), q3]
    have r30 : PV3.2.2.1 0 = some nm := by rw [hPV3, hPV2]; exact q0
    have Z3 : hf_pw PV PV3 := by rw [hPV3, hPV2]; exact (Z1.ui (Or.inr (Or.inl rfl)) _).ui (Or.inl rfl) _
    have S4 : zTS gs pa o nm B T t g4 PV3 V3 (p + 3) m L (q ++ [11]) (d + 1) := zTS.mk K4.no P4 r30 r31 r32 r33 (K4.wo N P.2.1 w3 wo) M3 (QQ.app (zqq.one (Or.inr (Or.inl rfl)))) (by omega) hm
    have hp11 : zpend (q ++ [11]) = zpend q + 1 := by
      rw [zpend_app]
      rfl
    show zTO gs pa o nm B T t g PV V a m L q d 3 _ (zKA n f' 1 V3)
    rcases hkf g4 PV3 V3 (p + 3) m L (q ++ [11]) (d + 1) n f' S4 (by omega) (fun h => absurd h (by decide)) (by rw [List.length_append]; show q.length + 1 + 1 ≤ _; omega) (by omega) (by omega) (by omega) with ⟨g', V', x1, x2, x3⟩ | ⟨r', g5, PV5, V5, a5, m5, cs5, rho5, n5, c5, s5, D5, x1, x2, S5, ⟨y1, y2, y3, y4, y5, y6⟩, ⟨y7, y8, y9, y10, y11⟩, ⟨y12, y13, y14⟩, y15⟩
    · left
      rw [x1, hf_bT_inl]
      exact ⟨g', V', rfl, x2, x3.lift K4 W3 (Nat.le_refl _) (by omega) (by omega)⟩
    · right
      rw [x1, hf_bT_inr, x2]
      have hrho := y9.nil
      subst hrho
      rw [List.append_nil] at S5 y8 y14
      rw [List.reverse_nil, List.append_nil] at y10
      obtain ⟨⟨N5, P5, z0, z1, z3, wo5, mt5, -, -, -, ha5, hm5⟩, -, -, -, z2, -, -⟩ := id S5
      obtain ⟨s', rfl⟩ : ∃ k, s5 = k + 1 := ⟨s5 - 1, by omega⟩
      have hlen1 : (q ++ [11]).length = q.length + 1 := by rw [List.length_append]; rfl
      obtain ⟨V6, n1, n2, n3, n4⟩ := m_notted (n := n5) (c := c5) (s := s') S5.ms (by omega)
      rw [n1]
      have e5 : hf_ob 0 15 g5 g3.2.1 = some hf_V0 := by
        have hlt : g3.2.1 < g4.2.1 := K4.no.olt e4
        have hpa1 : pa < g3.2.1 := K13.no.olt P3.2.1
        obtain ⟨WV3, w33⟩ := P3.w3
        have hw1 : o + 19 < g3.2.1 := K13.no.olt w33
        exact y3.ob K4.no e4 (by omega) (by omega)
      obtain ⟨J, hJ⟩ : ∃ J, J = hf_uq hf_V0 0 (some r') := ⟨_, rfl⟩
      obtain ⟨g6, hg6⟩ : ∃ y, y = hf_up g5 g3.2.1 (.inl (0, 15, J)) := ⟨_, rfl⟩
      have hin : spX15_init g3.2.1 r' g5 = some g6 := by
        unfold spX15_init spX14_init
        rw [Option.bind_some]
        unfold hf_pq
        rw [e5, hg6, hJ]
        rfl
      rw [hin, Option.bind_some]
      have P6 : hf_px g6 pa o PV5 B T := by rw [hg6]; exact P5.up e5 (by decide) (by decide)
      have K36 : hf_gk pa o g3 g6 (1 + (a5 - (p + 3))) := by rw [hg6]; exact (K34.trans y3).up2 (Nat.le_refl _) e5 _
      have e6 : hf_ob 0 15 g6 g3.2.1 = some J := by rw [hg6]; exact hf_ob_up _ _ _ _ _
      have ad : Int32.ofNat (d + 1) - (1 : Int32) = Int32.ofNat d := z_sub (a := d + 1) (b := 1) (by omega)
      obtain ⟨PV6, hPV6⟩ : ∃ y, y = hf_ui PV5 2 (Int32.ofNat d) := ⟨_, rfl⟩
      obtain ⟨g7, hg7⟩ : ∃ y, y = hf_pc g6 pa PV6 := ⟨_, rfl⟩
      rw [P6.gi, Option.bind_some, z2, ad, P6.pi, Option.bind_some, ← hPV6, ← hg7]
      have P7 : hf_px g7 pa o PV6 B T := by rw [hg7]; exact P6.pc (by rw [hPV6]; rfl)
      have K67 : hf_gk pa o g6 g7 0 := by rw [hg7]; exact hf_gk.pc K36.no P6.2.1 _
      have Kg6 : hf_gk pa o g g6 (1 + (a5 - (p + 3))) := ((K01.trans K13).trans K36).mono (by omega)
      have Kg7 : hf_gk pa o g g7 (a5 - a) := (Kg6.trans K67).mono (by omega)
      have C6 : hf_Cnd (D5 + 1) g6 g3.2.1 (cs5 ++ [11]) := by
        refine Or.inl ⟨J, r', cs5, e6, by rw [hJ]; rfl, ?_, rfl⟩
        rw [hg6]
        exact hf_Cnd.blank e5 (by decide) _ _ _ _ y10
      obtain ⟨WV6, w36⟩ := P6.w3
      have C7 : hf_Cnd (D5 + 1) g7 g3.2.1 (cs5 ++ [11]) := hf_Cnd.kv' K67 K36.no P6.2.1 w36 C6
      have hcl : (cs5 ++ [11]).length = cs5.length + 1 := by rw [List.length_append]; rfl
      have W6 : hf_wq V V6 t L := (W3.trans y5 (Nat.le_refl _)).trans n3 (by omega)
      have M6 := n2
      rw [show L + cs5.length + 1 = L + (cs5 ++ [11]).length by omega] at M6
      refine ⟨g3.2.1, g7, PV6, V6, a5, m5, cs5 ++ [11], [], n5, c5, s', D5 + 1, rfl, rfl, ?_, ⟨by omega, by omega, Kg7, ?_, W6, ?_⟩, ⟨?_, ?_, ⟨by decide, fun y hy => absurd hy (List.not_mem_nil)⟩, ?_, by omega⟩, ⟨by omega, by omega, ?_⟩, ⟨fun h => absurd h (by decide), fun h => absurd h (by decide)⟩⟩
      · rw [List.append_nil]
        exact zTS.mk Kg7.no P7 (by rw [hPV6]; exact z0) (by rw [hPV6, hf_ui_ne _ (by decide)]; exact z1) (by rw [hPV6, hf_ui_at]) (by rw [hPV6, hf_ui_ne _ (by decide)]; exact z3) (Kg7.wo N P.2.1 w3 wo) M6 QQ hd hm5
      · rw [hPV6]
        exact (Z3.trans y4).ui (Or.inr (Or.inl rfl)) _
      · exact (y6.w0 n3.2 (Nat.le_refl _)).app n4
      · rw [zlv_app]
        show zlv cs5 + ((if 11 % 16 ≤ 1 then 1 else 0) + 0) + m + 1 ≤ m5
        rw [if_neg (by decide)]
        omega
      · rw [List.append_nil, hcl]
        omega
      · rw [List.reverse_nil, List.append_nil]
        exact C7
      · rw [List.append_nil]
        omega
  rw [if_neg ew, if_pos (show Int32.ofNat 0 = 0 from rfl), if_pos (show Int32.ofNat 0 = 0 from rfl), P1.pob, x_sign P1 q1 s2, hf_b2_some]
  have e91 : (zch B T p = (91 : Int32)) ↔ p < T ∧ B p = 91 := z_chz hb 91 (by decide)
  by_cases eb : p < T ∧ B p = 91
  · -- a bracket
    rw [if_pos (e91.mpr eb), if_pos (e91.mpr eb), P1.pob]
    have mo := m_opens (x := 91) S1.ms hq300 hd
    have mo' : spX4_opens (91 : Int32) V1 = _ := mo
    rw [mo']
    rcases x_deeper (p := p) P1 q2 hd with ⟨k1, g3, k2, k3⟩ | ⟨k1, k2⟩
    · left
      rw [k2, hf_bT_inl, if_pos k1, hf_b2_some, if_pos rfl, hf_b2_some, if_pos rfl]
      exact ⟨g3, _, rfl, rfl, fin g1 g3 _ _ K01 k3 (hf_ui_at _ _ _) (by omega) (by omega) (Q1.fail _)⟩
    rw [k2, hf_bT_inr, if_neg (by omega), hf_b2_some, if_neg (show ¬ (1 : Int32) = 0 by decide)]
    obtain ⟨M2, W2⟩ := S1.ms.opened hq300 (x := 91)
    obtain ⟨V2, hV2⟩ : ∃ y, y = hf_ui (hf_ua (hf_ui V1 13 (Int32.ofNat (d + 1))) 15 q.length (Int32.ofNat 91)) 16 (Int32.ofNat (q.length + 1)) := ⟨_, rfl⟩
    rw [← hV2] at M2 W2 ⊢
    have a1 : Int32.ofNat p + (1 : Int32) = Int32.ofNat (p + 1) := z_add p 1
    have v28 : V2.1 8 = Int32.ofNat p := M2.2.1
    rw [v28, a1, hf_let_eq]
    have M3 := M2.at_ (a' := p + 1) (by omega)
    obtain ⟨V3, hV3⟩ : ∃ y, y = hf_ui V2 8 (Int32.ofNat (p + 1)) := ⟨_, rfl⟩
    rw [← hV3] at M3 ⊢
    have W3 : hf_wq V V3 t L := by
      rw [hV3]
      exact (Q1.trans W2 (Nat.le_refl _)).ui (Or.inl rfl) _
    obtain ⟨PV2, hPV2⟩ : ∃ y, y = hf_ui PV1 2 (Int32.ofNat (d + 1)) := ⟨_, rfl⟩
    obtain ⟨PV3, hPV3⟩ : ∃ y, y = hf_ui PV2 1 (Int32.ofNat (p + 1)) := ⟨_, rfl⟩
    obtain ⟨g2, hg2⟩ : ∃ y, y = hf_pc g1 pa PV2 := ⟨_, rfl⟩
    obtain ⟨g3, hg3⟩ : ∃ y, y = hf_pc g2 pa PV3 := ⟨_, rfl⟩
    rw [← hPV2, ← hg2]
    have P2 : hf_px g2 pa o PV2 B T := by rw [hg2]; exact P1.pc (by rw [hPV2]; rfl)
    have q21 : PV2.1 1 = Int32.ofNat p := by rw [hPV2, hf_ui_ne _ (by decide), q1]
    rw [P2.gi, Option.bind_some, q21, a1, P2.pi, Option.bind_some, ← hPV3, ← hg3]
    have P3 : hf_px g3 pa o PV3 B T := by rw [hg3]; exact P2.pc (by rw [hPV3]; rfl)
    have K12 : hf_gk pa o g1 g2 0 := by rw [hg2]; exact hf_gk.pc N1 P1.2.1 _
    have K13 : hf_gk pa o g1 g3 0 := by rw [hg3]; exact K12.trans (hf_gk.pc K12.no P2.2.1 _)
    have K3 : hf_gk pa o g g3 0 := (K01.trans K13).mono (by omega)
    rw [P3.pob]
    have r31 : PV3.1 1 = Int32.ofNat (p + 1) := by rw [hPV3, hf_ui_at]
    have r32 : PV3.1 2 = Int32.ofNat (d + 1) := by rw [hPV3, hf_ui_ne _ (by decide), hPV2, hf_ui_at]
    have r33 : PV3.1 3 = Int32.ofNat m := by rw [hPV3, hf_ui_ne _ (by decide), hPV2, hf_ui_ne _ (by decide), q3]
    have r30 : PV3.2.2.1 0 = some nm := by rw [hPV3, hPV2]; exact q0
    have Z3 : hf_pw PV PV3 := by rw [hPV3, hPV2]; exact (Z1.ui (Or.inr (Or.inl rfl)) _).ui (Or.inl rfl) _
    have Q91 : zqq (q ++ [91]) := QQ.app (zqq.one (Or.inl rfl))
    have S4 : zTS gs pa o nm B T t g3 PV3 V3 (p + 1) m L (q ++ [91]) (d + 1) := zTS.mk K3.no P3 r30 r31 r32 r33 (K3.wo N P.2.1 w3 wo) M3 Q91 (by omega) hm
    have hp91 : zpend (q ++ [91]) = zpend q := by
      rw [zpend_app]
      rfl
    show zTO gs pa o nm B T t g PV V a m L q d 3 _ (zKA n f' 1 V3)
    rcases hkt g3 PV3 V3 (p + 1) m L (q ++ [91]) (d + 1) n f' S4 (by omega) (fun _ => zstp_app q (by decide)) (by rw [List.length_append]; show q.length + 1 + 1 ≤ _; omega) (by omega) (by omega) (by omega) with ⟨g', V', x1, x2, x3⟩ | ⟨r', g5, PV5, V5, a5, m5, cs5, rho5, n5, c5, s5, D5, x1, x2, S5, ⟨y1, y2, y3, y4, y5, y6⟩, ⟨y7, y8, y9, y10, y11⟩, ⟨y12, y13, y14⟩, y15⟩
    · left
      rw [x1, hf_bT_inl]
      exact ⟨g', V', rfl, x2, x3.lift K3 W3 (Nat.le_refl _) (by omega) (by omega)⟩
    rw [x1, hf_bT_inr, x2]
    obtain ⟨⟨N5, P5, z0, z1, z3, wo5, mt5, z8, z9, z12, ha5, hm5⟩, -, -, QQ5, z2, -, -⟩ := id S5
    obtain ⟨n', rfl⟩ : ∃ k, n5 = k + 1 := ⟨n5 - 1, by omega⟩
    obtain ⟨c', rfl⟩ : ∃ k, c5 = k + 1 := ⟨c5 - 1, by omega⟩
    obtain ⟨s', rfl⟩ : ∃ k, s5 = k + 1 := ⟨s5 - 1, by omega⟩
    have hst : zstp 3 (q ++ [91] ++ rho5) := y9.stp (zstp_app q (by decide)) (Nat.le_refl _)
    obtain ⟨e1, e2⟩ := zsk_le (B := B) ha5
    obtain ⟨p5, hp5⟩ : ∃ y, y = zsk B T a5 := ⟨_, rfl⟩
    have xn5 := x_next P5 z1 ha5
    obtain ⟨PV6, hPV6⟩ : ∃ y, y = hf_ui PV5 1 (Int32.ofNat p5) := ⟨_, rfl⟩
    obtain ⟨g6, hg6⟩ : ∃ y, y = hf_pc g5 pa PV6 := ⟨_, rfl⟩
    rw [← hp5] at xn5 e1 e2
    rw [← hPV6, ← hg6] at xn5
    have P6 : hf_px g6 pa o PV6 B T := by rw [hg6]; exact P5.pc (by rw [hPV6]; rfl)
    have K56 : hf_gk pa o g5 g6 0 := by rw [hg6]; exact hf_gk.pc N5 P5.2.1 _
    have K6 : hf_gk pa o g g6 (a5 - (p + 1)) := ((K3.trans y3).trans K56).mono (by omega)
    have q61 : PV6.1 1 = Int32.ofNat p5 := by rw [hPV6, hf_ui_at]
    rw [P5.pob, xn5, hf_b2_some]
    have hb5 : p5 < T → B p5 < 256 := fun h => P.b (by omega)
    have e93 : (zch B T p5 = (93 : Int32)) ↔ p5 < T ∧ B p5 = 93 := z_chz hb5 93 (by decide)
    have hpr : zpend rho5 = rho5.length := zok.pend y9.2
    have hpa5 : zpend (q ++ [91] ++ rho5) = zpend q + rho5.length := by rw [zpend_app, hpr, hp91]
    by_cases ec : p5 < T ∧ B p5 = 93
    · right
      rw [if_pos (e93.mpr ec)]
      have hlen1 : (q ++ [91] ++ rho5).length = q.length + 1 + rho5.length := by rw [List.length_append, List.length_append]; rfl
      obtain ⟨V6, n1, n2, n3, n4⟩ := m_close (n := n' + 1) (c := c') (s := s') S5.ms QQ y9 (by rw [← hp5]; exact ec.1) (by rw [← hp5]; exact ec.2) (by omega) (by omega)
      rw [n1]
      rw [← hp5] at n2
      have ad : Int32.ofNat (d + 1) - (1 : Int32) = Int32.ofNat d := z_sub (a := d + 1) (b := 1) (by omega)
      have a5' : Int32.ofNat p5 + (1 : Int32) = Int32.ofNat (p5 + 1) := z_add p5 1
      obtain ⟨PV7, hPV7⟩ : ∃ y, y = hf_ui PV6 1 (Int32.ofNat (p5 + 1)) := ⟨_, rfl⟩
      obtain ⟨g7, hg7⟩ : ∃ y, y = hf_pc g6 pa PV7 := ⟨_, rfl⟩
      have P7 : hf_px g7 pa o PV7 B T := by rw [hg7]; exact P6.pc (by rw [hPV7]; rfl)
      have K67 : hf_gk pa o g6 g7 0 := by rw [hg7]; exact hf_gk.pc K56.no P6.2.1 _
      have q72 : PV7.1 2 = Int32.ofNat (d + 1) := by rw [hPV7, hf_ui_ne _ (by decide), hPV6, hf_ui_ne _ (by decide)]; exact z2
      rw [P6.gi, Option.bind_some, q61, a5', P6.pi, Option.bind_some, ← hPV7, ← hg7, P7.gi, Option.bind_some, q72, ad, P7.pi, Option.bind_some]
      obtain ⟨PV8, hPV8⟩ : ∃ y, y = hf_ui PV7 2 (Int32.ofNat d) := ⟨_, rfl⟩
      obtain ⟨g8, hg8⟩ : ∃ y, y = hf_pc g7 pa PV8 := ⟨_, rfl⟩
      rw [← hPV8, ← hg8]
      have P8 : hf_px g8 pa o PV8 B T := by rw [hg8]; exact P7.pc (by rw [hPV8]; rfl)
      have K78 : hf_gk pa o g7 g8 0 := by rw [hg8]; exact hf_gk.pc K67.no P7.2.1 _
      have K58 : hf_gk pa o g5 g8 0 := ((K56.trans K67).trans K78).mono (by omega)
      have K8 : hf_gk pa o g g8 (p5 + 1 - a) := ((K3.trans y3).trans K58).mono (by omega)
      obtain ⟨WV5, w35⟩ := P5.w3
      have C8 : hf_Cnd D5 g8 r' (cs5 ++ rho5.reverse) := hf_Cnd.kv' K58 N5 P5.2.1 w35 y10
      have hlen : rho5.reverse.length = rho5.length := List.length_reverse
      have hcl : (cs5 ++ rho5.reverse).length = cs5.length + rho5.length := by rw [List.length_append, hlen]
      have W6 : hf_wq V V6 t L := (W3.trans y5 (Nat.le_refl _)).trans n3 (by omega)
      have M6 := n2
      rw [show L + cs5.length + rho5.length = L + (cs5 ++ rho5.reverse).length by omega, show d + 1 - 1 = d by omega] at M6
      have zrev : zlv rho5.reverse = 0 := by rw [zlv_rev]; exact zok.lv y9.2
      refine ⟨r', g8, PV8, V6, p5 + 1, m5, cs5 ++ rho5.reverse, [], n' + 1, c', hf_N, D5, rfl, rfl, ?_, ⟨by omega, by omega, K8, ?_, W6, ?_⟩, ⟨?_, ?_, ⟨by decide, fun y hy => absurd hy (List.not_mem_nil)⟩, ?_, by omega⟩, ⟨by omega, by omega, ?_⟩, ⟨fun h => absurd h (by decide), fun h => absurd h (by decide)⟩⟩
      · rw [List.append_nil]
        exact zTS.mk K8.no P8 (by rw [hPV8, hPV7, hPV6]; exact z0) (by rw [hPV8, hf_ui_ne _ (by decide), hPV7, hf_ui_at]) (by rw [hPV8, hf_ui_at]) (by rw [hPV8, hf_ui_ne _ (by decide), hPV7, hf_ui_ne _ (by decide), hPV6, hf_ui_ne _ (by decide)]; exact z3) (K8.wo N P.2.1 w3 wo) M6 QQ hd hm5
      · rw [hPV8, hPV7, hPV6]
        exact (((Z3.trans y4).ui (Or.inl rfl) _).ui (Or.inl rfl) _).ui (Or.inr (Or.inl rfl)) _
      · exact (y6.w0 n3.2 (Nat.le_refl _)).app n4
      · rw [zlv_app, zrev]
        omega
      · rw [List.append_nil, hcl]
        omega
      · rw [List.reverse_nil, List.append_nil]
        exact C8
      · rw [List.append_nil]
        unfold hf_N
        omega
    · left
      rw [if_neg (fun z => ec (e93.mp z))]
      have h91 : 91 ∈ q ++ [91] ++ rho5 := List.mem_append_left _ (List.mem_append_right _ (List.mem_singleton.mpr rfl))
      have me := m_ends (n := n') (c := c') (s := s') S5.ms QQ5 hst y15 (fun z => ec (by rw [hp5]; exact ⟨z.1, z.2.1⟩))
      rw [if_pos h91, ← hp5] at me
      obtain ⟨g9, t1, t2⟩ := x_throw (τ := Nat) P6 0 p5
      rw [P6.gio, Option.bind_some, P6.oob] at t1
      rw [P6.gio, Option.bind_some, P6.gi, Option.bind_some, q61, P6.oob, me]
      have W9 : hf_wq V (hf_ui V5 8 (Int32.ofNat p5)) t L := (W3.trans y5 (Nat.le_refl _)).ui (Or.inl rfl) _
      exact ⟨g9, _, t1, rfl, 1 + 8 * p5 + 0, t2.gi, hf_ui_at _ _ _, by omega, by omega, (K6.trans (hf_gk.wr K6.no t2)).mono (by omega), W9.fail _⟩
  -- a comparison
  rw [if_neg (fun z => eb (e91.mp z)), if_neg (fun z => eb (e91.mp z))]
  obtain ⟨f'', rfl⟩ : ∃ k, f' = k + 1 := ⟨f' - 1, by omega⟩
  show zTO gs pa o nm B T t g PV V a m L q d 3 (xcmp gs kf kt pa g1) (hf_b2 (ndX4_fact_2 (lpX4_fact_2 f'') 0 V1) _)
  unfold ndX4_fact_2
  rw [if_pos rfl]
  rcases xm_compare kf kt g1 PV1 V1 p m L S1.1 S1.2.1 (by omega) with ⟨g', V', x1, x2, x3⟩ | ⟨r', g5, PV5, V5, a5, m5, cs5, x1, x2, S5, y1, y2, y3, y4, y5, y6, y7, y8, y9, y10⟩
  · left
    rw [x1, x2, hf_b2_some, if_pos (Or.inl rfl), hf_b2_some, if_pos rfl]
    exact ⟨g', V', rfl, rfl, x3.r9.lift K01 Q1 (Nat.le_refl _) (by omega) s2⟩
  · right
    have hlen3 := y8.len3
    rw [x1, x2, hf_b2_some, if_pos (Or.inr rfl), hf_b2_some, if_neg (show ¬ (1 : Int32) = 0 by decide), zKA_B]
    obtain ⟨N5, P5, z0, z1, z3, wo5, mt5, z8, z9, z12, ha5, hm5⟩ := id S5
    refine ⟨r', g5, PV5, V5, a5, m5, cs5, [], n, hf_N, hf_N, 1, rfl, rfl, ?_, ⟨by omega, by omega, (K01.trans y3).mono (by omega), Z1.trans y4.pw, Q1.trans y5.wq (Nat.le_refl _), y7⟩, ⟨by omega, ?_, ⟨by decide, fun y hy => absurd hy (List.not_mem_nil)⟩, ?_, by omega⟩, ⟨by omega, by unfold hf_N; omega, ?_⟩, ⟨fun h => absurd h (by decide), fun h => absurd h (by decide)⟩⟩
    · rw [List.append_nil]
      exact ⟨S5, y6, OS1.vq y5, QQ, by rw [y4.2 2 (by decide) (by decide)]; exact q2, by rw [y5.1 13 (by decide) (by decide) (by decide)]; exact w13, hd⟩
    · rw [List.append_nil]
      omega
    · rw [List.reverse_nil, List.append_nil]
      exact y8
    · rw [List.append_nil]
      unfold hf_N
      omega
end ZQ
set_option maxRecDepth 100000
set_option maxHeartbeats 1000000
/-! texts: part, test; a whole test -/
theorem zok.mono {l k : Nat} {r : List Nat} (H : zok l r) (h : k ≤ l) : zok k r := ⟨by have := H.1; omega, fun y hy => ⟨(H.2 y hy).1, by have := (H.2 y hy).2; omega⟩⟩
section ZQ
variable {gs : hf_gs} {pa o nm : Nat} {B : Nat → Nat} {T t : Nat}
theorem zTR.weak {g0 : hf_H} {PV0 V0 : hf_V} {a0 m0 L0 : Nat} {q : List Nat} {d l k ln r : Nat} {g : hf_H} {PV V : hf_V} {a m : Nat} {cs rho : List Nat} {n c s D : Nat} (R : zTR gs pa o nm B T t g0 PV0 V0 a0 m0 L0 q d l ln r g PV V a m cs rho n c s D) (h : k ≤ l) : zTR gs pa o nm B T t g0 PV0 V0 a0 m0 L0 q d k ln r g PV V a m cs rho n c s D := by
  obtain ⟨S, h1, ⟨r7, r8, r9, r10, r11⟩, h3, h4⟩ := R
  exact ⟨S, h1, ⟨r7, r8, r9.mono h, r10, r11⟩, h3, h4⟩
theorem xm_loops {l x w D : Nat} {fl : Int32} (hx : (x = 12 ∧ l = 2 ∧ w = 14 ∧ fl = 0) ∨ (x = 13 ∧ l = 1 ∧ w = 15 ∧ fl = 1)) {kf : Nat → hf_H → Option ((Nat ⊕ Nat) × hf_H)} (hkf : zCL gs pa o nm B T t (l + 1) D kf) : zCL gs pa o nm B T t l D (fun pa V0 => (hf_ob 0 5 V0 pa).bind fun _ => hf_bT (kf pa V0) fun x2 g1 => zlp gs w fl kf hf_N pa x2 g1) := by
  intro g PV V a m L q d n f S hD hst hq hL hn hf
  have hs := hst (by omega)
  show zTO gs pa o nm B T t g PV V a m L q d l ((hf_ob 0 5 g pa).bind fun _ => _) _
  rw [S.1.2.1.pob]
  rcases hkf g PV V a m L q d n f S hD (fun _ => hs.le (by omega)) (by omega) hL hn hf with ⟨g', V', x1, x2, x3⟩ | ⟨r', g5, PV5, V5, a5, m5, cs5, rho5, n5, c5, s5, D5, x1, x2, R⟩
  · left
    rw [x1, hf_bT_inl]
    exact ⟨g', V', rfl, x2, x3⟩
  · rw [x1, hf_bT_inr, x2]
    have hT := S.1.2.1.T4
    exact zloop hx hkf hD hs hq S.1.1 S.1.2.1.2.1 hf_N r' g5 PV5 V5 a5 m5 cs5 rho5 n5 c5 s5 D5 (R.weak (by omega)) (by unfold hf_N; omega)
theorem xm_part {D : Nat} {kf : Nat → hf_H → Option ((Nat ⊕ Nat) × hf_H)} (hkf : zCL gs pa o nm B T t 3 D kf) : zCL gs pa o nm B T t 2 D (spX5_part gs kf) := by
  have := xm_loops (Or.inl ⟨rfl, rfl, rfl, rfl⟩) hkf
  rw [← zlp_part] at this
  exact this
theorem xm_test {D : Nat} {kp : Nat → hf_H → Option ((Nat ⊕ Nat) × hf_H)} (hkp : zCL gs pa o nm B T t 2 D kp) : zCL gs pa o nm B T t 1 D (spX5_test gs kp) := by
  have := xm_loops (Or.inr ⟨rfl, rfl, rfl, rfl⟩) hkp
  rw [← zlp_test] at this
  exact this
theorem xm_factD : ∀ D, zCL gs pa o nm B T t 3 D (spX5_factD gs D)
  | 0 => by
    intro g PV V a m L q d n f S hD
    have := S.2.2.2.2.2.2
    omega
  | D + 1 => xm_fact (xm_factD D) (xm_test (xm_part (xm_factD D)))
theorem xm_testD : zCL gs pa o nm B T t 1 16 (spX5_testD gs) := xm_test (xm_part (xm_factD 16))
/-- a test, whole: both fail alike or read the same -/
theorem xm_tested (g : hf_H) (PV V : hf_V) (a m L : Nat) (S : hf_ps gs g pa o nm PV B T V a m) (TT : hf_tt V t L) (p2 : PV.1 2 = 0) (hL : L ≤ 6 * m) : (∃ g' V', spX5_testD gs pa g = some (.inl (o + 19), g') ∧ spX4_tested V = some (0, V') ∧ hf_rf9 g g' pa o T a V V' t L) ∨ ∃ r g' PV' V' a' m' cs, spX5_testD gs pa g = some (.inr r, g') ∧ spX4_tested V = some (1, V') ∧ hf_ps gs g' pa o nm PV' B T V' a' m' ∧ a < a' ∧ m ≤ m' ∧ hf_gk pa o g g' (a' - a) ∧ hf_pw PV PV' ∧ PV'.1 2 = 0 ∧ hf_wq V V' t L ∧ hf_tt V' t (L + cs.length) ∧ zcds V' t L cs ∧ hf_Cnd 64 g' r cs ∧ zlv cs ≤ 60 ∧ L + cs.length ≤ 6 * m' := by
  obtain ⟨N, P, p0, p1, p3, wo, mt, v8, v9, v12, ha, hm⟩ := id S
  have hT := P.T4
  obtain ⟨V1, hV1⟩ : ∃ x, x = hf_ui V 16 0 := ⟨_, rfl⟩
  obtain ⟨V2, hV2⟩ : ∃ x, x = hf_ui V1 13 0 := ⟨_, rfl⟩
  have W2 : hf_wq V V2 t L := by
    rw [hV2, hV1]
    exact ((hf_wq.rfl_ V t L).ui (by omega) _).ui (by omega) _
  have i2 : ∀ k, k ≠ 13 → k ≠ 16 → V2.1 k = V.1 k := fun k h1 h2 => by
    rw [hV2, hf_ui_ne _ h1, hV1, hf_ui_ne _ h2]
  have O2 : hf_os V2 [] := ⟨by decide, by rw [hV2, hf_ui_ne _ (by decide), hV1, hf_ui_at]; rfl, fun k hk => absurd hk (Nat.not_lt_zero _)⟩
  have T2 : hf_tt V2 t L := by
    rw [hV2, hV1]
    exact (TT.ui (by decide) _).ui (by decide) _
  have S2 : zTS gs pa o nm B T t g PV V2 a m L [] 0 := zTS.mk N P p0 p1 p2 p3 wo ⟨mt.wq W2, by rw [i2 8 (by decide) (by decide)]; exact v8, by rw [i2 9 (by decide) (by decide)]; exact v9, by rw [i2 12 (by decide) (by decide)]; exact v12, T2, O2, by rw [hV2, hf_ui_at]; rfl, ha⟩ (fun x hx => absurd hx (List.not_mem_nil)) (by decide) hm
  have hM : spX4_tested V = zKA (hf_N - 1) hf_N 1 V2 := by
    unfold spX4_tested
    rw [hf_let_eq, ← hV1, hf_let_eq, ← hV2]
    exact zKA_of (hf_N - 1) V2
  rw [hM]
  rcases xm_testD g PV V2 a m L [] 0 (hf_N - 1) hf_N S2 (by decide) (fun _ => Or.inl rfl) (by decide) (by show L + 0 ≤ 6 * m + 0; omega) (by unfold hf_N; omega) (by unfold hf_N; omega) with ⟨g', V', x1, x2, x3⟩ | ⟨r', g5, PV5, V5, a5, m5, cs5, rho5, n5, c5, s5, D5, x1, x2, S5, ⟨y1, y2, y3, y4, y5, y6⟩, ⟨y7, y8, y9, y10, y11⟩, ⟨y12, y13, y14⟩, y15⟩
  · left
    exact ⟨g', V', x1, x2, x3.lift (hf_gk.rfl_ N) W2 (Nat.le_refl _) (by omega) ha⟩
  · right
    obtain ⟨⟨N5, P5, z0, z1, z3, wo5, mt5, z8, z9, z12, ha5, hm5⟩, -, -, QQ5, z2, -, -⟩ := id S5
    obtain ⟨n', rfl⟩ : ∃ k, n5 = k + 1 := ⟨n5 - 1, by omega⟩
    obtain ⟨c', rfl⟩ : ∃ k, c5 = k + 1 := ⟨c5 - 1, by omega⟩
    obtain ⟨s', rfl⟩ : ∃ k, s5 = k + 1 := ⟨s5 - 1, by omega⟩
    rw [List.nil_append] at S5 QQ5 y8 y14
    have h91 : ¬ 91 ∈ rho5 := fun z => by
      have := (y9.2 91 z).1
      omega
    have hst : zstp 3 ([] ++ rho5) := y9.stp (Or.inl rfl) (Nat.le_refl _)
    rw [List.nil_append] at hst
    have me := m_ends (n := n') (c := c') (s := s') S5.ms QQ5 hst y15 (fun z => h91 z.2.2)
    rw [if_neg h91] at me
    rw [(y15.1 (by decide)).2, hf_ui_self z8] at me
    have hlen : rho5.reverse.length = rho5.length := List.length_reverse
    have hpr : zpend rho5 = rho5.length := zok.pend y9.2
    have hr3 := y9.1
    obtain ⟨V6, u1, u2, u3, u4, u5, u6⟩ := m_settleN (q := []) (l := 1) (d := 0) (by decide) (fun x hx => absurd hx (List.not_mem_nil)) (Or.inl rfl) rho5.reverse V5 (L + cs5.length) hf_N (fun x hx => y9.2 x (List.mem_reverse.mp hx)) (by rw [List.reverse_reverse]; exact S5.2.2.1) S5.2.1 S5.2.2.2.2.2.1 (by omega) (by rw [hlen]; unfold hf_N; omega)
    have u1' : spX4_settles (1 : Int32) V5 = some V6 := u1
    rw [u1', Option.bind_some] at me
    have W56 : hf_wq V5 V6 t (L + cs5.length) := ⟨fun k _ _ _ _ h => u3 k h, u4.wt⟩
    have zrev : zlv rho5.reverse = 0 := by rw [zlv_rev]; exact zok.lv y9.2
    have hcl : (cs5 ++ rho5.reverse).length = cs5.length + rho5.length := by rw [List.length_append, hlen]
    refine ⟨r', g5, PV5, V6, a5, m5, cs5 ++ rho5.reverse, x1, x2.trans me, ⟨N5, P5, z0, z1, z3, wo5, mt5.wq W56, by rw [u3 8 (by decide)]; exact z8, by rw [u3 9 (by decide)]; exact z9, by rw [u3 12 (by decide)]; exact z12, ha5, hm5⟩, y1, by omega, y3, y4, z2, (W2.trans y5 (Nat.le_refl _)).trans W56 (by omega), ?_, ?_, hf_Cnd.mono _ _ _ _ _ (by omega) y10, ?_, by omega⟩
    · rw [hcl, ← Nat.add_assoc, ← hlen]
      exact u5
    · exact (y6.vt u4 (Nat.le_refl _)).app u6
    · rw [zlv_app, zrev]
      omega
end ZQ
