set_option maxRecDepth 100000
set_option maxHeartbeats 1000000
/-! HalfFair's words -/
def hf_xc (h : hf_H) (o : Nat) (XV : hf_V) : hf_H := hf_up h o (.inl (1, 0, XV))
def hf_xw (XV : hf_V) (W : Nat → Int64) : hf_V := (XV.1, XV.2.1, XV.2.2.1, XV.2.2.2.1, fun j => if j = 16 then W else XV.2.2.2.2.1 j, XV.2.2.2.2.2)
theorem hf_xw_self (V : hf_V) : hf_xw V (V.2.2.2.2.1 16) = V := by
  unfold hf_xw
  refine Prod.ext rfl (Prod.ext rfl (Prod.ext rfl (Prod.ext rfl (Prod.ext ?_ rfl))))
  funext j
  by_cases e : j = 16 <;> simp [e]
theorem hf_xw_xw (V : hf_V) (A B : Nat → Int64) : hf_xw (hf_xw V A) B = hf_xw V B := by
  unfold hf_xw
  refine Prod.ext rfl (Prod.ext rfl (Prod.ext rfl (Prod.ext rfl (Prod.ext ?_ rfl))))
  funext j
  by_cases e : j = 16 <;> simp [e]
theorem hf_xw_uL (V : hf_V) (W : Nat → Int64) (i : Nat) (x : Int64) : hf_uL (hf_xw V W) 16 i x = hf_xw V (zup W i x) := by
  unfold hf_xw hf_uL zup
  refine Prod.ext rfl (Prod.ext rfl (Prod.ext rfl (Prod.ext rfl (Prod.ext ?_ rfl))))
  funext j
  by_cases e : j = 16 <;> simp [e]
section ZX
variable {h : hf_H} {o f s s' : Nat} {v : Nat → Nat} {XV : hf_V}
theorem hf_ob_xc (h : hf_H) (o : Nat) (XV : hf_V) : hf_ob 1 0 (hf_xc h o XV) o = some XV := hf_ob_up h o 1 0 XV
theorem hf_xc_xc (h : hf_H) (o : Nat) (A B : hf_V) : hf_xc (hf_xc h o A) o B = hf_xc h o B := hf_up_up h o _ _
theorem hf_xc_self (e : hf_ob 1 0 h o = some XV) : hf_xc h o XV = h := hf_up_self e
theorem hf_XX.xc (X : hf_XX h o f s) (e : hf_ob 1 0 h o = some XV) {XV' : hf_V} (e0 : XV'.2.2.1 0 = XV.2.2.1 0) (e1 : XV'.2.2.1 1 = XV.2.2.1 1) : hf_XX (hf_xc h o XV') o f s := by
  obtain ⟨X0, x1, x2, x3⟩ := X
  rw [e] at x1
  cases x1
  exact ⟨XV', hf_ob_xc h o XV', e0.trans x2, e1.trans x3⟩
theorem hf_F.xc (F : hf_F h f v) (e : hf_ob 1 0 h o = some XV) (XV' : hf_V) : hf_F (hf_xc h o XV') f v := F.up e (by decide)
theorem hf_SS.xc (S : hf_SS h s v) (e : hf_ob 1 0 h o = some XV) (XV' : hf_V) : hf_SS (hf_xc h o XV') s v := by
  obtain ⟨SV, s1, s2⟩ := S
  refine ⟨SV, ?_, s2⟩
  unfold hf_xc
  rw [hf_ob_ne (hf_ob_dif s1 e (by decide))]
  exact s1
def zhalf (q : Option Nat) : Int32 := match q with
  | none => -1
  | some k => Int32.ofNat k
theorem x_asks (X : hf_XX h o f s) (F : hf_F h f v) (S : hf_SS h s' v) (Wf : hf_wf v) (e : hf_ob 1 0 h o = some XV) {b : Nat} (hb : b < v 2) {q : Option Nat} (hq : ∀ k, q = some k → k < v 1) : ∃ W, spX0_asks o s' (Int32.ofNat b) (zhalf q) h = some (hf_xc h o (hf_xw XV W)) ∧ ∀ k, k < 13 → W k = zwd v b q k := by
  have q1 := Wf.v1
  have q2 := Wf.v2
  have q0 := Wf.b0 hb
  have r1 := zhas_lt v b q1
  have r2 := zats_lt v q1
  have r3 : zsaw v b &&& zats v < 2147483648 := Nat.lt_of_le_of_lt Nat.and_le_right (by omega)
  have XW : ∀ W, hf_XX (hf_xc h o (hf_xw XV W)) o f s := fun W => X.xc e rfl rfl
  have FW : ∀ W, hf_F (hf_xc h o (hf_xw XV W)) f v := fun W => F.xc e _
  have SW : ∀ W, hf_SS (hf_xc h o (hf_xw XV W)) s' v := fun W => S.xc e _
  have sl : ∀ (W : Nat → Int64) (i : Nat) (x : Int64), i < 13 → hf_sl 0 16 13 (hf_xc h o (hf_xw XV W)) o (Int32.ofNat i) x = some (hf_xc h o (hf_xw XV (zup W i x))) := fun W i x hi => by
    rw [hf_sl_eq (hf_ob_xc h o _) 16 hi (by omega), hf_xw_uL]
    exact congrArg some (hf_xc_xc h o _ _)
  have hst : h = hf_xc h o (hf_xw XV (XV.2.2.2.2.1 16)) := by rw [hf_xw_self, hf_xc_self e]
  have loop : ∀ W0 : Nat → Int64, (∀ k, k < 6 → W0 k = zwd v b q k) → ∃ W, lpX0_asks_90 hf_N o s' (Int32.ofNat b) (zhalf q) (Int32.ofNat (zhas v b)) (Int32.ofNat 6) (hf_xc h o (hf_xw XV W0)) = some (hf_xc h o (hf_xw XV W)) ∧ ∀ k, k < 13 → W k = zwd v b q k := by
    intro W0 hW0
    refine hf_loopR (fun g i W => lpX0_asks_90 g o s' (Int32.ofNat b) (zhalf q) (Int32.ofNat (zhas v b)) (Int32.ofNat (6 + i)) (hf_xc h o (hf_xw XV W))) (fun i W => (∀ k, k < 6 → W k = zwd v b q k) ∧ ∀ k, 6 ≤ k → k < 6 + i → W k = 0) 7 (fun r => ∃ W, r = some (hf_xc h o (hf_xw XV W)) ∧ ∀ k, k < 13 → W k = zwd v b q k) (fun i g W hi hP => ?_) (fun g W hP => ?_) W0 ⟨hW0, fun k h1 h2 => by omega⟩ (fuel := hf_N) (by unfold hf_N; omega)
    · refine ⟨zup W (6 + i) 0, ?_, fun k hk => ?_, fun k h1 h2 => ?_⟩
      · show ndX0_asks_90 (lpX0_asks_90 g) _ _ _ _ _ _ _ = _
        unfold ndX0_asks_90
        rw [(XW _).ob, (XW _).ob, z_lit, if_neg (z_nle (a := 13) (by omega) (by decide)), (XW _).ob, sl _ _ _ (by omega), Option.bind_some, hf_let_eq, z_lit, z_add]
        rfl
      · rw [zup_ne _ (by omega)]; exact hP.1 k hk
      · by_cases e : k = 6 + i
        · rw [e, zup_at]
        · rw [zup_ne _ e]; exact hP.2 k h1 (by omega)
    · cases q with
      | none =>
        refine ⟨W, ?_, fun k hk => ?_⟩
        · show ndX0_asks_90 (lpX0_asks_90 g) _ _ _ _ _ _ _ = _
          unfold ndX0_asks_90
          rw [(XW _).ob, (XW _).ob, z_lit, if_pos (z_yle (a := 13) (by decide) (by decide)), if_pos (show zhalf none = -1 from rfl)]
        · by_cases hk6 : k < 6
          · exact hP.1 k hk6
          · rw [hP.2 k (by omega) (by omega)]
            have h0 : zwn v b none k = 0 := by
              rcases (show k = 6 ∨ k = 7 ∨ k = 8 ∨ k = 9 ∨ k = 10 ∨ k = 11 ∨ k = 12 by omega) with e | e | e | e | e | e | e <;> subst e <;> rfl
            unfold zwd
            rw [h0]
            rfl
      | some k =>
        have hk := hq k rfl
        refine ⟨zup (zup (zup (zup (zup (zup (zup W 6 (Int32.ofNat k).toInt64) 7 (Int32.ofNat (v (10 + 5 * k + 0))).toInt64) 8 (Int32.ofNat (v (10 + 5 * k + 1))).toInt64) 9 (Int32.ofNat (zpr v k)).toInt64) 10 (Int32.ofNat (zfg v (zhas v b) k 2)).toInt64) 11 (Int32.ofNat (zfg v (zhas v b) k 1)).toInt64) 12 (Int32.ofNat (zfg v (zsaw v b &&& zats v) k 2)).toInt64, ?_, ?_⟩
        · show ndX0_asks_90 (lpX0_asks_90 g) _ _ _ _ _ _ _ = _
          unfold ndX0_asks_90
          have hne : ¬ zhalf (some k) = -1 := fun z => by
            have h1 : ¬ Int32.ofNat k < 0 := z_n0 k (by omega)
            rw [show Int32.ofNat k = -1 from z] at h1
            exact h1 (by decide)
          rw [(XW _).ob, (XW _).ob, z_lit, if_pos (z_yle (a := 13) (by decide) (by decide)), if_neg hne]
          show ((hf_ob 1 0 (hf_xc h o (hf_xw XV W)) o).bind fun _ => (hf_sl 0 16 13 (hf_xc h o (hf_xw XV W)) o (Int32.ofNat 6) (Int32.toInt64 (Int32.ofNat k))).bind _) = _
          simp only [show zhalf (some k) = Int32.ofNat k from rfl, z_lit]
          rw [(XW _).ob, sl _ 6 _ (by decide), Option.bind_some, (XW _).ob, (XW _).fa, Option.bind_some, (FW _).shape Wf hk, sl _ 7 _ (by decide), Option.bind_some, (XW _).ob, (XW _).fa, Option.bind_some, (FW _).side Wf hk, sl _ 8 _ (by decide), Option.bind_some, (XW _).ob, (XW _).fa, Option.bind_some, (SW _).now, Option.bind_some, (FW _).ob, x_priceAt (FW _) Wf hk, hf_b2_some, sl _ 9 _ (by decide), Option.bind_some, (XW _).ob, (XW _).ob, x_fitting (XW _) (FW _) Wf hk (by omega) (by decide), hf_b2_some, sl _ 10 _ (by decide), Option.bind_some, (XW _).ob, (XW _).ob, x_fitting (XW _) (FW _) Wf hk (by omega) (by decide), hf_b2_some, sl _ 11 _ (by decide), Option.bind_some, (XW _).ob, (XW _).fa, Option.bind_some, (SW _).ob, x_clubSaw (FW _) (SW _) Wf hb, hf_b2_some, (XW _).fa, Option.bind_some, (SW _).ob, x_atStalls (FW _) (SW _) Wf, hf_b2_some, (XW _).ob, z_and, x_fitting (XW _) (FW _) Wf hk r3 (by decide), hf_b2_some, sl _ 12 _ (by decide), Option.bind_some]
        · intro j hj
          rcases (show j < 6 ∨ j = 6 ∨ j = 7 ∨ j = 8 ∨ j = 9 ∨ j = 10 ∨ j = 11 ∨ j = 12 by omega) with e | e | e | e | e | e | e | e
          · rw [zup_ne _ (by omega), zup_ne _ (by omega), zup_ne _ (by omega), zup_ne _ (by omega), zup_ne _ (by omega), zup_ne _ (by omega), zup_ne _ (by omega), hP.1 j e]
          all_goals subst e
          all_goals first | (rw [zup_at]; rfl) | (rw [zup_ne _ (by omega), zup_at]; rfl) | (rw [zup_ne _ (by omega), zup_ne _ (by omega), zup_at]; rfl) | (rw [zup_ne _ (by omega), zup_ne _ (by omega), zup_ne _ (by omega), zup_at]; rfl) | (rw [zup_ne _ (by omega), zup_ne _ (by omega), zup_ne _ (by omega), zup_ne _ (by omega), zup_at]; rfl) | (rw [zup_ne _ (by omega), zup_ne _ (by omega), zup_ne _ (by omega), zup_ne _ (by omega), zup_ne _ (by omega), zup_at]; rfl) | (rw [zup_ne _ (by omega), zup_ne _ (by omega), zup_ne _ (by omega), zup_ne _ (by omega), zup_ne _ (by omega), zup_ne _ (by omega), zup_at]; rfl)
  have key : ∀ W0 : Nat → Int64, ∃ W, spX0_asks o s' (Int32.ofNat b) (zhalf q) (hf_xc h o (hf_xw XV W0)) = some (hf_xc h o (hf_xw XV W)) ∧ ∀ k, k < 13 → W k = zwd v b q k := by
    intro W0
    obtain ⟨W, w1, w2⟩ := loop (zup (zup (zup (zup (zup (zup W0 0 (Int32.ofNat b).toInt64) 1 (Int32.ofNat (v (70 + 4 * b))).toInt64) 2 (Int32.ofNat (v (70 + 4 * b + 1))).toInt64) 3 (Int32.ofNat (v 3)).toInt64) 4 (Int32.ofNat (zleft v)).toInt64) 5 (Int32.ofNat (zpop (zhas v b))).toInt64) (fun j hj => by
      rcases (show j = 0 ∨ j = 1 ∨ j = 2 ∨ j = 3 ∨ j = 4 ∨ j = 5 by omega) with e | e | e | e | e | e
      all_goals subst e
      all_goals first | (rw [zup_at]; rfl) | (rw [zup_ne _ (by omega), zup_at]; rfl) | (rw [zup_ne _ (by omega), zup_ne _ (by omega), zup_at]; rfl) | (rw [zup_ne _ (by omega), zup_ne _ (by omega), zup_ne _ (by omega), zup_at]; rfl) | (rw [zup_ne _ (by omega), zup_ne _ (by omega), zup_ne _ (by omega), zup_ne _ (by omega), zup_at]; rfl) | (rw [zup_ne _ (by omega), zup_ne _ (by omega), zup_ne _ (by omega), zup_ne _ (by omega), zup_ne _ (by omega), zup_at]; rfl))
    refine ⟨W, ?_, w2⟩
    unfold spX0_asks
    simp only [z_lit]
    rw [(XW _).fa, Option.bind_some, (SW _).ob, x_halvesOf (FW _) (SW _) Wf (by omega), hf_b2_some, (XW _).ob, sl _ 0 _ (by decide), Option.bind_some, (XW _).ob, (SW _).ob, (SW _).purse hb q2, Option.bind_some, sl _ 1 _ (by decide), Option.bind_some, (XW _).ob, (SW _).ob, (SW _).spot hb q2, Option.bind_some, sl _ 2 _ (by decide), Option.bind_some, (XW _).ob, (SW _).now, Option.bind_some, sl _ 3 _ (by decide), Option.bind_some, (XW _).ob, (XW _).fa, Option.bind_some, (SW _).now, Option.bind_some, (FW _).ob, x_left (FW _) Wf q0, hf_b2_some, sl _ 4 _ (by decide), Option.bind_some, (XW _).ob, x_bits _ r1, Option.bind_some, sl _ 5 _ (by decide), Option.bind_some]
    exact w1
  have := key (XV.2.2.2.2.1 16)
  rw [← hst] at this
  exact this
end ZX
