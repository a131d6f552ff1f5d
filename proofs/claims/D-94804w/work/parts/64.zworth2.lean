set_option maxRecDepth 100000
set_option maxHeartbeats 1000000
theorem zpow12 {n : Nat} (h : n ≤ 12) : 1 <<< n = 2 ^ n ∧ 2 ^ n ≤ 4096 ∧ 0 < 2 ^ n := by
  refine ⟨Nat.one_shiftLeft n, ?_, Nat.two_pow_pos n⟩
  have : 2 ^ n ≤ 2 ^ 12 := Nat.pow_le_pow_right (by decide) h
  omega
theorem zTab_old (v : Nat → Nat) (k s : Nat) (h : s ≤ k) : (zTab v (k + 1)).1 s = (zTab v k).1 s ∧ (zTab v (k + 1)).2 s = (zTab v k).2 s := by
  refine ⟨?_, ?_⟩
  · show zup _ _ _ s = _
    unfold zup
    rw [if_neg (by omega)]
  · show zup _ _ _ s = _
    unfold zup
    rw [if_neg (by omega)]
theorem zTab_new (v : Nat → Nat) (k : Nat) : (zTab v (k + 1)).1 (k + 1) = (zent v (zTab v k).1 (k + 1)).1 ∧ (zTab v (k + 1)).2 (k + 1) = (zent v (zTab v k).1 (k + 1)).2 := ⟨if_pos rfl, if_pos rfl⟩
section ZM
variable {V : hf_V} {v : Nat → Nat}
def zfW (V : hf_V) (v : Nat → Nat) (i : Nat) : Nat → Int32 := fun s => if s ≤ i then Int32.ofNat ((zTab v i).1 s) else V.2.2.2.1 22 s
def zfM (V : hf_V) (v : Nat → Nat) (i : Nat) : Nat → Int32 := fun s => if 0 < s ∧ s ≤ i then zcode ((zTab v i).2 s) else V.2.2.2.1 23 s
theorem zfW_up (i : Nat) : zup (zfW V v i) (i + 1) (Int32.ofNat (zent v (zTab v i).1 (i + 1)).1) = zfW V v (i + 1) := by
  funext s
  unfold zup zfW
  by_cases e : s = i + 1
  · rw [if_pos e, e, if_pos (Nat.le_refl _), (zTab_new v i).1]
  · rw [if_neg e]
    by_cases h : s ≤ i
    · rw [if_pos h, if_pos (by omega), (zTab_old v i s h).1]
    · rw [if_neg h, if_neg (by omega)]
theorem zfM_up (i : Nat) : zup (zfM V v i) (i + 1) (zcode (zent v (zTab v i).1 (i + 1)).2) = zfM V v (i + 1) := by
  funext s
  unfold zup zfM
  by_cases e : s = i + 1
  · rw [if_pos e, e, if_pos ⟨by omega, Nat.le_refl _⟩, (zTab_new v i).2]
  · rw [if_neg e]
    by_cases h : 0 < s ∧ s ≤ i
    · rw [if_pos h, if_pos ⟨h.1, by omega⟩, (zTab_old v i s h.2).2]
    · rw [if_neg h, if_neg (by omega)]
theorem m_fillsWorth_step (S : hf_sv V v) (hn : v 1 ≤ 12) (f i : Nat) (hi : i + 1 < 2 ^ v 1) : lpX4_fillsWorth_9 (f + 1) (Int32.ofNat (i + 1)) (hf_sa (hf_sa V 22 (zfW V v i)) 23 (zfM V v i)) = lpX4_fillsWorth_9 f (Int32.ofNat (i + 1 + 1)) (hf_sa (hf_sa V 22 (zfW V v (i + 1))) 23 (zfM V v (i + 1))) := by
  obtain ⟨p1, p2, p3⟩ := zpow12 hn
  show ndX4_fillsWorth_9 (lpX4_fillsWorth_9 f) _ _ = _
  have S2 : hf_sv (hf_sa (hf_sa V 22 (zfW V v i)) 23 (zfM V v i)) v := (S.sa (by decide) _).sa (by decide) _
  have b1 := S.b 1
  obtain ⟨l1, l2, l3⟩ := z_low (s := i + 1) (by omega) (by omega)
  have hr := hf_nd_lt l2
  have hx : (hf_sa (hf_sa V 22 (zfW V v i)) 23 (zfM V v i)).2.2.2.1 22 (hf_nd (i + 1) (1 <<< zlow (i + 1))) = Int32.ofNat ((zTab v i).1 (hf_nd (i + 1) (1 <<< zlow (i + 1)))) := by
    rw [hf_sa_ne _ (by decide), hf_sa_at]
    unfold zfW
    rw [if_pos (by omega)]
  have hsh : 1 <<< v 1 < 2147483648 := by rw [p1]; omega
  have hc : ¬ 1 <<< v 1 ≤ i + 1 := by rw [p1]; omega
  unfold ndX4_fillsWorth_9
  have hN9 : 100 < hf_N := by unfold hf_N; omega
  generalize hf_N = N9 at hN9
  simp only [z_lit]
  simp (disch := omega) only [S2.ld, Option.bind_some]
  simp (disch := omega) only [z_and, z_shl]
  have hle : (Int32.ofNat (1 <<< v 1) ≤ Int32.ofNat (i + 1)) ↔ (1 <<< v 1 ≤ i + 1) := z_le hsh (by omega)
  rw [if_neg (fun z => hc (hle.mp z)), m_leastOf (by omega) (by omega)]
  simp only [hf_b2_some, hf_let_eq]
  simp (disch := omega) only [z_and, z_shl, z_nd, z_nd2]
  rw [z_ld (by omega) (by omega), hx]
  simp only [Option.bind_some, z_add]
  rw [z_sd (by omega) (by omega), z_sd (by omega) (by omega)]
  rw [hf_ua_sa2 V (by decide), hf_ua_sa, m_fillsWorth_in (W := (zTab v i).1) S hn _ (by omega) hr l1 (fun x hx => by
    unfold zfW
    rw [if_pos (by omega)]) (fun x => by
    have := zTab_le v i x
    omega) hN9]
  have e1 : zinn v (zTab v i).1 (hf_nd (i + 1) (1 <<< zlow (i + 1))) (zlow (i + 1)) (v 1 - (zlow (i + 1) + 1)) = zent v (zTab v i).1 (i + 1) := rfl
  rw [e1, zfW_up, zfM_up]

theorem m_fillsWorth_end (S : hf_sv V v) (hn : v 1 ≤ 12) (f : Nat) : lpX4_fillsWorth_9 (f + 1) (Int32.ofNat (2 ^ v 1 - 1 + 1)) (hf_sa (hf_sa V 22 (zfW V v (2 ^ v 1 - 1))) 23 (zfM V v (2 ^ v 1 - 1))) = some (hf_sa (hf_sa V 22 (zfW V v (2 ^ v 1 - 1))) 23 (zfM V v (2 ^ v 1 - 1))) := by
  obtain ⟨p1, p2, p3⟩ := zpow12 hn
  show ndX4_fillsWorth_9 (lpX4_fillsWorth_9 f) _ _ = _
  have S2 : hf_sv (hf_sa (hf_sa V 22 (zfW V v (2 ^ v 1 - 1))) 23 (zfM V v (2 ^ v 1 - 1))) v := (S.sa (by decide) _).sa (by decide) _
  have b1 := S.b 1
  have hsh : 1 <<< v 1 < 2147483648 := by rw [p1]; omega
  have hc : 1 <<< v 1 ≤ 2 ^ v 1 - 1 + 1 := by rw [p1]; omega
  unfold ndX4_fillsWorth_9
  simp only [z_lit]
  simp (disch := omega) only [S2.ld, Option.bind_some]
  simp (disch := omega) only [z_and, z_shl]
  have hle : (Int32.ofNat (1 <<< v 1) ≤ Int32.ofNat (2 ^ v 1 - 1 + 1)) ↔ (1 <<< v 1 ≤ 2 ^ v 1 - 1 + 1) := z_le hsh (by omega)
  rw [if_pos (hle.mpr hc)]
theorem m_fillsWorth (S : hf_sv V v) (hn : v 1 ≤ 12) : spX4_fillsWorth V = some (hf_sa (hf_sa V 22 (zfW V v (2 ^ v 1 - 1))) 23 (zfM V v (2 ^ v 1 - 1))) := by
  obtain ⟨p1, p2, p3⟩ := zpow12 hn
  have h0 : hf_ua V 22 0 (Int32.ofNat 0) = hf_sa (hf_sa V 22 (zfW V v 0)) 23 (zfM V v 0) := by
    rw [hf_ua_eq]
    have e1 : zup (V.2.2.2.1 22) 0 (Int32.ofNat 0) = zfW V v 0 := by
      funext s
      unfold zup zfW
      by_cases e : s = 0
      · rw [if_pos e, if_pos (by omega), e]; rfl
      · rw [if_neg e, if_neg (by omega)]
    have e2 : zfM V v 0 = V.2.2.2.1 23 := by
      funext s
      unfold zfM
      rw [if_neg (by omega)]
    rw [e1, e2]
    unfold hf_sa
    refine Prod.ext rfl (Prod.ext rfl (Prod.ext rfl (Prod.ext ?_ rfl)))
    funext j
    by_cases e : j = 23
    · subst e; rfl
    · simp [e]
  have hstart : spX4_fillsWorth V = lpX4_fillsWorth_9 hf_N (Int32.ofNat (0 + 1)) (hf_sa (hf_sa V 22 (zfW V v 0)) 23 (zfM V v 0)) := by
    rw [← h0]
    unfold spX4_fillsWorth
    simp (disch := omega) only [z_lit, z_add, z_mul, z_sub, z_div, z_rem, Option.bind_some, z_le, z_lt, z_eq, hf_b2_some, hf_let_eq, z_shl, z_shr, z_and, z_or, z_nd, z_nd2, z_sd]
  rw [hstart]
  exact hf_loop (fun f i => lpX4_fillsWorth_9 f (Int32.ofNat (i + 1)) (hf_sa (hf_sa V 22 (zfW V v i)) 23 (zfM V v i))) (2 ^ v 1 - 1) _ (fun i f hi => m_fillsWorth_step S hn f i (by omega)) (fun f => m_fillsWorth_end S hn f) (fuel := hf_N) (by unfold hf_N; omega)
theorem zfW_at {s : Nat} (h : s < 2 ^ v 1) : zfW V v (2 ^ v 1 - 1) s = Int32.ofNat (zW v s) := if_pos (by omega)
theorem zfM_at {s : Nat} (h : s < 2 ^ v 1) (h0 : 0 < s) : zfM V v (2 ^ v 1 - 1) s = zcode (zM v s) := if_pos ⟨h0, by omega⟩
theorem zW_le (s : Nat) (hn : v 1 ≤ 12) : zW v s ≤ 200000 := by
  obtain ⟨p1, p2, p3⟩ := zpow12 hn
  have h1 : 40 * (2 ^ v 1 - 1) ≤ 40 * 4096 := Nat.mul_le_mul_left 40 (by omega)
  have h2 : (zTab v (2 ^ v 1 - 1)).1 s ≤ 40 * (2 ^ v 1 - 1) := zTab_le v (2 ^ v 1 - 1) s
  exact Nat.le_trans h2 (Nat.le_trans h1 (Nat.le_of_ble_eq_true rfl))
end ZM
