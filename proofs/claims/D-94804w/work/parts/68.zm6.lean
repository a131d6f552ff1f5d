set_option maxRecDepth 100000
set_option maxHeartbeats 1000000
/-! acts kept: the model's rows of said, oldest first -/
/-- the kept rows after one more is kept (86 cells each) -/
def zkeepF (g : Nat → Int32) (v : Nat → Nat) (u : Nat) : Nat → Int32 := fun k => if u * 86 ≤ k ∧ k < u * 86 + 86 then Int32.ofNat (v (k - u * 86)) else g k
section ZM
variable {V : hf_V} {v : Nat → Nat}
def hf_si25 (V : hf_V) (u : Nat) : hf_V := hf_ui V 25 (Int32.ofNat u)
theorem m_keepsAct50 (S : hf_sv V v) {u : Nat} (hu : V.1 25 = Int32.ofNat u) (h20 : u < 20) : ndX4_keepsAct_50 V = some (hf_ui (hf_sa V 24 (zkeepF (V.2.2.2.1 24) v u)) 25 (Int32.ofNat (u + 1))) := by
  unfold ndX4_keepsAct_50
  have hstart : V = hf_sa V 24 (fun k => if u * 86 ≤ k ∧ k < u * 86 + 0 then Int32.ofNat (v (k - u * 86)) else V.2.2.2.1 24 k) := by
    unfold hf_sa
    refine Prod.ext rfl (Prod.ext rfl (Prod.ext rfl (Prod.ext ?_ rfl)))
    funext j
    by_cases e : j = 24
    · simp only [e, if_true]
      funext k
      rw [if_neg (by omega)]
    · simp only [e, if_false]
  have key : ∀ fuel, 86 < fuel → lpX4_keepsAct_52 fuel (Int32.ofNat 0) (hf_sa V 24 (fun k => if u * 86 ≤ k ∧ k < u * 86 + 0 then Int32.ofNat (v (k - u * 86)) else V.2.2.2.1 24 k)) = some (hf_ui (hf_sa V 24 (zkeepF (V.2.2.2.1 24) v u)) 25 (Int32.ofNat (u + 1))) := by
    intro fuel hf
    refine hf_loop (fun f i => lpX4_keepsAct_52 f (Int32.ofNat i) (hf_sa V 24 (fun k => if u * 86 ≤ k ∧ k < u * 86 + i then Int32.ofNat (v (k - u * 86)) else V.2.2.2.1 24 k))) 86 _ (fun i f hi => ?_) (fun f => ?_) hf
    · show ndX4_keepsAct_52 (lpX4_keepsAct_52 f) _ _ = _
      have S2 : hf_sv (hf_sa V 24 (fun k => if u * 86 ≤ k ∧ k < u * 86 + i then Int32.ofNat (v (k - u * 86)) else V.2.2.2.1 24 k)) v := S.sa (by decide) _
      have hu2 : (hf_sa V 24 (fun k => if u * 86 ≤ k ∧ k < u * 86 + i then Int32.ofNat (v (k - u * 86)) else V.2.2.2.1 24 k)).1 25 = Int32.ofNat u := hu
      unfold ndX4_keepsAct_52
      simp only [z_lit, hu2]
      have hle : (Int32.ofNat 86 ≤ Int32.ofNat i) ↔ 86 ≤ i := z_le (by decide) (by omega)
      rw [if_neg (fun z => by have := hle.mp z; omega), S2.ld (by omega), Option.bind_some, z_mul, z_add, z_sd (by omega) (by omega), hf_let_eq, z_add, hf_ua_sa]
      congr 2
      funext k
      unfold zup
      by_cases e : k = 86 * u + i
      · rw [if_pos e, if_pos (by omega), show k - u * 86 = i by omega]
      · rw [if_neg e]
        show (if u * 86 ≤ k ∧ k < u * 86 + i then Int32.ofNat (v (k - u * 86)) else V.2.2.2.1 24 k) = _
        by_cases e2 : u * 86 ≤ k ∧ k < u * 86 + i
        · rw [if_pos e2, if_pos (by omega)]
        · rw [if_neg e2, if_neg (by omega)]
    · show ndX4_keepsAct_52 (lpX4_keepsAct_52 f) _ _ = _
      have hu2 : (hf_sa V 24 (fun k => if u * 86 ≤ k ∧ k < u * 86 + 86 then Int32.ofNat (v (k - u * 86)) else V.2.2.2.1 24 k)).1 25 = Int32.ofNat u := hu
      unfold ndX4_keepsAct_52
      simp only [z_lit, hu2]
      have hle : (Int32.ofNat 86 ≤ Int32.ofNat 86) ↔ 86 ≤ 86 := z_le (by decide) (by decide)
      rw [if_pos (hle.mpr (Nat.le_refl _)), hf_let_eq, z_add]
      rfl
  rw [← hstart] at key
  exact key hf_N (by unfold hf_N; omega)
end ZM
section ZM
variable {V : hf_V} {v : Nat → Nat}
theorem m_keepsAct12 (S : hf_sv V v) (hu : V.1 25 = Int32.ofNat 20) : spX4_keepsAct V = some (hf_ui (hf_sa V 24 (zkeepF (fun k => if k < 1634 then V.2.2.2.1 24 (k + 86) else V.2.2.2.1 24 k) v 19)) 25 (Int32.ofNat 20)) := by
  have hstart : V = hf_sa V 24 (fun k => if k < 0 then V.2.2.2.1 24 (k + 86) else V.2.2.2.1 24 k) := by
    unfold hf_sa
    refine Prod.ext rfl (Prod.ext rfl (Prod.ext rfl (Prod.ext ?_ rfl)))
    funext j
    by_cases e : j = 24
    · simp only [e, if_true]
      funext k
      rw [if_neg (by omega)]
    · simp only [e, if_false]
  have key : ∀ fuel, 1634 < fuel → lpX4_keepsAct_12 fuel (Int32.ofNat (86 + 0)) (hf_sa V 24 (fun k => if k < 0 then V.2.2.2.1 24 (k + 86) else V.2.2.2.1 24 k)) = some (hf_ui (hf_sa V 24 (zkeepF (fun k => if k < 1634 then V.2.2.2.1 24 (k + 86) else V.2.2.2.1 24 k) v 19)) 25 (Int32.ofNat 20)) := by
    intro fuel hf
    refine hf_loop (fun f i => lpX4_keepsAct_12 f (Int32.ofNat (86 + i)) (hf_sa V 24 (fun k => if k < i then V.2.2.2.1 24 (k + 86) else V.2.2.2.1 24 k))) 1634 _ (fun i f hi => ?_) (fun f => ?_) hf
    · show ndX4_keepsAct_12 (lpX4_keepsAct_12 f) _ _ = _
      unfold ndX4_keepsAct_12
      simp only [z_lit, hf_sa_at]
      have hle : (Int32.ofNat 1720 ≤ Int32.ofNat (86 + i)) ↔ 1720 ≤ 86 + i := z_le (by decide) (by omega)
      rw [if_neg (fun z => by have := hle.mp z; omega), z_ld (by omega) (by omega), Option.bind_some, z_sub (by omega), z_sd (by omega) (by omega), hf_let_eq, z_add, hf_ua_sa]
      congr 2
      funext k
      unfold zup
      show (if k = 86 + i - 86 then (if 86 + i < i then V.2.2.2.1 24 (86 + i + 86) else V.2.2.2.1 24 (86 + i)) else if k < i then V.2.2.2.1 24 (k + 86) else V.2.2.2.1 24 k) = _
      by_cases e : k = i
      · subst e
        rw [if_pos (by omega), if_neg (by omega), if_pos (by omega), Nat.add_comm]
      · rw [if_neg (by omega)]
        by_cases e2 : k < i
        · rw [if_pos e2, if_pos (by omega)]
        · rw [if_neg e2, if_neg (by omega)]
    · show ndX4_keepsAct_12 (lpX4_keepsAct_12 f) _ _ = _
      unfold ndX4_keepsAct_12
      simp only [z_lit]
      have hle : (Int32.ofNat 1720 ≤ Int32.ofNat (86 + 1634)) ↔ 1720 ≤ 86 + 1634 := z_le (by decide) (by decide)
      have hu2 : (hf_sa V 24 (fun k => if k < 1634 then V.2.2.2.1 24 (k + 86) else V.2.2.2.1 24 k)).1 25 = Int32.ofNat 20 := hu
      rw [if_pos (hle.mpr (by decide)), hf_let_eq, hu2, z_sub (by decide)]
      have S2 : hf_sv (hf_ui (hf_sa V 24 (fun k => if k < 1634 then V.2.2.2.1 24 (k + 86) else V.2.2.2.1 24 k)) 25 (Int32.ofNat 19)) v := S.sa (k := 24) (by decide) _
      rw [m_keepsAct50 S2 (u := 19) rfl (by decide)]
      congr 1
      refine Prod.ext ?_ (Prod.ext rfl (Prod.ext rfl (Prod.ext ?_ rfl)))
      · funext j
        show (if j = 25 then _ else if j = 25 then _ else _) = (if j = 25 then _ else _)
        by_cases e : j = 25
        · simp [e]
        · simp only [e, if_false]
          rfl
      · funext j
        show (if j = 24 then _ else if j = 24 then _ else _) = (if j = 24 then _ else _)
        by_cases e : j = 24
        · simp only [e, if_true]
          rfl
        · simp only [e, if_false]
  rw [← hstart] at key
  unfold spX4_keepsAct
  rw [z_lit, if_pos hu]
  exact key hf_N (by unfold hf_N; omega)
end ZM
