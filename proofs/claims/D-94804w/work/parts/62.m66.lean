set_option maxRecDepth 100000
set_option maxHeartbeats 1000000
/-- a way's number: 0 back, 1 stay, 2 on -/
def zway (w : Nat) : Int32 := Int32.ofNat w - Int32.ofNat 1
theorem z_way {a w st : Nat} (h : 0 < st) : Int32.ofNat a + zway w + Int32.ofNat st = Int32.ofNat (a + w + st - 1) := by
  rw [Int32.ofNat_sub _ _ (by omega), Int32.ofNat_add, Int32.ofNat_add]
  unfold zway
  rw [Int32.sub_eq_add_neg, Int32.sub_eq_add_neg]
  ac_rfl
def zgo (v : Nat → Nat) (b w : Nat) : Nat → Nat := zup v (70 + 4 * b + 1) ((v (70 + 4 * b + 1) + w + v 0 - 1) % v 0)
def zsee (v : Nat → Nat) : Nat → Nat → Nat
  | 0 => v
  | k + 1 => zup (zsee v k) (70 + 4 * k + 2) (v (70 + 4 * k + 2) ||| zat v (zst v (v (70 + 4 * k + 1)) (v 3)))
def zhour (v : Nat → Nat) : Nat → Nat := zsee (zup v 3 (v 3 + 1)) (v 2)
def zbuys (v : Nat → Nat) (b h : Nat) : Nat → Nat := zup (zup v (70 + 4 * b) (v (70 + 4 * b) - zpr v h)) (10 + 5 * h + 3) (100 + b)
theorem zsee_ot (v : Nat → Nat) : ∀ k j, (∀ b, b < k → j ≠ 70 + 4 * b + 2) → zsee v k j = v j
  | 0, j, _ => rfl
  | k + 1, j, h => by
    show zup _ _ _ j = _
    unfold zup
    rw [if_neg (h k (by omega))]
    exact zsee_ot v k j (fun b hb => h b (by omega))
section ZM
variable {V : hf_V} {v : Nat → Nat}
theorem m_goes (S : hf_sv V v) {b w : Nat} (hb : b < 4) (h0 : 0 < v 0) (hw : w < 1000) : spX4_goes (Int32.ofNat b) (zway w) V = some (hf_sd20 V (zgo v b w)) := by
  unfold spX4_goes
  have b0 := S.b 0
  have b1 := S.b (70 + 4 * b + 1)
  simp (disch := omega) only [z_lit, z_add, z_mul, S.ld, Option.bind_some, hf_let_eq]
  rw [z_way h0, if_neg (fun e => by
    have := (z_eq (a := v 0) (b := 0) (by omega) (by decide)).mp e
    omega)]
  simp (disch := omega) only [z_div, z_mul, z_rem]
  rw [z_sd (by omega) (by omega), S.ua]
  rfl
theorem m_canBuy (S : hf_sv V v) {b h : Nat} (hb : b < 4) (hh : h < 12) (hp : v (70 + 4 * b + 1) < v 0) (h0 : v 0 ≤ 8) (ht : v 3 < 1000) (h4 : v 4 < 1000) : spX4_canBuy (Int32.ofNat b) (Int32.ofNat h) V = some (Int32.ofNat (if v (10 + 5 * h + 3) = zst v (v (70 + 4 * b + 1)) (v 3) ∧ zpr v h ≤ v (70 + 4 * b + 0) then 1 else 0), V) := by
  unfold spX4_canBuy
  have q1 := S.b (10 + 5 * h + 3)
  have q2 := (z_st (v 3) hp).1
  have q3 := S.b (70 + 4 * b + 0)
  have q4 : zpr v h < 16777216 := by
    unfold zpr
    split
    · exact S.b _
    · exact S.b _
  simp (disch := omega) only [z_lit, m_halfOf S, m_buyerOf S, hf_b2_some, S.ld, Option.bind_some, m_stallAt S, m_priceOf S, z_eq, z_lt]
  by_cases e1 : v (10 + 5 * h + 3) = zst v (v (70 + 4 * b + 1)) (v 3)
  · by_cases e2 : v (70 + 4 * b + 0) < zpr v h
    · simp only [e1, e2, if_true, true_and, if_neg (show ¬ zpr v h ≤ v (70 + 4 * b + 0) by omega)]
    · simp only [e1, e2, if_true, if_false, true_and, if_pos (show zpr v h ≤ v (70 + 4 * b + 0) by omega)]
  · simp only [e1, if_false, false_and]
end ZM
theorem zup_at {α : Type} (f : Nat → α) (i : Nat) (x : α) : zup f i x i = x := if_pos rfl
theorem zup_ne {α : Type} (f : Nat → α) {i j : Nat} (h : j ≠ i) (x : α) : zup f i x j = f j := if_neg h
/-- zat, zst look at few places -/
theorem zat_congr {v v' : Nat → Nat} (h1 : v' 1 = v 1) (h : ∀ k, k < v 1 → v' (10 + 5 * k + 3) = v (10 + 5 * k + 3)) (s : Nat) : zat v' s = zat v s := by
  unfold zat
  rw [h1]
  exact zset_congr _ (fun k hk => by rw [h k hk])
theorem zst_congr {v v' : Nat → Nat} (h0 : v' 0 = v 0) (h4 : v' 4 = v 4) (p t : Nat) : zst v' p t = zst v p t := by
  unfold zst zsp
  rw [h0, h4]
theorem zat_lt (v : Nat → Nat) (s : Nat) (hn : v 1 ≤ 12) : zat v s < 4096 := by
  have := zset_lt (fun h => v (10 + 5 * h + 3) == s) (v 1)
  have h2 := (zpow12 hn).2.1
  unfold zat
  omega
theorem z_or_lt {a b : Nat} (k : Nat) (ha : a < 2 ^ k) (hb : b < 2 ^ k) : a ||| b < 2 ^ k := Nat.or_lt_two_pow ha hb
theorem zsee_b {v : Nat → Nat} (hn : v 1 ≤ 12) (hv : ∀ k, v k < 16777216) : ∀ k j, zsee v k j < 16777216
  | 0, j => hv j
  | k + 1, j => by
    show zup _ _ _ j < _
    unfold zup
    split
    · refine z_or_lt 24 (hv _) ?_
      have := zat_lt v (zst v (v (70 + 4 * k + 1)) (v 3)) hn
      omega
    · exact zsee_b hn hv k j
section ZM
variable {V : hf_V} {v : Nat → Nat}
theorem m_allSee (S : hf_sv V v) (hn : v 1 ≤ 12) (hm : v 2 ≤ 4) (h0 : v 0 ≤ 8) (h3 : v 3 < 1000) (h4 : v 4 < 1000) (hp : ∀ b, b < v 2 → v (70 + 4 * b + 1) < v 0) : spX4_allSee V = some (hf_sd20 V (zsee v (v 2))) := by
  have hstart : spX4_allSee V = lpX4_allSee_2 hf_N (Int32.ofNat 0) (hf_sd20 V (zsee v 0)) := by
    show lpX4_allSee_2 hf_N _ V = lpX4_allSee_2 hf_N _ (hf_sd20 V v)
    rw [S.self]
    rfl
  rw [hstart]
  refine hf_loop (fun f i => lpX4_allSee_2 f (Int32.ofNat i) (hf_sd20 V (zsee v i))) (v 2) _ (fun i f hi => ?_) (fun f => ?_) (fuel := hf_N) (by unfold hf_N; omega)
  · show ndX4_allSee_2 (lpX4_allSee_2 f) _ _ = _
    have S2 : hf_sv (hf_sd20 V (zsee v i)) (zsee v i) := hf_sd20_sv V (zsee_b hn S.b i)
    have e0 : zsee v i 0 = v 0 := zsee_ot v i 0 (fun b _ => by omega)
    have e1 : zsee v i 1 = v 1 := zsee_ot v i 1 (fun b _ => by omega)
    have e2 : zsee v i 2 = v 2 := zsee_ot v i 2 (fun b _ => by omega)
    have e3 : zsee v i 3 = v 3 := zsee_ot v i 3 (fun b _ => by omega)
    have e4 : zsee v i 4 = v 4 := zsee_ot v i 4 (fun b _ => by omega)
    have e5 : zsee v i (70 + 4 * i + 1) = v (70 + 4 * i + 1) := zsee_ot v i _ (fun b _ => by omega)
    have e6 : zsee v i (70 + 4 * i + 2) = v (70 + 4 * i + 2) := zsee_ot v i _ (fun b hb => by omega)
    have hpi := hp i hi
    have q0 := S.b 2
    have q1 := (z_st (v 3) hpi).1
    have e7 : zat (zsee v i) (zst v (v (70 + 4 * i + 1)) (v 3)) = zat v (zst v (v (70 + 4 * i + 1)) (v 3)) := zat_congr e1 (fun k hk => zsee_ot v i _ (fun b hb => by omega)) _
    have e8 := zst_congr (v := v) (v' := zsee v i) e0 e4 (v (70 + 4 * i + 1)) (v 3)
    unfold ndX4_allSee_2
    simp (disch := omega) only [z_lit, z_add, z_mul, S2.ld, Option.bind_some, hf_b2_some, hf_let_eq, m_buyerOf S2, e2, e3, e5, e6, z_le]
    rw [if_neg (by omega), m_stallAt S2 (by omega) (by omega) (by omega) (by omega), e8, hf_b2_some, m_atStall S2 (by omega) (by omega), e7, hf_b2_some, z_or, z_sd (by omega) (by omega), hf_sd20_ua]
    rfl
  · show ndX4_allSee_2 (lpX4_allSee_2 f) _ _ = _
    have S2 : hf_sv (hf_sd20 V (zsee v (v 2))) (zsee v (v 2)) := hf_sd20_sv V (zsee_b hn S.b (v 2))
    have e2 : zsee v (v 2) 2 = v 2 := zsee_ot v (v 2) 2 (fun b _ => by omega)
    have q0 := S.b 2
    unfold ndX4_allSee_2
    simp (disch := omega) only [z_lit, S2.ld, Option.bind_some, e2, z_le, Nat.le_refl, if_true]
end ZM
set_option maxRecDepth 100000
set_option maxHeartbeats 1000000
section ZM
variable {V : hf_V} {v : Nat → Nat}
theorem m_hourComes (S : hf_sv V v) (hn : v 1 ≤ 12) (hm : v 2 ≤ 4) (h0 : v 0 ≤ 8) (h3 : v 3 < 900) (h4 : v 4 < 1000) (hp : ∀ b, b < v 2 → v (70 + 4 * b + 1) < v 0) : spX4_hourComes V = some (hf_sd20 V (zhour v)) := by
  unfold spX4_hourComes
  have q3 := S.b 3
  simp (disch := omega) only [z_lit, z_add, S.ld, Option.bind_some]
  rw [z_sd (by omega) (by omega), S.ua]
  have hb : ∀ k, zup v 3 (v 3 + 1) k < 16777216 := fun k => by
    unfold zup
    split
    · omega
    · exact S.b k
  have S2 := hf_sd20_sv V hb
  rw [m_allSee S2 hn hm h0 (by rw [zup_at]; omega) h4 (fun b hb => by
    rw [zup_ne _ (by omega)]
    exact hp b hb), hf_sd20_sd]
  rfl
theorem m_buys (S : hf_sv V v) {b h : Nat} (hb : b < 4) (hh : h < 12) (hle : zpr v h ≤ v (70 + 4 * b)) : spX4_buys (Int32.ofNat b) (Int32.ofNat h) V = some (hf_sd20 V (zbuys v b h)) := by
  unfold spX4_buys
  simp (disch := omega) only [z_lit, z_add, z_mul, S.ld, Option.bind_some, hf_let_eq, m_priceOf S, hf_b2_some, z_sub]
  rw [z_sd (by omega) (by omega), S.ua, z_sd (by omega) (by omega), hf_sd20_ua]
  rfl
end ZM
set_option maxRecDepth 100000
set_option maxHeartbeats 1000000
/-! acts kept: the model's rows of said, oldest first -/
/-- the kept rows after one more is kept (86 cells each) -/
def zkeepF (g : Nat → Int32) (v : Nat → Nat) (u : Nat) : Nat → Int32 := fun k => if u * 86 ≤ k ∧ k < u * 86 + 86 then Int32.ofNat (v (k - u * 86)) else g k
section ZM
variable {V : hf_V} {v : Nat → Nat}
def hf_si25 (V : hf_V) (u : Nat) : hf_V := hf_ui V 25 (Int32.ofNat u)
theorem m_keepsAct50 (S : hf_sv V v) {u : Nat} (hu : V.1 25 = Int32.ofNat u) (h20 : u < 20) : ndX4_keepsAct_50 V = some (hf_ui (hf_sa V 24 (zkeepF (V.2.2.2.1 24) v u)) 25 (Int32.ofNat (u + 1))) := by
  unfold ndX4_keepsAct_50
  have hstart : V = hf_sa V 24 (fun k => if u * 86 ≤ k ∧ k < u * 86 + 0 then Int32.ofNat (v (k - u * 86)) else V.2.2.2.1 24 k) := by
    unfold hf_sa
    refine Prod.ext rfl (Prod.ext rfl (Prod.ext rfl (Prod.ext ?_ rfl)))
    funext j
    by_cases e : j = 24
    · simp only [e, if_true]
      funext k
      rw [if_neg (by omega)]
    · simp only [e, if_false]
  have key : ∀ fuel, 86 < fuel → lpX4_keepsAct_52 fuel (Int32.ofNat 0) (hf_sa V 24 (fun k => if u * 86 ≤ k ∧ k < u * 86 + 0 then Int32.ofNat (v (k - u * 86)) else V.2.2.2.1 24 k)) = some (hf_ui (hf_sa V 24 (zkeepF (V.2.2.2.1 24) v u)) 25 (Int32.ofNat (u + 1))) := by
    intro fuel hf
    refine hf_loop (fun f i => lpX4_keepsAct_52 f (Int32.ofNat i) (hf_sa V 24 (fun k => if u * 86 ≤ k ∧ k < u * 86 + i then Int32.ofNat (v (k - u * 86)) else V.2.2.2.1 24 k))) 86 _ (fun i f hi => ?_) (fun f => ?_) hf
    · show ndX4_keepsAct_52 (lpX4_keepsAct_52 f) _ _ = _
      have S2 : hf_sv (hf_sa V 24 (fun k => if u * 86 ≤ k ∧ k < u * 86 + i then Int32.ofNat (v (k - u * 86)) else V.2.2.2.1 24 k)) v := S.sa (by decide) _
      have hu2 : (hf_sa V 24 (fun k => if u * 86 ≤ k ∧ k < u * 86 + i then Int32.ofNat (v (k - u * 86)) else V.2.2.2.1 24 k)).1 25 = Int32.ofNat u := hu
      unfold ndX4_keepsAct_52
      simp only [z_lit, hu2]
      have hle : (Int32.ofNat 86 ≤ Int32.ofNat i) ↔ 86 ≤ i := z_le (by decide) (by omega)
      rw [if_neg (fun z => by have := hle.mp z; omega), S2.ld (by omega), Option.bind_some, z_mul, z_add, z_sd (by omega) (by omega), hf_let_eq, z_add, hf_ua_sa]
      congr 2
      funext k
      unfold zup
      by_cases e : k = 86 * u + i
      · rw [if_pos e, if_pos (by omega), show k - u * 86 = i by omega]
      · rw [if_neg e]
        show (if u * 86 ≤ k ∧ k < u * 86 + i then Int32.ofNat (v (k - u * 86)) else V.2.2.2.1 24 k) = _
        by_cases e2 : u * 86 ≤ k ∧ k < u * 86 + i
        · rw [if_pos e2, if_pos (by omega)]
        · rw [if_neg e2, if_neg (by omega)]
    · show ndX4_keepsAct_52 (lpX4_keepsAct_52 f) _ _ = _
      have hu2 : (hf_sa V 24 (fun k => if u * 86 ≤ k ∧ k < u * 86 + 86 then Int32.ofNat (v (k - u * 86)) else V.2.2.2.1 24 k)).1 25 = Int32.ofNat u := hu
      unfold ndX4_keepsAct_52
      simp only [z_lit, hu2]
      have hle : (Int32.ofNat 86 ≤ Int32.ofNat 86) ↔ 86 ≤ 86 := z_le (by decide) (by decide)
      rw [if_pos (hle.mpr (Nat.le_refl _)), hf_let_eq, z_add]
      rfl
  rw [← hstart] at key
  exact key hf_N (by unfold hf_N; omega)
end ZM
section ZM
variable {V : hf_V} {v : Nat → Nat}
theorem m_keepsAct12 (S : hf_sv V v) (hu : V.1 25 = Int32.ofNat 20) : spX4_keepsAct V = some (hf_ui (hf_sa V 24 (zkeepF (fun k => if k < 1634 then V.2.2.2.1 24 (k + 86) else V.2.2.2.1 24 k) v 19)) 25 (Int32.ofNat 20)) := by
  have hstart : V = hf_sa V 24 (fun k => if k < 0 then V.2.2.2.1 24 (k + 86) else V.2.2.2.1 24 k) := by
    unfold hf_sa
    refine Prod.ext rfl (Prod.ext rfl (Prod.ext rfl (Prod.ext ?_ rfl)))
    funext j
    by_cases e : j = 24
    · simp only [e, if_true]
      funext k
      rw [if_neg (by omega)]
    · simp only [e, if_false]
  have key : ∀ fuel, 1634 < fuel → lpX4_keepsAct_12 fuel (Int32.ofNat (86 + 0)) (hf_sa V 24 (fun k => if k < 0 then V.2.2.2.1 24 (k + 86) else V.2.2.2.1 24 k)) = some (hf_ui (hf_sa V 24 (zkeepF (fun k => if k < 1634 then V.2.2.2.1 24 (k + 86) else V.2.2.2.1 24 k) v 19)) 25 (Int32.ofNat 20)) := by
    intro fuel hf
    refine hf_loop (fun f i => lpX4_keepsAct_12 f (Int32.ofNat (86 + i)) (hf_sa V 24 (fun k => if k < i then V.2.2.2.1 24 (k + 86) else V.2.2.2.1 24 k))) 1634 _ (fun i f hi => ?_) (fun f => ?_) hf
    · show ndX4_keepsAct_12 (lpX4_keepsAct_12 f) _ _ = _
      unfold ndX4_keepsAct_12
      simp only [z_lit, hf_sa_at]
      have hle : (Int32.ofNat 1720 ≤ Int32.ofNat (86 + i)) ↔ 1720 ≤ 86 + i := z_le (by decide) (by omega)
      rw [if_neg (fun z => by have := hle.mp z; omega), z_ld (by omega) (by omega), Option.bind_some, z_sub (by omega), z_sd (by omega) (by omega), hf_let_eq, z_add, hf_ua_sa]
      congr 2
      funext k
      unfold zup
      show (if k = 86 + i - 86 then (if 86 + i < i then V.2.2.2.1 24 (86 + i + 86) else V.2.2.2.1 24 (86 + i)) else if k < i then V.2.2.2.1 24 (k + 86) else V.2.2.2.1 24 k) = _
      by_cases e : k = i
      · subst e
        rw [if_pos (by omega), if_neg (by omega), if_pos (by omega), Nat.add_comm]
      · rw [if_neg (by omega)]
        by_cases e2 : k < i
        · rw [if_pos e2, if_pos (by omega)]
        · rw [if_neg e2, if_neg (by omega)]
    · show ndX4_keepsAct_12 (lpX4_keepsAct_12 f) _ _ = _
      unfold ndX4_keepsAct_12
      simp only [z_lit]
      have hle : (Int32.ofNat 1720 ≤ Int32.ofNat (86 + 1634)) ↔ 1720 ≤ 86 + 1634 := z_le (by decide) (by decide)
      have hu2 : (hf_sa V 24 (fun k => if k < 1634 then V.2.2.2.1 24 (k + 86) else V.2.2.2.1 24 k)).1 25 = Int32.ofNat 20 := hu
      rw [if_pos (hle.mpr (by decide)), hf_let_eq, hu2, z_sub (by decide)]
      have S2 : hf_sv (hf_ui (hf_sa V 24 (fun k => if k < 1634 then V.2.2.2.1 24 (k + 86) else V.2.2.2.1 24 k)) 25 (Int32.ofNat 19)) v := S.sa (k := 24) (by decide) _
      rw [m_keepsAct50 S2 (u := 19) rfl (by decide)]
      congr 1
      refine Prod.ext ?_ (Prod.ext rfl (Prod.ext rfl (Prod.ext ?_ rfl)))
      · funext j
        show (if j = 25 then _ else if j = 25 then _ else _) = (if j = 25 then _ else _)
        by_cases e : j = 25
        · simp [e]
        · simp only [e, if_false]
          rfl
      · funext j
        show (if j = 24 then _ else if j = 24 then _ else _) = (if j = 24 then _ else _)
        by_cases e : j = 24
        · simp only [e, if_true]
          rfl
        · simp only [e, if_false]
  rw [← hstart] at key
  unfold spX4_keepsAct
  rw [z_lit, if_pos hu]
  exact key hf_N (by unfold hf_N; omega)
end ZM
