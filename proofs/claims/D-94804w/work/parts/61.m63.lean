set_option maxRecDepth 100000
set_option maxHeartbeats 1000000
/-! what a set is worth, with whom its least one is -/
theorem hf_nd_le (a b : Nat) : hf_nd a b ≤ a := by
  have h : hf_nd a b ||| a = a := by
    apply Nat.eq_of_testBit_eq
    intro i
    rw [Nat.testBit_or, hf_nd_bit]
    cases a.testBit i <;> simp
  have := @Nat.left_le_or (hf_nd a b) a
  rw [h] at this
  exact this
theorem hf_nd_lt {a k : Nat} (h : a.testBit k = true) : hf_nd a (1 <<< k) < a := by
  refine Nat.lt_of_le_of_ne (hf_nd_le a _) (fun e => ?_)
  have h1 := hf_nd_bit a (1 <<< k) k
  rw [e, h, Nat.testBit_shiftLeft] at h1
  simp at h1
/-- an array of the model's, changed whole -/
def hf_sa (V : hf_V) (k : Nat) (f : Nat → Int32) : hf_V := (V.1, V.2.1, V.2.2.1, fun j => if j = k then f else V.2.2.2.1 j, V.2.2.2.2)
def zup {α : Type} (f : Nat → α) (i : Nat) (x : α) : Nat → α := fun q => if q = i then x else f q
theorem hf_ua_sa (V : hf_V) (k i : Nat) (x : Int32) (f : Nat → Int32) : hf_ua (hf_sa V k f) k i x = hf_sa V k (zup f i x) := by
  unfold hf_ua hf_sa zup
  refine Prod.ext rfl (Prod.ext rfl (Prod.ext rfl (Prod.ext ?_ rfl)))
  funext j
  by_cases e : j = k
  · simp [e]
  · simp [e]
theorem hf_sa_comm (V : hf_V) {k l : Nat} (h : k ≠ l) (f g : Nat → Int32) : hf_sa (hf_sa V k f) l g = hf_sa (hf_sa V l g) k f := by
  unfold hf_sa
  refine Prod.ext rfl (Prod.ext rfl (Prod.ext rfl (Prod.ext ?_ rfl)))
  funext j
  by_cases e : j = k
  · subst e; simp [h]
  · by_cases e2 : j = l
    · simp [e2, h.symm]
    · simp [e, e2]
theorem hf_ua_sa2 (V : hf_V) {k l : Nat} (h : k ≠ l) (i : Nat) (x : Int32) (f g : Nat → Int32) : hf_ua (hf_sa (hf_sa V k f) l g) k i x = hf_sa (hf_sa V k (zup f i x)) l g := by
  rw [hf_sa_comm V h, hf_ua_sa, hf_sa_comm V h]
theorem hf_ua_eq (V : hf_V) (k i : Nat) (x : Int32) : hf_ua V k i x = hf_sa V k (zup (V.2.2.2.1 k) i x) := by
  unfold hf_ua hf_sa zup
  refine Prod.ext rfl (Prod.ext rfl (Prod.ext rfl (Prod.ext ?_ rfl)))
  funext j
  by_cases e : j = k
  · simp [e]
  · simp [e]
theorem hf_sa_at (V : hf_V) (k : Nat) (f : Nat → Int32) : (hf_sa V k f).2.2.2.1 k = f := if_pos rfl
theorem hf_sa_ne (V : hf_V) {k l : Nat} (h : l ≠ k) (f : Nat → Int32) : (hf_sa V k f).2.2.2.1 l = V.2.2.2.1 l := if_neg h
theorem hf_sv.sa {V : hf_V} {v : Nat → Nat} (S : hf_sv V v) {k : Nat} (h : 20 ≠ k) (f : Nat → Int32) : hf_sv (hf_sa V k f) v := fun j => by
  rw [hf_sa_ne V h]
  exact S j
def zpay (f : Nat) : Nat := if f = 2 then 40 else 20
def zstep (v W : Nat → Nat) (r h o : Nat) (bm : Nat × Option Nat) : Nat × Option Nat :=
  if r.testBit o = true ∧ zfo v h o ≠ 0 then (if bm.1 < zpay (zfo v h o) + W (hf_nd r (1 <<< o)) then (zpay (zfo v h o) + W (hf_nd r (1 <<< o)), some o) else bm) else bm
def zinn (v W : Nat → Nat) (r h : Nat) : Nat → Nat × Option Nat
  | 0 => (9 + W r, none)
  | k + 1 => zstep v W r h (h + 1 + k) (zinn v W r h k)
def zent (v W : Nat → Nat) (s : Nat) : Nat × Option Nat := zinn v W (hf_nd s (1 <<< zlow s)) (zlow s) (v 1 - (zlow s + 1))
/-- sets up to k are filled -/
def zTab (v : Nat → Nat) : Nat → (Nat → Nat) × (Nat → Option Nat)
  | 0 => (fun _ => 0, fun _ => none)
  | k + 1 => (zup (zTab v k).1 (k + 1) (zent v (zTab v k).1 (k + 1)).1, zup (zTab v k).2 (k + 1) (zent v (zTab v k).1 (k + 1)).2)
def zW (v : Nat → Nat) : Nat → Nat := (zTab v (2 ^ v 1 - 1)).1
def zM (v : Nat → Nat) : Nat → Option Nat := (zTab v (2 ^ v 1 - 1)).2
def zcode (o : Option Nat) : Int32 := match o with
  | none => -Int32.ofNat 1
  | some k => Int32.ofNat k
theorem zinn_le (v W : Nat → Nat) (c : Nat) (hW : ∀ s, W s ≤ c) (r h : Nat) : ∀ k, (zinn v W r h k).1 ≤ c + 40
  | 0 => by
    have := hW r
    show 9 + W r ≤ c + 40
    omega
  | k + 1 => by
    have h1 := zinn_le v W c hW r h k
    show (zstep v W r h (h + 1 + k) (zinn v W r h k)).1 ≤ c + 40
    unfold zstep
    split
    · split
      · have := hW (hf_nd r (1 <<< (h + 1 + k)))
        show zpay _ + _ ≤ _
        unfold zpay
        split <;> omega
      · exact h1
    · exact h1
theorem zTab_le (v : Nat → Nat) : ∀ k s, (zTab v k).1 s ≤ 40 * k
  | 0, s => Nat.zero_le _
  | k + 1, s => by
    have h1 := zTab_le v k
    show zup (zTab v k).1 (k + 1) (zent v (zTab v k).1 (k + 1)).1 s ≤ _
    unfold zup
    split
    · have := zinn_le v (zTab v k).1 (40 * k) h1 (hf_nd (k + 1) (1 <<< zlow (k + 1))) (zlow (k + 1)) (v 1 - (zlow (k + 1) + 1))
      show (zinn _ _ _ _ _).1 ≤ _
      omega
    · have := h1 s
      omega
section ZM
variable {V : hf_V} {v : Nat → Nat}
theorem m_fw162 (k9 : Int32 → hf_V → Option hf_V) (k62 : Int32 → Int32 → Int32 → Int32 → hf_V → Option hf_V) (l1 l2 l3 : Int32) (o : Nat) (V : hf_V) : ndX4_fillsWorth_162 k9 k62 l1 l2 l3 (Int32.ofNat o) V = k62 l1 l2 l3 (Int32.ofNat (o + 1)) V := by
  unfold ndX4_fillsWorth_162
  simp (disch := omega) only [z_lit, z_add, z_mul, z_sub, z_div, z_rem, Option.bind_some, z_le, z_lt, z_eq, hf_b2_some, hf_let_eq, z_shl, z_shr, z_and, z_or, z_nd, z_nd2]
theorem m_fw116 (k9 : Int32 → hf_V → Option hf_V) (k62 : Int32 → Int32 → Int32 → Int32 → hf_V → Option hf_V) (l2 : Int32) {s r o p x y : Nat} (hs : s < 4096) (hr : r < 4096) (ho : o < 12) (hp : p < 100) (hx : V.2.2.2.1 22 (hf_nd r (1 <<< o)) = Int32.ofNat x) (hy : V.2.2.2.1 22 s = Int32.ofNat y) (bx : x < 16777216) (by_ : y < 16777216) :
    ndX4_fillsWorth_116 k9 k62 (Int32.ofNat s) l2 (Int32.ofNat r) (Int32.ofNat o) (Int32.ofNat p) V = k62 (Int32.ofNat s) l2 (Int32.ofNat r) (Int32.ofNat (o + 1)) (if y < p + x then hf_ua (hf_ua V 22 s (Int32.ofNat (p + x))) 23 s (Int32.ofNat o) else V) := by
  unfold ndX4_fillsWorth_116
  have b5 := hf_nd_le r (1 <<< o)
  simp (disch := omega) only [z_lit, z_add, z_mul, z_sub, z_div, z_rem, Option.bind_some, z_le, z_lt, z_eq, hf_b2_some, hf_let_eq, z_shl, z_shr, z_and, z_or, z_nd, z_nd2, z_ld, hx, hy, m_fw162]
  by_cases h : y < p + x
  · simp (disch := omega) only [z_lit, z_add, z_mul, z_sub, z_div, z_rem, Option.bind_some, z_le, z_lt, z_eq, hf_b2_some, hf_let_eq, z_shl, z_shr, z_and, z_or, z_nd, z_nd2, h, if_true, z_sd, m_fw162]
  · simp (disch := omega) only [z_lit, z_add, z_mul, z_sub, z_div, z_rem, Option.bind_some, z_le, z_lt, z_eq, hf_b2_some, hf_let_eq, z_shl, z_shr, z_and, z_or, z_nd, z_nd2, h, if_false, m_fw162]
theorem m_fw62 (S : hf_sv V v) (hn : v 1 ≤ 12) (k9 : Int32 → hf_V → Option hf_V) (k62 : Int32 → Int32 → Int32 → Int32 → hf_V → Option hf_V) {W : Nat → Nat} {s r h o y : Nat} (hs : s < 4096) (hr : r < 4096) (hh : h < 12) (ho : o < v 1) (hx : V.2.2.2.1 22 (hf_nd r (1 <<< o)) = Int32.ofNat (W (hf_nd r (1 <<< o)))) (hb : W (hf_nd r (1 <<< o)) < 16777216) (m : Option Nat) (hy : V.2.2.2.1 22 s = Int32.ofNat y) (by_ : y < 16777216) :
    ndX4_fillsWorth_62 k9 k62 (Int32.ofNat s) (Int32.ofNat h) (Int32.ofNat r) (Int32.ofNat o) V = k62 (Int32.ofNat s) (Int32.ofNat h) (Int32.ofNat r) (Int32.ofNat (o + 1)) (if r.testBit o = true ∧ zfo v h o ≠ 0 then (if y < zpay (zfo v h o) + W (hf_nd r (1 <<< o)) then hf_ua (hf_ua V 22 s (Int32.ofNat (zpay (zfo v h o) + W (hf_nd r (1 <<< o))))) 23 s (Int32.ofNat o) else V) else V) := by
  unfold ndX4_fillsWorth_62 ndX4_fillsWorth_93
  have b1 := S.b 1
  have b2 := zfo_le v h o
  simp (disch := omega) only [z_lit, z_add, z_mul, z_sub, z_div, z_rem, Option.bind_some, z_le, z_lt, z_eq, hf_b2_some, hf_let_eq, z_shl, z_shr, z_and, z_or, z_nd, z_nd2, S.ld, m_isOf, if_neg (show ¬ v 1 ≤ o by omega)]
  by_cases h1 : r.testBit o = true
  · simp (disch := omega) only [z_lit, z_add, z_mul, z_sub, z_div, z_rem, Option.bind_some, z_le, z_lt, z_eq, hf_b2_some, hf_let_eq, z_shl, z_shr, z_and, z_or, z_nd, z_nd2, h1, if_true, if_false, m_fitOf S, true_and, show ¬ (1 : Nat) = 0 from by decide]
    by_cases h2 : zfo v h o = 0
    · simp only [h2, if_true, ne_eq, not_true_eq_false, if_false, m_fw162]
    · simp only [h2, if_false, ne_eq, not_false_eq_true, if_true]
      by_cases h3 : zfo v h o = 2
      · have e2 : zpay (zfo v h o) = 40 := by unfold zpay; rw [if_pos h3]
        rw [if_pos h3, m_fw116 k9 k62 _ hs hr (by omega) (by decide) hx hy hb by_, e2]
      · have e2 : zpay (zfo v h o) = 20 := by unfold zpay; rw [if_neg h3]
        rw [if_neg h3, m_fw116 k9 k62 _ hs hr (by omega) (by decide) hx hy hb by_, e2]
  · simp (disch := omega) only [z_lit, z_add, z_mul, z_sub, z_div, z_rem, Option.bind_some, z_le, z_lt, z_eq, hf_b2_some, hf_let_eq, z_shl, z_shr, z_and, z_or, z_nd, z_nd2, h1, if_true, if_false, false_and, m_fw162, Bool.false_eq_true]
theorem m_fillsWorth_in (S : hf_sv V v) (hn : v 1 ≤ 12) (k9 : Int32 → hf_V → Option hf_V) {W : Nat → Nat} {fW fM : Nat → Int32} {s r h : Nat} (hs : s < 4096) (hr : r < s) (hh : h < 12) (hW : ∀ x, x < s → fW x = Int32.ofNat (W x)) (hb : ∀ x, W x ≤ 1000000) {N9 : Nat} (hN9 : 100 < N9) :
    lpX4_fillsWorth_62 k9 N9 (Int32.ofNat s) (Int32.ofNat h) (Int32.ofNat r) (Int32.ofNat (h + 1)) (hf_sa (hf_sa V 22 (zup fW s (Int32.ofNat (9 + W r)))) 23 (zup fM s (-Int32.ofNat 1))) = k9 (Int32.ofNat (s + 1)) (hf_sa (hf_sa V 22 (zup fW s (Int32.ofNat (zinn v W r h (v 1 - (h + 1))).1))) 23 (zup fM s (zcode (zinn v W r h (v 1 - (h + 1))).2))) := by
  refine hf_loop (fun f i => lpX4_fillsWorth_62 k9 f (Int32.ofNat s) (Int32.ofNat h) (Int32.ofNat r) (Int32.ofNat (h + 1 + i)) (hf_sa (hf_sa V 22 (zup fW s (Int32.ofNat (zinn v W r h i).1))) 23 (zup fM s (zcode (zinn v W r h i).2)))) (v 1 - (h + 1)) _ (fun i f hi => ?_) (fun f => ?_) (fuel := N9) (by omega)
  · show ndX4_fillsWorth_62 k9 (lpX4_fillsWorth_62 k9 f) _ _ _ _ _ = lpX4_fillsWorth_62 k9 f (Int32.ofNat s) (Int32.ofNat h) (Int32.ofNat r) (Int32.ofNat (h + 1 + (i + 1))) (hf_sa (hf_sa V 22 (zup fW s (Int32.ofNat (zstep v W r h (h + 1 + i) (zinn v W r h i)).1))) 23 (zup fM s (zcode (zstep v W r h (h + 1 + i) (zinn v W r h i)).2)))
    have b3 := zinn_le v W 1000000 hb r h i
    have b4 := hb (hf_nd r (1 <<< (h + 1 + i)))
    have b5 := hf_nd_le r (1 <<< (h + 1 + i))
    generalize zinn v W r h i = bm at b3
    have S2 : hf_sv (hf_sa (hf_sa V 22 (zup fW s (Int32.ofNat bm.1))) 23 (zup fM s (zcode bm.2))) v := (S.sa (by decide) _).sa (by decide) _
    rw [m_fw62 (W := W) S2 hn k9 _ hs (by omega) hh (by omega) (by
      rw [hf_sa_ne _ (by decide), hf_sa_at]
      unfold zup
      rw [if_neg (by omega), hW _ (by omega)]) (by omega) bm.2 (y := bm.1) (by
      rw [hf_sa_ne _ (by decide), hf_sa_at]
      exact if_pos rfl) (by omega)]
    unfold zstep
    by_cases h1 : r.testBit (h + 1 + i) = true ∧ zfo v h (h + 1 + i) ≠ 0
    · rw [if_pos h1, if_pos h1]
      by_cases h2 : bm.1 < zpay (zfo v h (h + 1 + i)) + W (hf_nd r (1 <<< (h + 1 + i)))
      · rw [if_pos h2, if_pos h2, hf_ua_sa2 V (by decide), hf_ua_sa]
        have e9 : ∀ (f : Nat → Int32) (a b : Int32), zup (zup f s a) s b = zup f s b := by
          intro f a b
          funext q
          unfold zup
          by_cases e : q = s <;> simp [e]
        rw [e9, e9]
        rfl
      · rw [if_neg h2, if_neg h2]
        rfl
    · rw [if_neg h1, if_neg h1]
      rfl
  · show ndX4_fillsWorth_62 k9 (lpX4_fillsWorth_62 k9 f) _ _ _ _ _ = _
    have S2 : hf_sv (hf_sa (hf_sa V 22 (zup fW s (Int32.ofNat (zinn v W r h (v 1 - (h + 1))).1))) 23 (zup fM s (zcode (zinn v W r h (v 1 - (h + 1))).2))) v := (S.sa (by decide) _).sa (by decide) _
    unfold ndX4_fillsWorth_62
    have b1 := S.b 1
    simp (disch := omega) only [z_lit, z_add, z_mul, z_sub, z_div, z_rem, Option.bind_some, z_le, z_lt, z_eq, hf_b2_some, hf_let_eq, z_shl, z_shr, z_and, z_or, z_nd, z_nd2, S2.ld, if_pos (show v 1 ≤ h + 1 + (v 1 - (h + 1)) by omega)]
end ZM
set_option maxRecDepth 100000
set_option maxHeartbeats 1000000
theorem zpow12 {n : Nat} (h : n ≤ 12) : 1 <<< n = 2 ^ n ∧ 2 ^ n ≤ 4096 ∧ 0 < 2 ^ n := by
  refine ⟨Nat.one_shiftLeft n, ?_, Nat.two_pow_pos n⟩
  have : 2 ^ n ≤ 2 ^ 12 := Nat.pow_le_pow_right (by decide) h
  omega
theorem zTab_old (v : Nat → Nat) (k s : Nat) (h : s ≤ k) : (zTab v (k + 1)).1 s = (zTab v k).1 s ∧ (zTab v (k + 1)).2 s = (zTab v k).2 s := by
  refine ⟨?_, ?_⟩
  · show zup _ _ _ s = _
    unfold zup
    rw [if_neg (by omega)]
  · show zup _ _ _ s = _
    unfold zup
    rw [if_neg (by omega)]
theorem zTab_new (v : Nat → Nat) (k : Nat) : (zTab v (k + 1)).1 (k + 1) = (zent v (zTab v k).1 (k + 1)).1 ∧ (zTab v (k + 1)).2 (k + 1) = (zent v (zTab v k).1 (k + 1)).2 := ⟨if_pos rfl, if_pos rfl⟩
section ZM
variable {V : hf_V} {v : Nat → Nat}
def zfW (V : hf_V) (v : Nat → Nat) (i : Nat) : Nat → Int32 := fun s => if s ≤ i then Int32.ofNat ((zTab v i).1 s) else V.2.2.2.1 22 s
def zfM (V : hf_V) (v : Nat → Nat) (i : Nat) : Nat → Int32 := fun s => if 0 < s ∧ s ≤ i then zcode ((zTab v i).2 s) else V.2.2.2.1 23 s
theorem zfW_up (i : Nat) : zup (zfW V v i) (i + 1) (Int32.ofNat (zent v (zTab v i).1 (i + 1)).1) = zfW V v (i + 1) := by
  funext s
  unfold zup zfW
  by_cases e : s = i + 1
  · rw [if_pos e, e, if_pos (Nat.le_refl _), (zTab_new v i).1]
  · rw [if_neg e]
    by_cases h : s ≤ i
    · rw [if_pos h, if_pos (by omega), (zTab_old v i s h).1]
    · rw [if_neg h, if_neg (by omega)]
theorem zfM_up (i : Nat) : zup (zfM V v i) (i + 1) (zcode (zent v (zTab v i).1 (i + 1)).2) = zfM V v (i + 1) := by
  funext s
  unfold zup zfM
  by_cases e : s = i + 1
  · rw [if_pos e, e, if_pos ⟨by omega, Nat.le_refl _⟩, (zTab_new v i).2]
  · rw [if_neg e]
    by_cases h : 0 < s ∧ s ≤ i
    · rw [if_pos h, if_pos ⟨h.1, by omega⟩, (zTab_old v i s h.2).2]
    · rw [if_neg h, if_neg (by omega)]
theorem m_fillsWorth_step (S : hf_sv V v) (hn : v 1 ≤ 12) (f i : Nat) (hi : i + 1 < 2 ^ v 1) : lpX4_fillsWorth_9 (f + 1) (Int32.ofNat (i + 1)) (hf_sa (hf_sa V 22 (zfW V v i)) 23 (zfM V v i)) = lpX4_fillsWorth_9 f (Int32.ofNat (i + 1 + 1)) (hf_sa (hf_sa V 22 (zfW V v (i + 1))) 23 (zfM V v (i + 1))) := by
  obtain ⟨p1, p2, p3⟩ := zpow12 hn
  show ndX4_fillsWorth_9 (lpX4_fillsWorth_9 f) _ _ = _
  have S2 : hf_sv (hf_sa (hf_sa V 22 (zfW V v i)) 23 (zfM V v i)) v := (S.sa (by decide) _).sa (by decide) _
  have b1 := S.b 1
  obtain ⟨l1, l2, l3⟩ := z_low (s := i + 1) (by omega) (by omega)
  have hr := hf_nd_lt l2
  have hx : (hf_sa (hf_sa V 22 (zfW V v i)) 23 (zfM V v i)).2.2.2.1 22 (hf_nd (i + 1) (1 <<< zlow (i + 1))) = Int32.ofNat ((zTab v i).1 (hf_nd (i + 1) (1 <<< zlow (i + 1)))) := by
    rw [hf_sa_ne _ (by decide), hf_sa_at]
    unfold zfW
    rw [if_pos (by omega)]
  have hsh : 1 <<< v 1 < 2147483648 := by rw [p1]; omega
  have hc : ¬ 1 <<< v 1 ≤ i + 1 := by rw [p1]; omega
  unfold ndX4_fillsWorth_9
  have hN9 : 100 < hf_N := by unfold hf_N; omega
  generalize hf_N = N9 at hN9
  simp only [z_lit]
  simp (disch := omega) only [S2.ld, Option.bind_some]
  simp (disch := omega) only [z_and, z_shl]
  have hle : (Int32.ofNat (1 <<< v 1) ≤ Int32.ofNat (i + 1)) ↔ (1 <<< v 1 ≤ i + 1) := z_le hsh (by omega)
  rw [if_neg (fun z => hc (hle.mp z)), m_leastOf (by omega) (by omega)]
  simp only [hf_b2_some, hf_let_eq]
  simp (disch := omega) only [z_and, z_shl, z_nd, z_nd2]
  rw [z_ld (by omega) (by omega), hx]
  simp only [Option.bind_some, z_add]
  rw [z_sd (by omega) (by omega), z_sd (by omega) (by omega)]
  rw [hf_ua_sa2 V (by decide), hf_ua_sa, m_fillsWorth_in (W := (zTab v i).1) S hn _ (by omega) hr l1 (fun x hx => by
    unfold zfW
    rw [if_pos (by omega)]) (fun x => by
    have := zTab_le v i x
    omega) hN9]
  have e1 : zinn v (zTab v i).1 (hf_nd (i + 1) (1 <<< zlow (i + 1))) (zlow (i + 1)) (v 1 - (zlow (i + 1) + 1)) = zent v (zTab v i).1 (i + 1) := rfl
  rw [e1, zfW_up, zfM_up]

theorem m_fillsWorth_end (S : hf_sv V v) (hn : v 1 ≤ 12) (f : Nat) : lpX4_fillsWorth_9 (f + 1) (Int32.ofNat (2 ^ v 1 - 1 + 1)) (hf_sa (hf_sa V 22 (zfW V v (2 ^ v 1 - 1))) 23 (zfM V v (2 ^ v 1 - 1))) = some (hf_sa (hf_sa V 22 (zfW V v (2 ^ v 1 - 1))) 23 (zfM V v (2 ^ v 1 - 1))) := by
  obtain ⟨p1, p2, p3⟩ := zpow12 hn
  show ndX4_fillsWorth_9 (lpX4_fillsWorth_9 f) _ _ = _
  have S2 : hf_sv (hf_sa (hf_sa V 22 (zfW V v (2 ^ v 1 - 1))) 23 (zfM V v (2 ^ v 1 - 1))) v := (S.sa (by decide) _).sa (by decide) _
  have b1 := S.b 1
  have hsh : 1 <<< v 1 < 2147483648 := by rw [p1]; omega
  have hc : 1 <<< v 1 ≤ 2 ^ v 1 - 1 + 1 := by rw [p1]; omega
  unfold ndX4_fillsWorth_9
  simp only [z_lit]
  simp (disch := omega) only [S2.ld, Option.bind_some]
  simp (disch := omega) only [z_and, z_shl]
  have hle : (Int32.ofNat (1 <<< v 1) ≤ Int32.ofNat (2 ^ v 1 - 1 + 1)) ↔ (1 <<< v 1 ≤ 2 ^ v 1 - 1 + 1) := z_le hsh (by omega)
  rw [if_pos (hle.mpr hc)]
theorem m_fillsWorth (S : hf_sv V v) (hn : v 1 ≤ 12) : spX4_fillsWorth V = some (hf_sa (hf_sa V 22 (zfW V v (2 ^ v 1 - 1))) 23 (zfM V v (2 ^ v 1 - 1))) := by
  obtain ⟨p1, p2, p3⟩ := zpow12 hn
  have h0 : hf_ua V 22 0 (Int32.ofNat 0) = hf_sa (hf_sa V 22 (zfW V v 0)) 23 (zfM V v 0) := by
    rw [hf_ua_eq]
    have e1 : zup (V.2.2.2.1 22) 0 (Int32.ofNat 0) = zfW V v 0 := by
      funext s
      unfold zup zfW
      by_cases e : s = 0
      · rw [if_pos e, if_pos (by omega), e]; rfl
      · rw [if_neg e, if_neg (by omega)]
    have e2 : zfM V v 0 = V.2.2.2.1 23 := by
      funext s
      unfold zfM
      rw [if_neg (by omega)]
    rw [e1, e2]
    unfold hf_sa
    refine Prod.ext rfl (Prod.ext rfl (Prod.ext rfl (Prod.ext ?_ rfl)))
    funext j
    by_cases e : j = 23
    · subst e; rfl
    · simp [e]
  have hstart : spX4_fillsWorth V = lpX4_fillsWorth_9 hf_N (Int32.ofNat (0 + 1)) (hf_sa (hf_sa V 22 (zfW V v 0)) 23 (zfM V v 0)) := by
    rw [← h0]
    unfold spX4_fillsWorth
    simp (disch := omega) only [z_lit, z_add, z_mul, z_sub, z_div, z_rem, Option.bind_some, z_le, z_lt, z_eq, hf_b2_some, hf_let_eq, z_shl, z_shr, z_and, z_or, z_nd, z_nd2, z_sd]
  rw [hstart]
  exact hf_loop (fun f i => lpX4_fillsWorth_9 f (Int32.ofNat (i + 1)) (hf_sa (hf_sa V 22 (zfW V v i)) 23 (zfM V v i))) (2 ^ v 1 - 1) _ (fun i f hi => m_fillsWorth_step S hn f i (by omega)) (fun f => m_fillsWorth_end S hn f) (fuel := hf_N) (by unfold hf_N; omega)
theorem zfW_at {s : Nat} (h : s < 2 ^ v 1) : zfW V v (2 ^ v 1 - 1) s = Int32.ofNat (zW v s) := if_pos (by omega)
theorem zfM_at {s : Nat} (h : s < 2 ^ v 1) (h0 : 0 < s) : zfM V v (2 ^ v 1 - 1) s = zcode (zM v s) := if_pos ⟨h0, by omega⟩
theorem zW_le (s : Nat) (hn : v 1 ≤ 12) : zW v s ≤ 200000 := by
  obtain ⟨p1, p2, p3⟩ := zpow12 hn
  have h1 : 40 * (2 ^ v 1 - 1) ≤ 40 * 4096 := Nat.mul_le_mul_left 40 (by omega)
  have h2 : (zTab v (2 ^ v 1 - 1)).1 s ≤ 40 * (2 ^ v 1 - 1) := zTab_le v (2 ^ v 1 - 1) s
  exact Nat.le_trans h2 (Nat.le_trans h1 (Nat.le_of_ble_eq_true rfl))
end ZM
set_option maxRecDepth 100000
set_option maxHeartbeats 1000000
/-! the model's acts on said -/
/-- said is v -/
def hf_sd20 (V : hf_V) (v : Nat → Nat) : hf_V := hf_sa V 20 (fun k => Int32.ofNat (v k))
theorem hf_sv.self {V : hf_V} {v : Nat → Nat} (S : hf_sv V v) : hf_sd20 V v = V := by
  unfold hf_sd20 hf_sa
  refine Prod.ext rfl (Prod.ext rfl (Prod.ext rfl (Prod.ext ?_ rfl)))
  funext j
  by_cases e : j = 20
  · simp only [e, if_true]
    funext k
    exact (S k).1.symm
  · simp only [e, if_false]
theorem hf_sd20_sd (V : hf_V) (v w : Nat → Nat) : hf_sd20 (hf_sd20 V v) w = hf_sd20 V w := by
  unfold hf_sd20 hf_sa
  refine Prod.ext rfl (Prod.ext rfl (Prod.ext rfl (Prod.ext ?_ rfl)))
  funext j
  by_cases e : j = 20 <;> simp [e]
theorem hf_sd20_ua (V : hf_V) (v : Nat → Nat) (i x : Nat) : hf_ua (hf_sd20 V v) 20 i (Int32.ofNat x) = hf_sd20 V (zup v i x) := by
  unfold hf_sd20
  rw [hf_ua_sa]
  congr 1
  funext q
  unfold zup
  by_cases e : q = i <;> simp [e]
theorem hf_sv.ua {V : hf_V} {v : Nat → Nat} (S : hf_sv V v) (i x : Nat) : hf_ua V 20 i (Int32.ofNat x) = hf_sd20 V (zup v i x) := by
  have h := hf_sd20_ua V v i x
  rw [S.self] at h
  exact h
theorem hf_sd20_sv (V : hf_V) {v : Nat → Nat} (hv : ∀ k, v k < 16777216) : hf_sv (hf_sd20 V v) v := fun k => ⟨by
  unfold hf_sd20
  rw [hf_sa_at], hv k⟩
theorem zset_congr {p q : Nat → Bool} : ∀ n, (∀ h, h < n → p h = q h) → zset p n = zset q n
  | 0, _ => rfl
  | n + 1, hh => by
    unfold zset
    rw [zset_congr n (fun h hn => hh h (by omega)), hh n (by omega)]
theorem zset_bit (p : Nat → Bool) : ∀ n i, (zset p n).testBit i = (decide (i < n) && p i)
  | 0, i => by
    show (0 : Nat).testBit i = _
    rw [Nat.zero_testBit]
    simp
  | n + 1, i => by
    unfold zset
    rw [Nat.testBit_or, zset_bit p n i]
    by_cases hp : p n = true
    · rw [if_pos hp, Nat.testBit_shiftLeft]
      by_cases e : i = n
      · subst e; simp [hp]
      · by_cases h2 : i < n
        · simp [h2, show i < n + 1 by omega, show ¬ n ≤ i by omega]
        · have h3 : n ≤ i := by omega
          have h4 : (1 : Nat).testBit (i - n) = false := Nat.testBit_lt_two_pow (Nat.lt_of_lt_of_le (by decide : 1 < 2 ^ 1) (Nat.pow_le_pow_right (by decide) (by omega)))
          simp [h2, show ¬ i < n + 1 by omega, h4]
    · rw [if_neg hp, Nat.zero_testBit]
      by_cases e : i = n
      · subst e; simp [Bool.eq_false_iff.mpr hp]
      · by_cases h2 : i < n
        · simp [h2, show i < n + 1 by omega]
        · simp [h2, show ¬ i < n + 1 by omega]
theorem zset_lt (p : Nat → Bool) (n : Nat) : zset p n < 2 ^ n := by
  apply Nat.lt_pow_two_of_testBit
  intro i hi
  rw [zset_bit]
  simp [show ¬ i < n by omega]
