set_option maxRecDepth 100000
set_option maxHeartbeats 1000000
/-! what a set is worth, with whom its least one is -/
theorem hf_nd_le (a b : Nat) : hf_nd a b ≤ a := by
  have h : hf_nd a b ||| a = a := by
    apply Nat.eq_of_testBit_eq
    intro i
    rw [Nat.testBit_or, hf_nd_bit]
    cases a.testBit i <;> simp
  have := @Nat.left_le_or (hf_nd a b) a
  rw [h] at this
  exact this
theorem hf_nd_lt {a k : Nat} (h : a.testBit k = true) : hf_nd a (1 <<< k) < a := by
  refine Nat.lt_of_le_of_ne (hf_nd_le a _) (fun e => ?_)
  have h1 := hf_nd_bit a (1 <<< k) k
  rw [e, h, Nat.testBit_shiftLeft] at h1
  simp at h1
/-- an array of the model's, changed whole -/
def hf_sa (V : hf_V) (k : Nat) (f : Nat → Int32) : hf_V := (V.1, V.2.1, V.2.2.1, fun j => if j = k then f else V.2.2.2.1 j, V.2.2.2.2)
def zup {α : Type} (f : Nat → α) (i : Nat) (x : α) : Nat → α := fun q => if q = i then x else f q
theorem hf_ua_sa (V : hf_V) (k i : Nat) (x : Int32) (f : Nat → Int32) : hf_ua (hf_sa V k f) k i x = hf_sa V k (zup f i x) := by
  unfold hf_ua hf_sa zup
  refine Prod.ext rfl (Prod.ext rfl (Prod.ext rfl (Prod.ext ?_ rfl)))
  funext j
  by_cases e : j = k
  · simp [e]
  · simp [e]
theorem hf_sa_comm (V : hf_V) {k l : Nat} (h : k ≠ l) (f g : Nat → Int32) : hf_sa (hf_sa V k f) l g = hf_sa (hf_sa V l g) k f := by
  unfold hf_sa
  refine Prod.ext rfl (Prod.ext rfl (Prod.ext rfl (Prod.ext ?_ rfl)))
  funext j
  by_cases e : j = k
  · subst e; simp [h]
  · by_cases e2 : j = l
    · simp [e2, h.symm]
    · simp [e, e2]
theorem hf_ua_sa2 (V : hf_V) {k l : Nat} (h : k ≠ l) (i : Nat) (x : Int32) (f g : Nat → Int32) : hf_ua (hf_sa (hf_sa V k f) l g) k i x = hf_sa (hf_sa V k (zup f i x)) l g := by
  rw [hf_sa_comm V h, hf_ua_sa, hf_sa_comm V h]
theorem hf_ua_eq (V : hf_V) (k i : Nat) (x : Int32) : hf_ua V k i x = hf_sa V k (zup (V.2.2.2.1 k) i x) := by
  unfold hf_ua hf_sa zup
  refine Prod.ext rfl (Prod.ext rfl (Prod.ext rfl (Prod.ext ?_ rfl)))
  funext j
  by_cases e : j = k
  · simp [e]
  · simp [e]
theorem hf_sa_at (V : hf_V) (k : Nat) (f : Nat → Int32) : (hf_sa V k f).2.2.2.1 k = f := if_pos rfl
theorem hf_sa_ne (V : hf_V) {k l : Nat} (h : l ≠ k) (f : Nat → Int32) : (hf_sa V k f).2.2.2.1 l = V.2.2.2.1 l := if_neg h
theorem hf_sv.sa {V : hf_V} {v : Nat → Nat} (S : hf_sv V v) {k : Nat} (h : 20 ≠ k) (f : Nat → Int32) : hf_sv (hf_sa V k f) v := fun j => by
  rw [hf_sa_ne V h]
  exact S j
def zpay (f : Nat) : Nat := if f = 2 then 40 else 20
def zstep (v W : Nat → Nat) (r h o : Nat) (bm : Nat × Option Nat) : Nat × Option Nat :=
  if r.testBit o = true ∧ zfo v h o ≠ 0 then (if bm.1 < zpay (zfo v h o) + W (hf_nd r (1 <<< o)) then (zpay (zfo v h o) + W (hf_nd r (1 <<< o)), some o) else bm) else bm
def zinn (v W : Nat → Nat) (r h : Nat) : Nat → Nat × Option Nat
  | 0 => (9 + W r, none)
  | k + 1 => zstep v W r h (h + 1 + k) (zinn v W r h k)
def zent (v W : Nat → Nat) (s : Nat) : Nat × Option Nat := zinn v W (hf_nd s (1 <<< zlow s)) (zlow s) (v 1 - (zlow s + 1))
/-- sets up to k are filled -/
def zTab (v : Nat → Nat) : Nat → (Nat → Nat) × (Nat → Option Nat)
  | 0 => (fun _ => 0, fun _ => none)
  | k + 1 => (zup (zTab v k).1 (k + 1) (zent v (zTab v k).1 (k + 1)).1, zup (zTab v k).2 (k + 1) (zent v (zTab v k).1 (k + 1)).2)
def zW (v : Nat → Nat) : Nat → Nat := (zTab v (2 ^ v 1 - 1)).1
def zM (v : Nat → Nat) : Nat → Option Nat := (zTab v (2 ^ v 1 - 1)).2
def zcode (o : Option Nat) : Int32 := match o with
  | none => -Int32.ofNat 1
  | some k => Int32.ofNat k
theorem zinn_le (v W : Nat → Nat) (c : Nat) (hW : ∀ s, W s ≤ c) (r h : Nat) : ∀ k, (zinn v W r h k).1 ≤ c + 40
  | 0 => by
    have := hW r
    show 9 + W r ≤ c + 40
    omega
  | k + 1 => by
    have h1 := zinn_le v W c hW r h k
    show (zstep v W r h (h + 1 + k) (zinn v W r h k)).1 ≤ c + 40
    unfold zstep
    split
    · split
      · have := hW (hf_nd r (1 <<< (h + 1 + k)))
        show zpay _ + _ ≤ _
        unfold zpay
        split <;> omega
      · exact h1
    · exact h1
theorem zTab_le (v : Nat → Nat) : ∀ k s, (zTab v k).1 s ≤ 40 * k
  | 0, s => Nat.zero_le _
  | k + 1, s => by
    have h1 := zTab_le v k
    show zup (zTab v k).1 (k + 1) (zent v (zTab v k).1 (k + 1)).1 s ≤ _
    unfold zup
    split
    · have := zinn_le v (zTab v k).1 (40 * k) h1 (hf_nd (k + 1) (1 <<< zlow (k + 1))) (zlow (k + 1)) (v 1 - (zlow (k + 1) + 1))
      show (zinn _ _ _ _ _).1 ≤ _
      omega
    · have := h1 s
      omega
section ZM
variable {V : hf_V} {v : Nat → Nat}
theorem m_fw162 (k9 : Int32 → hf_V → Option hf_V) (k62 : Int32 → Int32 → Int32 → Int32 → hf_V → Option hf_V) (l1 l2 l3 : Int32) (o : Nat) (V : hf_V) : ndX4_fillsWorth_162 k9 k62 l1 l2 l3 (Int32.ofNat o) V = k62 l1 l2 l3 (Int32.ofNat (o + 1)) V := by
  unfold ndX4_fillsWorth_162
  simp (disch := omega) only [z_lit, z_add, z_mul, z_sub, z_div, z_rem, Option.bind_some, z_le, z_lt, z_eq, hf_b2_some, hf_let_eq, z_shl, z_shr, z_and, z_or, z_nd, z_nd2]
theorem m_fw116 (k9 : Int32 → hf_V → Option hf_V) (k62 : Int32 → Int32 → Int32 → Int32 → hf_V → Option hf_V) (l2 : Int32) {s r o p x y : Nat} (hs : s < 4096) (hr : r < 4096) (ho : o < 12) (hp : p < 100) (hx : V.2.2.2.1 22 (hf_nd r (1 <<< o)) = Int32.ofNat x) (hy : V.2.2.2.1 22 s = Int32.ofNat y) (bx : x < 16777216) (by_ : y < 16777216) :
    ndX4_fillsWorth_116 k9 k62 (Int32.ofNat s) l2 (Int32.ofNat r) (Int32.ofNat o) (Int32.ofNat p) V = k62 (Int32.ofNat s) l2 (Int32.ofNat r) (Int32.ofNat (o + 1)) (if y < p + x then hf_ua (hf_ua V 22 s (Int32.ofNat (p + x))) 23 s (Int32.ofNat o) else V) := by
  unfold ndX4_fillsWorth_116
  have b5 := hf_nd_le r (1 <<< o)
  simp (disch := omega) only [z_lit, z_add, z_mul, z_sub, z_div, z_rem, Option.bind_some, z_le, z_lt, z_eq, hf_b2_some, hf_let_eq, z_shl, z_shr, z_and, z_or, z_nd, z_nd2, z_ld, hx, hy, m_fw162]
  by_cases h : y < p + x
  · simp (disch := omega) only [z_lit, z_add, z_mul, z_sub, z_div, z_rem, Option.bind_some, z_le, z_lt, z_eq, hf_b2_some, hf_let_eq, z_shl, z_shr, z_and, z_or, z_nd, z_nd2, h, if_true, z_sd, m_fw162]
  · simp (disch := omega) only [z_lit, z_add, z_mul, z_sub, z_div, z_rem, Option.bind_some, z_le, z_lt, z_eq, hf_b2_some, hf_let_eq, z_shl, z_shr, z_and, z_or, z_nd, z_nd2, h, if_false, m_fw162]
theorem m_fw62 (S : hf_sv V v) (hn : v 1 ≤ 12) (k9 : Int32 → hf_V → Option hf_V) (k62 : Int32 → Int32 → Int32 → Int32 → hf_V → Option hf_V) {W : Nat → Nat} {s r h o y : Nat} (hs : s < 4096) (hr : r < 4096) (hh : h < 12) (ho : o < v 1) (hx : V.2.2.2.1 22 (hf_nd r (1 <<< o)) = Int32.ofNat (W (hf_nd r (1 <<< o)))) (hb : W (hf_nd r (1 <<< o)) < 16777216) (m : Option Nat) (hy : V.2.2.2.1 22 s = Int32.ofNat y) (by_ : y < 16777216) :
    ndX4_fillsWorth_62 k9 k62 (Int32.ofNat s) (Int32.ofNat h) (Int32.ofNat r) (Int32.ofNat o) V = k62 (Int32.ofNat s) (Int32.ofNat h) (Int32.ofNat r) (Int32.ofNat (o + 1)) (if r.testBit o = true ∧ zfo v h o ≠ 0 then (if y < zpay (zfo v h o) + W (hf_nd r (1 <<< o)) then hf_ua (hf_ua V 22 s (Int32.ofNat (zpay (zfo v h o) + W (hf_nd r (1 <<< o))))) 23 s (Int32.ofNat o) else V) else V) := by
  unfold ndX4_fillsWorth_62 ndX4_fillsWorth_93
  have b1 := S.b 1
  have b2 := zfo_le v h o
  simp (disch := omega) only [z_lit, z_add, z_mul, z_sub, z_div, z_rem, Option.bind_some, z_le, z_lt, z_eq, hf_b2_some, hf_let_eq, z_shl, z_shr, z_and, z_or, z_nd, z_nd2, S.ld, m_isOf, if_neg (show ¬ v 1 ≤ o by omega)]
  by_cases h1 : r.testBit o = true
  · simp (disch := omega) only [z_lit, z_add, z_mul, z_sub, z_div, z_rem, Option.bind_some, z_le, z_lt, z_eq, hf_b2_some, hf_let_eq, z_shl, z_shr, z_and, z_or, z_nd, z_nd2, h1, if_true, if_false, m_fitOf S, true_and, show ¬ (1 : Nat) = 0 from by decide]
    by_cases h2 : zfo v h o = 0
    · simp only [h2, if_true, ne_eq, not_true_eq_false, if_false, m_fw162]
    · simp only [h2, if_false, ne_eq, not_false_eq_true, if_true]
      by_cases h3 : zfo v h o = 2
      · have e2 : zpay (zfo v h o) = 40 := by unfold zpay; rw [if_pos h3]
        rw [if_pos h3, m_fw116 k9 k62 _ hs hr (by omega) (by decide) hx hy hb by_, e2]
      · have e2 : zpay (zfo v h o) = 20 := by unfold zpay; rw [if_neg h3]
        rw [if_neg h3, m_fw116 k9 k62 _ hs hr (by omega) (by decide) hx hy hb by_, e2]
  · simp (disch := omega) only [z_lit, z_add, z_mul, z_sub, z_div, z_rem, Option.bind_some, z_le, z_lt, z_eq, hf_b2_some, hf_let_eq, z_shl, z_shr, z_and, z_or, z_nd, z_nd2, h1, if_true, if_false, false_and, m_fw162, Bool.false_eq_true]
theorem m_fillsWorth_in (S : hf_sv V v) (hn : v 1 ≤ 12) (k9 : Int32 → hf_V → Option hf_V) {W : Nat → Nat} {fW fM : Nat → Int32} {s r h : Nat} (hs : s < 4096) (hr : r < s) (hh : h < 12) (hW : ∀ x, x < s → fW x = Int32.ofNat (W x)) (hb : ∀ x, W x ≤ 1000000) {N9 : Nat} (hN9 : 100 < N9) :
    lpX4_fillsWorth_62 k9 N9 (Int32.ofNat s) (Int32.ofNat h) (Int32.ofNat r) (Int32.ofNat (h + 1)) (hf_sa (hf_sa V 22 (zup fW s (Int32.ofNat (9 + W r)))) 23 (zup fM s (-Int32.ofNat 1))) = k9 (Int32.ofNat (s + 1)) (hf_sa (hf_sa V 22 (zup fW s (Int32.ofNat (zinn v W r h (v 1 - (h + 1))).1))) 23 (zup fM s (zcode (zinn v W r h (v 1 - (h + 1))).2))) := by
  refine hf_loop (fun f i => lpX4_fillsWorth_62 k9 f (Int32.ofNat s) (Int32.ofNat h) (Int32.ofNat r) (Int32.ofNat (h + 1 + i)) (hf_sa (hf_sa V 22 (zup fW s (Int32.ofNat (zinn v W r h i).1))) 23 (zup fM s (zcode (zinn v W r h i).2)))) (v 1 - (h + 1)) _ (fun i f hi => ?_) (fun f => ?_) (fuel := N9) (by omega)
  · show ndX4_fillsWorth_62 k9 (lpX4_fillsWorth_62 k9 f) _ _ _ _ _ = lpX4_fillsWorth_62 k9 f (Int32.ofNat s) (Int32.ofNat h) (Int32.ofNat r) (Int32.ofNat (h + 1 + (i + 1))) (hf_sa (hf_sa V 22 (zup fW s (Int32.ofNat (zstep v W r h (h + 1 + i) (zinn v W r h i)).1))) 23 (zup fM s (zcode (zstep v W r h (h + 1 + i) (zinn v W r h i)).2)))
    have b3 := zinn_le v W 1000000 hb r h i
    have b4 := hb (hf_nd r (1 <<< (h + 1 + i)))
    have b5 := hf_nd_le r (1 <<< (h + 1 + i))
    generalize zinn v W r h i = bm at b3
    have S2 : hf_sv (hf_sa (hf_sa V 22 (zup fW s (Int32.ofNat bm.1))) 23 (zup fM s (zcode bm.2))) v := (S.sa (by decide) _).sa (by decide) _
    rw [m_fw62 (W := W) S2 hn k9 _ hs (by omega) hh (by omega) (by
      rw [hf_sa_ne _ (by decide), hf_sa_at]
      unfold zup
      rw [if_neg (by omega), hW _ (by omega)]) (by omega) bm.2 (y := bm.1) (by
      rw [hf_sa_ne _ (by decide), hf_sa_at]
      exact if_pos rfl) (by omega)]
    unfold zstep
    by_cases h1 : r.testBit (h + 1 + i) = true ∧ zfo v h (h + 1 + i) ≠ 0
    · rw [if_pos h1, if_pos h1]
      by_cases h2 : bm.1 < zpay (zfo v h (h + 1 + i)) + W (hf_nd r (1 <<< (h + 1 + i)))
      · rw [if_pos h2, if_pos h2, hf_ua_sa2 V (by decide), hf_ua_sa]
        have e9 : ∀ (f : Nat → Int32) (a b : Int32), zup (zup f s a) s b = zup f s b := by
          intro f a b
          funext q
          unfold zup
          by_cases e : q = s <;> simp [e]
        rw [e9, e9]
        rfl
      · rw [if_neg h2, if_neg h2]
        rfl
    · rw [if_neg h1, if_neg h1]
      rfl
  · show ndX4_fillsWorth_62 k9 (lpX4_fillsWorth_62 k9 f) _ _ _ _ _ = _
    have S2 : hf_sv (hf_sa (hf_sa V 22 (zup fW s (Int32.ofNat (zinn v W r h (v 1 - (h + 1))).1))) 23 (zup fM s (zcode (zinn v W r h (v 1 - (h + 1))).2))) v := (S.sa (by decide) _).sa (by decide) _
    unfold ndX4_fillsWorth_62
    have b1 := S.b 1
    simp (disch := omega) only [z_lit, z_add, z_mul, z_sub, z_div, z_rem, Option.bind_some, z_le, z_lt, z_eq, hf_b2_some, hf_let_eq, z_shl, z_shr, z_and, z_or, z_nd, z_nd2, S2.ld, if_pos (show v 1 ≤ h + 1 + (v 1 - (h + 1)) by omega)]
end ZM
