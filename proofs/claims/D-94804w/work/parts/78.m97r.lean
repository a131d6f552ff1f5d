set_option maxRecDepth 100000
set_option maxHeartbeats 1000000
/-! texts: the tape's signs -/
theorem z8s : (Int32.toInt64 (8 : Int32) &&& 63) = (8 : Int64) := by decide
theorem z_acc {v b : Nat} (hv : v < 2 ^ 48) (hb : b < 128) : (Int64.ofNat v <<< (Int32.toInt64 (8 : Int32) &&& 63)) ||| (Int32.toInt64 (Int32.ofNat b)) = Int64.ofNat (256 * v + b) := by
  rw [z8s]
  have e1 : Int32.toInt64 (Int32.ofNat b) = Int64.ofNat b := by
    have : ∀ b, b < 128 → Int32.toInt64 (Int32.ofNat b) = Int64.ofNat b := by decide
    exact this b hb
  rw [e1]
  apply Int64.toBitVec_inj.mp
  rw [Int64.toBitVec_or, Int64.toBitVec_shiftLeft]
  have e3 : (8 : Int64).toBitVec.smod 64 = 8#64 := by decide
  rw [e3]
  apply BitVec.eq_of_toNat_eq
  rw [BitVec.toNat_or, Int64.toBitVec_ofNat', Int64.toBitVec_ofNat', Int64.toBitVec_ofNat', BitVec.shiftLeft_eq', BitVec.toNat_shiftLeft]
  simp only [BitVec.toNat_ofNat]
  have h1 : v % 2 ^ 64 = v := Nat.mod_eq_of_lt (by omega)
  have h2 : b % 2 ^ 64 = b := Nat.mod_eq_of_lt (by omega)
  have h3 : (256 * v + b) % 2 ^ 64 = 256 * v + b := Nat.mod_eq_of_lt (by omega)
  have h4 : v <<< (8 % 2 ^ 64) = 256 * v := by
    rw [Nat.shiftLeft_eq, show 2 ^ (8 % 2 ^ 64) = 256 from rfl]
    omega
  have h5 : 256 * v % 2 ^ 64 = 256 * v := Nat.mod_eq_of_lt (by omega)
  rw [h1, h2, h3, h4, h5]
  have h6 := Nat.shiftLeft_add_eq_or_of_lt (i := 8) (b := b) (by omega) v
  rw [Nat.shiftLeft_eq] at h6
  have h7 : v * 2 ^ 8 = 256 * v := by omega
  rw [h7] at h6
  exact h6.symm
theorem zbyt_and : ∀ n, n < 256 → zbyt n &&& (255 : Int32) = Int32.ofNat n := by decide
theorem zbyt_32 : ∀ n, n < 256 → (zbyt n = (32 : Int32) ↔ n = 32) := by decide
theorem zbyt_lt48 : ∀ n, n < 256 → (48 ≤ n ∧ n ≤ 57 → ¬ (zbyt n < (48 : Int32)) ∧ ¬ ((57 : Int32) < zbyt n)) ∧ (¬ (48 ≤ n ∧ n ≤ 57) → zbyt n < (48 : Int32) ∨ (57 : Int32) < zbyt n) := by decide
theorem zbyt_lt97 : ∀ n, n < 256 → (97 ≤ n ∧ n ≤ 122 → ¬ (zbyt n < (97 : Int32)) ∧ ¬ ((122 : Int32) < zbyt n)) ∧ (¬ (97 ≤ n ∧ n ≤ 122) → zbyt n < (97 : Int32) ∨ (122 : Int32) < zbyt n) := by decide
theorem zbyt_small : ∀ n, n < 128 → zbyt n = Int32.ofNat n := by decide
theorem z_in48 : ∀ n, n < 256 → spX0_in (Int32.toInt64 (Int32.ofNat n)) (48 : Int64) (57 : Int64) = some (if 48 ≤ n ∧ n ≤ 57 then 1 else 0) := by decide +kernel
theorem z_in48m : spX0_in (Int32.toInt64 (-1 : Int32)) (48 : Int64) (57 : Int64) = some 0 := by decide +kernel
theorem z_in97 : ∀ n, n < 256 → spX0_in (Int32.toInt64 (zbyt n)) (97 : Int64) (122 : Int64) = some (if 97 ≤ n ∧ n ≤ 122 then 1 else 0) := by decide +kernel
/-- the sign at a; none at the end -/
def zch (B : Nat → Nat) (T a : Nat) : Int32 := if a < T then Int32.ofNat (B a) else -1
abbrev zdg (B : Nat → Nat) (T a : Nat) : Prop := a < T ∧ 48 ≤ B a ∧ B a ≤ 57
abbrev zle (B : Nat → Nat) (T a : Nat) : Prop := a < T ∧ 97 ≤ B a ∧ B a ≤ 122
/-- behind the spaces; behind the letters; behind the digits -/
def zskF (B : Nat → Nat) : Nat → Nat → Nat
  | 0, a => a
  | n + 1, a => if B a = 32 then zskF B n (a + 1) else a
def zsk (B : Nat → Nat) (T a : Nat) : Nat := zskF B (T - a) a
def zweF (B : Nat → Nat) : Nat → Nat → Nat
  | 0, a => a
  | n + 1, a => if 97 ≤ B a ∧ B a ≤ 122 then zweF B n (a + 1) else a
def zwe (B : Nat → Nat) (T a : Nat) : Nat := zweF B (T - a) a
def zdeF (B : Nat → Nat) : Nat → Nat → Nat
  | 0, a => a
  | n + 1, a => if 48 ≤ B a ∧ B a ≤ 57 then zdeF B n (a + 1) else a
def zde (B : Nat → Nat) (T a : Nat) : Nat := zdeF B (T - a) a
theorem zskF_le (B : Nat → Nat) : ∀ n a, a ≤ zskF B n a ∧ zskF B n a ≤ a + n
  | 0, a => ⟨Nat.le_refl _, Nat.le_refl _⟩
  | n + 1, a => by
    have := zskF_le B n (a + 1)
    unfold zskF
    split <;> omega
theorem zweF_le (B : Nat → Nat) : ∀ n a, a ≤ zweF B n a ∧ zweF B n a ≤ a + n
  | 0, a => ⟨Nat.le_refl _, Nat.le_refl _⟩
  | n + 1, a => by
    have := zweF_le B n (a + 1)
    unfold zweF
    split <;> omega
theorem zdeF_le (B : Nat → Nat) : ∀ n a, a ≤ zdeF B n a ∧ zdeF B n a ≤ a + n
  | 0, a => ⟨Nat.le_refl _, Nat.le_refl _⟩
  | n + 1, a => by
    have := zdeF_le B n (a + 1)
    unfold zdeF
    split <;> omega
section ZT
variable {B : Nat → Nat} {T a : Nat}
theorem zsk_le (h : a ≤ T) : a ≤ zsk B T a ∧ zsk B T a ≤ T := by
  have := zskF_le B (T - a) a
  unfold zsk
  omega
theorem zwe_le (h : a ≤ T) : a ≤ zwe B T a ∧ zwe B T a ≤ T := by
  have := zweF_le B (T - a) a
  unfold zwe
  omega
theorem zde_le (h : a ≤ T) : a ≤ zde B T a ∧ zde B T a ≤ T := by
  have := zdeF_le B (T - a) a
  unfold zde
  omega
theorem zsk_step (h : a < T) : zsk B T a = if B a = 32 then zsk B T (a + 1) else a := by
  have e : T - a = (T - (a + 1)) + 1 := by omega
  unfold zsk
  rw [e]
  rfl
theorem zsk_end : zsk B T T = T := by
  unfold zsk
  rw [Nat.sub_self]
  rfl
theorem zwe_step (h : a < T) : zwe B T a = if 97 ≤ B a ∧ B a ≤ 122 then zwe B T (a + 1) else a := by
  have e : T - a = (T - (a + 1)) + 1 := by omega
  unfold zwe
  rw [e]
  rfl
theorem zwe_end : zwe B T T = T := by
  unfold zwe
  rw [Nat.sub_self]
  rfl
theorem zde_step (h : a < T) : zde B T a = if 48 ≤ B a ∧ B a ≤ 57 then zde B T (a + 1) else a := by
  have e : T - a = (T - (a + 1)) + 1 := by omega
  unfold zde
  rw [e]
  rfl
theorem zde_end : zde B T T = T := by
  unfold zde
  rw [Nat.sub_self]
  rfl
end ZT
theorem zsk_idem (B : Nat → Nat) (T : Nat) : ∀ n a, T - a = n → a ≤ T → zsk B T (zsk B T a) = zsk B T a
  | 0, a, h, h1 => by
    have : a = T := by omega
    rw [this, zsk_end, zsk_end]
  | n + 1, a, h, h1 => by
    have h2 : a < T := by omega
    by_cases e : B a = 32
    · rw [zsk_step h2, if_pos e]
      exact zsk_idem B T n (a + 1) (by omega) (by omega)
    · rw [zsk_step h2, if_neg e, zsk_step h2, if_neg e]
/-- the model's tape -/
def hf_mt (V : hf_V) (B : Nat → Nat) (T : Nat) : Prop := T ≤ 400 ∧ V.1 1 = Int32.ofNat T ∧ ∀ k, k < 400 → V.2.2.2.1 0 k = zbyt (B k) ∧ B k < 256
theorem hf_mt.ui {V : hf_V} {B : Nat → Nat} {T : Nat} (H : hf_mt V B T) {k : Nat} (h : 1 ≠ k) (x : Int32) : hf_mt (hf_ui V k x) B T := ⟨H.1, by rw [hf_ui_ne _ h]; exact H.2.1, H.2.2⟩
theorem hf_ui_ui (V : hf_V) (k : Nat) (x y : Int32) : hf_ui (hf_ui V k x) k y = hf_ui V k y := by
  unfold hf_ui
  refine Prod.ext ?_ rfl
  funext j
  by_cases e : j = k <;> simp [e]
theorem hf_ui_self {V : hf_V} {k : Nat} {x : Int32} (h : V.1 k = x) : hf_ui V k x = V := by
  unfold hf_ui
  refine Prod.ext ?_ rfl
  funext j
  by_cases e : j = k
  · simp [e, h]
  · simp [e]
section ZM
variable {V : hf_V} {B : Nat → Nat} {T a : Nat}
theorem m_see38 (H : hf_mt V B T) (h8 : V.1 8 = Int32.ofNat a) (ha : a ≤ T) : ndX4_see_38 V = some (zch B T a, V) := by
  obtain ⟨h1, h2, h3⟩ := H
  unfold ndX4_see_38 zch
  rw [h2, h8]
  by_cases e : a < T
  · rw [if_neg (z_nle e (by omega)), z_ld (by omega) (by omega), Option.bind_some, (h3 a (by omega)).1, zbyt_and _ (h3 a (by omega)).2, if_pos e]
  · rw [if_pos (z_yle (by omega) (by omega)), if_neg e]
theorem m_seeL (B : Nat → Nat) (T : Nat) : ∀ n a V fuel, hf_mt V B T → V.1 8 = Int32.ofNat a → a ≤ T → T - a = n → n < fuel → lpX4_see_0 fuel V = some (zch B T (zsk B T a), hf_ui V 8 (Int32.ofNat (zsk B T a)))
  | n, a, V, 0, _, _, _, _, hf => by omega
  | n, a, V, fuel + 1, H, h8, ha, hn, hf => by
    show ndX4_see_0 (lpX4_see_0 fuel) V = _
    obtain ⟨h1, h2, h3⟩ := id H
    unfold ndX4_see_0
    rw [m_see38 H h8 ha, h2, h8]
    by_cases e : a < T
    · rw [if_neg (z_nle e (by omega)), z_ld (by omega) (by omega), Option.bind_some, (h3 a (by omega)).1, zsk_step e]
      by_cases e2 : B a = 32
      · rw [if_pos ((zbyt_32 _ (h3 a (by omega)).2).mpr e2), if_pos e2, hf_let_eq]
        have a1 : Int32.ofNat a + (1 : Int32) = Int32.ofNat (a + 1) := z_add a 1
        rw [a1]
        have ih := m_seeL B T (n - 1) (a + 1) (hf_ui V 8 (Int32.ofNat (a + 1))) fuel (H.ui (by decide) _) (hf_ui_at _ _ _) (by omega) (by omega) (by omega)
        rw [hf_ui_ui] at ih
        exact ih
      · rw [if_neg (fun z => e2 ((zbyt_32 _ (h3 a (by omega)).2).mp z)), if_neg e2, hf_ui_self h8]
    · have : a = T := by omega
      subst this
      rw [if_pos (z_yle (by omega) (by omega)), zsk_end, hf_ui_self h8]
theorem m_see (H : hf_mt V B T) (h8 : V.1 8 = Int32.ofNat a) (ha : a ≤ T) : spX4_see V = some (zch B T (zsk B T a), hf_ui V 8 (Int32.ofNat (zsk B T a))) := by
  have := H.1
  exact m_seeL B T (T - a) a V hf_N H h8 ha rfl (by unfold hf_N; omega)
theorem m_isDigit (H : hf_mt V B T) (ha : a ≤ T) : spX4_isDigit (Int32.ofNat a) V = some (Int32.ofNat (if zdg B T a then 1 else 0), V) := by
  obtain ⟨h1, h2, h3⟩ := H
  unfold spX4_isDigit
  rw [h2]
  by_cases e : a < T
  · obtain ⟨b1, b2⟩ := h3 a (by omega)
    obtain ⟨c1, c2⟩ := zbyt_lt48 _ b2
    rw [if_neg (z_nle e (by omega)), z_ld (by omega) (by omega), Option.bind_some, Option.bind_some, b1]
    by_cases d : 48 ≤ B a ∧ B a ≤ 57
    · rw [if_neg (c1 d).1, if_neg (c1 d).2, if_pos (show zdg B T a from ⟨e, d⟩)]; rfl
    · rw [if_neg (show ¬ zdg B T a from fun z => d z.2)]
      rcases c2 d with c | c
      · rw [if_pos c]; rfl
      · rw [if_pos c]
        split <;> rfl
  · rw [if_pos (z_yle (by omega) (by omega)), if_neg (show ¬ zdg B T a from fun z => e z.1)]; rfl
theorem m_isLetter (H : hf_mt V B T) (ha : a ≤ T) : spX4_isLetter (Int32.ofNat a) V = some (Int32.ofNat (if zle B T a then 1 else 0), V) := by
  obtain ⟨h1, h2, h3⟩ := H
  unfold spX4_isLetter
  rw [h2]
  by_cases e : a < T
  · obtain ⟨b1, b2⟩ := h3 a (by omega)
    obtain ⟨c1, c2⟩ := zbyt_lt97 _ b2
    rw [if_neg (z_nle e (by omega)), z_ld (by omega) (by omega), Option.bind_some, Option.bind_some, b1]
    by_cases d : 97 ≤ B a ∧ B a ≤ 122
    · rw [if_neg (c1 d).1, if_neg (c1 d).2, if_pos (show zle B T a from ⟨e, d⟩)]; rfl
    · rw [if_neg (show ¬ zle B T a from fun z => d z.2)]
      rcases c2 d with c | c
      · rw [if_pos c]; rfl
      · rw [if_pos c]
        split <;> rfl
  · rw [if_pos (z_yle (by omega) (by omega)), if_neg (show ¬ zle B T a from fun z => e z.1)]; rfl
theorem m_passL (B : Nat → Nat) (T : Nat) : ∀ n a V fuel, hf_mt V B T → V.1 8 = Int32.ofNat a → a ≤ T → T - a = n → n < fuel → lpX4_passWord_0 fuel V = some (hf_ui V 8 (Int32.ofNat (zwe B T a)))
  | n, a, V, 0, _, _, _, _, hf => by omega
  | n, a, V, fuel + 1, H, h8, ha, hn, hf => by
    show ndX4_passWord_0 (lpX4_passWord_0 fuel) V = _
    unfold ndX4_passWord_0
    rw [h8, m_isLetter H ha, hf_b2_some]
    by_cases e : zle B T a
    · rw [if_pos e, if_neg (show ¬ (Int32.ofNat 1 = 0) by decide), hf_let_eq, h8, zwe_step e.1, if_pos e.2]
      have a1 : Int32.ofNat a + (1 : Int32) = Int32.ofNat (a + 1) := z_add a 1
      have e1 := e.1
      rw [a1]
      have ih := m_passL B T (n - 1) (a + 1) (hf_ui V 8 (Int32.ofNat (a + 1))) fuel (H.ui (by decide) _) (hf_ui_at _ _ _) (by omega) (by omega) (by omega)
      rw [hf_ui_ui] at ih
      exact ih
    · rw [if_neg e, if_pos (show Int32.ofNat 0 = 0 from rfl)]
      by_cases e2 : a < T
      · rw [zwe_step e2, if_neg (fun z => e ⟨e2, z⟩), hf_ui_self h8]
      · have : a = T := by omega
        subst this
        rw [zwe_end, hf_ui_self h8]
theorem m_passWord (H : hf_mt V B T) (h8 : V.1 8 = Int32.ofNat a) (ha : a ≤ T) : spX4_passWord V = some (hf_ui V 8 (Int32.ofNat (zwe B T a))) := by
  have := H.1
  exact m_passL B T (T - a) a V hf_N H h8 ha rfl (by unfold hf_N; omega)
end ZM
set_option maxRecDepth 100000
set_option maxHeartbeats 1000000
/-! texts: words and numbers, the model -/
def zen (f : Nat → Nat) : Nat → Nat
  | 0 => 0
  | n + 1 => 256 * zen f n + f n
theorem zen_lt (f : Nat → Nat) : ∀ n, (∀ k, k < n → f k < 256) → zen f n < 256 ^ n
  | 0, _ => (by decide : (0 : Nat) < 256 ^ 0)
  | n + 1, h => by
    have h1 := zen_lt f n (fun k hk => h k (by omega))
    have h2 := h n (by omega)
    show 256 * zen f n + f n < 256 ^ (n + 1)
    rw [Nat.pow_succ]
    omega
theorem zen_inj (f g : Nat → Nat) : ∀ n m, (∀ k, k < n → 0 < f k ∧ f k < 256) → (∀ k, k < m → 0 < g k ∧ g k < 256) → zen f n = zen g m → n = m ∧ ∀ k, k < n → f k = g k
  | 0, 0, _, _, _ => ⟨rfl, fun k hk => by omega⟩
  | 0, m + 1, _, hg, e => by
    have h2 := hg m (by omega)
    have : zen g (m + 1) = 256 * zen g m + g m := rfl
    have h0 : zen f 0 = 0 := rfl
    omega
  | n + 1, 0, hf, _, e => by
    have h2 := hf n (by omega)
    have : zen f (n + 1) = 256 * zen f n + f n := rfl
    have h0 : zen g 0 = 0 := rfl
    omega
  | n + 1, m + 1, hf, hg, e => by
    have h1 := hf n (by omega)
    have h2 := hg m (by omega)
    have e1 : zen f (n + 1) = 256 * zen f n + f n := rfl
    have e2 : zen g (m + 1) = 256 * zen g m + g m := rfl
    obtain ⟨a1, a2⟩ := zen_inj f g n m (fun k hk => hf k (by omega)) (fun k hk => hg k (by omega)) (by omega)
    refine ⟨by omega, fun k hk => ?_⟩
    by_cases ek : k = n
    · subst ek
      subst a1
      omega
    · exact a2 k (by omega)
/-- a word stands here -/
def zisP (B : Nat → Nat) (T a : Nat) (W : List Nat) : Prop := zwe B T (zsk B T a) - zsk B T a = W.length ∧ ∀ k, k < W.length → B (zsk B T a + k) = W.getD k 0
noncomputable def zisb (B : Nat → Nat) (T a : Nat) (W : List Nat) : Bool := @decide (zisP B T a W) (Classical.propDecidable _)
abbrev zis (B : Nat → Nat) (T a : Nat) (W : List Nat) : Prop := zisb B T a W = true
theorem zis.p {B : Nat → Nat} {T a : Nat} {W : List Nat} (H : zis B T a W) : zisP B T a W := @of_decide_eq_true (zisP B T a W) (Classical.propDecidable _) H
theorem zisP.s {B : Nat → Nat} {T a : Nat} {W : List Nat} (H : zisP B T a W) : zis B T a W := @decide_eq_true (zisP B T a W) (Classical.propDecidable _) H
def zwok (W : List Nat) : Prop := 0 < W.length ∧ W.length < 8 ∧ ∀ k, k < W.length → 97 ≤ W.getD k 0 ∧ W.getD k 0 ≤ 122
section ZT
variable {B : Nat → Nat} {T : Nat}
theorem zwe_in : ∀ n a, T - a = n → a ≤ T → (∀ j, a ≤ j → j < zwe B T a → zle B T j) ∧ ¬ zle B T (zwe B T a)
  | 0, a, h, h1 => by
    have : a = T := by omega
    subst this
    rw [zwe_end]
    exact ⟨fun j h1 h2 => by omega, fun z => by have := z.1; omega⟩
  | n + 1, a, h, h1 => by
    have h2 : a < T := by omega
    rw [zwe_step h2]
    by_cases e : 97 ≤ B a ∧ B a ≤ 122
    · rw [if_pos e]
      obtain ⟨i1, i2⟩ := zwe_in n (a + 1) (by omega) (by omega)
      refine ⟨fun j j1 j2 => ?_, i2⟩
      by_cases ej : j = a
      · subst ej; exact ⟨h2, e⟩
      · exact i1 j (by omega) j2
    · rw [if_neg e]
      exact ⟨fun j j1 j2 => by omega, fun z => e z.2⟩
theorem zde_in : ∀ n a, T - a = n → a ≤ T → (∀ j, a ≤ j → j < zde B T a → zdg B T j) ∧ ¬ zdg B T (zde B T a)
  | 0, a, h, h1 => by
    have : a = T := by omega
    subst this
    rw [zde_end]
    exact ⟨fun j h1 h2 => by omega, fun z => by have := z.1; omega⟩
  | n + 1, a, h, h1 => by
    have h2 : a < T := by omega
    rw [zde_step h2]
    by_cases e : 48 ≤ B a ∧ B a ≤ 57
    · rw [if_pos e]
      obtain ⟨i1, i2⟩ := zde_in n (a + 1) (by omega) (by omega)
      refine ⟨fun j j1 j2 => ?_, i2⟩
      by_cases ej : j = a
      · subst ej; exact ⟨h2, e⟩
      · exact i1 j (by omega) j2
    · rw [if_neg e]
      exact ⟨fun j j1 j2 => by omega, fun z => e z.2⟩
end ZT
section ZM
variable {V : hf_V} {B : Nat → Nat} {T a : Nat}
theorem m_isWordL (H : hf_mt V B T) {p : Nat} (h8 : V.1 8 = Int32.ofNat p) (hp : p ≤ T) (W : Int64) : ∀ n i v fuel, zwe B T p - p - i = n → i ≤ zwe B T p - p → (i ≤ 7 → v = Int64.ofNat (zen (fun k => B (p + k)) i)) → n < fuel → lpX4_isWord_10 fuel W v (Int32.ofNat i) V = some (if 0 < zwe B T p - p ∧ zwe B T p - p < 8 ∧ Int64.ofNat (zen (fun k => B (p + k)) (zwe B T p - p)) = W then (1 : Int32) else 0, V)
  | n, i, v, 0, _, _, _, hf => by omega
  | n, i, v, fuel + 1, hn, hi, hv, hf => by
    have hT := H.1
    obtain ⟨w1, w2⟩ := zwe_le (B := B) (T := T) hp
    obtain ⟨i1, i2⟩ := zwe_in (B := B) (T - p) p rfl hp
    show ndX4_isWord_10 (lpX4_isWord_10 fuel) _ _ _ _ = _
    unfold ndX4_isWord_10 ndX4_isWord_50
    have a1 : Int32.ofNat p + Int32.ofNat i = Int32.ofNat (p + i) := z_add p i
    have a2 : Int32.ofNat i + (1 : Int32) = Int32.ofNat (i + 1) := z_add i 1
    rw [h8, a1, m_isLetter H (by omega), hf_b2_some, h8, a1]
    by_cases e : i < zwe B T p - p
    · have hl := i1 (p + i) (by omega) (by omega)
      obtain ⟨b1, b2⟩ := H.2.2 (p + i) (by omega)
      rw [if_pos hl, if_neg (show ¬ (Int32.ofNat 1 = 0) by decide)]
      by_cases e8 : 8 ≤ i
      · rw [if_pos (show (8 : Int32) ≤ Int32.ofNat i from z_yle (a := 8) e8 (by omega)), hf_let_eq, a2]
        exact m_isWordL H h8 hp W (n - 1) (i + 1) v fuel (by omega) (by omega) (fun h => by omega) (by omega)
      · rw [if_neg (show ¬ (8 : Int32) ≤ Int32.ofNat i from z_nle (a := 8) (by omega) (by decide)), z_ld (by omega) (by omega), Option.bind_some, hf_let_eq, hf_let_eq, a2, b1, zbyt_small _ (by have := hl.2.2; omega)]
        refine m_isWordL H h8 hp W (n - 1) (i + 1) _ fuel (by omega) (by omega) (fun h => ?_) (by omega)
        have hlt := zen_lt (fun k => B (p + k)) i (fun k hk => (H.2.2 (p + k) (by omega)).2)
        have h6 : (256 : Nat) ^ i ≤ 256 ^ 6 := Nat.pow_le_pow_right (by decide) (by omega)
        have h7 : (256 : Nat) ^ 6 = 2 ^ 48 := by decide
        rw [hv (by omega), z_acc (by omega) (by have := hl.2.2; omega)]
        rfl
    · have ei : i = zwe B T p - p := by omega
      have hl : ¬ zle B T (p + i) := by
        have : p + i = zwe B T p := by omega
        rw [this]; exact i2
      rw [if_neg hl, if_pos (show Int32.ofNat 0 = 0 from rfl), ← ei]
      by_cases e0 : i = 0
      · subst e0
        rw [if_pos (show Int32.ofNat 0 ≤ 0 by decide), if_neg (fun z => by omega)]
      · rw [if_neg (show ¬ (Int32.ofNat i ≤ 0) from z_nle (b := 0) (by omega) (by omega))]
        by_cases e8 : 8 ≤ i
        · rw [if_pos (show (8 : Int32) ≤ Int32.ofNat i from z_yle (a := 8) e8 (by omega)), if_neg (fun z => by omega)]
        · rw [if_neg (show ¬ (8 : Int32) ≤ Int32.ofNat i from z_nle (a := 8) (by omega) (by decide)), hv (by omega)]
          by_cases ew : Int64.ofNat (zen (fun k => B (p + k)) i) = W
          · rw [if_pos ((lg_cmp_eq _ _).mpr ew), if_pos ⟨by omega, by omega, ew⟩]
          · rw [if_neg (fun z => ew ((lg_cmp_eq _ _).mp z)), if_neg (fun z => ew z.2.2)]
theorem m_isWord (H : hf_mt V B T) (h8 : V.1 8 = Int32.ofNat a) (ha : a ≤ T) {W : List Nat} (hW : zwok W) : spX4_isWord (Int64.ofNat (zen (fun k => W.getD k 0) W.length)) V = some (Int32.ofNat (if zis B T a W then 1 else 0), hf_ui V 8 (Int32.ofNat (zsk B T a))) := by
  have hT := H.1
  obtain ⟨s1, s2⟩ := zsk_le (B := B) ha
  obtain ⟨w1, w2⟩ := zwe_le (B := B) (T := T) s2
  obtain ⟨i1, i2⟩ := zwe_in (B := B) (T - zsk B T a) (zsk B T a) rfl s2
  unfold spX4_isWord
  rw [m_see H h8 ha, hf_b2_some]
  have key := m_isWordL (H.ui (k := 8) (by decide) (Int32.ofNat (zsk B T a))) (p := zsk B T a) (hf_ui_at _ _ _) s2 (Int64.ofNat (zen (fun k => W.getD k 0) W.length)) _ 0 0 hf_N rfl (Nat.zero_le _) (fun _ => rfl) (by unfold hf_N; omega)
  refine (show _ = _ from key).trans ?_
  have hiff : (0 < zwe B T (zsk B T a) - zsk B T a ∧ zwe B T (zsk B T a) - zsk B T a < 8 ∧ Int64.ofNat (zen (fun k => B (zsk B T a + k)) (zwe B T (zsk B T a) - zsk B T a)) = Int64.ofNat (zen (fun k => W.getD k 0) W.length)) ↔ zis B T a W := by
    constructor
    · rintro ⟨h1, h2, h3⟩
      have b1 := zen_lt (fun k => B (zsk B T a + k)) (zwe B T (zsk B T a) - zsk B T a) (fun k hk => (H.2.2 _ (by omega)).2)
      have b2 := zen_lt (fun k => W.getD k 0) W.length (fun k hk => by have := (hW.2.2 k hk).2; omega)
      have c1 : (256 : Nat) ^ (zwe B T (zsk B T a) - zsk B T a) ≤ 256 ^ 7 := Nat.pow_le_pow_right (by decide) (by omega)
      have c2 : (256 : Nat) ^ W.length ≤ 256 ^ 7 := Nat.pow_le_pow_right (by decide) (by have := hW.2.1; omega)
      have c3 : (256 : Nat) ^ 7 = 2 ^ 56 := by decide
      have h4 := congrArg (fun z : Int64 => z.toBitVec.toNat) h3
      simp only [Int64.toBitVec_ofNat', BitVec.toNat_ofNat] at h4
      rw [Nat.mod_eq_of_lt (by omega), Nat.mod_eq_of_lt (by omega)] at h4
      obtain ⟨d1, d2⟩ := zen_inj _ _ _ _ (fun k hk => by
        have := i1 (zsk B T a + k) (by omega) (by omega)
        have h5 := this.2
        show 0 < B (zsk B T a + k) ∧ B (zsk B T a + k) < 256
        omega) (fun k hk => by
        have := hW.2.2 k hk
        show 0 < W.getD k 0 ∧ W.getD k 0 < 256
        omega) h4
      exact zisP.s ⟨d1, fun k hk => d2 k (by omega)⟩
    · intro hz
      obtain ⟨h1, h2⟩ := zis.p hz
      refine ⟨by have := hW.1; omega, by have := hW.2.1; omega, ?_⟩
      rw [h1]
      congr 1
      have : ∀ n, n ≤ W.length → zen (fun k => B (zsk B T a + k)) n = zen (fun k => W.getD k 0) n := by
        intro n
        induction n with
        | zero => intro _; rfl
        | succ n ih =>
          intro hn
          show 256 * zen _ n + B (zsk B T a + n) = 256 * zen _ n + W.getD n 0
          rw [ih (by omega), h2 n (by omega)]
      exact this _ (Nat.le_refl _)
  by_cases h : zis B T a W
  · rw [if_pos (hiff.mpr h), if_pos h]; rfl
  · rw [if_neg (fun z => h (hiff.mp z)), if_neg h]; rfl
/-- the digits' number, five at most -/
def zdv (B : Nat → Nat) (p : Nat) : Nat → Nat
  | 0 => 0
  | n + 1 => 10 * zdv B p n + (B (p + n) - 48)
theorem zdv_lt (B : Nat → Nat) (p : Nat) : ∀ n, (∀ k, k < n → B (p + k) ≤ 57) → zdv B p n < 10 ^ n
  | 0, _ => (by decide : (0 : Nat) < 10 ^ 0)
  | n + 1, h => by
    have h1 := zdv_lt B p n (fun k hk => h k (by omega))
    have h2 := h n (by omega)
    show 10 * zdv B p n + (B (p + n) - 48) < 10 ^ (n + 1)
    rw [Nat.pow_succ]
    omega
def znm (B : Nat → Nat) (T p : Nat) : Nat := zdv B p (min 5 (zde B T p - p))
theorem m_fails0 (h9 : V.1 9 = 0) (k p : Nat) : spX4_fails (Int32.ofNat k) (Int32.ofNat p) V = some (0, hf_ui V 9 (Int32.ofNat (1 + 8 * p + k))) := by
  unfold spX4_fails
  rw [if_pos h9, hf_let_eq, z_lit 1, z_lit 8, z_mul, z_add, z_add]
theorem m_numL (H0 : hf_mt V B T) {p : Nat} (hp : p ≤ T) (lo hi : Int32) : ∀ n q V1 fuel, V1 = hf_ui V 8 (Int32.ofNat q) → V.1 9 = 0 → zde B T p - q = n → p ≤ q → q ≤ zde B T p → n < fuel → lpX4_numberHere_34 fuel lo hi (Int32.ofNat p) (Int32.ofNat (zdv B p (min 5 (q - p)))) V1 = some (if zde B T p - p ≤ 5 ∧ lo ≤ Int32.ofNat (znm B T p) ∧ Int32.ofNat (znm B T p) ≤ hi then (1, hf_ui (hf_ui V 8 (Int32.ofNat (zde B T p))) 10 (Int32.ofNat (znm B T p))) else (0, hf_ui (hf_ui (hf_ui V 8 (Int32.ofNat (zde B T p))) 10 (Int32.ofNat (znm B T p))) 9 (Int32.ofNat (1 + 8 * p + 1))))
  | n, q, V1, 0, _, _, _, _, _, hf => by omega
  | n, q, V1, fuel + 1, hV1, h9, hn, hq1, hq2, hf => by
    have hT := H0.1
    obtain ⟨w1, w2⟩ := zde_le (B := B) (T := T) hp
    obtain ⟨i1, i2⟩ := zde_in (B := B) (T - p) p rfl hp
    have H : hf_mt V1 B T := by rw [hV1]; exact H0.ui (by decide) _
    have h8 : V1.1 8 = Int32.ofNat q := by rw [hV1, hf_ui_at]
    have hdig : ∀ j, p ≤ j → j < zde B T p → 48 ≤ B j ∧ B j ≤ 57 := fun j h1 h2 => (i1 j h1 h2).2
    show ndX4_numberHere_34 (lpX4_numberHere_34 fuel) _ _ _ _ _ = _
    unfold ndX4_numberHere_34 ndX4_numberHere_75 ndX4_numberHere_117
    have a1 : Int32.ofNat q - Int32.ofNat p = Int32.ofNat (q - p) := z_sub hq1
    have a2 : Int32.ofNat q + (1 : Int32) = Int32.ofNat (q + 1) := z_add q 1
    rw [h8, m_isDigit H (by omega), hf_b2_some]
    by_cases e : q < zde B T p
    · have hl := i1 q hq1 e
      obtain ⟨b1, b2⟩ := H.2.2 q (by omega)
      rw [if_pos hl, if_neg (show ¬ (Int32.ofNat 1 = 0) by decide), h8, a1, a2]
      have hVn : hf_ui V1 8 (Int32.ofNat (q + 1)) = hf_ui V 8 (Int32.ofNat (q + 1)) := by rw [hV1, hf_ui_ui]
      by_cases e5 : 5 ≤ q - p
      · rw [if_pos (show (5 : Int32) ≤ Int32.ofNat (q - p) from z_yle (a := 5) e5 (by omega)), hf_let_eq, hVn]
        have e6 : min 5 (q - p) = min 5 (q + 1 - p) := by omega
        rw [e6]
        exact m_numL H0 hp lo hi (n - 1) (q + 1) _ fuel rfl h9 (by omega) (by omega) (by omega) (by omega)
      · rw [if_neg (show ¬ (5 : Int32) ≤ Int32.ofNat (q - p) from z_nle (a := 5) (by omega) (by decide)), z_ld (by omega) (by omega), Option.bind_some, hf_let_eq, hf_let_eq, hVn, b1, zbyt_small _ (by have := hl.2.2; omega)]
        have e6 : min 5 (q + 1 - p) = min 5 (q - p) + 1 := by omega
        have hb := zdv_lt B p (min 5 (q - p)) (fun k hk => (hdig (p + k) (by omega) (by omega)).2)
        have hb2 : (10 : Nat) ^ min 5 (q - p) ≤ 10 ^ 5 := Nat.pow_le_pow_right (by decide) (by omega)
        have e7 : (10 : Int32) * Int32.ofNat (zdv B p (min 5 (q - p))) + Int32.ofNat (B q) - (48 : Int32) = Int32.ofNat (zdv B p (min 5 (q + 1 - p))) := by
          have h1 := hl.2.1
          have h3 : zdv B p (min 5 (q + 1 - p)) = 10 * zdv B p (min 5 (q - p)) + (B q - 48) := by
            rw [e6]
            show 10 * zdv B p (min 5 (q - p)) + (B (p + min 5 (q - p)) - 48) = _
            rw [show p + min 5 (q - p) = q by omega]
          rw [z_lit 10, z_lit 48, z_mul, z_add, z_sub (by omega), h3]
          congr 1
          omega
        rw [e7]
        exact m_numL H0 hp lo hi (n - 1) (q + 1) _ fuel rfl h9 (by omega) (by omega) (by omega) (by omega)
    · have eq : q = zde B T p := by omega
      subst eq
      rw [if_neg i2, if_pos (show Int32.ofNat 0 = 0 from rfl), hf_let_eq]
      have hz : zdv B p (min 5 (zde B T p - p)) = znm B T p := rfl
      rw [hz]
      have h8' : (hf_ui V1 10 (Int32.ofNat (znm B T p))).1 8 = Int32.ofNat (zde B T p) := by rw [hf_ui_ne _ (by decide), h8]
      have h9' : (hf_ui V1 10 (Int32.ofNat (znm B T p))).1 9 = 0 := by rw [hf_ui_ne _ (by decide), hV1, hf_ui_ne _ (by decide), h9]
      have hfl : spX4_fails (1 : Int32) (Int32.ofNat p) (hf_ui V1 10 (Int32.ofNat (znm B T p))) = some (0, hf_ui (hf_ui V1 10 (Int32.ofNat (znm B T p))) 9 (Int32.ofNat (1 + 8 * p + 1))) := m_fails0 h9' 1 p
      rw [h8', a1, hfl, hf_b2_some, if_pos rfl]
      by_cases e5 : 5 < zde B T p - p
      · rw [if_pos (show (5 : Int32) < Int32.ofNat (zde B T p - p) from (z_lt (a := 5) (by decide) (by omega)).mpr e5), if_neg (fun z => by omega), hV1]
      · have hin : spX4_in (Int32.toInt64 (Int32.ofNat (znm B T p))) (Int32.toInt64 lo) (Int32.toInt64 hi) = some (if lo ≤ Int32.ofNat (znm B T p) ∧ Int32.ofNat (znm B T p) ≤ hi then Int32.ofNat 1 else Int32.ofNat 0) := z_in3 _ _ _
        rw [if_neg (show ¬ (5 : Int32) < Int32.ofNat (zde B T p - p) from fun z => e5 ((z_lt (a := 5) (by decide) (by omega)).mp z)), hin, Option.bind_some]
        by_cases hr : lo ≤ Int32.ofNat (znm B T p) ∧ Int32.ofNat (znm B T p) ≤ hi
        · rw [if_pos hr, if_neg (show ¬ (Int32.ofNat 1 = 0) by decide), if_pos ⟨by omega, hr⟩, hV1]
        · rw [if_neg hr, if_pos (show Int32.ofNat 0 = 0 from rfl), if_neg (fun z => hr z.2), hV1]
theorem m_numberHere (H : hf_mt V B T) (h8 : V.1 8 = Int32.ofNat a) (h9 : V.1 9 = 0) (ha : a ≤ T) (lo hi : Int32) : spX4_numberHere lo hi V = some (if zdg B T (zsk B T a) then (if zde B T (zsk B T a) - zsk B T a ≤ 5 ∧ lo ≤ Int32.ofNat (znm B T (zsk B T a)) ∧ Int32.ofNat (znm B T (zsk B T a)) ≤ hi then (1, hf_ui (hf_ui V 8 (Int32.ofNat (zde B T (zsk B T a)))) 10 (Int32.ofNat (znm B T (zsk B T a)))) else (0, hf_ui (hf_ui (hf_ui V 8 (Int32.ofNat (zde B T (zsk B T a)))) 10 (Int32.ofNat (znm B T (zsk B T a)))) 9 (Int32.ofNat (1 + 8 * zsk B T a + 1)))) else (0, hf_ui (hf_ui V 8 (Int32.ofNat (zsk B T a))) 9 (Int32.ofNat (1 + 8 * zsk B T a + 0)))) := by
  have hT := H.1
  obtain ⟨s1, s2⟩ := zsk_le (B := B) ha
  obtain ⟨w1, w2⟩ := zde_le (B := B) (T := T) s2
  have h8' : (hf_ui V 8 (Int32.ofNat (zsk B T a))).1 8 = Int32.ofNat (zsk B T a) := hf_ui_at _ _ _
  have h9' : (hf_ui V 8 (Int32.ofNat (zsk B T a))).1 9 = 0 := by rw [hf_ui_ne _ (by decide), h9]
  unfold spX4_numberHere
  rw [m_see H h8 ha, hf_b2_some, h8', m_isDigit (H.ui (by decide) _) s2, hf_b2_some, h8']
  by_cases e : zdg B T (zsk B T a)
  · rw [if_pos e, if_pos e, if_neg (show ¬ (Int32.ofNat 1 = 0) by decide), hf_let_eq]
    have key := m_numL H (p := zsk B T a) s2 lo hi _ (zsk B T a) _ hf_N rfl h9 rfl (Nat.le_refl _) w1 (by unfold hf_N; omega)
    rw [Nat.sub_self] at key
    exact key
  · have hfl : spX4_fails (0 : Int32) (Int32.ofNat (zsk B T a)) (hf_ui V 8 (Int32.ofNat (zsk B T a))) = some (0, hf_ui (hf_ui V 8 (Int32.ofNat (zsk B T a))) 9 (Int32.ofNat (1 + 8 * zsk B T a + 0))) := m_fails0 h9' 0 _
    rw [if_neg e, if_neg e, if_pos (show Int32.ofNat 0 = 0 from rfl), hfl, hf_b2_some, if_pos (Or.inl rfl)]
end ZM
set_option maxRecDepth 100000
set_option maxHeartbeats 1000000
/-! texts: words and numbers, HalfFair -/
/-- HalfFair's tape, its wrong -/
def hf_ta (g : hf_H) (o : Nat) (B : Nat → Nat) (T : Nat) : Prop := T ≤ 400 ∧ (∀ k, k < 400 → B k < 256) ∧ (∃ XV, hf_ob 1 0 g o = some XV ∧ XV.1 6 = Int32.ofNat T ∧ (∀ k, k < 400 → XV.2.2.2.1 5 k = zbyt (B k)) ∧ XV.2.2.1 4 = some (o + 19)) ∧ ∃ WV, hf_ob 0 3 g (o + 19) = some WV
/-- the parser -/
def hf_px (g : hf_H) (pa o : Nat) (PV : hf_V) (B : Nat → Nat) (T : Nat) : Prop := hf_ta g o B T ∧ hf_ob 0 5 g pa = some PV ∧ PV.2.2.1 6 = some o
def hf_pc (g : hf_H) (pa : Nat) (PV : hf_V) : hf_H := hf_up g pa (.inl (0, 5, PV))
theorem hf_pc_pc (g : hf_H) (pa : Nat) (A B : hf_V) : hf_pc (hf_pc g pa A) pa B = hf_pc g pa B := hf_up_up g pa _ _
/-- a text at l -/
def hf_sr (g : hf_H) (l : Nat) (W : List Nat) : Prop := ∃ v x y f, g.1 l = some (.inr (.inr (some v, x))) ∧ g.1 v = some (.inr (.inr (y, some (.byte, W.length, .inl f)))) ∧ ∀ k, k < W.length → f k = Int32.ofNat (W.getD k 0)
section ZX
variable {g : hf_H} {pa o : Nat} {PV : hf_V} {B : Nat → Nat} {T a : Nat}
theorem hf_ta.up (H : hf_ta g o B T) {q md ci : Nat} {V V' : hf_V} (e : hf_ob md ci g q = some V) (h1 : ¬ (md = 1 ∧ ci = 0)) (h2 : ¬ (md = 0 ∧ ci = 3)) : hf_ta (hf_up g q (.inl (md, ci, V'))) o B T := by
  obtain ⟨t1, t2, ⟨XV, t3, t4, t5, t6⟩, WV, t7⟩ := H
  have n1 : o ≠ q := fun z => by
    subst z
    have := (hf_ob_spec t3).symm.trans (hf_ob_spec e)
    cases this
    exact h1 ⟨rfl, rfl⟩
  have n2 : o + 19 ≠ q := fun z => by
    rw [z] at t7
    have := (hf_ob_spec t7).symm.trans (hf_ob_spec e)
    cases this
    exact h2 ⟨rfl, rfl⟩
  exact ⟨t1, t2, ⟨XV, by rw [hf_ob_ne n1]; exact t3, t4, t5, t6⟩, WV, by rw [hf_ob_ne n2]; exact t7⟩
theorem hf_px.pc (H : hf_px g pa o PV B T) {PV' : hf_V} (h : PV'.2.2.1 6 = PV.2.2.1 6) : hf_px (hf_pc g pa PV') pa o PV' B T := ⟨H.1.up H.2.1 (by decide) (by decide), hf_ob_up g pa 0 5 PV', by rw [h]; exact H.2.2⟩
theorem hf_px.pob (H : hf_px g pa o PV B T) {τ : Type} (K : Option τ) : ((hf_ob 0 5 g pa).bind fun _ => K) = K := by
  rw [H.2.1]; rfl
theorem hf_px.self (H : hf_px g pa o PV B T) : hf_pc g pa PV = g := hf_up_self H.2.1
theorem hf_px.gi (H : hf_px g pa o PV B T) (k : Nat) : hf_gi 0 5 k g pa = some (PV.1 k) := by
  unfold hf_gi
  rw [H.2.1]; rfl
theorem hf_px.gio (H : hf_px g pa o PV B T) : hf_ga 0 5 6 g pa = some o := by
  unfold hf_ga
  rw [H.2.1, Option.bind_some, H.2.2]
theorem hf_px.pi (H : hf_px g pa o PV B T) (k : Nat) (x : Int32) : hf_pi 0 5 k g pa x = some (hf_pc g pa (hf_ui PV k x)) := by
  unfold hf_pi
  rw [H.2.1]; rfl
theorem hf_px.oob (H : hf_px g pa o PV B T) {τ : Type} (K : Option τ) : ((hf_ob 1 0 g o).bind fun _ => K) = K := by
  obtain ⟨_, _, ⟨XV, t3, _⟩, _⟩ := H.1
  rw [t3]; rfl
theorem hf_px.tm (H : hf_px g pa o PV B T) : hf_gi 1 0 6 g o = some (Int32.ofNat T) := by
  obtain ⟨_, _, ⟨XV, t3, t4, _⟩, _⟩ := H.1
  rw [hf_gi_eq t3, t4]
theorem hf_px.tape (H : hf_px g pa o PV B T) {k : Nat} (hk : k < 400) : hf_ai 0 5 400 g o (Int32.ofNat k) = some (zbyt (B k)) := by
  obtain ⟨_, _, ⟨XV, t3, _, t5, _⟩, _⟩ := H.1
  rw [hf_ai_eq t3, z_ld hk (by omega), t5 k hk]
theorem hf_px.T4 (H : hf_px g pa o PV B T) : T ≤ 400 := H.1.1
theorem hf_px.b (H : hf_px g pa o PV B T) {k : Nat} (hk : k < 400) : B k < 256 := H.1.2.1 k hk
theorem x_sign (H : hf_px g pa o PV B T) (h1 : PV.1 1 = Int32.ofNat a) (ha : a ≤ T) : spX5_sign pa g = some (zch B T a, g) := by
  have hT := H.T4
  unfold spX5_sign zch
  rw [H.gi, Option.bind_some, H.gio, Option.bind_some, H.tm, Option.bind_some, h1]
  by_cases e : a < T
  · rw [if_neg (z_nle e (by omega)), Option.bind_some, H.oob, Option.bind_some, H.tape (by omega), Option.bind_some, zbyt_and _ (H.b (by omega)), if_pos e]
  · rw [if_pos (z_yle (by omega) (by omega)), if_neg e]
theorem zch_32 {B : Nat → Nat} {T a : Nat} (hb : a < T → B a < 256) : (zch B T a = (32 : Int32)) ↔ a < T ∧ B a = 32 := by
  unfold zch
  by_cases e : a < T
  · rw [if_pos e]
    have := hb e
    exact ⟨fun h => ⟨e, (z_eq (b := 32) (by omega) (by decide)).mp h⟩, fun h => by rw [h.2]; rfl⟩
  · rw [if_neg e]
    exact ⟨fun h => absurd h (by decide), fun h => absurd h.1 e⟩
theorem x_nextL (o : Nat) (B : Nat → Nat) (T : Nat) (pa : Nat) : ∀ n a g PV fuel, hf_px g pa o PV B T → PV.1 1 = Int32.ofNat a → a ≤ T → T - a = n → n < fuel → lpX5_next_0 fuel pa g = some (zch B T (zsk B T a), hf_pc g pa (hf_ui PV 1 (Int32.ofNat (zsk B T a))))
  | n, a, g, PV, 0, _, _, _, _, hf => by omega
  | n, a, g, PV, fuel + 1, H, h1, ha, hn, hf => by
    have hT := H.T4
    show ndX5_next_0 (lpX5_next_0 fuel) pa g = _
    unfold ndX5_next_0
    rw [H.pob, x_sign H h1 ha, hf_b2_some]
    by_cases e : a < T
    · rw [zsk_step e]
      by_cases e2 : B a = 32
      · have a1 : Int32.ofNat a + (1 : Int32) = Int32.ofNat (a + 1) := z_add a 1
        rw [if_pos ((zch_32 (fun _ => H.b (by omega))).mpr ⟨e, e2⟩), if_pos e2, H.gi, Option.bind_some, h1, a1, H.pi, Option.bind_some]
        have ih := x_nextL o B T pa (n - 1) (a + 1) _ _ fuel (H.pc (PV' := hf_ui PV 1 (Int32.ofNat (a + 1))) rfl) (hf_ui_at _ _ _) (by omega) (by omega) (by omega)
        rw [hf_pc_pc, hf_ui_ui] at ih
        exact ih
      · rw [if_neg (fun z => e2 ((zch_32 (fun _ => H.b (by omega))).mp z).2), if_neg e2, H.pob, x_sign H h1 ha, hf_b2_some, hf_ui_self h1, H.self]
    · have : a = T := by omega
      subst this
      rw [if_neg (fun z => e ((zch_32 (fun h => absurd h e)).mp z).1), zsk_end, H.pob, x_sign H h1 ha, hf_b2_some, hf_ui_self h1, H.self]
theorem x_next (H : hf_px g pa o PV B T) (h1 : PV.1 1 = Int32.ofNat a) (ha : a ≤ T) : spX5_next pa g = some (zch B T (zsk B T a), hf_pc g pa (hf_ui PV 1 (Int32.ofNat (zsk B T a)))) := by
  have := H.T4
  exact x_nextL o B T pa (T - a) a g PV hf_N H h1 ha rfl (by unfold hf_N; omega)
theorem x_isDigit (H : hf_px g pa o PV B T) (h1 : PV.1 1 = Int32.ofNat a) (ha : a ≤ T) : spX5_isDigit pa g = some (Int32.ofNat (if zdg B T a then 1 else 0), g) := by
  have hT := H.T4
  unfold spX5_isDigit
  rw [H.pob, x_sign H h1 ha, hf_b2_some]
  unfold zch
  by_cases e : a < T
  · rw [if_pos e, z_in48 _ (H.b (by omega)), Option.bind_some]
    by_cases d : 48 ≤ B a ∧ B a ≤ 57
    · rw [if_pos d, if_pos (show zdg B T a from ⟨e, d⟩), if_pos (Or.inr rfl)]; rfl
    · rw [if_neg d, if_neg (show ¬ zdg B T a from fun z => d z.2), if_pos (Or.inl rfl)]; rfl
  · rw [if_neg e, z_in48m, Option.bind_some, if_neg (show ¬ zdg B T a from fun z => e z.1), if_pos (Or.inl rfl)]; rfl
end ZX
section ZS
variable {g : hf_H} {l : Nat} {W : List Nat} {gs : hf_gs}
theorem hf_sr.st (H : hf_sr g l W) : ∃ v, hf_st g l = some v ∧ ∃ y f, g.1 v = some (.inr (.inr (y, some (.byte, W.length, .inl f)))) ∧ ∀ k, k < W.length → f k = Int32.ofNat (W.getD k 0) := by
  obtain ⟨v, x, y, f, h1, h2, h3⟩ := H
  refine ⟨v, ?_, y, f, h2, h3⟩
  unfold hf_st
  rw [h1]
theorem hf_sr.stb (H : hf_sr g l W) {τ : Type} (K : Option τ) : ((hf_st g l).bind fun _ => K) = K := by
  obtain ⟨v, h, _⟩ := H.st
  rw [h]; rfl
theorem z_shr0 {n : Nat} (h : n < 2147483648) : Int32.ofNat n >>> ((0 : Int32) &&& 31) = Int32.ofNat n := z_shr (k := 0) (by decide) h
theorem x_len (H : hf_sr g l W) (hW : W.length < 1000) : spJ5_length l g = some (Int32.ofNat W.length, g) := by
  obtain ⟨v, h, y, f, h2, h3⟩ := H.st
  unfold spJ5_length spJ5_coder
  have hp : hf_pal .byte g v = some (Int32.ofNat W.length) := by
    unfold hf_pal hf_pa
    rw [h2]
    simp
  have hn : narrow .byte (.int (0 : Int32)) = .int (0 : Int32) := by decide
  rw [h, Option.bind_some, hp, Option.bind_some, Option.bind_some, if_neg (by decide), Option.bind_some, if_pos hn, hf_b2_some, z_shr0 (by omega)]
theorem z_char : ∀ n, n < 128 → UInt32.toInt32 (Int32.toUInt32 (Int32.ofNat n &&& (255 : Int32)) % 65536) = Int32.ofNat n := by decide
theorem z_charn : ∀ n, n < 128 → narrow .char (.int (Int32.ofNat n)) = .int (Int32.ofNat n) := by decide
theorem x_charAt (H : hf_sr g l W) (hW : W.length < 1000) {k : Nat} (hk : k < W.length) (hb : W.getD k 0 < 128) : spJ5_charAt gs l (Int32.ofNat k) g = some (Int32.ofNat (W.getD k 0), g) := by
  obtain ⟨v, h, y, f, h2, h3⟩ := H.st
  unfold spJ5_charAt spJ5_isLatin1 spJ6_charAt spJ5_checkIndex
  have hp : hf_pal .byte g v = some (Int32.ofNat W.length) := by
    unfold hf_pal hf_pa
    rw [h2]
    simp
  have hi : hf_pai .byte g v (Int32.ofNat k) = some (Int32.ofNat (W.getD k 0)) := by
    unfold hf_pai hf_pa
    rw [h2]
    simp only [if_true, Option.bind_some]
    rw [z_ld hk (by omega), h3 k hk]
  have hx : spJ7_checkIndex (Int32.ofNat k) (Int32.ofNat W.length) (gs.1 3) = some (Int32.ofNat k) := by
    unfold spJ7_checkIndex
    rw [if_neg (z_n0 k (by omega)), if_pos ((z_lt (by omega) (by omega)).mpr hk)]
  rw [h, Option.bind_some, if_neg (by decide), Option.bind_some, if_pos rfl, hf_b2_some, if_neg (by decide), h, Option.bind_some, hp, Option.bind_some, hx, Option.bind_some, Option.bind_some, hi, Option.bind_some, z_char _ hb, if_pos (z_charn _ hb), hf_b2_some, if_pos (z_charn _ hb)]
end ZS
