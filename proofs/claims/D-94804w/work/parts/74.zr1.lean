set_option maxRecDepth 100000
set_option maxHeartbeats 1000000
/-! rules' codes: a stack machine; the model reckons so -/
def zone (s : Nat) (x y : Int64) : Int64 := (spX4_one (Int32.ofNat s) x y).getD 0
theorem zone_ok (s : Nat) (x y : Int64) : spX4_one (Int32.ofNat s) x y = some (zone s x y) := by
  have key : ∀ c : Int32, ∃ r, spX4_one c x y = some r := by
    intro c
    have h0 : ∀ r : Int64, ∃ q, (if (lg_cmp y (0 : Int64)) = 0 then (some (0 : Int64)) else if y = 0 then none else some r) = some q := by
      intro r
      by_cases e : y = 0
      · rw [if_pos ((lg_cmp_eq _ _).mpr e)]; exact ⟨_, rfl⟩
      · rw [if_neg (fun z => e ((lg_cmp_eq _ _).mp z)), if_neg e]; exact ⟨_, rfl⟩
    have h1 : ∀ (p : Prop) [Decidable p] (a b : Option Int64), (∃ q, a = some q) → (∃ q, b = some q) → ∃ q, (if p then a else b) = some q := by
      intro p _ a b ha hb
      split
      · exact ha
      · exact hb
    unfold spX4_one ndX4_one_172
    repeat' first | exact ⟨_, rfl⟩ | exact h0 _ | apply h1
  obtain ⟨r, hr⟩ := key (Int32.ofNat s)
  unfold zone
  rw [hr]
  rfl
def zrun (wd : Nat → Int64) : List Nat → List Int64 → Option (List Int64)
  | [], st => some st
  | c :: r, st =>
    if c % 16 = 0 then zrun wd r ((Int32.ofNat (c / 16)).toInt64 :: st) else
    if c % 16 = 1 then zrun wd r (wd (c / 16) :: st) else
    if c % 16 = 11 then (match st with
      | x :: st' => zrun wd r ((1 - x) :: st')
      | [] => none) else
    match st with
      | y :: x :: st' => zrun wd r (zone (c % 16) x y :: st')
      | _ => none
theorem zrun_app (wd : Nat → Int64) : ∀ (a b : List Nat) (st : List Int64), zrun wd (a ++ b) st = (zrun wd a st).bind (zrun wd b)
  | [], b, st => rfl
  | c :: r, b, st => by
    rw [List.cons_append]
    unfold zrun
    split
    · exact zrun_app wd r b _
    · split
      · exact zrun_app wd r b _
      · split
        · cases st with
          | nil => rfl
          | cons x st' => exact zrun_app wd r b _
        · match st with
          | [] => rfl
          | [_] => rfl
          | y :: x :: st' => exact zrun_app wd r b _
/-- leaves: how much may be pushed -/
def zlv : List Nat → Nat
  | [] => 0
  | c :: r => (if c % 16 ≤ 1 then 1 else 0) + zlv r
theorem zlv_app : ∀ a b, zlv (a ++ b) = zlv a + zlv b
  | [], b => by simp [zlv]
  | c :: r, b => by
    show (if c % 16 ≤ 1 then 1 else 0) + zlv (r ++ b) = (if c % 16 ≤ 1 then 1 else 0) + zlv r + zlv b
    rw [zlv_app r b]
    omega
/-- the stack's cells -/
def zstk (A : Nat → Int64) : List Int64 → Prop
  | [] => True
  | x :: r => A r.length = x ∧ zstk A r
theorem zstk_up (A : Nat → Int64) (n : Nat) (x : Int64) : ∀ st : List Int64, st.length ≤ n → zstk A st → zstk (zup A n x) st
  | [], _, _ => trivial
  | y :: r, h, ⟨h1, h2⟩ => by
    have h3 : r.length + 1 ≤ n := h
    refine ⟨?_, zstk_up A n x r (by omega) h2⟩
    rw [zup_ne _ (by omega)]
    exact h1
/-- the model with a stack A of n -/
def hf_sk (V : hf_V) (A : Nat → Int64) (n : Nat) : hf_V := (fun j => if j = 18 then Int32.ofNat n else V.1 j, V.2.1, V.2.2.1, V.2.2.2.1, fun j => if j = 17 then A else V.2.2.2.2.1 j, V.2.2.2.2.2)
theorem hf_sk_sk (V : hf_V) (A B : Nat → Int64) (m n : Nat) : hf_sk (hf_sk V A m) B n = hf_sk V B n := by
  unfold hf_sk
  refine Prod.ext ?_ (Prod.ext rfl (Prod.ext rfl (Prod.ext rfl (Prod.ext ?_ rfl))))
  · funext j
    by_cases e : j = 18 <;> simp [e]
  · funext j
    by_cases e : j = 17 <;> simp [e]
theorem m_push (V : hf_V) (A : Nat → Int64) {n : Nat} (hn : n < 64) (x : Int64) : spX4_push x (hf_sk V A n) = some (hf_sk V (zup A n x) (n + 1)) := by
  unfold spX4_push
  have h1 : (hf_sk V A n).1 18 = Int32.ofNat n := rfl
  rw [h1, z_sd hn (by omega), hf_let_eq]
  congr 1
  unfold hf_sk hf_ui hf_uL zup
  refine Prod.ext ?_ (Prod.ext rfl (Prod.ext rfl (Prod.ext rfl (Prod.ext ?_ rfl))))
  · funext j
    by_cases e : j = 18
    · simp only [e, if_true]
      rw [z_lit, z_add]
    · simp [e]
  · funext j
    by_cases e : j = 17 <;> simp [e]
theorem m_pop (V : hf_V) (A : Nat → Int64) {n : Nat} (hn : n < 64) : spX4_pop (hf_sk V A (n + 1)) = some (A n, hf_sk V A n) := by
  unfold spX4_pop
  have h1 : hf_ui (hf_sk V A (n + 1)) 18 ((hf_sk V A (n + 1)).1 18 - 1) = hf_sk V A n := by
    have h2 : (hf_sk V A (n + 1)).1 18 = Int32.ofNat (n + 1) := rfl
    rw [h2, z_lit, z_sub (b := 1) (by omega)]
    unfold hf_sk hf_ui
    refine Prod.ext ?_ rfl
    funext j
    by_cases e : j = 18
    · simp [e]
    · simp [e]
  rw [h1, hf_let_eq]
  have h2 : (hf_sk V A n).1 18 = Int32.ofNat n := rfl
  have h3 : (hf_sk V A n).2.2.2.2.1 17 = A := rfl
  rw [h2, h3, z_ld hn (by omega), Option.bind_some]
/-- codes from place i on, of text t -/
def zcds (V : hf_V) (t i : Nat) (c : List Nat) : Prop := ∀ k, k < c.length → V.2.2.2.1 3 (400 * t + (i + k)) = Int32.ofNat (c.getD k 0) ∧ c.getD k 0 < 16777216 ∧ (c.getD k 0 % 16 = 1 → c.getD k 0 / 16 < 13)
theorem m_reckons {V : hf_V} {t b : Nat} {c : List Nat} {x : Int64} (hc : zcds V t b c) (ht : t ≤ 5) (hb : b + c.length ≤ 400) (hl : zlv c ≤ 60) (hx : zrun (V.2.2.2.2.1 19) c [] = some [x]) : ∃ A n, spX4_reckons (Int32.ofNat t) (Int32.ofNat b) (Int32.ofNat (b + c.length)) V = some (x, hf_sk V A n) := by
  unfold spX4_reckons
  have h0 : hf_ui V 18 0 = hf_sk V (V.2.2.2.2.1 17) 0 := by
    unfold hf_ui hf_sk
    refine Prod.ext ?_ (Prod.ext rfl (Prod.ext rfl (Prod.ext rfl (Prod.ext ?_ rfl))))
    · funext j
      by_cases e : j = 18
      · simp only [e, if_true]; rfl
      · simp [e]
    · funext j
      by_cases e : j = 17 <;> simp [e]
  rw [hf_let_eq, h0]
  refine hf_loopR (fun f k (s : (Nat → Int64) × List Int64) => lpX4_reckons_8 f (Int32.ofNat t) (Int32.ofNat (b + c.length)) (Int32.ofNat (b + k)) (hf_sk V s.1 s.2.length)) (fun k s => zstk s.1 s.2 ∧ zrun (V.2.2.2.2.1 19) (c.drop k) s.2 = some [x] ∧ s.2.length + zlv (c.drop k) ≤ 60) c.length (fun r => ∃ A n, r = some (x, hf_sk V A n)) (fun k f s hk hP => ?_) (fun f s hP => ?_) (V.2.2.2.2.1 17, []) ⟨trivial, hx, by simpa using hl⟩ (fuel := hf_N) (by unfold hf_N; omega)
  · obtain ⟨A, st⟩ := s
    obtain ⟨p1, p2, p3⟩ := hP
    simp only at p1 p2 p3
    obtain ⟨c1, c2, c3⟩ := hc k hk
    have hd : c.drop k = c.getD k 0 :: c.drop (k + 1) := by
      rw [List.drop_eq_getElem_cons hk]
      simp [hk]
    rw [hd] at p2 p3
    generalize c.getD k 0 = w at *
    unfold zrun at p2
    unfold zlv at p3
    have hm : w &&& 15 = w % 16 := Nat.and_two_pow_sub_one_eq_mod w 4
    have hs : w >>> 4 = w / 16 := Nat.shiftRight_eq_div_pow w 4
    have hw : w % 16 < 16 := Nat.mod_lt _ (by decide)
    have hw2 : w / 16 < 16777216 := by omega
    have hl3 : (hf_sk V A st.length).2.2.2.1 3 (400 * t + (b + k)) = Int32.ofNat w := c1
    have hwd : (hf_sk V A st.length).2.2.2.2.1 19 = V.2.2.2.2.1 19 := rfl
    have hnd : lpX4_reckons_8 (f + 1) (Int32.ofNat t) (Int32.ofNat (b + c.length)) (Int32.ofNat (b + k)) (hf_sk V A st.length) = ndX4_reckons_8 (lpX4_reckons_8 f) (Int32.ofNat t) (Int32.ofNat (b + c.length)) (Int32.ofNat (b + k)) (hf_sk V A st.length) := rfl
    have hn1 : ∀ B m, ndX4_reckons_129 (lpX4_reckons_8 f) (Int32.ofNat t) (Int32.ofNat (b + c.length)) (Int32.ofNat (b + k)) (hf_sk V B m) = lpX4_reckons_8 f (Int32.ofNat t) (Int32.ofNat (b + c.length)) (Int32.ofNat (b + (k + 1))) (hf_sk V B m) := fun B m => by
      unfold ndX4_reckons_129
      rw [hf_let_eq, z_lit, z_add, Nat.add_assoc]
    show ∃ s' : (Nat → Int64) × List Int64, lpX4_reckons_8 (f + 1) (Int32.ofNat t) (Int32.ofNat (b + c.length)) (Int32.ofNat (b + k)) (hf_sk V A st.length) = lpX4_reckons_8 f (Int32.ofNat t) (Int32.ofNat (b + c.length)) (Int32.ofNat (b + (k + 1))) (hf_sk V s'.1 s'.2.length) ∧ zstk s'.1 s'.2 ∧ zrun (V.2.2.2.2.1 19) (c.drop (k + 1)) s'.2 = some [x] ∧ s'.2.length + zlv (c.drop (k + 1)) ≤ 60
    rw [hnd]
    unfold ndX4_reckons_8
    rw [if_neg (z_nle (by omega) (by omega))]
    have e1 : (400 : Int32) * Int32.ofNat t + Int32.ofNat (b + k) = Int32.ofNat (400 * t + (b + k)) := by rw [z_lit, z_mul, z_add]
    have e2 : Int32.ofNat w &&& (15 : Int32) = Int32.ofNat (w % 16) := by rw [z_lit, z_and, hm]
    have e3 : Int32.ofNat w >>> ((4 : Int32) &&& 31) = Int32.ofNat (w / 16) := by
      have := z_shr (a := w) (k := 4) (by decide) (by omega)
      rw [hs] at this
      exact this
    rw [e1, z_ld (by omega) (by omega), hl3, Option.bind_some, hf_let_eq, Option.bind_some, hf_let_eq, e2, e3]
    have q0 : (Int32.ofNat (w % 16) = 0) ↔ w % 16 = 0 := z_eq (b := 0) (by omega) (by decide)
    have q1 : (Int32.ofNat (w % 16) = 1) ↔ w % 16 = 1 := z_eq (b := 1) (by omega) (by decide)
    have q11 : (Int32.ofNat (w % 16) = 11) ↔ w % 16 = 11 := z_eq (b := 11) (by omega) (by decide)
    by_cases g0 : w % 16 = 0
    · rw [if_pos g0] at p2
      rw [if_pos (by omega)] at p3
      rw [if_pos (q0.mpr g0), m_push V A (by omega), Option.bind_some, hn1]
      exact ⟨(zup A st.length (Int32.ofNat (w / 16)).toInt64, (Int32.ofNat (w / 16)).toInt64 :: st), rfl, ⟨zup_at _ _ _, zstk_up A _ _ st (Nat.le_refl _) p1⟩, p2, by show st.length + 1 + _ ≤ _; omega⟩
    rw [if_neg g0] at p2
    rw [if_neg (fun z => g0 (q0.mp z))]
    by_cases g1 : w % 16 = 1
    · rw [if_pos g1] at p2
      rw [if_pos (by omega)] at p3
      rw [if_pos (q1.mpr g1), hwd, z_ld (c3 g1) (by omega), Option.bind_some, m_push V A (by omega), Option.bind_some, hn1]
      exact ⟨(zup A st.length (V.2.2.2.2.1 19 (w / 16)), V.2.2.2.2.1 19 (w / 16) :: st), rfl, ⟨zup_at _ _ _, zstk_up A _ _ st (Nat.le_refl _) p1⟩, p2, by show st.length + 1 + _ ≤ _; omega⟩
    rw [if_neg g1] at p2
    rw [if_neg (fun z => g1 (q1.mp z))]
    rw [if_neg (by omega)] at p3
    by_cases g2 : w % 16 = 11
    · rw [if_pos g2] at p2
      rw [if_pos (q11.mpr g2)]
      match st, p1, p2, p3 with
      | y :: r, p1, p2, p3 =>
        have hr : (y :: r).length = r.length + 1 := rfl
        rw [hr] at p3
        rw [hr, m_pop V A (by omega), hf_b2_some, p1.1, m_push V A (by omega), Option.bind_some, hn1]
        exact ⟨(zup A r.length (1 - y), (1 - y) :: r), rfl, ⟨zup_at _ _ _, zstk_up A _ _ r (Nat.le_refl _) p1.2⟩, p2, by show r.length + 1 + _ ≤ _; omega⟩
    rw [if_neg g2] at p2
    rw [if_neg (fun z => g2 (q11.mp z))]
    match st, p1, p2, p3 with
    | y :: z :: r, p1, p2, p3 =>
      have hr : (y :: z :: r).length = r.length + 1 + 1 := rfl
      rw [hr] at p3
      rw [hr, m_pop V A (by omega), hf_b2_some, m_pop V A (by omega), hf_b2_some, zone_ok, Option.bind_some, m_push V A (by omega), Option.bind_some, hn1]
      have a1 : A (r.length + 1) = y := p1.1
      have a2 : A r.length = z := p1.2.1
      rw [a1, a2]
      exact ⟨(zup A r.length (zone (w % 16) z y), zone (w % 16) z y :: r), rfl, ⟨zup_at _ _ _, zstk_up A _ _ r (Nat.le_refl _) p1.2.2⟩, p2, by show r.length + 1 + _ ≤ _; omega⟩
  · obtain ⟨A, st⟩ := s
    obtain ⟨p1, p2, p3⟩ := hP
    simp only at p1 p2 p3
    rw [List.drop_length] at p2
    have e : st = [x] := by
      unfold zrun at p2
      exact Option.some.inj p2
    subst e
    refine ⟨A, 0, ?_⟩
    show ndX4_reckons_8 (lpX4_reckons_8 f) (Int32.ofNat t) (Int32.ofNat (b + c.length)) (Int32.ofNat (b + c.length)) (hf_sk V A (0 + 1)) = _
    unfold ndX4_reckons_8
    rw [if_pos (z_yle (Nat.le_refl _) (by omega)), m_pop V A (by omega), hf_b2_some, show A 0 = x from p1.1]
