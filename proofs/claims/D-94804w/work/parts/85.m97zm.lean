set_option maxRecDepth 100000
set_option maxHeartbeats 1000000
/-! lists grow -/
/-- a list and its array change, one cell is made at most -/
def hf_lk (l d n : Nat) (h g : hf_H) : Prop := (∀ q, q < h.2.1 → q ≠ l → q ≠ d → g.1 q = h.1 q) ∧ h.2.1 ≤ g.2.1 ∧ g.2.1 ≤ h.2.1 + 1 ∧ g.2.2 ≤ h.2.2 + (2 * n + 2) ∧ hf_no g
theorem okv_ob {h : hf_H} {y md ci : Nat} {V : hf_V} (e : hf_ob md ci h y = some V) (hc : ci < 20) : hf_okv h y = true := by
  have h1 : ∀ ci, ci < 20 → (hf_cl[ci]?).isSome = true := by decide
  unfold hf_okv
  rw [hf_ob_spec e]
  exact h1 ci hc
theorem okv_eq {h g : hf_H} {y : Nat} (e : hf_okv h y = true) (k : g.1 y = h.1 y) : hf_okv g y = true := by
  unfold hf_okv at e ⊢
  rw [k]
  exact e
theorem okv_up {h : hf_H} {l y md ci : Nat} {V V' : hf_V} (e : hf_ob md ci h l = some V) (k : hf_okv h y = true) : hf_okv (hf_up h l (.inl (md, ci, V'))) y = true := by
  by_cases hy : y = l
  · subst hy
    unfold hf_okv at k ⊢
    rw [hf_ob_spec e] at k
    unfold hf_up
    simp only [if_true]
    exact k
  · refine okv_eq k ?_
    unfold hf_up
    exact if_neg hy
theorem okv_upA {h : hf_H} {d y : Nat} {r x : hf_A} (e : h.1 d = some (.inr (.inl r))) (k : hf_okv h y = true) : hf_okv (hf_up h d (.inr (.inl x))) y = true := by
  by_cases hy : y = d
  · subst hy
    unfold hf_okv at k
    rw [e] at k
    cases k
  · refine okv_eq k ?_
    unfold hf_up
    exact if_neg hy
theorem up_at (h : hf_H) (a : Nat) (x : hf_C) : (hf_up h a x).1 a = some x := if_pos rfl
theorem up_ne {h : hf_H} {a q : Nat} (x : hf_C) (hq : q ≠ a) : (hf_up h a x).1 q = h.1 q := if_neg hq
theorem nw_lt {h : hf_H} {q : Nat} (x : hf_C) (n : Nat) (hq : q < h.2.1) : (hf_nw h x n).1 q = h.1 q := if_neg (by omega)
theorem nw_at (h : hf_H) (x : hf_C) (n : Nat) : (hf_nw h x n).1 h.2.1 = some x := if_pos rfl
/-- an element is laid behind the last -/
theorem x_add11 {gs : hf_gs} {g : hf_H} {l y x n N : Nat} {LW : hf_V} {B : Nat → Option Nat} (e : hf_ob 0 19 g l = some LW) (A : hf_Ar g x N B) (hn : n < N) (hN : N < 100000) (ok : hf_okv g y = true) : ndJ2_add_2_11 gs l y x (Int32.ofNat n) g = some (hf_up (hf_up g x (.inr (.inl (0, .object "java/lang/Object", N, .inr (.inr fun j => if j = n then some y else B j))))) l (.inl (0, 19, hf_ui LW 2 (Int32.ofNat (n + 1))))) := by
  have hne : l ≠ x := fun z => by
    subst z
    have := hf_ob_spec e
    unfold hf_Ar at A
    rw [A] at this
    cases this
  have hcl : (Int32.ofNat n).toNatClampNeg = n := z_cl (by omega)
  have h0 : ¬ (Int32.ofNat n < 0) := z_n0 _ (by omega)
  have a1 : Int32.ofNat n + (1 : Int32) = Int32.ofNat (n + 1) := z_add n 1
  unfold ndJ2_add_2_11
  rw [if_pos ok]
  unfold hf_psq
  rw [A]
  simp only [hcl]
  rw [if_pos ⟨trivial, trivial, fun z => by
    rcases z with z | z
    · exact h0 z
    · omega⟩, Option.bind_some, a1, hf_pi_eq (V := LW) (by rw [hf_ob_ne hne]; exact e), Option.bind_some]
/-- the array grows -/
theorem x_grow2 {gs : hf_gs} {g : hf_H} {l d N : Nat} {LW : hf_V} {B : Nat → Option Nat} (No : hf_no g) (e : hf_ob 0 19 g l = some LW) (hd : LW.2.2.1 1 = some d) (hz : LW.1 2 = Int32.ofNat N) (A : hf_Ar g d N B) (h2 : 2 ≤ N) (hN : N < 1000) (hok : ∀ k, k < N → ∀ z, B k = some z → hf_okv g z = true) : ∃ B', spJ2_grow gs l g = some (g.2.1, hf_up (hf_up (hf_nw g (.inr (.inl (0, .object "java/lang/Object", N + max 1 (N / 2), .inr (.inr fun _ => none)))) (N + max 1 (N / 2))) g.2.1 (.inr (.inl (0, .object "java/lang/Object", N + max 1 (N / 2), .inr (.inr B'))))) l (.inl (0, 19, hf_uq LW 1 (some g.2.1)))) ∧ ∀ k, k < N → B' k = B k := by
  have hlt : l < g.2.1 := No.olt e
  have hdt : d < g.2.1 := No.lt A
  have ob1 : ∀ (τ : Type) (K : Option τ), ((hf_ob 0 19 g l).bind fun _ => K) = K := fun τ K => by
    rw [e]
    rfl
  have a1 : Int32.ofNat N + (1 : Int32) = Int32.ofNat (N + 1) := z_add N 1
  have a2 : Int32.ofNat (N + 1) - Int32.ofNat N = Int32.ofNat 1 := by
    rw [z_sub (by omega), show N + 1 - N = 1 by omega]
  have a3 : Int32.ofNat N >>> ((1 : Int32) &&& 31) = Int32.ofNat (N / 2) := z_shr (k := 1) (by decide) (by omega)
  have hmx : (if Int32.ofNat 1 < Int32.ofNat (N / 2) then Int32.ofNat (N / 2) else Int32.ofNat 1) = Int32.ofNat (max 1 (N / 2)) := by
    by_cases c : 1 < N / 2
    · rw [if_pos ((z_lt (by omega) (by omega)).mpr c), Nat.max_eq_right (by omega)]
    · rw [if_neg (fun z => c ((z_lt (by omega) (by omega)).mp z)), Nat.max_eq_left (by omega)]
  obtain ⟨M, hM⟩ : ∃ M, M = N + max 1 (N / 2) := ⟨_, rfl⟩
  have hNM : N < M ∧ M < 2000 := by
    rw [hM]
    rcases Nat.le_total 1 (N / 2) with h | h
    · rw [Nat.max_eq_right h]; omega
    · rw [Nat.max_eq_left h]; omega
  have hnew : spJ10_newLength (Int32.ofNat N) (Int32.ofNat 1) (Int32.ofNat (N / 2)) = some (Int32.ofNat M) := by
    unfold spJ10_newLength
    rw [hf_let_eq, hmx, z_add, ← hM, hf_let_eq, if_neg (show ¬ Int32.ofNat M ≤ (0 : Int32) from z_nle (b := 0) (by omega) (by omega)), if_neg (fun z => by
      have := (z_lt (a := 2147483639) (by decide) (by omega)).mp z
      omega)]
  obtain ⟨g3, hg3⟩ : ∃ y, y = hf_nw g (.inr (.inl (0, .object "java/lang/Object", M, .inr (.inr fun _ => none)))) M := ⟨_, rfl⟩
  have A3 : hf_Ar g3 d N B := by
    unfold hf_Ar
    rw [hg3, nw_lt _ _ hdt]
    exact A
  have A3n : hf_Ar g3 g.2.1 M (fun _ => none) := by
    unfold hf_Ar
    rw [hg3, nw_at]
  have hclN : (Int32.ofNat N).toNatClampNeg = N := z_cl (by omega)
  have hclM : (Int32.ofNat M).toNatClampNeg = M := z_cl (by omega)
  have hcl0 : (0 : Int32).toNatClampNeg = 0 := by decide
  have hcp : hf_cpO g3 d (0 : Int32) g.2.1 (0 : Int32) (Int32.ofNat N) = some (hf_up g3 g.2.1 (.inr (.inl (0, .object "java/lang/Object", M, .inr (.inr (va_cpy B (fun _ => none) 0 0 N)))))) := by
    unfold hf_cpO
    rw [A3, A3n]
    simp only [hclN, hcl0]
    rw [if_pos]
    refine ⟨⟨trivial, trivial, trivial, trivial⟩, by decide, by decide, z_n0 _ (by omega), by omega, by omega, ?_⟩
    rw [List.all_eq_true]
    intro i hi
    have hi2 : i < N := List.mem_range.mp hi
    rw [Nat.zero_add]
    cases hB : B i with
    | none => rfl
    | some z =>
      have := hok i hi2 z hB
      refine okv_eq this ?_
      rw [hg3]
      refine nw_lt _ _ ?_
      unfold hf_okv at this
      cases hz : g.1 z with
      | none =>
        rw [hz] at this
        cases this
      | some w => exact No.lt hz
  have isO : hf_isO g d = true := by
    unfold hf_isO
    rw [A]
    simp
  obtain ⟨g4, hg4⟩ : ∃ y, y = hf_up g3 g.2.1 (.inr (.inl (0, .object "java/lang/Object", M, .inr (.inr (va_cpy B (fun _ => none) 0 0 N))))) := ⟨_, rfl⟩
  rw [← hg4] at hcp
  have e4 : hf_ob 0 19 g4 l = some LW := by
    rw [hg4, hf_ob_ne (by omega)]
    unfold hf_ob
    rw [hg3, nw_lt _ _ hlt, hf_ob_spec e]
    simp
  have hcopy : spJ12_copyOf gs d (Int32.ofNat M) g = some (g.2.1, g4) := by
    unfold spJ12_copyOf spJ12_copyOf_2
    have pal3 : hf_pal (.object "java/lang/Object") g3 d = some (Int32.ofNat N) := by
      unfold hf_pal
      rw [A3.pa]
      rfl
    rw [if_pos isO, if_pos rfl, hclM, if_neg (fun z => by
      rcases z with z | z
      · exact z_n0 _ (by omega) z
      · omega), hf_mk_eq, ← hg3, pal3, Option.bind_some, hf_let_eq, if_neg (fun z => by
      have := (z_lt (a := M) (b := N) (by omega) (by omega)).mp z
      omega), hcp, Option.bind_some, hf_b2_some]
  refine ⟨va_cpy B (fun _ => none) 0 0 N, ?_, fun k hk => ?_⟩
  · unfold spJ2_grow spJ2_grow_2 ndJ2_grow_2_20
    have pal1 : hf_pal (.object "java/lang/Object") g d = some (Int32.ofNat N) := by
      unfold hf_pal
      rw [A.pa]
      rfl
    rw [hf_gi_eq e, Option.bind_some, ob1, hz, a1, hf_ga_eq e, hd, Option.bind_some, pal1, Option.bind_some, if_pos (show (0 : Int32) < Int32.ofNat N from (z_lt (a := 0) (by omega) (by omega)).mpr (by omega)), a2, a3, hnew, Option.bind_some, Option.bind_some, hcopy, hf_b2_some, hf_pq_eq e4, Option.bind_some, hf_b2_some, hg4, hg3, hM]
  · unfold va_cpy
    rw [if_pos (by omega)]
    simp
/-- an element more -/
theorem x_add {gs : hf_gs} {h : hf_H} {l d n y : Nat} {p : Nat → Nat} (L : hf_Ld h l d n p) (No : hf_no h) (hn : n < 400) (hp : ∀ k, k < n → hf_okv h (p k) = true) (hy : hf_okv h y = true) : ∃ g d', spJ2_add gs l y h = some (1, g) ∧ hf_Ld g l d' (n + 1) (fun k => if k = n then y else p k) ∧ hf_lk l d n h g ∧ (d' = d ∨ d' = h.2.1) ∧ l ≠ d' := by
  obtain ⟨LV, N, B, e1, e2, e3, e4, ⟨e5, e5', e5''⟩, e6⟩ := L
  have hlt : l < h.2.1 := No.olt e1
  have hdt : d < h.2.1 := No.lt e4
  have hne : d ≠ l := fun z => by
    subst z
    have := hf_ob_spec e1
    unfold hf_Ar at e4
    rw [e4] at this
    cases this
  obtain ⟨LW, hLW⟩ : ∃ y, y = hf_ui LV 0 (LV.1 0 + (1 : Int32)) := ⟨_, rfl⟩
  obtain ⟨g2, hg2⟩ : ∃ y, y = hf_up h l (.inl (0, 19, LW)) := ⟨_, rfl⟩
  have f1 : hf_ob 0 19 g2 l = some LW := by rw [hg2]; exact hf_ob_up _ _ _ _ _
  have f2 : LW.1 2 = Int32.ofNat n := by rw [hLW, hf_ui_ne _ (by decide)]; exact e2
  have f3 : LW.2.2.1 1 = some d := by rw [hLW]; exact e3
  have f4 : hf_Ar g2 d N B := by
    unfold hf_Ar
    rw [hg2, up_ne _ hne]
    exact e4
  have No2 : hf_no g2 := fun q hq => by
    rw [hg2] at hq ⊢
    rw [up_ne _ (by
      have : (hf_up h l (.inl (0, 19, LW))).2.1 = h.2.1 := rfl
      omega)]
    exact No q hq
  have ok2 : ∀ z, hf_okv h z = true → hf_okv g2 z = true := fun z hz => by rw [hg2]; exact okv_up e1 hz
  have g22 : g2.2 = h.2 := by rw [hg2]; rfl
  have k2 : ∀ q, q ≠ l → g2.1 q = h.1 q := fun q hq => by rw [hg2]; exact up_ne _ hq
  have ob2 : ∀ (τ : Type) (K : Option τ), ((hf_ob 0 19 g2 l).bind fun _ => K) = K := fun τ K => by
    rw [f1]
    rfl
  have pal2 : hf_pal (.object "java/lang/Object") g2 d = some (Int32.ofNat N) := by
    unfold hf_pal
    rw [f4.pa]
    rfl
  unfold spJ2_add spJ2_add_2
  rw [hf_gi_eq e1, Option.bind_some, hf_pi_eq e1, Option.bind_some, ← hLW, ← hg2, hf_ga_eq f1, f3, Option.bind_some, hf_gi_eq f1, Option.bind_some, f2, ob2, pal2, Option.bind_some]
  by_cases c : n = N
  · subst c
    obtain ⟨B', w1, w2⟩ := x_grow2 (gs := gs) No2 f1 f3 f2 f4 e5'' (by omega) (fun k hk z hz => by
      rw [e6 k hk] at hz
      cases hz
      exact ok2 _ (hp k hk))
    rw [if_pos rfl, ob2, w1, hf_b2_some]
    obtain ⟨M, hM⟩ : ∃ M, M = n + max 1 (n / 2) := ⟨_, rfl⟩
    have hNM : n < M ∧ M ≤ 2 * n + 2 := by
      rw [hM]
      rcases Nat.le_total 1 (n / 2) with h | h
      · rw [Nat.max_eq_right h]; omega
      · rw [Nat.max_eq_left h]; omega
    rw [← hM]
    have hs : g2.2.1 = h.2.1 := by rw [g22]
    have hs2 : g2.2.2 = h.2.2 := by rw [g22]
    obtain ⟨g3, hg3⟩ : ∃ y, y = hf_nw g2 (.inr (.inl (0, .object "java/lang/Object", M, .inr (.inr fun _ => none)))) M := ⟨_, rfl⟩
    obtain ⟨g4, hg4⟩ : ∃ y, y = hf_up g3 g2.2.1 (.inr (.inl (0, .object "java/lang/Object", M, .inr (.inr B')))) := ⟨_, rfl⟩
    obtain ⟨g5, hg5⟩ : ∃ y, y = hf_up g4 l (.inl (0, 19, hf_uq LW 1 (some g2.2.1))) := ⟨_, rfl⟩
    rw [← hg3, ← hg4, ← hg5]
    have f5 : hf_ob 0 19 g5 l = some (hf_uq LW 1 (some g2.2.1)) := by rw [hg5]; exact hf_ob_up _ _ _ _ _
    have A5 : hf_Ar g5 g2.2.1 M B' := by
      unfold hf_Ar
      rw [hg5, up_ne _ (by omega), hg4, up_at]
    have k5 : ∀ q, q < h.2.1 → q ≠ l → g5.1 q = h.1 q := fun q hq hl => by
      rw [hg5, up_ne _ hl, hg4, up_ne _ (by omega), hg3, nw_lt _ _ (by omega), k2 q hl]
    have ok5 : ∀ z, hf_okv h z = true → hf_okv g5 z = true := fun z hz => by
      by_cases hzl : z = l
      · rw [hzl]
        exact okv_ob f5 (by decide)
      · refine okv_eq hz (k5 z ?_ hzl)
        unfold hf_okv at hz
        cases hc : h.1 z with
        | none =>
          rw [hc] at hz
          cases hz
        | some w => exact No.lt hc
    rw [x_add11 (gs := gs) f5 A5 hNM.1 (by omega) (ok5 y hy), Option.bind_some]
    have hl2 : l ≠ g2.2.1 := by omega
    refine ⟨_, g2.2.1, rfl, ⟨hf_ui (hf_uq LW 1 (some g2.2.1)) 2 (Int32.ofNat (n + 1)), M, fun j => if j = n then some y else B' j, hf_ob_up _ _ _ _ _, hf_ui_at _ _ _, rfl, ?_, ⟨by omega, by omega, by omega⟩, fun k hk => ?_⟩, ⟨fun q hq hl hd => ?_, ?_, ?_, ?_, fun q hq => ?_⟩, Or.inr hs, hl2⟩
    · unfold hf_Ar
      rw [up_ne _ hl2.symm, up_at]
    · show (if k = n then some y else B' k) = some (if k = n then y else p k)
      by_cases hk2 : k = n
      · rw [if_pos hk2, if_pos hk2]
      · rw [if_neg hk2, if_neg hk2, w2 k (by omega), e6 k (by omega)]
    · rw [up_ne _ hl, up_ne _ (by omega)]
      exact k5 q hq hl
    · show h.2.1 ≤ g5.2.1
      rw [hg5, hg4, hg3]
      show h.2.1 ≤ g2.2.1 + 1
      omega
    · show g5.2.1 ≤ _
      rw [hg5, hg4, hg3]
      show g2.2.1 + 1 ≤ _
      omega
    · show g5.2.2 ≤ _
      rw [hg5, hg4, hg3]
      show g2.2.2 + M ≤ _
      omega
    · have hq2 : g5.2.1 ≤ q := hq
      rw [hg5, hg4, hg3] at hq2
      have hq3 : g2.2.1 + 1 ≤ q := hq2
      rw [up_ne _ (by omega), up_ne _ (by omega), hg5, up_ne _ (by omega), hg4, up_ne _ (by omega), hg3]
      show (if q = g2.2.1 then _ else g2.1 q) = none
      rw [if_neg (by omega)]
      exact No2 q (by omega)
  · have hcn : ¬ Int32.ofNat n = Int32.ofNat N := fun z => c ((z_eq (by omega) (by omega)).mp z)
    rw [if_neg hcn, x_add11 (gs := gs) f1 f4 (by omega) (by omega) (ok2 y hy), Option.bind_some]
    refine ⟨_, d, rfl, ⟨hf_ui LW 2 (Int32.ofNat (n + 1)), N, fun j => if j = n then some y else B j, hf_ob_up _ _ _ _ _, hf_ui_at _ _ _, f3, ?_, ⟨by omega, by omega, by omega⟩, fun k hk => ?_⟩, ⟨fun q hq hl hd => ?_, ?_, ?_, ?_, fun q hq => ?_⟩, Or.inl rfl, hne.symm⟩
    · unfold hf_Ar
      rw [up_ne _ hne, up_at]
    · show (if k = n then some y else B k) = some (if k = n then y else p k)
      by_cases hk2 : k = n
      · rw [if_pos hk2, if_pos hk2]
      · rw [if_neg hk2, if_neg hk2, e6 k (by omega)]
    · rw [up_ne _ hl, up_ne _ hd]
      exact k2 q hl
    · show h.2.1 ≤ g2.2.1
      rw [g22]
      exact Nat.le_refl _
    · show g2.2.1 ≤ _
      rw [g22]
      omega
    · show g2.2.2 ≤ _
      rw [g22]
      omega
    · have hq2 : g2.2.1 ≤ q := hq
      rw [g22] at hq2
      rw [up_ne _ (by omega), up_ne _ (by omega)]
      exact No2 q hq
set_option maxRecDepth 100000
set_option maxHeartbeats 1000000
/-! texts: a rule's clauses, their state -/
def hf_gm (pa o : Nat) (g g' : hf_H) (n : Nat) : Prop := (∀ q, q < g.2.1 → q ≠ pa → q ≠ o + 19 → g'.1 q = g.1 q) ∧ g.2.1 ≤ g'.2.1 ∧ g'.2.1 ≤ g.2.1 + n ∧ g'.2.2 ≤ g.2.2 + 30 * n ∧ ∀ q, g'.2.1 ≤ q → g'.1 q = none
section ZP
variable {pa o n m : Nat} {g g' k : hf_H}
theorem hf_gk.gm (K : hf_gk pa o g g' n) : hf_gm pa o g g' n := ⟨K.1, K.2.1, K.2.2.1, by have := K.2.2.2.1; omega, K.2.2.2.2⟩
theorem hf_gm.trans (A : hf_gm pa o g g' n) (C : hf_gm pa o g' k m) : hf_gm pa o g k (n + m) := by
  obtain ⟨a1, a2, a3, a4, a5⟩ := A
  obtain ⟨b1, b2, b3, b4, b5⟩ := C
  exact ⟨fun q hq h1 h2 => (b1 q (by omega) h1 h2).trans (a1 q hq h1 h2), by omega, by omega, by omega, b5⟩
theorem hf_gm.mono (A : hf_gm pa o g g' n) (h : n ≤ m) : hf_gm pa o g g' m := ⟨A.1, A.2.1, by have := A.2.2.1; omega, by have := A.2.2.2.1; omega, A.2.2.2.2⟩
theorem hf_gm.no (K : hf_gm pa o g g' n) : hf_no g' := K.2.2.2.2
theorem hf_gm.lk (A : hf_gm pa o g g' n) {l d c : Nat} (hl : g.2.1 ≤ l) (hd : g.2.1 ≤ d) (hc : c ≤ 14) (C : hf_lk l d c g' k) : hf_gm pa o g k (n + 1) := by
  obtain ⟨a1, a2, a3, a4, a5⟩ := A
  obtain ⟨b1, b2, b3, b4, b5⟩ := C
  exact ⟨fun q hq h1 h2 => (b1 q (by omega) (by omega) (by omega)).trans (a1 q hq h1 h2), by omega, by omega, by omega, b5⟩
theorem hf_gm.ob (K : hf_gm pa o g g' n) (N : hf_no g) {q md ci : Nat} {V : hf_V} (e : hf_ob md ci g q = some V) (h1 : q ≠ pa) (h2 : q ≠ o + 19) : hf_ob md ci g' q = some V := by
  unfold hf_ob
  rw [K.1 q (N.olt e) h1 h2, hf_ob_spec e]
  simp
theorem hf_gm.kv (K : hf_gm pa o g g' n) (N : hf_no g) {PV WV : hf_V} (e5 : hf_ob 0 5 g pa = some PV) (e3 : hf_ob 0 3 g (o + 19) = some WV) : hf_kv g g' := fun a ci V h1 h2 e => K.ob N e (hf_ob_dif e e5 (by omega)) (hf_ob_dif e e3 (by omega))
theorem hf_gm.Ld (K : hf_gm pa o g g' n) (N : hf_no g) {PV WV : hf_V} (e5 : hf_ob 0 5 g pa = some PV) (e3 : hf_ob 0 3 g (o + 19) = some WV) {l d c : Nat} {p : Nat → Nat} (L : hf_Ld g l d c p) : hf_Ld g' l d c p := by
  obtain ⟨LV, N', B, e1, e2, e3', e4, e5', e6⟩ := L
  refine ⟨LV, N', B, K.ob N e1 (hf_ob_dif e1 e5 (by omega)) (hf_ob_dif e1 e3 (by omega)), e2, e3', ?_, e5', e6⟩
  unfold hf_Ar at e4 ⊢
  have h1 : d ≠ pa := fun z => by
    subst z
    rw [hf_ob_spec e5] at e4
    cases e4
  have h2 : d ≠ o + 19 := fun z => by
    rw [z, hf_ob_spec e3] at e4
    cases e4
  rw [K.1 d (N.lt e4) h1 h2]
  exact e4
theorem hf_lk.kv {l d c c' : Nat} {p : Nat → Nat} (C : hf_lk l d c g g') (N : hf_no g) (L : hf_Ld g l d c' p) : hf_kv g g' := fun a ci V h1 h2 e => by
  obtain ⟨LV, N', B, e1, e2, e3', e4, e5', e6⟩ := L
  have n1 : a ≠ l := hf_ob_dif e e1 (by omega)
  have n2 : a ≠ d := fun z => by
    subst z
    unfold hf_Ar at e4
    rw [hf_ob_spec e] at e4
    cases e4
  unfold hf_ob
  rw [C.1 a (N.olt e) n1 n2, hf_ob_spec e]
  simp
end ZP
/-- what reading a rule changes of the model -/
def zvr (A B : hf_V) (t : Nat) : Prop := (∀ k, k ≠ 1 → k ≠ 8 → k ≠ 9 → k ≠ 10 → k ≠ 12 → k ≠ 13 → k ≠ 14 → k ≠ 16 → B.1 k = A.1 k) ∧ (∀ j, j ≠ 3 → j ≠ 4 → j ≠ 5 → j ≠ 6 → j ≠ 15 → B.2.2.2.1 j = A.2.2.2.1 j) ∧ (∀ j, (j < 400 * t ∨ 400 * t + 400 ≤ j) → B.2.2.2.1 3 j = A.2.2.2.1 3 j) ∧ (∀ j, (j < 60 * t ∨ 60 * t + 60 ≤ j) → B.2.2.2.1 5 j = A.2.2.2.1 5 j) ∧ ∀ j, j ≠ t → B.2.2.2.1 6 j = A.2.2.2.1 6 j
section ZV
variable {A B C : hf_V} {t L : Nat}
theorem zvr.rfl_ (A : hf_V) (t : Nat) : zvr A A t := ⟨fun _ _ _ _ _ _ _ _ _ => rfl, fun _ _ _ _ _ _ => rfl, fun _ _ => rfl, fun _ _ => rfl, fun _ _ => rfl⟩
theorem zvr.trans (H : zvr A B t) (K : zvr B C t) : zvr A C t := ⟨fun k a b c d e f g h => (K.1 k a b c d e f g h).trans (H.1 k a b c d e f g h), fun j a b c d e => (K.2.1 j a b c d e).trans (H.2.1 j a b c d e), fun j h => (K.2.2.1 j h).trans (H.2.2.1 j h), fun j h => (K.2.2.2.1 j h).trans (H.2.2.2.1 j h), fun j h => (K.2.2.2.2 j h).trans (H.2.2.2.2 j h)⟩
theorem hf_wf9.vr (H : hf_wf9 A B t L) : zvr A B t := ⟨fun k _ b c d e f _ h => H.1 k b c d e f h, fun j a b _ _ e => H.2.1 j a b e, fun j h => H.2.2.1 j (by omega), fun j _ => congrFun (H.2.1 5 (by decide) (by decide) (by decide)) j, fun j _ => congrFun (H.2.1 6 (by decide) (by decide) (by decide)) j⟩
theorem hf_wq.vr (H : hf_wq A B t L) : zvr A B t := ⟨fun k _ b _ d e f _ h => H.1 k b d e f h, fun j a b _ _ e => H.2.1 j a b e, fun j h => H.2.2.1 j (by omega), fun j _ => congrFun (H.2.1 5 (by decide) (by decide) (by decide)) j, fun j _ => congrFun (H.2.1 6 (by decide) (by decide) (by decide)) j⟩
theorem zvr.ui (H : zvr A B t) {k : Nat} (hk : k = 1 ∨ k = 8 ∨ k = 9 ∨ k = 10 ∨ k = 12 ∨ k = 13 ∨ k = 14 ∨ k = 16) (x : Int32) : zvr A (hf_ui B k x) t := ⟨fun j a b c d e f g h => by rw [hf_ui_ne _ (by omega)]; exact H.1 j a b c d e f g h, H.2⟩
theorem zvr.ua5 (H : zvr A B t) {i : Nat} (hi : 60 * t ≤ i ∧ i < 60 * t + 60) (x : Int32) : zvr A (hf_ua B 5 i x) t := ⟨H.1, fun j a b c d e => by rw [hf_ua_ne _ c]; exact H.2.1 j a b c d e, fun j h => by rw [hf_ua_ne _ (by decide)]; exact H.2.2.1 j h, fun j h => by rw [hf_ua_at, if_neg (by omega)]; exact H.2.2.2.1 j h, fun j h => by rw [hf_ua_ne _ (by decide)]; exact H.2.2.2.2 j h⟩
theorem zvr.ua6 (H : zvr A B t) (x : Int32) : zvr A (hf_ua B 6 t x) t := ⟨H.1, fun j a b c d e => by rw [hf_ua_ne _ d]; exact H.2.1 j a b c d e, fun j h => by rw [hf_ua_ne _ (by decide)]; exact H.2.2.1 j h, fun j h => by rw [hf_ua_ne _ (by decide)]; exact H.2.2.2.1 j h, fun j h => by rw [hf_ua_at, if_neg h]; exact H.2.2.2.2 j h⟩
theorem zvr.ua4 (H : zvr A B t) (i : Nat) (x : Int32) : zvr A (hf_ua B 4 i x) t := ⟨H.1, fun j a b c d e => by rw [hf_ua_ne _ b]; exact H.2.1 j a b c d e, fun j h => by rw [hf_ua_ne _ (by decide)]; exact H.2.2.1 j h, fun j h => by rw [hf_ua_ne _ (by decide)]; exact H.2.2.2.1 j h, fun j h => by rw [hf_ua_ne _ (by decide)]; exact H.2.2.2.2 j h⟩
end ZV
/-- clause k of text t told by a; its codes below L -/
def zTold (h : hf_H) (a : Nat) (V : hf_V) (t k L : Nat) : Prop := ∃ (TV : hf_V) (sv : Nat) (c : List Nat) (b : Nat), hf_ob 0 13 h a = some TV ∧ TV.2.2.1 1 = some sv ∧ hf_Val 64 h sv c ∧ zlv c ≤ 60 ∧ zcds V t b c ∧ b + c.length ≤ L ∧ V.2.2.2.1 5 (60 * t + 5 * k + 1) = Int32.ofNat b ∧ V.2.2.2.1 5 (60 * t + 5 * k + 2) = Int32.ofNat (b + c.length) ∧ ((TV.1 0 = 1 ∧ V.2.2.2.1 5 (60 * t + 5 * k) = 0) ∨ (TV.1 0 = 0 ∧ V.2.2.2.1 5 (60 * t + 5 * k) = 1)) ∧ ((TV.2.2.1 2 = none ∧ V.2.2.2.1 5 (60 * t + 5 * k + 3) = -1) ∨ (∃ (cv : Nat) (c' : List Nat) (b' : Nat), TV.2.2.1 2 = some cv ∧ hf_Cnd 64 h cv c' ∧ zlv c' ≤ 60 ∧ zcds V t b' c' ∧ b' + c'.length ≤ L ∧ V.2.2.2.1 5 (60 * t + 5 * k + 3) = Int32.ofNat b' ∧ V.2.2.2.1 5 (60 * t + 5 * k + 4) = Int32.ofNat (b' + c'.length)))
theorem zTold.told {h : hf_H} {a t k L : Nat} {V : hf_V} (H : zTold h a V t k L) (hL : L ≤ 400) : hf_Told h a V t k := by
  obtain ⟨TV, sv, c, b, e1, e2, e3, e4, e5, e6, e7, e8, e9, e10⟩ := H
  refine ⟨TV, sv, c, b, e1, e2, e3, e4, e5, by omega, e7, e8, e9, ?_⟩
  rcases e10 with h1 | ⟨cv, c', b', g1, g2, g3, g4, g5, g6, g7⟩
  · exact Or.inl h1
  · exact Or.inr ⟨cv, c', b', g1, g2, g3, g4, by omega, g6, g7⟩
theorem zcds.lo {V V' : hf_V} {t b L : Nat} {c : List Nat} (H : zcds V t b c) (K : ∀ j, j < 400 * t + L → V'.2.2.2.1 3 j = V.2.2.2.1 3 j) (h : b + c.length ≤ L) : zcds V' t b c := fun k hk => by
  rw [K _ (by omega)]
  exact H k hk
theorem zTold.mv {h h' : hf_H} {a t k L L' : Nat} {V V' : hf_V} (H : zTold h a V t k L) (K : hf_kv h h') (W : ∀ j, j < 400 * t + L → V'.2.2.2.1 3 j = V.2.2.2.1 3 j) (C : ∀ j, j < 5 → V'.2.2.2.1 5 (60 * t + 5 * k + j) = V.2.2.2.1 5 (60 * t + 5 * k + j)) (hL : L ≤ L') : zTold h' a V' t k L' := by
  obtain ⟨TV, sv, c, b, e1, e2, e3, e4, e5, e6, e7, e8, e9, e10⟩ := H
  refine ⟨TV, sv, c, b, K a 13 TV (by decide) (by decide) e1, e2, hf_Val.kv K _ _ _ e3, e4, e5.lo W e6, by omega, by rw [C 1 (by decide)]; exact e7, by rw [C 2 (by decide)]; exact e8, by have c0 := C 0 (by decide); rw [Nat.add_zero] at c0; rw [c0]; exact e9, ?_⟩
  rcases e10 with ⟨h1, h2⟩ | ⟨cv, c', b', g1, g2, g3, g4, g5, g6, g7⟩
  · exact Or.inl ⟨h1, by rw [C 3 (by decide)]; exact h2⟩
  · exact Or.inr ⟨cv, c', b', g1, hf_Cnd.kv K _ _ _ g2, g3, g4.lo W g5, by omega, by rw [C 3 (by decide)]; exact g6, by rw [C 4 (by decide)]; exact g7⟩
section ZQ
variable {gs : hf_gs} {g : hf_H} {pa o nm : Nat} {PV : hf_V} {B : Nat → Nat} {T a m : Nat} {V V' : hf_V} {t L : Nat}
/-- the model's arrays change where the parse does not look -/
theorem hf_ps.v (S : hf_ps gs g pa o nm PV B T V a m) (h : V'.1 = V.1) (h0 : V'.2.2.2.1 0 = V.2.2.2.1 0) : hf_ps gs g pa o nm PV B T V' a m := by
  obtain ⟨N, P, p0, p1, p3, wo, ⟨m1, m2, m3⟩, v8, v9, v12, ha, hm⟩ := S
  exact ⟨N, P, p0, p1, p3, wo, ⟨m1, by rw [h]; exact m2, fun k hk => by rw [h0]; exact m3 k hk⟩, by rw [h]; exact v8, by rw [h]; exact v9, by rw [h]; exact v12, ha, hm⟩
theorem hf_tt.v (S : hf_tt V t L) (h : V'.1 11 = V.1 11) (h0 : V'.2.2.2.1 4 t = V.2.2.2.1 4 t) : hf_tt V' t L := ⟨S.1, h.trans S.2.1, h0.trans S.2.2⟩
/-- begins: no; it may not; it does -/
theorem x_begins (P : hf_px g pa o PV B T) {w k most may : Nat} (Sr : hf_sr g (gs.2 w) (zw w)) (hw : w < 27) (h1 : PV.1 1 = Int32.ofNat a) (ha : a ≤ T) (h4 : PV.1 4 = Int32.ofNat k) (h5 : PV.1 5 = Int32.ofNat most) (hk : k < 1000) (hm : most < 1000) (hmay : may ≤ 1) : (¬ zis B T a (zw w) ∧ spX5_begins gs pa (gs.2 w) (Int32.ofNat may) g = some (.inr 0, hf_pc g pa (hf_ui PV 1 (Int32.ofNat (zsk B T a))))) ∨ (zis B T a (zw w) ∧ (k = most ∨ may = 0) ∧ ∃ g', spX5_begins gs pa (gs.2 w) (Int32.ofNat may) g = some (.inl (o + 19), g') ∧ hf_wr (hf_pc g pa (hf_ui PV 1 (Int32.ofNat (zsk B T a)))) o (1 + 8 * zsk B T a + 4) g') ∨ (zis B T a (zw w) ∧ k ≠ most ∧ may = 1 ∧ spX5_begins gs pa (gs.2 w) (Int32.ofNat may) g = some (.inr 1, hf_pc g pa (hf_ui (hf_ui (hf_ui PV 1 (Int32.ofNat (zsk B T a))) 4 (Int32.ofNat (k + 1))) 1 (Int32.ofNat (zwe B T (zsk B T a)))))) := by
  have hwok := zw_ok w hw
  have xw := x_isWord (gs := gs) P Sr hwok h1 ha
  obtain ⟨p, hp⟩ : ∃ p, p = zsk B T a := ⟨_, rfl⟩
  have s2 := (zsk_le (B := B) ha).2
  rw [← hp] at xw s2 ⊢
  obtain ⟨PV1, hPV1⟩ : ∃ x, x = hf_ui PV 1 (Int32.ofNat p) := ⟨_, rfl⟩
  obtain ⟨g1, hg1⟩ : ∃ x, x = hf_pc g pa PV1 := ⟨_, rfl⟩
  rw [← hPV1, ← hg1] at xw ⊢
  have P1 : hf_px g1 pa o PV1 B T := by rw [hg1]; exact P.pc (by rw [hPV1]; rfl)
  have q1 : PV1.1 1 = Int32.ofNat p := by rw [hPV1, hf_ui_at]
  have q4 : PV1.1 4 = Int32.ofNat k := by rw [hPV1, hf_ui_ne _ (by decide), h4]
  have q5 : PV1.1 5 = Int32.ofNat most := by rw [hPV1, hf_ui_ne _ (by decide), h5]
  have ekm : (Int32.ofNat k = Int32.ofNat most) ↔ k = most := z_eq (by omega) (by omega)
  have em0 : (Int32.ofNat may = (0 : Int32)) ↔ may = 0 := z_eq (b := 0) (by omega) (by decide)
  by_cases hz : zis B T a (zw w)
  case neg =>
    left
    refine ⟨hz, ?_⟩
    unfold spX5_begins
    rw [P.pob, xw, hf_b2_some, if_neg hz, if_pos zz00]
  right
  obtain ⟨g', t1, t2⟩ := x_throw (τ := Int32) P1 4 p
  have t1' : ndX5_begins_25 gs pa g1 = some (.inl (o + 19), g') := by
    unfold ndX5_begins_25
    rw [P1.gio, Option.bind_some, P1.oob] at t1
    rw [P1.gio, Option.bind_some, P1.gi, Option.bind_some, q1, P1.oob]
    exact t1
  by_cases c : k = most ∨ may = 0
  · left
    refine ⟨hz, c, g', ?_, t2⟩
    unfold spX5_begins
    rw [P.pob, xw, hf_b2_some, if_pos hz, if_neg zz10, P1.gi, Option.bind_some, P1.gi, Option.bind_some, q4, q5]
    by_cases c1 : k = most
    · rw [if_pos (ekm.mpr c1)]
      exact t1'
    · rw [if_neg (fun z => c1 (ekm.mp z)), if_pos (em0.mpr (c.resolve_left c1))]
      exact t1'
  · right
    have c1 : k ≠ most := fun z => c (Or.inl z)
    have c2 : may = 1 := by omega
    have c3 : may ≠ 0 := by omega
    refine ⟨hz, c1, c2, ?_⟩
    have a1 : Int32.ofNat k + (1 : Int32) = Int32.ofNat (k + 1) := z_add k 1
    obtain ⟨PV2, hPV2⟩ : ∃ x, x = hf_ui PV1 4 (Int32.ofNat (k + 1)) := ⟨_, rfl⟩
    obtain ⟨g2, hg2⟩ : ∃ x, x = hf_pc g1 pa PV2 := ⟨_, rfl⟩
    have P2 : hf_px g2 pa o PV2 B T := by rw [hg2]; exact P1.pc (by rw [hPV2]; rfl)
    have q21 : PV2.1 1 = Int32.ofNat p := by rw [hPV2, hf_ui_ne _ (by decide), q1]
    have Sr2 : hf_sr g2 (gs.2 w) (zw w) := by
      rw [hg2, hg1]
      exact (Sr.pc P _).pc (hg1 ▸ P1) _
    have hwe := zis.we hz hwok ha
    rw [← hp] at hwe
    unfold spX5_begins
    rw [P.pob, xw, hf_b2_some, if_pos hz, if_neg zz10, P1.gi, Option.bind_some, P1.gi, Option.bind_some, q4, q5, if_neg (fun z => c1 (ekm.mp z)), if_neg (fun z => c3 (em0.mp z)), Option.bind_some, a1, P1.pi, Option.bind_some, ← hPV2, ← hg2, P2.gi, Option.bind_some, q21, Sr2.stb, x_len Sr2 (by have := hwok.2.1; omega), hf_b2_some, z_add, ← hwe.1, P2.pi, Option.bind_some, hg2, hg1, hf_pc_pc, hf_pc_pc]
end ZQ
set_option maxRecDepth 100000
set_option maxHeartbeats 1000000
/-! texts: a rule's clause is told -/
theorem hf_wo.eq {g g' : hf_H} {gs : hf_gs} {nm : Nat} (H : hf_wo g gs nm) (K : ∀ q x, g.1 q = some (.inr (.inr x)) → g'.1 q = some (.inr (.inr x))) : hf_wo g' gs nm := by
  obtain ⟨⟨x, h1⟩, h2⟩ := H
  refine ⟨⟨x, K _ _ h1⟩, fun i hi => ?_⟩
  obtain ⟨v, x, y, f, e1, e2, e3⟩ := h2 i hi
  exact ⟨v, x, y, f, K _ _ e1, K _ _ e2, e3⟩
theorem hf_ob_eq {g g' : hf_H} {q md ci : Nat} {V : hf_V} (e : hf_ob md ci g q = some V) (k : g'.1 q = g.1 q) : hf_ob md ci g' q = some V := by
  unfold hf_ob
  rw [k, hf_ob_spec e]
  simp
theorem hf_px.eq {g g' : hf_H} {pa o : Nat} {PV : hf_V} {B : Nat → Nat} {T : Nat} (P : hf_px g pa o PV B T) (h1 : g'.1 o = g.1 o) (h2 : g'.1 pa = g.1 pa) (h3 : g'.1 (o + 19) = g.1 (o + 19)) : hf_px g' pa o PV B T := by
  obtain ⟨⟨t1, t2, ⟨XV, t3, t4⟩, WV, t7⟩, p2, p3⟩ := P
  exact ⟨⟨t1, t2, ⟨XV, hf_ob_eq t3 h1, t4⟩, WV, hf_ob_eq t7 h3⟩, hf_ob_eq p2 h2, p3⟩
section ZP
variable {g g' : hf_H} {l d c c' : Nat} {p : Nat → Nat}
theorem hf_Ld.nd (L : hf_Ld g l d c p) {q md ci : Nat} {V : hf_V} (e : hf_ob md ci g q = some V) : q ≠ d := fun z => by
  obtain ⟨LV, N', B, e1, e2, e3', e4, e5', e6⟩ := L
  subst z
  unfold hf_Ar at e4
  rw [hf_ob_spec e] at e4
  cases e4
theorem hf_Ld.nl (L : hf_Ld g l d c p) {q md ci : Nat} {V : hf_V} (e : hf_ob md ci g q = some V) (h : ci ≠ 19) : q ≠ l := by
  obtain ⟨LV, N', B, e1, e2, e3', e4, e5', e6⟩ := L
  exact hf_ob_dif e e1 (by omega)
theorem hf_lk.at_ (C : hf_lk l d c g g') (N : hf_no g) (L : hf_Ld g l d c' p) {q md ci : Nat} {V : hf_V} (e : hf_ob md ci g q = some V) (h : ci ≠ 19) : g'.1 q = g.1 q := C.1 q (N.olt e) (L.nl e h) (L.nd e)
theorem hf_lk.st (C : hf_lk l d c g g') (N : hf_no g) (L : hf_Ld g l d c' p) : ∀ q x, g.1 q = some (.inr (.inr x)) → g'.1 q = some (.inr (.inr x)) := fun q x e => by
  obtain ⟨LV, N', B, e1, e2, e3', e4, e5', e6⟩ := L
  have n1 : q ≠ l := fun z => by
    subst z
    rw [hf_ob_spec e1] at e
    cases e
  have n2 : q ≠ d := fun z => by
    subst z
    unfold hf_Ar at e4
    rw [e4] at e
    cases e
  rw [C.1 q (N.lt e) n1 n2]
  exact e
theorem hf_Ld.up (L : hf_Ld g l d c p) {x md ci : Nat} {V V' : hf_V} (e : hf_ob md ci g x = some V) (h : ci ≠ 19) : hf_Ld (hf_up g x (.inl (md, ci, V'))) l d c p := by
  have n1 := L.nl e h
  have n2 := L.nd e
  obtain ⟨LV, N', B, e1, e2, e3', e4, e5', e6⟩ := L
  refine ⟨LV, N', B, by rw [hf_ob_ne n1.symm]; exact e1, e2, e3', ?_, e5', e6⟩
  unfold hf_Ar
  rw [up_ne _ n2.symm]
  exact e4
theorem hf_Ld.lt (L : hf_Ld g l d c p) (N : hf_no g) : l < g.2.1 ∧ d < g.2.1 := by
  obtain ⟨LV, N', B, e1, e2, e3', e4, e5', e6⟩ := L
  exact ⟨N.olt e1, N.lt e4⟩
end ZP
theorem hf_no.up {g : hf_H} (N : hf_no g) {q md ci : Nat} {V : hf_V} (e : hf_ob md ci g q = some V) (x : hf_C) : hf_no (hf_up g q x) := fun z hz => by
  have hz2 : g.2.1 ≤ z := hz
  have := N.olt e
  rw [up_ne _ (by omega)]
  exact N z hz2
theorem hf_gm.up2 {pa o n : Nat} {g g' : hf_H} (K : hf_gm pa o g g' n) {q : Nat} (hq : g.2.1 ≤ q) {md ci : Nat} {V : hf_V} (e : hf_ob md ci g' q = some V) (x : hf_C) : hf_gm pa o g (hf_up g' q x) n := ⟨fun z hz h1 h2 => (up_ne x (by omega)).trans (K.1 z hz h1 h2), K.2.1, K.2.2.1, K.2.2.2.1, K.no.up e x⟩
theorem zTold.blank {h : hf_H} {x : Nat} (e : hf_ob 0 13 h x = some hf_V0) (Y : hf_C) {a t k L : Nat} {V : hf_V} (H : zTold h a V t k L) : zTold (hf_up h x Y) a V t k L := by
  obtain ⟨TV, sv, c, b, e1, e2, e3, e4, e5, e6, e7, e8, e9, e10⟩ := H
  have hne : a ≠ x := fun z => by
    subst z
    have h1 := (hf_ob_spec e1).symm.trans (hf_ob_spec e)
    cases h1
    cases e2
  refine ⟨TV, sv, c, b, by rw [hf_ob_ne hne]; exact e1, e2, hf_Val.blank e (by decide) _ _ _ _ e3, e4, e5, e6, e7, e8, e9, ?_⟩
  rcases e10 with h1 | ⟨cv, c', b', g1, g2, g3, g4, g5, g6, g7⟩
  · exact Or.inl h1
  · exact Or.inr ⟨cv, c', b', g1, hf_Cnd.blank e (by decide) _ _ _ _ g2, g3, g4, g5, g6, g7⟩
/-- a rule being read: kc clauses begun, k told -/
def zRS (gs : hf_gs) (pa o nm : Nat) (B : Nat → Nat) (T t : Nat) (g : hf_H) (PV V : hf_V) (a m L kc k ra l d : Nat) (p : Nat → Nat) : Prop := hf_ps gs g pa o nm PV B T V a m ∧ hf_tt V t L ∧ (PV.1 2 = 0 ∧ PV.1 4 = Int32.ofNat kc ∧ PV.1 5 = 12 ∧ V.1 14 = Int32.ofNat kc) ∧ (L ≤ 6 * m ∧ k ≤ 12) ∧ V.2.2.2.1 6 t = Int32.ofNat k ∧ (∃ RV, hf_ob 0 8 g ra = some RV ∧ RV.2.2.1 0 = some l) ∧ hf_Ld g l d k p ∧ ∀ j, j < k → zTold g (p j) V t j L
def zrf (g0 g' : hf_H) (pa o n : Nat) (V V' : hf_V) (t : Nat) : Prop := ∃ c, hf_gi 0 3 6 g' (o + 19) = some (Int32.ofNat c) ∧ V'.1 9 = Int32.ofNat c ∧ 1 ≤ c ∧ c < 100000 ∧ hf_gm pa o g0 g' n ∧ zvr V V' t
section ZQ
variable {gs : hf_gs} {pa o nm : Nat} {B : Nat → Nat} {T t : Nat} {g0 : hf_H}
theorem xm_told {g6 : hf_H} {PV6 V6 : hf_V} {a6 m6 L6 k ra l d n x4 sv b : Nat} {p : Nat → Nat} {cs : List Nat} {bX s1 : Int32} {oc : Option Nat} (hb : (bX = 1 ∧ s1 = 0) ∨ (bX = 0 ∧ s1 = 1)) (hk : k < 12) (S : hf_ps gs g6 pa o nm PV6 B T V6 a6 m6) (TT : hf_tt V6 t L6) (hc : PV6.1 2 = 0 ∧ PV6.1 4 = Int32.ofNat (k + 1) ∧ PV6.1 5 = 12 ∧ V6.1 14 = Int32.ofNat (k + 1)) (hL : L6 ≤ 6 * m6) (h6 : V6.2.2.2.1 6 t = Int32.ofNat k) (hR : ∃ RV, hf_ob 0 8 g6 ra = some RV ∧ RV.2.2.1 0 = some l) (hLd : hf_Ld g6 l d k p) (hT : ∀ j, j < k → zTold g6 (p j) V6 t j L6) (e4 : hf_ob 0 13 g6 x4 = some hf_V0) (hv : hf_Val 64 g6 sv cs) (hz : zlv cs ≤ 60) (hcd : zcds V6 t b cs) (hbc : b + cs.length ≤ L6) (f0 : V6.2.2.2.1 5 (60 * t + 5 * k) = s1) (f1 : V6.2.2.2.1 5 (60 * t + 5 * k + 1) = Int32.ofNat b) (f2 : V6.2.2.2.1 5 (60 * t + 5 * k + 2) = Int32.ofNat (b + cs.length)) (f3 : (oc = none ∧ V6.2.2.2.1 5 (60 * t + 5 * k + 3) = -1) ∨ ∃ cv c' b', oc = some cv ∧ hf_Cnd 64 g6 cv c' ∧ zlv c' ≤ 60 ∧ zcds V6 t b' c' ∧ b' + c'.length = L6 ∧ V6.2.2.2.1 5 (60 * t + 5 * k + 3) = Int32.ofNat b') (K : hf_gm pa o g0 g6 n) (hl : g0.2.1 ≤ l) (hd : g0.2.1 ≤ d) (hx : g0.2.1 ≤ x4) : ∃ g8 V8 d', ndX5_clause_2_67 gs l x4 x4 bX sv oc g6 = some (.inr (), g8) ∧ ndX4_isDoingHere_119 (Int32.ofNat (60 * t + 5 * k)) V6 = some (1, V8) ∧ zRS gs pa o nm B T t g8 PV6 V8 a6 m6 L6 (k + 1) (k + 1) ra l d' (fun j => if j = k then x4 else p j) ∧ g0.2.1 ≤ d' ∧ hf_gm pa o g0 g8 (n + 1) ∧ zvr V6 V8 t := by
  have S0 := S
  obtain ⟨N, P, p0, p1, p3, wo, mt, v8, v9, v12, ha, hm⟩ := S
  obtain ⟨WV, w3⟩ := P.w3
  obtain ⟨t1, t2, t3⟩ := id TT
  -- HalfFair
  obtain ⟨J, hJ⟩ : ∃ J, J = hf_uq (hf_uq (hf_ui hf_V0 0 bX) 1 (some sv)) 2 oc := ⟨_, rfl⟩
  obtain ⟨g7, hg7⟩ : ∃ y, y = hf_up g6 x4 (.inl (0, 13, J)) := ⟨_, rfl⟩
  have hbX : bX = 0 ∨ bX = 1 := by
    rcases hb with ⟨h, _⟩ | ⟨h, _⟩
    · exact Or.inr h
    · exact Or.inl h
  have hin : spX13_init x4 bX sv oc g6 = some g7 := by
    unfold spX13_init spJ9_init
    rw [Option.bind_some, if_pos hbX]
    unfold hf_pi hf_pq
    rw [e4]
    show Option.bind (some (hf_up g6 x4 _)) _ = _
    rw [Option.bind_some, hf_ob_up]
    show Option.bind (some (hf_up _ x4 _)) _ = _
    rw [Option.bind_some, hf_up_up, hf_ob_up]
    show Option.bind (some (hf_up _ x4 _)) _ = _
    rw [Option.bind_some, hf_up_up, hg7, hJ]
  have N7 : hf_no g7 := by rw [hg7]; exact N.up e4 _
  have L7 : hf_Ld g7 l d k p := by rw [hg7]; exact hLd.up e4 (by decide)
  have P7 : hf_px g7 pa o PV6 B T := by rw [hg7]; exact P.up e4 (by decide) (by decide)
  have e7 : hf_ob 0 13 g7 x4 = some J := by rw [hg7]; exact hf_ob_up _ _ _ _ _
  have wo7 : hf_wo g7 gs nm := wo.eq (fun q x e => by
    rw [hg7, up_ne _ (fun z => by
      subst z
      rw [hf_ob_spec e4] at e
      cases e)]
    exact e)
  have T7 : ∀ j, j < k → zTold g7 (p j) V6 t j L6 := fun j hj => by rw [hg7]; exact (hT j hj).blank e4 _
  have okp : ∀ j, j < k → hf_okv g7 (p j) = true := fun j hj => by
    obtain ⟨TV, _, _, _, e1, _⟩ := T7 j hj
    exact okv_ob e1 (by decide)
  obtain ⟨g8, d', a1, a2, a3, a4, a5⟩ := x_add (gs := gs) L7 N7 (by omega) okp (okv_ob e7 (by decide))
  obtain ⟨LV7, N7', B7, l1, l2, l3, l4, l5, l6⟩ := id L7
  have hX : ndX5_clause_2_67 gs l x4 x4 bX sv oc g6 = some (.inr (), g8) := by
    unfold ndX5_clause_2_67
    rw [hin, Option.bind_some, l1, Option.bind_some, a1, hf_b2_some]
  have N8 : hf_no g8 := a3.2.2.2.2
  obtain ⟨WV7, w37⟩ := P7.w3
  obtain ⟨⟨_, _, ⟨XV, x1, -⟩, -⟩, x2, -⟩ := id P7
  have P8 : hf_px g8 pa o PV6 B T := P7.eq (a3.at_ N7 L7 x1 (by decide)) (a3.at_ N7 L7 x2 (by decide)) (a3.at_ N7 L7 w37 (by decide))
  have kv78 : hf_kv g7 g8 := a3.kv N7 L7
  obtain ⟨RV, r1, r2⟩ := hR
  have r7 : hf_ob 0 8 g7 ra = some RV := by
    rw [hg7, hf_ob_ne (hf_ob_dif r1 e4 (by decide))]
    exact r1
  have r8 : hf_ob 0 8 g8 ra = some RV := hf_ob_eq r7 (a3.at_ N7 L7 r7 (by decide))
  have K7 : hf_gm pa o g0 g7 n := by rw [hg7]; exact K.up2 hx e4 _
  have K8 : hf_gm pa o g0 g8 (n + 1) := K7.lk hl hd (by omega) a3
  -- the model
  obtain ⟨V7, hV7⟩ : ∃ y, y = hf_ua V6 5 (60 * t + 5 * k + 4) (Int32.ofNat L6) := ⟨_, rfl⟩
  obtain ⟨V8, hV8⟩ : ∃ y, y = hf_ua V7 6 t (Int32.ofNat (k + 1)) := ⟨_, rfl⟩
  have i8 : V8.1 = V6.1 := by rw [hV8, hV7]; rfl
  have hM : ndX4_isDoingHere_119 (Int32.ofNat (60 * t + 5 * k)) V6 = some (1, V8) := by
    unfold ndX4_isDoingHere_119
    have b1 : Int32.ofNat (60 * t + 5 * k) + (4 : Int32) = Int32.ofNat (60 * t + 5 * k + 4) := z_add _ 4
    have b2 : Int32.ofNat k + (1 : Int32) = Int32.ofNat (k + 1) := z_add k 1
    have v711 : V7.1 11 = Int32.ofNat t := by rw [hV7]; exact t2
    have v76 : V7.2.2.2.1 6 t = Int32.ofNat k := by rw [hV7, hf_ua_ne _ (by decide)]; exact h6
    rw [t2, z_ld (by omega) (by omega), t3, Option.bind_some, b1, z_sd (by omega) (by omega), ← hV7, hf_let_eq, v711, z_ld (by omega) (by omega), v76, Option.bind_some, z_sd (by omega) (by omega), b2, ← hV8]
  have A5 : ∀ j, j ≠ 60 * t + 5 * k + 4 → V8.2.2.2.1 5 j = V6.2.2.2.1 5 j := fun j hj => by
    rw [hV8, hf_ua_ne _ (by decide), hV7, hf_ua_at, if_neg hj]
  have A54 : V8.2.2.2.1 5 (60 * t + 5 * k + 4) = Int32.ofNat L6 := by
    rw [hV8, hf_ua_ne _ (by decide), hV7, hf_ua_at, if_pos rfl]
  have A3 : V8.2.2.2.1 3 = V6.2.2.2.1 3 := by rw [hV8, hf_ua_ne _ (by decide), hV7, hf_ua_ne _ (by decide)]
  have A0 : V8.2.2.2.1 0 = V6.2.2.2.1 0 := by rw [hV8, hf_ua_ne _ (by decide), hV7, hf_ua_ne _ (by decide)]
  have A4 : V8.2.2.2.1 4 = V6.2.2.2.1 4 := by rw [hV8, hf_ua_ne _ (by decide), hV7, hf_ua_ne _ (by decide)]
  have zc : ∀ {b c}, zcds V6 t b c → zcds V8 t b c := fun H k hk => by
    rw [A3]
    exact H k hk
  have Sv : hf_ps gs g6 pa o nm PV6 B T V8 a6 m6 := S0.v i8 A0
  obtain ⟨-, -, -, -, -, -, mt8, z8, z9, z12, -, -⟩ := Sv
  refine ⟨g8, V8, d', hX, hM, ⟨⟨N8, P8, p0, p1, p3, wo7.eq (a3.st N7 L7), mt8, z8, z9, z12, ha, hm⟩, TT.v (by rw [i8]) (by rw [A4]), ⟨hc.1, hc.2.1, hc.2.2.1, by rw [i8]; exact hc.2.2.2⟩, ⟨hL, by omega⟩, by rw [hV8, hf_ua_at, if_pos rfl], ⟨RV, r8, r2⟩, a2, fun j hj => ?_⟩, ?_, K8, ?_⟩
  · show zTold g8 (if j = k then x4 else p j) V8 t j L6
    by_cases e : j = k
    · rw [if_pos e, e]
      have v8' : hf_Val 64 g8 sv cs := hf_Val.kv kv78 _ _ _ (by rw [hg7]; exact hf_Val.blank e4 (by decide) _ _ _ _ hv)
      have e8 : hf_ob 0 13 g8 x4 = some J := kv78 _ _ _ (by decide) (by decide) e7
      refine ⟨J, sv, cs, b, e8, by rw [hJ]; rfl, v8', hz, zc hcd, hbc, by rw [A5 _ (by omega)]; exact f1, by rw [A5 _ (by omega)]; exact f2, ?_, ?_⟩
      · have hJ0 : J.1 0 = bX := by rw [hJ]; exact hf_ui_at hf_V0 0 bX
        rw [hJ0, A5 _ (by omega), f0]
        exact hb
      · have hJ2 : J.2.2.1 2 = oc := by rw [hJ]; rfl
        rw [hJ2, A5 _ (by omega), A54]
        rcases f3 with h | ⟨cv, c', b', q1, q2, q3, q4, q5, q6⟩
        · exact Or.inl h
        · refine Or.inr ⟨cv, c', b', q1, hf_Cnd.kv kv78 _ _ _ (by rw [hg7]; exact hf_Cnd.blank e4 (by decide) _ _ _ _ q2), q3, zc q4, by omega, q6, by rw [q5]⟩
    · rw [if_neg e]
      exact (T7 j (by omega)).mv kv78 (fun i _ => by rw [A3]) (fun i hi => A5 _ (by omega)) (Nat.le_refl _)
  · rcases a4 with h | h
    · omega
    · rw [h]
      exact K7.2.1
  · rw [hV8, hV7]
    exact ((zvr.rfl_ V6 t).ua5 (by omega) _).ua6 _
end ZQ
