set_option maxRecDepth 100000
set_option maxHeartbeats 1000000
/-! a made object takes its arrays in -/
def hf_own : Nat → List Nat := fun ci => match ci with
  | 0 => [5, 7, 8, 9, 12, 13, 16, 17, 18, 22]
  | 1 => [2]
  | 2 => [0, 1, 2, 3]
  | 4 => [0, 3, 4, 5, 6, 7, 15, 17, 19, 20, 22, 23, 24, 27, 28, 32, 34, 35, 36]
  | 18 => [2, 3, 4]
  | _ => []
theorem hf_own_of : ∀ (ci k : Nat), (hf_of ci k).1 ≠ 0 → k ∈ hf_own ci := by
  intro ci k hk
  have big : ∀ ci k, 37 ≤ k → (hf_of ci k).1 = 0 := by
    intro ci k h
    obtain ⟨i, rfl⟩ := Nat.exists_eq_add_of_le' h
    match ci with
    | 0 => rfl
    | 1 => rfl
    | 2 => rfl
    | 3 => rfl
    | 4 => rfl
    | 18 => rfl
    | 5 => rfl
    | 6 => rfl
    | 7 => rfl
    | 8 => rfl
    | 9 => rfl
    | 10 => rfl
    | 11 => rfl
    | 12 => rfl
    | 13 => rfl
    | 14 => rfl
    | 15 => rfl
    | 16 => rfl
    | 17 => rfl
    | n + 19 => rfl
  have bigc : ∀ n k, (hf_of (n + 19) k).1 = 0 := fun n k => rfl
  have key : ((List.range 19).all fun ci => (List.range 37).all fun k => decide ((hf_of ci k).1 ≠ 0 → k ∈ hf_own ci)) = true := by decide +kernel
  by_cases hc : ci < 19
  · by_cases hj : k < 37
    · exact of_decide_eq_true (List.all_eq_true.mp (List.all_eq_true.mp key ci (List.mem_range.mpr hc)) k (List.mem_range.mpr hj)) hk
    · exact absurd (big ci k (by omega)) hk
  · obtain ⟨n, rfl⟩ := Nat.exists_eq_add_of_le' (Nat.not_lt.mp hc)
    exact absurd (bigc n k) hk
/-- a plain array of elements ty, n of them, is at q -/
def hf_isA (h : hf_H) (q : Nat) (ty : FieldType) (n : Nat) : Bool := match h.1 q with
  | some (.inr (.inl (md, t, m, b))) => decide (md = 0 ∧ t = ty ∧ m = n) && (match b, ty with
    | .inr (.inl _), .long => true
    | .inr (.inr _), .object _ => true
    | .inl _, .int => true
    | .inl _, .byte => true
    | .inl _, .boolean => true
    | _, _ => false)
  | _ => false
def hf_ci (h : hf_H) (q : Nat) : Nat → Int32 := match h.1 q with
  | some (.inr (.inl (_, _, _, .inl f))) => f
  | _ => fun _ => 0
def hf_cl64 (h : hf_H) (q : Nat) : Nat → Int64 := match h.1 q with
  | some (.inr (.inl (_, _, _, .inr (.inl f)))) => f
  | _ => fun _ => 0
def hf_cq (h : hf_H) (q : Nat) : Nat → Option Nat := match h.1 q with
  | some (.inr (.inl (_, _, _, .inr (.inr f)))) => f
  | _ => fun _ => none
theorem hf_isA_spec {h : hf_H} {q : Nat} {ty : FieldType} {n : Nat} (e : hf_isA h q ty n = true) : ∃ b : hf_B, h.1 q = some (.inr (.inl (0, ty, n, b))) ∧ ∀ (V : hf_V) (k : Nat), V.2.2.2.1 k = hf_ci h q → V.2.2.2.2.1 k = hf_cl64 h q → V.2.2.2.2.2 k = hf_cq h q → hf_ar ty V k = b := by
  unfold hf_isA at e
  split at e
  · next md t m b h1 =>
    simp only [Bool.and_eq_true, decide_eq_true_eq] at e
    obtain ⟨⟨rfl, rfl, rfl⟩, e2⟩ := e
    refine ⟨b, h1, fun V k f1 f2 f3 => ?_⟩
    unfold hf_ci at f1
    unfold hf_cl64 at f2
    unfold hf_cq at f3
    rw [h1] at f1 f2 f3
    match b, t, e2 with
    | .inr (.inl f), .long, _ => exact congrArg (fun x => Sum.inr (Sum.inl x)) f2
    | .inr (.inr f), .object _, _ => exact congrArg (fun x => Sum.inr (Sum.inr x)) f3
    | .inl f, .int, _ => exact congrArg Sum.inl f1
    | .inl f, .byte, _ => exact congrArg Sum.inl f1
    | .inl f, .boolean, _ => exact congrArg Sum.inl f1
  · cases e
def hf_tk (h : hf_H) (a ci : Nat) (V : hf_V) : hf_V := (V.1, V.2.1, V.2.2.1, fun k => hf_ci h (a + (hf_of ci k).1), fun k => hf_cl64 h (a + (hf_of ci k).1), fun k => hf_cq h (a + (hf_of ci k).1))
def hf_fold (ci : Nat) (h : hf_H) (a : Nat) : Option hf_H := (hf_ob 0 ci h a).bind fun V =>
  if (hf_own ci).all (fun k => decide (V.2.2.1 k = some (a + (hf_of ci k).1)) && hf_isA h (a + (hf_of ci k).1) (hf_el (hf_ty ci k)) (hf_of ci k).2) then
    some (fun q => if q = a then some (.inl (1, ci, hf_tk h a ci V)) else if (hf_own ci).any (fun k => decide (q = a + (hf_of ci k).1)) then none else h.1 q, h.2) else none
theorem hf_pvT {ty : FieldType} (h : ∃ t, ty = .array t) (V : hf_V) (k : Nat) : hf_pv ty V k = va_rf (V.2.2.1 k) := by
  obtain ⟨t, rfl⟩ := h
  rfl
theorem hf_own_arr : ∀ ci k, k ∈ hf_own ci → ∃ t, hf_ty ci k = .array t := by
  have key : ∀ ci, ci < 19 → ∀ k ∈ hf_own ci, (match hf_ty ci k with | .array _ => true | _ => false) = true := by
    intro ci hc
    have h : ((List.range 19).all fun ci => (hf_own ci).all fun k => match hf_ty ci k with | .array _ => true | _ => false) = true := by decide +kernel
    intro k hk
    exact List.all_eq_true.mp (List.all_eq_true.mp h ci (List.mem_range.mpr hc)) k hk
  intro ci k hk
  have hc : ci < 19 := by
    by_cases hc : ci < 19
    · exact hc
    · obtain ⟨n, rfl⟩ := Nat.exists_eq_add_of_le' (Nat.not_lt.mp hc)
      exact absurd hk (by show ¬ k ∈ ([] : List Nat); exact List.not_mem_nil)
  have h := key ci hc k hk
  split at h
  · next t e => exact ⟨t, e⟩
  · cases h
theorem hf_fold_rel {w : hf_W} {h g : hf_H} {H : Heap} {ci a : Nat} (hR : hf_Rel w h H) (e : hf_fold ci h a = some g) : hf_Rel w g H ∧ g.2 = h.2 := by
  unfold hf_fold at e
  cases e0 : hf_ob 0 ci h a with
  | none => rw [e0] at e; cases e
  | some V =>
    rw [e0, Option.bind_some] at e
    have hx := hf_ob_spec e0
    split at e
    · next hall =>
      cases e
      refine ⟨?_, rfl⟩
      have hown : ∀ k : Nat, (hf_of ci k).1 ≠ 0 → V.2.2.1 k = some (a + (hf_of ci k).1) ∧ hf_isA h (a + (hf_of ci k).1) (hf_el (hf_ty ci k)) (hf_of ci k).2 = true := by
        intro k hk
        have h1 := List.all_eq_true.mp hall k (hf_own_of ci k hk)
        simp only [Bool.and_eq_true, decide_eq_true_eq] at h1
        exact h1
      obtain ⟨r1, r2, r3, r4, r5⟩ := hR
      have hat := r4 a _ hx
      obtain ⟨⟨⟨r, f1, f2⟩, -⟩, hge⟩ := hat
      have new : hf_at w a (.inl (1, ci, hf_tk h a ci V)) H := by
        refine ⟨⟨r, f1, f2.to (fun j _ => ?_)⟩, fun _ k hk => ?_⟩
        · by_cases hj : (hf_of ci j).1 = 0
          · have e1 : ∀ md V, hf_fv md ci a V j = hf_pv (hf_ty ci j) V j := fun md V => by unfold hf_fv; rw [hj]
            rw [e1, e1]
            unfold hf_pv
            rfl
          · obtain ⟨p1, -⟩ := hown j hj
            have ht := hf_own_arr ci j (hf_own_of ci j hj)
            obtain ⟨n, hn⟩ := Nat.exists_eq_succ_of_ne_zero hj
            have e1 : hf_fv 0 ci a V j = hf_pv (hf_ty ci j) V j := by unfold hf_fv; rw [hn]; rfl
            have e2 : hf_fv 1 ci a (hf_tk h a ci V) j = .ref (a + (n + 1)) := by unfold hf_fv; rw [hn]; rfl
            rw [e1, e2, hf_pvT ht, p1, hn]
            rfl
        · obtain ⟨-, p2⟩ := hown k hk
          obtain ⟨b, g1, g2⟩ := hf_isA_spec p2
          have g3 := (r4 _ _ g1).1.1 (by decide)
          rw [g2 (hf_tk h a ci V) k rfl rfl rfl]
          exact g3
      refine ⟨r1, r2, r3, fun b x hb => ?_, fun b c x y q hb hc hf hf' => ?_⟩
      · by_cases e1 : b = a
        · subst e1
          simp only [if_true] at hb
          cases hb
          exact ⟨new, fun _ => hge rfl⟩
        · simp only [if_neg e1] at hb
          split at hb
          · cases hb
          · exact r4 b x hb
      · have key : ∀ (b : Nat) (x : hf_C) (q : Nat), (if b = a then some (Sum.inl (1, ci, hf_tk h a ci V)) else if (hf_own ci).any (fun k => decide (b = a + (hf_of ci k).1)) then none else h.1 b) = some x → hf_ft b x q → (b = a ∧ (∃ z u, h.1 z = some u ∧ hf_ft z u q ∧ hf_ro u = false ∧ (z = a ∨ (hf_own ci).any (fun k => decide (z = a + (hf_of ci k).1)) = true))) ∨ (b ≠ a ∧ h.1 b = some x ∧ ¬ (hf_own ci).any (fun k => decide (b = a + (hf_of ci k).1)) = true) := by
          intro b x q hb hq
          by_cases e1 : b = a
          · subst e1
            simp only [if_true] at hb
            cases hb
            left
            refine ⟨rfl, ?_⟩
            rcases hq with e2 | ⟨-, k, hk, e2⟩
            · exact ⟨b, _, hx, by rw [e2]; exact hf_ft_self _ _, rfl, Or.inl rfl⟩
            · obtain ⟨-, p2⟩ := hown k hk
              obtain ⟨bb, g1, -⟩ := hf_isA_spec p2
              exact ⟨_, _, g1, e2, rfl, Or.inr (List.any_eq_true.mpr ⟨k, hf_own_of ci k hk, by simp⟩)⟩
          · simp only [if_neg e1] at hb
            split at hb
            · cases hb
            · next h9 => exact Or.inr ⟨e1, hb, h9⟩
        rcases key b x q hb hf with ⟨e1, z, u, z1, z2, z3, z4⟩ | ⟨e1, e2, e3⟩ <;> rcases key c y q hc hf' with ⟨e4, z', u', z1', z2', z3', z4'⟩ | ⟨e4, e5, e6⟩
        · exact Or.inl (by rw [e1, e4])
        · exfalso
          rcases r5 z c u y q z1 e5 z2 hf' with e7 | ⟨e7, -⟩
          · subst e7
            rcases z4 with e8 | e8
            · exact e4 e8
            · exact e6 e8
          · rw [z3] at e7; cases e7
        · exfalso
          rcases r5 z' b u' x q z1' e2 z2' hf with e7 | ⟨e7, -⟩
          · subst e7
            rcases z4' with e8 | e8
            · exact e1 e8
            · exact e3 e8
          · rw [z3'] at e7; cases e7
        · exact r5 b c x y q e2 e5 hf hf'
    · cases e
section HF
variable {τ : Type} {C : hf_X} {dec : τ → Outcome × hf_H} {P : Option τ} {h : hf_H} {pc : Nat} {L : List (Nat × Value)} {st : List Value} {code : ByteArray} {own : String} {nL : Nat} {rt : Option FieldType} {fr lc : Nat} {idx a : Nat}
theorem hx_fold {ci : Nat} {K : hf_H → Option τ} (kk : ∀ g : hf_H, hf_J C dec (K g) g pc L st) : hf_J C dec ((hf_fold ci h a).bind K) h pc L st := by
  cases e : hf_fold ci h a with
  | none => exact hr_none
  | some g =>
    show hf_J C dec (K g) h pc L st
    have kk := kk g
    have hg : g.2 = h.2 := by
      unfold hf_fold at e
      cases e0 : hf_ob 0 ci h a with
      | none => rw [e0] at e; cases e
      | some V =>
        rw [e0, Option.bind_some] at e
        split at e
        · cases e; rfl
        · cases e
    obtain _ | ⟨p, l, e9, R, s, m, args, below, meth, c, w, h0, fin, nL0, Q⟩ := C
    · intro t e1
      have k1 := kk t e1
      rw [hg] at k1
      exact k1
    intro t e1 e2
    obtain ⟨k1, k2⟩ := kk t e1 e2
    rw [hg] at k1
    refine ⟨k1, fun H locs cells slots ls a1 a2 a3 a4 a5 => k2 H locs cells slots ls (hf_fold_rel a1 e).1 a2 (by rw [hg]; exact a3) (by rw [hg]; exact a4) a5⟩
/-- a reference into an owned array of a class's objects -/
theorem hx_aast (o : hf_In C code own nL rt fr lc) (ci k off n : Nat) (hof : hf_of ci k = (off, n)) (h0 : off ≠ 0) (hinj : ∀ j : Nat, (hf_of ci j).1 ≠ 0 → (hf_of ci j).1 = off → j = k) {q2 : vw_C} (md2 ci2 : Nat) (hq2 : hf_cl[ci2]? = some q2) (hty : hf_el (hf_ty ci k) = .object q2.1) (hmem : FieldType.object q2.1 ∈ hf_tys) {i : Int32} {v : Nat} {K : hf_H → Option τ} (hd : decode code pc = .ok (.aastore, 1)) (kk : ∀ g : hf_H, hf_J C dec (K g) g (pc + 1) L st) : hf_J C dec ((hf_ob md2 ci2 h v).bind fun _ => (hf_sq ci k n h a i (some v)).bind K) h pc L (.ref v :: .int i :: .ref (a + off) :: st) := by
  cases e0 : hf_ob md2 ci2 h v with
  | none => exact hr_none
  | some V2 =>
    show hf_J C dec ((hf_sq ci k n h a i (some v)).bind K) h pc L _
    have hv := hf_ob_spec e0
    cases e : hf_ob 1 ci h a with
    | none => rw [show hf_sq ci k n h a i (some v) = none by unfold hf_sq; rw [e]; rfl]; exact hr_none
    | some V =>
      have hx := hf_ob_spec e
      by_cases hi : i < 0 ∨ n ≤ i.toNatClampNeg
      · rw [show hf_sq ci k n h a i (some v) = none by unfold hf_sq; rw [e]; simp [hi]]; exact hr_none
      rw [show hf_sq ci k n h a i (some v) = some (hf_up h a (.inl (1, ci, hf_uQ V k i.toNatClampNeg (some v)))) by unfold hf_sq; rw [e]; simp [hi]]
      show hf_J C dec (K _) h pc L _
      have kk := kk (hf_up h a (.inl (1, ci, hf_uQ V k i.toNatClampNeg (some v))))
      obtain _ | ⟨p, l, e, R, s, m, args, below, meth, c, w, h0', fin, nL0, Q⟩ := C
      · exact kk
      intro t e1 e2
      obtain ⟨k1, k2⟩ := kk t e1 e2
      obtain ⟨o1, o2, o3, o4, o5, o6, o7, o8, o9, o10, o11, o12, o13, o14, o15, o16⟩ := o
      refine ⟨k1, fun H locs cells slots ls a1 a2 a3 a4 a5 => ?_⟩
      obtain ⟨⟨r, h1, cellV, g1, g2, g3, -⟩, -⟩ := (a1.2.2.2.1 v _ hv).1
      have hcls := (o13.1 ci2 q2 hq2).2
      obtain ⟨kA, comp, j1, j2, j3, -⟩ := (o13.2.1 (.object q2.1) hmem).2
      have hcomp : comp = w.1.1 ci2 := Option.some.inj (j3.symm.trans hcls.1)
      subst hcomp
      obtain ⟨kC, hkC, -⟩ := hcls.2
      have hat := a1.2.2.2.1 a _ hx
      have hc := hf_at_arr (md := 1) hat.1 hof h0
      rw [hty] at hc
      have hlt : i.toNatClampNeg < n := Nat.not_le.mp fun q => hi (Or.inr q)
      refine W.aast o1 o2 hc (fun q h => by cases h) (fun h => by cases h) j1 j2 rfl hkC ⟨fun q => hi (Or.inl q), by show _ < (arrV _ _ _).slots.size; rw [arrV_size]; exact hlt⟩ g1 (fun q h => by rw [g3] at h; cases h) (by rw [g2]; exact hkC) (by rw [g2]; exact va_assign hcls) rfl rfl hd fun H1 b1 b2 b3 => ?_
      refine k2 H1 _ cells slots ls (a1.set hx rfl (fun q => Iff.rfl) rfl (hf_at_st hat.1 hof h0 hinj (fun j => rfl) (fun j e => ?_) ?_ b3) b2 (fun q hq => b3 q (fun z => hq (by rw [z]; exact hf_ft_off (md := 1) hof h0)))) (hf_nlocs a2 (Nat.le_trans (hat.2 rfl) (by omega))) a3 a4 a5
      · have h9 : (hf_uQ V k i.toNatClampNeg (some v)).2.2.2.2.2 j = V.2.2.2.2.2 j := if_neg e
        unfold hf_ar
        rw [h9]
        rfl
      · rw [b1, hty]
        refine congrArg some (hf_cellQ (v := v) fun q => ?_)
        simp [hf_uQ]
end HF
