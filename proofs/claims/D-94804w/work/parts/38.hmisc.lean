set_option maxRecDepth 100000
theorem hf_of0_inj : ∀ j k : Nat, (hf_of 0 j).1 ≠ 0 → (hf_of 0 j).1 = (hf_of 0 k).1 → j = k := by
  have key : ∀ j : Nat, 37 ≤ j → (hf_of 0 j).1 = 0 := by
    intro j hj
    obtain ⟨i, rfl⟩ := Nat.exists_eq_add_of_le' hj
    rfl
  have key2 : ∀ j k : Nat, j < 37 → k < 37 → (hf_of 0 j).1 ≠ 0 → (hf_of 0 j).1 = (hf_of 0 k).1 → j = k := by
    have h : ((List.range 37).all fun j => (List.range 37).all fun k => decide ((hf_of 0 j).1 ≠ 0 → (hf_of 0 j).1 = (hf_of 0 k).1 → j = k)) = true := by decide +kernel
    intro j k hj hk
    have h1 := List.all_eq_true.mp h j (List.mem_range.mpr hj)
    exact of_decide_eq_true (List.all_eq_true.mp h1 k (List.mem_range.mpr hk))
  intro j k h1 h2
  by_cases hj : j < 37
  · by_cases hk : k < 37
    · exact key2 j k hj hk h1 h2
    · exact absurd (h2.trans (key k (by omega))) h1
  · exact absurd (key j (by omega)) h1
theorem hf_of1_inj : ∀ j k : Nat, (hf_of 1 j).1 ≠ 0 → (hf_of 1 j).1 = (hf_of 1 k).1 → j = k := by
  have key : ∀ j : Nat, 37 ≤ j → (hf_of 1 j).1 = 0 := by
    intro j hj
    obtain ⟨i, rfl⟩ := Nat.exists_eq_add_of_le' hj
    rfl
  have key2 : ∀ j k : Nat, j < 37 → k < 37 → (hf_of 1 j).1 ≠ 0 → (hf_of 1 j).1 = (hf_of 1 k).1 → j = k := by
    have h : ((List.range 37).all fun j => (List.range 37).all fun k => decide ((hf_of 1 j).1 ≠ 0 → (hf_of 1 j).1 = (hf_of 1 k).1 → j = k)) = true := by decide +kernel
    intro j k hj hk
    have h1 := List.all_eq_true.mp h j (List.mem_range.mpr hj)
    exact of_decide_eq_true (List.all_eq_true.mp h1 k (List.mem_range.mpr hk))
  intro j k h1 h2
  by_cases hj : j < 37
  · by_cases hk : k < 37
    · exact key2 j k hj hk h1 h2
    · exact absurd (h2.trans (key k (by omega))) h1
  · exact absurd (key j (by omega)) h1
theorem hf_of2_inj : ∀ j k : Nat, (hf_of 2 j).1 ≠ 0 → (hf_of 2 j).1 = (hf_of 2 k).1 → j = k := by
  have key : ∀ j : Nat, 37 ≤ j → (hf_of 2 j).1 = 0 := by
    intro j hj
    obtain ⟨i, rfl⟩ := Nat.exists_eq_add_of_le' hj
    rfl
  have key2 : ∀ j k : Nat, j < 37 → k < 37 → (hf_of 2 j).1 ≠ 0 → (hf_of 2 j).1 = (hf_of 2 k).1 → j = k := by
    have h : ((List.range 37).all fun j => (List.range 37).all fun k => decide ((hf_of 2 j).1 ≠ 0 → (hf_of 2 j).1 = (hf_of 2 k).1 → j = k)) = true := by decide +kernel
    intro j k hj hk
    have h1 := List.all_eq_true.mp h j (List.mem_range.mpr hj)
    exact of_decide_eq_true (List.all_eq_true.mp h1 k (List.mem_range.mpr hk))
  intro j k h1 h2
  by_cases hj : j < 37
  · by_cases hk : k < 37
    · exact key2 j k hj hk h1 h2
    · exact absurd (h2.trans (key k (by omega))) h1
  · exact absurd (key j (by omega)) h1
theorem hf_of18_inj : ∀ j k : Nat, (hf_of 18 j).1 ≠ 0 → (hf_of 18 j).1 = (hf_of 18 k).1 → j = k := by
  have key : ∀ j : Nat, 37 ≤ j → (hf_of 18 j).1 = 0 := by
    intro j hj
    obtain ⟨i, rfl⟩ := Nat.exists_eq_add_of_le' hj
    rfl
  have key2 : ∀ j k : Nat, j < 37 → k < 37 → (hf_of 18 j).1 ≠ 0 → (hf_of 18 j).1 = (hf_of 18 k).1 → j = k := by
    have h : ((List.range 37).all fun j => (List.range 37).all fun k => decide ((hf_of 18 j).1 ≠ 0 → (hf_of 18 j).1 = (hf_of 18 k).1 → j = k)) = true := by decide +kernel
    intro j k hj hk
    have h1 := List.all_eq_true.mp h j (List.mem_range.mpr hj)
    exact of_decide_eq_true (List.all_eq_true.mp h1 k (List.mem_range.mpr hk))
  intro j k h1 h2
  by_cases hj : j < 37
  · by_cases hk : k < 37
    · exact key2 j k hj hk h1 h2
    · exact absurd (h2.trans (key k (by omega))) h1
  · exact absurd (key j (by omega)) h1
theorem hf_nzf {x : Int32} (h : x = 0 ∨ x = 1) : fits .boolean (.int x) = true := by
  rcases h with e | e
  · subst e; rfl
  · subst e; rfl
section HMM
variable {τ : Type} {C : hf_X} {dec : τ → Outcome × hf_H} {P : Option τ} {h : hf_H} {pc : Nat} {L : List (Nat × Value)} {st : List Value} {code : ByteArray} {own : String} {nL : Nat} {rt : Option FieldType} {fr lc : Nat} {idx : Nat}
theorem hx_mmax (o : hf_In C code own nL rt fr lc) {x y : Int32} (h1 : Cond.methodLink own idx Lib.Math.max.name ∈ lw_all) (h2 : Cond.static Lib.Math.max.name ∈ lw_all) (h3 : Cond.initialized "java/lang/Math" ∈ lw_all) (h4 : Cond.code Lib.Math.max.name Lib.Math.max.code 2 (some .int) ∈ lw_all) (hfr : 1 ≤ fr) (hlc : (st.map fun v => v.category).sum + 13 ≤ lc) (hd : decode code pc = .ok (.invokestatic idx, 3)) (k : hf_J C dec P h (pc + 3) L (.int (if x < y then y else x) :: st)) : hf_J C dec P h pc L (.int y :: .int x :: st) := by
  obtain _ | ⟨p, l, e, R, s, m, args, below, meth, c, w, h0, fin, nL0, Q⟩ := C
  · exact k
  intro t e1 e2
  obtain ⟨⟨k1, k3⟩, k2⟩ := k t e1 e2
  obtain ⟨o1, o2, o3, o4, o5, o6, o7, o8, o9, o10, o11, o12, o13, o14, o15, o16⟩ := o
  exact ⟨⟨k1, k3⟩, fun H locs cells slots ls a1 a2 a3 a4 a5 => va_mmax o1 o2 (o3.trans (o4.symm.trans a5.1.symm)) o5 (o6 _ h1) (o6 _ h2) (o6 _ h3) (o6 _ h4) (by rw [o9]; exact hfr) (by rw [o10]; exact hlc) (by omega) (by omega) hd (k2 H locs cells slots ls a1 a2 a3 a4 a5)⟩
theorem hx_mmin (o : hf_In C code own nL rt fr lc) {x y : Int32} (h1 : Cond.methodLink own idx Lib.Math.min.name ∈ lw_all) (h2 : Cond.static Lib.Math.min.name ∈ lw_all) (h3 : Cond.initialized "java/lang/Math" ∈ lw_all) (h4 : Cond.code Lib.Math.min.name Lib.Math.min.code 2 (some .int) ∈ lw_all) (hfr : 1 ≤ fr) (hlc : (st.map fun v => v.category).sum + 13 ≤ lc) (hd : decode code pc = .ok (.invokestatic idx, 3)) (k : hf_J C dec P h (pc + 3) L (.int (if y < x then y else x) :: st)) : hf_J C dec P h pc L (.int y :: .int x :: st) := by
  obtain _ | ⟨p, l, e, R, s, m, args, below, meth, c, w, h0, fin, nL0, Q⟩ := C
  · exact k
  intro t e1 e2
  obtain ⟨⟨k1, k3⟩, k2⟩ := k t e1 e2
  obtain ⟨o1, o2, o3, o4, o5, o6, o7, o8, o9, o10, o11, o12, o13, o14, o15, o16⟩ := o
  exact ⟨⟨k1, k3⟩, fun H locs cells slots ls a1 a2 a3 a4 a5 => va_mmin o1 o2 (o3.trans (o4.symm.trans a5.1.symm)) o5 (o6 _ h1) (o6 _ h2) (o6 _ h3) (o6 _ h4) (by rw [o9]; exact hfr) (by rw [o10]; exact hlc) (by omega) (by omega) hd (k2 H locs cells slots ls a1 a2 a3 a4 a5)⟩
theorem hx_mabs (o : hf_In C code own nL rt fr lc) {x : Int32} (h1 : Cond.methodLink own idx Lib.Math.abs.name ∈ lw_all) (h2 : Cond.static Lib.Math.abs.name ∈ lw_all) (h3 : Cond.initialized "java/lang/Math" ∈ lw_all) (h4 : Cond.code Lib.Math.abs.name Lib.Math.abs.code 1 (some .int) ∈ lw_all) (hfr : 1 ≤ fr) (hlc : (st.map fun v => v.category).sum + 13 ≤ lc) (hd : decode code pc = .ok (.invokestatic idx, 3)) (k : hf_J C dec P h (pc + 3) L (.int (if 0 ≤ x then x else 0 - x) :: st)) : hf_J C dec P h pc L (.int x :: st) := by
  obtain _ | ⟨p, l, e, R, s, m, args, below, meth, c, w, h0, fin, nL0, Q⟩ := C
  · exact k
  intro t e1 e2
  obtain ⟨⟨k1, k3⟩, k2⟩ := k t e1 e2
  obtain ⟨o1, o2, o3, o4, o5, o6, o7, o8, o9, o10, o11, o12, o13, o14, o15, o16⟩ := o
  exact ⟨⟨k1, k3⟩, fun H locs cells slots ls a1 a2 a3 a4 a5 => va_mabs o1 o2 (o3.trans (o4.symm.trans a5.1.symm)) o5 (o6 _ h1) (o6 _ h2) (o6 _ h3) (o6 _ h4) (by rw [o9]; exact hfr) (by rw [o10]; exact hlc) (by omega) (by omega) hd (k2 H locs cells slots ls a1 a2 a3 a4 a5)⟩
end HMM
