set_option maxRecDepth 100000
abbrev hf_dMI (om : Nat) (b : hf_H) : Int32 × hf_V → Outcome × hf_H := fun t => (.returned (some (.int t.1)), hf_M om b t.2)
abbrev hf_dML (om : Nat) (b : hf_H) : Int64 × hf_V → Outcome × hf_H := fun t => (.returned (some (.long t.1)), hf_M om b t.2)
abbrev hf_dMV (om : Nat) (b : hf_H) : hf_V → Outcome × hf_H := fun t => (.returned none, hf_M om b t)
abbrev hf_dPI (h : hf_H) : Int32 → Outcome × hf_H := fun t => (.returned (some (.int t)), h)
abbrev hf_dPL (h : hf_H) : Int64 → Outcome × hf_H := fun t => (.returned (some (.long t)), h)
abbrev hf_dHI : Int32 × hf_H → Outcome × hf_H := fun t => (.returned (some (.int t.1)), t.2)
abbrev hf_dHL : Int64 × hf_H → Outcome × hf_H := fun t => (.returned (some (.long t.1)), t.2)
abbrev hf_dHA : Nat × hf_H → Outcome × hf_H := fun t => (.returned (some (.ref t.1)), t.2)
abbrev hf_dHQ : Option Nat × hf_H → Outcome × hf_H := fun t => (.returned (some (va_rf t.1)), t.2)
abbrev hf_dHV : hf_H → Outcome × hf_H := fun t => (.returned none, t)
theorem hf_nz {x : Int32} (h : x = 0 ∨ x = 1) : narrow .boolean (.int x) = .int x := by
  rcases h with e | e
  · subst e; rfl
  · subst e; rfl
section HD
variable {τ : Type} {C : hf_X} {dec : τ → Outcome × hf_H} {P : Option τ} {h : hf_H} {pc : Nat} {L : List (Nat × Value)} {st : List Value} {code : ByteArray} {own : String} {nL : Nat} {rt : Option FieldType} {fr lc : Nat}
theorem hr_nm2I {x : Int32} {v : Value} {f : Int32 → Option τ} (k : ∀ y : Int32, hf_J C dec (f y) h pc L (v :: .int y :: st)) : hf_J C dec (hf_let x f) h pc L (v :: .int x :: st) := k x
theorem hr_nm2L {x : Int64} {v : Value} {f : Int64 → Option τ} (k : ∀ y : Int64, hf_J C dec (f y) h pc L (v :: .long y :: st)) : hf_J C dec (hf_let x f) h pc L (v :: .long x :: st) := k x
theorem hr_iincN (o : hf_In C code own nL rt fr lc) {i : Nat} {n : Int} {x : Int32} {K : Int32 → Option τ} (d : Int32) (j : Nat) (Lf : Int32 → List (Nat × Value)) (hd : decode code pc = .ok (.iinc i n, 3)) (hj : L[j]? = some (i, .int x)) (hdd : Int32.ofInt n = d) (hn : i < nL) (hl : ∀ y, hf_st1 i (.int y) L = Lf y) (k : ∀ y : Int32, hf_J C dec (K y) h (pc + 3) (Lf y) st) : hf_J C dec (hf_let (x + d) K) h pc L st := hr_iinc o d (x + d) j (Lf (x + d)) hd hj hdd rfl hn (hl _) (k _)
end HD
