set_option maxRecDepth 100000
/-! calls of an abstract method -/
def hf_MA (own : String) (idx : Nat) (C : String) (x y : MethodName) (b : ByteArray) (Lm : Nat) (r : Option FieldType) (n : Nat) : Prop := (∀ z ∈ ([.methodLink own idx x, .sameMethod x.cls x.cls x.name x.desc, .selects C x y, .instanceMethod y, .initialized y.cls] : List Cond), z ∈ lw_all) ∧ Cond.code y b Lm r ∈ lw_all ∧ Cond.declares ⟨x.cls, x.name, x.desc⟩ ∈ lw_tbl ∧ (x.cls ≠ "java/lang/invoke/MethodHandle" ∧ x.cls ≠ "java/lang/invoke/VarHandle" ∧ (parseMethodDescriptor x.desc).map (fun d => d.parameters.length) = some n)
theorem hf_five {a b c d e : Cond} (ha : a ∈ lw_all) (hb : b ∈ lw_all) (hc : c ∈ lw_all) (hd : d ∈ lw_all) (he : e ∈ lw_all) : ∀ z ∈ ([a, b, c, d, e] : List Cond), z ∈ lw_all := by
  intro w hw
  simp only [List.mem_cons, List.not_mem_nil, or_false] at hw
  rcases hw with e1 | e1 | e1 | e1 | e1 <;> (rw [e1]; assumption)
section HXA
variable {τ : Type} {C : hf_X} {dec : τ → Outcome × hf_H} {P : Option τ} {h : hf_H} {pc : Nat} {L : List (Nat × Value)} {st : List Value} {code : ByteArray} {own : String} {nL : Nat} {rt : Option FieldType} {fr lc : Nat} {idx a : Nat}
variable {x9 y : MethodName} {bytes : ByteArray} {Lm : Nat} {ret : Option FieldType} {n fr' lc' : Nat} {ρ : Type} {G : Option ρ} {K : ρ → Option τ} {rest : List Value} {gs : hf_gs}
theorem hx_callA0 (o : hf_In C code own nL rt fr lc) (og : hf_G C gs) {q : vw_C} (mv : hf_MA own idx q.1 x9 y bytes Lm ret n) (hd : decode code pc = .ok (.invokevirtual idx, 3)) {md ci : Nat} {V : hf_V} (hx : h.1 a = some (.inl (md, ci, V))) (hc : hf_cl[ci]? = some q) (As : List Value) (dv : ρ → Option Value) (dh : ρ → hf_H) {x : ρ} (eG : G = some x) (hMx : hf_ConG gs y bytes Lm ret fr' lc' (.ref a :: As) h (.returned (dv x), dh x)) (hs : st = As.reverse ++ .ref a :: rest) (hn : As.length = n) (hrest : (rest.map fun v => v.category).sum ≤ 8) (hfr : fr' + 1 ≤ fr ∧ 8 + (Lm + 11) + lc' ≤ lc)
    (kk : hf_J C dec (K x) (dh x) (pc + 3) L ((dv x).toList ++ rest)) : hf_J C dec (K x) h pc L st := by
  obtain ⟨⟨m1, m3⟩, m2⟩ := hMx
  dsimp only at m1 m3
  obtain _ | ⟨p, l, e, R, s, m, args, below, meth, c, w, h0, fin, nL0, Q⟩ := C
  · intro t e1
    have k1 := kk t e1
    exact ⟨Nat.le_trans m1 k1.1, Nat.le_trans m3 k1.2⟩
  intro t e1 e2
  obtain ⟨⟨k1, k3⟩, k2⟩ := kk t e1 e2
  obtain ⟨o1, o2, o3, o4, o5, o6, o7, o8, o9, o10, o11, o12, o13, o14, o15, o16⟩ := o
  obtain ⟨v1, v2, v3, v6⟩ := mv
  refine ⟨⟨Nat.le_trans m1 k1, Nat.le_trans m3 k3⟩, fun H locs cells slots ls a1 a2 a3 a4 a5 => ?_⟩
  have f1 : cells + ((dh x).2.1 - h.2.1) ≤ R.cells := by omega
  have f2 : slots + ((dh x).2.2 - h.2.2) ≤ R.slots := by omega
  intro T hT X
  obtain ⟨v, st₀, t1, T', Lc, b0, X', hL, q1, q2, ⟨q3, q4⟩, stp⟩ := va_runU (x := x9) (As := As) (rest := rest) (g := F0 m pc ls st) (C := q.1) (owner := x9.cls) (b := a) (n := n) ⟨o1, o2, o3, o5, o6⟩ (m2 l w o14 og) (va_cwA n o6 (lw_app v1 (lw_meth v2)) rfl rfl rfl (o13.2.2.1 _ v3 rfl) v6 ⟨by rw [o9]; exact hfr.1, by rw [o10]; exact hfr.2⟩) ⟨hf_blind, hf_recv o13 a1 hx hc, fun U hU hW => ⟨rfl, by rw [hU]; exact a1, hf_K.moved hW o13⟩⟩ rfl hn (a5.1.trans o4) hs (lv_room hrest) hd ⟨f1, f2⟩ T hT X
  cases q3
  obtain ⟨tt, b1, b2⟩ := k2 T'.heap (locs ++ Lc) _ _ ls (by rw [q1]; exact q4) (fun z hz => by
    rcases List.mem_append.mp hz with g | g
    · exact a2 z g
    · exact hL z g) (by show h0.2.1 + (cells + ((dh x).2.1 - h.2.1)) = _; omega) (by show h0.2.2 + (slots + ((dh x).2.2 - h.2.2)) = _; omega) a5 T' rfl X'
  exact ⟨tt, stp tt b1, b2⟩
/-- Value.of answers r at the object a -/
def hf_VCon (gs : hf_gs) (fr lc a w : Nat) (h : hf_H) (r : Int64) (g : hf_H) : Prop := ∃ (md ci : Nat) (V : hf_V), h.1 a = some (.inl (md, ci, V)) ∧ ((ci = 10 ∧ hf_ConG gs yX10_of cX10_of 2 (some .long) fr lc [.ref a, .ref (w + 126)] h (.returned (some (.long r)), g)) ∨ (ci = 11 ∧ hf_ConG gs yX11_of cX11_of 2 (some .long) fr lc [.ref a, .ref (w + 126)] h (.returned (some (.long r)), g)) ∨ (ci = 12 ∧ hf_ConG gs yX12_of cX12_of 6 (some .long) fr lc [.ref a, .ref (w + 126)] h (.returned (some (.long r)), g)))
def hf_CCon (gs : hf_gs) (fr lc a w : Nat) (h : hf_H) (r : Int32) (g : hf_H) : Prop := ∃ (md ci : Nat) (V : hf_V), h.1 a = some (.inl (md, ci, V)) ∧ ((ci = 15 ∧ hf_ConG gs yX15_is cX15_is 2 (some .boolean) fr lc [.ref a, .ref (w + 126)] h (.returned (some (.int r)), g)) ∨ (ci = 16 ∧ hf_ConG gs yX16_is cX16_is 6 (some .boolean) fr lc [.ref a, .ref (w + 126)] h (.returned (some (.int r)), g)) ∨ (ci = 17 ∧ hf_ConG gs yX17_is cX17_is 2 (some .boolean) fr lc [.ref a, .ref (w + 126)] h (.returned (some (.int r)), g)))
theorem hx_callVal {w : Nat} {G : Option (Int64 × hf_H)} {K : Int64 → hf_H → Option τ} (o : hf_In C code own nL rt fr lc) (og : hf_G C gs) (m10 : hf_MA own idx RX10 ⟨"HalfFair$Value", "of", "([J)J"⟩ yX10_of cX10_of 2 (some .long) 1) (m11 : hf_MA own idx RX11 ⟨"HalfFair$Value", "of", "([J)J"⟩ yX11_of cX11_of 2 (some .long) 1) (m12 : hf_MA own idx RX12 ⟨"HalfFair$Value", "of", "([J)J"⟩ yX12_of cX12_of 6 (some .long) 1) (hd : decode code pc = .ok (.invokevirtual idx, 3)) (hM : ∀ (r : Int64) (g : hf_H), G = some (r, g) → hf_VCon gs fr' lc' a w h r g) (hs : st = .ref (w + 126) :: .ref a :: rest) (hrest : (rest.map fun v => v.category).sum ≤ 8) (hfr : fr' + 1 ≤ fr ∧ 25 + lc' ≤ lc) (kk : ∀ (r : Int64) (g : hf_H), hf_J C dec (K r g) g (pc + 3) L (.long r :: rest)) : hf_J C dec (hf_b2 G K) h pc L st := by
  cases e : G with
  | none => exact hr_none
  | some x =>
    obtain ⟨r, g⟩ := x
    show hf_J C dec ((fun x : Int64 × hf_H => K x.1 x.2) (r, g)) h pc L st
    obtain ⟨md, ci, V, hx, hcs⟩ := hM r g e
    rcases hcs with ⟨rfl, hc⟩ | ⟨rfl, hc⟩ | ⟨rfl, hc⟩
    · exact hx_callA0 (G := G) (q := (RX10, TX10, 1)) (K := fun x : Int64 × hf_H => K x.1 x.2) o og m10 hd hx rfl [.ref (w + 126)] (fun x => some (.long x.1)) (fun x => x.2) e hc hs rfl hrest ⟨hfr.1, by omega⟩ (kk r g)
    · exact hx_callA0 (G := G) (q := (RX11, TX11, 1)) (K := fun x : Int64 × hf_H => K x.1 x.2) o og m11 hd hx rfl [.ref (w + 126)] (fun x => some (.long x.1)) (fun x => x.2) e hc hs rfl hrest ⟨hfr.1, by omega⟩ (kk r g)
    · exact hx_callA0 (G := G) (q := (RX12, TX12, 3)) (K := fun x : Int64 × hf_H => K x.1 x.2) o og m12 hd hx rfl [.ref (w + 126)] (fun x => some (.long x.1)) (fun x => x.2) e hc hs rfl hrest ⟨hfr.1, by omega⟩ (kk r g)
theorem hx_callCnd {w : Nat} {G : Option (Int32 × hf_H)} {K : Int32 → hf_H → Option τ} (o : hf_In C code own nL rt fr lc) (og : hf_G C gs) (m15 : hf_MA own idx RX15 ⟨"HalfFair$Condition", "is", "([J)Z"⟩ yX15_is cX15_is 2 (some .boolean) 1) (m16 : hf_MA own idx RX16 ⟨"HalfFair$Condition", "is", "([J)Z"⟩ yX16_is cX16_is 6 (some .boolean) 1) (m17 : hf_MA own idx RX17 ⟨"HalfFair$Condition", "is", "([J)Z"⟩ yX17_is cX17_is 2 (some .boolean) 1) (hd : decode code pc = .ok (.invokevirtual idx, 3)) (hM : ∀ (r : Int32) (g : hf_H), G = some (r, g) → hf_CCon gs fr' lc' a w h r g) (hs : st = .ref (w + 126) :: .ref a :: rest) (hrest : (rest.map fun v => v.category).sum ≤ 8) (hfr : fr' + 1 ≤ fr ∧ 25 + lc' ≤ lc) (kk : ∀ (r : Int32) (g : hf_H), hf_J C dec (K r g) g (pc + 3) L (.int r :: rest)) : hf_J C dec (hf_b2 G K) h pc L st := by
  cases e : G with
  | none => exact hr_none
  | some x =>
    obtain ⟨r, g⟩ := x
    show hf_J C dec ((fun x : Int32 × hf_H => K x.1 x.2) (r, g)) h pc L st
    obtain ⟨md, ci, V, hx, hcs⟩ := hM r g e
    rcases hcs with ⟨rfl, hc⟩ | ⟨rfl, hc⟩ | ⟨rfl, hc⟩
    · exact hx_callA0 (G := G) (q := (RX15, TX15, 1)) (K := fun x : Int32 × hf_H => K x.1 x.2) o og m15 hd hx rfl [.ref (w + 126)] (fun x => some (.int x.1)) (fun x => x.2) e hc hs rfl hrest ⟨hfr.1, by omega⟩ (kk r g)
    · exact hx_callA0 (G := G) (q := (RX16, TX16, 4)) (K := fun x : Int32 × hf_H => K x.1 x.2) o og m16 hd hx rfl [.ref (w + 126)] (fun x => some (.int x.1)) (fun x => x.2) e hc hs rfl hrest ⟨hfr.1, by omega⟩ (kk r g)
    · exact hx_callA0 (G := G) (q := (RX17, TX17, 3)) (K := fun x : Int32 × hf_H => K x.1 x.2) o og m17 hd hx rfl [.ref (w + 126)] (fun x => some (.int x.1)) (fun x => x.2) e hc hs rfl hrest ⟨hfr.1, by omega⟩ (kk r g)
end HXA
