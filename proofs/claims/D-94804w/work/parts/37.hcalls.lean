set_option maxRecDepth 100000
/-! calls in H mode -/
def hf_MVN (own : String) (idx : Nat) (host C : String) (y : MethodName) (b : ByteArray) (Lm : Nat) (r : Option FieldType) (n : Nat) : Prop := (Cond.methodLinkNest own idx y host ∈ lw_tbl ∧ Cond.instanceMethod y ∈ lw_all ∧ Cond.selects C y y ∈ lw_all ∧ Cond.initialized y.cls ∈ lw_all ∧ Cond.code y b Lm r ∈ lw_all) ∧ (y.cls ≠ "java/lang/invoke/MethodHandle" ∧ y.cls ≠ "java/lang/invoke/VarHandle" ∧ (parseMethodDescriptor y.desc).map (fun d => d.parameters.length) = some n)
def hf_MSN (own : String) (idx : Nat) (host : String) (y : MethodName) (b : ByteArray) (Lm : Nat) (r : Option FieldType) (n : Nat) : Prop := (Cond.methodLinkNest own idx y host ∈ lw_tbl ∧ Cond.static y ∈ lw_all ∧ Cond.initialized y.cls ∈ lw_all ∧ Cond.code y b Lm r ∈ lw_all) ∧ (y.cls ≠ "java/lang/invoke/MethodHandle" ∧ y.cls ≠ "java/lang/invoke/VarHandle" ∧ (parseMethodDescriptor y.desc).map (fun d => d.parameters.length) = some n)
def hf_MIN (own : String) (idx : Nat) (host : String) (y : MethodName) (b : ByteArray) (Lm : Nat) (n : Nat) : Prop := (Cond.methodLinkNest own idx y host ∈ lw_tbl ∧ Cond.instanceMethod y ∈ lw_all ∧ Cond.initialized y.cls ∈ lw_all ∧ Cond.code y b Lm none ∈ lw_all ∧ y.name = "<init>") ∧ (y.cls ≠ "java/lang/invoke/MethodHandle" ∧ y.cls ≠ "java/lang/invoke/VarHandle" ∧ (parseMethodDescriptor y.desc).map (fun d => d.parameters.length) = some n)
section HXC
variable {τ : Type} {C : hf_X} {dec : τ → Outcome × hf_H} {P : Option τ} {h : hf_H} {pc : Nat} {L : List (Nat × Value)} {st : List Value} {code : ByteArray} {own : String} {nL : Nat} {rt : Option FieldType} {fr lc : Nat} {idx a : Nat}
variable {y : MethodName} {bytes : ByteArray} {Lm : Nat} {ret : Option FieldType} {n fr' lc' : Nat} {ρ : Type} {G : Option ρ} {K : ρ → Option τ} {rest : List Value} {gs : hf_gs} {host : String}
theorem hx_callV0 (o : hf_In C code own nL rt fr lc) (og : hf_G C gs) {q : vw_C} (mv : hf_MV own idx q.1 y bytes Lm ret n) (hd : decode code pc = .ok (.invokevirtual idx, 3)) {md ci : Nat} {V : hf_V} (hx : h.1 a = some (.inl (md, ci, V))) (hc : hf_cl[ci]? = some q) (As : List Value) (dv : ρ → Option Value) (dh : ρ → hf_H) (hM : ∀ x, G = some x → hf_ConG gs y bytes Lm ret fr' lc' (.ref a :: As) h (.returned (dv x), dh x)) (hs : st = As.reverse ++ .ref a :: rest) (hn : As.length = n) (hrest : (rest.map fun v => v.category).sum ≤ 8) (hfr : fr' + 1 ≤ fr ∧ 8 + (Lm + 11) + lc' ≤ lc)
    (kk : ∀ x, G = some x → hf_J C dec (K x) (dh x) (pc + 3) L ((dv x).toList ++ rest)) : hf_J C dec (G.bind K) h pc L st := by
  cases eG : G with
  | none => exact hr_none
  | some x =>
    have hMx := hM x eG
    have kk := kk x eG
    show hf_J C dec (K x) h pc L st
    obtain ⟨⟨m1, m3⟩, m2⟩ := hMx
    dsimp only at m1 m3
    obtain _ | ⟨p, l, e, R, s, m, args, below, meth, c, w, h0, fin, nL0, Q⟩ := C
    · intro t e1
      have k1 := kk t e1
      exact ⟨Nat.le_trans m1 k1.1, Nat.le_trans m3 k1.2⟩
    intro t e1 e2
    obtain ⟨⟨k1, k3⟩, k2⟩ := kk t e1 e2
    obtain ⟨o1, o2, o3, o4, o5, o6, o7, o8, o9, o10, o11, o12, o13, o14, o15, o16⟩ := o
    refine ⟨⟨Nat.le_trans m1 k1, Nat.le_trans m3 k3⟩, fun H locs cells slots ls a1 a2 a3 a4 a5 => ?_⟩
    have f1 : cells + ((dh x).2.1 - h.2.1) ≤ R.cells := by omega
    have f2 : slots + ((dh x).2.2 - h.2.2) ≤ R.slots := by omega
    intro T hT X
    obtain ⟨v, st₀, t1, T', Lc, b0, X', hL, q1, q2, ⟨q3, q4⟩, stp⟩ := va_runV (As := As) (rest := rest) (g := F0 m pc ls st) (C := q.1) (b := a) (n := n) ⟨o1, o2, o3, o5, o6⟩ (m2 l w o14 og) (cwV n o6 mv.1 rfl rfl rfl mv.2 ⟨by rw [o9]; exact hfr.1, by rw [o10]; exact hfr.2⟩) ⟨hf_blind, hf_recv o13 a1 hx hc, fun U hU hW => ⟨rfl, by rw [hU]; exact a1, hf_K.moved hW o13⟩⟩ rfl hn (a5.1.trans o4) hs (lv_room hrest) hd ⟨f1, f2⟩ T hT X
    cases q3
    obtain ⟨tt, b1, b2⟩ := k2 T'.heap (locs ++ Lc) _ _ ls (by rw [q1]; exact q4) (fun z hz => by
      rcases List.mem_append.mp hz with g | g
      · exact a2 z g
      · exact hL z g) (by show h0.2.1 + (cells + ((dh x).2.1 - h.2.1)) = _; omega) (by show h0.2.2 + (slots + ((dh x).2.2 - h.2.2)) = _; omega) a5 T' rfl X'
    exact ⟨tt, stp tt b1, b2⟩
theorem hx_callVN0 (o : hf_In C code own nL rt fr lc) (og : hf_G C gs) {q : vw_C} (mv : hf_MVN own idx host q.1 y bytes Lm ret n) (hd : decode code pc = .ok (.invokevirtual idx, 3)) {md ci : Nat} {V : hf_V} (hx : h.1 a = some (.inl (md, ci, V))) (hc : hf_cl[ci]? = some q) (As : List Value) (dv : ρ → Option Value) (dh : ρ → hf_H) (hM : ∀ x, G = some x → hf_ConG gs y bytes Lm ret fr' lc' (.ref a :: As) h (.returned (dv x), dh x)) (hs : st = As.reverse ++ .ref a :: rest) (hn : As.length = n) (hrest : (rest.map fun v => v.category).sum ≤ 8) (hfr : fr' + 1 ≤ fr ∧ 8 + (Lm + 11) + lc' ≤ lc)
    (kk : ∀ x, G = some x → hf_J C dec (K x) (dh x) (pc + 3) L ((dv x).toList ++ rest)) : hf_J C dec (G.bind K) h pc L st := by
  cases eG : G with
  | none => exact hr_none
  | some x =>
    have hMx := hM x eG
    have kk := kk x eG
    show hf_J C dec (K x) h pc L st
    obtain ⟨⟨m1, m3⟩, m2⟩ := hMx
    dsimp only at m1 m3
    obtain _ | ⟨p, l, e, R, s, m, args, below, meth, c, w, h0, fin, nL0, Q⟩ := C
    · intro t e1
      have k1 := kk t e1
      exact ⟨Nat.le_trans m1 k1.1, Nat.le_trans m3 k1.2⟩
    intro t e1 e2
    obtain ⟨⟨k1, k3⟩, k2⟩ := kk t e1 e2
    obtain ⟨o1, o2, o3, o4, o5, o6, o7, o8, o9, o10, o11, o12, o13, o14, o15, o16⟩ := o
    obtain ⟨⟨v1, v2, v3, v4, v5⟩, v6⟩ := mv
    refine ⟨⟨Nat.le_trans m1 k1, Nat.le_trans m3 k3⟩, fun H locs cells slots ls a1 a2 a3 a4 a5 => ?_⟩
    have f1 : cells + ((dh x).2.1 - h.2.1) ≤ R.cells := by omega
    have f2 : slots + ((dh x).2.2 - h.2.2) ≤ R.slots := by omega
    intro T hT X
    obtain ⟨v, st₀, t1, T', Lc, b0, X', hL, q1, q2, ⟨q3, q4⟩, stp⟩ := va_runVN (As := As) (rest := rest) (g := F0 m pc ls st) (C := q.1) (b := a) (n := n) ⟨o1, o2, o3, o5, o6⟩ (m2 l w o14 og) ⟨va_cnB n o6 (lw_meth v5) rfl rfl rfl (o13.2.2.1 _ v1 rfl) (o6 _ v4) v6 ⟨by rw [o9]; exact hfr.1, by rw [o10]; exact hfr.2⟩, o6 _ v2, o6 _ v3⟩ ⟨hf_blind, hf_recv o13 a1 hx hc, fun U hU hW => ⟨rfl, by rw [hU]; exact a1, hf_K.moved hW o13⟩⟩ rfl hn (a5.1.trans o4) hs (lv_room hrest) hd ⟨f1, f2⟩ T hT X
    cases q3
    obtain ⟨tt, b1, b2⟩ := k2 T'.heap (locs ++ Lc) _ _ ls (by rw [q1]; exact q4) (fun z hz => by
      rcases List.mem_append.mp hz with g | g
      · exact a2 z g
      · exact hL z g) (by show h0.2.1 + (cells + ((dh x).2.1 - h.2.1)) = _; omega) (by show h0.2.2 + (slots + ((dh x).2.2 - h.2.2)) = _; omega) a5 T' rfl X'
    exact ⟨tt, stp tt b1, b2⟩
theorem hx_callS0 (o : hf_In C code own nL rt fr lc) (og : hf_G C gs) (mv : hf_MS own idx y bytes Lm ret n) (hd : decode code pc = .ok (.invokestatic idx, 3)) (As : List Value) (dv : ρ → Option Value) (dh : ρ → hf_H) (hM : ∀ x, G = some x → hf_ConG gs y bytes Lm ret fr' lc' As h (.returned (dv x), dh x)) (hs : st = As.reverse ++ rest) (hn : As.length = n) (hrest : (rest.map fun v => v.category).sum ≤ 8) (hfr : fr' + 1 ≤ fr ∧ 8 + (Lm + 11) + lc' ≤ lc)
    (kk : ∀ x, G = some x → hf_J C dec (K x) (dh x) (pc + 3) L ((dv x).toList ++ rest)) : hf_J C dec (G.bind K) h pc L st := by
  cases eG : G with
  | none => exact hr_none
  | some x =>
    have hMx := hM x eG
    have kk := kk x eG
    show hf_J C dec (K x) h pc L st
    obtain ⟨⟨m1, m3⟩, m2⟩ := hMx
    dsimp only at m1 m3
    obtain _ | ⟨p, l, e, R, s, m, args, below, meth, c, w, h0, fin, nL0, Q⟩ := C
    · intro t e1
      have k1 := kk t e1
      exact ⟨Nat.le_trans m1 k1.1, Nat.le_trans m3 k1.2⟩
    intro t e1 e2
    obtain ⟨⟨k1, k3⟩, k2⟩ := kk t e1 e2
    obtain ⟨o1, o2, o3, o4, o5, o6, o7, o8, o9, o10, o11, o12, o13, o14, o15, o16⟩ := o
    refine ⟨⟨Nat.le_trans m1 k1, Nat.le_trans m3 k3⟩, fun H locs cells slots ls a1 a2 a3 a4 a5 => ?_⟩
    have f1 : cells + ((dh x).2.1 - h.2.1) ≤ R.cells := by omega
    have f2 : slots + ((dh x).2.2 - h.2.2) ≤ R.slots := by omega
    intro T hT X
    obtain ⟨v, st₀, t1, T', Lc, b0, X', hL, q1, q2, ⟨q3, q4⟩, stp⟩ := va_runS (As := As) (rest := rest) (g := F0 m pc ls st) (n := n) ⟨o1, o2, o3, o5, o6⟩ (m2 l w o14 og) (va_cwS n o6 mv.1 rfl rfl rfl mv.2 ⟨by rw [o9]; exact hfr.1, by rw [o10]; exact hfr.2⟩) ⟨hf_blind, fun U hU hW => ⟨rfl, by rw [hU]; exact a1, hf_K.moved hW o13⟩⟩ rfl hn (a5.1.trans o4) hs (lv_room hrest) hd ⟨f1, f2⟩ T hT X
    cases q3
    obtain ⟨tt, b1, b2⟩ := k2 T'.heap (locs ++ Lc) _ _ ls (by rw [q1]; exact q4) (fun z hz => by
      rcases List.mem_append.mp hz with g | g
      · exact a2 z g
      · exact hL z g) (by show h0.2.1 + (cells + ((dh x).2.1 - h.2.1)) = _; omega) (by show h0.2.2 + (slots + ((dh x).2.2 - h.2.2)) = _; omega) a5 T' rfl X'
    exact ⟨tt, stp tt b1, b2⟩
theorem hx_callSN0 (o : hf_In C code own nL rt fr lc) (og : hf_G C gs) (mv : hf_MSN own idx host y bytes Lm ret n) (hd : decode code pc = .ok (.invokestatic idx, 3)) (As : List Value) (dv : ρ → Option Value) (dh : ρ → hf_H) (hM : ∀ x, G = some x → hf_ConG gs y bytes Lm ret fr' lc' As h (.returned (dv x), dh x)) (hs : st = As.reverse ++ rest) (hn : As.length = n) (hrest : (rest.map fun v => v.category).sum ≤ 8) (hfr : fr' + 1 ≤ fr ∧ 8 + (Lm + 11) + lc' ≤ lc)
    (kk : ∀ x, G = some x → hf_J C dec (K x) (dh x) (pc + 3) L ((dv x).toList ++ rest)) : hf_J C dec (G.bind K) h pc L st := by
  cases eG : G with
  | none => exact hr_none
  | some x =>
    have hMx := hM x eG
    have kk := kk x eG
    show hf_J C dec (K x) h pc L st
    obtain ⟨⟨m1, m3⟩, m2⟩ := hMx
    dsimp only at m1 m3
    obtain _ | ⟨p, l, e, R, s, m, args, below, meth, c, w, h0, fin, nL0, Q⟩ := C
    · intro t e1
      have k1 := kk t e1
      exact ⟨Nat.le_trans m1 k1.1, Nat.le_trans m3 k1.2⟩
    intro t e1 e2
    obtain ⟨⟨k1, k3⟩, k2⟩ := kk t e1 e2
    obtain ⟨o1, o2, o3, o4, o5, o6, o7, o8, o9, o10, o11, o12, o13, o14, o15, o16⟩ := o
    obtain ⟨⟨v1, v2, v4, v5⟩, v6⟩ := mv
    refine ⟨⟨Nat.le_trans m1 k1, Nat.le_trans m3 k3⟩, fun H locs cells slots ls a1 a2 a3 a4 a5 => ?_⟩
    have f1 : cells + ((dh x).2.1 - h.2.1) ≤ R.cells := by omega
    have f2 : slots + ((dh x).2.2 - h.2.2) ≤ R.slots := by omega
    intro T hT X
    obtain ⟨v, st₀, t1, T', Lc, b0, X', hL, q1, q2, ⟨q3, q4⟩, stp⟩ := va_runSN (As := As) (rest := rest) (g := F0 m pc ls st) (n := n) ⟨o1, o2, o3, o5, o6⟩ (m2 l w o14 og) ⟨va_cnB n o6 (lw_meth v5) rfl rfl rfl (o13.2.2.1 _ v1 rfl) (o6 _ v4) v6 ⟨by rw [o9]; exact hfr.1, by rw [o10]; exact hfr.2⟩, o6 _ v2, trivial⟩ ⟨hf_blind, fun U hU hW => ⟨rfl, by rw [hU]; exact a1, hf_K.moved hW o13⟩⟩ rfl hn (a5.1.trans o4) hs (lv_room hrest) hd ⟨f1, f2⟩ T hT X
    cases q3
    obtain ⟨tt, b1, b2⟩ := k2 T'.heap (locs ++ Lc) _ _ ls (by rw [q1]; exact q4) (fun z hz => by
      rcases List.mem_append.mp hz with g | g
      · exact a2 z g
      · exact hL z g) (by show h0.2.1 + (cells + ((dh x).2.1 - h.2.1)) = _; omega) (by show h0.2.2 + (slots + ((dh x).2.2 - h.2.2)) = _; omega) a5 T' rfl X'
    exact ⟨tt, stp tt b1, b2⟩
theorem hx_callI0 (o : hf_In C code own nL rt fr lc) (og : hf_G C gs) (mv : hf_MI own idx y bytes Lm n) (hd : decode code pc = .ok (.invokespecial idx, 3)) (As : List Value) (dh : ρ → hf_H) (hM : ∀ x, G = some x → hf_ConG gs y bytes Lm none fr' lc' (.ref a :: As) h (.returned none, dh x)) (hs : st = As.reverse ++ .ref a :: rest) (hn : As.length = n) (hrest : (rest.map fun v => v.category).sum ≤ 8) (hfr : fr' + 1 ≤ fr ∧ 8 + (Lm + 11) + lc' ≤ lc)
    (kk : ∀ x, G = some x → hf_J C dec (K x) (dh x) (pc + 3) L rest) : hf_J C dec (G.bind K) h pc L st := by
  cases eG : G with
  | none => exact hr_none
  | some x =>
    have hMx := hM x eG
    have kk := kk x eG
    show hf_J C dec (K x) h pc L st
    obtain ⟨⟨m1, m3⟩, m2⟩ := hMx
    dsimp only at m1 m3
    obtain _ | ⟨p, l, e, R, s, m, args, below, meth, c, w, h0, fin, nL0, Q⟩ := C
    · intro t e1
      have k1 := kk t e1
      exact ⟨Nat.le_trans m1 k1.1, Nat.le_trans m3 k1.2⟩
    intro t e1 e2
    obtain ⟨⟨k1, k3⟩, k2⟩ := kk t e1 e2
    obtain ⟨o1, o2, o3, o4, o5, o6, o7, o8, o9, o10, o11, o12, o13, o14, o15, o16⟩ := o
    obtain ⟨⟨v1, v2, v3, v4, v5⟩, v6⟩ := mv
    refine ⟨⟨Nat.le_trans m1 k1, Nat.le_trans m3 k3⟩, fun H locs cells slots ls a1 a2 a3 a4 a5 => ?_⟩
    have f1 : cells + ((dh x).2.1 - h.2.1) ≤ R.cells := by omega
    have f2 : slots + ((dh x).2.2 - h.2.2) ≤ R.slots := by omega
    intro T hT X
    obtain ⟨v, st₀, t1, T', Lc, b0, X', hL, q1, q2, ⟨q3, q4⟩, stp⟩ := va_runI (As := As) (rest := rest) (g := F0 m pc ls st) (b := a) (n := n) ⟨o1, o2, o3, o5, o6⟩ (m2 l w o14 og) (cwI n o6 (lw_meth v1) rfl rfl rfl (o6 _ v2) (o6 _ v3) (o6 _ v4) v5 v6 ⟨by rw [o9]; exact hfr.1, by rw [o10]; exact hfr.2⟩) ⟨hf_blind, fun U hU hW => ⟨rfl, by rw [hU]; exact a1, hf_K.moved hW o13⟩⟩ rfl hn (a5.1.trans o4) hs (lv_room hrest) hd ⟨f1, f2⟩ T hT X
    cases q3
    obtain ⟨tt, b1, b2⟩ := k2 T'.heap (locs ++ Lc) _ _ ls (by rw [q1]; exact q4) (fun z hz => by
      rcases List.mem_append.mp hz with g | g
      · exact a2 z g
      · exact hL z g) (by show h0.2.1 + (cells + ((dh x).2.1 - h.2.1)) = _; omega) (by show h0.2.2 + (slots + ((dh x).2.2 - h.2.2)) = _; omega) a5 T' rfl X'
    exact ⟨tt, stp tt b1, b2⟩
theorem hx_callIN0 (o : hf_In C code own nL rt fr lc) (og : hf_G C gs) (mv : hf_MIN own idx host y bytes Lm n) (hd : decode code pc = .ok (.invokespecial idx, 3)) (As : List Value) (dh : ρ → hf_H) (hM : ∀ x, G = some x → hf_ConG gs y bytes Lm none fr' lc' (.ref a :: As) h (.returned none, dh x)) (hs : st = As.reverse ++ .ref a :: rest) (hn : As.length = n) (hrest : (rest.map fun v => v.category).sum ≤ 8) (hfr : fr' + 1 ≤ fr ∧ 8 + (Lm + 11) + lc' ≤ lc)
    (kk : ∀ x, G = some x → hf_J C dec (K x) (dh x) (pc + 3) L rest) : hf_J C dec (G.bind K) h pc L st := by
  cases eG : G with
  | none => exact hr_none
  | some x =>
    have hMx := hM x eG
    have kk := kk x eG
    show hf_J C dec (K x) h pc L st
    obtain ⟨⟨m1, m3⟩, m2⟩ := hMx
    dsimp only at m1 m3
    obtain _ | ⟨p, l, e, R, s, m, args, below, meth, c, w, h0, fin, nL0, Q⟩ := C
    · intro t e1
      have k1 := kk t e1
      exact ⟨Nat.le_trans m1 k1.1, Nat.le_trans m3 k1.2⟩
    intro t e1 e2
    obtain ⟨⟨k1, k3⟩, k2⟩ := kk t e1 e2
    obtain ⟨o1, o2, o3, o4, o5, o6, o7, o8, o9, o10, o11, o12, o13, o14, o15, o16⟩ := o
    obtain ⟨⟨v1, v2, v4, v5, v7⟩, v6⟩ := mv
    refine ⟨⟨Nat.le_trans m1 k1, Nat.le_trans m3 k3⟩, fun H locs cells slots ls a1 a2 a3 a4 a5 => ?_⟩
    have f1 : cells + ((dh x).2.1 - h.2.1) ≤ R.cells := by omega
    have f2 : slots + ((dh x).2.2 - h.2.2) ≤ R.slots := by omega
    intro T hT X
    obtain ⟨v, st₀, t1, T', Lc, b0, X', hL, q1, q2, ⟨q3, q4⟩, stp⟩ := va_runIN (As := As) (rest := rest) (g := F0 m pc ls st) (b := a) (n := n) ⟨o1, o2, o3, o5, o6⟩ (m2 l w o14 og) ⟨va_cnB n o6 (lw_meth v5) rfl rfl rfl (o13.2.2.1 _ v1 rfl) (o6 _ v4) v6 ⟨by rw [o9]; exact hfr.1, by rw [o10]; exact hfr.2⟩, v7, o6 _ v2⟩ ⟨hf_blind, fun U hU hW => ⟨rfl, by rw [hU]; exact a1, hf_K.moved hW o13⟩⟩ rfl hn (a5.1.trans o4) hs (lv_room hrest) hd ⟨f1, f2⟩ T hT X
    cases q3
    obtain ⟨tt, b1, b2⟩ := k2 T'.heap (locs ++ Lc) _ _ ls (by rw [q1]; exact q4) (fun z hz => by
      rcases List.mem_append.mp hz with g | g
      · exact a2 z g
      · exact hL z g) (by show h0.2.1 + (cells + ((dh x).2.1 - h.2.1)) = _; omega) (by show h0.2.2 + (slots + ((dh x).2.2 - h.2.2)) = _; omega) a5 T' rfl X'
    exact ⟨tt, stp tt b1, b2⟩
theorem hx_callVI {G : Option (Int32 × hf_H)} {K : Int32 → hf_H → Option τ} (o : hf_In C code own nL rt fr lc) (og : hf_G C gs) {q : vw_C} (mv : hf_MV own idx q.1 y bytes Lm ret n) (hd : decode code pc = .ok (.invokevirtual idx, 3)) (md ci : Nat) (hc : hf_cl[ci]? = some q) (As : List Value) (hM : ∀ (r : Int32) (g : hf_H), G = some (r, g) → hf_ConG gs y bytes Lm ret fr' lc' (.ref a :: As) h (.returned (some (.int r)), g)) (hs : st = As.reverse ++ .ref a :: rest) (hn : As.length = n) (hrest : (rest.map fun v => v.category).sum ≤ 8) (hfr : fr' + 1 ≤ fr ∧ 8 + (Lm + 11) + lc' ≤ lc)
    (kk : ∀ (r : Int32) (g : hf_H), hf_J C dec (K r g) g (pc + 3) L (.int r :: rest)) : hf_J C dec ((hf_ob md ci h a).bind fun _ => hf_b2 G K) h pc L st := by
  cases e : hf_ob md ci h a with
  | none => exact hr_none
  | some V => show hf_J C dec (hf_b2 G K) h pc L st; exact hx_callV0 o og mv hd (hf_ob_spec e) hc As (fun x => some (.int x.1)) (fun x => x.2) (fun x e => hM x.1 x.2 e) hs hn hrest hfr (fun x _ => kk x.1 x.2)
theorem hx_callVL {G : Option (Int64 × hf_H)} {K : Int64 → hf_H → Option τ} (o : hf_In C code own nL rt fr lc) (og : hf_G C gs) {q : vw_C} (mv : hf_MV own idx q.1 y bytes Lm ret n) (hd : decode code pc = .ok (.invokevirtual idx, 3)) (md ci : Nat) (hc : hf_cl[ci]? = some q) (As : List Value) (hM : ∀ (r : Int64) (g : hf_H), G = some (r, g) → hf_ConG gs y bytes Lm ret fr' lc' (.ref a :: As) h (.returned (some (.long r)), g)) (hs : st = As.reverse ++ .ref a :: rest) (hn : As.length = n) (hrest : (rest.map fun v => v.category).sum ≤ 8) (hfr : fr' + 1 ≤ fr ∧ 8 + (Lm + 11) + lc' ≤ lc)
    (kk : ∀ (r : Int64) (g : hf_H), hf_J C dec (K r g) g (pc + 3) L (.long r :: rest)) : hf_J C dec ((hf_ob md ci h a).bind fun _ => hf_b2 G K) h pc L st := by
  cases e : hf_ob md ci h a with
  | none => exact hr_none
  | some V => show hf_J C dec (hf_b2 G K) h pc L st; exact hx_callV0 o og mv hd (hf_ob_spec e) hc As (fun x => some (.long x.1)) (fun x => x.2) (fun x e => hM x.1 x.2 e) hs hn hrest hfr (fun x _ => kk x.1 x.2)
theorem hx_callVA {G : Option (Nat × hf_H)} {K : Nat → hf_H → Option τ} (o : hf_In C code own nL rt fr lc) (og : hf_G C gs) {q : vw_C} (mv : hf_MV own idx q.1 y bytes Lm ret n) (hd : decode code pc = .ok (.invokevirtual idx, 3)) (md ci : Nat) (hc : hf_cl[ci]? = some q) (As : List Value) (hM : ∀ (r : Nat) (g : hf_H), G = some (r, g) → hf_ConG gs y bytes Lm ret fr' lc' (.ref a :: As) h (.returned (some (.ref r)), g)) (hs : st = As.reverse ++ .ref a :: rest) (hn : As.length = n) (hrest : (rest.map fun v => v.category).sum ≤ 8) (hfr : fr' + 1 ≤ fr ∧ 8 + (Lm + 11) + lc' ≤ lc)
    (kk : ∀ (r : Nat) (g : hf_H), hf_J C dec (K r g) g (pc + 3) L (.ref r :: rest)) : hf_J C dec ((hf_ob md ci h a).bind fun _ => hf_b2 G K) h pc L st := by
  cases e : hf_ob md ci h a with
  | none => exact hr_none
  | some V => show hf_J C dec (hf_b2 G K) h pc L st; exact hx_callV0 o og mv hd (hf_ob_spec e) hc As (fun x => some (.ref x.1)) (fun x => x.2) (fun x e => hM x.1 x.2 e) hs hn hrest hfr (fun x _ => kk x.1 x.2)
theorem hx_callVQ {G : Option (Option Nat × hf_H)} {K : Option Nat → hf_H → Option τ} (o : hf_In C code own nL rt fr lc) (og : hf_G C gs) {q : vw_C} (mv : hf_MV own idx q.1 y bytes Lm ret n) (hd : decode code pc = .ok (.invokevirtual idx, 3)) (md ci : Nat) (hc : hf_cl[ci]? = some q) (As : List Value) (hM : ∀ (r : Option Nat) (g : hf_H), G = some (r, g) → hf_ConG gs y bytes Lm ret fr' lc' (.ref a :: As) h (.returned (some (va_rf r)), g)) (hs : st = As.reverse ++ .ref a :: rest) (hn : As.length = n) (hrest : (rest.map fun v => v.category).sum ≤ 8) (hfr : fr' + 1 ≤ fr ∧ 8 + (Lm + 11) + lc' ≤ lc)
    (kk : ∀ (r : Option Nat) (g : hf_H), hf_J C dec (K r g) g (pc + 3) L (va_rf r :: rest)) : hf_J C dec ((hf_ob md ci h a).bind fun _ => hf_b2 G K) h pc L st := by
  cases e : hf_ob md ci h a with
  | none => exact hr_none
  | some V => show hf_J C dec (hf_b2 G K) h pc L st; exact hx_callV0 o og mv hd (hf_ob_spec e) hc As (fun x => some (va_rf x.1)) (fun x => x.2) (fun x e => hM x.1 x.2 e) hs hn hrest hfr (fun x _ => kk x.1 x.2)
theorem hx_callVV {G : Option hf_H} {K : hf_H → Option τ} (o : hf_In C code own nL rt fr lc) (og : hf_G C gs) {q : vw_C} (mv : hf_MV own idx q.1 y bytes Lm ret n) (hd : decode code pc = .ok (.invokevirtual idx, 3)) (md ci : Nat) (hc : hf_cl[ci]? = some q) (As : List Value) (hM : ∀ g : hf_H, G = some g → hf_ConG gs y bytes Lm ret fr' lc' (.ref a :: As) h (.returned none, g)) (hs : st = As.reverse ++ .ref a :: rest) (hn : As.length = n) (hrest : (rest.map fun v => v.category).sum ≤ 8) (hfr : fr' + 1 ≤ fr ∧ 8 + (Lm + 11) + lc' ≤ lc)
    (kk : ∀ g : hf_H, hf_J C dec (K g) g (pc + 3) L rest) : hf_J C dec ((hf_ob md ci h a).bind fun _ => G.bind K) h pc L st := by
  cases e : hf_ob md ci h a with
  | none => exact hr_none
  | some V => show hf_J C dec (G.bind K) h pc L st; exact hx_callV0 o og mv hd (hf_ob_spec e) hc As (fun _ => none) (fun x => x) (fun x e => hM x e) hs hn hrest hfr (fun x _ => kk x)
theorem hx_callVNI {G : Option (Int32 × hf_H)} {K : Int32 → hf_H → Option τ} (o : hf_In C code own nL rt fr lc) (og : hf_G C gs) {q : vw_C} (mv : hf_MVN own idx host q.1 y bytes Lm ret n) (hd : decode code pc = .ok (.invokevirtual idx, 3)) (md ci : Nat) (hc : hf_cl[ci]? = some q) (As : List Value) (hM : ∀ (r : Int32) (g : hf_H), G = some (r, g) → hf_ConG gs y bytes Lm ret fr' lc' (.ref a :: As) h (.returned (some (.int r)), g)) (hs : st = As.reverse ++ .ref a :: rest) (hn : As.length = n) (hrest : (rest.map fun v => v.category).sum ≤ 8) (hfr : fr' + 1 ≤ fr ∧ 8 + (Lm + 11) + lc' ≤ lc)
    (kk : ∀ (r : Int32) (g : hf_H), hf_J C dec (K r g) g (pc + 3) L (.int r :: rest)) : hf_J C dec ((hf_ob md ci h a).bind fun _ => hf_b2 G K) h pc L st := by
  cases e : hf_ob md ci h a with
  | none => exact hr_none
  | some V => show hf_J C dec (hf_b2 G K) h pc L st; exact hx_callVN0 o og mv hd (hf_ob_spec e) hc As (fun x => some (.int x.1)) (fun x => x.2) (fun x e => hM x.1 x.2 e) hs hn hrest hfr (fun x _ => kk x.1 x.2)
theorem hx_callVNL {G : Option (Int64 × hf_H)} {K : Int64 → hf_H → Option τ} (o : hf_In C code own nL rt fr lc) (og : hf_G C gs) {q : vw_C} (mv : hf_MVN own idx host q.1 y bytes Lm ret n) (hd : decode code pc = .ok (.invokevirtual idx, 3)) (md ci : Nat) (hc : hf_cl[ci]? = some q) (As : List Value) (hM : ∀ (r : Int64) (g : hf_H), G = some (r, g) → hf_ConG gs y bytes Lm ret fr' lc' (.ref a :: As) h (.returned (some (.long r)), g)) (hs : st = As.reverse ++ .ref a :: rest) (hn : As.length = n) (hrest : (rest.map fun v => v.category).sum ≤ 8) (hfr : fr' + 1 ≤ fr ∧ 8 + (Lm + 11) + lc' ≤ lc)
    (kk : ∀ (r : Int64) (g : hf_H), hf_J C dec (K r g) g (pc + 3) L (.long r :: rest)) : hf_J C dec ((hf_ob md ci h a).bind fun _ => hf_b2 G K) h pc L st := by
  cases e : hf_ob md ci h a with
  | none => exact hr_none
  | some V => show hf_J C dec (hf_b2 G K) h pc L st; exact hx_callVN0 o og mv hd (hf_ob_spec e) hc As (fun x => some (.long x.1)) (fun x => x.2) (fun x e => hM x.1 x.2 e) hs hn hrest hfr (fun x _ => kk x.1 x.2)
theorem hx_callVNA {G : Option (Nat × hf_H)} {K : Nat → hf_H → Option τ} (o : hf_In C code own nL rt fr lc) (og : hf_G C gs) {q : vw_C} (mv : hf_MVN own idx host q.1 y bytes Lm ret n) (hd : decode code pc = .ok (.invokevirtual idx, 3)) (md ci : Nat) (hc : hf_cl[ci]? = some q) (As : List Value) (hM : ∀ (r : Nat) (g : hf_H), G = some (r, g) → hf_ConG gs y bytes Lm ret fr' lc' (.ref a :: As) h (.returned (some (.ref r)), g)) (hs : st = As.reverse ++ .ref a :: rest) (hn : As.length = n) (hrest : (rest.map fun v => v.category).sum ≤ 8) (hfr : fr' + 1 ≤ fr ∧ 8 + (Lm + 11) + lc' ≤ lc)
    (kk : ∀ (r : Nat) (g : hf_H), hf_J C dec (K r g) g (pc + 3) L (.ref r :: rest)) : hf_J C dec ((hf_ob md ci h a).bind fun _ => hf_b2 G K) h pc L st := by
  cases e : hf_ob md ci h a with
  | none => exact hr_none
  | some V => show hf_J C dec (hf_b2 G K) h pc L st; exact hx_callVN0 o og mv hd (hf_ob_spec e) hc As (fun x => some (.ref x.1)) (fun x => x.2) (fun x e => hM x.1 x.2 e) hs hn hrest hfr (fun x _ => kk x.1 x.2)
theorem hx_callVNQ {G : Option (Option Nat × hf_H)} {K : Option Nat → hf_H → Option τ} (o : hf_In C code own nL rt fr lc) (og : hf_G C gs) {q : vw_C} (mv : hf_MVN own idx host q.1 y bytes Lm ret n) (hd : decode code pc = .ok (.invokevirtual idx, 3)) (md ci : Nat) (hc : hf_cl[ci]? = some q) (As : List Value) (hM : ∀ (r : Option Nat) (g : hf_H), G = some (r, g) → hf_ConG gs y bytes Lm ret fr' lc' (.ref a :: As) h (.returned (some (va_rf r)), g)) (hs : st = As.reverse ++ .ref a :: rest) (hn : As.length = n) (hrest : (rest.map fun v => v.category).sum ≤ 8) (hfr : fr' + 1 ≤ fr ∧ 8 + (Lm + 11) + lc' ≤ lc)
    (kk : ∀ (r : Option Nat) (g : hf_H), hf_J C dec (K r g) g (pc + 3) L (va_rf r :: rest)) : hf_J C dec ((hf_ob md ci h a).bind fun _ => hf_b2 G K) h pc L st := by
  cases e : hf_ob md ci h a with
  | none => exact hr_none
  | some V => show hf_J C dec (hf_b2 G K) h pc L st; exact hx_callVN0 o og mv hd (hf_ob_spec e) hc As (fun x => some (va_rf x.1)) (fun x => x.2) (fun x e => hM x.1 x.2 e) hs hn hrest hfr (fun x _ => kk x.1 x.2)
theorem hx_callVNV {G : Option hf_H} {K : hf_H → Option τ} (o : hf_In C code own nL rt fr lc) (og : hf_G C gs) {q : vw_C} (mv : hf_MVN own idx host q.1 y bytes Lm ret n) (hd : decode code pc = .ok (.invokevirtual idx, 3)) (md ci : Nat) (hc : hf_cl[ci]? = some q) (As : List Value) (hM : ∀ g : hf_H, G = some g → hf_ConG gs y bytes Lm ret fr' lc' (.ref a :: As) h (.returned none, g)) (hs : st = As.reverse ++ .ref a :: rest) (hn : As.length = n) (hrest : (rest.map fun v => v.category).sum ≤ 8) (hfr : fr' + 1 ≤ fr ∧ 8 + (Lm + 11) + lc' ≤ lc)
    (kk : ∀ g : hf_H, hf_J C dec (K g) g (pc + 3) L rest) : hf_J C dec ((hf_ob md ci h a).bind fun _ => G.bind K) h pc L st := by
  cases e : hf_ob md ci h a with
  | none => exact hr_none
  | some V => show hf_J C dec (G.bind K) h pc L st; exact hx_callVN0 o og mv hd (hf_ob_spec e) hc As (fun _ => none) (fun x => x) (fun x e => hM x e) hs hn hrest hfr (fun x _ => kk x)
theorem hx_callSI {G : Option (Int32 × hf_H)} {K : Int32 → hf_H → Option τ} (o : hf_In C code own nL rt fr lc) (og : hf_G C gs) (mv : hf_MS own idx y bytes Lm ret n) (hd : decode code pc = .ok (.invokestatic idx, 3)) (As : List Value) (hM : ∀ (r : Int32) (g : hf_H), G = some (r, g) → hf_ConG gs y bytes Lm ret fr' lc' As h (.returned (some (.int r)), g)) (hs : st = As.reverse ++ rest) (hn : As.length = n) (hrest : (rest.map fun v => v.category).sum ≤ 8) (hfr : fr' + 1 ≤ fr ∧ 8 + (Lm + 11) + lc' ≤ lc)
    (kk : ∀ (r : Int32) (g : hf_H), hf_J C dec (K r g) g (pc + 3) L (.int r :: rest)) : hf_J C dec (hf_b2 G K) h pc L st :=
  hx_callS0 o og mv hd As (fun x => some (.int x.1)) (fun x => x.2) (fun x e => hM x.1 x.2 e) hs hn hrest hfr (fun x _ => kk x.1 x.2)
theorem hx_callSL {G : Option (Int64 × hf_H)} {K : Int64 → hf_H → Option τ} (o : hf_In C code own nL rt fr lc) (og : hf_G C gs) (mv : hf_MS own idx y bytes Lm ret n) (hd : decode code pc = .ok (.invokestatic idx, 3)) (As : List Value) (hM : ∀ (r : Int64) (g : hf_H), G = some (r, g) → hf_ConG gs y bytes Lm ret fr' lc' As h (.returned (some (.long r)), g)) (hs : st = As.reverse ++ rest) (hn : As.length = n) (hrest : (rest.map fun v => v.category).sum ≤ 8) (hfr : fr' + 1 ≤ fr ∧ 8 + (Lm + 11) + lc' ≤ lc)
    (kk : ∀ (r : Int64) (g : hf_H), hf_J C dec (K r g) g (pc + 3) L (.long r :: rest)) : hf_J C dec (hf_b2 G K) h pc L st :=
  hx_callS0 o og mv hd As (fun x => some (.long x.1)) (fun x => x.2) (fun x e => hM x.1 x.2 e) hs hn hrest hfr (fun x _ => kk x.1 x.2)
theorem hx_callSA {G : Option (Nat × hf_H)} {K : Nat → hf_H → Option τ} (o : hf_In C code own nL rt fr lc) (og : hf_G C gs) (mv : hf_MS own idx y bytes Lm ret n) (hd : decode code pc = .ok (.invokestatic idx, 3)) (As : List Value) (hM : ∀ (r : Nat) (g : hf_H), G = some (r, g) → hf_ConG gs y bytes Lm ret fr' lc' As h (.returned (some (.ref r)), g)) (hs : st = As.reverse ++ rest) (hn : As.length = n) (hrest : (rest.map fun v => v.category).sum ≤ 8) (hfr : fr' + 1 ≤ fr ∧ 8 + (Lm + 11) + lc' ≤ lc)
    (kk : ∀ (r : Nat) (g : hf_H), hf_J C dec (K r g) g (pc + 3) L (.ref r :: rest)) : hf_J C dec (hf_b2 G K) h pc L st :=
  hx_callS0 o og mv hd As (fun x => some (.ref x.1)) (fun x => x.2) (fun x e => hM x.1 x.2 e) hs hn hrest hfr (fun x _ => kk x.1 x.2)
theorem hx_callSQ {G : Option (Option Nat × hf_H)} {K : Option Nat → hf_H → Option τ} (o : hf_In C code own nL rt fr lc) (og : hf_G C gs) (mv : hf_MS own idx y bytes Lm ret n) (hd : decode code pc = .ok (.invokestatic idx, 3)) (As : List Value) (hM : ∀ (r : Option Nat) (g : hf_H), G = some (r, g) → hf_ConG gs y bytes Lm ret fr' lc' As h (.returned (some (va_rf r)), g)) (hs : st = As.reverse ++ rest) (hn : As.length = n) (hrest : (rest.map fun v => v.category).sum ≤ 8) (hfr : fr' + 1 ≤ fr ∧ 8 + (Lm + 11) + lc' ≤ lc)
    (kk : ∀ (r : Option Nat) (g : hf_H), hf_J C dec (K r g) g (pc + 3) L (va_rf r :: rest)) : hf_J C dec (hf_b2 G K) h pc L st :=
  hx_callS0 o og mv hd As (fun x => some (va_rf x.1)) (fun x => x.2) (fun x e => hM x.1 x.2 e) hs hn hrest hfr (fun x _ => kk x.1 x.2)
theorem hx_callSNI {G : Option (Int32 × hf_H)} {K : Int32 → hf_H → Option τ} (o : hf_In C code own nL rt fr lc) (og : hf_G C gs) (mv : hf_MSN own idx host y bytes Lm ret n) (hd : decode code pc = .ok (.invokestatic idx, 3)) (As : List Value) (hM : ∀ (r : Int32) (g : hf_H), G = some (r, g) → hf_ConG gs y bytes Lm ret fr' lc' As h (.returned (some (.int r)), g)) (hs : st = As.reverse ++ rest) (hn : As.length = n) (hrest : (rest.map fun v => v.category).sum ≤ 8) (hfr : fr' + 1 ≤ fr ∧ 8 + (Lm + 11) + lc' ≤ lc)
    (kk : ∀ (r : Int32) (g : hf_H), hf_J C dec (K r g) g (pc + 3) L (.int r :: rest)) : hf_J C dec (hf_b2 G K) h pc L st :=
  hx_callSN0 o og mv hd As (fun x => some (.int x.1)) (fun x => x.2) (fun x e => hM x.1 x.2 e) hs hn hrest hfr (fun x _ => kk x.1 x.2)
theorem hx_callSNL {G : Option (Int64 × hf_H)} {K : Int64 → hf_H → Option τ} (o : hf_In C code own nL rt fr lc) (og : hf_G C gs) (mv : hf_MSN own idx host y bytes Lm ret n) (hd : decode code pc = .ok (.invokestatic idx, 3)) (As : List Value) (hM : ∀ (r : Int64) (g : hf_H), G = some (r, g) → hf_ConG gs y bytes Lm ret fr' lc' As h (.returned (some (.long r)), g)) (hs : st = As.reverse ++ rest) (hn : As.length = n) (hrest : (rest.map fun v => v.category).sum ≤ 8) (hfr : fr' + 1 ≤ fr ∧ 8 + (Lm + 11) + lc' ≤ lc)
    (kk : ∀ (r : Int64) (g : hf_H), hf_J C dec (K r g) g (pc + 3) L (.long r :: rest)) : hf_J C dec (hf_b2 G K) h pc L st :=
  hx_callSN0 o og mv hd As (fun x => some (.long x.1)) (fun x => x.2) (fun x e => hM x.1 x.2 e) hs hn hrest hfr (fun x _ => kk x.1 x.2)
theorem hx_callSNA {G : Option (Nat × hf_H)} {K : Nat → hf_H → Option τ} (o : hf_In C code own nL rt fr lc) (og : hf_G C gs) (mv : hf_MSN own idx host y bytes Lm ret n) (hd : decode code pc = .ok (.invokestatic idx, 3)) (As : List Value) (hM : ∀ (r : Nat) (g : hf_H), G = some (r, g) → hf_ConG gs y bytes Lm ret fr' lc' As h (.returned (some (.ref r)), g)) (hs : st = As.reverse ++ rest) (hn : As.length = n) (hrest : (rest.map fun v => v.category).sum ≤ 8) (hfr : fr' + 1 ≤ fr ∧ 8 + (Lm + 11) + lc' ≤ lc)
    (kk : ∀ (r : Nat) (g : hf_H), hf_J C dec (K r g) g (pc + 3) L (.ref r :: rest)) : hf_J C dec (hf_b2 G K) h pc L st :=
  hx_callSN0 o og mv hd As (fun x => some (.ref x.1)) (fun x => x.2) (fun x e => hM x.1 x.2 e) hs hn hrest hfr (fun x _ => kk x.1 x.2)
theorem hx_callSNQ {G : Option (Option Nat × hf_H)} {K : Option Nat → hf_H → Option τ} (o : hf_In C code own nL rt fr lc) (og : hf_G C gs) (mv : hf_MSN own idx host y bytes Lm ret n) (hd : decode code pc = .ok (.invokestatic idx, 3)) (As : List Value) (hM : ∀ (r : Option Nat) (g : hf_H), G = some (r, g) → hf_ConG gs y bytes Lm ret fr' lc' As h (.returned (some (va_rf r)), g)) (hs : st = As.reverse ++ rest) (hn : As.length = n) (hrest : (rest.map fun v => v.category).sum ≤ 8) (hfr : fr' + 1 ≤ fr ∧ 8 + (Lm + 11) + lc' ≤ lc)
    (kk : ∀ (r : Option Nat) (g : hf_H), hf_J C dec (K r g) g (pc + 3) L (va_rf r :: rest)) : hf_J C dec (hf_b2 G K) h pc L st :=
  hx_callSN0 o og mv hd As (fun x => some (va_rf x.1)) (fun x => x.2) (fun x e => hM x.1 x.2 e) hs hn hrest hfr (fun x _ => kk x.1 x.2)
theorem px_callSNI {G : Option Int32} {K : Int32 → Option τ} (o : hf_In C code own nL rt fr lc) (og : hf_G C gs) (mv : hf_MSN own idx host y bytes Lm ret n) (hd : decode code pc = .ok (.invokestatic idx, 3)) (As : List Value) (hM : ∀ r : Int32, G = some r → hf_Con y bytes Lm ret fr' lc' As h (.returned (some (.int r)), h)) (hs : st = As.reverse ++ rest) (hn : As.length = n) (hrest : (rest.map fun v => v.category).sum ≤ 8) (hfr : fr' + 1 ≤ fr ∧ 8 + (Lm + 11) + lc' ≤ lc)
    (kk : ∀ r : Int32, hf_J C dec (K r) h (pc + 3) L (.int r :: rest)) : hf_J C dec (G.bind K) h pc L st :=
  hx_callSN0 o og mv hd As (fun x => some (.int x)) (fun _ => h) (fun x e => (hM x e).G) hs hn hrest hfr (fun x _ => kk x)
theorem px_callSNL {G : Option Int64} {K : Int64 → Option τ} (o : hf_In C code own nL rt fr lc) (og : hf_G C gs) (mv : hf_MSN own idx host y bytes Lm ret n) (hd : decode code pc = .ok (.invokestatic idx, 3)) (As : List Value) (hM : ∀ r : Int64, G = some r → hf_Con y bytes Lm ret fr' lc' As h (.returned (some (.long r)), h)) (hs : st = As.reverse ++ rest) (hn : As.length = n) (hrest : (rest.map fun v => v.category).sum ≤ 8) (hfr : fr' + 1 ≤ fr ∧ 8 + (Lm + 11) + lc' ≤ lc)
    (kk : ∀ r : Int64, hf_J C dec (K r) h (pc + 3) L (.long r :: rest)) : hf_J C dec (G.bind K) h pc L st :=
  hx_callSN0 o og mv hd As (fun x => some (.long x)) (fun _ => h) (fun x e => (hM x e).G) hs hn hrest hfr (fun x _ => kk x)
theorem hx_callIV {G : Option hf_H} {K : hf_H → Option τ} (o : hf_In C code own nL rt fr lc) (og : hf_G C gs) (mv : hf_MI own idx y bytes Lm n) (hd : decode code pc = .ok (.invokespecial idx, 3)) (As : List Value) (hM : ∀ g : hf_H, G = some g → hf_ConG gs y bytes Lm none fr' lc' (.ref a :: As) h (.returned none, g)) (hs : st = As.reverse ++ .ref a :: rest) (hn : As.length = n) (hrest : (rest.map fun v => v.category).sum ≤ 8) (hfr : fr' + 1 ≤ fr ∧ 8 + (Lm + 11) + lc' ≤ lc)
    (kk : ∀ g : hf_H, hf_J C dec (K g) g (pc + 3) L rest) : hf_J C dec (G.bind K) h pc L st :=
  hx_callI0 o og mv hd As (fun x => x) (fun x e => hM x e) hs hn hrest hfr (fun x _ => kk x)
theorem hx_callINV {G : Option hf_H} {K : hf_H → Option τ} (o : hf_In C code own nL rt fr lc) (og : hf_G C gs) (mv : hf_MIN own idx host y bytes Lm n) (hd : decode code pc = .ok (.invokespecial idx, 3)) (As : List Value) (hM : ∀ g : hf_H, G = some g → hf_ConG gs y bytes Lm none fr' lc' (.ref a :: As) h (.returned none, g)) (hs : st = As.reverse ++ .ref a :: rest) (hn : As.length = n) (hrest : (rest.map fun v => v.category).sum ≤ 8) (hfr : fr' + 1 ≤ fr ∧ 8 + (Lm + 11) + lc' ≤ lc)
    (kk : ∀ g : hf_H, hf_J C dec (K g) g (pc + 3) L rest) : hf_J C dec (G.bind K) h pc L st :=
  hx_callIN0 o og mv hd As (fun x => x) (fun x e => hM x e) hs hn hrest hfr (fun x _ => kk x)
end HXC
section HXN
variable {τ : Type} {C : hf_X} {dec : τ → Outcome × hf_H} {P : Option τ} {h : hf_H} {pc : Nat} {L : List (Nat × Value)} {st : List Value} {code : ByteArray} {own : String} {nL : Nat} {rt : Option FieldType} {fr lc : Nat} {idx a : Nat} {gs : hf_gs}
/-! references that may be null -/
theorem hx_null (o : hf_In C code own nL rt fr lc) (hd : decode code pc = .ok (.aconst_null, 1)) (k : hf_J C dec P h (pc + 1) L (.null :: st)) : hf_J C dec P h pc L st := by
  obtain _ | ⟨p, l, e, R, s, m, args, below, meth, c, w, h0, fin, nL0, Q⟩ := C
  · exact k
  intro t e1 e2
  obtain ⟨k1, k2⟩ := k t e1 e2
  exact ⟨k1, fun H locs cells slots ls a1 a2 a3 a4 a5 => lv_null o.1 o.2.1 hd (k2 H locs cells slots ls a1 a2 a3 a4 a5)⟩
theorem hr_aload_nQ (o : hf_In C code own nL rt fr lc) {i : Fin 4} {x : Option Nat} (n : Nat) (hd : decode code pc = .ok (.aload_n i, 1)) (hl : L[n]? = some ((i : Nat), va_rf x)) (k : hf_J C dec P h (pc + 1) L (va_rf x :: st)) : hf_J C dec P h pc L st := by
  obtain _ | ⟨p, l, e, R, s, m, args, below, meth, c, w, h0, fin, nL0, Q⟩ := C
  · exact k
  intro t e1 e2
  obtain ⟨k1, k2⟩ := k t e1 e2
  refine ⟨k1, fun H locs cells slots ls a1 a2 a3 a4 a5 => ?_⟩
  have k3 := k2 H locs cells slots ls a1 a2 a3 a4 a5
  cases x with
  | none => exact lv_aload_nN o.1 o.2.1 hd rfl (lv_at a5 n hl) k3
  | some y => exact lv_aload_n o.1 o.2.1 hd rfl (lv_at a5 n hl) k3
theorem hx_ifnonnull (o : hf_In C code own nL rt fr lc) {x : Option Nat} {off : Int} {Pn Ps : Option τ} (tgt : Nat) (hd : decode code pc = .ok (.ifnonnull off, 3)) (ht : (pc : Int) + off = (tgt : Int)) (kn : x = none → hf_J C dec Pn h (pc + 3) L st) (ks : ¬ x = none → hf_J C dec Ps h tgt L st) : hf_J C dec (if x = none then Pn else Ps) h pc L (va_rf x :: st) := by
  cases x with
  | none =>
    rw [if_pos rfl]
    have k := kn rfl
    obtain _ | ⟨p, l, e, R, s, m, args, below, meth, c, w, h0, fin, nL0, Q⟩ := C
    · exact k
    intro t e1 e2
    obtain ⟨k1, k2⟩ := k t e1 e2
    exact ⟨k1, fun H locs cells slots ls a1 a2 a3 a4 a5 => lv_ifnonnullN o.1 o.2.1 hd (k2 H locs cells slots ls a1 a2 a3 a4 a5)⟩
  | some y =>
    rw [if_neg (by simp)]
    have k := ks (by simp)
    obtain _ | ⟨p, l, e, R, s, m, args, below, meth, c, w, h0, fin, nL0, Q⟩ := C
    · exact k
    intro t e1 e2
    obtain ⟨k1, k2⟩ := k t e1 e2
    exact ⟨k1, fun H locs cells slots ls a1 a2 a3 a4 a5 => lv_ifnonnull o.1 o.2.1 hd ht (k2 H locs cells slots ls a1 a2 a3 a4 a5)⟩
theorem hx_ifnull (o : hf_In C code own nL rt fr lc) {x : Option Nat} {off : Int} {Pn Ps : Option τ} (tgt : Nat) (hd : decode code pc = .ok (.ifnull off, 3)) (ht : (pc : Int) + off = (tgt : Int)) (kn : x = none → hf_J C dec Pn h tgt L st) (ks : ¬ x = none → hf_J C dec Ps h (pc + 3) L st) : hf_J C dec (if x = none then Pn else Ps) h pc L (va_rf x :: st) := by
  cases x with
  | none =>
    rw [if_pos rfl]
    have k := kn rfl
    obtain _ | ⟨p, l, e, R, s, m, args, below, meth, c, w, h0, fin, nL0, Q⟩ := C
    · exact k
    intro t e1 e2
    obtain ⟨k1, k2⟩ := k t e1 e2
    exact ⟨k1, fun H locs cells slots ls a1 a2 a3 a4 a5 => lv_ifnullN o.1 o.2.1 hd ht (k2 H locs cells slots ls a1 a2 a3 a4 a5)⟩
  | some y =>
    rw [if_neg (by simp)]
    have k := ks (by simp)
    obtain _ | ⟨p, l, e, R, s, m, args, below, meth, c, w, h0, fin, nL0, Q⟩ := C
    · exact k
    intro t e1 e2
    obtain ⟨k1, k2⟩ := k t e1 e2
    exact ⟨k1, fun H locs cells slots ls a1 a2 a3 a4 a5 => lv_ifnull o.1 o.2.1 hd (k2 H locs cells slots ls a1 a2 a3 a4 a5)⟩
theorem hx_acmp_eq (o : hf_In C code own nL rt fr lc) {x y : Option Nat} {vx vy : Value} {off : Int} {Pt Pf : Option τ} (tgt : Nat) (hd : decode code pc = .ok (.if_acmp .eq off, 3)) (ht : (pc : Int) + off = (tgt : Int)) (ex : vx = va_rf x) (ey : vy = va_rf y) (kt : x = y → hf_J C dec Pt h tgt L st) (kf : ¬ x = y → hf_J C dec Pf h (pc + 3) L st) : hf_J C dec (if x = y then Pt else Pf) h pc L (vy :: vx :: st) := by
  subst ex; subst ey
  obtain _ | ⟨p, l, e, R, s, m, args, below, meth, c, w, h0, fin, nL0, Q⟩ := C
  · intro t e1
    by_cases hc : x = y
    · rw [if_pos hc] at e1; exact kt hc t e1
    · rw [if_neg hc] at e1; exact kf hc t e1
  intro t e1 e2
  by_cases hc : x = y
  · rw [if_pos hc] at e1
    obtain ⟨k1, k2⟩ := kt hc t e1 e2
    exact ⟨k1, fun H locs cells slots ls a1 a2 a3 a4 a5 => lv_acmp_eq o.1 o.2.1 hd ht (fun _ => k2 H locs cells slots ls a1 a2 a3 a4 a5) (fun z => absurd hc z)⟩
  · rw [if_neg hc] at e1
    obtain ⟨k1, k2⟩ := kf hc t e1 e2
    exact ⟨k1, fun H locs cells slots ls a1 a2 a3 a4 a5 => lv_acmp_eq o.1 o.2.1 hd ht (fun z => absurd z hc) (fun _ => k2 H locs cells slots ls a1 a2 a3 a4 a5)⟩
theorem hx_acmp_ne (o : hf_In C code own nL rt fr lc) {x y : Option Nat} {vx vy : Value} {off : Int} {Pt Pf : Option τ} (tgt : Nat) (hd : decode code pc = .ok (.if_acmp .ne off, 3)) (ht : (pc : Int) + off = (tgt : Int)) (ex : vx = va_rf x) (ey : vy = va_rf y) (kt : x = y → hf_J C dec Pt h (pc + 3) L st) (kf : ¬ x = y → hf_J C dec Pf h tgt L st) : hf_J C dec (if x = y then Pt else Pf) h pc L (vy :: vx :: st) := by
  subst ex; subst ey
  obtain _ | ⟨p, l, e, R, s, m, args, below, meth, c, w, h0, fin, nL0, Q⟩ := C
  · intro t e1
    by_cases hc : x = y
    · rw [if_pos hc] at e1; exact kt hc t e1
    · rw [if_neg hc] at e1; exact kf hc t e1
  intro t e1 e2
  by_cases hc : x = y
  · rw [if_pos hc] at e1
    obtain ⟨k1, k2⟩ := kt hc t e1 e2
    exact ⟨k1, fun H locs cells slots ls a1 a2 a3 a4 a5 => lv_acmp_ne o.1 o.2.1 hd ht (fun z => absurd hc z) (fun _ => k2 H locs cells slots ls a1 a2 a3 a4 a5)⟩
  · rw [if_neg hc] at e1
    obtain ⟨k1, k2⟩ := kf hc t e1 e2
    exact ⟨k1, fun H locs cells slots ls a1 a2 a3 a4 a5 => lv_acmp_ne o.1 o.2.1 hd ht (fun _ => k2 H locs cells slots ls a1 a2 a3 a4 a5) (fun z => absurd z hc)⟩
end HXN
