set_option maxRecDepth 100000
set_option maxHeartbeats 1000000
/-! methods that may throw (the one class that is thrown is Wrong); methods with handlers -/
def hf_XQ (w : hf_W) (fin : Outcome × hf_H) : Addr → String → State → State → Prop := fun q E _ t => fin.1 = .threw q ∧ E = RX3 ∧ hf_Rel w fin.2 t.heap
/-- the end of a method that may throw: .inl q: it threw q -/
def hf_dT {α : Type} (dv : α → Option Value) : (Nat ⊕ α) × hf_H → Outcome × hf_H := fun t => match t.1 with
  | .inl q => (.threw q, t.2)
  | .inr x => (.returned (dv x), t.2)
abbrev hf_dTI : (Nat ⊕ Int32) × hf_H → Outcome × hf_H := hf_dT fun x => some (.int x)
abbrev hf_dTA : (Nat ⊕ Nat) × hf_H → Outcome × hf_H := hf_dT fun x => some (.ref x)
abbrev hf_dTV : (Nat ⊕ Unit) × hf_H → Outcome × hf_H := hf_dT fun _ => none
/-- what comes after a call that may throw -/
def hf_bT {α β : Type} (G : Option ((Nat ⊕ α) × hf_H)) (K : α → hf_H → Option ((Nat ⊕ β) × hf_H)) : Option ((Nat ⊕ β) × hf_H) := match G with
  | none => none
  | some (.inl q, g) => some (.inl q, g)
  | some (.inr x, g) => K x g
/-- .. where the caller catches it -/
def hf_bC {α τ : Type} (G : Option ((Nat ⊕ α) × hf_H)) (Kx : Nat → hf_H → Option τ) (K : α → hf_H → Option τ) : Option τ := match G with
  | none => none
  | some (.inl q, g) => Kx q g
  | some (.inr x, g) => K x g
def hf_ConT (gs : hf_gs) (y : MethodName) (b : ByteArray) (Lm : Nat) (r : Option FieldType) (fr lc : Nat) (avs : List Value) (h : hf_H) (fin : Outcome × hf_H) : Prop :=
  (h.2.1 ≤ fin.2.2.1 ∧ h.2.2 ≤ fin.2.2.2) ∧ ∀ (l : Launch) (w : hf_W), l.stackTraces = false → w.2.2.2.2.2 = gs → vy_Met l y (ws_ y b Lm r) { frames := fr, cells := fin.2.2.1 - h.2.1, slots := fin.2.2.2 - h.2.2, locals := lc } (va_Pc avs (fun U => hf_Rel w h U.heap ∧ hf_K w U)) (hf_Q w fin) (hf_XQ w fin) (fin.2.2.1 - h.2.1) (fin.2.2.2 - h.2.2) (fun q => w.2.2.1 ≤ q)
/-- a frame of a method that may throw -/
def hf_Thr (C : hf_X) : Prop := match C with
  | none => True
  | some (_, _, _, _, s, _, args, below, _, c, w, h0, fin, _, Q) => (∀ x ∈ c.exceptionTable.toList, False) ∧ ∀ (mc ms : Nat) (t : State), h0.2.1 + mc = fin.2.2.1 → h0.2.2 + ms = fin.2.2.2 → vy_MQ below (hf_Q w fin) (hf_XQ w fin) args s mc ms (fun q => w.2.2.1 ≤ q) t → Q t
theorem hf_entryT {gs : hf_gs} {α : Type} {dv : α → Option Value} {y : MethodName} {b : ByteArray} {Lm : Nat} {r : Option FieldType} {fr lc : Nat} (hy : plainName y.cls = true) (avs : List Value) (hav : (lg_sl avs).length ≤ Lm) (L0 : List (Nat × Value)) (hL0 : lv_args 0 avs = L0) {h : hf_H} {P : Option ((Nat ⊕ α) × hf_H)} {t : (Nat ⊕ α) × hf_H} (ht : P = some t) (body : ∀ C : hf_X, hf_In C b y.cls Lm r fr lc → hf_G C gs → hf_Thr C → hf_J C (hf_dT dv) P h 0 L0 []) : hf_ConT gs y b Lm r fr lc avs h (hf_dT dv t) := by
  have hm := body none trivial trivial trivial t ht
  refine ⟨hm, fun l w hl hg => vy_ofW (cc := b) (maxL := Lm) (ret := r) hy rfl ?_⟩
  intro p e s m args below meth c s₁ B hml htb hv
  obtain ⟨rfl, hR, hK⟩ := hv
  have hts := atoms_spec (ws := ws_ y b Lm r) B.pre
  have hl0 := lv_entry avs (n := Lm) hav
  rw [lg_entry_eq]
  rw [hL0] at hl0
  obtain ⟨hm1, hm2⟩ := hm
  have o : hf_In (some (p, l, e, (headSpec (ws_ y b Lm r) { frames := fr, cells := (hf_dT dv t).2.2.1 - h.2.1, slots := (hf_dT dv t).2.2.2 - h.2.2, locals := lc }).room, s, m, avs.toArray, below, meth, c, w, h, hf_dT dv t, Lm, vy_MQ below (hf_Q w (hf_dT dv t)) (hf_XQ w (hf_dT dv t)) avs.toArray s ((hf_dT dv t).2.2.1 - h.2.1) ((hf_dT dv t).2.2.2 - h.2.2) (fun q => w.2.2.1 ≤ q))) b y.cls Lm r fr lc := by
    refine ⟨B.exec, B.bytes, hml, rfl, findClass_of_methodNamed B.named, fun x hx => hts x (List.mem_cons_of_mem _ hx), B.returns, B.notSynchronized, rfl, rfl, ?_, ?_, hK, hl, ?_, hR⟩
    · show h.2.1 + ((hf_dT dv t).2.2.1 - h.2.1) = _
      omega
    · show h.2.2 + ((hf_dT dv t).2.2.2 - h.2.2) = _
      omega
    · intro mc ms t1 g1 g2 ⟨o9, g3, g4, g5, g6⟩
      rw [show (hf_dT dv t).2.2.1 - h.2.1 = mc by omega, show (hf_dT dv t).2.2.2 - h.2.2 = ms by omega]
      exact ⟨o9, g3, g4, Or.inl ⟨g5, g6⟩⟩
  have ot : hf_Thr (some (p, l, e, (headSpec (ws_ y b Lm r) { frames := fr, cells := (hf_dT dv t).2.2.1 - h.2.1, slots := (hf_dT dv t).2.2.2 - h.2.2, locals := lc }).room, s, m, avs.toArray, below, meth, c, w, h, hf_dT dv t, Lm, vy_MQ below (hf_Q w (hf_dT dv t)) (hf_XQ w (hf_dT dv t)) avs.toArray s ((hf_dT dv t).2.2.1 - h.2.1) ((hf_dT dv t).2.2.2 - h.2.2) (fun q => w.2.2.1 ≤ q))) := by
    refine ⟨htb, ?_⟩
    intro mc ms t1 g1 g2 g3
    rw [show (hf_dT dv t).2.2.1 - h.2.1 = mc by omega, show (hf_dT dv t).2.2.2 - h.2.2 = ms by omega]
    exact g3
  obtain ⟨-, k2⟩ := body _ o hg ot t ht rfl
  exact k2 s.heap [] 0 0 _ hR (fun q hq => nomatch hq) rfl rfl hl0
theorem vy_mono {p : Program} {l : Launch} {e : Env} {R : Room} {s : State} {m : MethodId} {args : Array Value} {below : List Frame} {meth : Method} {c : Code} {H : Heap} {locs : List Loc} {cells slots : Nat} {Q1 Q2 : State → Prop} {g : JFrame} {q : Addr} (hq : ∀ t, Q1 t → Q2 t) (k : vx_W p l e R s m args below meth c H locs cells slots Q1 g q) : vx_W p l e R s m args below meth c H locs cells slots Q2 g q := by
  intro T hT X
  obtain ⟨t, a, b⟩ := k T hT X
  exact ⟨t, a, hq t b⟩
/-- the exception's cell -/
theorem hf_wcell {w : hf_W} {s : State} {h : hf_H} {H : Heap} {q md : Nat} {V : hf_V} (hK : hf_K w s) (hR : hf_Rel w h H) (hx : h.1 q = some (.inl (md, 3, V))) : ∃ ce : Cell, H[q]? = some ce ∧ ce.vm = .none ∧ s.vm.findClass RX3 = some ce.cls := by
  obtain ⟨⟨r, h1, cell, g1, g2, g3, -⟩, -⟩ := (hR.2.2.2.1 q _ hx).1
  exact ⟨cell, g1, g3, by rw [g2]; exact (hK.1 3 (RX3, TX3, 7) rfl).2.1⟩
section HT
variable {α β τ : Type} {C : hf_X} {dv9 : β → Option Value} {h : hf_H} {pc : Nat} {L : List (Nat × Value)} {st : List Value} {code : ByteArray} {own : String} {nL : Nat} {rt : Option FieldType} {fr lc : Nat} {idx a : Nat}
variable {y : MethodName} {bytes : ByteArray} {Lm : Nat} {ret : Option FieldType} {n fr' lc' : Nat} {dv : α → Option Value} {rest : List Value} {gs : hf_gs} {host : String}
theorem hT_athrow (o : hf_In C code own nL rt fr lc) (ot : hf_Thr C) {q : Nat} (hd : decode code pc = .ok (.athrow, 1)) : hf_J C (hf_dT dv9) ((hf_ob 0 3 h q).bind fun _ => some (.inl q, h)) h pc L (.ref q :: st) := by
  cases e0 : hf_ob 0 3 h q with
  | none => exact hr_none
  | some V =>
    have hx := hf_ob_spec e0
    show hf_J C (hf_dT dv9) (some (.inl q, h)) h pc L (.ref q :: st)
    obtain _ | ⟨p, l, e, R, s, m, args, below, meth, c, w, h0, fin, nL0, Q⟩ := C
    · intro t e1
      cases e1
      exact ⟨Nat.le_refl _, Nat.le_refl _⟩
    intro t e1 e2
    cases e1
    have e2 : (Outcome.threw q, h) = fin := e2
    subst e2
    obtain ⟨o1, o2, o3, o4, o5, o6, o7, o8, o9, o10, o11, o12, o13, o14, o15, o16⟩ := o
    refine ⟨⟨Nat.le_refl _, Nat.le_refl _⟩, fun H locs cells slots ls a1 a2 a3 a4 a5 => ?_⟩
    obtain ⟨ce, g1, g2, g3⟩ := hf_wcell o13 a1 hx
    refine vx_athrow o1 o2 hd (vy_mono (fun t ht => ot.2 cells slots t a3 a4 ht) (vy_out (fun x hx => absurd hx (fun z => ot.1 x z)) o8 g1 g2 g3 (fun t ht _ => ⟨rfl, rfl, by rw [ht]; exact a1⟩) a2 (Nat.le_refl _) (Nat.le_refl _)))
theorem hT_callV (o : hf_In C code own nL rt fr lc) (og : hf_G C gs) (ot : hf_Thr C) {q : vw_C} (mv : hf_MV own idx q.1 y bytes Lm ret n) (hd : decode code pc = .ok (.invokevirtual idx, 3)) {md ci : Nat} (hc : hf_cl[ci]? = some q) (As : List Value) {G : Option ((Nat ⊕ α) × hf_H)} {K : α → hf_H → Option ((Nat ⊕ β) × hf_H)} (hM : ∀ x, G = some x → hf_ConT gs y bytes Lm ret fr' lc' (.ref a :: As) h (hf_dT dv x)) (hs : st = As.reverse ++ .ref a :: rest) (hn : As.length = n) (hrest : (rest.map fun v => v.category).sum ≤ 8) (hfr : fr' + 1 ≤ fr ∧ 8 + (Lm + 11) + lc' ≤ lc)
    (kk : ∀ (x : α) (g : hf_H), hf_J C (hf_dT dv9) (K x g) g (pc + 3) L ((dv x).toList ++ rest)) : hf_J C (hf_dT dv9) ((hf_ob md ci h a).bind fun _ => hf_bT G K) h pc L st := by
  cases e0 : hf_ob md ci h a with
  | none => exact hr_none
  | some V =>
  have hx := hf_ob_spec e0
  show hf_J C (hf_dT dv9) (hf_bT G K) h pc L st
  cases eG : G with
  | none => exact hr_none
  | some x =>
    obtain ⟨x1, g⟩ := x
    have hMx := hM _ eG
    obtain ⟨⟨m1, m3⟩, m2⟩ := hMx
    cases x1 with
    | inl q9 =>
      show hf_J C (hf_dT dv9) (some (.inl q9, g)) h pc L st
      have m1 : h.2.1 ≤ g.2.1 := m1
      have m3 : h.2.2 ≤ g.2.2 := m3
      obtain _ | ⟨p, l, e, R, s, m, args, below, meth, c, w, h0, fin, nL0, Q⟩ := C
      · intro t e1
        cases e1
        exact ⟨m1, m3⟩
      intro t e1 e2
      cases e1
      have e2 : (Outcome.threw q9, g) = fin := e2
      subst e2
      obtain ⟨o1, o2, o3, o4, o5, o6, o7, o8, o9, o10, o11, o12, o13, o14, o15, o16⟩ := o
      have o11 : h0.2.1 + R.cells = g.2.1 := o11
      have o12 : h0.2.2 + R.slots = g.2.2 := o12
      refine ⟨⟨m1, m3⟩, fun H locs cells slots ls a1 a2 a3 a4 a5 => ?_⟩
      have f1 : cells + (g.2.1 - h.2.1) ≤ R.cells := by omega
      have f2 : slots + (g.2.2 - h.2.2) ≤ R.slots := by omega
      intro T hT X
      rcases vy_runV (As := As) (rest := rest) (g := F0 m pc ls st) (C := q.1) (b := a) (n := n) ⟨o1, o2, o3, o5, o6⟩ (m2 l w o14 og) (cwV n o6 mv.1 rfl rfl rfl mv.2 ⟨by rw [o9]; exact hfr.1, by rw [o10]; exact hfr.2⟩) ⟨hf_blind, hf_recv o13 a1 hx hc, fun U hU hW => ⟨rfl, by rw [hU]; exact a1, hf_K.moved hW o13⟩⟩ rfl hn (a5.1.trans o4) hs (lv_room hrest) hd ⟨f1, f2⟩ T hT X with ⟨v, st₀, t1, T', Lc, b0, X', hL, q1, q2, ⟨q3, q4⟩, stp⟩ | ⟨q', st₀, t1, T', Lc, E, ce, b0, X', hL, q1, q2, ⟨q3, q4, q5⟩, hce, hcv, hcl, stp⟩
      · cases q3
      · cases q3
        subst q4
        have q5 : hf_Rel w g t1.heap := q5
        have kw := vy_mono (fun t ht => ot.2 (cells + (g.2.1 - h.2.1)) (slots + (g.2.2 - h.2.2)) t (by show h0.2.1 + (cells + (g.2.1 - h.2.1)) = g.2.1; omega) (by show h0.2.2 + (slots + (g.2.2 - h.2.2)) = g.2.2; omega) ht) (vy_out (p := p) (l := l) (e := e) (R := R) (s := s) (m := m) (args := args) (below := below) (meth := meth) (c := c) (H := T'.heap) (locs := locs ++ Lc) (cells := cells + (g.2.1 - h.2.1)) (slots := slots + (g.2.2 - h.2.2)) (mc := cells + (g.2.1 - h.2.1)) (ms := slots + (g.2.2 - h.2.2)) (free := fun q => w.2.2.1 ≤ q) (ls := ls) (rest := rest) (pc := pc) (Qc := hf_Q w (.threw q9, g)) (XC := hf_XQ w (.threw q9, g)) (E := RX3) (ce := ce) (q := q9) (fun x hx => absurd hx (fun z => ot.1 x z)) o8 (by rw [q1]; exact hce) hcv hcl (fun t ht _ => ⟨rfl, rfl, by rw [ht, q1]; exact q5⟩) (fun z hz => by
          rcases List.mem_append.mp hz with g | g
          · exact a2 z g
          · exact hL z g) (Nat.le_refl _) (Nat.le_refl _))
        obtain ⟨tt, b1, b2⟩ := kw T' rfl X'
        exact ⟨tt, stp.trans b1, b2⟩
    | inr x9 =>
      have kk := kk x9 g
      show hf_J C (hf_dT dv9) (K x9 g) h pc L st
      have m1 : h.2.1 ≤ g.2.1 := m1
      have m3 : h.2.2 ≤ g.2.2 := m3
      obtain _ | ⟨p, l, e, R, s, m, args, below, meth, c, w, h0, fin, nL0, Q⟩ := C
      · intro t e1
        have k1 := kk t e1
        exact ⟨Nat.le_trans m1 k1.1, Nat.le_trans m3 k1.2⟩
      intro t e1 e2
      obtain ⟨⟨k1, k3⟩, k2⟩ := kk t e1 e2
      obtain ⟨o1, o2, o3, o4, o5, o6, o7, o8, o9, o10, o11, o12, o13, o14, o15, o16⟩ := o
      refine ⟨⟨Nat.le_trans m1 k1, Nat.le_trans m3 k3⟩, fun H locs cells slots ls a1 a2 a3 a4 a5 => ?_⟩
      have f1 : cells + (g.2.1 - h.2.1) ≤ R.cells := by omega
      have f2 : slots + (g.2.2 - h.2.2) ≤ R.slots := by omega
      intro T hT X
      rcases vy_runV (As := As) (rest := rest) (g := F0 m pc ls st) (C := q.1) (b := a) (n := n) ⟨o1, o2, o3, o5, o6⟩ (m2 l w o14 og) (cwV n o6 mv.1 rfl rfl rfl mv.2 ⟨by rw [o9]; exact hfr.1, by rw [o10]; exact hfr.2⟩) ⟨hf_blind, hf_recv o13 a1 hx hc, fun U hU hW => ⟨rfl, by rw [hU]; exact a1, hf_K.moved hW o13⟩⟩ rfl hn (a5.1.trans o4) hs (lv_room hrest) hd ⟨f1, f2⟩ T hT X with ⟨v, st₀, t1, T', Lc, b0, X', hL, q1, q2, ⟨q3, q4⟩, stp⟩ | ⟨q', st₀, t1, T', Lc, E, ce, b0, X', hL, q1, q2, ⟨q3, q4, q5⟩, hce, hcv, hcl, stp⟩
      · cases q3
        obtain ⟨tt, b1, b2⟩ := k2 T'.heap (locs ++ Lc) _ _ ls (by rw [q1]; exact q4) (fun z hz => by
          rcases List.mem_append.mp hz with g | g
          · exact a2 z g
          · exact hL z g) (by show h0.2.1 + (cells + (g.2.1 - h.2.1)) = _; omega) (by show h0.2.2 + (slots + (g.2.2 - h.2.2)) = _; omega) a5 T' rfl X'
        exact ⟨tt, stp tt b1, b2⟩
      · cases q3
/-- the call of a method that may throw, where this method catches it -/
def hf_Tb (C : hf_X) (hh : List (Nat × Nat × Nat × Nat)) : Prop := match C with
  | none => True
  | some (_, _, _, _, _, _, _, _, _, c, _, _, _, _, _) => c.exceptionTable.toList = tableOf hh
theorem hC_callV {dec : τ → Outcome × hf_H} (o : hf_In C code RX0 nL rt fr lc) (og : hf_G C gs) {hh : List (Nat × Nat × Nat × Nat)} (otb : hf_Tb C hh) {x0 : ExceptionTableEntry} {suf : List ExceptionTableEntry} (hsp : tableOf hh = x0 :: suf) (hcv0 : covers x0 pc = true) (hct : x0.catchType = 35) {q : vw_C} (mv : hf_MV RX0 idx q.1 y bytes Lm ret n) (hd : decode code pc = .ok (.invokevirtual idx, 3)) {md ci : Nat} (hc : hf_cl[ci]? = some q) (As : List Value) {G : Option ((Nat ⊕ α) × hf_H)} {Kx : Nat → hf_H → Option τ} {K : α → hf_H → Option τ} (hM : ∀ x, G = some x → hf_ConT gs y bytes Lm ret fr' lc' (.ref a :: As) h (hf_dT dv x)) (hs : st = As.reverse ++ .ref a :: rest) (hn : As.length = n) (hrest : (rest.map fun v => v.category).sum ≤ 8) (hfr : fr' + 1 ≤ fr ∧ 8 + (Lm + 11) + lc' ≤ lc)
    (kx : ∀ (q9 : Nat) (g : hf_H), hf_J C dec (Kx q9 g) g x0.handlerPc L [.ref q9])
    (kk : ∀ (x : α) (g : hf_H), hf_J C dec (K x g) g (pc + 3) L ((dv x).toList ++ rest)) : hf_J C dec ((hf_ob md ci h a).bind fun _ => hf_bC G Kx K) h pc L st := by
  cases e0 : hf_ob md ci h a with
  | none => exact hr_none
  | some V =>
  have hx := hf_ob_spec e0
  show hf_J C dec (hf_bC G Kx K) h pc L st
  cases eG : G with
  | none => exact hr_none
  | some x =>
    obtain ⟨x1, g⟩ := x
    have hMx := hM _ eG
    obtain ⟨⟨m1, m3⟩, m2⟩ := hMx
    have m1 : h.2.1 ≤ g.2.1 := by
      cases x1 <;> exact m1
    have m3 : h.2.2 ≤ g.2.2 := by
      cases x1 <;> exact m3
    cases x1 with
    | inl q9 =>
      have kx := kx q9 g
      show hf_J C dec (Kx q9 g) h pc L st
      obtain _ | ⟨p, l, e, R, s, m, args, below, meth, c, w, h0, fin, nL0, Q⟩ := C
      · intro t e1
        have k1 := kx t e1
        exact ⟨Nat.le_trans m1 k1.1, Nat.le_trans m3 k1.2⟩
      intro t e1 e2
      obtain ⟨⟨k1, k3⟩, k2⟩ := kx t e1 e2
      obtain ⟨o1, o2, o3, o4, o5, o6, o7, o8, o9, o10, o11, o12, o13, o14, o15, o16⟩ := o
      refine ⟨⟨Nat.le_trans m1 k1, Nat.le_trans m3 k3⟩, fun H locs cells slots ls a1 a2 a3 a4 a5 => ?_⟩
      have f1 : cells + (g.2.1 - h.2.1) ≤ R.cells := by omega
      have f2 : slots + (g.2.2 - h.2.2) ≤ R.slots := by omega
      intro T hT X
      rcases vy_runV (As := As) (rest := rest) (g := F0 m pc ls st) (C := q.1) (b := a) (n := n) ⟨o1, o2, o3, o5, o6⟩ (m2 l w o14 og) (cwV n o6 mv.1 rfl rfl rfl mv.2 ⟨by rw [o9]; exact hfr.1, by rw [o10]; exact hfr.2⟩) ⟨hf_blind, hf_recv o13 a1 hx hc, fun U hU hW => ⟨rfl, by rw [hU]; exact a1, hf_K.moved hW o13⟩⟩ rfl hn (a5.1.trans o4) hs (lv_room hrest) hd ⟨f1, f2⟩ T hT X with ⟨v, st₀, t1, T', Lc, b0, X', hL, q1, q2, ⟨q3, q4⟩, stp⟩ | ⟨q', st₀, t1, T', Lc, E, ce, b0, X', hL, q1, q2, ⟨q3, q4, q5⟩, hce, hcv, hcl, stp⟩
      · cases q3
      · cases q3
        subst q4
        have q5 : hf_Rel w g t1.heap := q5
        have hw := k2 T'.heap (locs ++ Lc) (cells + (g.2.1 - h.2.1)) (slots + (g.2.2 - h.2.2)) ls (by rw [q1]; exact q5) (fun z hz => by
          rcases List.mem_append.mp hz with g | g
          · exact a2 z g
          · exact hL z g) (by omega) (by omega) a5
        have kw := vx_catch (p := p) (l := l) (e := e) (R := R) (s := s) (m := m) (args := args) (below := below) (meth := meth) (c := c) (H := T'.heap) (locs := locs ++ Lc) (cells := cells + (g.2.1 - h.2.1)) (slots := slots + (g.2.2 - h.2.2)) (Q := Q) (pc := pc) (ls := ls) (rest := rest) (own := RX0) (name := RX3) (E := RX3) (ce := ce) (q := q9) o5 [] x0 suf (otb.trans hsp) (fun z hz => nomatch hz) hcv0 (by rw [hct]; decide) (by rw [hct]; exact o6 _ q319) (va_Nw.use rfl (o13.2.2.1 _ q321 rfl)) (by rw [q1]; exact hce) hcv hcl hw
        obtain ⟨tt, b1, b2⟩ := kw T' rfl X'
        exact ⟨tt, stp.trans b1, b2⟩
    | inr x9 =>
      have kk := kk x9 g
      show hf_J C dec (K x9 g) h pc L st
      obtain _ | ⟨p, l, e, R, s, m, args, below, meth, c, w, h0, fin, nL0, Q⟩ := C
      · intro t e1
        have k1 := kk t e1
        exact ⟨Nat.le_trans m1 k1.1, Nat.le_trans m3 k1.2⟩
      intro t e1 e2
      obtain ⟨⟨k1, k3⟩, k2⟩ := kk t e1 e2
      obtain ⟨o1, o2, o3, o4, o5, o6, o7, o8, o9, o10, o11, o12, o13, o14, o15, o16⟩ := o
      refine ⟨⟨Nat.le_trans m1 k1, Nat.le_trans m3 k3⟩, fun H locs cells slots ls a1 a2 a3 a4 a5 => ?_⟩
      have f1 : cells + (g.2.1 - h.2.1) ≤ R.cells := by omega
      have f2 : slots + (g.2.2 - h.2.2) ≤ R.slots := by omega
      intro T hT X
      rcases vy_runV (As := As) (rest := rest) (g := F0 m pc ls st) (C := q.1) (b := a) (n := n) ⟨o1, o2, o3, o5, o6⟩ (m2 l w o14 og) (cwV n o6 mv.1 rfl rfl rfl mv.2 ⟨by rw [o9]; exact hfr.1, by rw [o10]; exact hfr.2⟩) ⟨hf_blind, hf_recv o13 a1 hx hc, fun U hU hW => ⟨rfl, by rw [hU]; exact a1, hf_K.moved hW o13⟩⟩ rfl hn (a5.1.trans o4) hs (lv_room hrest) hd ⟨f1, f2⟩ T hT X with ⟨v, st₀, t1, T', Lc, b0, X', hL, q1, q2, ⟨q3, q4⟩, stp⟩ | ⟨q', st₀, t1, T', Lc, E, ce, b0, X', hL, q1, q2, ⟨q3, q4, q5⟩, hce, hcv, hcl, stp⟩
      · cases q3
        obtain ⟨tt, b1, b2⟩ := k2 T'.heap (locs ++ Lc) _ _ ls (by rw [q1]; exact q4) (fun z hz => by
          rcases List.mem_append.mp hz with g | g
          · exact a2 z g
          · exact hL z g) (by show h0.2.1 + (cells + (g.2.1 - h.2.1)) = _; omega) (by show h0.2.2 + (slots + (g.2.2 - h.2.2)) = _; omega) a5 T' rfl X'
        exact ⟨tt, stp tt b1, b2⟩
      · cases q3
end HT
/-! methods with a table of their own that return -/
def hf_ConW (gs : hf_gs) (y : MethodName) (b : ByteArray) (Lm : Nat) (r : Option FieldType) (hh : List (Nat × Nat × Nat × Nat)) (fr lc : Nat) (avs : List Value) (h : hf_H) (fin : Outcome × hf_H) : Prop :=
  (h.2.1 ≤ fin.2.2.1 ∧ h.2.2 ≤ fin.2.2.2) ∧ ∀ (l : Launch) (w : hf_W), l.stackTraces = false → w.2.2.2.2.2 = gs → Met l y (wsW_ y b Lm r hh) { frames := fr, cells := fin.2.2.1 - h.2.1, slots := fin.2.2.2 - h.2.2, locals := lc } (va_Pc avs (fun U => hf_Rel w h U.heap ∧ hf_K w U)) (hf_Q w fin) (fin.2.2.1 - h.2.1) (fin.2.2.2 - h.2.2) (fun q => w.2.2.1 ≤ q)
theorem hf_entryW {gs : hf_gs} {τ : Type} {y : MethodName} {b : ByteArray} {Lm : Nat} {r : Option FieldType} {hh : List (Nat × Nat × Nat × Nat)} {fr lc : Nat} (hy : plainName y.cls = true) (avs : List Value) (hav : (lg_sl avs).length ≤ Lm) (L0 : List (Nat × Value)) (hL0 : lv_args 0 avs = L0) {h : hf_H} {dec : τ → Outcome × hf_H} {P : Option τ} {t : τ} (ht : P = some t) (body : ∀ C : hf_X, hf_In C b y.cls Lm r fr lc → hf_G C gs → hf_Tb C hh → hf_J C dec P h 0 L0 []) : hf_ConW gs y b Lm r hh fr lc avs h (dec t) := by
  have hm := body none trivial trivial trivial t ht
  refine ⟨hm, fun l w hl hg => va_MetW (cc := b) (maxL := Lm) (ret := r) (hh := hh) hy rfl ?_⟩
  intro p e s m args below meth c s₁ B hml hv
  obtain ⟨rfl, hR, hK⟩ := hv
  have hts := atoms_spec (ws := wsW_ y b Lm r hh) B.pre
  have hl0 := lv_entry avs (n := Lm) hav
  rw [lg_entry_eq]
  rw [hL0] at hl0
  obtain ⟨hm1, hm2⟩ := hm
  have o : hf_In (some (p, l, e, (headSpec (wsW_ y b Lm r hh) { frames := fr, cells := (dec t).2.2.1 - h.2.1, slots := (dec t).2.2.2 - h.2.2, locals := lc }).room, s, m, avs.toArray, below, meth, c, w, h, dec t, Lm, MQ below (hf_Q w (dec t)) avs.toArray s ((dec t).2.2.1 - h.2.1) ((dec t).2.2.2 - h.2.2) (fun q => w.2.2.1 ≤ q))) b y.cls Lm r fr lc := by
    refine ⟨B.exec, B.bytes, hml, rfl, findClass_of_methodNamed B.named, fun x hx => hts x (List.mem_cons_of_mem _ hx), B.returns, B.notSynchronized, rfl, rfl, ?_, ?_, hK, hl, ?_, hR⟩
    · show h.2.1 + ((dec t).2.2.1 - h.2.1) = _
      omega
    · show h.2.2 + ((dec t).2.2.2 - h.2.2) = _
      omega
    · intro mc ms t1 g1 g2 g3
      rw [show (dec t).2.2.1 - h.2.1 = mc by omega, show (dec t).2.2.2 - h.2.2 = ms by omega]
      exact g3
  obtain ⟨-, k2⟩ := body _ o hg (vx_table (x := y) B (hts _ List.mem_cons_self)) t ht rfl
  exact k2 s.heap [] 0 0 _ hR (fun q hq => nomatch hq) rfl rfl hl0
