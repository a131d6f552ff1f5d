set_option maxRecDepth 100000
/-! contracts and calls -/
/-- method y, called with avs on the heap h, comes to the end fin -/
def hf_Con (y : MethodName) (b : ByteArray) (Lm : Nat) (r : Option FieldType) (fr lc : Nat) (avs : List Value) (h : hf_H) (fin : Outcome × hf_H) : Prop :=
  (h.2.1 ≤ fin.2.2.1 ∧ h.2.2 ≤ fin.2.2.2) ∧ ∀ (l : Launch) (w : hf_W), l.stackTraces = false → Met l y (ws_ y b Lm r) { frames := fr, cells := fin.2.2.1 - h.2.1, slots := fin.2.2.2 - h.2.2, locals := lc } (va_Pc avs (fun U => hf_Rel w h U.heap ∧ hf_K w U)) (hf_Q w fin) (fin.2.2.1 - h.2.1) (fin.2.2.2 - h.2.2) (fun q => w.2.2.1 ≤ q)
theorem hf_entry {τ : Type} {y : MethodName} {b : ByteArray} {Lm : Nat} {r : Option FieldType} {fr lc : Nat} (hy : plainName y.cls = true) (avs : List Value) (hav : (lg_sl avs).length ≤ Lm) (L0 : List (Nat × Value)) (hL0 : lv_args 0 avs = L0) {h : hf_H} {dec : τ → Outcome × hf_H} {P : Option τ} {t : τ} (ht : P = some t) (body : ∀ C : hf_X, hf_In C b y.cls Lm r fr lc → (y.name = "<init>" → hf_Ini C) → hf_J C dec P h 0 L0 []) : hf_Con y b Lm r fr lc avs h (dec t) := by
  have hm := body none trivial (fun _ => trivial) t ht
  refine ⟨hm, fun l w hl => Met.ofW (cc := b) (maxL := Lm) (ret := r) hy rfl ?_⟩
  intro p e s m args below meth c s₁ B hml hv
  obtain ⟨rfl, hR, hK⟩ := hv
  have hts := atoms_spec (ws := ws_ y b Lm r) B.pre
  have hl0 := lv_entry avs (n := Lm) hav
  rw [lg_entry_eq]
  rw [hL0] at hl0
  obtain ⟨hm1, hm2⟩ := hm
  have o : hf_In (some (p, l, e, (headSpec (ws_ y b Lm r) { frames := fr, cells := (dec t).2.2.1 - h.2.1, slots := (dec t).2.2.2 - h.2.2, locals := lc }).room, s, m, avs.toArray, below, meth, c, w, h, dec t, Lm, MQ below (hf_Q w (dec t)) avs.toArray s ((dec t).2.2.1 - h.2.1) ((dec t).2.2.2 - h.2.2) (fun q => w.2.2.1 ≤ q))) b y.cls Lm r fr lc := by
    refine ⟨B.exec, B.bytes, hml, rfl, findClass_of_methodNamed B.named, fun x hx => hts x (List.mem_cons_of_mem _ hx), B.returns, B.notSynchronized, rfl, rfl, ?_, ?_, hK, hl, ?_, hR⟩
    · show h.2.1 + ((dec t).2.2.1 - h.2.1) = _
      omega
    · show h.2.2 + ((dec t).2.2.2 - h.2.2) = _
      omega
    · intro mc ms t1 g1 g2 g3
      rw [show (dec t).2.2.1 - h.2.1 = mc by omega, show (dec t).2.2.2 - h.2.2 = ms by omega]
      exact g3
  obtain ⟨-, k2⟩ := body _ o (fun hn => ((name_of_methodNamed B.named B.method).1).trans hn) t ht rfl
  exact k2 s.heap [] 0 0 _ hR (fun q hq => nomatch hq) rfl rfl hl0
theorem hf_blind {w : hf_W} {avs : List Value} {h : hf_H} : FrameBlind (va_Pc avs (fun U => hf_Rel w h U.heap ∧ hf_K w U)) := fun _ U _ _ q => ⟨q.1, q.2.1, hf_K.moved (s := U) (State.WarmedH.refl U) q.2.2⟩
def hf_MV (own : String) (idx : Nat) (C : String) (y : MethodName) (b : ByteArray) (Lm : Nat) (r : Option FieldType) (n : Nat) : Prop := GoodIn lw_all (wsV own idx C y (ws_ y b Lm r)) ∧ (y.cls = C ∧ y.cls ≠ "java/lang/invoke/MethodHandle" ∧ y.cls ≠ "java/lang/invoke/VarHandle" ∧ (parseMethodDescriptor y.desc).map (fun d => d.parameters.length) = some n)
def hf_MS (own : String) (idx : Nat) (y : MethodName) (b : ByteArray) (Lm : Nat) (r : Option FieldType) (n : Nat) : Prop := GoodIn lw_all (va_wsS own idx y (ws_ y b Lm r)) ∧ (y.cls ≠ "java/lang/invoke/MethodHandle" ∧ y.cls ≠ "java/lang/invoke/VarHandle" ∧ (parseMethodDescriptor y.desc).map (fun d => d.parameters.length) = some n)
def hf_MI (own : String) (idx : Nat) (y : MethodName) (b : ByteArray) (Lm : Nat) (n : Nat) : Prop := (Cond.code y b Lm none ∈ lw_all ∧ Cond.initialized y.cls ∈ lw_all ∧ Cond.methodLink own idx y ∈ lw_all ∧ Cond.instanceMethod y ∈ lw_all ∧ y.name = "<init>") ∧ (y.cls ≠ "java/lang/invoke/MethodHandle" ∧ y.cls ≠ "java/lang/invoke/VarHandle" ∧ (parseMethodDescriptor y.desc).map (fun d => d.parameters.length) = some n)
theorem hf_recv {w : hf_W} {s : State} {h : hf_H} {H : Heap} {a md ci : Nat} {V : hf_V} (hK : hf_K w s) (hR : hf_Rel w h H) (hx : h.1 a = some (.inl (md, ci, V))) {q : vw_C} (hc : hf_cl[ci]? = some q) : ∃ cell : Cell, H[a]? = some cell ∧ cell.vm.isStatics = false ∧ s.vm.findClass q.1 = some cell.cls := by
  obtain ⟨⟨r, h1, cell, g1, g2, g3, -⟩, -⟩ := (hR.2.2.2.1 a _ hx).1
  cases Option.some.inj (h1.symm.trans hc)
  exact ⟨cell, g1, by rw [g3]; rfl, by rw [g2]; exact (hK.1 ci _ hc).2.1⟩
/-- a pair's parts -/
def hf_b2 {α β τ : Type} (x : Option (α × β)) (K : α → β → Option τ) : Option τ := x.bind fun p => K p.1 p.2
section HCall
variable {τ : Type} {C : hf_X} {dec : τ → Outcome × hf_H} {P : Option τ} {h : hf_H} {pc : Nat} {L : List (Nat × Value)} {st : List Value} {code : ByteArray} {own : String} {nL : Nat} {rt : Option FieldType} {fr lc : Nat} {idx a : Nat}
variable {y : MethodName} {bytes : ByteArray} {Lm : Nat} {ret : Option FieldType} {n fr' lc' : Nat} {ρ : Type} {G : Option ρ} {K : ρ → Option τ} {rest : List Value}
theorem hr_callV0 (o : hf_In C code own nL rt fr lc) {q : vw_C} (mv : hf_MV own idx q.1 y bytes Lm ret n) (hd : decode code pc = .ok (.invokevirtual idx, 3)) {md ci : Nat} {V : hf_V} (hx : h.1 a = some (.inl (md, ci, V))) (hc : hf_cl[ci]? = some q) (As : List Value) (dv : ρ → Option Value) (dh : ρ → hf_H) (hM : ∀ x, G = some x → hf_Con y bytes Lm ret fr' lc' (.ref a :: As) h (.returned (dv x), dh x)) (hs : st = As.reverse ++ .ref a :: rest) (hn : As.length = n) (hrest : (rest.map fun v => v.category).sum ≤ 8) (hfr : fr' + 1 ≤ fr ∧ 8 + (Lm + 11) + lc' ≤ lc)
    (kk : ∀ x, G = some x → hf_J C dec (K x) (dh x) (pc + 3) L ((dv x).toList ++ rest)) : hf_J C dec (G.bind K) h pc L st := by
  cases eG : G with
  | none => exact hr_none
  | some x =>
    have hMx := hM x eG
    have kk := kk x eG
    show hf_J C dec (K x) h pc L st
    obtain ⟨⟨m1, m3⟩, m2⟩ := hMx
    dsimp only at m1 m3
    obtain _ | ⟨p, l, e, R, s, m, args, below, meth, c, w, h0, fin, nL0, Q⟩ := C
    · intro t e1
      have k1 := kk t e1
      exact ⟨Nat.le_trans m1 k1.1, Nat.le_trans m3 k1.2⟩
    intro t e1 e2
    obtain ⟨⟨k1, k3⟩, k2⟩ := kk t e1 e2
    obtain ⟨o1, o2, o3, o4, o5, o6, o7, o8, o9, o10, o11, o12, o13, o14, o15, o16⟩ := o
    refine ⟨⟨Nat.le_trans m1 k1, Nat.le_trans m3 k3⟩, fun H locs cells slots ls a1 a2 a3 a4 a5 => ?_⟩
    have f1 : cells + ((dh x).2.1 - h.2.1) ≤ R.cells := by omega
    have f2 : slots + ((dh x).2.2 - h.2.2) ≤ R.slots := by omega
    intro T hT X
    obtain ⟨v, st₀, t1, T', Lc, b0, X', hL, q1, q2, ⟨q3, q4⟩, stp⟩ := va_runV (As := As) (rest := rest) (g := F0 m pc ls st) (C := q.1) (b := a) (n := n) ⟨o1, o2, o3, o5, o6⟩ (m2 l w o14) (cwV n o6 mv.1 rfl rfl rfl mv.2 ⟨by rw [o9]; exact hfr.1, by rw [o10]; exact hfr.2⟩) ⟨hf_blind, hf_recv o13 a1 hx hc, fun U hU hW => ⟨rfl, by rw [hU]; exact a1, hf_K.moved hW o13⟩⟩ rfl hn (a5.1.trans o4) hs (lv_room hrest) hd ⟨f1, f2⟩ T hT X
    cases q3
    obtain ⟨tt, b1, b2⟩ := k2 T'.heap (locs ++ Lc) _ _ ls (by rw [q1]; exact q4) (fun z hz => by
      rcases List.mem_append.mp hz with g | g
      · exact a2 z g
      · exact hL z g) (by show h0.2.1 + (cells + ((dh x).2.1 - h.2.1)) = _; omega) (by show h0.2.2 + (slots + ((dh x).2.2 - h.2.2)) = _; omega) a5 T' rfl X'
    exact ⟨tt, stp tt b1, b2⟩
theorem hr_callS0 (o : hf_In C code own nL rt fr lc) (mv : hf_MS own idx y bytes Lm ret n) (hd : decode code pc = .ok (.invokestatic idx, 3)) (As : List Value) (dv : ρ → Option Value) (dh : ρ → hf_H) (hM : ∀ x, G = some x → hf_Con y bytes Lm ret fr' lc' As h (.returned (dv x), dh x)) (hs : st = As.reverse ++ rest) (hn : As.length = n) (hrest : (rest.map fun v => v.category).sum ≤ 8) (hfr : fr' + 1 ≤ fr ∧ 8 + (Lm + 11) + lc' ≤ lc)
    (kk : ∀ x, G = some x → hf_J C dec (K x) (dh x) (pc + 3) L ((dv x).toList ++ rest)) : hf_J C dec (G.bind K) h pc L st := by
  cases eG : G with
  | none => exact hr_none
  | some x =>
    have hMx := hM x eG
    have kk := kk x eG
    show hf_J C dec (K x) h pc L st
    obtain ⟨⟨m1, m3⟩, m2⟩ := hMx
    dsimp only at m1 m3
    obtain _ | ⟨p, l, e, R, s, m, args, below, meth, c, w, h0, fin, nL0, Q⟩ := C
    · intro t e1
      have k1 := kk t e1
      exact ⟨Nat.le_trans m1 k1.1, Nat.le_trans m3 k1.2⟩
    intro t e1 e2
    obtain ⟨⟨k1, k3⟩, k2⟩ := kk t e1 e2
    obtain ⟨o1, o2, o3, o4, o5, o6, o7, o8, o9, o10, o11, o12, o13, o14, o15, o16⟩ := o
    refine ⟨⟨Nat.le_trans m1 k1, Nat.le_trans m3 k3⟩, fun H locs cells slots ls a1 a2 a3 a4 a5 => ?_⟩
    have f1 : cells + ((dh x).2.1 - h.2.1) ≤ R.cells := by omega
    have f2 : slots + ((dh x).2.2 - h.2.2) ≤ R.slots := by omega
    intro T hT X
    obtain ⟨v, st₀, t1, T', Lc, b0, X', hL, q1, q2, ⟨q3, q4⟩, stp⟩ := va_runS (As := As) (rest := rest) (g := F0 m pc ls st) (n := n) ⟨o1, o2, o3, o5, o6⟩ (m2 l w o14) (va_cwS n o6 mv.1 rfl rfl rfl mv.2 ⟨by rw [o9]; exact hfr.1, by rw [o10]; exact hfr.2⟩) ⟨hf_blind, fun U hU hW => ⟨rfl, by rw [hU]; exact a1, hf_K.moved hW o13⟩⟩ rfl hn (a5.1.trans o4) hs (lv_room hrest) hd ⟨f1, f2⟩ T hT X
    cases q3
    obtain ⟨tt, b1, b2⟩ := k2 T'.heap (locs ++ Lc) _ _ ls (by rw [q1]; exact q4) (fun z hz => by
      rcases List.mem_append.mp hz with g | g
      · exact a2 z g
      · exact hL z g) (by show h0.2.1 + (cells + ((dh x).2.1 - h.2.1)) = _; omega) (by show h0.2.2 + (slots + ((dh x).2.2 - h.2.2)) = _; omega) a5 T' rfl X'
    exact ⟨tt, stp tt b1, b2⟩
theorem hr_callI0 (o : hf_In C code own nL rt fr lc) (mv : hf_MI own idx y bytes Lm n) (hd : decode code pc = .ok (.invokespecial idx, 3)) (As : List Value) (dh : ρ → hf_H) (hM : ∀ x, G = some x → hf_Con y bytes Lm none fr' lc' (.ref a :: As) h (.returned none, dh x)) (hs : st = As.reverse ++ .ref a :: rest) (hn : As.length = n) (hrest : (rest.map fun v => v.category).sum ≤ 8) (hfr : fr' + 1 ≤ fr ∧ 8 + (Lm + 11) + lc' ≤ lc)
    (kk : ∀ x, G = some x → hf_J C dec (K x) (dh x) (pc + 3) L rest) : hf_J C dec (G.bind K) h pc L st := by
  cases eG : G with
  | none => exact hr_none
  | some x =>
    have hMx := hM x eG
    have kk := kk x eG
    show hf_J C dec (K x) h pc L st
    obtain ⟨⟨m1, m3⟩, m2⟩ := hMx
    dsimp only at m1 m3
    obtain _ | ⟨p, l, e, R, s, m, args, below, meth, c, w, h0, fin, nL0, Q⟩ := C
    · intro t e1
      have k1 := kk t e1
      exact ⟨Nat.le_trans m1 k1.1, Nat.le_trans m3 k1.2⟩
    intro t e1 e2
    obtain ⟨⟨k1, k3⟩, k2⟩ := kk t e1 e2
    obtain ⟨o1, o2, o3, o4, o5, o6, o7, o8, o9, o10, o11, o12, o13, o14, o15, o16⟩ := o
    obtain ⟨⟨v1, v2, v3, v4, v5⟩, v6⟩ := mv
    refine ⟨⟨Nat.le_trans m1 k1, Nat.le_trans m3 k3⟩, fun H locs cells slots ls a1 a2 a3 a4 a5 => ?_⟩
    have f1 : cells + ((dh x).2.1 - h.2.1) ≤ R.cells := by omega
    have f2 : slots + ((dh x).2.2 - h.2.2) ≤ R.slots := by omega
    intro T hT X
    obtain ⟨v, st₀, t1, T', Lc, b0, X', hL, q1, q2, ⟨q3, q4⟩, stp⟩ := va_runI (As := As) (rest := rest) (g := F0 m pc ls st) (b := a) (n := n) ⟨o1, o2, o3, o5, o6⟩ (m2 l w o14) (cwI n o6 (lw_meth v1) rfl rfl rfl (o6 _ v2) (o6 _ v3) (o6 _ v4) v5 v6 ⟨by rw [o9]; exact hfr.1, by rw [o10]; exact hfr.2⟩) ⟨hf_blind, fun U hU hW => ⟨rfl, by rw [hU]; exact a1, hf_K.moved hW o13⟩⟩ rfl hn (a5.1.trans o4) hs (lv_room hrest) hd ⟨f1, f2⟩ T hT X
    cases q3
    obtain ⟨tt, b1, b2⟩ := k2 T'.heap (locs ++ Lc) _ _ ls (by rw [q1]; exact q4) (fun z hz => by
      rcases List.mem_append.mp hz with g | g
      · exact a2 z g
      · exact hL z g) (by show h0.2.1 + (cells + ((dh x).2.1 - h.2.1)) = _; omega) (by show h0.2.2 + (slots + ((dh x).2.2 - h.2.2)) = _; omega) a5 T' rfl X'
    exact ⟨tt, stp tt b1, b2⟩
/-! the model's calls: an int, a long, nothing comes back; static methods without a heap -/
theorem mr_callI {om : Nat} {b : hf_H} {V : hf_V} {G : Option (Int32 × hf_V)} {K : Int32 → hf_V → Option τ} (o : hf_In C code own nL rt fr lc) (mv : hf_MV own idx RX4 y bytes Lm ret n) (hd : decode code pc = .ok (.invokevirtual idx, 3)) (As : List Value) (hM : ∀ (r : Int32) (V' : hf_V), G = some (r, V') → hf_Con y bytes Lm ret fr' lc' (.ref om :: As) (hf_M om b V) (.returned (some (.int r)), hf_M om b V')) (hs : st = As.reverse ++ .ref om :: rest) (hn : As.length = n) (hrest : (rest.map fun v => v.category).sum ≤ 8) (hfr : fr' + 1 ≤ fr ∧ 8 + (Lm + 11) + lc' ≤ lc)
    (kk : ∀ (r : Int32) (V' : hf_V), hf_J C dec (K r V') (hf_M om b V') (pc + 3) L (.int r :: rest)) : hf_J C dec (hf_b2 G K) (hf_M om b V) pc L st :=
  hr_callV0 (q := (RX4, TX4, 37)) o mv hd (hf_M_at om b V) rfl As (fun x => some (.int x.1)) (fun x => hf_M om b x.2) (fun x e => hM x.1 x.2 e) hs hn hrest hfr (fun x _ => kk x.1 x.2)
theorem mr_callL {om : Nat} {b : hf_H} {V : hf_V} {G : Option (Int64 × hf_V)} {K : Int64 → hf_V → Option τ} (o : hf_In C code own nL rt fr lc) (mv : hf_MV own idx RX4 y bytes Lm ret n) (hd : decode code pc = .ok (.invokevirtual idx, 3)) (As : List Value) (hM : ∀ (r : Int64) (V' : hf_V), G = some (r, V') → hf_Con y bytes Lm ret fr' lc' (.ref om :: As) (hf_M om b V) (.returned (some (.long r)), hf_M om b V')) (hs : st = As.reverse ++ .ref om :: rest) (hn : As.length = n) (hrest : (rest.map fun v => v.category).sum ≤ 8) (hfr : fr' + 1 ≤ fr ∧ 8 + (Lm + 11) + lc' ≤ lc)
    (kk : ∀ (r : Int64) (V' : hf_V), hf_J C dec (K r V') (hf_M om b V') (pc + 3) L (.long r :: rest)) : hf_J C dec (hf_b2 G K) (hf_M om b V) pc L st :=
  hr_callV0 (q := (RX4, TX4, 37)) o mv hd (hf_M_at om b V) rfl As (fun x => some (.long x.1)) (fun x => hf_M om b x.2) (fun x e => hM x.1 x.2 e) hs hn hrest hfr (fun x _ => kk x.1 x.2)
theorem mr_callV {om : Nat} {b : hf_H} {V : hf_V} {G : Option hf_V} {K : hf_V → Option τ} (o : hf_In C code own nL rt fr lc) (mv : hf_MV own idx RX4 y bytes Lm ret n) (hd : decode code pc = .ok (.invokevirtual idx, 3)) (As : List Value) (hM : ∀ V' : hf_V, G = some V' → hf_Con y bytes Lm ret fr' lc' (.ref om :: As) (hf_M om b V) (.returned none, hf_M om b V')) (hs : st = As.reverse ++ .ref om :: rest) (hn : As.length = n) (hrest : (rest.map fun v => v.category).sum ≤ 8) (hfr : fr' + 1 ≤ fr ∧ 8 + (Lm + 11) + lc' ≤ lc)
    (kk : ∀ V' : hf_V, hf_J C dec (K V') (hf_M om b V') (pc + 3) L rest) : hf_J C dec (G.bind K) (hf_M om b V) pc L st :=
  hr_callV0 (q := (RX4, TX4, 37)) o mv hd (hf_M_at om b V) rfl As (fun _ => none) (fun x => hf_M om b x) (fun x e => hM x e) hs hn hrest hfr (fun x _ => kk x)
theorem pr_callI {G : Option Int32} {K : Int32 → Option τ} (o : hf_In C code own nL rt fr lc) (mv : hf_MS own idx y bytes Lm ret n) (hd : decode code pc = .ok (.invokestatic idx, 3)) (As : List Value) (hM : ∀ r : Int32, G = some r → hf_Con y bytes Lm ret fr' lc' As h (.returned (some (.int r)), h)) (hs : st = As.reverse ++ rest) (hn : As.length = n) (hrest : (rest.map fun v => v.category).sum ≤ 8) (hfr : fr' + 1 ≤ fr ∧ 8 + (Lm + 11) + lc' ≤ lc)
    (kk : ∀ r : Int32, hf_J C dec (K r) h (pc + 3) L (.int r :: rest)) : hf_J C dec (G.bind K) h pc L st :=
  hr_callS0 o mv hd As (fun x => some (.int x)) (fun _ => h) (fun x e => hM x e) hs hn hrest hfr (fun x _ => kk x)
theorem pr_callL {G : Option Int64} {K : Int64 → Option τ} (o : hf_In C code own nL rt fr lc) (mv : hf_MS own idx y bytes Lm ret n) (hd : decode code pc = .ok (.invokestatic idx, 3)) (As : List Value) (hM : ∀ r : Int64, G = some r → hf_Con y bytes Lm ret fr' lc' As h (.returned (some (.long r)), h)) (hs : st = As.reverse ++ rest) (hn : As.length = n) (hrest : (rest.map fun v => v.category).sum ≤ 8) (hfr : fr' + 1 ≤ fr ∧ 8 + (Lm + 11) + lc' ≤ lc)
    (kk : ∀ r : Int64, hf_J C dec (K r) h (pc + 3) L (.long r :: rest)) : hf_J C dec (G.bind K) h pc L st :=
  hr_callS0 o mv hd As (fun x => some (.long x)) (fun _ => h) (fun x e => hM x e) hs hn hrest hfr (fun x _ => kk x)
theorem hr_objInit (o : hf_In C code own nL rt fr lc) (h1 : Cond.methodLink own idx Lib.objectInit ∈ lw_all) (hd : decode code pc = .ok (.invokespecial idx, 3)) (h2 : Cond.instanceMethod Lib.objectInit ∈ lw_all) (h3 : Cond.code Lib.objectInit ⟨#[0xb1]⟩ 1 none ∈ lw_all) (hfr : 1 ≤ fr) (hlc : (rest.map fun v => v.category).sum + 12 ≤ lc) (k : hf_J C dec P h (pc + 3) L rest) : hf_J C dec P h pc L (.ref a :: rest) := by
  obtain _ | ⟨p, l, e, R, s, m, args, below, meth, c, w, h0, fin, nL0, Q⟩ := C
  · exact k
  intro t e1 e2
  obtain ⟨k1, k2⟩ := k t e1 e2
  obtain ⟨o1, o2, o3, o4, o5, o6, o7, o8, o9, o10, o11, o12, o13, o14, o15, o16⟩ := o
  refine ⟨k1, fun H locs cells slots ls a1 a2 a3 a4 a5 => ?_⟩
  refine W.objInit o1 o2 o5 (o6 _ h1) (o6 _ h2) (o6 _ h3) rfl (by rw [o3]; exact a5.1.trans o4) rfl hd (by rw [o9]; exact hfr) ?_ ?_
  · rw [o10]
    show 2 * 0 + (rest.map fun v => v.category).sum + 12 ≤ lc
    omega
  · exact k2 H locs cells slots ls a1 a2 a3 a4 a5
end HCall
/-- enough for any loop of these programs -/
def hf_N : Nat := 4294967296
