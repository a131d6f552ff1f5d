set_option maxRecDepth 100000
/-! calls of a constant String's methods -/
section HSC
variable {τ : Type} {C : hf_X} {dec : τ → Outcome × hf_H} {P : Option τ} {h : hf_H} {pc : Nat} {L : List (Nat × Value)} {st : List Value} {code : ByteArray} {own : String} {nL : Nat} {rt : Option FieldType} {fr lc : Nat} {idx a : Nat}
variable {y : MethodName} {bytes : ByteArray} {Lm : Nat} {ret : Option FieldType} {n fr' lc' : Nat} {rest : List Value} {gs : hf_gs}
theorem hx_S_callVI {G : Option (Int32 × hf_H)} {K : Int32 → hf_H → Option τ} (o : hf_In C code own nL rt fr lc) (og : hf_G C gs) (mv : hf_MV own idx "java/lang/String" y bytes Lm ret n) (hd : decode code pc = .ok (.invokevirtual idx, 3)) (As : List Value) (hM : ∀ (r : Int32) (g : hf_H), G = some (r, g) → hf_ConG gs y bytes Lm ret fr' lc' (.ref a :: As) h (.returned (some (.int r)), g)) (hs : st = As.reverse ++ .ref a :: rest) (hn : As.length = n) (hrest : (rest.map fun v => v.category).sum ≤ 8) (hfr : fr' + 1 ≤ fr ∧ 8 + (Lm + 11) + lc' ≤ lc)
    (kk : ∀ (r : Int32) (g : hf_H), hf_J C dec (K r g) g (pc + 3) L (.int r :: rest)) : hf_J C dec ((hf_st h a).bind fun _ => hf_b2 G K) h pc L st := by
  cases e0 : hf_st h a with
  | none => exact hr_none
  | some v0 =>
  obtain ⟨x9, hx⟩ := hf_st_spec e0
  show hf_J C dec (hf_b2 G K) h pc L st
  cases eG : G with
  | none => exact hr_none
  | some x =>
    obtain ⟨r, g⟩ := x
    have hMx := hM r g eG
    have kk := kk r g
    show hf_J C dec (K r g) h pc L st
    obtain ⟨⟨m1, m3⟩, m2⟩ := hMx
    dsimp only at m1 m3
    obtain _ | ⟨p, l, e, R, s, m, args, below, meth, c, w, h0, fin, nL0, Q⟩ := C
    · intro t e1
      have k1 := kk t e1
      exact ⟨Nat.le_trans m1 k1.1, Nat.le_trans m3 k1.2⟩
    intro t e1 e2
    obtain ⟨⟨k1, k3⟩, k2⟩ := kk t e1 e2
    obtain ⟨o1, o2, o3, o4, o5, o6, o7, o8, o9, o10, o11, o12, o13, o14, o15, o16⟩ := o
    refine ⟨⟨Nat.le_trans m1 k1, Nat.le_trans m3 k3⟩, fun H locs cells slots ls a1 a2 a3 a4 a5 => ?_⟩
    have f1 : cells + (g.2.1 - h.2.1) ≤ R.cells := by omega
    have f2 : slots + (g.2.2 - h.2.2) ≤ R.slots := by omega
    have hrec : ∃ cell : Cell, H[a]? = some cell ∧ cell.vm.isStatics = false ∧ s.vm.findClass "java/lang/String" = some cell.cls := by
      obtain ⟨cell, g1, g2, g9, -⟩ := (a1.2.2.2.1 a _ hx).1
      obtain ⟨g3, g4, -⟩ := g9 v0 rfl
      exact ⟨cell, g1, g3, by rw [g4]; exact o13.2.2.2.1.1⟩
    intro T hT X
    obtain ⟨v, st₀, t1, T', Lc, b0, X', hL, q1, q2, ⟨q3, q4⟩, stp⟩ := va_runV (As := As) (rest := rest) (g := F0 m pc ls st) (C := "java/lang/String") (b := a) (n := n) ⟨o1, o2, o3, o5, o6⟩ (m2 l w o14 og) (cwV n o6 mv.1 rfl rfl rfl mv.2 ⟨by rw [o9]; exact hfr.1, by rw [o10]; exact hfr.2⟩) ⟨hf_blind, hrec, fun U hU hW => ⟨rfl, by rw [hU]; exact a1, hf_K.moved hW o13⟩⟩ rfl hn (a5.1.trans o4) hs (lv_room hrest) hd ⟨f1, f2⟩ T hT X
    cases q3
    obtain ⟨tt, b1, b2⟩ := k2 T'.heap (locs ++ Lc) _ _ ls (by rw [q1]; exact q4) (fun z hz => by
      rcases List.mem_append.mp hz with g | g
      · exact a2 z g
      · exact hL z g) (by show h0.2.1 + (cells + (g.2.1 - h.2.1)) = _; omega) (by show h0.2.2 + (slots + (g.2.2 - h.2.2)) = _; omega) a5 T' rfl X'
    exact ⟨tt, stp tt b1, b2⟩
theorem hx_callSV {G : Option hf_H} {K : hf_H → Option τ} (o : hf_In C code own nL rt fr lc) (og : hf_G C gs) (mv : hf_MS own idx y bytes Lm ret n) (hd : decode code pc = .ok (.invokestatic idx, 3)) (As : List Value) (hM : ∀ g : hf_H, G = some g → hf_ConG gs y bytes Lm ret fr' lc' As h (.returned none, g)) (hs : st = As.reverse ++ rest) (hn : As.length = n) (hrest : (rest.map fun v => v.category).sum ≤ 8) (hfr : fr' + 1 ≤ fr ∧ 8 + (Lm + 11) + lc' ≤ lc)
    (kk : ∀ g : hf_H, hf_J C dec (K g) g (pc + 3) L rest) : hf_J C dec (G.bind K) h pc L st :=
  hx_callS0 o og mv hd As (fun _ => none) (fun x => x) (fun x e => hM x e) hs hn hrest hfr (fun x _ => kk x)
end HSC
