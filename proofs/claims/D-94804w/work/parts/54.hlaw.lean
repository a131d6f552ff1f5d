set_option maxRecDepth 100000
set_option maxHeartbeats 1000000
/-! the law's own frame -/
def RL : String := "HalfFairLaw"
/-- the model's call: its object taken out, changed, put back -/
def hf_cm {α τ : Type} (h : hf_H) (a : Nat) (G : hf_V → Option (α × hf_V)) (K : α → hf_H → Option τ) : Option τ := (hf_ob 1 4 h a).bind fun V => hf_b2 (G V) fun x V' => K x (hf_up h a (.inl (1, 4, V')))
def hf_dL (N : Nat × Nat) : hf_H → Outcome × hf_H := fun t => (.threw 0, (t.1, N))
/-- the law's end -/
def hf_Lw (C : hf_X) : Prop := match C with
  | none => True
  | some (p, l, e, R, s, m, args, below, meth, c, w, _, _, _, Q) => s.heap.size ≤ w.2.2.1 ∧ ∀ (H : Heap) (ls : Array Slot), W p l e R s m args below meth c H [] R.cells R.slots Q (F0 m 1144 ls [.int 1])
def hf_MVW (own : String) (idx : Nat) (C : String) (y : MethodName) (b : ByteArray) (Lm : Nat) (r : Option FieldType) (hh : List (Nat × Nat × Nat × Nat)) (n : Nat) : Prop := GoodIn lw_all (wsV own idx C y (wsW_ y b Lm r hh)) ∧ (y.cls = C ∧ y.cls ≠ "java/lang/invoke/MethodHandle" ∧ y.cls ≠ "java/lang/invoke/VarHandle" ∧ (parseMethodDescriptor y.desc).map (fun d => d.parameters.length) = some n)
theorem hf_M_self {h : hf_H} {a : Nat} {V : hf_V} (hx : h.1 a = some (.inl (1, 4, V))) : hf_M a h V = h := by
  unfold hf_M
  refine Prod.ext (funext fun q => ?_) rfl
  by_cases e : q = a
  · rw [e, hx]
    exact if_pos rfl
  · exact if_neg e
section HL
variable {τ : Type} {C : hf_X} {dec : τ → Outcome × hf_H} {P : Option τ} {h : hf_H} {pc : Nat} {L : List (Nat × Value)} {st : List Value} {code : ByteArray} {own : String} {nL : Nat} {rt : Option FieldType} {fr lc : Nat} {idx a : Nat}
variable {y : MethodName} {bytes : ByteArray} {Lm : Nat} {ret : Option FieldType} {n fr' lc' : Nat} {rest : List Value} {gs : hf_gs}
theorem hL_ret {N : Nat × Nat} (o : hf_In C code own nL rt fr lc) (oL : hf_Lw C) : hf_J C (hf_dL N) (if h.2.1 ≤ N.1 ∧ h.2.2 ≤ N.2 then some h else none) h 1144 L [.int 1] := by
  by_cases hc : h.2.1 ≤ N.1 ∧ h.2.2 ≤ N.2
  · rw [if_pos hc]
    obtain _ | ⟨p, l, e, R, s, m, args, below, meth, c, w, h0, fin, nL0, Q⟩ := C
    · intro t e1
      cases e1
      exact hc
    intro t e1 e2
    cases e1
    have e2 : (Outcome.threw 0, (h.1, N)) = fin := e2
    subst e2
    obtain ⟨o1, o2, o3, o4, o5, o6, o7, o8, o9, o10, o11, o12, o13, o14, o15, o16⟩ := o
    have o11 : h0.2.1 + R.cells = N.1 := o11
    have o12 : h0.2.2 + R.slots = N.2 := o12
    refine ⟨hc, fun H locs cells slots ls a1 a2 a3 a4 a5 => ?_⟩
    intro T hT X
    have X2 := Stand.forget (locs := []) X (fun y hy => Nat.le_trans oL.1 (a2 y hy))
    exact oL.2 H ls T hT (stand_widen X2 (by omega) (by omega))
  · rw [if_neg hc]; exact hr_none
theorem hL_callM {α : Type} {G : hf_V → Option (α × hf_V)} {K : α → hf_H → Option τ} {dv : α → Value} (o : hf_In C code own nL rt fr lc) (mv : hf_MV own idx RX4 y bytes Lm ret n) (hd : decode code pc = .ok (.invokevirtual idx, 3)) (As : List Value) (hM : ∀ (V : hf_V) (r : α) (V' : hf_V), G V = some (r, V') → hf_Con y bytes Lm ret fr' lc' (.ref a :: As) (hf_M a h V) (.returned (some (dv r)), hf_M a h V')) (hs : st = As.reverse ++ .ref a :: rest) (hn : As.length = n) (hrest : (rest.map fun v => v.category).sum ≤ 8) (hfr : fr' + 1 ≤ fr ∧ 8 + (Lm + 11) + lc' ≤ lc)
    (kk : ∀ (r : α) (g : hf_H), hf_J C dec (K r g) g (pc + 3) L (dv r :: rest)) : hf_J C dec (hf_cm h a G K) h pc L st := by
  unfold hf_cm
  cases e : hf_ob 1 4 h a with
  | none => exact hr_none
  | some V =>
    have hx := hf_ob_spec e
    have hself := hf_M_self hx
    show hf_J C dec (hf_b2 (G V) fun x V' => K x (hf_up h a (.inl (1, 4, V')))) h pc L st
    have h1 : ∀ x : α × hf_V, G V = some x → hf_Con y bytes Lm ret fr' lc' (.ref a :: As) h (.returned (some (dv x.1)), hf_up h a (.inl (1, 4, x.2))) := by
      intro x hx2
      have h2 := hM V x.1 x.2 hx2
      rw [hself] at h2
      have h3 : hf_M a h x.2 = hf_up h a (.inl (1, 4, x.2)) := rfl
      rw [h3] at h2
      exact h2
    exact hr_callV0 (q := (RX4, TX4, 37)) (G := G V) o mv hd hx rfl As (fun x => some (dv x.1)) (fun x => hf_up h a (.inl (1, 4, x.2))) h1 hs hn hrest hfr (fun x _ => kk x.1 _)
/-- the call of a method with a table of its own -/
theorem hL_callW {hh : List (Nat × Nat × Nat × Nat)} {G : Option (Int32 × hf_H)} {K : Int32 → hf_H → Option τ} (o : hf_In C code own nL rt fr lc) (og : hf_G C gs) {q : vw_C} (mv : hf_MVW own idx q.1 y bytes Lm ret hh n) (hd : decode code pc = .ok (.invokevirtual idx, 3)) (md ci : Nat) (hc : hf_cl[ci]? = some q) (As : List Value) (hM : ∀ (r : Int32) (g : hf_H), G = some (r, g) → hf_ConW gs y bytes Lm ret hh fr' lc' (.ref a :: As) h (.returned (some (.int r)), g)) (hs : st = As.reverse ++ .ref a :: rest) (hn : As.length = n) (hrest : (rest.map fun v => v.category).sum ≤ 8) (hfr : fr' + 1 ≤ fr ∧ 8 + (Lm + 11) + lc' ≤ lc)
    (kk : ∀ (r : Int32) (g : hf_H), hf_J C dec (K r g) g (pc + 3) L (.int r :: rest)) : hf_J C dec ((hf_ob md ci h a).bind fun _ => hf_b2 G K) h pc L st := by
  cases e0 : hf_ob md ci h a with
  | none => exact hr_none
  | some v0 =>
  have hx := hf_ob_spec e0
  show hf_J C dec (hf_b2 G K) h pc L st
  cases eG : G with
  | none => exact hr_none
  | some x =>
    obtain ⟨r, g⟩ := x
    have hMx := hM r g eG
    have kk := kk r g
    show hf_J C dec (K r g) h pc L st
    obtain ⟨⟨m1, m3⟩, m2⟩ := hMx
    dsimp only at m1 m3
    obtain _ | ⟨p, l, e, R, s, m, args, below, meth, c, w, h0, fin, nL0, Q⟩ := C
    · intro t e1
      have k1 := kk t e1
      exact ⟨Nat.le_trans m1 k1.1, Nat.le_trans m3 k1.2⟩
    intro t e1 e2
    obtain ⟨⟨k1, k3⟩, k2⟩ := kk t e1 e2
    obtain ⟨o1, o2, o3, o4, o5, o6, o7, o8, o9, o10, o11, o12, o13, o14, o15, o16⟩ := o
    refine ⟨⟨Nat.le_trans m1 k1, Nat.le_trans m3 k3⟩, fun H locs cells slots ls a1 a2 a3 a4 a5 => ?_⟩
    have f1 : cells + (g.2.1 - h.2.1) ≤ R.cells := by omega
    have f2 : slots + (g.2.2 - h.2.2) ≤ R.slots := by omega
    intro T hT X
    obtain ⟨v, st₀, t1, T', Lc, b0, X', hL, q1, q2, ⟨q3, q4⟩, stp⟩ := vx_runVW (As := As) (rest := rest) (g := F0 m pc ls st) (C := q.1) (b := a) (n := n) ⟨o1, o2, o3, o5, o6⟩ (m2 l w o14 og) (vx_cwVW n o6 mv.1 rfl rfl rfl mv.2 ⟨by rw [o9]; exact hfr.1, by rw [o10]; exact hfr.2⟩) ⟨hf_blind, hf_recv o13 a1 hx hc, fun U hU hW => ⟨rfl, by rw [hU]; exact a1, hf_K.moved hW o13⟩⟩ rfl hn (a5.1.trans o4) hs (lv_room hrest) hd ⟨f1, f2⟩ T hT X
    cases q3
    obtain ⟨tt, b1, b2⟩ := k2 T'.heap (locs ++ Lc) _ _ ls (by rw [q1]; exact q4) (fun z hz => by
      rcases List.mem_append.mp hz with g | g
      · exact a2 z g
      · exact hL z g) (by show h0.2.1 + (cells + (g.2.1 - h.2.1)) = _; omega) (by show h0.2.2 + (slots + (g.2.2 - h.2.2)) = _; omega) a5 T' rfl X'
    exact ⟨tt, stp tt b1, b2⟩
end HL
