set_option maxRecDepth 100000
/-- one frame of the run: the machine, the frame, the run's facts, the heap at the method's entry, its end (outcome and heap), places for locals, what is owed -/
abbrev hf_X : Type := Option (Program × Launch × Env × Room × State × MethodId × Array Value × List Frame × Method × Code × hf_W × hf_H × (Outcome × hf_H) × Nat × (State → Prop))
/-- what the end says -/
def hf_Q (w : hf_W) (fin : Outcome × hf_H) : Array Value → State → Outcome → State → Prop := fun _ _ o t => o = fin.1 ∧ hf_Rel w fin.2 t.heap
def hf_In (C : hf_X) (code : ByteArray) (own : String) (nL : Nat) (rt : Option FieldType) (fr lc : Nat) : Prop := match C with
  | none => True
  | some (p, l, _, R, s, m, args, below, meth, c, w, h0, fin, nL0, Q) =>
    p.tables.exec = Jvm.exec ∧ c.code = code ∧ c.maxLocals = nL ∧ nL0 = nL ∧ s.vm.findClass own = some m.cls ∧ (∀ x ∈ lw_all, x.before args s = true) ∧ meth.sig.returnType = rt ∧ meth.locks = false ∧ R.frames = fr ∧ R.locals = lc ∧ h0.2.1 + R.cells = fin.2.2.1 ∧ h0.2.2 + R.slots = fin.2.2.2 ∧ hf_K w s ∧ l.stackTraces = false ∧
    (∀ (mc ms : Nat) (t : State), h0.2.1 + mc = fin.2.2.1 → h0.2.2 + ms = fin.2.2.2 → MQ below (hf_Q w fin) args s mc ms (fun q => w.2.2.1 ≤ q) t → Q t) ∧ hf_Rel w h0 s.heap
/-- the program P (it comes to t: dec t is the end) simulates the machine from here -/
def hf_J {τ : Type} (C : hf_X) (dec : τ → Outcome × hf_H) (P : Option τ) (h : hf_H) (pc : Nat) (L : List (Nat × Value)) (st : List Value) : Prop := match C with
  | none => ∀ t : τ, P = some t → h.2.1 ≤ (dec t).2.2.1 ∧ h.2.2 ≤ (dec t).2.2.2
  | some (p, l, e, R, s, m, args, below, meth, c, w, h0, fin, nL, Q) =>
    ∀ t : τ, P = some t → dec t = fin → (h.2.1 ≤ fin.2.2.1 ∧ h.2.2 ≤ fin.2.2.2) ∧ ∀ (H : Heap) (locs : List Loc) (cells slots : Nat) (ls : Array Slot), hf_Rel w h H → (∀ q ∈ locs, w.2.2.1 ≤ q.base) → h0.2.1 + cells = h.2.1 → h0.2.2 + slots = h.2.2 → lv_has ls nL L → W p l e R s m args below meth c H locs cells slots Q (F0 m pc ls st)
section HR
variable {τ : Type} {C : hf_X} {dec : τ → Outcome × hf_H} {P : Option τ} {h : hf_H} {pc : Nat} {L : List (Nat × Value)} {st : List Value} {code : ByteArray} {own : String} {nL : Nat} {rt : Option FieldType} {fr lc : Nat}
theorem hr_iconst (o : hf_In C code own nL rt fr lc) {n : Int} (v : Int32) (hd : decode code pc = .ok (.iconst n, 1)) (hv : Int32.ofInt n = v) (k : hf_J C dec P h (pc + 1) L (.int v :: st)) : hf_J C dec P h pc L st := by
  obtain _ | ⟨p, l, e, R, s, m, args, below, meth, c, w, h0, fin, nL0, Q⟩ := C
  · exact k
  intro t e1 e2
  obtain ⟨k1, k2⟩ := k t e1 e2
  exact ⟨k1, fun H locs cells slots ls a1 a2 a3 a4 a5 => lv_iconst o.1 o.2.1 hd hv (k2 H locs cells slots ls a1 a2 a3 a4 a5)⟩
theorem hr_bipush (o : hf_In C code own nL rt fr lc) {n : Int} (v : Int32) (hd : decode code pc = .ok (.bipush n, 2)) (hv : (Int8.ofInt n).toInt32 = v) (k : hf_J C dec P h (pc + 2) L (.int v :: st)) : hf_J C dec P h pc L st := by
  obtain _ | ⟨p, l, e, R, s, m, args, below, meth, c, w, h0, fin, nL0, Q⟩ := C
  · exact k
  intro t e1 e2
  obtain ⟨k1, k2⟩ := k t e1 e2
  exact ⟨k1, fun H locs cells slots ls a1 a2 a3 a4 a5 => lv_bipush o.1 o.2.1 hd hv (k2 H locs cells slots ls a1 a2 a3 a4 a5)⟩
theorem hr_sipush (o : hf_In C code own nL rt fr lc) {n : Int} (v : Int32) (hd : decode code pc = .ok (.sipush n, 3)) (hv : (Int16.ofInt n).toInt32 = v) (k : hf_J C dec P h (pc + 3) L (.int v :: st)) : hf_J C dec P h pc L st := by
  obtain _ | ⟨p, l, e, R, s, m, args, below, meth, c, w, h0, fin, nL0, Q⟩ := C
  · exact k
  intro t e1 e2
  obtain ⟨k1, k2⟩ := k t e1 e2
  exact ⟨k1, fun H locs cells slots ls a1 a2 a3 a4 a5 => lv_sipush o.1 o.2.1 hd hv (k2 H locs cells slots ls a1 a2 a3 a4 a5)⟩
theorem hr_lconst (o : hf_In C code own nL rt fr lc) {n : Fin 2} (v : Int64) (hd : decode code pc = .ok (.lconst n, 1)) (hv : Int64.ofNat (n : Nat) = v) (k : hf_J C dec P h (pc + 1) L (.long v :: st)) : hf_J C dec P h pc L st := by
  obtain _ | ⟨p, l, e, R, s, m, args, below, meth, c, w, h0, fin, nL0, Q⟩ := C
  · exact k
  intro t e1 e2
  obtain ⟨k1, k2⟩ := k t e1 e2
  exact ⟨k1, fun H locs cells slots ls a1 a2 a3 a4 a5 => lv_lconst o.1 o.2.1 hd hv (k2 H locs cells slots ls a1 a2 a3 a4 a5)⟩
theorem hr_ldc (o : hf_In C code own nL rt fr lc) {n : Nat} (v : Int32) (hq : Cond.constant own n v ∈ lw_all) (hd : decode code pc = .ok (.ldc n, 2)) (k : hf_J C dec P h (pc + 2) L (.int v :: st)) : hf_J C dec P h pc L st := by
  obtain _ | ⟨p, l, e, R, s, m, args, below, meth, c, w, h0, fin, nL0, Q⟩ := C
  · exact k
  intro t e1 e2
  obtain ⟨k1, k2⟩ := k t e1 e2
  exact ⟨k1, fun H locs cells slots ls a1 a2 a3 a4 a5 => lv_ldc o.1 o.2.1 o.2.2.2.2.1 (o.2.2.2.2.2.1 _ hq) hd (k2 H locs cells slots ls a1 a2 a3 a4 a5)⟩
theorem hr_ldcw (o : hf_In C code own nL rt fr lc) {n : Nat} (v : Int32) (hq : Cond.constant own n v ∈ lw_all) (hd : decode code pc = .ok (.ldc_w n, 3)) (k : hf_J C dec P h (pc + 3) L (.int v :: st)) : hf_J C dec P h pc L st := by
  obtain _ | ⟨p, l, e, R, s, m, args, below, meth, c, w, h0, fin, nL0, Q⟩ := C
  · exact k
  intro t e1 e2
  obtain ⟨k1, k2⟩ := k t e1 e2
  exact ⟨k1, fun H locs cells slots ls a1 a2 a3 a4 a5 => lv_ldcw o.1 o.2.1 o.2.2.2.2.1 (o.2.2.2.2.2.1 _ hq) hd (k2 H locs cells slots ls a1 a2 a3 a4 a5)⟩
theorem hr_ldc2 (o : hf_In C code own nL rt fr lc) {n : Nat} (v : Int64) (hq : Cond.constantLong own n v ∈ lw_all) (hd : decode code pc = .ok (.ldc2_w n, 3)) (k : hf_J C dec P h (pc + 3) L (.long v :: st)) : hf_J C dec P h pc L st := by
  obtain _ | ⟨p, l, e, R, s, m, args, below, meth, c, w, h0, fin, nL0, Q⟩ := C
  · exact k
  intro t e1 e2
  obtain ⟨k1, k2⟩ := k t e1 e2
  exact ⟨k1, fun H locs cells slots ls a1 a2 a3 a4 a5 => lv_ldc2 o.1 o.2.1 o.2.2.2.2.1 (o.2.2.2.2.2.1 _ hq) hd (k2 H locs cells slots ls a1 a2 a3 a4 a5)⟩
theorem hr_iload_n (o : hf_In C code own nL rt fr lc) {i : Fin 4} {x : Int32} (n : Nat) (hd : decode code pc = .ok (.iload_n i, 1)) (hl : L[n]? = some ((i : Nat), .int x)) (k : hf_J C dec P h (pc + 1) L (.int x :: st)) : hf_J C dec P h pc L st := by
  obtain _ | ⟨p, l, e, R, s, m, args, below, meth, c, w, h0, fin, nL0, Q⟩ := C
  · exact k
  intro t e1 e2
  obtain ⟨k1, k2⟩ := k t e1 e2
  exact ⟨k1, fun H locs cells slots ls a1 a2 a3 a4 a5 => lv_iload_n o.1 o.2.1 hd rfl (lv_at a5 n hl) (k2 H locs cells slots ls a1 a2 a3 a4 a5)⟩
theorem hr_iload (o : hf_In C code own nL rt fr lc) {i : Nat} {x : Int32} (n : Nat) (hd : decode code pc = .ok (.iload i, 2)) (hl : L[n]? = some (i, .int x)) (k : hf_J C dec P h (pc + 2) L (.int x :: st)) : hf_J C dec P h pc L st := by
  obtain _ | ⟨p, l, e, R, s, m, args, below, meth, c, w, h0, fin, nL0, Q⟩ := C
  · exact k
  intro t e1 e2
  obtain ⟨k1, k2⟩ := k t e1 e2
  exact ⟨k1, fun H locs cells slots ls a1 a2 a3 a4 a5 => lv_iload o.1 o.2.1 hd (lv_at a5 n hl) (k2 H locs cells slots ls a1 a2 a3 a4 a5)⟩
theorem hr_lload_n (o : hf_In C code own nL rt fr lc) {i : Fin 4} {x : Int64} (n : Nat) (hd : decode code pc = .ok (.lload_n i, 1)) (hl : L[n]? = some ((i : Nat), .long x)) (k : hf_J C dec P h (pc + 1) L (.long x :: st)) : hf_J C dec P h pc L st := by
  obtain _ | ⟨p, l, e, R, s, m, args, below, meth, c, w, h0, fin, nL0, Q⟩ := C
  · exact k
  intro t e1 e2
  obtain ⟨k1, k2⟩ := k t e1 e2
  exact ⟨k1, fun H locs cells slots ls a1 a2 a3 a4 a5 => lv_lload_n o.1 o.2.1 hd rfl (lv_at a5 n hl) (k2 H locs cells slots ls a1 a2 a3 a4 a5)⟩
theorem hr_lload (o : hf_In C code own nL rt fr lc) {i : Nat} {x : Int64} (n : Nat) (hd : decode code pc = .ok (.lload i, 2)) (hl : L[n]? = some (i, .long x)) (k : hf_J C dec P h (pc + 2) L (.long x :: st)) : hf_J C dec P h pc L st := by
  obtain _ | ⟨p, l, e, R, s, m, args, below, meth, c, w, h0, fin, nL0, Q⟩ := C
  · exact k
  intro t e1 e2
  obtain ⟨k1, k2⟩ := k t e1 e2
  exact ⟨k1, fun H locs cells slots ls a1 a2 a3 a4 a5 => lv_lload o.1 o.2.1 hd (lv_at a5 n hl) (k2 H locs cells slots ls a1 a2 a3 a4 a5)⟩
theorem hr_aload_n (o : hf_In C code own nL rt fr lc) {i : Fin 4} {x : Nat} (n : Nat) (hd : decode code pc = .ok (.aload_n i, 1)) (hl : L[n]? = some ((i : Nat), .ref x)) (k : hf_J C dec P h (pc + 1) L (.ref x :: st)) : hf_J C dec P h pc L st := by
  obtain _ | ⟨p, l, e, R, s, m, args, below, meth, c, w, h0, fin, nL0, Q⟩ := C
  · exact k
  intro t e1 e2
  obtain ⟨k1, k2⟩ := k t e1 e2
  exact ⟨k1, fun H locs cells slots ls a1 a2 a3 a4 a5 => lv_aload_n o.1 o.2.1 hd rfl (lv_at a5 n hl) (k2 H locs cells slots ls a1 a2 a3 a4 a5)⟩
theorem hr_aload (o : hf_In C code own nL rt fr lc) {i : Nat} {x : Nat} (n : Nat) (hd : decode code pc = .ok (.aload i, 2)) (hl : L[n]? = some (i, .ref x)) (k : hf_J C dec P h (pc + 2) L (.ref x :: st)) : hf_J C dec P h pc L st := by
  obtain _ | ⟨p, l, e, R, s, m, args, below, meth, c, w, h0, fin, nL0, Q⟩ := C
  · exact k
  intro t e1 e2
  obtain ⟨k1, k2⟩ := k t e1 e2
  exact ⟨k1, fun H locs cells slots ls a1 a2 a3 a4 a5 => lv_aload o.1 o.2.1 hd (lv_at a5 n hl) (k2 H locs cells slots ls a1 a2 a3 a4 a5)⟩
def hf_st1 (i : Nat) (v : Value) (L : List (Nat × Value)) : List (Nat × Value) := (i, v) :: L.filter (fun q => !(q.1 == i) && !(q.1 + 1 == i && q.2.category == 2))
def hf_st2 (i : Nat) (v : Value) (L : List (Nat × Value)) : List (Nat × Value) := (i, v) :: L.filter (fun q => !(q.1 == i) && (!(q.1 == i + 1) && !(q.1 + 1 == i && q.2.category == 2)))
theorem hr_istore_n (o : hf_In C code own nL rt fr lc) {i : Fin 4} {x : Int32} (L1 : List (Nat × Value)) (hd : decode code pc = .ok (.istore_n i, 1)) (hn : (i : Nat) < nL) (hl : hf_st1 i (.int x) L = L1) (k : hf_J C dec P h (pc + 1) L1 st) : hf_J C dec P h pc L (.int x :: st) := by
  obtain _ | ⟨p, l, e, R, s, m, args, below, meth, c, w, h0, fin, nL0, Q⟩ := C
  · exact k
  intro t e1 e2
  obtain ⟨k1, k2⟩ := k t e1 e2
  exact ⟨k1, fun H locs cells slots ls a1 a2 a3 a4 a5 => lv_istore_n o.1 o.2.1 hd rfl a5 (by rw [o.2.2.2.1]; exact hn) hl (fun ls' a5' => k2 H locs cells slots ls' a1 a2 a3 a4 a5')⟩
theorem hr_istore (o : hf_In C code own nL rt fr lc) {i : Nat} {x : Int32} (L1 : List (Nat × Value)) (hd : decode code pc = .ok (.istore i, 2)) (hn : i < nL) (hl : hf_st1 i (.int x) L = L1) (k : hf_J C dec P h (pc + 2) L1 st) : hf_J C dec P h pc L (.int x :: st) := by
  obtain _ | ⟨p, l, e, R, s, m, args, below, meth, c, w, h0, fin, nL0, Q⟩ := C
  · exact k
  intro t e1 e2
  obtain ⟨k1, k2⟩ := k t e1 e2
  exact ⟨k1, fun H locs cells slots ls a1 a2 a3 a4 a5 => lv_istore o.1 o.2.1 hd a5 (by rw [o.2.2.2.1]; exact hn) hl (fun ls' a5' => k2 H locs cells slots ls' a1 a2 a3 a4 a5')⟩
theorem hr_lstore_n (o : hf_In C code own nL rt fr lc) {i : Fin 4} {x : Int64} (L1 : List (Nat × Value)) (hd : decode code pc = .ok (.lstore_n i, 1)) (hn : (i : Nat) + 1 < nL) (hl : hf_st2 i (.long x) L = L1) (k : hf_J C dec P h (pc + 1) L1 st) : hf_J C dec P h pc L (.long x :: st) := by
  obtain _ | ⟨p, l, e, R, s, m, args, below, meth, c, w, h0, fin, nL0, Q⟩ := C
  · exact k
  intro t e1 e2
  obtain ⟨k1, k2⟩ := k t e1 e2
  exact ⟨k1, fun H locs cells slots ls a1 a2 a3 a4 a5 => lv_lstore_n o.1 o.2.1 hd rfl a5 (by rw [o.2.2.2.1]; exact hn) hl (fun ls' a5' => k2 H locs cells slots ls' a1 a2 a3 a4 a5')⟩
theorem hr_lstore (o : hf_In C code own nL rt fr lc) {i : Nat} {x : Int64} (L1 : List (Nat × Value)) (hd : decode code pc = .ok (.lstore i, 2)) (hn : i + 1 < nL) (hl : hf_st2 i (.long x) L = L1) (k : hf_J C dec P h (pc + 2) L1 st) : hf_J C dec P h pc L (.long x :: st) := by
  obtain _ | ⟨p, l, e, R, s, m, args, below, meth, c, w, h0, fin, nL0, Q⟩ := C
  · exact k
  intro t e1 e2
  obtain ⟨k1, k2⟩ := k t e1 e2
  exact ⟨k1, fun H locs cells slots ls a1 a2 a3 a4 a5 => lv_lstore o.1 o.2.1 hd a5 (by rw [o.2.2.2.1]; exact hn) hl (fun ls' a5' => k2 H locs cells slots ls' a1 a2 a3 a4 a5')⟩
theorem hr_astore_n (o : hf_In C code own nL rt fr lc) {i : Fin 4} {x : Nat} (L1 : List (Nat × Value)) (hd : decode code pc = .ok (.astore_n i, 1)) (hn : (i : Nat) < nL) (hl : hf_st1 i (.ref x) L = L1) (k : hf_J C dec P h (pc + 1) L1 st) : hf_J C dec P h pc L (.ref x :: st) := by
  obtain _ | ⟨p, l, e, R, s, m, args, below, meth, c, w, h0, fin, nL0, Q⟩ := C
  · exact k
  intro t e1 e2
  obtain ⟨k1, k2⟩ := k t e1 e2
  exact ⟨k1, fun H locs cells slots ls a1 a2 a3 a4 a5 => lv_astore_n o.1 o.2.1 hd rfl a5 (by rw [o.2.2.2.1]; exact hn) hl (fun ls' a5' => k2 H locs cells slots ls' a1 a2 a3 a4 a5')⟩
theorem hr_astore (o : hf_In C code own nL rt fr lc) {i : Nat} {x : Nat} (L1 : List (Nat × Value)) (hd : decode code pc = .ok (.astore i, 2)) (hn : i < nL) (hl : hf_st1 i (.ref x) L = L1) (k : hf_J C dec P h (pc + 2) L1 st) : hf_J C dec P h pc L (.ref x :: st) := by
  obtain _ | ⟨p, l, e, R, s, m, args, below, meth, c, w, h0, fin, nL0, Q⟩ := C
  · exact k
  intro t e1 e2
  obtain ⟨k1, k2⟩ := k t e1 e2
  exact ⟨k1, fun H locs cells slots ls a1 a2 a3 a4 a5 => lv_astore o.1 o.2.1 hd a5 (by rw [o.2.2.2.1]; exact hn) hl (fun ls' a5' => k2 H locs cells slots ls' a1 a2 a3 a4 a5')⟩
theorem hr_iinc (o : hf_In C code own nL rt fr lc) {i : Nat} {n : Int} {x : Int32} (d v : Int32) (j : Nat) (L1 : List (Nat × Value)) (hd : decode code pc = .ok (.iinc i n, 3)) (hj : L[j]? = some (i, .int x)) (hdd : Int32.ofInt n = d) (hv : x + d = v) (hn : i < nL) (hl : hf_st1 i (.int v) L = L1) (k : hf_J C dec P h (pc + 3) L1 st) : hf_J C dec P h pc L st := by
  obtain _ | ⟨p, l, e, R, s, m, args, below, meth, c, w, h0, fin, nL0, Q⟩ := C
  · exact k
  intro t e1 e2
  obtain ⟨k1, k2⟩ := k t e1 e2
  exact ⟨k1, fun H locs cells slots ls a1 a2 a3 a4 a5 => lv_iinc o.1 o.2.1 hd a5 hj (by rw [hdd]; exact hv) (by rw [o.2.2.2.1]; exact hn) hl (fun ls' a5' => k2 H locs cells slots ls' a1 a2 a3 a4 a5')⟩
/-- fewer locals, in any order -/
theorem hr_sub {L1 : List (Nat × Value)} (ks : List Nat) (hl : lv_pick L ks = L1) (k : hf_J C dec P h pc L1 st) : hf_J C dec P h pc L st := by
  obtain _ | ⟨p, l, e, R, s, m, args, below, meth, c, w, h0, fin, nL0, Q⟩ := C
  · exact k
  intro t e1 e2
  obtain ⟨k1, k2⟩ := k t e1 e2
  exact ⟨k1, fun H locs cells slots ls a1 a2 a3 a4 a5 => k2 H locs cells slots ls a1 a2 a3 a4 (lv_sub a5 ks hl)⟩
theorem hr_goto (o : hf_In C code own nL rt fr lc) {off : Int} (tgt : Nat) (hd : decode code pc = .ok (.goto off, 3)) (ht : (pc : Int) + off = (tgt : Int)) (k : hf_J C dec P h tgt L st) : hf_J C dec P h pc L st := by
  obtain _ | ⟨p, l, e, R, s, m, args, below, meth, c, w, h0, fin, nL0, Q⟩ := C
  · exact k
  intro t e1 e2
  obtain ⟨k1, k2⟩ := k t e1 e2
  exact ⟨k1, fun H locs cells slots ls a1 a2 a3 a4 a5 => lv_goto o.1 o.2.1 hd ht (k2 H locs cells slots ls a1 a2 a3 a4 a5)⟩
theorem hr_pop (o : hf_In C code own nL rt fr lc) {v : Value} (hd : decode code pc = .ok (.pop, 1)) (hv : v.category = 1) (k : hf_J C dec P h (pc + 1) L st) : hf_J C dec P h pc L (v :: st) := by
  obtain _ | ⟨p, l, e, R, s, m, args, below, meth, c, w, h0, fin, nL0, Q⟩ := C
  · exact k
  intro t e1 e2
  obtain ⟨k1, k2⟩ := k t e1 e2
  exact ⟨k1, fun H locs cells slots ls a1 a2 a3 a4 a5 => lv_pop o.1 o.2.1 hd hv (k2 H locs cells slots ls a1 a2 a3 a4 a5)⟩
theorem hr_dup (o : hf_In C code own nL rt fr lc) {v : Value} (hd : decode code pc = .ok (.dup, 1)) (hv : v.category = 1) (k : hf_J C dec P h (pc + 1) L (v :: v :: st)) : hf_J C dec P h pc L (v :: st) := by
  obtain _ | ⟨p, l, e, R, s, m, args, below, meth, c, w, h0, fin, nL0, Q⟩ := C
  · exact k
  intro t e1 e2
  obtain ⟨k1, k2⟩ := k t e1 e2
  exact ⟨k1, fun H locs cells slots ls a1 a2 a3 a4 a5 => lv_dup o.1 o.2.1 hd hv (k2 H locs cells slots ls a1 a2 a3 a4 a5)⟩
theorem hr_dup_x1 (o : hf_In C code own nL rt fr lc) {v u : Value} (hd : decode code pc = .ok (.dup_x1, 1)) (hv : v.category = 1) (hu : u.category = 1) (k : hf_J C dec P h (pc + 1) L (v :: u :: v :: st)) : hf_J C dec P h pc L (v :: u :: st) := by
  obtain _ | ⟨p, l, e, R, s, m, args, below, meth, c, w, h0, fin, nL0, Q⟩ := C
  · exact k
  intro t e1 e2
  obtain ⟨k1, k2⟩ := k t e1 e2
  exact ⟨k1, fun H locs cells slots ls a1 a2 a3 a4 a5 => lv_dup_x1 o.1 o.2.1 hd hv hu (k2 H locs cells slots ls a1 a2 a3 a4 a5)⟩
theorem hr_dup2 (o : hf_In C code own nL rt fr lc) {v u : Value} (hd : decode code pc = .ok (.dup2, 1)) (hv : v.category = 1) (hu : u.category = 1) (k : hf_J C dec P h (pc + 1) L (v :: u :: v :: u :: st)) : hf_J C dec P h pc L (v :: u :: st) := by
  obtain _ | ⟨p, l, e, R, s, m, args, below, meth, c, w, h0, fin, nL0, Q⟩ := C
  · exact k
  intro t e1 e2
  obtain ⟨k1, k2⟩ := k t e1 e2
  exact ⟨k1, fun H locs cells slots ls a1 a2 a3 a4 a5 => lv_dup2_11 o.1 o.2.1 hd hv hu (k2 H locs cells slots ls a1 a2 a3 a4 a5)⟩
theorem hr_dup2L (o : hf_In C code own nL rt fr lc) {v : Value} (hd : decode code pc = .ok (.dup2, 1)) (hv : v.category = 2) (k : hf_J C dec P h (pc + 1) L (v :: v :: st)) : hf_J C dec P h pc L (v :: st) := by
  obtain _ | ⟨p, l, e, R, s, m, args, below, meth, c, w, h0, fin, nL0, Q⟩ := C
  · exact k
  intro t e1 e2
  obtain ⟨k1, k2⟩ := k t e1 e2
  exact ⟨k1, fun H locs cells slots ls a1 a2 a3 a4 a5 => lv_dup2_2 o.1 o.2.1 hd hv (k2 H locs cells slots ls a1 a2 a3 a4 a5)⟩
theorem hr_iadd (o : hf_In C code own nL rt fr lc) {x y : Int32} (hd : decode code pc = .ok (.iadd, 1)) (k : hf_J C dec P h (pc + 1) L (.int (x + y) :: st)) : hf_J C dec P h pc L (.int y :: .int x :: st) := by
  obtain _ | ⟨p, l, e, R, s, m, args, below, meth, c, w, h0, fin, nL0, Q⟩ := C
  · exact k
  intro t e1 e2
  obtain ⟨k1, k2⟩ := k t e1 e2
  exact ⟨k1, fun H locs cells slots ls a1 a2 a3 a4 a5 => lv_iadd o.1 o.2.1 hd (k2 H locs cells slots ls a1 a2 a3 a4 a5)⟩
theorem hr_isub (o : hf_In C code own nL rt fr lc) {x y : Int32} (hd : decode code pc = .ok (.isub, 1)) (k : hf_J C dec P h (pc + 1) L (.int (x - y) :: st)) : hf_J C dec P h pc L (.int y :: .int x :: st) := by
  obtain _ | ⟨p, l, e, R, s, m, args, below, meth, c, w, h0, fin, nL0, Q⟩ := C
  · exact k
  intro t e1 e2
  obtain ⟨k1, k2⟩ := k t e1 e2
  exact ⟨k1, fun H locs cells slots ls a1 a2 a3 a4 a5 => lv_isub o.1 o.2.1 hd (k2 H locs cells slots ls a1 a2 a3 a4 a5)⟩
theorem hr_imul (o : hf_In C code own nL rt fr lc) {x y : Int32} (hd : decode code pc = .ok (.imul, 1)) (k : hf_J C dec P h (pc + 1) L (.int (x * y) :: st)) : hf_J C dec P h pc L (.int y :: .int x :: st) := by
  obtain _ | ⟨p, l, e, R, s, m, args, below, meth, c, w, h0, fin, nL0, Q⟩ := C
  · exact k
  intro t e1 e2
  obtain ⟨k1, k2⟩ := k t e1 e2
  exact ⟨k1, fun H locs cells slots ls a1 a2 a3 a4 a5 => lv_imul o.1 o.2.1 hd (k2 H locs cells slots ls a1 a2 a3 a4 a5)⟩
theorem hr_iand (o : hf_In C code own nL rt fr lc) {x y : Int32} (hd : decode code pc = .ok (.iand, 1)) (k : hf_J C dec P h (pc + 1) L (.int (x &&& y) :: st)) : hf_J C dec P h pc L (.int y :: .int x :: st) := by
  obtain _ | ⟨p, l, e, R, s, m, args, below, meth, c, w, h0, fin, nL0, Q⟩ := C
  · exact k
  intro t e1 e2
  obtain ⟨k1, k2⟩ := k t e1 e2
  exact ⟨k1, fun H locs cells slots ls a1 a2 a3 a4 a5 => lv_iand o.1 o.2.1 hd (k2 H locs cells slots ls a1 a2 a3 a4 a5)⟩
theorem hr_ior (o : hf_In C code own nL rt fr lc) {x y : Int32} (hd : decode code pc = .ok (.ior, 1)) (k : hf_J C dec P h (pc + 1) L (.int (x ||| y) :: st)) : hf_J C dec P h pc L (.int y :: .int x :: st) := by
  obtain _ | ⟨p, l, e, R, s, m, args, below, meth, c, w, h0, fin, nL0, Q⟩ := C
  · exact k
  intro t e1 e2
  obtain ⟨k1, k2⟩ := k t e1 e2
  exact ⟨k1, fun H locs cells slots ls a1 a2 a3 a4 a5 => lv_ior o.1 o.2.1 hd (k2 H locs cells slots ls a1 a2 a3 a4 a5)⟩
theorem hr_ixor (o : hf_In C code own nL rt fr lc) {x y : Int32} (hd : decode code pc = .ok (.ixor, 1)) (k : hf_J C dec P h (pc + 1) L (.int (x ^^^ y) :: st)) : hf_J C dec P h pc L (.int y :: .int x :: st) := by
  obtain _ | ⟨p, l, e, R, s, m, args, below, meth, c, w, h0, fin, nL0, Q⟩ := C
  · exact k
  intro t e1 e2
  obtain ⟨k1, k2⟩ := k t e1 e2
  exact ⟨k1, fun H locs cells slots ls a1 a2 a3 a4 a5 => lv_ixor o.1 o.2.1 hd (k2 H locs cells slots ls a1 a2 a3 a4 a5)⟩
theorem hr_ishl (o : hf_In C code own nL rt fr lc) {x y : Int32} (hd : decode code pc = .ok (.ishl, 1)) (k : hf_J C dec P h (pc + 1) L (.int (x <<< (y &&& 31)) :: st)) : hf_J C dec P h pc L (.int y :: .int x :: st) := by
  obtain _ | ⟨p, l, e, R, s, m, args, below, meth, c, w, h0, fin, nL0, Q⟩ := C
  · exact k
  intro t e1 e2
  obtain ⟨k1, k2⟩ := k t e1 e2
  exact ⟨k1, fun H locs cells slots ls a1 a2 a3 a4 a5 => lv_ishl o.1 o.2.1 hd (k2 H locs cells slots ls a1 a2 a3 a4 a5)⟩
theorem hr_ishr (o : hf_In C code own nL rt fr lc) {x y : Int32} (hd : decode code pc = .ok (.ishr, 1)) (k : hf_J C dec P h (pc + 1) L (.int (x >>> (y &&& 31)) :: st)) : hf_J C dec P h pc L (.int y :: .int x :: st) := by
  obtain _ | ⟨p, l, e, R, s, m, args, below, meth, c, w, h0, fin, nL0, Q⟩ := C
  · exact k
  intro t e1 e2
  obtain ⟨k1, k2⟩ := k t e1 e2
  exact ⟨k1, fun H locs cells slots ls a1 a2 a3 a4 a5 => lv_ishr o.1 o.2.1 hd (k2 H locs cells slots ls a1 a2 a3 a4 a5)⟩
theorem hr_iushr (o : hf_In C code own nL rt fr lc) {x y : Int32} (hd : decode code pc = .ok (.iushr, 1)) (k : hf_J C dec P h (pc + 1) L (.int ((x.toUInt32 >>> (y.toUInt32 &&& Int32.toUInt32 31)).toInt32) :: st)) : hf_J C dec P h pc L (.int y :: .int x :: st) := by
  obtain _ | ⟨p, l, e, R, s, m, args, below, meth, c, w, h0, fin, nL0, Q⟩ := C
  · exact k
  intro t e1 e2
  obtain ⟨k1, k2⟩ := k t e1 e2
  exact ⟨k1, fun H locs cells slots ls a1 a2 a3 a4 a5 => lv_iushr o.1 o.2.1 hd rfl (k2 H locs cells slots ls a1 a2 a3 a4 a5)⟩
theorem hr_ladd (o : hf_In C code own nL rt fr lc) {x y : Int64} (hd : decode code pc = .ok (.ladd, 1)) (k : hf_J C dec P h (pc + 1) L (.long (x + y) :: st)) : hf_J C dec P h pc L (.long y :: .long x :: st) := by
  obtain _ | ⟨p, l, e, R, s, m, args, below, meth, c, w, h0, fin, nL0, Q⟩ := C
  · exact k
  intro t e1 e2
  obtain ⟨k1, k2⟩ := k t e1 e2
  exact ⟨k1, fun H locs cells slots ls a1 a2 a3 a4 a5 => lv_ladd o.1 o.2.1 hd (k2 H locs cells slots ls a1 a2 a3 a4 a5)⟩
theorem hr_lsub (o : hf_In C code own nL rt fr lc) {x y : Int64} (hd : decode code pc = .ok (.lsub, 1)) (k : hf_J C dec P h (pc + 1) L (.long (x - y) :: st)) : hf_J C dec P h pc L (.long y :: .long x :: st) := by
  obtain _ | ⟨p, l, e, R, s, m, args, below, meth, c, w, h0, fin, nL0, Q⟩ := C
  · exact k
  intro t e1 e2
  obtain ⟨k1, k2⟩ := k t e1 e2
  exact ⟨k1, fun H locs cells slots ls a1 a2 a3 a4 a5 => lv_lsub o.1 o.2.1 hd (k2 H locs cells slots ls a1 a2 a3 a4 a5)⟩
theorem hr_lmul (o : hf_In C code own nL rt fr lc) {x y : Int64} (hd : decode code pc = .ok (.lmul, 1)) (k : hf_J C dec P h (pc + 1) L (.long (x * y) :: st)) : hf_J C dec P h pc L (.long y :: .long x :: st) := by
  obtain _ | ⟨p, l, e, R, s, m, args, below, meth, c, w, h0, fin, nL0, Q⟩ := C
  · exact k
  intro t e1 e2
  obtain ⟨k1, k2⟩ := k t e1 e2
  exact ⟨k1, fun H locs cells slots ls a1 a2 a3 a4 a5 => lv_lmul o.1 o.2.1 hd (k2 H locs cells slots ls a1 a2 a3 a4 a5)⟩
theorem hr_land (o : hf_In C code own nL rt fr lc) {x y : Int64} (hd : decode code pc = .ok (.land, 1)) (k : hf_J C dec P h (pc + 1) L (.long (x &&& y) :: st)) : hf_J C dec P h pc L (.long y :: .long x :: st) := by
  obtain _ | ⟨p, l, e, R, s, m, args, below, meth, c, w, h0, fin, nL0, Q⟩ := C
  · exact k
  intro t e1 e2
  obtain ⟨k1, k2⟩ := k t e1 e2
  exact ⟨k1, fun H locs cells slots ls a1 a2 a3 a4 a5 => lv_land o.1 o.2.1 hd (k2 H locs cells slots ls a1 a2 a3 a4 a5)⟩
theorem hr_lor (o : hf_In C code own nL rt fr lc) {x y : Int64} (hd : decode code pc = .ok (.lor, 1)) (k : hf_J C dec P h (pc + 1) L (.long (x ||| y) :: st)) : hf_J C dec P h pc L (.long y :: .long x :: st) := by
  obtain _ | ⟨p, l, e, R, s, m, args, below, meth, c, w, h0, fin, nL0, Q⟩ := C
  · exact k
  intro t e1 e2
  obtain ⟨k1, k2⟩ := k t e1 e2
  exact ⟨k1, fun H locs cells slots ls a1 a2 a3 a4 a5 => lv_lor o.1 o.2.1 hd (k2 H locs cells slots ls a1 a2 a3 a4 a5)⟩
theorem hr_idiv (o : hf_In C code own nL rt fr lc) {x y : Int32} {K : Option τ} (hd : decode code pc = .ok (.idiv, 1)) (k : ¬ y = 0 → hf_J C dec K h (pc + 1) L (.int (x / y) :: st)) : hf_J C dec (if y = 0 then none else K) h pc L (.int y :: .int x :: st) := by
  obtain _ | ⟨p, l, e, R, s, m, args, below, meth, c, w, h0, fin, nL0, Q⟩ := C
  · intro t e1
    by_cases hy : y = 0
    · rw [if_pos hy] at e1; cases e1
    · rw [if_neg hy] at e1; exact k hy t e1
  intro t e1 e2
  by_cases hy : y = 0
  · rw [if_pos hy] at e1; cases e1
  · rw [if_neg hy] at e1
    obtain ⟨k1, k2⟩ := k hy t e1 e2
    exact ⟨k1, fun H locs cells slots ls a1 a2 a3 a4 a5 => lv_idiv o.1 o.2.1 hd hy (k2 H locs cells slots ls a1 a2 a3 a4 a5)⟩
theorem hr_irem (o : hf_In C code own nL rt fr lc) {x y : Int32} {K : Option τ} (hd : decode code pc = .ok (.irem, 1)) (k : ¬ y = 0 → hf_J C dec K h (pc + 1) L (.int (x - x / y * y) :: st)) : hf_J C dec (if y = 0 then none else K) h pc L (.int y :: .int x :: st) := by
  obtain _ | ⟨p, l, e, R, s, m, args, below, meth, c, w, h0, fin, nL0, Q⟩ := C
  · intro t e1
    by_cases hy : y = 0
    · rw [if_pos hy] at e1; cases e1
    · rw [if_neg hy] at e1; exact k hy t e1
  intro t e1 e2
  by_cases hy : y = 0
  · rw [if_pos hy] at e1; cases e1
  · rw [if_neg hy] at e1
    obtain ⟨k1, k2⟩ := k hy t e1 e2
    exact ⟨k1, fun H locs cells slots ls a1 a2 a3 a4 a5 => lv_irem o.1 o.2.1 hd hy (k2 H locs cells slots ls a1 a2 a3 a4 a5)⟩
theorem hr_ldiv (o : hf_In C code own nL rt fr lc) {x y : Int64} {K : Option τ} (hd : decode code pc = .ok (.ldiv, 1)) (k : ¬ y = 0 → hf_J C dec K h (pc + 1) L (.long (x / y) :: st)) : hf_J C dec (if y = 0 then none else K) h pc L (.long y :: .long x :: st) := by
  obtain _ | ⟨p, l, e, R, s, m, args, below, meth, c, w, h0, fin, nL0, Q⟩ := C
  · intro t e1
    by_cases hy : y = 0
    · rw [if_pos hy] at e1; cases e1
    · rw [if_neg hy] at e1; exact k hy t e1
  intro t e1 e2
  by_cases hy : y = 0
  · rw [if_pos hy] at e1; cases e1
  · rw [if_neg hy] at e1
    obtain ⟨k1, k2⟩ := k hy t e1 e2
    exact ⟨k1, fun H locs cells slots ls a1 a2 a3 a4 a5 => lv_ldiv o.1 o.2.1 hd hy (k2 H locs cells slots ls a1 a2 a3 a4 a5)⟩
theorem hr_lrem (o : hf_In C code own nL rt fr lc) {x y : Int64} {K : Option τ} (hd : decode code pc = .ok (.lrem, 1)) (k : ¬ y = 0 → hf_J C dec K h (pc + 1) L (.long (x - x / y * y) :: st)) : hf_J C dec (if y = 0 then none else K) h pc L (.long y :: .long x :: st) := by
  obtain _ | ⟨p, l, e, R, s, m, args, below, meth, c, w, h0, fin, nL0, Q⟩ := C
  · intro t e1
    by_cases hy : y = 0
    · rw [if_pos hy] at e1; cases e1
    · rw [if_neg hy] at e1; exact k hy t e1
  intro t e1 e2
  by_cases hy : y = 0
  · rw [if_pos hy] at e1; cases e1
  · rw [if_neg hy] at e1
    obtain ⟨k1, k2⟩ := k hy t e1 e2
    exact ⟨k1, fun H locs cells slots ls a1 a2 a3 a4 a5 => lv_lrem o.1 o.2.1 hd hy (k2 H locs cells slots ls a1 a2 a3 a4 a5)⟩
theorem hr_ineg (o : hf_In C code own nL rt fr lc) {x : Int32} (hd : decode code pc = .ok (.ineg, 1)) (k : hf_J C dec P h (pc + 1) L (.int (-x) :: st)) : hf_J C dec P h pc L (.int x :: st) := by
  obtain _ | ⟨p, l, e, R, s, m, args, below, meth, c, w, h0, fin, nL0, Q⟩ := C
  · exact k
  intro t e1 e2
  obtain ⟨k1, k2⟩ := k t e1 e2
  exact ⟨k1, fun H locs cells slots ls a1 a2 a3 a4 a5 => lv_ineg o.1 o.2.1 hd (k2 H locs cells slots ls a1 a2 a3 a4 a5)⟩
theorem hr_i2l (o : hf_In C code own nL rt fr lc) {x : Int32} (hd : decode code pc = .ok (.i2l, 1)) (k : hf_J C dec P h (pc + 1) L (.long (x.toInt64) :: st)) : hf_J C dec P h pc L (.int x :: st) := by
  obtain _ | ⟨p, l, e, R, s, m, args, below, meth, c, w, h0, fin, nL0, Q⟩ := C
  · exact k
  intro t e1 e2
  obtain ⟨k1, k2⟩ := k t e1 e2
  exact ⟨k1, fun H locs cells slots ls a1 a2 a3 a4 a5 => lv_i2l o.1 o.2.1 hd rfl (k2 H locs cells slots ls a1 a2 a3 a4 a5)⟩
theorem hr_l2i (o : hf_In C code own nL rt fr lc) {x : Int64} (hd : decode code pc = .ok (.l2i, 1)) (k : hf_J C dec P h (pc + 1) L (.int (x.toInt32) :: st)) : hf_J C dec P h pc L (.long x :: st) := by
  obtain _ | ⟨p, l, e, R, s, m, args, below, meth, c, w, h0, fin, nL0, Q⟩ := C
  · exact k
  intro t e1 e2
  obtain ⟨k1, k2⟩ := k t e1 e2
  exact ⟨k1, fun H locs cells slots ls a1 a2 a3 a4 a5 => lv_l2i o.1 o.2.1 hd rfl (k2 H locs cells slots ls a1 a2 a3 a4 a5)⟩
theorem hr_i2b (o : hf_In C code own nL rt fr lc) {x : Int32} (hd : decode code pc = .ok (.i2b, 1)) (k : hf_J C dec P h (pc + 1) L (.int (x.toInt8.toInt32) :: st)) : hf_J C dec P h pc L (.int x :: st) := by
  obtain _ | ⟨p, l, e, R, s, m, args, below, meth, c, w, h0, fin, nL0, Q⟩ := C
  · exact k
  intro t e1 e2
  obtain ⟨k1, k2⟩ := k t e1 e2
  exact ⟨k1, fun H locs cells slots ls a1 a2 a3 a4 a5 => lv_i2b o.1 o.2.1 hd rfl (k2 H locs cells slots ls a1 a2 a3 a4 a5)⟩
theorem hr_i2c (o : hf_In C code own nL rt fr lc) {x : Int32} (hd : decode code pc = .ok (.i2c, 1)) (k : hf_J C dec P h (pc + 1) L (.int ((x.toUInt32 % 65536).toInt32) :: st)) : hf_J C dec P h pc L (.int x :: st) := by
  obtain _ | ⟨p, l, e, R, s, m, args, below, meth, c, w, h0, fin, nL0, Q⟩ := C
  · exact k
  intro t e1 e2
  obtain ⟨k1, k2⟩ := k t e1 e2
  exact ⟨k1, fun H locs cells slots ls a1 a2 a3 a4 a5 => lv_i2c o.1 o.2.1 hd rfl (k2 H locs cells slots ls a1 a2 a3 a4 a5)⟩
theorem hr_lshl (o : hf_In C code own nL rt fr lc) {x : Int64} {y : Int32} (hd : decode code pc = .ok (.lshl, 1)) (k : hf_J C dec P h (pc + 1) L (.long (x <<< (y.toInt64 &&& 63)) :: st)) : hf_J C dec P h pc L (.int y :: .long x :: st) := by
  obtain _ | ⟨p, l, e, R, s, m, args, below, meth, c, w, h0, fin, nL0, Q⟩ := C
  · exact k
  intro t e1 e2
  obtain ⟨k1, k2⟩ := k t e1 e2
  exact ⟨k1, fun H locs cells slots ls a1 a2 a3 a4 a5 => lv_lshl o.1 o.2.1 hd rfl (k2 H locs cells slots ls a1 a2 a3 a4 a5)⟩
theorem hr_lcmp (o : hf_In C code own nL rt fr lc) {x y : Int64} (hd : decode code pc = .ok (.lcmp, 1)) (k : hf_J C dec P h (pc + 1) L (.int (lg_cmp x y) :: st)) : hf_J C dec P h pc L (.long y :: .long x :: st) := by
  obtain _ | ⟨p, l, e, R, s, m, args, below, meth, c, w, h0, fin, nL0, Q⟩ := C
  · exact k
  intro t e1 e2
  obtain ⟨k1, k2⟩ := k t e1 e2
  exact ⟨k1, fun H locs cells slots ls a1 a2 a3 a4 a5 => W.lcmp o.1 o.2.1 hd (k2 H locs cells slots ls a1 a2 a3 a4 a5)⟩
theorem hr_if_eq (o : hf_In C code own nL rt fr lc) {x : Int32} {off : Int} {Pt Pf : Option τ} (tgt : Nat) (hd : decode code pc = .ok (.ifCond .eq off, 3)) (ht : (pc : Int) + off = (tgt : Int)) (kt : x = 0 → hf_J C dec Pt h tgt L st) (kf : ¬ x = 0 → hf_J C dec Pf h (pc + 3) L st) : hf_J C dec (if x = 0 then Pt else Pf) h pc L (.int x :: st) := by
  obtain _ | ⟨p, l, e, R, s, m, args, below, meth, c, w, h0, fin, nL0, Q⟩ := C
  · intro t e1
    by_cases hc : x = 0
    · rw [if_pos hc] at e1; exact kt hc t e1
    · rw [if_neg hc] at e1; exact kf hc t e1
  intro t e1 e2
  by_cases hc : x = 0
  · rw [if_pos hc] at e1
    obtain ⟨k1, k2⟩ := kt hc t e1 e2
    exact ⟨k1, fun H locs cells slots ls a1 a2 a3 a4 a5 => lv_if_eq o.1 o.2.1 hd ht (fun _ => k2 H locs cells slots ls a1 a2 a3 a4 a5) (fun z => absurd hc z)⟩
  · rw [if_neg hc] at e1
    obtain ⟨k1, k2⟩ := kf hc t e1 e2
    exact ⟨k1, fun H locs cells slots ls a1 a2 a3 a4 a5 => lv_if_eq o.1 o.2.1 hd ht (fun z => absurd z hc) (fun _ => k2 H locs cells slots ls a1 a2 a3 a4 a5)⟩
theorem hr_icmp_eq (o : hf_In C code own nL rt fr lc) {x y : Int32} {off : Int} {Pt Pf : Option τ} (tgt : Nat) (hd : decode code pc = .ok (.if_icmp .eq off, 3)) (ht : (pc : Int) + off = (tgt : Int)) (kt : x = y → hf_J C dec Pt h tgt L st) (kf : ¬ x = y → hf_J C dec Pf h (pc + 3) L st) : hf_J C dec (if x = y then Pt else Pf) h pc L (.int y :: .int x :: st) := by
  obtain _ | ⟨p, l, e, R, s, m, args, below, meth, c, w, h0, fin, nL0, Q⟩ := C
  · intro t e1
    by_cases hc : x = y
    · rw [if_pos hc] at e1; exact kt hc t e1
    · rw [if_neg hc] at e1; exact kf hc t e1
  intro t e1 e2
  by_cases hc : x = y
  · rw [if_pos hc] at e1
    obtain ⟨k1, k2⟩ := kt hc t e1 e2
    exact ⟨k1, fun H locs cells slots ls a1 a2 a3 a4 a5 => lv_icmp_eq o.1 o.2.1 hd ht (fun _ => k2 H locs cells slots ls a1 a2 a3 a4 a5) (fun z => absurd hc z)⟩
  · rw [if_neg hc] at e1
    obtain ⟨k1, k2⟩ := kf hc t e1 e2
    exact ⟨k1, fun H locs cells slots ls a1 a2 a3 a4 a5 => lv_icmp_eq o.1 o.2.1 hd ht (fun z => absurd z hc) (fun _ => k2 H locs cells slots ls a1 a2 a3 a4 a5)⟩
theorem hr_if_lt (o : hf_In C code own nL rt fr lc) {x : Int32} {off : Int} {Pt Pf : Option τ} (tgt : Nat) (hd : decode code pc = .ok (.ifCond .lt off, 3)) (ht : (pc : Int) + off = (tgt : Int)) (kt : x < 0 → hf_J C dec Pt h tgt L st) (kf : ¬ x < 0 → hf_J C dec Pf h (pc + 3) L st) : hf_J C dec (if x < 0 then Pt else Pf) h pc L (.int x :: st) := by
  obtain _ | ⟨p, l, e, R, s, m, args, below, meth, c, w, h0, fin, nL0, Q⟩ := C
  · intro t e1
    by_cases hc : x < 0
    · rw [if_pos hc] at e1; exact kt hc t e1
    · rw [if_neg hc] at e1; exact kf hc t e1
  intro t e1 e2
  by_cases hc : x < 0
  · rw [if_pos hc] at e1
    obtain ⟨k1, k2⟩ := kt hc t e1 e2
    exact ⟨k1, fun H locs cells slots ls a1 a2 a3 a4 a5 => lv_if_lt o.1 o.2.1 hd ht (fun _ => k2 H locs cells slots ls a1 a2 a3 a4 a5) (fun z => absurd hc z)⟩
  · rw [if_neg hc] at e1
    obtain ⟨k1, k2⟩ := kf hc t e1 e2
    exact ⟨k1, fun H locs cells slots ls a1 a2 a3 a4 a5 => lv_if_lt o.1 o.2.1 hd ht (fun z => absurd z hc) (fun _ => k2 H locs cells slots ls a1 a2 a3 a4 a5)⟩
theorem hr_icmp_lt (o : hf_In C code own nL rt fr lc) {x y : Int32} {off : Int} {Pt Pf : Option τ} (tgt : Nat) (hd : decode code pc = .ok (.if_icmp .lt off, 3)) (ht : (pc : Int) + off = (tgt : Int)) (kt : x < y → hf_J C dec Pt h tgt L st) (kf : ¬ x < y → hf_J C dec Pf h (pc + 3) L st) : hf_J C dec (if x < y then Pt else Pf) h pc L (.int y :: .int x :: st) := by
  obtain _ | ⟨p, l, e, R, s, m, args, below, meth, c, w, h0, fin, nL0, Q⟩ := C
  · intro t e1
    by_cases hc : x < y
    · rw [if_pos hc] at e1; exact kt hc t e1
    · rw [if_neg hc] at e1; exact kf hc t e1
  intro t e1 e2
  by_cases hc : x < y
  · rw [if_pos hc] at e1
    obtain ⟨k1, k2⟩ := kt hc t e1 e2
    exact ⟨k1, fun H locs cells slots ls a1 a2 a3 a4 a5 => lv_icmp_lt o.1 o.2.1 hd ht (fun _ => k2 H locs cells slots ls a1 a2 a3 a4 a5) (fun z => absurd hc z)⟩
  · rw [if_neg hc] at e1
    obtain ⟨k1, k2⟩ := kf hc t e1 e2
    exact ⟨k1, fun H locs cells slots ls a1 a2 a3 a4 a5 => lv_icmp_lt o.1 o.2.1 hd ht (fun z => absurd z hc) (fun _ => k2 H locs cells slots ls a1 a2 a3 a4 a5)⟩
theorem hr_if_ge (o : hf_In C code own nL rt fr lc) {x : Int32} {off : Int} {Pt Pf : Option τ} (tgt : Nat) (hd : decode code pc = .ok (.ifCond .ge off, 3)) (ht : (pc : Int) + off = (tgt : Int)) (kt : 0 ≤ x → hf_J C dec Pt h tgt L st) (kf : ¬ 0 ≤ x → hf_J C dec Pf h (pc + 3) L st) : hf_J C dec (if 0 ≤ x then Pt else Pf) h pc L (.int x :: st) := by
  obtain _ | ⟨p, l, e, R, s, m, args, below, meth, c, w, h0, fin, nL0, Q⟩ := C
  · intro t e1
    by_cases hc : 0 ≤ x
    · rw [if_pos hc] at e1; exact kt hc t e1
    · rw [if_neg hc] at e1; exact kf hc t e1
  intro t e1 e2
  by_cases hc : 0 ≤ x
  · rw [if_pos hc] at e1
    obtain ⟨k1, k2⟩ := kt hc t e1 e2
    exact ⟨k1, fun H locs cells slots ls a1 a2 a3 a4 a5 => lv_if_ge o.1 o.2.1 hd ht (fun _ => k2 H locs cells slots ls a1 a2 a3 a4 a5) (fun z => absurd hc z)⟩
  · rw [if_neg hc] at e1
    obtain ⟨k1, k2⟩ := kf hc t e1 e2
    exact ⟨k1, fun H locs cells slots ls a1 a2 a3 a4 a5 => lv_if_ge o.1 o.2.1 hd ht (fun z => absurd z hc) (fun _ => k2 H locs cells slots ls a1 a2 a3 a4 a5)⟩
theorem hr_icmp_ge (o : hf_In C code own nL rt fr lc) {x y : Int32} {off : Int} {Pt Pf : Option τ} (tgt : Nat) (hd : decode code pc = .ok (.if_icmp .ge off, 3)) (ht : (pc : Int) + off = (tgt : Int)) (kt : y ≤ x → hf_J C dec Pt h tgt L st) (kf : ¬ y ≤ x → hf_J C dec Pf h (pc + 3) L st) : hf_J C dec (if y ≤ x then Pt else Pf) h pc L (.int y :: .int x :: st) := by
  obtain _ | ⟨p, l, e, R, s, m, args, below, meth, c, w, h0, fin, nL0, Q⟩ := C
  · intro t e1
    by_cases hc : y ≤ x
    · rw [if_pos hc] at e1; exact kt hc t e1
    · rw [if_neg hc] at e1; exact kf hc t e1
  intro t e1 e2
  by_cases hc : y ≤ x
  · rw [if_pos hc] at e1
    obtain ⟨k1, k2⟩ := kt hc t e1 e2
    exact ⟨k1, fun H locs cells slots ls a1 a2 a3 a4 a5 => lv_icmp_ge o.1 o.2.1 hd ht (fun _ => k2 H locs cells slots ls a1 a2 a3 a4 a5) (fun z => absurd hc z)⟩
  · rw [if_neg hc] at e1
    obtain ⟨k1, k2⟩ := kf hc t e1 e2
    exact ⟨k1, fun H locs cells slots ls a1 a2 a3 a4 a5 => lv_icmp_ge o.1 o.2.1 hd ht (fun z => absurd z hc) (fun _ => k2 H locs cells slots ls a1 a2 a3 a4 a5)⟩
theorem hr_if_gt (o : hf_In C code own nL rt fr lc) {x : Int32} {off : Int} {Pt Pf : Option τ} (tgt : Nat) (hd : decode code pc = .ok (.ifCond .gt off, 3)) (ht : (pc : Int) + off = (tgt : Int)) (kt : 0 < x → hf_J C dec Pt h tgt L st) (kf : ¬ 0 < x → hf_J C dec Pf h (pc + 3) L st) : hf_J C dec (if 0 < x then Pt else Pf) h pc L (.int x :: st) := by
  obtain _ | ⟨p, l, e, R, s, m, args, below, meth, c, w, h0, fin, nL0, Q⟩ := C
  · intro t e1
    by_cases hc : 0 < x
    · rw [if_pos hc] at e1; exact kt hc t e1
    · rw [if_neg hc] at e1; exact kf hc t e1
  intro t e1 e2
  by_cases hc : 0 < x
  · rw [if_pos hc] at e1
    obtain ⟨k1, k2⟩ := kt hc t e1 e2
    exact ⟨k1, fun H locs cells slots ls a1 a2 a3 a4 a5 => lv_if_gt o.1 o.2.1 hd ht (fun _ => k2 H locs cells slots ls a1 a2 a3 a4 a5) (fun z => absurd hc z)⟩
  · rw [if_neg hc] at e1
    obtain ⟨k1, k2⟩ := kf hc t e1 e2
    exact ⟨k1, fun H locs cells slots ls a1 a2 a3 a4 a5 => lv_if_gt o.1 o.2.1 hd ht (fun z => absurd z hc) (fun _ => k2 H locs cells slots ls a1 a2 a3 a4 a5)⟩
theorem hr_icmp_gt (o : hf_In C code own nL rt fr lc) {x y : Int32} {off : Int} {Pt Pf : Option τ} (tgt : Nat) (hd : decode code pc = .ok (.if_icmp .gt off, 3)) (ht : (pc : Int) + off = (tgt : Int)) (kt : y < x → hf_J C dec Pt h tgt L st) (kf : ¬ y < x → hf_J C dec Pf h (pc + 3) L st) : hf_J C dec (if y < x then Pt else Pf) h pc L (.int y :: .int x :: st) := by
  obtain _ | ⟨p, l, e, R, s, m, args, below, meth, c, w, h0, fin, nL0, Q⟩ := C
  · intro t e1
    by_cases hc : y < x
    · rw [if_pos hc] at e1; exact kt hc t e1
    · rw [if_neg hc] at e1; exact kf hc t e1
  intro t e1 e2
  by_cases hc : y < x
  · rw [if_pos hc] at e1
    obtain ⟨k1, k2⟩ := kt hc t e1 e2
    exact ⟨k1, fun H locs cells slots ls a1 a2 a3 a4 a5 => lv_icmp_gt o.1 o.2.1 hd ht (fun _ => k2 H locs cells slots ls a1 a2 a3 a4 a5) (fun z => absurd hc z)⟩
  · rw [if_neg hc] at e1
    obtain ⟨k1, k2⟩ := kf hc t e1 e2
    exact ⟨k1, fun H locs cells slots ls a1 a2 a3 a4 a5 => lv_icmp_gt o.1 o.2.1 hd ht (fun z => absurd z hc) (fun _ => k2 H locs cells slots ls a1 a2 a3 a4 a5)⟩
theorem hr_if_le (o : hf_In C code own nL rt fr lc) {x : Int32} {off : Int} {Pt Pf : Option τ} (tgt : Nat) (hd : decode code pc = .ok (.ifCond .le off, 3)) (ht : (pc : Int) + off = (tgt : Int)) (kt : x ≤ 0 → hf_J C dec Pt h tgt L st) (kf : ¬ x ≤ 0 → hf_J C dec Pf h (pc + 3) L st) : hf_J C dec (if x ≤ 0 then Pt else Pf) h pc L (.int x :: st) := by
  obtain _ | ⟨p, l, e, R, s, m, args, below, meth, c, w, h0, fin, nL0, Q⟩ := C
  · intro t e1
    by_cases hc : x ≤ 0
    · rw [if_pos hc] at e1; exact kt hc t e1
    · rw [if_neg hc] at e1; exact kf hc t e1
  intro t e1 e2
  by_cases hc : x ≤ 0
  · rw [if_pos hc] at e1
    obtain ⟨k1, k2⟩ := kt hc t e1 e2
    exact ⟨k1, fun H locs cells slots ls a1 a2 a3 a4 a5 => lv_if_le o.1 o.2.1 hd ht (fun _ => k2 H locs cells slots ls a1 a2 a3 a4 a5) (fun z => absurd hc z)⟩
  · rw [if_neg hc] at e1
    obtain ⟨k1, k2⟩ := kf hc t e1 e2
    exact ⟨k1, fun H locs cells slots ls a1 a2 a3 a4 a5 => lv_if_le o.1 o.2.1 hd ht (fun z => absurd z hc) (fun _ => k2 H locs cells slots ls a1 a2 a3 a4 a5)⟩
theorem hr_icmp_le (o : hf_In C code own nL rt fr lc) {x y : Int32} {off : Int} {Pt Pf : Option τ} (tgt : Nat) (hd : decode code pc = .ok (.if_icmp .le off, 3)) (ht : (pc : Int) + off = (tgt : Int)) (kt : x ≤ y → hf_J C dec Pt h tgt L st) (kf : ¬ x ≤ y → hf_J C dec Pf h (pc + 3) L st) : hf_J C dec (if x ≤ y then Pt else Pf) h pc L (.int y :: .int x :: st) := by
  obtain _ | ⟨p, l, e, R, s, m, args, below, meth, c, w, h0, fin, nL0, Q⟩ := C
  · intro t e1
    by_cases hc : x ≤ y
    · rw [if_pos hc] at e1; exact kt hc t e1
    · rw [if_neg hc] at e1; exact kf hc t e1
  intro t e1 e2
  by_cases hc : x ≤ y
  · rw [if_pos hc] at e1
    obtain ⟨k1, k2⟩ := kt hc t e1 e2
    exact ⟨k1, fun H locs cells slots ls a1 a2 a3 a4 a5 => lv_icmp_le o.1 o.2.1 hd ht (fun _ => k2 H locs cells slots ls a1 a2 a3 a4 a5) (fun z => absurd hc z)⟩
  · rw [if_neg hc] at e1
    obtain ⟨k1, k2⟩ := kf hc t e1 e2
    exact ⟨k1, fun H locs cells slots ls a1 a2 a3 a4 a5 => lv_icmp_le o.1 o.2.1 hd ht (fun z => absurd z hc) (fun _ => k2 H locs cells slots ls a1 a2 a3 a4 a5)⟩
theorem hr_if_ne (o : hf_In C code own nL rt fr lc) {x : Int32} {off : Int} {Pt Pf : Option τ} (tgt : Nat) (hd : decode code pc = .ok (.ifCond .ne off, 3)) (ht : (pc : Int) + off = (tgt : Int)) (kt : x = 0 → hf_J C dec Pt h (pc + 3) L st) (kf : ¬ x = 0 → hf_J C dec Pf h tgt L st) : hf_J C dec (if x = 0 then Pt else Pf) h pc L (.int x :: st) := by
  obtain _ | ⟨p, l, e, R, s, m, args, below, meth, c, w, h0, fin, nL0, Q⟩ := C
  · intro t e1
    by_cases hc : x = 0
    · rw [if_pos hc] at e1; exact kt hc t e1
    · rw [if_neg hc] at e1; exact kf hc t e1
  intro t e1 e2
  by_cases hc : x = 0
  · rw [if_pos hc] at e1
    obtain ⟨k1, k2⟩ := kt hc t e1 e2
    exact ⟨k1, fun H locs cells slots ls a1 a2 a3 a4 a5 => lv_if_ne o.1 o.2.1 hd ht (fun z => absurd hc z) (fun _ => k2 H locs cells slots ls a1 a2 a3 a4 a5)⟩
  · rw [if_neg hc] at e1
    obtain ⟨k1, k2⟩ := kf hc t e1 e2
    exact ⟨k1, fun H locs cells slots ls a1 a2 a3 a4 a5 => lv_if_ne o.1 o.2.1 hd ht (fun _ => k2 H locs cells slots ls a1 a2 a3 a4 a5) (fun z => absurd z hc)⟩
theorem hr_icmp_ne (o : hf_In C code own nL rt fr lc) {x y : Int32} {off : Int} {Pt Pf : Option τ} (tgt : Nat) (hd : decode code pc = .ok (.if_icmp .ne off, 3)) (ht : (pc : Int) + off = (tgt : Int)) (kt : x = y → hf_J C dec Pt h (pc + 3) L st) (kf : ¬ x = y → hf_J C dec Pf h tgt L st) : hf_J C dec (if x = y then Pt else Pf) h pc L (.int y :: .int x :: st) := by
  obtain _ | ⟨p, l, e, R, s, m, args, below, meth, c, w, h0, fin, nL0, Q⟩ := C
  · intro t e1
    by_cases hc : x = y
    · rw [if_pos hc] at e1; exact kt hc t e1
    · rw [if_neg hc] at e1; exact kf hc t e1
  intro t e1 e2
  by_cases hc : x = y
  · rw [if_pos hc] at e1
    obtain ⟨k1, k2⟩ := kt hc t e1 e2
    exact ⟨k1, fun H locs cells slots ls a1 a2 a3 a4 a5 => lv_icmp_ne o.1 o.2.1 hd ht (fun z => absurd hc z) (fun _ => k2 H locs cells slots ls a1 a2 a3 a4 a5)⟩
  · rw [if_neg hc] at e1
    obtain ⟨k1, k2⟩ := kf hc t e1 e2
    exact ⟨k1, fun H locs cells slots ls a1 a2 a3 a4 a5 => lv_icmp_ne o.1 o.2.1 hd ht (fun _ => k2 H locs cells slots ls a1 a2 a3 a4 a5) (fun z => absurd z hc)⟩
/-- a number gets a name -/
def hf_let {α β : Type} (a : α) (f : α → β) : β := f a
theorem hr_let {α : Type} {a : α} {f : α → Option τ} (k : hf_J C dec (f a) h pc L st) : hf_J C dec (hf_let a f) h pc L st := k
theorem hr_nmI {x : Int32} {f : Int32 → Option τ} (k : ∀ y : Int32, hf_J C dec (f y) h pc L (.int y :: st)) : hf_J C dec (hf_let x f) h pc L (.int x :: st) := k x
theorem hr_nmL {x : Int64} {f : Int64 → Option τ} (k : ∀ y : Int64, hf_J C dec (f y) h pc L (.long y :: st)) : hf_J C dec (hf_let x f) h pc L (.long x :: st) := k x
theorem hr_nmA {x : Nat} {f : Nat → Option τ} (k : ∀ y : Nat, hf_J C dec (f y) h pc L (.ref y :: st)) : hf_J C dec (hf_let x f) h pc L (.ref x :: st) := k x
/-- a check -/
theorem hr_ck {c : Prop} {_ : Decidable c} {K : Option τ} (k : c → hf_J C dec K h pc L st) : hf_J C dec (if c then K else none) h pc L st := by
  by_cases hc : c
  · rw [if_pos hc]; exact k hc
  · rw [if_neg hc]
    obtain _ | ⟨p, l, e, R, s, m, args, below, meth, c, w, h0, fin, nL0, Q⟩ := C
    · intro t e1; cases e1
    intro t e1; cases e1
theorem hr_bind {α : Type} {x : Option α} {K : α → Option τ} (k : ∀ a : α, x = some a → hf_J C dec (K a) h pc L st) : hf_J C dec (x.bind K) h pc L st := by
  cases x with
  | none =>
    obtain _ | ⟨p, l, e, R, s, m, args, below, meth, c, w, h0, fin, nL0, Q⟩ := C
    · intro t e1; cases e1
    intro t e1; cases e1
  | some a => exact k a rfl
theorem hr_none : hf_J C dec none h pc L st := by
  obtain _ | ⟨p, l, e, R, s, m, args, below, meth, c, w, h0, fin, nL0, Q⟩ := C
  · intro t e1; cases e1
  intro t e1; cases e1
theorem hf_nei {x c : Int32} (v : Int) (hv : c.toInt = v) (h : ¬ x = c) : x.toInt ≠ v := fun e => h (Int32.toInt_inj.mp (e.trans hv.symm))
theorem hr_tsw (o : hf_In C code own nL rt fr lc) {dflt lo hi : Int} {offs : Array Int} {len : Nat} {x : Int32} {off : Int} {Pt Pf : Option τ} (c : Int32) (tgt : Nat) (hd : decode code pc = .ok (.tableswitch dflt lo hi offs, len)) (h1 : ¬ c.toInt < lo) (h2 : ¬ hi < c.toInt) (ho : offs[(c.toInt - lo).toNat]? = some off) (ht : (pc : Int) + off = (tgt : Int)) (kt : x = c → hf_J C dec Pt h tgt L st) (kf : ¬ x = c → hf_J C dec Pf h pc L (.int x :: st)) : hf_J C dec (if x = c then Pt else Pf) h pc L (.int x :: st) := by
  by_cases hc : x = c
  · rw [if_pos hc]
    have kt9 := kt hc
    clear kt kf
    subst hc
    obtain _ | ⟨p, l, e, R, s, m, args, below, meth, c, w, h0, fin, nL0, Q⟩ := C
    · exact kt9
    intro t e1 e2
    obtain ⟨k1, k2⟩ := kt9 t e1 e2
    exact ⟨k1, fun H locs cells slots ls a1 a2 a3 a4 a5 => lv_tableIn o.1 o.2.1 hd h1 h2 ho ht (k2 H locs cells slots ls a1 a2 a3 a4 a5)⟩
  · rw [if_neg hc]; exact kf hc
theorem hr_tswD (o : hf_In C code own nL rt fr lc) {dflt lo hi : Int} {offs : Array Int} {len : Nat} {x : Int32} (tgt : Nat) (hd : decode code pc = .ok (.tableswitch dflt lo hi offs, len)) (hx : x.toInt < lo ∨ hi < x.toInt) (ht : (pc : Int) + dflt = (tgt : Int)) (k : hf_J C dec P h tgt L st) : hf_J C dec P h pc L (.int x :: st) := by
  obtain _ | ⟨p, l, e, R, s, m, args, below, meth, c, w, h0, fin, nL0, Q⟩ := C
  · exact k
  intro t e1 e2
  obtain ⟨k1, k2⟩ := k t e1 e2
  exact ⟨k1, fun H locs cells slots ls a1 a2 a3 a4 a5 => lv_tableOut o.1 o.2.1 hd hx ht (k2 H locs cells slots ls a1 a2 a3 a4 a5)⟩
theorem hf_Wmono {p : Program} {l : Launch} {e : Env} {R : Room} {s : State} {m : MethodId} {args : Array Value} {below : List Frame} {meth : Method} {c : Code} {H : Heap} {locs : List Loc} {cells slots : Nat} {Q1 Q2 : State → Prop} {g : JFrame} (hq : ∀ t, Q1 t → Q2 t) (k : W p l e R s m args below meth c H locs cells slots Q1 g) : W p l e R s m args below meth c H locs cells slots Q2 g := by
  intro T hT X
  obtain ⟨t, a, b⟩ := k T hT X
  exact ⟨t, a, hq t b⟩
theorem hr_iret {ty : FieldType} (o : hf_In C code own nL (some ty) fr lc) {t : τ} {x : Int32} (hd : decode code pc = .ok (.ireturn, 1)) (ht : dec t = (.returned (some (.int x)), h)) (hn : narrow ty (.int x) = .int x) : hf_J C dec (some t) h pc L [.int x] := by
  obtain _ | ⟨p, l, e, R, s, m, args, below, meth, c, w, h0, fin, nL0, Q⟩ := C
  · intro t' e1; cases e1; rw [ht]; exact ⟨Nat.le_refl _, Nat.le_refl _⟩
  intro t' e1 e2
  cases e1
  rw [ht] at e2
  subst e2
  obtain ⟨o1, o2, o3, o4, o5, o6, o7, o8, o9, o10, o11, o12, o13, o14, o15, o16⟩ := o
  exact ⟨⟨Nat.le_refl _, Nat.le_refl _⟩, fun H locs cells slots ls a1 a2 a3 a4 a5 => hf_Wmono (fun t q => o15 cells slots t a3 a4 q) (W.zret o1 o2 o7 hn (fun t1 q1 _ => ⟨rfl, by rw [q1]; exact a1⟩) a2 hd o8)⟩
theorem hr_lret (o : hf_In C code own nL (some .long) fr lc) {t : τ} {x : Int64} (hd : decode code pc = .ok (.lreturn, 1)) (ht : dec t = (.returned (some (.long x)), h)) : hf_J C dec (some t) h pc L [.long x] := by
  obtain _ | ⟨p, l, e, R, s, m, args, below, meth, c, w, h0, fin, nL0, Q⟩ := C
  · intro t' e1; cases e1; rw [ht]; exact ⟨Nat.le_refl _, Nat.le_refl _⟩
  intro t' e1 e2
  cases e1
  rw [ht] at e2
  subst e2
  obtain ⟨o1, o2, o3, o4, o5, o6, o7, o8, o9, o10, o11, o12, o13, o14, o15, o16⟩ := o
  exact ⟨⟨Nat.le_refl _, Nat.le_refl _⟩, fun H locs cells slots ls a1 a2 a3 a4 a5 => hf_Wmono (fun t q => o15 cells slots t a3 a4 q) (W.lret o1 o2 o7 (fun t1 q1 _ => ⟨rfl, by rw [q1]; exact a1⟩) a2 hd o8)⟩
theorem hr_vret (o : hf_In C code own nL none fr lc) {t : τ} (hd : decode code pc = .ok (.return_, 1)) (ht : dec t = (.returned none, h)) : hf_J C dec (some t) h pc L [] := by
  obtain _ | ⟨p, l, e, R, s, m, args, below, meth, c, w, h0, fin, nL0, Q⟩ := C
  · intro t' e1; cases e1; rw [ht]; exact ⟨Nat.le_refl _, Nat.le_refl _⟩
  intro t' e1 e2
  cases e1
  rw [ht] at e2
  subst e2
  obtain ⟨o1, o2, o3, o4, o5, o6, o7, o8, o9, o10, o11, o12, o13, o14, o15, o16⟩ := o
  exact ⟨⟨Nat.le_refl _, Nat.le_refl _⟩, fun H locs cells slots ls a1 a2 a3 a4 a5 => hf_Wmono (fun t q => o15 cells slots t a3 a4 q) (W.vret o1 o2 o7 (fun t1 q1 _ => ⟨rfl, by rw [q1]; exact a1⟩) a2 hd o8)⟩
theorem hr_aret {ty : FieldType} (o : hf_In C code own nL (some ty) fr lc) {t : τ} {v : Value} (hd : decode code pc = .ok (.areturn, 1)) (hty : (∃ n, ty = .object n) ∨ ∃ t, ty = .array t) (hv : v = .null ∨ ∃ a, v = .ref a) (ht : dec t = (.returned (some v), h)) : hf_J C dec (some t) h pc L [v] := by
  obtain _ | ⟨p, l, e, R, s, m, args, below, meth, c, w, h0, fin, nL0, Q⟩ := C
  · intro t' e1; cases e1; rw [ht]; exact ⟨Nat.le_refl _, Nat.le_refl _⟩
  intro t' e1 e2
  cases e1
  rw [ht] at e2
  subst e2
  obtain ⟨o1, o2, o3, o4, o5, o6, o7, o8, o9, o10, o11, o12, o13, o14, o15, o16⟩ := o
  exact ⟨⟨Nat.le_refl _, Nat.le_refl _⟩, fun H locs cells slots ls a1 a2 a3 a4 a5 => hf_Wmono (fun t q => o15 cells slots t a3 a4 q) (W.aret o1 o2 o7 hty hv (fun t1 q1 _ => ⟨rfl, by rw [q1]; exact a1⟩) a2 hd o8)⟩
end HR
/-- the method is a constructor -/
def hf_Ini (C : hf_X) : Prop := match C with
  | none => True
  | some (_, _, _, _, _, _, _, _, meth, _, _, _, _, _, _) => meth.name = "<init>"
