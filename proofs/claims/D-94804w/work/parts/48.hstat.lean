set_option maxRecDepth 100000
set_option maxHeartbeats 1000000
/-! statics, strings, class objects, arraycopy -/
/-- the bytes of a constant String -/
def hf_st (h : hf_H) (a : Nat) : Option Nat := match h.1 a with
  | some (.inr (.inr (some v, _))) => some v
  | _ => none
theorem hf_st_spec {h : hf_H} {a v : Nat} (e : hf_st h a = some v) : ∃ x, h.1 a = some (.inr (.inr (some v, x))) := by
  unfold hf_st at e
  split at e
  · next v' x h1 => cases e; exact ⟨x, h1⟩
  · cases e
/-- System.arraycopy between arrays of Objects -/
def hf_cpO (h : hf_H) (a0 : Nat) (sp : Int32) (a : Nat) (dp n : Int32) : Option hf_H := match h.1 a0, h.1 a with
  | some (.inr (.inl (m0, t0, n0, .inr (.inr f)))), some (.inr (.inl (m1, t1, n1, .inr (.inr g)))) =>
    if (m0 = 0 ∧ m1 = 0 ∧ t0 = .object "java/lang/Object" ∧ t1 = .object "java/lang/Object") ∧ ¬ sp < 0 ∧ ¬ dp < 0 ∧ ¬ n < 0 ∧ sp.toNatClampNeg + n.toNatClampNeg ≤ n0 ∧ dp.toNatClampNeg + n.toNatClampNeg ≤ n1 ∧ (List.range n.toNatClampNeg).all (fun i => match f (sp.toNatClampNeg + i) with | none => true | some y => hf_okv h y) = true then some (hf_up h a (.inr (.inl (0, .object "java/lang/Object", n1, .inr (.inr (va_cpy f g sp.toNatClampNeg dp.toNatClampNeg n.toNatClampNeg)))))) else none
  | _, _ => none
theorem hf_okv_any {w : hf_W} {U : State} {h : hf_H} {H : Heap} (hK : hf_K w U) (hR : hf_Rel w h H) {y : Nat} (e : hf_okv h y = true) : ∃ cellV : Cell, H[y]? = some cellV ∧ cellV.vm.isStatics = false ∧ (∃ kC, U.vm.classes[cellV.cls]? = some kC) ∧ ∀ comp, U.vm.findClass "java/lang/Object" = some comp → U.vm.assignable cellV.cls comp = true := by
  obtain ⟨md2, ci2, V2, q2, hv, hq2⟩ := hf_okv_spec e
  obtain ⟨⟨r, h1, cellV, g1, g2, g3, -⟩, -⟩ := (hR.2.2.2.1 y _ hv).1
  have hcls := (hK.1 ci2 q2 hq2).2
  obtain ⟨c0, t1, f1, f2, f3⟩ := Cond.castable_spec (va_Nw.use (A := #[]) rfl (hK.2.2.1 _ (hf_cob ci2 q2 hq2) rfl))
  cases hcls.1.symm.trans f1
  obtain ⟨kC, hkC, -⟩ := hcls.2
  refine ⟨cellV, g1, by rw [g3]; rfl, ⟨kC, by rw [g2]; exact hkC⟩, fun comp hc => ?_⟩
  cases hc.symm.trans f2
  rw [g2]; exact f3
section HS
variable {τ : Type} {C : hf_X} {dec : τ → Outcome × hf_H} {P : Option τ} {h : hf_H} {pc : Nat} {L : List (Nat × Value)} {st : List Value} {code : ByteArray} {own : String} {nL : Nat} {rt : Option FieldType} {fr lc : Nat} {md ci k idx a : Nat} {gs : hf_gs}
theorem hf_zgets {p : Program} {l : Launch} {e : Env} {R : Room} {s : State} {m : MethodId} {args : Array Value} {below : List Frame} {meth : Method} {c : Code} {H : Heap} {locs : List Loc} {cells slots : Nat} {Q : State → Prop} {cc : ByteArray} {ls : Array Slot} {rest : List Value} {w : hf_W} {h : hf_H} (hexec : p.tables.exec = Jvm.exec) (hb : c.code = cc) {n d ref : String} {v : Value} (hZ : va_Z ref n d v (fun a => w.2.2.1 ≤ a) s w.2.2.2.1) (hR : hf_Rel w h H) (hown : s.vm.findClass own = some m.cls) (hlink : (Cond.fieldLink own idx ref n d).before args s = true) (hdg : decode cc pc = .ok (.getstatic idx, 3))
    (kk : W p l e R s m args below meth c H locs cells slots Q (F0 m (pc + 3) ls (v :: rest))) : W p l e R s m args below meth c H locs cells slots Q (F0 m pc ls rest) := by
  obtain ⟨cf, kf, fi, f, a, cell, h1, h2, h3, h4, h5, h6, h7, h8⟩ := hZ
  have h9 : H[a]? = some cell := by rw [hR.2.2.1 a (Nat.not_le.mp h8)]; exact h5
  exact W.gets hexec hb hown hlink h1 h2 h3 h4 h9 (fun e => by rw [e] at h6; cases h6) h7 rfl hdg kk
theorem hx_getsQ (o : hf_In C code own nL rt fr lc) (og : hf_G C gs) (i : Nat) {q : String × String × String} (hq : hf_stl[i]? = some q) (hl : Cond.fieldLink own idx q.1 q.2.1 q.2.2 ∈ lw_all) (hd : decode code pc = .ok (.getstatic idx, 3)) (kk : hf_J C dec P h (pc + 3) L (va_rf (gs.1 i) :: st)) : hf_J C dec P h pc L st := by
  obtain _ | ⟨p, l, e, R, s, m, args, below, meth, c, w, h0', fin, nL0, Q⟩ := C
  · exact kk
  intro t e1 e2
  obtain ⟨k1, k2⟩ := kk t e1 e2
  obtain ⟨o1, o2, o3, o4, o5, o6, o7, o8, o9, o10, o11, o12, o13, o14, o15, o16⟩ := o
  have og : w.2.2.2.2.2 = gs := og
  subst og
  exact ⟨k1, fun H locs cells slots ls a1 a2 a3 a4 a5 => hf_zgets o1 o2 (o13.2.2.2.2.1 i q hq) a1 o5 (o6 _ hl) hd (k2 H locs cells slots ls a1 a2 a3 a4 a5)⟩
theorem hx_getsA (o : hf_In C code own nL rt fr lc) (og : hf_G C gs) (i : Nat) {q : String × String × String} (hq : hf_stl[i]? = some q) (hl : Cond.fieldLink own idx q.1 q.2.1 q.2.2 ∈ lw_all) {K : Nat → Option τ} (hd : decode code pc = .ok (.getstatic idx, 3)) (kk : ∀ x : Nat, hf_J C dec (K x) h (pc + 3) L (.ref x :: st)) : hf_J C dec ((gs.1 i).bind K) h pc L st := by
  refine hx_getsQ o og i hq hl hd ?_
  cases gs.1 i with
  | none => exact hr_none
  | some x => exact kk x
/-- COMPACT_STRINGS -/
theorem hx_getsZ (o : hf_In C code own nL rt fr lc) (hl : Cond.fieldLink own idx "java/lang/String" "COMPACT_STRINGS" "Z" ∈ lw_all) (hd : decode code pc = .ok (.getstatic idx, 3)) (kk : hf_J C dec P h (pc + 3) L (.int 1 :: st)) : hf_J C dec P h pc L st := by
  obtain _ | ⟨p, l, e, R, s, m, args, below, meth, c, w, h0', fin, nL0, Q⟩ := C
  · exact kk
  intro t e1 e2
  obtain ⟨k1, k2⟩ := kk t e1 e2
  obtain ⟨o1, o2, o3, o4, o5, o6, o7, o8, o9, o10, o11, o12, o13, o14, o15, o16⟩ := o
  exact ⟨k1, fun H locs cells slots ls a1 a2 a3 a4 a5 => hf_zgets o1 o2 (o13.2.2.2.2.2.2.2.2.1) a1 o5 (o6 _ hl) hd (k2 H locs cells slots ls a1 a2 a3 a4 a5)⟩
theorem hx_ldcS (o : hf_In C code own nL rt fr lc) (og : hf_G C gs) (i : Nat) {tx : String} (hq : hf_strs[i]? = some (own, idx, tx)) (hd : decode code pc = .ok (.ldc idx, 2)) (kk : hf_J C dec P h (pc + 2) L (.ref (gs.2 i) :: st)) : hf_J C dec P h pc L st := by
  obtain _ | ⟨p, l, e, R, s, m, args, below, meth, c, w, h0', fin, nL0, Q⟩ := C
  · exact kk
  intro t e1 e2
  obtain ⟨k1, k2⟩ := kk t e1 e2
  obtain ⟨o1, o2, o3, o4, o5, o6, o7, o8, o9, o10, o11, o12, o13, o14, o15, o16⟩ := o
  have og : w.2.2.2.2.2 = gs := og
  subst og
  exact ⟨k1, fun H locs cells slots ls a1 a2 a3 a4 a5 => va_ldcS o1 o2 o5 (o13.2.2.2.2.2.1 i _ hq) hd (k2 H locs cells slots ls a1 a2 a3 a4 a5)⟩
theorem hx_ldcM (o : hf_In C code own nL rt fr lc) (og : hf_G C gs) (hl : Cond.classLink own idx "[Ljava/lang/Object;" ∈ lw_all) (hd : decode code pc = .ok (.ldc idx, 2)) (kk : hf_J C dec P h (pc + 2) L (.ref (gs.2 27) :: st)) : hf_J C dec P h pc L st := by
  obtain _ | ⟨p, l, e, R, s, m, args, below, meth, c, w, h0', fin, nL0, Q⟩ := C
  · exact kk
  intro t e1 e2
  obtain ⟨k1, k2⟩ := kk t e1 e2
  obtain ⟨o1, o2, o3, o4, o5, o6, o7, o8, o9, o10, o11, o12, o13, o14, o15, o16⟩ := o
  have og : w.2.2.2.2.2 = gs := og
  subst og
  exact ⟨k1, fun H locs cells slots ls a1 a2 a3 a4 a5 => va_ldcM o1 o2 o5 (o6 _ hl) o13.2.2.2.2.2.2.2.2.2 hd (k2 H locs cells slots ls a1 a2 a3 a4 a5)⟩
theorem hf_paO_cell {w : hf_W} {U : State} {n : Nat} {b : hf_B} {H : Heap} (hK : hf_K w U) (h : hf_at w a (.inr (.inl (0, .object "java/lang/Object", n, b))) H) : ∃ cell : Cell, H[a]? = some cell ∧ cell.vm.isStatics = false ∧ U.vm.findClass "[Ljava/lang/Object;" = some cell.cls := by
  have h1 := h.1 (by decide)
  refine ⟨_, h1, ?_, ?_⟩
  · cases b with
    | inl f => rfl
    | inr g => cases g with
      | inl f => rfl
      | inr f => rfl
  · have h2 := va_nmO (nm := "[Ljava/lang/Object;") (hK.2.1 (.object "java/lang/Object") (by simp [hf_tys])).2 (by decide +kernel)
    rw [h2]
    cases b with
    | inl f => rfl
    | inr g => cases g with
      | inl f => rfl
      | inr f => rfl
/-- an array of Objects that we made is at a -/
def hf_isO (h : hf_H) (a : Nat) : Bool := match h.1 a with
  | some (.inr (.inl (m, t, _, _))) => decide (m = 0 ∧ t = .object "java/lang/Object")
  | _ => false
theorem hf_isO_spec {h : hf_H} (e : hf_isO h a = true) : ∃ (n : Nat) (b : hf_B), h.1 a = some (.inr (.inl (0, .object "java/lang/Object", n, b))) := by
  unfold hf_isO at e
  split at e
  · next m t n b h1 =>
    obtain ⟨e1, e2⟩ := of_decide_eq_true e
    subst e1; subst e2
    exact ⟨n, b, h1⟩
  · cases e
theorem hx_getC (o : hf_In C code own nL rt fr lc) (og : hf_G C gs) (hl : Cond.methodLink own idx ⟨"java/lang/Object", "getClass", "()Ljava/lang/Class;"⟩ ∈ lw_all) (hfr : 1 ≤ fr) (hlc : (st.map fun v => v.category).sum + 14 ≤ lc) (hd : decode code pc = .ok (.invokevirtual idx, 3)) (kk : hf_J C dec P h (pc + 3) L (.ref (gs.2 27) :: st)) : hf_J C dec (if hf_isO h a then P else none) h pc L (.ref a :: st) := by
  by_cases hO : hf_isO h a = true
  · rw [if_pos hO]
    obtain ⟨n, b, hx⟩ := hf_isO_spec hO
    obtain _ | ⟨p, l, e, R, s, m, args, below, meth, c, w, h0', fin, nL0, Q⟩ := C
    · exact kk
    intro t e1 e2
    obtain ⟨k1, k2⟩ := kk t e1 e2
    obtain ⟨o1, o2, o3, o4, o5, o6, o7, o8, o9, o10, o11, o12, o13, o14, o15, o16⟩ := o
    have og : w.2.2.2.2.2 = gs := og
    subst og
    exact ⟨k1, fun H locs cells slots ls a1 a2 a3 a4 a5 => va_getC o1 o2 (o3.trans (o4.symm.trans a5.1.symm)) o5 (o6 _ hl) (va_Nw.use rfl (o13.2.2.1 _ q2063 rfl)) (o6 _ q2062) (o6 _ q682) (o6 _ q702) o13.2.2.2.2.2.2.2.2.2 (hf_paO_cell o13 (a1.2.2.2.1 a _ hx).1) (by rw [o9]; exact hfr) (by rw [o10]; exact hlc) hd (k2 H locs cells slots ls a1 a2 a3 a4 a5)⟩
  · rw [if_neg hO]; exact hr_none
theorem hx_castO (o : hf_In C code own nL rt fr lc) (hl : Cond.classLink own idx "[Ljava/lang/Object;" ∈ lw_all) (hd : decode code pc = .ok (.checkcast idx, 3)) (kk : hf_J C dec P h (pc + 3) L (.ref a :: st)) : hf_J C dec (if hf_isO h a then P else none) h pc L (.ref a :: st) := by
  by_cases hO : hf_isO h a = true
  · rw [if_pos hO]
    obtain ⟨n, b, hx⟩ := hf_isO_spec hO
    obtain _ | ⟨p, l, e, R, s, m, args, below, meth, c, w, h0', fin, nL0, Q⟩ := C
    · exact kk
    intro t e1 e2
    obtain ⟨k1, k2⟩ := kk t e1 e2
    obtain ⟨o1, o2, o3, o4, o5, o6, o7, o8, o9, o10, o11, o12, o13, o14, o15, o16⟩ := o
    refine ⟨k1, fun H locs cells slots ls a1 a2 a3 a4 a5 => ?_⟩
    obtain ⟨cell, g1, g2, g3⟩ := hf_paO_cell o13 (a1.2.2.2.1 a _ hx).1
    have hw := k2 H locs cells slots ls a1 a2 a3 a4 a5
    intro T hT X
    obtain ⟨vm', X', st9⟩ := X.checkcastYes o1 o5 (o6 _ hl) (by rw [hT]; exact g1) g2 g3 (va_asg _ _) (g := F0 m pc ls (.ref a :: st)) rfl rfl (by rw [o2]; exact hd)
    obtain ⟨t9, b1, b2⟩ := hw (T.setVm vm') hT X'
    exact ⟨t9, st9 t9 b1, b2⟩
  · rw [if_neg hO]; exact hr_none
/-- a constant String's fields -/
theorem hx_strV (o : hf_In C code own nL rt fr lc) (hl : Cond.fieldLink own idx "java/lang/String" "value" "[B" ∈ lw_all) {K : Nat → Option τ} (hd : decode code pc = .ok (.getfield idx, 3)) (kk : ∀ v : Nat, hf_J C dec (K v) h (pc + 3) L (.ref v :: st)) : hf_J C dec ((hf_st h a).bind K) h pc L (.ref a :: st) := by
  cases e : hf_st h a with
  | none => exact hr_none
  | some v =>
    obtain ⟨x9, hx⟩ := hf_st_spec e
    have kk := kk v
    show hf_J C dec (K v) h pc L _
    obtain _ | ⟨p, l, e, R, s, m, args, below, meth, c, w, h0', fin, nL0, Q⟩ := C
    · exact kk
    intro t e1 e2
    obtain ⟨k1, k2⟩ := kk t e1 e2
    obtain ⟨o1, o2, o3, o4, o5, o6, o7, o8, o9, o10, o11, o12, o13, o14, o15, o16⟩ := o
    refine ⟨k1, fun H locs cells slots ls a1 a2 a3 a4 a5 => ?_⟩
    obtain ⟨cell, g1, g2, g9, -⟩ := (a1.2.2.2.1 a _ hx).1
    obtain ⟨g3, g4, g5, g6⟩ := g9 v rfl
    obtain ⟨cf, kf, fi, fd, f1, f2, f3⟩ := o13.2.2.2.1.2.1
    exact W.getf o1 o2 o5 (o6 _ hl) f1 f2 g1 g2 (by rw [f3]; exact g5) rfl rfl hd (k2 H locs cells slots ls a1 a2 a3 a4 a5)
theorem hx_strC (o : hf_In C code own nL rt fr lc) (hl : Cond.fieldLink own idx "java/lang/String" "coder" "B" ∈ lw_all) {K : Nat → Option τ} (hd : decode code pc = .ok (.getfield idx, 3)) (kk : ∀ v : Nat, hf_J C dec (K v) h (pc + 3) L (.int 0 :: st)) : hf_J C dec ((hf_st h a).bind K) h pc L (.ref a :: st) := by
  cases e : hf_st h a with
  | none => exact hr_none
  | some v =>
    obtain ⟨x9, hx⟩ := hf_st_spec e
    have kk := kk v
    show hf_J C dec (K v) h pc L _
    obtain _ | ⟨p, l, e, R, s, m, args, below, meth, c, w, h0', fin, nL0, Q⟩ := C
    · exact kk
    intro t e1 e2
    obtain ⟨k1, k2⟩ := kk t e1 e2
    obtain ⟨o1, o2, o3, o4, o5, o6, o7, o8, o9, o10, o11, o12, o13, o14, o15, o16⟩ := o
    refine ⟨k1, fun H locs cells slots ls a1 a2 a3 a4 a5 => ?_⟩
    obtain ⟨cell, g1, g2, g9, -⟩ := (a1.2.2.2.1 a _ hx).1
    obtain ⟨g3, g4, g5, g6⟩ := g9 v rfl
    obtain ⟨cf, kf, fi, fd, f1, f2, f3⟩ := o13.2.2.2.1.2.2.1
    exact W.getf o1 o2 o5 (o6 _ hl) f1 f2 g1 g2 (by rw [f3]; exact g6) rfl rfl hd (k2 H locs cells slots ls a1 a2 a3 a4 a5)
theorem hx_copyO (o : hf_In C code own nL rt fr lc) (hl : Cond.methodLink own idx arraycopyName ∈ lw_all) (hini : Cond.initialized "java/lang/System" ∈ lw_all) (hfr : 1 ≤ fr) {a0 : Nat} {sp dp n : Int32} (hlc : (st.map fun v => v.category).sum + (nativeFrameWords "java/lang/System" "arraycopy" 5 + 11) ≤ lc) {K : hf_H → Option τ} (hd : decode code pc = .ok (.invokestatic idx, 3)) (kk : ∀ g : hf_H, hf_J C dec (K g) g (pc + 3) L st) : hf_J C dec ((hf_cpO h a0 sp a dp n).bind K) h pc L (.int n :: .int dp :: .ref a :: .int sp :: .ref a0 :: st) := by
  cases e : hf_cpO h a0 sp a dp n with
  | none => exact hr_none
  | some g =>
    have kk := kk g
    show hf_J C dec (K g) h pc L _
    unfold hf_cpO at e
    split at e
    · next m0 t0 n0 f m1 t1 n1 g9 hx0 hx1 =>
      split at e
      · next hc =>
        obtain ⟨⟨rfl, rfl, rfl, rfl⟩, h1, h2, h3, h4, h5, hel⟩ := hc
        cases e
        obtain _ | ⟨p, l, e, R, s, m, args, below, meth, c, w, h0', fin, nL0, Q⟩ := C
        · exact kk
        intro t e1 e2
        obtain ⟨k1, k2⟩ := kk t e1 e2
        obtain ⟨o1, o2, o3, o4, o5, o6, o7, o8, o9, o10, o11, o12, o13, o14, o15, o16⟩ := o
        refine ⟨k1, fun H locs cells slots ls a1 a2 a3 a4 a5 => ?_⟩
        have nn : ∀ z : Int32, ¬ z < 0 → z.toInt = (z.toNatClampNeg : Int) := by
          intro z hz
          have hz0 : (0 : Int) ≤ z.toInt := by
            have := Int32.not_lt.mp hz
            simpa using Int32.le_iff_toInt_le.mp this
          show z.toInt = ((z.toInt.toNat : Nat) : Int)
          omega
        intro T hT X
        have hat1 := a1.2.2.2.1 a _ hx1
        have hc0 : H[a0]? = some (vp_cell (w.2.1 (.object "java/lang/Object")) (n0, .inr (.inr (.inr (.inr f))))) := (a1.2.2.2.1 a0 _ hx0).1.1 (by decide)
        have hc1 : H[a]? = some (vp_cell (w.2.1 (.object "java/lang/Object")) (n1, .inr (.inr (.inr (.inr g9))))) := hat1.1.1 (by decide)
        have hmem : FieldType.object "java/lang/Object" ∈ hf_tys := by simp [hf_tys]
        obtain ⟨-, k0, hk0, cm0, hkk0⟩ := hf_tyK o13 hmem n0 (fun j => va_rf (f j))
        obtain ⟨-, k9, hk9, cm9, hkk9⟩ := hf_tyK o13 hmem n1 (fun j => va_rf (g9 j))
        obtain ⟨vm', X', step⟩ := X.arraycopy o1 o5 (o6 _ hl) (o6 _ q713) (o6 _ q712) (o6 _ hini) (src := a0) (dst := a) (cs := vp_cell (w.2.1 (.object "java/lang/Object")) (n0, .inr (.inr (.inr (.inr f))))) (cd := vp_cell (w.2.1 (.object "java/lang/Object")) (n1, .inr (.inr (.inr (.inr g9))))) (srcPos := sp) (destPos := dp) (n := n) (by rw [hT]; exact hc0) (by rw [hT]; exact hc1)
          (fun _ h => by cases h) (fun _ h => by cases h) (fun h => by cases h) (fun h => by cases h) hk0 hk9 hkk0 hkk9 rfl h1 h2 h3
          (by rw [nn sp h1, nn n h3]; show ¬ _ > ((arrV _ n0 (fun j => va_rf (f j))).slots.size : Int); rw [arrV_size]; omega)
          (by rw [nn dp h2, nn n h3]; show ¬ _ > ((arrV _ n1 (fun j => va_rf (g9 j))).slots.size : Int); rw [arrV_size]; omega)
          (fun vm₁ hal i hi => by
            have e : (vp_cell (w.2.1 (.object "java/lang/Object")) (n0, .inr (.inr (.inr (.inr f))))).slots.getD (sp.toNatClampNeg + i) .null = va_rf (f (sp.toNatClampNeg + i)) := by
              show (arrV _ n0 (fun j => va_rf (f j))).slots.getD _ _ = _
              rw [Array.getD_eq_getD_getElem?, arrV_read _ _ (by omega)]
              rfl
            rw [e]
            have hel9 := List.all_eq_true.mp hel i (List.mem_range.mpr hi)
            cases hy : f (sp.toNatClampNeg + i) with
            | none => exact ⟨rfl, trivial⟩
            | some y =>
              rw [hy] at hel9
              obtain ⟨cellV, g1, g2, ⟨kC, hkC⟩, hasg⟩ := hf_okv_any o13 a1 hel9
              obtain ⟨kA, comp, r1, r2, r3, -⟩ := (o13.2.1 (.object "java/lang/Object") hmem).2
              cases hk9.symm.trans r1
              cases hkk9.symm.trans r2
              obtain ⟨kE, hkE, -⟩ := Vm.findClass_spec r3
              obtain ⟨kC', hkC', -⟩ := hal.2.2 _ _ hkC
              obtain ⟨kE', hkE', -⟩ := hal.2.2 _ _ hkE
              refine ⟨rfl, cellV, (show T.heap[y]? = some cellV by rw [hT]; exact g1), (fun q h => by rw [h] at g2; cases g2), ⟨kC', hkC'⟩, ?_, ?_⟩
              · exact ⟨kE', hkE'⟩
              · show vm₁.assignable _ _ = true
                rw [hal.assignable]
                exact hasg _ r3)
          (g := F0 m pc ls (.int n :: .int dp :: .ref a :: .int sp :: .ref a0 :: st)) rfl (by rw [o3, ← o4]; exact a5.1) (rest := st) rfl (by rw [o2]; exact hd) (by rw [o9]; exact hfr) (by rw [o10]; show 2 * 0 + _ + _ ≤ _; omega)
        have e1 : copied (vp_cell (w.2.1 (.object "java/lang/Object")) (n0, .inr (.inr (.inr (.inr f))))) (vp_cell (w.2.1 (.object "java/lang/Object")) (n1, .inr (.inr (.inr (.inr g9))))) sp dp n = vp_cell (w.2.1 (.object "java/lang/Object")) (n1, .inr (.inr (.inr (.inr (va_cpy f g9 sp.toNatClampNeg dp.toNatClampNeg n.toNatClampNeg))))) := by
          rw [vp_cell_q, vp_cell_q, vp_cell_q]
          exact va_copied (fun z => va_rf z) _ _ f g9 h4
        rw [e1] at X' step
        have hl : a < H.size := (Array.getElem?_eq_some_iff.mp hc1).1
        generalize hcell : vp_cell (w.2.1 (.object "java/lang/Object")) (n1, .inr (.inr (.inr (.inr (va_cpy f g9 sp.toNatClampNeg dp.toNatClampNeg n.toNatClampNeg))))) = cN at X' step
        have hheap : ((T.setVm vm').setCell a cN).heap = H.setIfInBounds a cN := by rw [← hT]; rfl
        have oq : ∀ q : Nat, q ≠ a → (H.setIfInBounds a cN)[q]? = H[q]? := fun q hq => by simp [Array.getElem?_setIfInBounds, Ne.symm hq]
        obtain ⟨t9, b1, b2⟩ := k2 (H.setIfInBounds a cN) _ cells slots ls (a1.set hx1 rfl (fun q => Iff.rfl) rfl (by
            refine ⟨fun _ => ?_, fun e => by cases e⟩
            rw [show hf_bx n1 (.inr (.inr (va_cpy f g9 sp.toNatClampNeg dp.toNatClampNeg n.toNatClampNeg))) = (n1, .inr (.inr (.inr (.inr (va_cpy f g9 sp.toNatClampNeg dp.toNatClampNeg n.toNatClampNeg))))) from rfl, hcell]
            simp [Array.getElem?_setIfInBounds, hl]) (by simp) (fun q hq => oq q hq)) (fun q hq => by
            rcases List.mem_append.mp hq with h | h
            · exact a2 q h
            · obtain ⟨z, -, hz⟩ := List.mem_map.mp h
              rw [← hz]
              exact hat1.2 rfl) a3 a4 a5 _ hheap X'
        exact ⟨t9, step t9 b1, b2⟩
      · cases e
    · cases e
end HS
