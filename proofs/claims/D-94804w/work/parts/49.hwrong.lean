set_option maxRecDepth 100000
set_option maxHeartbeats 4000000
/-! new Wrong(): the one exception's object (no traces kept) -/
/-- the words of a throwable's making -/
def hf_wW : List Cond := [.instantiable RX3 7, .selects RX3 Bundle.tFill0 Bundle.tFill0, .selects RX3 Bundle.tFill Bundle.tFill, .lays RX3 Bundle.tN "cause" "Ljava/lang/Throwable;", .lays RX3 Bundle.tN "stackTrace" Bundle.steD, .lays RX3 Bundle.tN "suppressedExceptions" Bundle.listD, .fieldLink Bundle.tN 198 Bundle.tN "backtrace" "Ljava/lang/Object;", .lays Bundle.tN Bundle.tN "backtrace" "Ljava/lang/Object;", .lays RX3 Bundle.tN "backtrace" "Ljava/lang/Object;"]
section VXK
variable {p : Program} {l : Launch} {e : Env} {R : Room} {s : State} {m₀ : MethodId} {args : Array Value} {below : List Frame} {meth : Method} {c : Code} {W : State} {locs : List Loc} {cells slots : Nat}
theorem hf_ctorW (X : Stand p l e R s m₀ args below meth c W locs cells slots) (hexec : p.tables.exec = Jvm.exec) (htr : e.platform.stackTraces = false) {own host : String} {ic : Nat} {u0 sen : RefV}
    (hown : s.vm.findClass own = some m₀.cls)
    (hT : ∀ a ∈ Bundle.throwableAtoms, a.before args s = true) (hC : ∀ a ∈ Bundle.chain0Atoms RX3 ["java/lang/Exception"], a.before args s = true) (hA : ∀ a ∈ hf_wW, a.before args s = true) (hlink : (Cond.methodLinkNest own ic (Bundle.init0 RX3) host).before args s = true)
    (hst : ∀ (T : ThrowableC) (Z : Init0T), Bundle.Ties T Z s → T.Links e.platform s → ∃ cellS : Cell, W.heap[T.aS]? = some cellS ∧ cellS.vm.isStatics = true ∧ cellS.slots[T.fUnassigned.slot]? = some u0.v ∧ cellS.slots[T.fSentinel.slot]? = some sen.v)
    {a : Addr} {cX : ClassId} {kX : Class} (hfoundX : s.vm.findClass RX3 = some cX) (hkX : s.vm.classes[cX]? = some kX) (hcell : W.heap[a]? = some (freshCell cX kX)) (hnew : ∀ (q : Addr) (cell : Cell), W.heap[q]? = some cell → cell.vm.isStatics = true → q ≠ a)
    {g : JFrame} (hg : g.method = m₀) (hsize : g.locals.size = c.maxLocals) {rest : List Value} (hstack : g.stack = .ref a :: .ref a :: rest)
    (hd6 : decode c.code g.pc = .ok (.invokespecial ic, 3))
    (hRframes : 4 < R.frames) (hRlocals : 2 * g.monitorRoom + ((Value.ref a :: rest).map fun v => v.category).sum + 67 ≤ R.locals) :
    ∃ (V : State) (i1 i2 i3 : Nat) (L : List Loc), V.heap = W.heap ∧ Stand p l e R s m₀ args below meth c (V.setCell a (((((freshCell cX kX).setSlot i1 (.ref a)).setSlot i2 u0.v).setSlot i3 sen.v).setSlot i2 u0.v)) (locs ++ L) cells slots ∧ (∀ y ∈ L, y.base = a) ∧ a < V.heap.size ∧
      SlotIs s Bundle.tN "cause" "Ljava/lang/Throwable;" i1 ∧ SlotIs s Bundle.tN "stackTrace" Bundle.steD i2 ∧ SlotIs s Bundle.tN "suppressedExceptions" Bundle.listD i3 ∧
      ∀ target, Steps p.tables e below ((V.setCell a (((((freshCell cX kX).setSlot i1 (.ref a)).setSlot i2 u0.v).setSlot i3 sen.v).setSlot i2 u0.v)).setTop { g with stack := .ref a :: rest, pc := g.pc + 3 }) target → Steps p.tables e below (W.setTop g) target := by
  have howns : e.platform.frameOwnsMonitors = true := by rw [X.admits.platform]
  have hfin : e.platform.finalization = false := by rw [X.admits.platform]
  have hpl : e.platform.magicAccessors = ({} : Platform).magicAccessors := by rw [X.admits.platform]
  have a' : ∀ x, x ∈ hf_wW → x.holds args s none s [] = true := fun x hx => hA x hx
  have hcls : Bundle.fit RX3 = true := by decide +kernel
  obtain ⟨T, Z, L, LZ, Y⟩ := ThrowableC.of_atoms (args := args) howns hfin hpl hT
  obtain ⟨P1, Ps, hlen, L1, hL, hP1m, hlink1, hlink9⟩ := Bundle.chain0 (args := args) hpl Y.init0 ["java/lang/Exception"] RX3 hcls (fun n hn => by rw [List.mem_singleton.mp hn]; decide +kernel) hC
  have hfound : s.vm.findClass RX3 = some P1.m.cls := findClass_of_methodNamed hP1m
  cases Option.some.inj (hfoundX.symm.trans hfound)
  obtain ⟨c1, kX', hc1, hk, hord, -, -, hn6⟩ := Cond.instantiable_spec (a' (.instantiable RX3 7) (by simp [hf_wW]))
  cases Option.some.inj (hc1.symm.trans hfound)
  cases Option.some.inj (hkX.symm.trans hk)
  have hsel0 : selectMethod e.platform s.vm P1.m.cls T.fill0 = .method T.fill0 := by
    obtain ⟨c2, r2, m2, q1, q2, q3, q4, -⟩ := Cond.selects_spec (a' (.selects RX3 Bundle.tFill0 Bundle.tFill0) (by simp [hf_wW]))
    cases Option.some.inj (q1.symm.trans hfound)
    cases Option.some.inj (q2.symm.trans (State.methodFound?_of_named Y.fill0 (by decide)))
    cases Option.some.inj (q3.symm.trans Y.fill0)
    rw [Launch.admits_selectMethod X.admits]; exact q4
  have hselF : selectMethod e.platform s.vm P1.m.cls T.fill = .method T.fill := by
    obtain ⟨c2, r2, m2, q1, q2, q3, q4, -⟩ := Cond.selects_spec (a' (.selects RX3 Bundle.tFill Bundle.tFill) (by simp [hf_wW]))
    cases Option.some.inj (q1.symm.trans hfound)
    cases Option.some.inj (q2.symm.trans (State.methodFound?_of_named Y.fill (by decide)))
    cases Option.some.inj (q3.symm.trans Y.fill)
    rw [Launch.admits_selectMethod X.admits]; exact q4
  obtain ⟨cellS, hcS, hiss, hu0, hsen⟩ := hst T Z Y L
  obtain ⟨ci198, i198, fB, hk198, hg198, ha198, hsB, -, hnB, htB, hffB⟩ := Cond.ownField (t := .object "java/lang/Object") Y.found L.cls (by decide +kernel) (a' (.fieldLink Bundle.tN 198 Bundle.tN "backtrace" "Ljava/lang/Object;") (by simp [hf_wW])) (a' (.lays Bundle.tN Bundle.tN "backtrace" "Ljava/lang/Object;") (by simp [hf_wW])) e.platform hpl
  have hknownS : cellS.vm ≠ .unknown := by
    intro hu
    rw [hu] at hiss
    cases hiss
  have hneS : T.aS ≠ a := hnew _ _ hcS hiss
  obtain ⟨tyC, dC, hdC, hdnC⟩ := Cond.laysAt hfound hk Y.cause (a' (.lays RX3 Bundle.tN "cause" "Ljava/lang/Throwable;") (by simp [hf_wW]))
  obtain ⟨tyS, dS, hdS, hdnS⟩ := Cond.laysAt hfound hk Y.stack (a' (.lays RX3 Bundle.tN "stackTrace" Bundle.steD) (by simp [hf_wW]))
  obtain ⟨tyP, dP, hdP, hdnP⟩ := Cond.laysAt hfound hk Y.supp (a' (.lays RX3 Bundle.tN "suppressedExceptions" Bundle.listD) (by simp [hf_wW]))
  obtain ⟨tyB, dB, hdB, hdnB⟩ := Cond.laysAt hfound hk hffB (a' (.lays RX3 Bundle.tN "backtrace" "Ljava/lang/Object;") (by simp [hf_wW]))
  have bC := Cond.laysApart hdB hdC hdnB hdnC (by rw [hnB, Y.causeName]; decide)
  have bS := Cond.laysApart hdB hdS hdnB hdnS (by rw [hnB, Y.stackName]; decide)
  have bP := Cond.laysApart hdB hdP hdnB hdnP (by rw [hnB, Y.suppName]; decide)
  have hskip : SkipFacts T e.platform s (fun u => u) u0 ((preparedCellV T.toThrowableT (freshCell P1.m.cls kX) a u0 sen).withEntry W.cur) :=
    ⟨{ ci198 := ci198, i198 := i198, fBack := fB }, ⟨hk198, hg198, ha198, hsB⟩, by
      have := fresh_default (c := P1.m.cls) tyB
      rw [htB] at this
      simpa [preparedCellV, Cell.setSlot, Cell.withEntry, Array.getElem?_setIfInBounds, bC, bS, bP, bC.symm, bS.symm, bP.symm, defaultValue] using this, fun _ _ => rfl⟩
  obtain ⟨tm, methC, cdC, kC, vm₁, hnC, -, -, -, -, -, -, -, hW₁, st1⟩ := Steps.initColdArgsNest (tb := p.tables) (e := e) (below := below) (s := s) (U := W) X.here hexec X.warmed hpl hown (t := Bundle.init0 RX3) rfl (Bundle.fit_spec hcls).2
    (args := args) (bytes := Bundle.five) (maxL := 1) hlink (hC (.instanceMethod (Bundle.init0 RX3)) (by simp [Bundle.chain0Atoms, Bundle.passAtoms])) (hC (.code (Bundle.init0 RX3) Bundle.five 1 none) (by simp [Bundle.chain0Atoms, Bundle.passAtoms]))
    (f := g) hg (a := a) (argsL := []) (rest := .ref a :: rest) (fun sig h => by
      have h9 : parseMethodDescriptor "()V" = some sig := h
      have h8 : (parseMethodDescriptor "()V").map (fun d => d.parameters.length) = some 0 := by decide +kernel
      rw [h9] at h8
      exact (Option.some.inj h8).symm) hstack hd6
  cases Option.some.inj (hnC.symm.trans hP1m)
  have X₁ := X.noted hW₁
  obtain ⟨vm₂, X₂, st2⟩ := X₁.ctorPlainOffV hexec (g := { g with stack := .ref a :: rest }) hg hsize T L Z LZ (P1 :: Ps)
    (fun P hP => by rcases List.mem_cons.mp hP with rfl | hP; exact L1; exact hL P hP) ⟨hlink1, hlink9⟩ (u0 := u0) (sen := sen) (self := a) (cell := freshCell P1.m.cls kX) (cellS := cellS)
    hcell (fun _ => by simp) (by simp) rfl rfl hsel0 hselF hcS hneS hknownS hu0 hsen
    (Takes.of_laid hk hord tyC (by rw [Y.causeType]; rfl)) (Takes.of_laid hk hord tyS (by rw [Y.stackType]; exact fits_refV_array _ u0)) (Takes.of_laid hk hord tyP (by rw [Y.suppType]; exact fits_refV_object _ sen)) Y.objLocals hskip htr [] hd6
    (by simp only [List.length_cons, hlen, List.length_nil]; omega) (by simp only [List.length_cons, hlen, List.length_nil]; exact hRlocals)
  have hlt : a < ((W.setVm vm₁).setVm vm₂).heap.size := (Array.getElem?_eq_some_iff.mp hcell).1
  refine ⟨(W.setVm vm₁).setVm vm₂, T.fCause.slot, T.fStack.slot, T.fSupp.slot, _, rfl, X₂, fun y hy => ?_, hlt, ⟨_, _, _, _, Y.cause, rfl⟩, ⟨_, _, _, _, Y.stack, rfl⟩, ⟨_, _, _, _, Y.supp, rfl⟩, fun target hwalk => st1 _ (fun acts => ?_)⟩
  · simp only [List.mem_cons, List.not_mem_nil, or_false] at hy
    rcases hy with rfl | rfl | rfl | rfl <;> rfl
  · rw [doInvoke_state]
    exact st2 _ hwalk
end VXK
/-- what the made object holds -/
def hf_VW (a : Nat) (gs : hf_gs) : hf_V := (fun _ => 0, fun _ => 0, fun k => match k with
  | 0 => some a
  | 1 => gs.1 4
  | 2 => gs.1 5
  | _ => none, fun _ _ => 0, fun _ _ => 0, fun _ _ => none)
theorem hf_rfV (x : Option Nat) : (va_rf x).isRef = true := by
  cases x <;> rfl
section HW
variable {τ : Type} {C : hf_X} {dec : τ → Outcome × hf_H} {P : Option τ} {h : hf_H} {pc : Nat} {L : List (Nat × Value)} {st : List Value} {code : ByteArray} {own : String} {nL : Nat} {rt : Option FieldType} {fr lc : Nat} {gs : hf_gs}
theorem hx_newW (o : hf_In C code RX0 nL rt fr lc) (og : hf_G C gs) (hfr : 4 < fr) (hlc : (st.map fun v => v.category).sum + 70 ≤ lc) (d0 : decode code pc = .ok (.new 35, 3)) (d3 : decode code (pc + 3) = .ok (.dup, 1)) (d4 : decode code (pc + 4) = .ok (.invokespecial 37, 3)) {K : Nat → hf_H → Option τ} (kk : ∀ (a : Nat) (g : hf_H), hf_J C dec (K a g) g (pc + 7) L (.ref a :: st)) : hf_J C dec (hf_mk h (.inl (0, 3, hf_VW h.2.1 gs)) 7 K) h pc L st := by
  have kk := kk h.2.1 (hf_nw h (.inl (0, 3, hf_VW h.2.1 gs)) 7)
  obtain _ | ⟨p, l, e, R, s, m, args, below, meth, c, w, h0, fin, nL0, Q⟩ := C
  · intro t e1
    obtain ⟨k1, k2⟩ := kk t e1
    exact ⟨Nat.le_trans (Nat.le_succ _) k1, Nat.le_trans (Nat.le_add_right _ _) k2⟩
  intro t e1 e2
  obtain ⟨⟨k1, k3⟩, k2⟩ := kk t e1 e2
  obtain ⟨o1, o2, o3, o4, o5, o6, o7, o8, o9, o10, o11, o12, o13, o14, o15, o16⟩ := o
  have og : w.2.2.2.2.2 = gs := og
  subst og
  have k1' : h.2.1 + 1 ≤ fin.2.2.1 := k1
  have k3' : h.2.2 + 7 ≤ fin.2.2.2 := k3
  refine ⟨⟨by omega, by omega⟩, fun H locs cells slots ls a1 a2 a3 a4 a5 => ?_⟩
  have hw := fun H1 hR => k2 H1 locs (cells + 1) (slots + 7) ls hR a2 (show h0.2.1 + (cells + 1) = h.2.1 + 1 by omega) (show h0.2.2 + (slots + 7) = h.2.2 + 7 by omega) a5
  intro T hT X
  subst hT
  have htr : e.platform.stackTraces = false := (show e.platform.stackTraces = l.stackTraces by rw [X.admits.platform]).trans o14
  have Y := vx_rebase X (R' := { frames := R.frames, locals := R.locals, cells := 1, slots := 7 }) (Nat.le_refl _) (Nat.le_refl _) (by show cells + 1 ≤ R.cells; omega) (by show slots + 7 ≤ R.slots; omega)
  obtain ⟨s', hA'⟩ : ∃ z, z = (T.setVm s.vm).setFrames (.invoking m args :: below) := ⟨_, rfl⟩
  rw [← hA'] at Y
  have hvm : s'.vm = s.vm := by rw [hA']; rfl
  have hhp : s'.heap = T.heap := by rw [hA']; rfl
  have hW0 : s.WarmedH s'.vm := by rw [hvm]; exact State.WarmedH.refl s
  have hK' : hf_K w s' := hf_K.moved hW0 o13
  have key : ∀ x : Cond, vx_ot x = true → x ∈ lw_all → x.before args s' = true := fun x hx hm => vx_ot_at hW0 hvm.symm hx (o6 x hm)
  have hbelow : ∀ q : Nat, q < w.2.2.1 → T.heap[q]? = w.2.2.2.1[q]? := a1.2.2.1
  have hZU : vx_Zq Bundle.tN "UNASSIGNED_STACK" Bundle.steD (fun a => w.2.2.1 ≤ a) s' s'.heap := by
    rw [hhp]
    exact (hK'.2.2.2.2.2.2.1).kept (fun a _ ha => hbelow a (Nat.not_le.mp ha))
  have hZN : vx_Zq Bundle.tN "SUPPRESSED_SENTINEL" Bundle.listD (fun a => w.2.2.1 ≤ a) s' s'.heap := by
    rw [hhp]
    exact (hK'.2.2.2.2.2.2.2.1).kept (fun a _ ha => hbelow a (Nat.not_le.mp ha))
  have hTh : ∀ a ∈ Bundle.throwableAtoms, a.before args s' = true := by
    unfold Bundle.throwableAtoms
    refine List.forall_mem_cons.mpr ⟨key _ rfl q159, List.forall_mem_cons.mpr ⟨key _ rfl q339, List.forall_mem_cons.mpr ⟨key _ rfl q348, List.forall_mem_cons.mpr ⟨key _ rfl q350, List.forall_mem_cons.mpr ⟨key _ rfl q353, List.forall_mem_cons.mpr ⟨key _ rfl q355, List.forall_mem_cons.mpr ⟨key _ rfl q340, List.forall_mem_cons.mpr ⟨key _ rfl q341, List.forall_mem_cons.mpr ⟨key _ rfl q194, List.forall_mem_cons.mpr ⟨key _ rfl q195, List.forall_mem_cons.mpr ⟨key _ rfl q342, List.forall_mem_cons.mpr ⟨key _ rfl q347, List.forall_mem_cons.mpr ⟨key _ rfl q351, List.forall_mem_cons.mpr ⟨key _ rfl q365, List.forall_mem_cons.mpr ⟨key _ rfl q329, List.forall_mem_cons.mpr ⟨key _ rfl q366, List.forall_mem_cons.mpr ⟨key _ rfl q331, List.forall_mem_cons.mpr ⟨key _ rfl q367, List.forall_mem_cons.mpr ⟨key _ rfl q333, List.forall_mem_cons.mpr ⟨key _ rfl q343, List.forall_mem_cons.mpr ⟨hZU.2.word, List.forall_mem_cons.mpr ⟨key _ rfl q345, List.forall_mem_cons.mpr ⟨hZN.2.word, List.forall_mem_cons.mpr ⟨key _ rfl q335, fun _ h => absurd h List.not_mem_nil⟩⟩⟩⟩⟩⟩⟩⟩⟩⟩⟩⟩⟩⟩⟩⟩⟩⟩⟩⟩⟩⟩⟩⟩
  have hCh : ∀ a ∈ Bundle.chain0Atoms RX3 ["java/lang/Exception"], a.before args s' = true := by
    unfold Bundle.chain0Atoms Bundle.chain0Atoms Bundle.passAtoms
    refine List.forall_mem_cons.mpr ⟨key _ rfl q357, List.forall_mem_cons.mpr ⟨key _ rfl q358, List.forall_mem_cons.mpr ⟨key _ rfl q359, List.forall_mem_cons.mpr ⟨key _ rfl q360, List.forall_mem_cons.mpr ⟨va_Nw.use rfl (hK'.2.2.1 _ q322 rfl), List.forall_mem_cons.mpr ⟨key _ rfl q360, List.forall_mem_cons.mpr ⟨key _ rfl q361, List.forall_mem_cons.mpr ⟨key _ rfl q362, List.forall_mem_cons.mpr ⟨key _ rfl q340, List.forall_mem_cons.mpr ⟨va_Nw.use rfl (hK'.2.2.1 _ q324 rfl), fun _ h => absurd h List.not_mem_nil⟩⟩⟩⟩⟩⟩⟩⟩⟩⟩
  have hAt : ∀ a ∈ hf_wW, a.before args s' = true := by
    unfold hf_wW
    refine List.forall_mem_cons.mpr ⟨key _ rfl q320, List.forall_mem_cons.mpr ⟨key _ rfl q326, List.forall_mem_cons.mpr ⟨key _ rfl q327, List.forall_mem_cons.mpr ⟨key _ rfl q328, List.forall_mem_cons.mpr ⟨key _ rfl q330, List.forall_mem_cons.mpr ⟨key _ rfl q332, List.forall_mem_cons.mpr ⟨key _ rfl q338, List.forall_mem_cons.mpr ⟨key _ rfl q337, List.forall_mem_cons.mpr ⟨key _ rfl q336, fun _ h => absurd h List.not_mem_nil⟩⟩⟩⟩⟩⟩⟩⟩⟩
  have hown' : s'.vm.findClass RX0 = some m.cls := by rw [hvm]; exact o5
  obtain ⟨vm₁, cX, kX, hfX, hkX, -, -, X₁, st1⟩ := Y.newCold o1 (own := RX0) (C := RX3) (index := 35) (n := 7) hown' (key _ rfl q319) (key _ rfl q320) (key _ rfl q161)
    (g := F0 m pc ls st) rfl (by rw [o2]; exact d0) (Nat.le_refl _) (Nat.le_refl _)
  generalize hT1 : (T.setVm vm₁).pushCell { cls := cX, slots := kX.instanceTypes.map defaultValue, vm := .none } = T1 at X₁ st1
  have hcat : (Value.ref T.heap.size).category = 1 := rfl
  have hcellA : T1.heap[T.heap.size]? = some (freshCell cX kX) := by rw [← hT1]; exact State.heap_pushCell_size _ _
  have hT1q : ∀ q, q < T.heap.size → T1.heap[q]? = T.heap[q]? := fun q hq => by
    rw [← hT1]
    show (T.heap.push _)[q]? = _
    rw [Array.getElem?_push, if_neg (Nat.ne_of_lt hq)]
  have d3' : decode c.code (pc + 3) = .ok (.dup, 1) := by rw [o2]; exact d3
  obtain ⟨V, i1, i2, i3, Lw, hVW, Z, hL, hlt, hs1, hs2, hs3, stw⟩ := hf_ctorW X₁ o1 htr (own := RX0) (host := "HalfFair") (ic := 37) (u0 := ⟨va_rf (w.2.2.2.2.2.1 4), hf_rfV _⟩) (sen := ⟨va_rf (w.2.2.2.2.2.1 5), hf_rfV _⟩) hown' hTh hCh hAt (va_Nw.use rfl (hK'.2.2.1 _ q356 rfl))
    (fun Th Zi Ti Li => by
      obtain ⟨cf, kf, fi, f, a, cell, g1, g2, g3, g4, g5, g6, g7, g8⟩ := hK'.2.2.2.2.1 4 _ rfl
      obtain ⟨cf', kf', fi', f', a', cell', g1', g2', g3', g4', g5', g6', g7', g8'⟩ := hK'.2.2.2.2.1 5 _ rfl
      have e1 := Option.some.inj (Ti.unassigned.symm.trans g1)
      have e2 := Option.some.inj (Ti.sentinel.symm.trans g1')
      simp only [Prod.mk.injEq] at e1 e2
      obtain ⟨-, ek, -, ef⟩ := e1
      obtain ⟨-, ek', -, ef'⟩ := e2
      have ea : Th.aS = a := Option.some.inj (Li.statics.symm.trans (by rw [ek]; exact g4))
      have ea' : Th.aS = a' := Option.some.inj (Li.statics.symm.trans (by rw [ek']; exact g4'))
      rw [← ea] at g5 g8
      rw [← ea'] at g5' g8'
      cases g5.symm.trans g5'
      have hq := hbelow Th.aS (Nat.not_le.mp g8)
      have hqs : Th.aS < T.heap.size := Nat.lt_of_lt_of_le (Nat.not_le.mp g8) a1.2.1
      exact ⟨cell, by rw [hT1q _ hqs, hq]; exact g5, g6, by rw [ef]; exact g7, by rw [ef']; exact g7'⟩) hfX hkX hcellA
    (fun q cell hq hst he => by
      subst he
      rw [hcellA] at hq
      cases hq
      cases hst)
    (g := { method := m, pc := pc + 4, locals := ls, stack := .ref T.heap.size :: .ref T.heap.size :: st, locked := none }) rfl (a5.1.trans (o4.trans o3.symm)) (rest := st) rfl
    (by rw [o2]; exact d4) (by rw [o9]; exact hfr) (by show _ ≤ R.locals; rw [o10]; simp only [List.map_cons, List.sum_cons, hcat]; omega)
  have Z0 := Stand.forget (locs := []) Z (fun y hy => by rw [hL y hy, hhp]; exact Nat.le_refl _)
  obtain ⟨f1, f2⟩ := vx_frame Z0.same
  rw [hhp] at f1 f2
  generalize hce : ((((freshCell cX kX).setSlot i1 (.ref T.heap.size)).setSlot i2 (va_rf (w.2.2.2.2.2.1 4))).setSlot i3 (va_rf (w.2.2.2.2.2.1 5))).setSlot i2 (va_rf (w.2.2.2.2.2.1 4)) = ce at Z Z0 f1 f2 stw
  have hh : (V.setCell T.heap.size ce).heap[T.heap.size]? = some ce := heapAt_setCell_self (s := V) ce hlt
  have hKn := o13.1 3 (RX3, TX3, 7) rfl
  have hcid : cX = w.1.1 3 := by
    rw [hvm] at hfX
    exact Option.some.inj (hfX.symm.trans hKn.2.1)
  subst hA'
  have X5 := vx_back9 X Y Z0
  have hz0 : (V.setCell T.heap.size ce).heap.size = T.heap.size + 1 := by
    have hz2 : T1.heap.size = T.heap.size + 1 := by rw [← hT1]; exact Array.size_push ..
    rw [← hz2, ← hVW]
    show (V.heap.setIfInBounds _ _).size = _
    rw [Array.size_setIfInBounds]
  have hR1 : hf_Rel w (hf_nw h (.inl (0, 3, hf_VW h.2.1 w.2.2.2.2.2)) 7) (V.setCell T.heap.size ce).heap := by
    refine a1.new (fun z hz => ?_) ⟨⟨(RX3, TX3, 7), rfl, ?_⟩, fun z => by cases z⟩ hz0 (fun q hq => f2 q hq (fun z hz => nomatch hz))
    · rcases hz with z | ⟨z, -⟩
      · exact z
      · cases z
    · obtain ⟨cellF, c1, -, -, c4⟩ := u_born (hf_ty 3) (s := s) (args := args) (ws := lw_all) (C := RX3) (T := TX3) (N := 7) (iS := w.1.2 3) (cC := cX) (kC := kX) (o := T.heap.size) (H := T1.heap) o6 in_X3 (by rw [hcid]; exact hKn) (by rw [← hvm]; exact hkX) hcellA tyX3_ok
      cases hcellA.symm.trans c1
      have hap : ∀ x y, x < 7 → y < 7 → x ≠ y → (w.1.2 3) x ≠ (w.1.2 3) y := by
        intro x y hx hy hne
        obtain ⟨_, _, _, fa, hia, ea⟩ := hKn.1 x hx
        obtain ⟨_, _, _, fb, hib, eb⟩ := hKn.1 y hy
        rw [← ea, ← eb]
        refine u_apart (u_lays o6 in_X3 hx) (u_lays o6 in_X3 hy) hia hib ?_
        rw [(State.fieldFound?_type hia (tyX3_ok x hx)).1, (State.fieldFound?_type hib (tyX3_ok y hy)).1]
        exact nmX3 x hx y hy hne
      have hsl : ∀ (k i : Nat), k < 7 → SlotIs s (TX3 k).1 (TX3 k).2.1 (TX3 k).2.2.1 i → i = w.1.2 3 k := by
        intro k i hk hs
        obtain ⟨_, _, _, fa, hia, ea⟩ := hKn.1 k hk
        obtain ⟨_, _, _, fb, hib, eb⟩ := hs
        have := hia.symm.trans hib
        simp only [Option.some.injEq, Prod.mk.injEq] at this
        rw [← ea, ← eb, this.2.2.2]
      have b1' : i1 = w.1.2 3 0 := hsl 0 i1 (by decide) hs1
      have b2' : i2 = w.1.2 3 1 := hsl 1 i2 (by decide) hs2
      have b3' : i3 = w.1.2 3 2 := hsl 2 i3 (by decide) hs3
      subst b1' b2' b3'
      refine ⟨ce, hh, ?_, ?_, ?_⟩
      · rw [← hce]; exact hcid
      · rw [← hce]; rfl
      · rw [← hce]
        have z1 := t_set (t_set (t_set (t_set c4 hap (k := 0) (by decide) (.ref T.heap.size)) hap (k := 1) (by decide) (va_rf (w.2.2.2.2.2.1 4))) hap (k := 2) (by decide) (va_rf (w.2.2.2.2.2.1 5))) hap (k := 1) (by decide) (va_rf (w.2.2.2.2.2.1 4))
        intro k hk
        rw [z1 k hk]
        congr 1
        rw [← a1.1]
        match k, hk with
        | 0, _ => rfl
        | 1, _ => rfl
        | 2, _ => rfl
        | 3, _ => rfl
        | 4, _ => rfl
        | 5, _ => rfl
        | 6, _ => rfl
  have hwe := hw _ hR1
  rw [← a1.1] at hwe
  obtain ⟨t9, b1, b2⟩ := hwe _ rfl X5
  refine ⟨t9, st1 _ ?_, b2⟩
  show Steps p.tables e below (T1.setTop { method := m, pc := pc + 3, locals := ls, stack := .ref T.heap.size :: st, locked := none }) _
  jvm_step X₁.here [X₁.here.top, o1, d3', Value.category]
  exact stw _ b1
end HW
