set_option maxRecDepth 100000
set_option maxHeartbeats 1000000
/-! what is made: objects, arrays; what is put into plain arrays; a made object takes its arrays in -/
def hf_V0 : hf_V := (fun _ => 0, fun _ => 0, fun _ => none, fun _ _ => 0, fun _ _ => 0, fun _ _ => none)
def hf_mk {τ : Type} (h : hf_H) (x : hf_C) (n : Nat) (K : Nat → hf_H → Option τ) : Option τ := K h.2.1 (hf_nw h x n)
def hf_z (ty : FieldType) : hf_B := match ty with
  | .long => .inr (.inl fun _ => 0)
  | .object _ => .inr (.inr fun _ => none)
  | .array _ => .inr (.inr fun _ => none)
  | _ => .inl fun _ => 0
theorem hf_cob : ∀ (ci : Nat) (q : vw_C), hf_cl[ci]? = some q → Cond.castable q.1 "java/lang/Object" ∈ lw_tbl := by
  intro ci q hq
  have h : ∀ q ∈ hf_cl, Cond.castable q.1 "java/lang/Object" ∈ lw_tbl := by
    unfold hf_cl
    refine List.forall_mem_cons.mpr ⟨q2044, List.forall_mem_cons.mpr ⟨q2045, List.forall_mem_cons.mpr ⟨q2041, List.forall_mem_cons.mpr ⟨q2047, List.forall_mem_cons.mpr ⟨q2048, List.forall_mem_cons.mpr ⟨q2049, List.forall_mem_cons.mpr ⟨q2050, List.forall_mem_cons.mpr ⟨q2051, List.forall_mem_cons.mpr ⟨q2052, List.forall_mem_cons.mpr ⟨q2050, List.forall_mem_cons.mpr ⟨q2053, List.forall_mem_cons.mpr ⟨q2054, List.forall_mem_cons.mpr ⟨q2055, List.forall_mem_cons.mpr ⟨q2056, List.forall_mem_cons.mpr ⟨q2050, List.forall_mem_cons.mpr ⟨q2057, List.forall_mem_cons.mpr ⟨q2058, List.forall_mem_cons.mpr ⟨q2059, List.forall_mem_cons.mpr ⟨q2042, List.forall_mem_cons.mpr ⟨q2046, (fun _ h => absurd h List.not_mem_nil)⟩⟩⟩⟩⟩⟩⟩⟩⟩⟩⟩⟩⟩⟩⟩⟩⟩⟩⟩⟩
  exact h q (List.mem_of_getElem? hq)
/-- an object of ours is at y -/
def hf_okv (h : hf_H) (y : Nat) : Bool := match h.1 y with
  | some (.inl (_, ci, _)) => (hf_cl[ci]?).isSome
  | _ => false
theorem hf_okv_spec {h : hf_H} {y : Nat} (e : hf_okv h y = true) : ∃ (md ci : Nat) (V : hf_V) (q : vw_C), h.1 y = some (.inl (md, ci, V)) ∧ hf_cl[ci]? = some q := by
  unfold hf_okv at e
  split at e
  · next md ci V h1 =>
    obtain ⟨q, hq⟩ := Option.isSome_iff_exists.mp e
    exact ⟨md, ci, V, q, h1, hq⟩
  · cases e
/-- a place of a plain array changes -/
def hf_psi (ty : FieldType) (h : hf_H) (a : Nat) (i x : Int32) : Option hf_H := match h.1 a with
  | some (.inr (.inl (md, t, n, .inl f))) => if t = ty ∧ md = 0 ∧ ¬ (i < 0 ∨ n ≤ i.toNatClampNeg) then some (hf_up h a (.inr (.inl (0, ty, n, .inl (fun j => if j = i.toNatClampNeg then x else f j))))) else none
  | _ => none
def hf_psq (ty : FieldType) (h : hf_H) (a : Nat) (i : Int32) (v : Nat) : Option hf_H := match h.1 a with
  | some (.inr (.inl (md, t, n, .inr (.inr f)))) => if t = ty ∧ md = 0 ∧ ¬ (i < 0 ∨ n ≤ i.toNatClampNeg) then some (hf_up h a (.inr (.inl (0, ty, n, .inr (.inr (fun j => if j = i.toNatClampNeg then some v else f j)))))) else none
  | _ => none
section HMK
variable {τ : Type} {C : hf_X} {dec : τ → Outcome × hf_H} {P : Option τ} {h : hf_H} {pc : Nat} {L : List (Nat × Value)} {st : List Value} {code : ByteArray} {own : String} {nL : Nat} {rt : Option FieldType} {fr lc : Nat} {md ci k idx a : Nat}
theorem hx_new (o : hf_In C code own nL rt fr lc) {q : vw_C} (hc : hf_cl[ci]? = some q) (hl : Cond.classLink own idx q.1 ∈ lw_all) (hi : Cond.instantiable q.1 q.2.2 ∈ lw_all) (hini : Cond.initialized q.1 ∈ lw_all) (hin : ∀ x ∈ u_ws q.1 q.2.1 q.2.2, x ∈ lw_all) (hty : ∀ j, j < q.2.2 → parseFieldDescriptor (q.2.1 j).2.2.1 = some (hf_ty ci j)) (hdef : ∀ a j, j < q.2.2 → defaultValue (hf_ty ci j) = hf_fv 0 ci a hf_V0 j) (hd : decode code pc = .ok (.new idx, 3)) {K : Nat → hf_H → Option τ} (kk : ∀ (a : Nat) (g : hf_H), hf_J C dec (K a g) g (pc + 3) L (.ref a :: st)) : hf_J C dec (hf_mk h (.inl (0, ci, hf_V0)) q.2.2 K) h pc L st := by
  have kk := kk h.2.1 (hf_nw h (.inl (0, ci, hf_V0)) q.2.2)
  obtain _ | ⟨p, l, e, R, s, m, args, below, meth, c, w, h0, fin, nL0, Q⟩ := C
  · intro t e1
    obtain ⟨k1, k2⟩ := kk t e1
    exact ⟨Nat.le_trans (Nat.le_succ _) k1, Nat.le_trans (Nat.le_add_right _ _) k2⟩
  intro t e1 e2
  obtain ⟨⟨k1, k3⟩, k2⟩ := kk t e1 e2
  obtain ⟨o1, o2, o3, o4, o5, o6, o7, o8, o9, o10, o11, o12, o13, o14, o15, o16⟩ := o
  have k1' : h.2.1 + 1 ≤ fin.2.2.1 := k1
  have k3' : h.2.2 + q.2.2 ≤ fin.2.2.2 := k3
  refine ⟨⟨by omega, by omega⟩, fun H locs cells slots ls a1 a2 a3 a4 a5 => ?_⟩
  have hKn := o13.1 ci _ hc
  refine W.newcK o1 o2 o5 (o6 _ hl) (o6 _ hi) (o6 _ hini) rfl hd (by omega) (by omega) hKn.2.1 a1.1 fun H1 kC hkC b1 b2 b3 => ?_
  have hat : hf_at w H.size (.inl (0, ci, hf_V0)) H1 := by
    refine ⟨⟨q, hc, ?_⟩, fun z => by cases z⟩
    rw [a1.1]
    exact (u_born (hf_ty ci) o6 hin hKn hkC b1 hty).to (fun j hj => hdef _ j hj)
  refine k2 H1 locs (cells + 1) (slots + q.2.2) ls (a1.new (fun z hz => ?_) hat (by rw [b2, a1.1]) (fun z hz => b3 z (by rw [← a1.1]; exact hz))) a2 ?_ ?_ a5
  · rcases hz with z | ⟨z, -⟩
    · exact z
    · cases z
  · show h0.2.1 + (cells + 1) = h.2.1 + 1
    omega
  · show h0.2.2 + (slots + q.2.2) = h.2.2 + q.2.2
    omega
theorem hx_newa (o : hf_In C code own nL rt fr lc) {atype : ArrayType} (ty : FieldType) (hty : newarray.typeOf atype = ty) (harr : Cond.arrayClass ty ∈ lw_all) (hmem : ty ∈ hf_tys) (hb8 : componentBytes ty ≤ 8) (hzz : ∀ (cA : ClassId) (n : Nat), vp_cell cA (hf_bx n (hf_z ty)) = arrV cA n (fun _ => defaultValue ty)) (hnm : ∀ (s : State) (cA : ClassId), va_RA s cA ty → s.vm.findClass ("[" ++ ty.toString) = some cA) {n : Int32} {K : Nat → hf_H → Option τ} (hd : decode code pc = .ok (.newarray atype, 2)) (kk : ∀ (a : Nat) (g : hf_H), hf_J C dec (K a g) g (pc + 2) L (.ref a :: st)) : hf_J C dec (if n < 0 ∨ 536870912 < n.toNatClampNeg * 8 then none else hf_mk h (.inr (.inl (0, ty, n.toNatClampNeg, hf_z ty))) n.toNatClampNeg K) h pc L (.int n :: st) := by
  by_cases hn : n < 0 ∨ 536870912 < n.toNatClampNeg * 8
  · rw [if_pos hn]; exact hr_none
  rw [if_neg hn]
  have hn1 : ¬ n < 0 := fun z => hn (Or.inl z)
  have hn2 : n.toNatClampNeg * 8 ≤ 536870912 := Nat.not_lt.mp fun z => hn (Or.inr z)
  have kk := kk h.2.1 (hf_nw h (.inr (.inl (0, ty, n.toNatClampNeg, hf_z ty))) n.toNatClampNeg)
  obtain _ | ⟨p, l, e, R, s, m, args, below, meth, c, w, h0, fin, nL0, Q⟩ := C
  · intro t e1
    obtain ⟨k1, k2⟩ := kk t e1
    exact ⟨Nat.le_trans (Nat.le_succ _) k1, Nat.le_trans (Nat.le_add_right _ _) k2⟩
  intro t e1 e2
  obtain ⟨⟨k1, k3⟩, k2⟩ := kk t e1 e2
  obtain ⟨o1, o2, o3, o4, o5, o6, o7, o8, o9, o10, o11, o12, o13, o14, o15, o16⟩ := o
  have k1' : h.2.1 + 1 ≤ fin.2.2.1 := k1
  have k3' : h.2.2 + n.toNatClampNeg ≤ fin.2.2.2 := k3
  subst hty
  have hbytes : n.toNatClampNeg * componentBytes (newarray.typeOf atype) ≤ 536870912 := Nat.le_trans (Nat.mul_le_mul_left _ hb8) hn2
  refine ⟨⟨by omega, by omega⟩, fun H locs cells slots ls a1 a2 a3 a4 a5 => ?_⟩
  refine va_newaK o1 o2 (o6 _ harr) rfl hd rfl hn1 rfl hbytes (by omega) (by omega) a1.1 fun H1 cA b1 b2 b3 b4 b5 => ?_
  have hcA : cA = w.2.1 (newarray.typeOf atype) := Option.some.inj (b5.symm.trans (hnm s _ (o13.2.1 _ hmem).2))
  subst hcA
  have hat : hf_at w H.size (.inr (.inl (0, newarray.typeOf atype, n.toNatClampNeg, hf_z (newarray.typeOf atype)))) H1 := by
    refine ⟨fun _ => ?_, fun e => by cases e⟩
    rw [a1.1, hzz]
    exact b1
  refine k2 H1 locs (cells + 1) (slots + n.toNatClampNeg) ls (a1.new (fun z hz => hz) hat (by rw [b2, a1.1]) (fun z hz => b3 z (by rw [← a1.1]; exact hz))) a2 ?_ ?_ a5
  · show h0.2.1 + (cells + 1) = h.2.1 + 1
    omega
  · show h0.2.2 + (slots + n.toNatClampNeg) = h.2.2 + n.toNatClampNeg
    omega
theorem hx_anew (o : hf_In C code own nL rt fr lc) (E : String) (hl : Cond.classLink own idx E ∈ lw_all) (hov : Cond.arrayOver (.object E) ∈ lw_tbl) (hmem : FieldType.object E ∈ hf_tys) {n : Int32} {K : Nat → hf_H → Option τ} (hd : decode code pc = .ok (.anewarray idx, 3)) (kk : ∀ (a : Nat) (g : hf_H), hf_J C dec (K a g) g (pc + 3) L (.ref a :: st)) : hf_J C dec (if n < 0 ∨ 536870912 < n.toNatClampNeg * 8 then none else hf_mk h (.inr (.inl (0, .object E, n.toNatClampNeg, .inr (.inr fun _ => none)))) n.toNatClampNeg K) h pc L (.int n :: st) := by
  by_cases hn : n < 0 ∨ 536870912 < n.toNatClampNeg * 8
  · rw [if_pos hn]; exact hr_none
  rw [if_neg hn]
  have hn1 : ¬ n < 0 := fun z => hn (Or.inl z)
  have hn2 : n.toNatClampNeg * 8 ≤ 536870912 := Nat.not_lt.mp fun z => hn (Or.inr z)
  have kk := kk h.2.1 (hf_nw h (.inr (.inl (0, .object E, n.toNatClampNeg, .inr (.inr fun _ => none)))) n.toNatClampNeg)
  obtain _ | ⟨p, l, e, R, s, m, args, below, meth, c, w, h0, fin, nL0, Q⟩ := C
  · intro t e1
    obtain ⟨k1, k2⟩ := kk t e1
    exact ⟨Nat.le_trans (Nat.le_succ _) k1, Nat.le_trans (Nat.le_add_right _ _) k2⟩
  intro t e1 e2
  obtain ⟨⟨k1, k3⟩, k2⟩ := kk t e1 e2
  obtain ⟨o1, o2, o3, o4, o5, o6, o7, o8, o9, o10, o11, o12, o13, o14, o15, o16⟩ := o
  have k1' : h.2.1 + 1 ≤ fin.2.2.1 := k1
  have k3' : h.2.2 + n.toNatClampNeg ≤ fin.2.2.2 := k3
  refine ⟨⟨by omega, by omega⟩, fun H locs cells slots ls a1 a2 a3 a4 a5 => ?_⟩
  refine W.anew o1 o2 o5 (o6 _ hl) (va_AO.use (o13.2.2.1 _ hov rfl)) rfl hd rfl hn1 (by omega) (by omega) (by omega) fun cA kA comp f1 f2 f3 f4 => ?_
  obtain ⟨kA', comp', g1, g2, g3, g4⟩ := (o13.2.1 _ hmem).2
  have hcA : cA = w.2.1 (.object E) := Option.some.inj (f1.symm.trans g4)
  subst hcA
  generalize hH1 : H.push ({ cls := w.2.1 (.object E), slots := Array.replicate n.toNatClampNeg .null, vm := .none } : Cell) = H1
  have b2 : H1.size = H.size + 1 := by rw [← hH1, Array.size_push]
  have b1 : H1[H.size]? = some (arrV (w.2.1 (.object E)) n.toNatClampNeg (fun _ => .null)) := by rw [← hH1, Array.getElem?_push_size, ← arrV_new]
  have b3 : ∀ q : Nat, q < H.size → H1[q]? = H[q]? := fun q hq => by rw [← hH1, Array.getElem?_push, if_neg (Nat.ne_of_lt hq)]
  have hat : hf_at w H.size (.inr (.inl (0, .object E, n.toNatClampNeg, .inr (.inr fun _ => none)))) H1 := by
    exact ⟨fun _ => b1, fun e => by cases e⟩
  have hsz : (Value.ref H.size) = .ref h.2.1 := by rw [a1.1]
  rw [hsz]
  refine k2 H1 locs (cells + 1) (slots + n.toNatClampNeg) ls (a1.new (fun z hz => hz) hat b2 b3) a2 ?_ ?_ a5
  · show h0.2.1 + (cells + 1) = h.2.1 + 1
    omega
  · show h0.2.2 + (slots + n.toNatClampNeg) = h.2.2 + n.toNatClampNeg
    omega
theorem hx_paist (o : hf_In C code own nL rt fr lc) {i x : Int32} {K : hf_H → Option τ} (hd : decode code pc = .ok (.iastore, 1)) (kk : ∀ g : hf_H, hf_J C dec (K g) g (pc + 1) L st) : hf_J C dec ((hf_psi .int h a i x).bind K) h pc L (.int x :: .int i :: .ref a :: st) := by
  cases e : hf_psi .int h a i x with
  | none => exact hr_none
  | some g =>
    show hf_J C dec (K g) h pc L _
    have kk := kk g
    unfold hf_psi at e
    split at e
    · next md t n f hx =>
      split at e
      · next hc =>
        cases e
        obtain ⟨rfl, rfl, hi⟩ := hc
        obtain _ | ⟨p, l, e, R, s, m, args, below, meth, c, w, h0', fin, nL0, Q⟩ := C
        · exact kk
        intro t e1 e2
        obtain ⟨k1, k2⟩ := kk t e1 e2
        obtain ⟨o1, o2, o3, o4, o5, o6, o7, o8, o9, o10, o11, o12, o13, o14, o15, o16⟩ := o
        refine ⟨k1, fun H locs cells slots ls a1 a2 a3 a4 a5 => ?_⟩
        have hat := a1.2.2.2.1 a _ hx
        have hc : H[a]? = some (vp_cell (w.2.1 .int) (n, .inl f)) := hat.1.1 (by decide)
        refine W.iast o1 o2 hc (hf_tyK o13 (ty := .int) (by simp [hf_tys]) n (fun j => .int (f j))) (fun q => by cases q) (by show ¬ (i < 0 ∨ (arrV _ _ _).slots.size ≤ _); rw [arrV_size]; exact hi) rfl rfl hd fun H1 b1 b2 b3 => ?_
        refine k2 H1 _ cells slots ls (a1.set hx rfl (fun q => Iff.rfl) rfl ?_ b2 (fun q hq => b3 q hq)) (hf_nlocs a2 (hat.2 rfl)) a3 a4 a5
        refine ⟨fun _ => ?_, fun e => by cases e⟩
        show H1[a]? = some (vp_cell _ (n, .inl _))
        rw [b1]
        exact congrArg some (hf_cellU fun q => rfl)
      · cases e
    · cases e
theorem hf_cellQ {cA : ClassId} {n : Nat} {f g : Nat → Option Nat} {i v : Nat} (hg : ∀ q, g q = if q = i then some v else f q) : (vp_cell cA (n, .inr (.inr (.inr (.inr f))))).setSlot i (.ref v) = vp_cell cA (n, .inr (.inr (.inr (.inr g)))) := by
  rw [vp_cell_q, vp_cell_q, arrV_store]
  congr 1
  funext q
  rw [hg]
  by_cases e : q = i
  · simp [updV, e, va_rf]
  · simp [updV, e]
/-- into an array of Objects goes any object of ours -/
theorem hx_paastO (o : hf_In C code own nL rt fr lc) {i : Int32} {v : Nat} {K : hf_H → Option τ} (hd : decode code pc = .ok (.aastore, 1)) (kk : ∀ g : hf_H, hf_J C dec (K g) g (pc + 1) L st) : hf_J C dec (if hf_okv h v then (hf_psq (.object "java/lang/Object") h a i v).bind K else none) h pc L (.ref v :: .int i :: .ref a :: st) := by
  by_cases hok : hf_okv h v = true
  · rw [if_pos hok]
    cases e : hf_psq (.object "java/lang/Object") h a i v with
    | none => exact hr_none
    | some g =>
      show hf_J C dec (K g) h pc L _
      have kk := kk g
      unfold hf_psq at e
      split at e
      · next md t n f hx =>
        split at e
        · next hc =>
          cases e
          obtain ⟨rfl, rfl, hi⟩ := hc
          obtain _ | ⟨p, l, e, R, s, m, args, below, meth, c, w, h0', fin, nL0, Q⟩ := C
          · exact kk
          intro t e1 e2
          obtain ⟨k1, k2⟩ := kk t e1 e2
          obtain ⟨o1, o2, o3, o4, o5, o6, o7, o8, o9, o10, o11, o12, o13, o14, o15, o16⟩ := o
          refine ⟨k1, fun H locs cells slots ls a1 a2 a3 a4 a5 => ?_⟩
          obtain ⟨md2, ci2, V2, q2, hv, hq2⟩ := hf_okv_spec hok
          obtain ⟨⟨r, h1, cellV, g1, g2, g3, -⟩, -⟩ := (a1.2.2.2.1 v _ hv).1
          have hcls := (o13.1 ci2 q2 hq2).2
          obtain ⟨kA, comp, j1, j2, j3, -⟩ := (o13.2.1 (.object "java/lang/Object") (by simp [hf_tys])).2
          obtain ⟨kE, hkE, -⟩ := Vm.findClass_spec j3
          obtain ⟨c0, t1, f1, f2, f3⟩ := Cond.castable_spec (va_Nw.use (A := args) rfl (o13.2.2.1 _ (hf_cob ci2 q2 hq2) rfl))
          cases hcls.1.symm.trans f1
          cases j3.symm.trans f2
          obtain ⟨kC, hkC, -⟩ := hcls.2
          have hat := a1.2.2.2.1 a _ hx
          have hc : H[a]? = some (vp_cell (w.2.1 (.object "java/lang/Object")) (n, .inr (.inr (.inr (.inr f))))) := hat.1.1 (by decide)
          have hlt : i.toNatClampNeg < n := Nat.not_le.mp fun q => hi (Or.inr q)
          refine W.aast o1 o2 hc (fun q h => by cases h) (fun h => by cases h) j1 j2 rfl hkE ⟨fun q => hi (Or.inl q), by show _ < (arrV _ _ _).slots.size; rw [arrV_size]; exact hlt⟩ g1 (fun q h => by rw [g3] at h; cases h) (by rw [g2]; exact hkC) (by rw [g2]; exact f3) rfl rfl hd fun H1 b1 b2 b3 => ?_
          refine k2 H1 _ cells slots ls (a1.set hx rfl (fun q => Iff.rfl) rfl ?_ b2 (fun q hq => b3 q hq)) (hf_nlocs a2 (hat.2 rfl)) a3 a4 a5
          refine ⟨fun _ => ?_, fun e => by cases e⟩
          show H1[a]? = some (vp_cell _ (n, _))
          rw [b1]
          exact congrArg some (hf_cellQ fun q => rfl)
        · cases e
      · cases e
  · rw [if_neg hok]; exact hr_none
/-- into an array of a class's objects goes an object of just that class -/
theorem hx_paastK (o : hf_In C code own nL rt fr lc) {q2 : vw_C} (ci2 md2 : Nat) (hq2 : hf_cl[ci2]? = some q2) (hmem : FieldType.object q2.1 ∈ hf_tys) {i : Int32} {v : Nat} {K : hf_H → Option τ} (hd : decode code pc = .ok (.aastore, 1)) (kk : ∀ g : hf_H, hf_J C dec (K g) g (pc + 1) L st) : hf_J C dec ((hf_ob md2 ci2 h v).bind fun _ => (hf_psq (.object q2.1) h a i v).bind K) h pc L (.ref v :: .int i :: .ref a :: st) := by
  cases e0 : hf_ob md2 ci2 h v with
  | none => exact hr_none
  | some V2 =>
    show hf_J C dec ((hf_psq (.object q2.1) h a i v).bind K) h pc L _
    have hv := hf_ob_spec e0
    cases e : hf_psq (.object q2.1) h a i v with
    | none => exact hr_none
    | some g =>
      show hf_J C dec (K g) h pc L _
      have kk := kk g
      unfold hf_psq at e
      split at e
      · next md t n f hx =>
        split at e
        · next hc =>
          cases e
          obtain ⟨rfl, rfl, hi⟩ := hc
          obtain _ | ⟨p, l, e, R, s, m, args, below, meth, c, w, h0', fin, nL0, Q⟩ := C
          · exact kk
          intro t e1 e2
          obtain ⟨k1, k2⟩ := kk t e1 e2
          obtain ⟨o1, o2, o3, o4, o5, o6, o7, o8, o9, o10, o11, o12, o13, o14, o15, o16⟩ := o
          refine ⟨k1, fun H locs cells slots ls a1 a2 a3 a4 a5 => ?_⟩
          obtain ⟨⟨r, h1, cellV, g1, g2, g3, -⟩, -⟩ := (a1.2.2.2.1 v _ hv).1
          have hcls := (o13.1 ci2 q2 hq2).2
          obtain ⟨kA, comp, j1, j2, j3, -⟩ := (o13.2.1 (.object q2.1) hmem).2
          have hcomp : comp = w.1.1 ci2 := Option.some.inj (j3.symm.trans hcls.1)
          subst hcomp
          obtain ⟨kC, hkC, -⟩ := hcls.2
          have hat := a1.2.2.2.1 a _ hx
          have hc : H[a]? = some (vp_cell (w.2.1 (.object q2.1)) (n, .inr (.inr (.inr (.inr f))))) := hat.1.1 (by decide)
          have hlt : i.toNatClampNeg < n := Nat.not_le.mp fun q => hi (Or.inr q)
          refine W.aast o1 o2 hc (fun q h => by cases h) (fun h => by cases h) j1 j2 rfl hkC ⟨fun q => hi (Or.inl q), by show _ < (arrV _ _ _).slots.size; rw [arrV_size]; exact hlt⟩ g1 (fun q h => by rw [g3] at h; cases h) (by rw [g2]; exact hkC) (by rw [g2]; exact va_assign hcls) rfl rfl hd fun H1 b1 b2 b3 => ?_
          refine k2 H1 _ cells slots ls (a1.set hx rfl (fun q => Iff.rfl) rfl ?_ b2 (fun q hq => b3 q hq)) (hf_nlocs a2 (hat.2 rfl)) a3 a4 a5
          refine ⟨fun _ => ?_, fun e => by cases e⟩
          show H1[a]? = some (vp_cell _ (n, _))
          rw [b1]
          exact congrArg some (hf_cellQ fun q => rfl)
        · cases e
      · cases e
end HMK
