set_option maxRecDepth 100000
/-! fields and arrays -/
/-- the pool's entry idx of class own names the field k of class ci -/
def hf_Fl (own : String) (idx ci k : Nat) : Prop := ∃ (r : vw_C) (ref : String), hf_cl[ci]? = some r ∧ k < r.2.2 ∧ (∀ x ∈ u_ws r.1 r.2.1 r.2.2, x ∈ lw_all) ∧ (∀ j, j < r.2.2 → parseFieldDescriptor (r.2.1 j).2.2.1 = some (hf_ty ci j)) ∧ (∀ a, a < r.2.2 → ∀ b, b < r.2.2 → a ≠ b → (r.2.1 a).2.1 ≠ (r.2.1 b).2.1) ∧
  (Cond.fieldLink own idx ref (r.2.1 k).2.1 (r.2.1 k).2.2.1 ∈ lw_all ∨ ∃ host, Cond.fieldLinkNest own idx ref (r.2.1 k).2.1 (r.2.1 k).2.2.1 host ∈ lw_tbl) ∧ (ref = (r.2.1 k).1 ∨ Cond.sameField ref (r.2.1 k).1 (r.2.1 k).2.1 (r.2.1 k).2.2.1 ∈ lw_all)
/-- the field k of class ci isn't final -/
def hf_Nf (ci k : Nat) : Prop := ∃ r : vw_C, hf_cl[ci]? = some r ∧ (r.2.1 k).2.2.2 = false
section HM
variable {p : Program} {l : Launch} {e : Env} {R : Room} {s : State} {m : MethodId} {args : Array Value} {below : List Frame} {meth : Method} {c : Code} {H : Heap} {locs : List Loc} {cells slots : Nat} {Q : State → Prop}
variable {cc : ByteArray} {pc : Nat} {ls : Array Slot} {rest : List Value} {w : hf_W} {own : String} {idx ci k a md : Nat} {V : hf_V}
theorem hf_Wget (hx : p.tables.exec = Jvm.exec) (hb : c.code = cc) (hown : s.vm.findClass own = some m.cls) (hts : ∀ x ∈ lw_all, x.before args s = true) (hK : hf_K w s) (fl : hf_Fl own idx ci k) (hA : hf_at w a (.inl (md, ci, V)) H) (hdg : decode cc pc = .ok (.getfield idx, 3))
    (kk : W p l e R s m args below meth c H locs cells slots Q (F0 m (pc + 3) ls (hf_fv md ci a V k :: rest))) : W p l e R s m args below meth c H locs cells slots Q (F0 m pc ls (.ref a :: rest)) := by
  obtain ⟨r, ref, f1, f2, f3, f4, f5, f6, f7⟩ := fl
  obtain ⟨⟨r', h1, cell, q1, q2, q3, q4⟩, -⟩ := hA
  cases Option.some.inj (h1.symm.trans f1)
  obtain ⟨hS, hfc, kC, hkC, hkind⟩ := hK.1 ci _ f1
  obtain ⟨cf, kf, fi, f, hi, hsl⟩ := hS k f2
  have hst := (u_facts hfc hkC (u_lays hts f3 f2) hi).1
  have hsm : s.fieldFound? ref (r.2.1 k).2.1 (r.2.1 k).2.2.1 = some (cf, kf, fi, f) := by
    rcases f7 with e1 | e1
    · rw [e1]; exact hi
    · exact u_same (hts _ e1) _ hi
  have hv : cell.slots[f.slot]? = some (hf_fv md ci a V k) := by rw [hsl]; exact q4 k f2
  rcases f6 with h6 | ⟨host, h6⟩
  · exact W.getf hx hb hown (hts _ h6) hsm hst q1 (by rw [q3]; exact fun h => by cases h) hv rfl rfl hdg kk
  · exact va_Wgetf hx hb hown (va_Nw.use rfl (hK.2.2.1 _ h6 rfl)) hsm hst q1 (by rw [q3]; exact fun h => by cases h) hv rfl rfl hdg kk
theorem hf_Wput (hx : p.tables.exec = Jvm.exec) (hb : c.code = cc) (hown : s.vm.findClass own = some m.cls) (hts : ∀ x ∈ lw_all, x.before args s = true) (hK : hf_K w s) (fl : hf_Fl own idx ci k) (hfin : hf_Nf ci k ∨ (meth.name = "<init>" ∧ ∃ r : vw_C, hf_cl[ci]? = some r ∧ (r.2.1 k).2.2.2 = true ∧ (r.2.1 k).1 = own ∧ Cond.fieldLink own idx own (r.2.1 k).2.1 (r.2.1 k).2.2.1 ∈ lw_all)) {v : Value} (hn : narrow (hf_ty ci k) v = v) (hfit : fits (hf_ty ci k) v = true) (hA : hf_at w a (.inl (md, ci, V)) H) {V' : hf_V} (hV : ∀ j, hf_fv md ci a V' j = updV (hf_fv md ci a V) k v j) (hV2 : V'.2.2.2 = V.2.2.2) (hdg : decode cc pc = .ok (.putfield idx, 3))
    (kk : ∀ (H1 : Heap) (n : Nat), hf_at w a (.inl (md, ci, V')) H1 → H1.size = H.size → (∀ q, q ≠ a → H1[q]? = H[q]?) → W p l e R s m args below meth c H1 (locs ++ [⟨a, n⟩]) cells slots Q (F0 m (pc + 3) ls rest)) : W p l e R s m args below meth c H locs cells slots Q (F0 m pc ls (v :: .ref a :: rest)) := by
  obtain ⟨r, ref, f1, f2, f3, f4, f5, f6, f7⟩ := fl
  obtain ⟨⟨r', h1, cell, q1, q2, q3, q4⟩, q5⟩ := hA
  cases Option.some.inj (h1.symm.trans f1)
  have hap : ∀ x y, x < r.2.2 → y < r.2.2 → x ≠ y → (w.1.2 ci) x ≠ (w.1.2 ci) y := by
    intro x y hx hy hne
    obtain ⟨hS, -⟩ := hK.1 ci _ f1
    obtain ⟨_, _, _, fa, hia, ea⟩ := hS x hx
    obtain ⟨_, _, _, fb, hib, eb⟩ := hS y hy
    rw [← ea, ← eb]
    refine u_apart (u_lays hts f3 hx) (u_lays hts f3 hy) hia hib ?_
    rw [(State.fieldFound?_type hia (f4 x hx)).1, (State.fieldFound?_type hib (f4 y hy)).1]
    exact f5 x hx y hy hne
  obtain ⟨hS, hfc, kC, hkC, hkind⟩ := hK.1 ci _ f1
  obtain ⟨cf, kf, fi, f, hi, hsl⟩ := hS k f2
  have hst := (u_facts hfc hkC (u_lays hts f3 f2) hi).1
  have hsm : s.fieldFound? ref (r.2.1 k).2.1 (r.2.1 k).2.2.1 = some (cf, kf, fi, f) := by
    rcases f7 with e1 | e1
    · rw [e1]; exact hi
    · exact u_same (hts _ e1) _ hi
  have hlay := hts _ (f3 _ (u_in_lay f2))
  have fin1 : ∀ (H1 : Heap), H1[a]? = some (cell.setSlot f.slot v) → (∀ q, q ≠ a → H1[q]? = H[q]?) → hf_at w a (.inl (md, ci, V')) H1 := by
    intro H1 e1 e3
    refine ⟨⟨r, f1, t_OB.to (V := updV (hf_fv md ci a V) k v) ⟨_, e1, q2, q3, ?_⟩ (fun j _ => (hV j).symm)⟩, fun em j hj => ?_⟩
    · rw [hsl]; exact t_set q4 hap f2 v
    · rw [e3 _ (by omega)]
      have h9 := q5 em j hj
      rw [h9]
      unfold hf_ar
      rw [hV2]
  rcases hfin with ⟨r9, g1, g2⟩ | ⟨hin, r9, g1, g2, g3, g4⟩
  · cases Option.some.inj (g1.symm.trans f1)
    unfold u_lay at hlay
    rw [if_neg (by rw [g2]; decide)] at hlay
    have h6 := u_store hfc hkC hkind hlay hi (f4 k f2) hn hfit
    rcases f6 with h8 | ⟨host, h8⟩
    · exact W.putK hx hb (f := f) ⟨hown, hts _ h8, ⟨_, _, _, hsm⟩, hst⟩ (by rw [q2]; exact h6) q1 q3 (by rw [hsl]; exact k2_hasslot (q4 k f2)) rfl rfl hdg fun H' e1 e2 e3 => kk H' _ (fin1 H' e1 e3) e2 e3
    · exact va_WputK hx hb (f := f) hown (va_Nw.use rfl (hK.2.2.1 _ h8 rfl)) hsm hst (by rw [q2]; exact h6) q1 q3 (by rw [hsl]; exact k2_hasslot (q4 k f2)) rfl rfl hdg fun H' e1 e2 e3 => kk H' _ (fin1 H' e1 e3) e2 e3
  · cases Option.some.inj (g1.symm.trans f1)
    unfold u_lay at hlay
    rw [if_pos g2] at hlay
    have hcf : m.cls = cf := by
      obtain ⟨_, _, c', _, _, _, -, -, hf', -, -, -, hown2, -⟩ := Cond.laysFinal_spec hlay
      have e1 : c' = cf := by have := hi.symm.trans hf'; simp at this; exact this.1.symm
      rw [g3] at hown2
      rw [← e1]; exact Option.some.inj (hown.symm.trans hown2)
    have h6 := u_fits hfc hkC hkind (Or.inr hlay) hi (f4 k f2) hn hfit
    have hi' := hi
    rw [g3] at hi'
    exact W.putFinK hx hb hown (hts _ g4) hi' hst hcf hin (by rw [q2]; exact h6) q1 q3 (by rw [hsl]; exact k2_hasslot (q4 k f2)) rfl rfl hdg fun H' e1 e2 e3 => kk H' _ (fin1 H' e1 e3) e2 e3
end HM
/-! the programs' own words -/
/-- the object of class ci, mode md, at a -/
def hf_ob (md ci : Nat) (h : hf_H) (a : Nat) : Option hf_V := match h.1 a with
  | some (.inl (m, c, V)) => if m = md ∧ c = ci then some V else none
  | _ => none
theorem hf_ob_spec {md ci : Nat} {h : hf_H} {a : Nat} {V : hf_V} (e : hf_ob md ci h a = some V) : h.1 a = some (.inl (md, ci, V)) := by
  unfold hf_ob at e
  split at e
  · next m c V' h1 =>
    split at e
    · next h2 =>
      cases e
      rw [h1, h2.1, h2.2]
    · cases e
  · cases e
def hf_gi (md ci k : Nat) (h : hf_H) (a : Nat) : Option Int32 := (hf_ob md ci h a).map fun V => V.1 k
def hf_gl (md ci k : Nat) (h : hf_H) (a : Nat) : Option Int64 := (hf_ob md ci h a).map fun V => V.2.1 k
/-- a reference that may be null -/
def hf_gq (md ci k : Nat) (h : hf_H) (a : Nat) : Option (Option Nat) := (hf_ob md ci h a).map fun V => V.2.2.1 k
/-- a reference that isn't null -/
def hf_ga (md ci k : Nat) (h : hf_H) (a : Nat) : Option Nat := (hf_ob md ci h a).bind fun V => V.2.2.1 k
def hf_ui (V : hf_V) (k : Nat) (x : Int32) : hf_V := (fun j => if j = k then x else V.1 j, V.2)
def hf_ul (V : hf_V) (k : Nat) (x : Int64) : hf_V := (V.1, fun j => if j = k then x else V.2.1 j, V.2.2)
def hf_uq (V : hf_V) (k : Nat) (x : Option Nat) : hf_V := (V.1, V.2.1, fun j => if j = k then x else V.2.2.1 j, V.2.2.2)
def hf_ua (V : hf_V) (k i : Nat) (x : Int32) : hf_V := (V.1, V.2.1, V.2.2.1, fun j => if j = k then (fun q => if q = i then x else V.2.2.2.1 k q) else V.2.2.2.1 j, V.2.2.2.2)
def hf_uL (V : hf_V) (k i : Nat) (x : Int64) : hf_V := (V.1, V.2.1, V.2.2.1, V.2.2.2.1, fun j => if j = k then (fun q => if q = i then x else V.2.2.2.2.1 k q) else V.2.2.2.2.1 j, V.2.2.2.2.2)
def hf_uQ (V : hf_V) (k i : Nat) (x : Option Nat) : hf_V := (V.1, V.2.1, V.2.2.1, V.2.2.2.1, V.2.2.2.2.1, fun j => if j = k then (fun q => if q = i then x else V.2.2.2.2.2 k q) else V.2.2.2.2.2 j)
/-- an object's values change -/
def hf_pt (md ci : Nat) (f : hf_V → hf_V) (h : hf_H) (a : Nat) : Option hf_H := (hf_ob md ci h a).map fun V => hf_up h a (.inl (md, ci, f V))
/-- read a place, write a place: none out of range -/
def hf_ld {α : Type} (n : Nat) (f : Nat → α) (i : Int32) : Option α := if i < 0 ∨ n ≤ i.toNatClampNeg then none else some (f i.toNatClampNeg)
def hf_sd {α τ : Type} (n : Nat) (i : Int32) (x : Nat → α) (K : α → Option τ) : Option τ := if i < 0 ∨ n ≤ i.toNatClampNeg then none else K (x i.toNatClampNeg)
/-- the model: one object with all that it owns, at om; the rest of the heap is b -/
def hf_M (om : Nat) (b : hf_H) (V : hf_V) : hf_H := (fun q => if q = om then some (.inl (1, 4, V)) else b.1 q, b.2)
theorem hf_M_at (om : Nat) (b : hf_H) (V : hf_V) : (hf_M om b V).1 om = some (.inl (1, 4, V)) := if_pos rfl
theorem hf_M_up (om : Nat) (b : hf_H) (V V' : hf_V) : hf_up (hf_M om b V) om (.inl (1, 4, V')) = hf_M om b V' := by
  unfold hf_up hf_M
  congr 1
  funext q
  by_cases e : q = om
  · simp [e]
  · simp [e]
theorem hf_of4_inj : ∀ j k : Nat, (hf_of 4 j).1 ≠ 0 → (hf_of 4 j).1 = (hf_of 4 k).1 → j = k := by
  have key : ∀ j : Nat, 37 ≤ j → (hf_of 4 j).1 = 0 := by
    intro j hj
    obtain ⟨i, rfl⟩ := Nat.exists_eq_add_of_le' hj
    rfl
  have key2 : ∀ j k : Nat, j < 37 → k < 37 → (hf_of 4 j).1 ≠ 0 → (hf_of 4 j).1 = (hf_of 4 k).1 → j = k := by
    have h : ((List.range 37).all fun j => (List.range 37).all fun k => decide ((hf_of 4 j).1 ≠ 0 → (hf_of 4 j).1 = (hf_of 4 k).1 → j = k)) = true := by decide +kernel
    intro j k hj hk
    have h1 := List.all_eq_true.mp h j (List.mem_range.mpr hj)
    exact of_decide_eq_true (List.all_eq_true.mp h1 k (List.mem_range.mpr hk))
  intro j k h1 h2
  by_cases hj : j < 37
  · by_cases hk : k < 37
    · exact key2 j k hj hk h1 h2
    · exact absurd (h2.trans (key k (by omega))) h1
  · exact absurd (key j (by omega)) h1
section HJ
variable {τ : Type} {C : hf_X} {dec : τ → Outcome × hf_H} {P : Option τ} {h : hf_H} {pc : Nat} {L : List (Nat × Value)} {st : List Value} {code : ByteArray} {own : String} {nL : Nat} {rt : Option FieldType} {fr lc : Nat} {md ci k idx a : Nat}
/-- a field of an object that is there -/
theorem hr_get0 (o : hf_In C code own nL rt fr lc) (fl : hf_Fl own idx ci k) (hd : decode code pc = .ok (.getfield idx, 3)) {V : hf_V} (hx : h.1 a = some (.inl (md, ci, V))) {v : Value} (hv : hf_fv md ci a V k = v) (kk : hf_J C dec P h (pc + 3) L (v :: st)) : hf_J C dec P h pc L (.ref a :: st) := by
  subst hv
  obtain _ | ⟨p, l, e, R, s, m, args, below, meth, c, w, h0, fin, nL0, Q⟩ := C
  · exact kk
  intro t e1 e2
  obtain ⟨k1, k2⟩ := kk t e1 e2
  obtain ⟨o1, o2, o3, o4, o5, o6, o7, o8, o9, o10, o11, o12, o13, o14, o15, o16⟩ := o
  exact ⟨k1, fun H locs cells slots ls a1 a2 a3 a4 a5 => hf_Wget o1 o2 o5 o6 o13 fl (a1.2.2.2.1 a _ hx).1 hd (k2 H locs cells slots ls a1 a2 a3 a4 a5)⟩
theorem hr_getI (o : hf_In C code own nL rt fr lc) (fl : hf_Fl own idx ci k) (hd : decode code pc = .ok (.getfield idx, 3)) {K : Int32 → Option τ} (hv : ∀ V, hf_fv md ci a V k = .int (V.1 k)) (kk : ∀ x : Int32, hf_J C dec (K x) h (pc + 3) L (.int x :: st)) : hf_J C dec ((hf_gi md ci k h a).bind K) h pc L (.ref a :: st) := by
  cases e : hf_ob md ci h a with
  | none => rw [show hf_gi md ci k h a = none by unfold hf_gi; rw [e]; rfl]; exact hr_none
  | some V =>
    rw [show hf_gi md ci k h a = some (V.1 k) by unfold hf_gi; rw [e]; rfl]
    exact hr_get0 o fl hd (hf_ob_spec e) (hv V) (kk (V.1 k))
theorem hr_getL (o : hf_In C code own nL rt fr lc) (fl : hf_Fl own idx ci k) (hd : decode code pc = .ok (.getfield idx, 3)) {K : Int64 → Option τ} (hv : ∀ V, hf_fv md ci a V k = .long (V.2.1 k)) (kk : ∀ x : Int64, hf_J C dec (K x) h (pc + 3) L (.long x :: st)) : hf_J C dec ((hf_gl md ci k h a).bind K) h pc L (.ref a :: st) := by
  cases e : hf_ob md ci h a with
  | none => rw [show hf_gl md ci k h a = none by unfold hf_gl; rw [e]; rfl]; exact hr_none
  | some V =>
    rw [show hf_gl md ci k h a = some (V.2.1 k) by unfold hf_gl; rw [e]; rfl]
    exact hr_get0 o fl hd (hf_ob_spec e) (hv V) (kk (V.2.1 k))
theorem hr_getQ (o : hf_In C code own nL rt fr lc) (fl : hf_Fl own idx ci k) (hd : decode code pc = .ok (.getfield idx, 3)) {K : Option Nat → Option τ} (hv : ∀ V, hf_fv md ci a V k = va_rf (V.2.2.1 k)) (kk : ∀ x : Option Nat, hf_J C dec (K x) h (pc + 3) L (va_rf x :: st)) : hf_J C dec ((hf_gq md ci k h a).bind K) h pc L (.ref a :: st) := by
  cases e : hf_ob md ci h a with
  | none => rw [show hf_gq md ci k h a = none by unfold hf_gq; rw [e]; rfl]; exact hr_none
  | some V =>
    rw [show hf_gq md ci k h a = some (V.2.2.1 k) by unfold hf_gq; rw [e]; rfl]
    exact hr_get0 o fl hd (hf_ob_spec e) (hv V) (kk (V.2.2.1 k))
theorem hr_getA (o : hf_In C code own nL rt fr lc) (fl : hf_Fl own idx ci k) (hd : decode code pc = .ok (.getfield idx, 3)) {K : Nat → Option τ} (hv : ∀ V, hf_fv md ci a V k = va_rf (V.2.2.1 k)) (kk : ∀ x : Nat, hf_J C dec (K x) h (pc + 3) L (.ref x :: st)) : hf_J C dec ((hf_ga md ci k h a).bind K) h pc L (.ref a :: st) := by
  cases e : hf_ob md ci h a with
  | none => rw [show hf_ga md ci k h a = none by unfold hf_ga; rw [e]; rfl]; exact hr_none
  | some V =>
    cases e2 : V.2.2.1 k with
    | none => rw [show hf_ga md ci k h a = none by unfold hf_ga; rw [e]; exact e2]; exact hr_none
    | some x =>
      rw [show hf_ga md ci k h a = some x by unfold hf_ga; rw [e]; exact e2]
      exact hr_get0 o fl hd (hf_ob_spec e) ((hv V).trans (by rw [e2]; rfl)) (kk x)
/-- an owned array: where it is -/
theorem hr_getO (o : hf_In C code own nL rt fr lc) (fl : hf_Fl own idx ci k) (hd : decode code pc = .ok (.getfield idx, 3)) (off : Nat) (hv : ∀ V, hf_fv 1 ci a V k = .ref (a + off)) {K : hf_V → Option τ} (kk : ∀ V : hf_V, h.1 a = some (.inl (1, ci, V)) → hf_J C dec (K V) h (pc + 3) L (.ref (a + off) :: st)) : hf_J C dec ((hf_ob 1 ci h a).bind K) h pc L (.ref a :: st) := by
  cases e : hf_ob 1 ci h a with
  | none => exact hr_none
  | some V => exact hr_get0 o fl hd (hf_ob_spec e) (hv V) (kk V (hf_ob_spec e))
/-- the general store into a field -/
theorem hr_put0 (o : hf_In C code own nL rt fr lc) (fl : hf_Fl own idx ci k) (hd : decode code pc = .ok (.putfield idx, 3)) {V V' : hf_V} (hx : h.1 a = some (.inl (md, ci, V))) (hmd : (md == 2) = false) {v : Value} (hfin : hf_Nf ci k) (hn : narrow (hf_ty ci k) v = v) (hfit : fits (hf_ty ci k) v = true) (hV : ∀ j, hf_fv md ci a V' j = updV (hf_fv md ci a V) k v j) (hV2 : V'.2.2.2 = V.2.2.2) (kk : hf_J C dec P (hf_up h a (.inl (md, ci, V'))) (pc + 3) L st) : hf_J C dec P h pc L (v :: .ref a :: st) := by
  obtain _ | ⟨p, l, e, R, s, m, args, below, meth, c, w, h0, fin, nL0, Q⟩ := C
  · exact kk
  intro t e1 e2
  obtain ⟨k1, k2⟩ := kk t e1 e2
  obtain ⟨o1, o2, o3, o4, o5, o6, o7, o8, o9, o10, o11, o12, o13, o14, o15, o16⟩ := o
  refine ⟨k1, fun H locs cells slots ls a1 a2 a3 a4 a5 => hf_Wput o1 o2 o5 o6 o13 fl (Or.inl hfin) hn hfit (a1.2.2.2.1 a _ hx).1 hV hV2 hd fun H1 n b1 b2 b3 => ?_⟩
  refine k2 H1 _ cells slots ls (a1.set hx hmd (fun q => Iff.rfl) rfl b1 b2 (fun q hq => b3 q (fun z => hq (Or.inl z)))) (fun q hq => ?_) a3 a4 a5
  rcases List.mem_append.mp hq with z | z
  · exact a2 q z
  · rw [List.mem_singleton.mp z]
    exact (a1.2.2.2.1 a _ hx).2 hmd
/-- the model's own fields -/
theorem mr_get {om : Nat} {b : hf_H} {V : hf_V} (o : hf_In C code own nL rt fr lc) (fl : hf_Fl own idx 4 k) (hd : decode code pc = .ok (.getfield idx, 3)) (v : Value) (hv : hf_fv 1 4 om V k = v) (kk : hf_J C dec P (hf_M om b V) (pc + 3) L (v :: st)) : hf_J C dec P (hf_M om b V) pc L (.ref om :: st) := hr_get0 o fl hd (hf_M_at om b V) hv kk
theorem mr_putI {om : Nat} {b : hf_H} {V : hf_V} {x : Int32} {K : hf_V → Option τ} (o : hf_In C code own nL rt fr lc) (fl : hf_Fl own idx 4 k) (hd : decode code pc = .ok (.putfield idx, 3)) (hfin : hf_Nf 4 k) (hty : hf_ty 4 k = .int) (hof : (hf_of 4 k).1 = 0) (kk : ∀ V' : hf_V, hf_J C dec (K V') (hf_M om b V') (pc + 3) L st) : hf_J C dec (hf_let (hf_ui V k x) K) (hf_M om b V) pc L (.int x :: .ref om :: st) := by
  refine hr_put0 (V' := hf_ui V k x) o fl hd (hf_M_at om b V) rfl hfin (by rw [hty]; rfl) (by rw [hty]; rfl) (fun j => ?_) rfl (by rw [hf_M_up]; exact kk _)
  by_cases e : j = k
  · subst e
    have h1 : hf_fv 1 4 om (hf_ui V j x) j = hf_pv (hf_ty 4 j) (hf_ui V j x) j := by unfold hf_fv; rw [hof]
    rw [h1, hty]
    simp [hf_pv, hf_ui, updV]
  · have h1 : hf_fv 1 4 om (hf_ui V k x) j = hf_fv 1 4 om V j := by
      have h2 : (hf_ui V k x).1 j = V.1 j := if_neg e
      have h3 : hf_pv (hf_ty 4 j) (hf_ui V k x) j = hf_pv (hf_ty 4 j) V j := by unfold hf_pv; rw [h2]; rfl
      unfold hf_fv; rw [h3]
    rw [h1]
    simp [updV, e]
theorem mr_putL {om : Nat} {b : hf_H} {V : hf_V} {x : Int64} {K : hf_V → Option τ} (o : hf_In C code own nL rt fr lc) (fl : hf_Fl own idx 4 k) (hd : decode code pc = .ok (.putfield idx, 3)) (hfin : hf_Nf 4 k) (hty : hf_ty 4 k = .long) (hof : (hf_of 4 k).1 = 0) (kk : ∀ V' : hf_V, hf_J C dec (K V') (hf_M om b V') (pc + 3) L st) : hf_J C dec (hf_let (hf_ul V k x) K) (hf_M om b V) pc L (.long x :: .ref om :: st) := by
  refine hr_put0 (V' := hf_ul V k x) o fl hd (hf_M_at om b V) rfl hfin (by rw [hty]; rfl) (by rw [hty]; rfl) (fun j => ?_) rfl (by rw [hf_M_up]; exact kk _)
  by_cases e : j = k
  · subst e
    have h1 : hf_fv 1 4 om (hf_ul V j x) j = hf_pv (hf_ty 4 j) (hf_ul V j x) j := by unfold hf_fv; rw [hof]
    rw [h1, hty]
    simp [hf_pv, hf_ul, updV]
  · have h1 : hf_fv 1 4 om (hf_ul V k x) j = hf_fv 1 4 om V j := by
      have h2 : (hf_ul V k x).2.1 j = V.2.1 j := if_neg e
      have h3 : hf_pv (hf_ty 4 j) (hf_ul V k x) j = hf_pv (hf_ty 4 j) V j := by unfold hf_pv; rw [h2]; rfl
      unfold hf_fv; rw [h3]
    rw [h1]
    simp [updV, e]
theorem hf_at_arr {w : hf_W} {a md ci : Nat} {V : hf_V} {H : Heap} (h : hf_at w a (.inl (1, ci, V)) H) {k off n : Nat} (hof : hf_of ci k = (off, n)) (h0 : off ≠ 0) : H[a + off]? = some (vp_cell (w.2.1 (hf_el (hf_ty ci k))) (hf_bx n (hf_ar (hf_el (hf_ty ci k)) V k))) := by
  have h1 := h.2 rfl k (by rw [hof]; exact h0)
  rw [hof] at h1
  exact h1
/-- a general change of an owned array -/
theorem hf_at_st {w : hf_W} {a ci : Nat} {V V' : hf_V} {H H1 : Heap} (h : hf_at w a (.inl (1, ci, V)) H) {k off n : Nat} (hof : hf_of ci k = (off, n)) (h0 : off ≠ 0) (hinj : ∀ j : Nat, (hf_of ci j).1 ≠ 0 → (hf_of ci j).1 = off → j = k) (hf : ∀ j, hf_fv 1 ci a V' j = hf_fv 1 ci a V j) (hoth : ∀ j, j ≠ k → hf_ar (hf_el (hf_ty ci j)) V' j = hf_ar (hf_el (hf_ty ci j)) V j)
    (e1 : H1[a + off]? = some (vp_cell (w.2.1 (hf_el (hf_ty ci k))) (hf_bx n (hf_ar (hf_el (hf_ty ci k)) V' k)))) (e2 : ∀ q, q ≠ a + off → H1[q]? = H[q]?) : hf_at w a (.inl (1, ci, V')) H1 := by
  obtain ⟨⟨r, h1, h2⟩, h3⟩ := h
  refine ⟨⟨r, h1, (h2.kept (e2 a (by omega))).to (fun j _ => (hf j).symm)⟩, fun _ j hj => ?_⟩
  by_cases e : j = k
  · subst e
    rw [hof]
    exact e1
  · rw [e2 _ (fun z => e (hinj j hj (by omega))), hoth j e]
    exact h3 rfl j hj
theorem hf_ft_off {a md ci : Nat} {V : hf_V} {k off n : Nat} (hof : hf_of ci k = (off, n)) (h0 : off ≠ 0) : hf_ft a (.inl (1, ci, V)) (a + off) := Or.inr ⟨rfl, k, by rw [hof]; exact h0, by rw [hof]⟩
theorem hf_ua_fv {ci a : Nat} {V : hf_V} {k i : Nat} {x : Int32} (j : Nat) : hf_fv 1 ci a (hf_ua V k i x) j = hf_fv 1 ci a V j := rfl
theorem hf_uL_fv {ci a : Nat} {V : hf_V} {k i : Nat} {x : Int64} (j : Nat) : hf_fv 1 ci a (hf_uL V k i x) j = hf_fv 1 ci a V j := rfl
theorem hf_ua_ot {ty : FieldType} {V : hf_V} {k i : Nat} {x : Int32} {j : Nat} (e : j ≠ k) : hf_ar ty (hf_ua V k i x) j = hf_ar ty V j := by
  have h : (hf_ua V k i x).2.2.2.1 j = V.2.2.2.1 j := if_neg e
  unfold hf_ar
  rw [h]
  rfl
theorem hf_uL_ot {ty : FieldType} {V : hf_V} {k i : Nat} {x : Int64} {j : Nat} (e : j ≠ k) : hf_ar ty (hf_uL V k i x) j = hf_ar ty V j := by
  have h : (hf_uL V k i x).2.2.2.2.1 j = V.2.2.2.2.1 j := if_neg e
  unfold hf_ar
  rw [h]
  rfl
theorem hf_tyK {w : hf_W} {s : State} (hK : hf_K w s) {ty : FieldType} (h : ty ∈ hf_tys) : ArrOfT s (w.2.1 ty) ty := (hK.2.1 ty h).1
theorem hf_vin {i : Int32} {n : Nat} (h : ¬ (i < 0 ∨ n ≤ i.toNatClampNeg)) : vp_in i n := h
/-- loads from an owned array of the object at a -/
theorem hr_iald0 (o : hf_In C code own nL rt fr lc) {V : hf_V} (hx : h.1 a = some (.inl (1, ci, V))) (off n : Nat) (hof : hf_of ci k = (off, n)) (h0 : off ≠ 0) (hty : hf_el (hf_ty ci k) = .int) {i : Int32} {K : Int32 → Option τ} (hd : decode code pc = .ok (.iaload, 1)) (kk : ∀ x : Int32, hf_J C dec (K x) h (pc + 1) L (.int x :: st)) : hf_J C dec ((hf_ld n (V.2.2.2.1 k) i).bind K) h pc L (.int i :: .ref (a + off) :: st) := by
  unfold hf_ld
  by_cases hi : i < 0 ∨ n ≤ i.toNatClampNeg
  · rw [if_pos hi]; exact hr_none
  rw [if_neg hi]
  have kk := kk (V.2.2.2.1 k i.toNatClampNeg)
  obtain _ | ⟨p, l, e, R, s, m, args, below, meth, c, w, h0', fin, nL0, Q⟩ := C
  · exact kk
  intro t e1 e2
  obtain ⟨k1, k2⟩ := kk t e1 e2
  obtain ⟨o1, o2, o3, o4, o5, o6, o7, o8, o9, o10, o11, o12, o13, o14, o15, o16⟩ := o
  refine ⟨k1, fun H locs cells slots ls a1 a2 a3 a4 a5 => ?_⟩
  have hc := hf_at_arr (md := 1) (a1.2.2.2.1 a _ hx).1 hof h0
  rw [hty] at hc
  have hlt : i.toNatClampNeg < n := Nat.not_le.mp fun q => hi (Or.inr q)
  exact W.iald (v := .int (V.2.2.2.1 k i.toNatClampNeg)) o1 o2 hc (hf_tyK o13 (ty := .int) (by simp [hf_tys]) n (fun j => .int (V.2.2.2.1 k j))) (fun q => by cases q) (by show ¬ (i < 0 ∨ (arrV _ _ _).slots.size ≤ _); rw [arrV_size]; exact hi) (by exact arrV_read _ _ hlt) rfl rfl hd (k2 H locs cells slots ls a1 a2 a3 a4 a5)
theorem hr_bald0 (o : hf_In C code own nL rt fr lc) {V : hf_V} (hx : h.1 a = some (.inl (1, ci, V))) (off n : Nat) (hof : hf_of ci k = (off, n)) (h0 : off ≠ 0) (hty : hf_el (hf_ty ci k) = .byte) {i : Int32} {K : Int32 → Option τ} (hd : decode code pc = .ok (.baload, 1)) (kk : ∀ x : Int32, hf_J C dec (K x) h (pc + 1) L (.int x :: st)) : hf_J C dec ((hf_ld n (V.2.2.2.1 k) i).bind K) h pc L (.int i :: .ref (a + off) :: st) := by
  unfold hf_ld
  by_cases hi : i < 0 ∨ n ≤ i.toNatClampNeg
  · rw [if_pos hi]; exact hr_none
  rw [if_neg hi]
  have kk := kk (V.2.2.2.1 k i.toNatClampNeg)
  obtain _ | ⟨p, l, e, R, s, m, args, below, meth, c, w, h0', fin, nL0, Q⟩ := C
  · exact kk
  intro t e1 e2
  obtain ⟨k1, k2⟩ := kk t e1 e2
  obtain ⟨o1, o2, o3, o4, o5, o6, o7, o8, o9, o10, o11, o12, o13, o14, o15, o16⟩ := o
  refine ⟨k1, fun H locs cells slots ls a1 a2 a3 a4 a5 => ?_⟩
  have hc := hf_at_arr (md := 1) (a1.2.2.2.1 a _ hx).1 hof h0
  rw [hty] at hc
  have hlt : i.toNatClampNeg < n := Nat.not_le.mp fun q => hi (Or.inr q)
  exact W.bald (v := .int (V.2.2.2.1 k i.toNatClampNeg)) o1 o2 hc (hf_tyK o13 (ty := .byte) (by simp [hf_tys]) n (fun j => .int (V.2.2.2.1 k j))) (fun q => by cases q) (by show ¬ (i < 0 ∨ (arrV _ _ _).slots.size ≤ _); rw [arrV_size]; exact hi) (by exact arrV_read _ _ hlt) rfl rfl hd (k2 H locs cells slots ls a1 a2 a3 a4 a5)
theorem hr_zald0 (o : hf_In C code own nL rt fr lc) {V : hf_V} (hx : h.1 a = some (.inl (1, ci, V))) (off n : Nat) (hof : hf_of ci k = (off, n)) (h0 : off ≠ 0) (hty : hf_el (hf_ty ci k) = .boolean) {i : Int32} {K : Int32 → Option τ} (hd : decode code pc = .ok (.baload, 1)) (kk : ∀ x : Int32, hf_J C dec (K x) h (pc + 1) L (.int x :: st)) : hf_J C dec ((hf_ld n (V.2.2.2.1 k) i).bind K) h pc L (.int i :: .ref (a + off) :: st) := by
  unfold hf_ld
  by_cases hi : i < 0 ∨ n ≤ i.toNatClampNeg
  · rw [if_pos hi]; exact hr_none
  rw [if_neg hi]
  have kk := kk (V.2.2.2.1 k i.toNatClampNeg)
  obtain _ | ⟨p, l, e, R, s, m, args, below, meth, c, w, h0', fin, nL0, Q⟩ := C
  · exact kk
  intro t e1 e2
  obtain ⟨k1, k2⟩ := kk t e1 e2
  obtain ⟨o1, o2, o3, o4, o5, o6, o7, o8, o9, o10, o11, o12, o13, o14, o15, o16⟩ := o
  refine ⟨k1, fun H locs cells slots ls a1 a2 a3 a4 a5 => ?_⟩
  have hc := hf_at_arr (md := 1) (a1.2.2.2.1 a _ hx).1 hof h0
  rw [hty] at hc
  have hlt : i.toNatClampNeg < n := Nat.not_le.mp fun q => hi (Or.inr q)
  exact W.zald (v := .int (V.2.2.2.1 k i.toNatClampNeg)) o1 o2 hc (hf_tyK o13 (ty := .boolean) (by simp [hf_tys]) n (fun j => .int (V.2.2.2.1 k j))) (fun q => by cases q) (by show ¬ (i < 0 ∨ (arrV _ _ _).slots.size ≤ _); rw [arrV_size]; exact hi) (by exact arrV_read _ _ hlt) rfl rfl hd (k2 H locs cells slots ls a1 a2 a3 a4 a5)
theorem hr_lald0 (o : hf_In C code own nL rt fr lc) {V : hf_V} (hx : h.1 a = some (.inl (1, ci, V))) (off n : Nat) (hof : hf_of ci k = (off, n)) (h0 : off ≠ 0) (hty : hf_el (hf_ty ci k) = .long) {i : Int32} {K : Int64 → Option τ} (hd : decode code pc = .ok (.laload, 1)) (kk : ∀ x : Int64, hf_J C dec (K x) h (pc + 1) L (.long x :: st)) : hf_J C dec ((hf_ld n (V.2.2.2.2.1 k) i).bind K) h pc L (.int i :: .ref (a + off) :: st) := by
  unfold hf_ld
  by_cases hi : i < 0 ∨ n ≤ i.toNatClampNeg
  · rw [if_pos hi]; exact hr_none
  rw [if_neg hi]
  have kk := kk (V.2.2.2.2.1 k i.toNatClampNeg)
  obtain _ | ⟨p, l, e, R, s, m, args, below, meth, c, w, h0', fin, nL0, Q⟩ := C
  · exact kk
  intro t e1 e2
  obtain ⟨k1, k2⟩ := kk t e1 e2
  obtain ⟨o1, o2, o3, o4, o5, o6, o7, o8, o9, o10, o11, o12, o13, o14, o15, o16⟩ := o
  refine ⟨k1, fun H locs cells slots ls a1 a2 a3 a4 a5 => ?_⟩
  have hc := hf_at_arr (md := 1) (a1.2.2.2.1 a _ hx).1 hof h0
  rw [hty] at hc
  have hlt : i.toNatClampNeg < n := Nat.not_le.mp fun q => hi (Or.inr q)
  exact W.lald (v := .long (V.2.2.2.2.1 k i.toNatClampNeg)) o1 o2 hc (hf_tyK o13 (ty := .long) (by simp [hf_tys]) n (fun j => .long (V.2.2.2.2.1 k j))) (fun q => by cases q) (by show ¬ (i < 0 ∨ (arrV _ _ _).slots.size ≤ _); rw [arrV_size]; exact hi) (by exact arrV_read _ _ hlt) rfl rfl hd (k2 H locs cells slots ls a1 a2 a3 a4 a5)
/-- stores into an owned array -/
theorem hf_cellU {cA : ClassId} {n : Nat} {f g : Nat → Int32} {i : Nat} {x : Int32} (hg : ∀ q, g q = if q = i then x else f q) : (vp_cell cA (n, .inl f)).setSlot i (.int x) = vp_cell cA (n, .inl g) := by
  rw [vp_cell_i, vp_cell_i, arrV_store]
  congr 1
  funext q
  rw [hg]
  by_cases e : q = i
  · simp [updV, e]
  · simp [updV, e]
theorem hf_cellL {cA : ClassId} {n : Nat} {f g : Nat → Int64} {i : Nat} {x : Int64} (hg : ∀ q, g q = if q = i then x else f q) : (vp_cell cA (n, .inr (.inl f))).setSlot i (.long x) = vp_cell cA (n, .inr (.inl g)) := by
  rw [vp_cell_l, vp_cell_l, arrV_store]
  congr 1
  funext q
  rw [hg]
  by_cases e : q = i
  · simp [updV, e]
  · simp [updV, e]
theorem hf_nlocs {w : hf_W} {locs : List Loc} {a n : Nat} (h : ∀ q ∈ locs, w.2.2.1 ≤ q.base) (ha : w.2.2.1 ≤ a) : ∀ q ∈ locs ++ [(⟨a, n⟩ : Loc)], w.2.2.1 ≤ q.base := by
  intro q hq
  rcases List.mem_append.mp hq with z | z
  · exact h q z
  · rw [List.mem_singleton.mp z]; exact ha
theorem hr_iast0 (o : hf_In C code own nL rt fr lc) {V : hf_V} (hx : h.1 a = some (.inl (1, ci, V))) (off n : Nat) (hof : hf_of ci k = (off, n)) (h0 : off ≠ 0) (hinj : ∀ j : Nat, (hf_of ci j).1 ≠ 0 → (hf_of ci j).1 = off → j = k) (hty : hf_el (hf_ty ci k) = .int) {i x : Int32} {K : hf_V → Option τ} (hd : decode code pc = .ok (.iastore, 1)) (kk : hf_J C dec (K (hf_ua V k i.toNatClampNeg x)) (hf_up h a (.inl (1, ci, hf_ua V k i.toNatClampNeg x))) (pc + 1) L st) : hf_J C dec (hf_sd n i (fun j => hf_ua V k j x) K) h pc L (.int x :: .int i :: .ref (a + off) :: st) := by
  unfold hf_sd
  by_cases hi : i < 0 ∨ n ≤ i.toNatClampNeg
  · rw [if_pos hi]; exact hr_none
  rw [if_neg hi]
  obtain _ | ⟨p, l, e, R, s, m, args, below, meth, c, w, h0', fin, nL0, Q⟩ := C
  · exact kk
  intro t e1 e2
  obtain ⟨k1, k2⟩ := kk t e1 e2
  obtain ⟨o1, o2, o3, o4, o5, o6, o7, o8, o9, o10, o11, o12, o13, o14, o15, o16⟩ := o
  refine ⟨k1, fun H locs cells slots ls a1 a2 a3 a4 a5 => ?_⟩
  have hat := a1.2.2.2.1 a _ hx
  have hc := hf_at_arr (md := 1) hat.1 hof h0
  have hc9 := hc
  rw [hty] at hc
  refine W.iast o1 o2 hc (hf_tyK o13 (ty := .int) (by simp [hf_tys]) n (fun j => .int (V.2.2.2.1 k j))) (fun q => by cases q) (by show ¬ (i < 0 ∨ (arrV _ _ _).slots.size ≤ _); rw [arrV_size]; exact hi) rfl rfl hd fun H1 b1 b2 b3 => ?_
  refine k2 H1 _ cells slots ls (a1.set hx rfl (fun q => Iff.rfl) rfl (hf_at_st hat.1 hof h0 hinj (fun j => hf_ua_fv j) (fun j e => hf_ua_ot e) ?_ b3) b2 (fun q hq => b3 q (fun z => hq (by rw [z]; exact hf_ft_off (md := 1) hof h0)))) (hf_nlocs a2 (Nat.le_trans (hat.2 rfl) (by omega))) a3 a4 a5
  rw [b1, hty]
  refine congrArg some (hf_cellU fun q => ?_)
  simp [hf_ua]
theorem hr_bast0 (o : hf_In C code own nL rt fr lc) {V : hf_V} (hx : h.1 a = some (.inl (1, ci, V))) (off n : Nat) (hof : hf_of ci k = (off, n)) (h0 : off ≠ 0) (hinj : ∀ j : Nat, (hf_of ci j).1 ≠ 0 → (hf_of ci j).1 = off → j = k) (hty : hf_el (hf_ty ci k) = .byte) {i x : Int32} {K : hf_V → Option τ} (hd : decode code pc = .ok (.bastore, 1)) (kk : hf_J C dec (K (hf_ua V k i.toNatClampNeg (vp_nar .byte x))) (hf_up h a (.inl (1, ci, hf_ua V k i.toNatClampNeg (vp_nar .byte x)))) (pc + 1) L st) : hf_J C dec (hf_sd n i (fun j => hf_ua V k j (vp_nar .byte x)) K) h pc L (.int x :: .int i :: .ref (a + off) :: st) := by
  unfold hf_sd
  by_cases hi : i < 0 ∨ n ≤ i.toNatClampNeg
  · rw [if_pos hi]; exact hr_none
  rw [if_neg hi]
  obtain _ | ⟨p, l, e, R, s, m, args, below, meth, c, w, h0', fin, nL0, Q⟩ := C
  · exact kk
  intro t e1 e2
  obtain ⟨k1, k2⟩ := kk t e1 e2
  obtain ⟨o1, o2, o3, o4, o5, o6, o7, o8, o9, o10, o11, o12, o13, o14, o15, o16⟩ := o
  refine ⟨k1, fun H locs cells slots ls a1 a2 a3 a4 a5 => ?_⟩
  have hat := a1.2.2.2.1 a _ hx
  have hc := hf_at_arr (md := 1) hat.1 hof h0
  rw [hty] at hc
  refine W.bast o1 o2 hc (hf_tyK o13 (ty := .byte) (by simp [hf_tys]) n (fun j => .int (V.2.2.2.1 k j))) (fun q => by cases q) (by show ¬ (i < 0 ∨ (arrV _ _ _).slots.size ≤ _); rw [arrV_size]; exact hi) rfl rfl hd fun H1 b1 b2 b3 => ?_
  refine k2 H1 _ cells slots ls (a1.set hx rfl (fun q => Iff.rfl) rfl (hf_at_st hat.1 hof h0 hinj (fun j => hf_ua_fv j) (fun j e => hf_ua_ot e) ?_ b3) b2 (fun q hq => b3 q (fun z => hq (by rw [z]; exact hf_ft_off (md := 1) hof h0)))) (hf_nlocs a2 (Nat.le_trans (hat.2 rfl) (by omega))) a3 a4 a5
  rw [b1, hty]
  refine congrArg some (hf_cellU (x := vp_nar .byte x) fun q => ?_)
  simp [hf_ua]
theorem hr_zast0 (o : hf_In C code own nL rt fr lc) {V : hf_V} (hx : h.1 a = some (.inl (1, ci, V))) (off n : Nat) (hof : hf_of ci k = (off, n)) (h0 : off ≠ 0) (hinj : ∀ j : Nat, (hf_of ci j).1 ≠ 0 → (hf_of ci j).1 = off → j = k) (hty : hf_el (hf_ty ci k) = .boolean) {i x : Int32} {K : hf_V → Option τ} (hd : decode code pc = .ok (.bastore, 1)) (kk : hf_J C dec (K (hf_ua V k i.toNatClampNeg (vp_nar .boolean x))) (hf_up h a (.inl (1, ci, hf_ua V k i.toNatClampNeg (vp_nar .boolean x)))) (pc + 1) L st) : hf_J C dec (hf_sd n i (fun j => hf_ua V k j (vp_nar .boolean x)) K) h pc L (.int x :: .int i :: .ref (a + off) :: st) := by
  unfold hf_sd
  by_cases hi : i < 0 ∨ n ≤ i.toNatClampNeg
  · rw [if_pos hi]; exact hr_none
  rw [if_neg hi]
  obtain _ | ⟨p, l, e, R, s, m, args, below, meth, c, w, h0', fin, nL0, Q⟩ := C
  · exact kk
  intro t e1 e2
  obtain ⟨k1, k2⟩ := kk t e1 e2
  obtain ⟨o1, o2, o3, o4, o5, o6, o7, o8, o9, o10, o11, o12, o13, o14, o15, o16⟩ := o
  refine ⟨k1, fun H locs cells slots ls a1 a2 a3 a4 a5 => ?_⟩
  have hat := a1.2.2.2.1 a _ hx
  have hc := hf_at_arr (md := 1) hat.1 hof h0
  rw [hty] at hc
  refine W.zast o1 o2 hc (hf_tyK o13 (ty := .boolean) (by simp [hf_tys]) n (fun j => .int (V.2.2.2.1 k j))) (fun q => by cases q) (by show ¬ (i < 0 ∨ (arrV _ _ _).slots.size ≤ _); rw [arrV_size]; exact hi) rfl rfl hd fun H1 b1 b2 b3 => ?_
  refine k2 H1 _ cells slots ls (a1.set hx rfl (fun q => Iff.rfl) rfl (hf_at_st hat.1 hof h0 hinj (fun j => hf_ua_fv j) (fun j e => hf_ua_ot e) ?_ b3) b2 (fun q hq => b3 q (fun z => hq (by rw [z]; exact hf_ft_off (md := 1) hof h0)))) (hf_nlocs a2 (Nat.le_trans (hat.2 rfl) (by omega))) a3 a4 a5
  rw [b1, hty]
  refine congrArg some (hf_cellU (x := vp_nar .boolean x) fun q => ?_)
  simp [hf_ua]
theorem hr_last0 (o : hf_In C code own nL rt fr lc) {V : hf_V} (hx : h.1 a = some (.inl (1, ci, V))) (off n : Nat) (hof : hf_of ci k = (off, n)) (h0 : off ≠ 0) (hinj : ∀ j : Nat, (hf_of ci j).1 ≠ 0 → (hf_of ci j).1 = off → j = k) (hty : hf_el (hf_ty ci k) = .long) {i : Int32} {x : Int64} {K : hf_V → Option τ} (hd : decode code pc = .ok (.lastore, 1)) (kk : hf_J C dec (K (hf_uL V k i.toNatClampNeg x)) (hf_up h a (.inl (1, ci, hf_uL V k i.toNatClampNeg x))) (pc + 1) L st) : hf_J C dec (hf_sd n i (fun j => hf_uL V k j x) K) h pc L (.long x :: .int i :: .ref (a + off) :: st) := by
  unfold hf_sd
  by_cases hi : i < 0 ∨ n ≤ i.toNatClampNeg
  · rw [if_pos hi]; exact hr_none
  rw [if_neg hi]
  obtain _ | ⟨p, l, e, R, s, m, args, below, meth, c, w, h0', fin, nL0, Q⟩ := C
  · exact kk
  intro t e1 e2
  obtain ⟨k1, k2⟩ := kk t e1 e2
  obtain ⟨o1, o2, o3, o4, o5, o6, o7, o8, o9, o10, o11, o12, o13, o14, o15, o16⟩ := o
  refine ⟨k1, fun H locs cells slots ls a1 a2 a3 a4 a5 => ?_⟩
  have hat := a1.2.2.2.1 a _ hx
  have hc := hf_at_arr (md := 1) hat.1 hof h0
  rw [hty] at hc
  refine W.last o1 o2 hc (hf_tyK o13 (ty := .long) (by simp [hf_tys]) n (fun j => .long (V.2.2.2.2.1 k j))) (fun q => by cases q) (by show ¬ (i < 0 ∨ (arrV _ _ _).slots.size ≤ _); rw [arrV_size]; exact hi) rfl rfl hd fun H1 b1 b2 b3 => ?_
  refine k2 H1 _ cells slots ls (a1.set hx rfl (fun q => Iff.rfl) rfl (hf_at_st hat.1 hof h0 hinj (fun j => hf_uL_fv j) (fun j e => hf_uL_ot e) ?_ b3) b2 (fun q hq => b3 q (fun z => hq (by rw [z]; exact hf_ft_off (md := 1) hof h0)))) (hf_nlocs a2 (Nat.le_trans (hat.2 rfl) (by omega))) a3 a4 a5
  rw [b1, hty]
  refine congrArg some (hf_cellL fun q => ?_)
  simp [hf_uL]
/-- the model's own arrays -/
theorem mr_iald {om : Nat} {b : hf_H} {V : hf_V} (o : hf_In C code own nL rt fr lc) (k off n : Nat) (hof : hf_of 4 k = (off, n)) (h0 : off ≠ 0) (hty : hf_el (hf_ty 4 k) = .int) {i : Int32} {K : Int32 → Option τ} (hd : decode code pc = .ok (.iaload, 1)) (kk : ∀ x : Int32, hf_J C dec (K x) (hf_M om b V) (pc + 1) L (.int x :: st)) : hf_J C dec ((hf_ld n (V.2.2.2.1 k) i).bind K) (hf_M om b V) pc L (.int i :: .ref (om + off) :: st) := hr_iald0 o (hf_M_at om b V) off n hof h0 hty hd kk
theorem mr_bald {om : Nat} {b : hf_H} {V : hf_V} (o : hf_In C code own nL rt fr lc) (k off n : Nat) (hof : hf_of 4 k = (off, n)) (h0 : off ≠ 0) (hty : hf_el (hf_ty 4 k) = .byte) {i : Int32} {K : Int32 → Option τ} (hd : decode code pc = .ok (.baload, 1)) (kk : ∀ x : Int32, hf_J C dec (K x) (hf_M om b V) (pc + 1) L (.int x :: st)) : hf_J C dec ((hf_ld n (V.2.2.2.1 k) i).bind K) (hf_M om b V) pc L (.int i :: .ref (om + off) :: st) := hr_bald0 o (hf_M_at om b V) off n hof h0 hty hd kk
theorem mr_zald {om : Nat} {b : hf_H} {V : hf_V} (o : hf_In C code own nL rt fr lc) (k off n : Nat) (hof : hf_of 4 k = (off, n)) (h0 : off ≠ 0) (hty : hf_el (hf_ty 4 k) = .boolean) {i : Int32} {K : Int32 → Option τ} (hd : decode code pc = .ok (.baload, 1)) (kk : ∀ x : Int32, hf_J C dec (K x) (hf_M om b V) (pc + 1) L (.int x :: st)) : hf_J C dec ((hf_ld n (V.2.2.2.1 k) i).bind K) (hf_M om b V) pc L (.int i :: .ref (om + off) :: st) := hr_zald0 o (hf_M_at om b V) off n hof h0 hty hd kk
theorem mr_lald {om : Nat} {b : hf_H} {V : hf_V} (o : hf_In C code own nL rt fr lc) (k off n : Nat) (hof : hf_of 4 k = (off, n)) (h0 : off ≠ 0) (hty : hf_el (hf_ty 4 k) = .long) {i : Int32} {K : Int64 → Option τ} (hd : decode code pc = .ok (.laload, 1)) (kk : ∀ x : Int64, hf_J C dec (K x) (hf_M om b V) (pc + 1) L (.long x :: st)) : hf_J C dec ((hf_ld n (V.2.2.2.2.1 k) i).bind K) (hf_M om b V) pc L (.int i :: .ref (om + off) :: st) := hr_lald0 o (hf_M_at om b V) off n hof h0 hty hd kk
theorem mr_iast {om : Nat} {b : hf_H} {V : hf_V} (o : hf_In C code own nL rt fr lc) (k off n : Nat) (hof : hf_of 4 k = (off, n)) (h0 : off ≠ 0) (hty : hf_el (hf_ty 4 k) = .int) {i x : Int32} {K : hf_V → Option τ} (hd : decode code pc = .ok (.iastore, 1)) (kk : ∀ V' : hf_V, hf_J C dec (K V') (hf_M om b V') (pc + 1) L st) : hf_J C dec (hf_sd n i (fun j => hf_ua V k j x) K) (hf_M om b V) pc L (.int x :: .int i :: .ref (om + off) :: st) := hr_iast0 o (hf_M_at om b V) off n hof h0 (fun j h1 h2 => hf_of4_inj j k h1 (by rw [hof]; exact h2)) hty hd (by rw [hf_M_up]; exact kk _)
theorem mr_bast {om : Nat} {b : hf_H} {V : hf_V} (o : hf_In C code own nL rt fr lc) (k off n : Nat) (hof : hf_of 4 k = (off, n)) (h0 : off ≠ 0) (hty : hf_el (hf_ty 4 k) = .byte) {i x : Int32} {K : hf_V → Option τ} (hd : decode code pc = .ok (.bastore, 1)) (kk : ∀ V' : hf_V, hf_J C dec (K V') (hf_M om b V') (pc + 1) L st) : hf_J C dec (hf_sd n i (fun j => hf_ua V k j (vp_nar .byte x)) K) (hf_M om b V) pc L (.int x :: .int i :: .ref (om + off) :: st) := hr_bast0 o (hf_M_at om b V) off n hof h0 (fun j h1 h2 => hf_of4_inj j k h1 (by rw [hof]; exact h2)) hty hd (by rw [hf_M_up]; exact kk _)
theorem mr_zast {om : Nat} {b : hf_H} {V : hf_V} (o : hf_In C code own nL rt fr lc) (k off n : Nat) (hof : hf_of 4 k = (off, n)) (h0 : off ≠ 0) (hty : hf_el (hf_ty 4 k) = .boolean) {i x : Int32} {K : hf_V → Option τ} (hd : decode code pc = .ok (.bastore, 1)) (kk : ∀ V' : hf_V, hf_J C dec (K V') (hf_M om b V') (pc + 1) L st) : hf_J C dec (hf_sd n i (fun j => hf_ua V k j (vp_nar .boolean x)) K) (hf_M om b V) pc L (.int x :: .int i :: .ref (om + off) :: st) := hr_zast0 o (hf_M_at om b V) off n hof h0 (fun j h1 h2 => hf_of4_inj j k h1 (by rw [hof]; exact h2)) hty hd (by rw [hf_M_up]; exact kk _)
theorem mr_last {om : Nat} {b : hf_H} {V : hf_V} (o : hf_In C code own nL rt fr lc) (k off n : Nat) (hof : hf_of 4 k = (off, n)) (h0 : off ≠ 0) (hty : hf_el (hf_ty 4 k) = .long) {i : Int32} {x : Int64} {K : hf_V → Option τ} (hd : decode code pc = .ok (.lastore, 1)) (kk : ∀ V' : hf_V, hf_J C dec (K V') (hf_M om b V') (pc + 1) L st) : hf_J C dec (hf_sd n i (fun j => hf_uL V k j x) K) (hf_M om b V) pc L (.long x :: .int i :: .ref (om + off) :: st) := hr_last0 o (hf_M_at om b V) off n hof h0 (fun j h1 h2 => hf_of4_inj j k h1 (by rw [hof]; exact h2)) hty hd (by rw [hf_M_up]; exact kk _)
end HJ
