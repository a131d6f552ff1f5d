set_option maxRecDepth 100000
/-! H mode: objects in the abstract heap -/
abbrev hf_gs : Type := (Nat → Option Nat) × (Nat → Nat)
/-- the run's statics and strings are gs -/
def hf_G (C : hf_X) (gs : hf_gs) : Prop := match C with
  | none => True
  | some (_, _, _, _, _, _, _, _, _, _, w, _, _, _, _) => w.2.2.2.2.2 = gs
def hf_ConG (gs : hf_gs) (y : MethodName) (b : ByteArray) (Lm : Nat) (r : Option FieldType) (fr lc : Nat) (avs : List Value) (h : hf_H) (fin : Outcome × hf_H) : Prop :=
  (h.2.1 ≤ fin.2.2.1 ∧ h.2.2 ≤ fin.2.2.2) ∧ ∀ (l : Launch) (w : hf_W), l.stackTraces = false → w.2.2.2.2.2 = gs → Met l y (ws_ y b Lm r) { frames := fr, cells := fin.2.2.1 - h.2.1, slots := fin.2.2.2 - h.2.2, locals := lc } (va_Pc avs (fun U => hf_Rel w h U.heap ∧ hf_K w U)) (hf_Q w fin) (fin.2.2.1 - h.2.1) (fin.2.2.2 - h.2.2) (fun q => w.2.2.1 ≤ q)
theorem hf_Con.G {gs : hf_gs} {y : MethodName} {b : ByteArray} {Lm : Nat} {r : Option FieldType} {fr lc : Nat} {avs : List Value} {h : hf_H} {fin : Outcome × hf_H} (k : hf_Con y b Lm r fr lc avs h fin) : hf_ConG gs y b Lm r fr lc avs h fin := ⟨k.1, fun l w hl _ => k.2 l w hl⟩
theorem hf_entryG {gs : hf_gs} {τ : Type} {y : MethodName} {b : ByteArray} {Lm : Nat} {r : Option FieldType} {fr lc : Nat} (hy : plainName y.cls = true) (avs : List Value) (hav : (lg_sl avs).length ≤ Lm) (L0 : List (Nat × Value)) (hL0 : lv_args 0 avs = L0) {h : hf_H} {dec : τ → Outcome × hf_H} {P : Option τ} {t : τ} (ht : P = some t) (body : ∀ C : hf_X, hf_In C b y.cls Lm r fr lc → hf_G C gs → (y.name = "<init>" → hf_Ini C) → hf_J C dec P h 0 L0 []) : hf_ConG gs y b Lm r fr lc avs h (dec t) := by
  have hm := body none trivial trivial (fun _ => trivial) t ht
  refine ⟨hm, fun l w hl hg => Met.ofW (cc := b) (maxL := Lm) (ret := r) hy rfl ?_⟩
  intro p e s m args below meth c s₁ B hml hv
  obtain ⟨rfl, hR, hK⟩ := hv
  have hts := atoms_spec (ws := ws_ y b Lm r) B.pre
  have hl0 := lv_entry avs (n := Lm) hav
  rw [lg_entry_eq]
  rw [hL0] at hl0
  obtain ⟨hm1, hm2⟩ := hm
  have o : hf_In (some (p, l, e, (headSpec (ws_ y b Lm r) { frames := fr, cells := (dec t).2.2.1 - h.2.1, slots := (dec t).2.2.2 - h.2.2, locals := lc }).room, s, m, avs.toArray, below, meth, c, w, h, dec t, Lm, MQ below (hf_Q w (dec t)) avs.toArray s ((dec t).2.2.1 - h.2.1) ((dec t).2.2.2 - h.2.2) (fun q => w.2.2.1 ≤ q))) b y.cls Lm r fr lc := by
    refine ⟨B.exec, B.bytes, hml, rfl, findClass_of_methodNamed B.named, fun x hx => hts x (List.mem_cons_of_mem _ hx), B.returns, B.notSynchronized, rfl, rfl, ?_, ?_, hK, hl, ?_, hR⟩
    · show h.2.1 + ((dec t).2.2.1 - h.2.1) = _
      omega
    · show h.2.2 + ((dec t).2.2.2 - h.2.2) = _
      omega
    · intro mc ms t1 g1 g2 g3
      rw [show (dec t).2.2.1 - h.2.1 = mc by omega, show (dec t).2.2.2 - h.2.2 = ms by omega]
      exact g3
  obtain ⟨-, k2⟩ := body _ o hg (fun hn => ((name_of_methodNamed B.named B.method).1).trans hn) t ht rfl
  exact k2 s.heap [] 0 0 _ hR (fun q hq => nomatch hq) rfl rfl hl0
/-! words of the programs -/
def hf_pi (md ci k : Nat) (h : hf_H) (a : Nat) (x : Int32) : Option hf_H := (hf_ob md ci h a).map fun V => hf_up h a (.inl (md, ci, hf_ui V k x))
def hf_pq (md ci k : Nat) (h : hf_H) (a : Nat) (x : Option Nat) : Option hf_H := (hf_ob md ci h a).map fun V => hf_up h a (.inl (md, ci, hf_uq V k x))
def hf_ai (ci k n : Nat) (h : hf_H) (a : Nat) (i : Int32) : Option Int32 := (hf_ob 1 ci h a).bind fun V => hf_ld n (V.2.2.2.1 k) i
def hf_al (ci k n : Nat) (h : hf_H) (a : Nat) (i : Int32) : Option Int64 := (hf_ob 1 ci h a).bind fun V => hf_ld n (V.2.2.2.2.1 k) i
def hf_aq (ci k n : Nat) (h : hf_H) (a : Nat) (i : Int32) : Option (Option Nat) := (hf_ob 1 ci h a).bind fun V => hf_ld n (V.2.2.2.2.2 k) i
def hf_si (ci k n : Nat) (h : hf_H) (a : Nat) (i x : Int32) : Option hf_H := (hf_ob 1 ci h a).bind fun V => if i < 0 ∨ n ≤ i.toNatClampNeg then none else some (hf_up h a (.inl (1, ci, hf_ua V k i.toNatClampNeg x)))
def hf_sl (ci k n : Nat) (h : hf_H) (a : Nat) (i : Int32) (x : Int64) : Option hf_H := (hf_ob 1 ci h a).bind fun V => if i < 0 ∨ n ≤ i.toNatClampNeg then none else some (hf_up h a (.inl (1, ci, hf_uL V k i.toNatClampNeg x)))
def hf_sq (ci k n : Nat) (h : hf_H) (a : Nat) (i : Int32) (x : Option Nat) : Option hf_H := (hf_ob 1 ci h a).bind fun V => if i < 0 ∨ n ≤ i.toNatClampNeg then none else some (hf_up h a (.inl (1, ci, hf_uQ V k i.toNatClampNeg x)))
/-- an array by itself at a: its length and contents -/
def hf_pa (ty : FieldType) (h : hf_H) (a : Nat) : Option (Nat × hf_B) := match h.1 a with
  | some (.inr (.inl (_, t, n, b))) => if t = ty then some (n, b) else none
  | some (.inr (.inr (_, some (t, n, b)))) => if t = ty then some (n, b) else none
  | _ => none
theorem hf_pa_cell {w : hf_W} {U : State} {ty : FieldType} {h : hf_H} {H : Heap} {a n : Nat} {b : hf_B} (hK : hf_K w U) (hR : hf_Rel w h H) (hty : ty ∈ hf_tys) (e : hf_pa ty h a = some (n, b)) : ∃ cell : Cell, H[a]? = some cell ∧ U.isArrayOf cell ty ∧ cell.vm ≠ .unknown ∧ n ≤ cell.slots.size ∧ cell.slots.size.toInt32 = Int32.ofNat n ∧ ∀ j : Nat, j < n → cell.slots[j]? = some (hf_be b j) := by
  unfold hf_pa at e
  split at e
  · next m t n' b' h1 =>
    split at e
    · next h2 =>
      cases e
      rw [← h2]
      rw [← h2] at hty
      exact hf_pcell hK hty (hR.2.2.2.1 a _ h1).1
    · cases e
  · next sv t n' b' h1 =>
    split at e
    · next h2 =>
      cases e
      rw [← h2]
      exact hf_rcell hK (hR.2.2.2.1 a _ h1).1 rfl
    · cases e
  · cases e
def hf_pal (ty : FieldType) (h : hf_H) (a : Nat) : Option Int32 := (hf_pa ty h a).map fun x => Int32.ofNat x.1
/-- elements of a plain array -/
def hf_paq (ty : FieldType) (h : hf_H) (a : Nat) (i : Int32) : Option (Option Nat) := (hf_pa ty h a).bind fun x => match x.2 with
  | .inr (.inr f) => hf_ld x.1 f i
  | _ => none
def hf_pai (ty : FieldType) (h : hf_H) (a : Nat) (i : Int32) : Option Int32 := (hf_pa ty h a).bind fun x => match x.2 with
  | .inl f => hf_ld x.1 f i
  | _ => none
theorem hf_ui_fv {md ci a k : Nat} {x : Int32} {V : hf_V} (hv : ∀ V, hf_fv md ci a V k = .int (V.1 k)) (j : Nat) : hf_fv md ci a (hf_ui V k x) j = updV (hf_fv md ci a V) k (.int x) j := by
  by_cases e : j = k
  · subst e
    rw [hv]
    simp [hf_ui, updV]
  · have h2 : (hf_ui V k x).1 j = V.1 j := if_neg e
    have h3 : hf_pv (hf_ty ci j) (hf_ui V k x) j = hf_pv (hf_ty ci j) V j := by unfold hf_pv; rw [h2]; rfl
    have h1 : hf_fv md ci a (hf_ui V k x) j = hf_fv md ci a V j := by unfold hf_fv; rw [h3]
    rw [h1]
    simp [updV, e]
theorem hf_uq_fv {md ci a k : Nat} {x : Option Nat} {V : hf_V} (hv : ∀ V, hf_fv md ci a V k = va_rf (V.2.2.1 k)) (j : Nat) : hf_fv md ci a (hf_uq V k x) j = updV (hf_fv md ci a V) k (va_rf x) j := by
  by_cases e : j = k
  · subst e
    rw [hv]
    simp [hf_uq, updV]
  · have h2 : (hf_uq V k x).2.2.1 j = V.2.2.1 j := if_neg e
    have h3 : hf_pv (hf_ty ci j) (hf_uq V k x) j = hf_pv (hf_ty ci j) V j := by unfold hf_pv; rw [h2]; rfl
    have h1 : hf_fv md ci a (hf_uq V k x) j = hf_fv md ci a V j := by unfold hf_fv; rw [h3]
    rw [h1]
    simp [updV, e]
theorem hf_nq {ty : FieldType} (h : (∃ n, ty = .object n) ∨ ∃ t, ty = .array t) (q : Option Nat) : narrow ty (va_rf q) = va_rf q ∧ fits ty (va_rf q) = true := by
  rcases h with ⟨n, rfl⟩ | ⟨t, rfl⟩ <;> cases q <;> exact ⟨rfl, rfl⟩
/-- a final field of the class whose constructor this is -/
def hf_Ff (own : String) (idx ci k : Nat) : Prop := ∃ r : vw_C, hf_cl[ci]? = some r ∧ (r.2.1 k).2.2.2 = true ∧ (r.2.1 k).1 = own ∧ Cond.fieldLink own idx own (r.2.1 k).2.1 (r.2.1 k).2.2.1 ∈ lw_all
section HX
variable {τ : Type} {C : hf_X} {dec : τ → Outcome × hf_H} {P : Option τ} {h : hf_H} {pc : Nat} {L : List (Nat × Value)} {st : List Value} {code : ByteArray} {own : String} {nL : Nat} {rt : Option FieldType} {fr lc : Nat} {md ci k idx a : Nat}
theorem hx_put0 (o : hf_In C code own nL rt fr lc) (fl : hf_Fl own idx ci k) (hd : decode code pc = .ok (.putfield idx, 3)) {V V' : hf_V} (hx : h.1 a = some (.inl (md, ci, V))) (hmd : (md == 2) = false) {v : Value} (hfin : hf_Nf ci k ∨ (hf_Ini C ∧ hf_Ff own idx ci k)) (hn : narrow (hf_ty ci k) v = v) (hfit : fits (hf_ty ci k) v = true) (hV : ∀ j, hf_fv md ci a V' j = updV (hf_fv md ci a V) k v j) (hV2 : V'.2.2.2 = V.2.2.2) (kk : hf_J C dec P (hf_up h a (.inl (md, ci, V'))) (pc + 3) L st) : hf_J C dec P h pc L (v :: .ref a :: st) := by
  obtain _ | ⟨p, l, e, R, s, m, args, below, meth, c, w, h0, fin, nL0, Q⟩ := C
  · exact kk
  intro t e1 e2
  obtain ⟨k1, k2⟩ := kk t e1 e2
  obtain ⟨o1, o2, o3, o4, o5, o6, o7, o8, o9, o10, o11, o12, o13, o14, o15, o16⟩ := o
  refine ⟨k1, fun H locs cells slots ls a1 a2 a3 a4 a5 => hf_Wput o1 o2 o5 o6 o13 fl hfin hn hfit (a1.2.2.2.1 a _ hx).1 hV hV2 hd fun H1 n b1 b2 b3 => ?_⟩
  exact k2 H1 _ cells slots ls (a1.set hx hmd (fun q => Iff.rfl) rfl b1 b2 (fun q hq => b3 q (fun z => hq (Or.inl z)))) (hf_nlocs a2 ((a1.2.2.2.1 a _ hx).2 hmd)) a3 a4 a5
theorem hx_putI (o : hf_In C code own nL rt fr lc) (fl : hf_Fl own idx ci k) (hd : decode code pc = .ok (.putfield idx, 3)) (hmd : (md == 2) = false) (hfin : hf_Nf ci k ∨ (hf_Ini C ∧ hf_Ff own idx ci k)) {x : Int32} (hn : narrow (hf_ty ci k) (.int x) = .int x) (hfit : fits (hf_ty ci k) (.int x) = true) (hv : ∀ V, hf_fv md ci a V k = .int (V.1 k)) {K : hf_H → Option τ} (kk : ∀ g : hf_H, hf_J C dec (K g) g (pc + 3) L st) : hf_J C dec ((hf_pi md ci k h a x).bind K) h pc L (.int x :: .ref a :: st) := by
  cases e : hf_ob md ci h a with
  | none => rw [show hf_pi md ci k h a x = none by unfold hf_pi; rw [e]; rfl]; exact hr_none
  | some V =>
    rw [show hf_pi md ci k h a x = some (hf_up h a (.inl (md, ci, hf_ui V k x))) by unfold hf_pi; rw [e]; rfl]
    exact hx_put0 o fl hd (hf_ob_spec e) hmd hfin hn hfit (hf_ui_fv hv) rfl (kk _)
theorem hx_putQ (o : hf_In C code own nL rt fr lc) (fl : hf_Fl own idx ci k) (hd : decode code pc = .ok (.putfield idx, 3)) (hmd : (md == 2) = false) (hfin : hf_Nf ci k ∨ (hf_Ini C ∧ hf_Ff own idx ci k)) {x : Option Nat} {v : Value} (hvx : v = va_rf x) (hty : (∃ n, hf_ty ci k = .object n) ∨ ∃ t, hf_ty ci k = .array t) (hv : ∀ V, hf_fv md ci a V k = va_rf (V.2.2.1 k)) {K : hf_H → Option τ} (kk : ∀ g : hf_H, hf_J C dec (K g) g (pc + 3) L st) : hf_J C dec ((hf_pq md ci k h a x).bind K) h pc L (v :: .ref a :: st) := by
  subst hvx
  cases e : hf_ob md ci h a with
  | none => rw [show hf_pq md ci k h a x = none by unfold hf_pq; rw [e]; rfl]; exact hr_none
  | some V =>
    rw [show hf_pq md ci k h a x = some (hf_up h a (.inl (md, ci, hf_uq V k x))) by unfold hf_pq; rw [e]; rfl]
    exact hx_put0 o fl hd (hf_ob_spec e) hmd hfin (hf_nq hty x).1 (hf_nq hty x).2 (hf_uq_fv hv) rfl (kk _)
theorem hx_iald (o : hf_In C code own nL rt fr lc) (ci k off n : Nat) (hof : hf_of ci k = (off, n)) (h0 : off ≠ 0) (hty : hf_el (hf_ty ci k) = .int) {i : Int32} {K : Int32 → Option τ} (hd : decode code pc = .ok (.iaload, 1)) (kk : ∀ x : Int32, hf_J C dec (K x) h (pc + 1) L (.int x :: st)) : hf_J C dec ((hf_ai ci k n h a i).bind K) h pc L (.int i :: .ref (a + off) :: st) := by
  cases e : hf_ob 1 ci h a with
  | none => rw [show hf_ai ci k n h a i = none by unfold hf_ai; rw [e]; rfl]; exact hr_none
  | some V =>
    rw [show hf_ai ci k n h a i = hf_ld n (V.2.2.2.1 k) i by unfold hf_ai; rw [e]; rfl]
    exact hr_iald0 o (hf_ob_spec e) off n hof h0 hty hd kk
theorem hx_bald (o : hf_In C code own nL rt fr lc) (ci k off n : Nat) (hof : hf_of ci k = (off, n)) (h0 : off ≠ 0) (hty : hf_el (hf_ty ci k) = .byte) {i : Int32} {K : Int32 → Option τ} (hd : decode code pc = .ok (.baload, 1)) (kk : ∀ x : Int32, hf_J C dec (K x) h (pc + 1) L (.int x :: st)) : hf_J C dec ((hf_ai ci k n h a i).bind K) h pc L (.int i :: .ref (a + off) :: st) := by
  cases e : hf_ob 1 ci h a with
  | none => rw [show hf_ai ci k n h a i = none by unfold hf_ai; rw [e]; rfl]; exact hr_none
  | some V =>
    rw [show hf_ai ci k n h a i = hf_ld n (V.2.2.2.1 k) i by unfold hf_ai; rw [e]; rfl]
    exact hr_bald0 o (hf_ob_spec e) off n hof h0 hty hd kk
theorem hx_zald (o : hf_In C code own nL rt fr lc) (ci k off n : Nat) (hof : hf_of ci k = (off, n)) (h0 : off ≠ 0) (hty : hf_el (hf_ty ci k) = .boolean) {i : Int32} {K : Int32 → Option τ} (hd : decode code pc = .ok (.baload, 1)) (kk : ∀ x : Int32, hf_J C dec (K x) h (pc + 1) L (.int x :: st)) : hf_J C dec ((hf_ai ci k n h a i).bind K) h pc L (.int i :: .ref (a + off) :: st) := by
  cases e : hf_ob 1 ci h a with
  | none => rw [show hf_ai ci k n h a i = none by unfold hf_ai; rw [e]; rfl]; exact hr_none
  | some V =>
    rw [show hf_ai ci k n h a i = hf_ld n (V.2.2.2.1 k) i by unfold hf_ai; rw [e]; rfl]
    exact hr_zald0 o (hf_ob_spec e) off n hof h0 hty hd kk
theorem hx_lald (o : hf_In C code own nL rt fr lc) (ci k off n : Nat) (hof : hf_of ci k = (off, n)) (h0 : off ≠ 0) (hty : hf_el (hf_ty ci k) = .long) {i : Int32} {K : Int64 → Option τ} (hd : decode code pc = .ok (.laload, 1)) (kk : ∀ x : Int64, hf_J C dec (K x) h (pc + 1) L (.long x :: st)) : hf_J C dec ((hf_al ci k n h a i).bind K) h pc L (.int i :: .ref (a + off) :: st) := by
  cases e : hf_ob 1 ci h a with
  | none => rw [show hf_al ci k n h a i = none by unfold hf_al; rw [e]; rfl]; exact hr_none
  | some V =>
    rw [show hf_al ci k n h a i = hf_ld n (V.2.2.2.2.1 k) i by unfold hf_al; rw [e]; rfl]
    exact hr_lald0 o (hf_ob_spec e) off n hof h0 hty hd kk
/-- a reference out of an owned array -/
theorem hx_aald0 (o : hf_In C code own nL rt fr lc) {V : hf_V} (hx : h.1 a = some (.inl (1, ci, V))) (off n : Nat) (hof : hf_of ci k = (off, n)) (h0 : off ≠ 0) (E : String) (hty : hf_el (hf_ty ci k) = .object E) (hmem : FieldType.object E ∈ hf_tys) {i : Int32} {K : Option Nat → Option τ} (hd : decode code pc = .ok (.aaload, 1)) (kk : ∀ x : Option Nat, hf_J C dec (K x) h (pc + 1) L (va_rf x :: st)) : hf_J C dec ((hf_ld n (V.2.2.2.2.2 k) i).bind K) h pc L (.int i :: .ref (a + off) :: st) := by
  unfold hf_ld
  by_cases hi : i < 0 ∨ n ≤ i.toNatClampNeg
  · rw [if_pos hi]; exact hr_none
  rw [if_neg hi]
  have kk := kk (V.2.2.2.2.2 k i.toNatClampNeg)
  obtain _ | ⟨p, l, e, R, s, m, args, below, meth, c, w, h0', fin, nL0, Q⟩ := C
  · exact kk
  intro t e1 e2
  obtain ⟨k1, k2⟩ := kk t e1 e2
  obtain ⟨o1, o2, o3, o4, o5, o6, o7, o8, o9, o10, o11, o12, o13, o14, o15, o16⟩ := o
  refine ⟨k1, fun H locs cells slots ls a1 a2 a3 a4 a5 => ?_⟩
  have hc := hf_at_arr (md := 1) (a1.2.2.2.1 a _ hx).1 hof h0
  rw [hty] at hc
  have hlt : i.toNatClampNeg < n := Nat.not_le.mp fun q => hi (Or.inr q)
  exact W.aald (v := va_rf (V.2.2.2.2.2 k i.toNatClampNeg)) (ty := .object E) o1 o2 hc (hf_tyK o13 hmem n (fun j => va_rf (V.2.2.2.2.2 k j))) rfl (fun q => by cases q) (by show ¬ (i < 0 ∨ (arrV _ _ _).slots.size ≤ _); rw [arrV_size]; exact hi) (by exact arrV_read _ _ hlt) rfl rfl hd (k2 H locs cells slots ls a1 a2 a3 a4 a5)
theorem hx_aaldQ (o : hf_In C code own nL rt fr lc) (ci k off n : Nat) (hof : hf_of ci k = (off, n)) (h0 : off ≠ 0) (E : String) (hty : hf_el (hf_ty ci k) = .object E) (hmem : FieldType.object E ∈ hf_tys) {i : Int32} {K : Option Nat → Option τ} (hd : decode code pc = .ok (.aaload, 1)) (kk : ∀ x : Option Nat, hf_J C dec (K x) h (pc + 1) L (va_rf x :: st)) : hf_J C dec ((hf_aq ci k n h a i).bind K) h pc L (.int i :: .ref (a + off) :: st) := by
  cases e : hf_ob 1 ci h a with
  | none => rw [show hf_aq ci k n h a i = none by unfold hf_aq; rw [e]; rfl]; exact hr_none
  | some V =>
    rw [show hf_aq ci k n h a i = hf_ld n (V.2.2.2.2.2 k) i by unfold hf_aq; rw [e]; rfl]
    exact hx_aald0 o (hf_ob_spec e) off n hof h0 E hty hmem hd kk
/-- what isn't null -/
def hf_nn {α : Type} (x : Option (Option α)) : Option α := x.bind id
theorem hf_nn_bind {α τ : Type} (x : Option (Option α)) (K : α → Option τ) : (hf_nn x).bind K = x.bind fun y => y.bind K := by
  cases x with
  | none => rfl
  | some y => cases y <;> rfl
theorem hx_aald (o : hf_In C code own nL rt fr lc) (ci k off n : Nat) (hof : hf_of ci k = (off, n)) (h0 : off ≠ 0) (E : String) (hty : hf_el (hf_ty ci k) = .object E) (hmem : FieldType.object E ∈ hf_tys) {i : Int32} {K : Nat → Option τ} (hd : decode code pc = .ok (.aaload, 1)) (kk : ∀ x : Nat, hf_J C dec (K x) h (pc + 1) L (.ref x :: st)) : hf_J C dec ((hf_nn (hf_aq ci k n h a i)).bind K) h pc L (.int i :: .ref (a + off) :: st) := by
  rw [hf_nn_bind]
  refine hx_aaldQ o ci k off n hof h0 E hty hmem hd (fun x => ?_)
  cases x with
  | none => exact hr_none
  | some y => exact kk y
theorem hx_iast (o : hf_In C code own nL rt fr lc) (ci k off n : Nat) (hof : hf_of ci k = (off, n)) (h0 : off ≠ 0) (hinj : ∀ j : Nat, (hf_of ci j).1 ≠ 0 → (hf_of ci j).1 = off → j = k) (hty : hf_el (hf_ty ci k) = .int) {i x : Int32} {K : hf_H → Option τ} (hd : decode code pc = .ok (.iastore, 1)) (kk : ∀ g : hf_H, hf_J C dec (K g) g (pc + 1) L st) : hf_J C dec ((hf_si ci k n h a i x).bind K) h pc L (.int x :: .int i :: .ref (a + off) :: st) := by
  cases e : hf_ob 1 ci h a with
  | none => rw [show hf_si ci k n h a i x = none by unfold hf_si; rw [e]; rfl]; exact hr_none
  | some V =>
    have h2 : (hf_si ci k n h a i x).bind K = hf_sd n i (fun j => hf_ua V k j x) (fun V' => K (hf_up h a (.inl (1, ci, V')))) := by
      unfold hf_si hf_sd
      rw [e]
      by_cases hi : i < 0 ∨ n ≤ i.toNatClampNeg
      · simp [hi]
      · simp [hi]
    rw [h2]
    exact hr_iast0 o (hf_ob_spec e) off n hof h0 hinj hty hd (kk _)
theorem hx_bast (o : hf_In C code own nL rt fr lc) (ci k off n : Nat) (hof : hf_of ci k = (off, n)) (h0 : off ≠ 0) (hinj : ∀ j : Nat, (hf_of ci j).1 ≠ 0 → (hf_of ci j).1 = off → j = k) (hty : hf_el (hf_ty ci k) = .byte) {i x : Int32} {K : hf_H → Option τ} (hd : decode code pc = .ok (.bastore, 1)) (kk : ∀ g : hf_H, hf_J C dec (K g) g (pc + 1) L st) : hf_J C dec ((hf_si ci k n h a i (vp_nar .byte x)).bind K) h pc L (.int x :: .int i :: .ref (a + off) :: st) := by
  cases e : hf_ob 1 ci h a with
  | none => rw [show hf_si ci k n h a i (vp_nar .byte x) = none by unfold hf_si; rw [e]; rfl]; exact hr_none
  | some V =>
    have h2 : (hf_si ci k n h a i (vp_nar .byte x)).bind K = hf_sd n i (fun j => hf_ua V k j (vp_nar .byte x)) (fun V' => K (hf_up h a (.inl (1, ci, V')))) := by
      unfold hf_si hf_sd
      rw [e]
      by_cases hi : i < 0 ∨ n ≤ i.toNatClampNeg
      · simp [hi]
      · simp [hi]
    rw [h2]
    exact hr_bast0 o (hf_ob_spec e) off n hof h0 hinj hty hd (kk _)
theorem hx_zast (o : hf_In C code own nL rt fr lc) (ci k off n : Nat) (hof : hf_of ci k = (off, n)) (h0 : off ≠ 0) (hinj : ∀ j : Nat, (hf_of ci j).1 ≠ 0 → (hf_of ci j).1 = off → j = k) (hty : hf_el (hf_ty ci k) = .boolean) {i x : Int32} {K : hf_H → Option τ} (hd : decode code pc = .ok (.bastore, 1)) (kk : ∀ g : hf_H, hf_J C dec (K g) g (pc + 1) L st) : hf_J C dec ((hf_si ci k n h a i (vp_nar .boolean x)).bind K) h pc L (.int x :: .int i :: .ref (a + off) :: st) := by
  cases e : hf_ob 1 ci h a with
  | none => rw [show hf_si ci k n h a i (vp_nar .boolean x) = none by unfold hf_si; rw [e]; rfl]; exact hr_none
  | some V =>
    have h2 : (hf_si ci k n h a i (vp_nar .boolean x)).bind K = hf_sd n i (fun j => hf_ua V k j (vp_nar .boolean x)) (fun V' => K (hf_up h a (.inl (1, ci, V')))) := by
      unfold hf_si hf_sd
      rw [e]
      by_cases hi : i < 0 ∨ n ≤ i.toNatClampNeg
      · simp [hi]
      · simp [hi]
    rw [h2]
    exact hr_zast0 o (hf_ob_spec e) off n hof h0 hinj hty hd (kk _)
theorem hx_last (o : hf_In C code own nL rt fr lc) (ci k off n : Nat) (hof : hf_of ci k = (off, n)) (h0 : off ≠ 0) (hinj : ∀ j : Nat, (hf_of ci j).1 ≠ 0 → (hf_of ci j).1 = off → j = k) (hty : hf_el (hf_ty ci k) = .long) {i : Int32} {x : Int64} {K : hf_H → Option τ} (hd : decode code pc = .ok (.lastore, 1)) (kk : ∀ g : hf_H, hf_J C dec (K g) g (pc + 1) L st) : hf_J C dec ((hf_sl ci k n h a i x).bind K) h pc L (.long x :: .int i :: .ref (a + off) :: st) := by
  cases e : hf_ob 1 ci h a with
  | none => rw [show hf_sl ci k n h a i x = none by unfold hf_sl; rw [e]; rfl]; exact hr_none
  | some V =>
    have h2 : (hf_sl ci k n h a i x).bind K = hf_sd n i (fun j => hf_uL V k j x) (fun V' => K (hf_up h a (.inl (1, ci, V')))) := by
      unfold hf_sl hf_sd
      rw [e]
      by_cases hi : i < 0 ∨ n ≤ i.toNatClampNeg
      · simp [hi]
      · simp [hi]
    rw [h2]
    exact hr_last0 o (hf_ob_spec e) off n hof h0 hinj hty hd (kk _)
/-- the length of an owned array: the object must be there -/
theorem hx_alen (o : hf_In C code own nL rt fr lc) (ci k off n : Nat) (hof : hf_of ci k = (off, n)) (h0 : off ≠ 0) (ty : FieldType) (hty : hf_el (hf_ty ci k) = ty) (hmem : ty ∈ hf_tys) (v : Int32) (hv : Int32.ofNat n = v) {K : hf_V → Option τ} (hd : decode code pc = .ok (.arraylength, 1)) (kk : ∀ V : hf_V, hf_J C dec (K V) h (pc + 1) L (.int v :: st)) : hf_J C dec ((hf_ob 1 ci h a).bind K) h pc L (.ref (a + off) :: st) := by
  subst hv
  cases e : hf_ob 1 ci h a with
  | none => exact hr_none
  | some V =>
    have hx := hf_ob_spec e
    have kk := kk V
    show hf_J C dec (K V) h pc L _
    obtain _ | ⟨p, l, e, R, s, m, args, below, meth, c, w, h0', fin, nL0, Q⟩ := C
    · exact kk
    intro t e1 e2
    obtain ⟨k1, k2⟩ := kk t e1 e2
    obtain ⟨o1, o2, o3, o4, o5, o6, o7, o8, o9, o10, o11, o12, o13, o14, o15, o16⟩ := o
    refine ⟨k1, fun H locs cells slots ls a1 a2 a3 a4 a5 => ?_⟩
    have hc := hf_at_arr (md := 1) (a1.2.2.2.1 a _ hx).1 hof h0
    rw [hty] at hc
    have hg : ∃ f : Nat → Value, vp_cell (w.2.1 ty) (hf_bx n (hf_ar ty V k)) = arrV (w.2.1 ty) n f := by
      cases hf_ar ty V k with
      | inl f => exact ⟨fun j => .int (f j), rfl⟩
      | inr g => cases g with
        | inl f => exact ⟨fun j => .long (f j), rfl⟩
        | inr f => exact ⟨fun j => va_rf (f j), rfl⟩
    obtain ⟨f, hg⟩ := hg
    rw [hg] at hc
    exact W.alen (n := Int32.ofNat n) o1 o2 hc (hf_tyK o13 hmem n f) (by rw [arrV_size] <;> rfl) rfl rfl hd (k2 H locs cells slots ls a1 a2 a3 a4 a5)
theorem hx_palen (o : hf_In C code own nL rt fr lc) (ty : FieldType) (hmem : ty ∈ hf_tys) {K : Int32 → Option τ} (hd : decode code pc = .ok (.arraylength, 1)) (kk : ∀ v : Int32, hf_J C dec (K v) h (pc + 1) L (.int v :: st)) : hf_J C dec ((hf_pal ty h a).bind K) h pc L (.ref a :: st) := by
  cases e : hf_pa ty h a with
  | none => rw [show hf_pal ty h a = none by unfold hf_pal; rw [e]; rfl]; exact hr_none
  | some x =>
    obtain ⟨n, b⟩ := x
    rw [show hf_pal ty h a = some (Int32.ofNat n) by unfold hf_pal; rw [e]; rfl]
    have ex := e
    have kk := kk (Int32.ofNat n)
    show hf_J C dec (K (Int32.ofNat n)) h pc L _
    obtain _ | ⟨p, l, e, R, s, m, args, below, meth, c, w, h0', fin, nL0, Q⟩ := C
    · exact kk
    intro t e1 e2
    obtain ⟨k1, k2⟩ := kk t e1 e2
    obtain ⟨o1, o2, o3, o4, o5, o6, o7, o8, o9, o10, o11, o12, o13, o14, o15, o16⟩ := o
    refine ⟨k1, fun H locs cells slots ls a1 a2 a3 a4 a5 => ?_⟩
    obtain ⟨cell, g1, g2, g3, g4, g5, g6⟩ := hf_pa_cell o13 a1 hmem ex
    exact W.alen (n := Int32.ofNat n) o1 o2 g1 g2 g5 rfl rfl hd (k2 H locs cells slots ls a1 a2 a3 a4 a5)
theorem hx_paaldQ (o : hf_In C code own nL rt fr lc) (E : String) (hmem : FieldType.object E ∈ hf_tys) {i : Int32} {K : Option Nat → Option τ} (hd : decode code pc = .ok (.aaload, 1)) (kk : ∀ x : Option Nat, hf_J C dec (K x) h (pc + 1) L (va_rf x :: st)) : hf_J C dec ((hf_paq (.object E) h a i).bind K) h pc L (.int i :: .ref a :: st) := by
  cases e : hf_pa (.object E) h a with
  | none => rw [show hf_paq (.object E) h a i = none by unfold hf_paq; rw [e]; rfl]; exact hr_none
  | some x =>
    obtain ⟨n, b⟩ := x
    have ex := e
    match b, e, ex with
    | .inl f, e, ex => rw [show hf_paq (.object E) h a i = none by unfold hf_paq; rw [e]; rfl]; exact hr_none
    | .inr (.inl f), e, ex => rw [show hf_paq (.object E) h a i = none by unfold hf_paq; rw [e]; rfl]; exact hr_none
    | .inr (.inr f), e, ex =>
      rw [show hf_paq (.object E) h a i = hf_ld n f i by unfold hf_paq; rw [e]; rfl]
      unfold hf_ld
      by_cases hi : i < 0 ∨ n ≤ i.toNatClampNeg
      · rw [if_pos hi]; exact hr_none
      rw [if_neg hi]
      have kk := kk (f i.toNatClampNeg)
      obtain _ | ⟨p, l, e, R, s, m, args, below, meth, c, w, h0', fin, nL0, Q⟩ := C
      · exact kk
      intro t e1 e2
      obtain ⟨k1, k2⟩ := kk t e1 e2
      obtain ⟨o1, o2, o3, o4, o5, o6, o7, o8, o9, o10, o11, o12, o13, o14, o15, o16⟩ := o
      refine ⟨k1, fun H locs cells slots ls a1 a2 a3 a4 a5 => ?_⟩
      obtain ⟨cell, g1, g2, g3, g4, g5, g6⟩ := hf_pa_cell o13 a1 hmem ex
      have hlt : i.toNatClampNeg < n := Nat.not_le.mp fun q => hi (Or.inr q)
      exact W.aald (v := va_rf (f i.toNatClampNeg)) (ty := .object E) o1 o2 g1 g2 rfl g3 (fun q => by rcases q with q | q; exact hi (Or.inl q); omega) (g6 _ hlt) rfl rfl hd (k2 H locs cells slots ls a1 a2 a3 a4 a5)
/-- ints, bytes of a plain array -/
theorem hx_paild (o : hf_In C code own nL rt fr lc) (hmem : FieldType.int ∈ hf_tys) {i : Int32} {K : Int32 → Option τ} (hd : decode code pc = .ok (.iaload, 1)) (kk : ∀ x : Int32, hf_J C dec (K x) h (pc + 1) L (.int x :: st)) : hf_J C dec ((hf_pai .int h a i).bind K) h pc L (.int i :: .ref a :: st) := by
  cases e : hf_pa .int h a with
  | none => rw [show hf_pai .int h a i = none by unfold hf_pai; rw [e]; rfl]; exact hr_none
  | some x =>
    obtain ⟨n, b⟩ := x
    have ex := e
    match b, e, ex with
    | .inr f, e, ex => rw [show hf_pai .int h a i = none by unfold hf_pai; rw [e]; rfl]; exact hr_none
    | .inl f, e, ex =>
      rw [show hf_pai .int h a i = hf_ld n f i by unfold hf_pai; rw [e]; rfl]
      unfold hf_ld
      by_cases hi : i < 0 ∨ n ≤ i.toNatClampNeg
      · rw [if_pos hi]; exact hr_none
      rw [if_neg hi]
      have kk := kk (f i.toNatClampNeg)
      obtain _ | ⟨p, l, e, R, s, m, args, below, meth, c, w, h0', fin, nL0, Q⟩ := C
      · exact kk
      intro t e1 e2
      obtain ⟨k1, k2⟩ := kk t e1 e2
      obtain ⟨o1, o2, o3, o4, o5, o6, o7, o8, o9, o10, o11, o12, o13, o14, o15, o16⟩ := o
      refine ⟨k1, fun H locs cells slots ls a1 a2 a3 a4 a5 => ?_⟩
      obtain ⟨cell, g1, g2, g3, g4, g5, g6⟩ := hf_pa_cell o13 a1 hmem ex
      have hlt : i.toNatClampNeg < n := Nat.not_le.mp fun q => hi (Or.inr q)
      exact W.iald (v := .int (f i.toNatClampNeg)) o1 o2 g1 g2 g3 (fun q => by rcases q with q | q; exact hi (Or.inl q); omega) (g6 _ hlt) rfl rfl hd (k2 H locs cells slots ls a1 a2 a3 a4 a5)
theorem hx_pabld (o : hf_In C code own nL rt fr lc) (hmem : FieldType.byte ∈ hf_tys) {i : Int32} {K : Int32 → Option τ} (hd : decode code pc = .ok (.baload, 1)) (kk : ∀ x : Int32, hf_J C dec (K x) h (pc + 1) L (.int x :: st)) : hf_J C dec ((hf_pai .byte h a i).bind K) h pc L (.int i :: .ref a :: st) := by
  cases e : hf_pa .byte h a with
  | none => rw [show hf_pai .byte h a i = none by unfold hf_pai; rw [e]; rfl]; exact hr_none
  | some x =>
    obtain ⟨n, b⟩ := x
    have ex := e
    match b, e, ex with
    | .inr f, e, ex => rw [show hf_pai .byte h a i = none by unfold hf_pai; rw [e]; rfl]; exact hr_none
    | .inl f, e, ex =>
      rw [show hf_pai .byte h a i = hf_ld n f i by unfold hf_pai; rw [e]; rfl]
      unfold hf_ld
      by_cases hi : i < 0 ∨ n ≤ i.toNatClampNeg
      · rw [if_pos hi]; exact hr_none
      rw [if_neg hi]
      have kk := kk (f i.toNatClampNeg)
      obtain _ | ⟨p, l, e, R, s, m, args, below, meth, c, w, h0', fin, nL0, Q⟩ := C
      · exact kk
      intro t e1 e2
      obtain ⟨k1, k2⟩ := kk t e1 e2
      obtain ⟨o1, o2, o3, o4, o5, o6, o7, o8, o9, o10, o11, o12, o13, o14, o15, o16⟩ := o
      refine ⟨k1, fun H locs cells slots ls a1 a2 a3 a4 a5 => ?_⟩
      obtain ⟨cell, g1, g2, g3, g4, g5, g6⟩ := hf_pa_cell o13 a1 hmem ex
      have hlt : i.toNatClampNeg < n := Nat.not_le.mp fun q => hi (Or.inr q)
      exact W.bald (v := .int (f i.toNatClampNeg)) o1 o2 g1 g2 g3 (fun q => by rcases q with q | q; exact hi (Or.inl q); omega) (g6 _ hlt) rfl rfl hd (k2 H locs cells slots ls a1 a2 a3 a4 a5)
theorem hx_paald (o : hf_In C code own nL rt fr lc) (E : String) (hmem : FieldType.object E ∈ hf_tys) {i : Int32} {K : Nat → Option τ} (hd : decode code pc = .ok (.aaload, 1)) (kk : ∀ x : Nat, hf_J C dec (K x) h (pc + 1) L (.ref x :: st)) : hf_J C dec ((hf_nn (hf_paq (.object E) h a i)).bind K) h pc L (.int i :: .ref a :: st) := by
  rw [hf_nn_bind]
  refine hx_paaldQ o E hmem hd (fun x => ?_)
  cases x with
  | none => exact hr_none
  | some y => exact kk y
/-- a cast to the object's own class -/
theorem hx_cast (o : hf_In C code own nL rt fr lc) {q : vw_C} (hl : Cond.classLink own idx q.1 ∈ lw_all) (hc : hf_cl[ci]? = some q) (hd : decode code pc = .ok (.checkcast idx, 3)) {K : hf_V → Option τ} (kk : ∀ V : hf_V, hf_J C dec (K V) h (pc + 3) L (.ref a :: st)) : hf_J C dec ((hf_ob md ci h a).bind K) h pc L (.ref a :: st) := by
  cases e : hf_ob md ci h a with
  | none => exact hr_none
  | some V =>
    have hx := hf_ob_spec e
    have kk := kk V
    show hf_J C dec (K V) h pc L _
    obtain _ | ⟨p, l, e, R, s, m, args, below, meth, c, w, h0', fin, nL0, Q⟩ := C
    · exact kk
    intro t e1 e2
    obtain ⟨k1, k2⟩ := kk t e1 e2
    obtain ⟨o1, o2, o3, o4, o5, o6, o7, o8, o9, o10, o11, o12, o13, o14, o15, o16⟩ := o
    exact ⟨k1, fun H locs cells slots ls a1 a2 a3 a4 a5 => va_castS o1 o2 o5 (o6 _ hl) ((o13.1 ci q hc).2) (hf_recv o13 a1 hx hc) hd (k2 H locs cells slots ls a1 a2 a3 a4 a5)⟩
end HX
