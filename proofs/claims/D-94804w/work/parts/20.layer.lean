set_option maxRecDepth 100000
/-! THE LAYER: abstract heaps (hf_H), programs that may fail (Option), and the judgement hf_J that ties a program to the machine -/
/-- what an object holds: ints, longs, references by the field's number; the arrays that it owns, by the field's number -/
abbrev hf_V : Type := (Nat → Int32) × (Nat → Int64) × (Nat → Option Nat) × (Nat → Nat → Int32) × (Nat → Nat → Int64) × (Nat → Nat → Option Nat)
abbrev hf_B : Type := (Nat → Int32) ⊕ (Nat → Int64) ⊕ (Nat → Option Nat)
/-- an object: mode (0 raw, 1 with the arrays that it owns, 2 never written), class, values -/
abbrev hf_O : Type := Nat × Nat × hf_V
/-- an array by itself: mode, type of its elements, length, contents -/
abbrev hf_A : Type := Nat × FieldType × Nat × hf_B
/-- what is there from the start and never written: as a String, where its bytes lie; as an array, its elements' type, length, contents -/
abbrev hf_S : Type := Option Nat × Option (FieldType × Nat × hf_B)
abbrev hf_C : Type := hf_O ⊕ hf_A ⊕ hf_S
/-- the heap: cells, how many there are, how many fields and elements were made -/
abbrev hf_H : Type := (Nat → Option hf_C) × Nat × Nat
/-- what holds all through the run: classes' numbers, arrays' classes, where the run's own cells begin, the heap at its start, String's class and slots, statics, strings -/
abbrev hf_W : Type := va_G × (FieldType → ClassId) × Nat × Heap × (ClassId × Nat × Nat × (FieldType → ClassId → Prop)) × (Nat → Option Nat) × (Nat → Nat)
def hf_cl : List vw_C := [(RX0, TX0, 23), (RX1, TX1, 13), (RX2, TX2, 5), (RX3, TX3, 7), (RX4, TX4, 37), (RX5, TX5, 7), (RX6, TX6, 4), (RX7, TX7, 2), (RX8, TX8, 1), (RX6, TX6, 4), (RX10, TX10, 1), (RX11, TX11, 1), (RX12, TX12, 3), (RX13, TX13, 3), (RX6, TX6, 4), (RX15, TX15, 1), (RX16, TX16, 4), (RX17, TX17, 3), (RX18, TX18, 8), (RJ2, TJ2, 3)]
def hf_ty : Nat → Nat → FieldType := fun ci => match ci with
  | 0 => tyX0
  | 1 => tyX1
  | 2 => tyX2
  | 3 => tyX3
  | 4 => tyX4
  | 5 => tyX5
  | 6 => tyX6
  | 7 => tyX7
  | 8 => tyX8
  | 9 => tyX6
  | 10 => tyX10
  | 11 => tyX11
  | 12 => tyX12
  | 13 => tyX13
  | 14 => tyX6
  | 15 => tyX15
  | 16 => tyX16
  | 17 => tyX17
  | 18 => tyX18
  | _ => tyJ2
/-- owned arrays: how far behind the object, how long -/
def hf_of0 : Nat → Nat × Nat := fun k => match k with
  | 5 => (20, 400)
  | 7 => (21, 12)
  | 8 => (22, 12)
  | 9 => (23, 12)
  | 12 => (24, 4096)
  | 13 => (25, 20)
  | 16 => (126, 13)
  | 17 => (127, 32768)
  | 18 => (128, 32768)
  | 22 => (129, 4)
  | _ => (0, 0)
def hf_of1 : Nat → Nat × Nat := fun k => match k with
  | 2 => (5, 4)
  | _ => (0, 0)
def hf_of2 : Nat → Nat × Nat := fun k => match k with
  | 0 => (1, 12)
  | 1 => (2, 4)
  | 2 => (3, 4)
  | 3 => (4, 4)
  | _ => (0, 0)
def hf_of4 : Nat → Nat × Nat := fun k => match k with
  | 0 => (1, 400)
  | 3 => (2, 2400)
  | 4 => (3, 7)
  | 5 => (4, 360)
  | 6 => (5, 6)
  | 7 => (6, 86)
  | 15 => (7, 400)
  | 17 => (8, 64)
  | 19 => (9, 13)
  | 20 => (10, 123)
  | 22 => (11, 4096)
  | 23 => (12, 4096)
  | 24 => (13, 1720)
  | 27 => (14, 2048)
  | 28 => (15, 2048)
  | 32 => (16, 86)
  | 34 => (17, 492)
  | 35 => (18, 4)
  | 36 => (19, 4)
  | _ => (0, 0)
def hf_of18 : Nat → Nat × Nat := fun k => match k with
  | 2 => (6, 12)
  | 3 => (7, 12)
  | 4 => (8, 12)
  | _ => (0, 0)
def hf_of : Nat → Nat → Nat × Nat := fun ci => match ci with
  | 0 => hf_of0
  | 1 => hf_of1
  | 2 => hf_of2
  | 4 => hf_of4
  | 18 => hf_of18
  | _ => fun _ => (0, 0)
def hf_el : FieldType → FieldType := fun t => match t with
  | .array t => t
  | t => t
/-- the value of a plain field, by its type -/
def hf_pv (ty : FieldType) (V : hf_V) (k : Nat) : Value := match ty with
  | .long => .long (V.2.1 k)
  | .object _ => va_rf (V.2.2.1 k)
  | .array _ => va_rf (V.2.2.1 k)
  | _ => .int (V.1 k)
/-- the value of a field -/
def hf_fv (md ci a : Nat) (V : hf_V) (k : Nat) : Value := match (hf_of ci k).1, md with
  | 0, _ => hf_pv (hf_ty ci k) V k
  | n + 1, 1 => .ref (a + (n + 1))
  | _ + 1, _ => hf_pv (hf_ty ci k) V k
/-- the contents of an owned array, by the type of its elements -/
def hf_ar (ty : FieldType) (V : hf_V) (k : Nat) : hf_B := match ty with
  | .long => .inr (.inl (V.2.2.2.2.1 k))
  | .object _ => .inr (.inr (V.2.2.2.2.2 k))
  | .array _ => .inr (.inr (V.2.2.2.2.2 k))
  | _ => .inl (V.2.2.2.1 k)
def hf_bx (n : Nat) (b : hf_B) : vp_A := match b with
  | .inl f => (n, .inl f)
  | .inr (.inl f) => (n, .inr (.inl f))
  | .inr (.inr f) => (n, .inr (.inr (.inr (.inr f))))
/-- an array's element as a value -/
def hf_be (b : hf_B) (j : Nat) : Value := match b with
  | .inl f => .int (f j)
  | .inr (.inl f) => .long (f j)
  | .inr (.inr f) => va_rf (f j)
def hf_at (w : hf_W) (a : Nat) (x : hf_C) (H : Heap) : Prop := match x with
  | .inl (md, ci, V) => (∃ r : vw_C, hf_cl[ci]? = some r ∧ t_OB a (w.1.1 ci) r.2.2 (w.1.2 ci) H (hf_fv md ci a V)) ∧ (md = 1 → ∀ k : Nat, (hf_of ci k).1 ≠ 0 → H[a + (hf_of ci k).1]? = some (vp_cell (w.2.1 (hf_el (hf_ty ci k))) (hf_bx (hf_of ci k).2 (hf_ar (hf_el (hf_ty ci k)) V k))))
  | .inr (.inl (md, ty, n, b)) => (md ≠ 2 → H[a]? = some (vp_cell (w.2.1 ty) (hf_bx n b))) ∧ (md = 2 → ∃ cell : Cell, H[a]? = some cell ∧ w.2.2.2.2.1.2.2.2 ty cell.cls ∧ cell.vm ≠ .unknown ∧ (∀ k, cell.vm ≠ .statics k) ∧ n ≤ cell.slots.size ∧ cell.slots.size.toInt32 = Int32.ofNat n ∧ ∀ j : Nat, j < n → cell.slots[j]? = some (hf_be b j))
  | .inr (.inr v) => ∃ cell : Cell, H[a]? = some cell ∧ cell.vm ≠ .unknown ∧ (∀ x : Nat, v.1 = some x → cell.vm.isStatics = false ∧ cell.cls = w.2.2.2.2.1.1 ∧ cell.slots[w.2.2.2.2.1.2.1]? = some (.ref x) ∧ cell.slots[w.2.2.2.2.1.2.2.1]? = some (.int 0)) ∧ ∀ (ty : FieldType) (n : Nat) (b : hf_B), v.2 = some (ty, n, b) → w.2.2.2.2.1.2.2.2 ty cell.cls ∧ (∀ k, cell.vm ≠ .statics k) ∧ n ≤ cell.slots.size ∧ cell.slots.size.toInt32 = Int32.ofNat n ∧ ∀ j : Nat, j < n → cell.slots[j]? = some (hf_be b j)
/-- an object field's slot -/
def hf_SF (s : State) (C f d : String) (i : Nat) : Prop := ∃ (cf : ClassId) (kf : Class) (fi : Nat) (fd : Field), s.fieldFound? C f d = some (cf, kf, fi, fd) ∧ fd.isStatic = false ∧ fd.slot = i
theorem hf_SF.moved {u E : State} {C f d : String} {i : Nat} (hvm : u.vm.Alike E.vm) (h : hf_SF u C f d i) : hf_SF E C f d i := by
  obtain ⟨cf, kf, fi, fd, hi, hs⟩ := h
  obtain ⟨kf', hi', -⟩ := State.fieldFound?_setVm (s := u) hvm hi
  exact ⟨cf, kf', fi, fd, by simpa only [State.fieldFound?, State.vm_setVm] using hi', hs⟩
/-- the addresses that a cell takes up -/
def hf_ft (a : Nat) (x : hf_C) (q : Nat) : Prop := match x with
  | .inl (md, ci, _) => q = a ∨ (md = 1 ∧ ∃ k : Nat, (hf_of ci k).1 ≠ 0 ∧ q = a + (hf_of ci k).1)
  | .inr _ => q = a
/-- never written -/
def hf_ro (x : hf_C) : Bool := match x with
  | .inl (md, _) => md == 2
  | .inr (.inl (md, _)) => md == 2
  | .inr (.inr _) => true
def hf_Rel (w : hf_W) (h : hf_H) (H : Heap) : Prop :=
  H.size = h.2.1 ∧ w.2.2.1 ≤ H.size ∧ (∀ q : Nat, q < w.2.2.1 → H[q]? = w.2.2.2.1[q]?) ∧ (∀ (a : Nat) (x : hf_C), h.1 a = some x → hf_at w a x H ∧ (hf_ro x = false → w.2.2.1 ≤ a)) ∧
  ∀ (a b : Nat) (x y : hf_C) (q : Nat), h.1 a = some x → h.1 b = some y → hf_ft a x q → hf_ft b y q → (a = b ∨ (hf_ro x = true ∧ hf_ro y = true))
theorem hf_at_kept {w : hf_W} {a : Nat} {x : hf_C} {H H1 : Heap} (h : hf_at w a x H) (hq : ∀ q : Nat, hf_ft a x q → H1[q]? = H[q]?) : hf_at w a x H1 := by
  match x, h, hq with
  | .inl (md, ci, V), h, hq =>
    obtain ⟨⟨r, h1, h2⟩, h3⟩ := h
    refine ⟨⟨r, h1, h2.kept (hq a (Or.inl rfl))⟩, fun e k hk => ?_⟩
    rw [hq _ (Or.inr ⟨e, k, hk, rfl⟩)]
    exact h3 e k hk
  | .inr (.inl (md, ty, n, b)), h, hq =>
    refine ⟨fun e => (hq a rfl).trans (h.1 e), fun e => ?_⟩
    obtain ⟨cell, h1, h2⟩ := h.2 e
    exact ⟨cell, (hq a rfl).trans h1, h2⟩
  | .inr (.inr v), h, hq =>
    obtain ⟨cell, h1, h2⟩ := h
    exact ⟨cell, (hq a rfl).trans h1, h2⟩
theorem hf_at_lt {w : hf_W} {a : Nat} {x : hf_C} {H : Heap} (h : hf_at w a x H) {q : Nat} (hq : hf_ft a x q) : q < H.size := by
  match x, h, hq with
  | .inl (md, ci, V), h, hq =>
    obtain ⟨⟨r, h1, cell, h2, -⟩, h3⟩ := h
    rcases hq with e | ⟨e, k, hk, e2⟩
    · rw [e]; exact (Array.getElem?_eq_some_iff.mp h2).1
    · rw [e2]; exact (Array.getElem?_eq_some_iff.mp (h3 e k hk)).1
  | .inr (.inl (md, ty, n, b)), h, hq =>
    rw [show q = a from hq]
    by_cases e : md = 2
    · obtain ⟨cell, h1, -⟩ := h.2 e
      exact (Array.getElem?_eq_some_iff.mp h1).1
    · exact (Array.getElem?_eq_some_iff.mp (h.1 e)).1
  | .inr (.inr v), h, hq =>
    obtain ⟨cell, h1, h2⟩ := h
    rw [show q = a from hq]; exact (Array.getElem?_eq_some_iff.mp h1).1
theorem hf_ft_self (a : Nat) (x : hf_C) : hf_ft a x a := by
  match x with
  | .inl (md, ci, V) => exact Or.inl rfl
  | .inr _ => exact rfl
theorem hf_ft_ge {a : Nat} {x : hf_C} {q : Nat} (hr : hf_ro x = false) (h : hf_ft a x q) : a ≤ q := by
  match x, h, hr with
  | .inl (md, ci, V), h, hr =>
    rcases h with e | ⟨-, k, -, e⟩ <;> omega
  | .inr _, h, hr => exact Nat.le_of_eq (show q = a from h).symm
def hf_up (h : hf_H) (a : Nat) (x : hf_C) : hf_H := (fun q => if q = a then some x else h.1 q, h.2)
/-- a cell's contents change, its place and kind stay -/
theorem hf_Rel.set {w : hf_W} {h : hf_H} {H H1 : Heap} {a : Nat} {x y : hf_C} (hR : hf_Rel w h H) (hx : h.1 a = some x) (hro : hf_ro x = false) (hft : ∀ q, hf_ft a y q ↔ hf_ft a x q) (hry : hf_ro y = hf_ro x) (hy : hf_at w a y H1) (hz : H1.size = H.size) (hk : ∀ q : Nat, ¬ hf_ft a x q → H1[q]? = H[q]?) : hf_Rel w (hf_up h a y) H1 := by
  obtain ⟨r1, r2, r3, r4, r5⟩ := hR
  have hge := (r4 a x hx).2 hro
  refine ⟨hz.trans r1, by omega, fun q hq => (hk q (fun z => by have := hf_ft_ge hro z; omega)).trans (r3 q hq), fun b z hb => ?_, fun b b' z z' q hb hb' hf hf' => ?_⟩
  · by_cases e : b = a
    · subst e
      simp only [hf_up, if_true] at hb
      cases hb
      exact ⟨hy, fun _ => hge⟩
    · simp only [hf_up, if_neg e] at hb
      refine ⟨hf_at_kept (r4 b z hb).1 (fun q hq => hk q (fun hq2 => ?_)), (r4 b z hb).2⟩
      rcases r5 b a z x q hb hx hq hq2 with e2 | ⟨-, e2⟩
      · exact e e2
      · rw [hro] at e2; cases e2
  · have key : ∀ (c : Nat) (u : hf_C), (hf_up h a y).1 c = some u → ∃ u0, h.1 c = some u0 ∧ (∀ q, hf_ft c u q → hf_ft c u0 q) ∧ hf_ro u0 = hf_ro u := by
      intro c u hc
      by_cases e : c = a
      · subst e
        simp only [hf_up, if_true] at hc
        cases hc
        exact ⟨x, hx, fun q hq => (hft q).mp hq, hry.symm⟩
      · simp only [hf_up, if_neg e] at hc
        exact ⟨u, hc, fun q hq => hq, rfl⟩
    obtain ⟨z0, c1, c2, c3⟩ := key b z hb
    obtain ⟨z1, d1, d2, d3⟩ := key b' z' hb'
    rcases r5 b b' z0 z1 q c1 d1 (c2 q hf) (d2 q hf') with e | ⟨e1, e2⟩
    · exact Or.inl e
    · exact Or.inr ⟨by rw [← c3]; exact e1, by rw [← d3]; exact e2⟩
/-- a new cell, the next one -/
def hf_nw (h : hf_H) (x : hf_C) (n : Nat) : hf_H := (fun q => if q = h.2.1 then some x else h.1 q, h.2.1 + 1, h.2.2 + n)
theorem hf_Rel.new {w : hf_W} {h : hf_H} {H H1 : Heap} {x : hf_C} {n : Nat} (hR : hf_Rel w h H) (hft : ∀ q, hf_ft H.size x q → q = H.size) (hx : hf_at w H.size x H1) (hz : H1.size = H.size + 1) (hk : ∀ q : Nat, q < H.size → H1[q]? = H[q]?) : hf_Rel w (hf_nw h x n) H1 := by
  obtain ⟨r1, r2, r3, r4, r5⟩ := hR
  refine ⟨by rw [hz, r1]; rfl, by omega, fun q hq => (hk q (by omega)).trans (r3 q hq), fun b z hb => ?_, fun b b' z z' q hb hb' hf hf' => ?_⟩
  · by_cases e : b = H.size
    · subst e
      simp only [hf_nw, r1, if_true] at hb
      cases hb
      exact ⟨hx, fun _ => r2⟩
    · simp only [hf_nw, ← r1, if_neg e] at hb
      exact ⟨hf_at_kept (r4 b z hb).1 (fun q hq => hk q (hf_at_lt (r4 b z hb).1 hq)), (r4 b z hb).2⟩
  · have key : ∀ (c : Nat) (u : hf_C), (hf_nw h x n).1 c = some u → hf_ft c u q → (c = H.size ∧ q = H.size) ∨ (h.1 c = some u ∧ q < H.size) := by
      intro c u hc hq
      by_cases e : c = H.size
      · subst e
        simp only [hf_nw, r1, if_true] at hc
        cases hc
        exact Or.inl ⟨rfl, hft q hq⟩
      · simp only [hf_nw, ← r1, if_neg e] at hc
        exact Or.inr ⟨hc, hf_at_lt (r4 c u hc).1 hq⟩
    rcases key b z hb hf with ⟨e1, e2⟩ | ⟨e1, e2⟩ <;> rcases key b' z' hb' hf' with ⟨e3, e4⟩ | ⟨e3, e4⟩
    · exact Or.inl (by rw [e1, e3])
    · omega
    · omega
    · exact r5 b b' z z' q e1 e3 hf hf'
/-! what is known of the tables at every state of the run -/
def hf_nest : Cond → Bool := fun w => match w with
  | .fieldLinkNest .. => true
  | .methodLinkNest .. => true
  | .castable .. => true
  | .declares .. => true
  | .arrayOver (.object _) => true
  | _ => false
def hf_tys : List FieldType := [.int, .byte, .boolean, .long, .object "java/lang/Object", .object "HalfFair$State", .object "HalfFair$Image", .object "java/lang/String"]
def hf_stl : List (String × String × String) := [("HalfFair", "NAMES", "[Ljava/lang/String;"), ("java/util/ArrayList", "EMPTY_ELEMENTDATA", "[Ljava/lang/Object;"), ("java/util/ArrayList", "DEFAULTCAPACITY_EMPTY_ELEMENTDATA", "[Ljava/lang/Object;"), ("jdk/internal/util/Preconditions", "SIOOBE_FORMATTER", "Ljava/util/function/BiFunction;"), ("java/lang/Throwable", "UNASSIGNED_STACK", "[Ljava/lang/StackTraceElement;"), ("java/lang/Throwable", "SUPPRESSED_SENTINEL", "Ljava/util/List;")]
def hf_strs : List (String × Nat × String) := [("HalfFair", 435, "buyer"), ("HalfFair", 437, "purse"), ("HalfFair", 438, "spot"), ("HalfFair", 439, "hour"), ("HalfFair", 441, "left"), ("HalfFair", 442, "has"), ("HalfFair", 443, "half"), ("HalfFair", 445, "shape"), ("HalfFair", 446, "side"), ("HalfFair", 447, "price"), ("HalfFair", 448, "fits"), ("HalfFair", 450, "nearly"), ("HalfFair", 452, "known"), ("HalfFair$Parser", 107, "not"), ("HalfFair$Parser", 132, "and"), ("HalfFair$Parser", 145, "or"), ("HalfFair$Parser", 193, "near"), ("HalfFair$Parser", 204, "dusk"), ("HalfFair$Parser", 208, "hear"), ("HalfFair$Parser", 215, "stalls"), ("HalfFair$Parser", 218, "half"), ("HalfFair$Parser", 222, "forged"), ("HalfFair$Parser", 226, "buyer"), ("HalfFair$Parser", 232, "club"), ("HalfFair$Parser", 240, "buy"), ("HalfFair$Parser", 242, "go"), ("HalfFair$Parser", 251, "if")]
def hf_K (w : hf_W) (U : State) : Prop :=
  (∀ (c : Nat) (q : vw_C), hf_cl[c]? = some q → u_Kn U q.1 q.2.1 q.2.2 (w.1.1 c) (w.1.2 c)) ∧
  (∀ ty ∈ hf_tys, ArrOfT U (w.2.1 ty) ty ∧ va_RA U (w.2.1 ty) ty) ∧
  (∀ x ∈ lw_tbl, hf_nest x = true → va_Nw x U) ∧
  (U.vm.findClass "java/lang/String" = some w.2.2.2.2.1.1 ∧ hf_SF U "java/lang/String" "value" "[B" w.2.2.2.2.1.2.1 ∧ hf_SF U "java/lang/String" "coder" "B" w.2.2.2.2.1.2.2.1 ∧ ∀ (ty : FieldType) (c : ClassId), w.2.2.2.2.1.2.2.2 ty c → ∃ (k : Class) (comp : ClassId), U.vm.classes[c]? = some k ∧ k.kind = .array comp ty) ∧
  (∀ (i : Nat) (q : String × String × String), hf_stl[i]? = some q → va_Z q.1 q.2.1 q.2.2 (va_rf (w.2.2.2.2.2.1 i)) (fun a => w.2.2.1 ≤ a) U w.2.2.2.1) ∧
  (∀ (i : Nat) (q : String × Nat × String), hf_strs[i]? = some q → vk_R q.1 q.2.1 q.2.2 (w.2.2.2.2.2.2 i) U) ∧
  vx_Zq Bundle.tN "UNASSIGNED_STACK" Bundle.steD (fun a => w.2.2.1 ≤ a) U w.2.2.2.1 ∧ vx_Zq Bundle.tN "SUPPRESSED_SENTINEL" Bundle.listD (fun a => w.2.2.1 ≤ a) U w.2.2.2.1 ∧
  va_Z "java/lang/String" "COMPACT_STRINGS" "Z" (.int 1) (fun a => w.2.2.1 ≤ a) U w.2.2.2.1 ∧ va_Mi "[Ljava/lang/Object;" (w.2.2.2.2.2.2 27) U
theorem hf_nest_warm {x : Cond} {s U : State} (hW : s.WarmedH U.vm) (hx : hf_nest x = true) (h : va_Nw x s) : va_Nw x U := by
  cases x
  case fieldLinkNest a i b n d h0 => exact va_Nw.warmF hW h
  case methodLinkNest a i y h0 => exact va_Nw.warmM hW h
  case castable a b => exact va_Nw.warmC hW h
  case declares y => exact va_Nw.warmD hW h
  case arrayOver t =>
    cases t
    case object C => exact va_AO.moved hW.alike h
    all_goals exact absurd hx Bool.false_ne_true
  all_goals exact absurd hx Bool.false_ne_true
theorem hf_K.moved {w : hf_W} {s U : State} (hW : s.WarmedH U.vm) (h : hf_K w s) : hf_K w U := by
  obtain ⟨h1, h2, h3, ⟨h4, h5, h6, h6a⟩, h7, h8, h9, h10, h11, h12⟩ := h
  refine ⟨fun c q hq => u_Kn_moved hW.alike (h1 c q hq), fun ty hty => ⟨arrOfT_moved hW.alike (h2 ty hty).1, (h2 ty hty).2.moved hW.alike⟩, fun x hx hn => hf_nest_warm hW hn (h3 x hx hn), ⟨by rw [hW.alike.findClass]; exact h4, h5.moved hW.alike, h6.moved hW.alike, fun ty c hc => by
    obtain ⟨k, comp, g1, g2⟩ := h6a ty c hc
    obtain ⟨k2, g3, g4⟩ := hW.alike.2.2 _ _ g1
    exact ⟨k2, comp, g3, by rw [g4]; exact g2⟩⟩, fun i q hq => va_Z.moved hW.alike (h7 i q hq), fun i q hq => vk_R.warm hW (h8 i q hq), vx_Zq.moved hW.alike h9, vx_Zq.moved hW.alike h10, va_Z.moved hW.alike h11, va_Mi.moved hW.alike h12⟩

/-- what a plain array's cell is to the machine -/
theorem hf_pcell {w : hf_W} {U : State} {a md n : Nat} {ty : FieldType} {b : hf_B} {H : Heap} (hK : hf_K w U) (hty : ty ∈ hf_tys) (h : hf_at w a (.inr (.inl (md, ty, n, b))) H) : ∃ cell : Cell, H[a]? = some cell ∧ U.isArrayOf cell ty ∧ cell.vm ≠ .unknown ∧ n ≤ cell.slots.size ∧ cell.slots.size.toInt32 = Int32.ofNat n ∧ ∀ j : Nat, j < n → cell.slots[j]? = some (hf_be b j) := by
  by_cases e : md = 2
  · obtain ⟨cell, h1, h2, h3, h4, h5, h6, h7⟩ := h.2 e
    obtain ⟨k, comp, g1, g2⟩ := hK.2.2.2.1.2.2.2 ty _ h2
    exact ⟨cell, h1, ⟨h4, k, g1, comp, g2⟩, h3, h5, h6, h7⟩
  · have h1 := h.1 e
    have hg : vp_cell (w.2.1 ty) (hf_bx n b) = arrV (w.2.1 ty) n (hf_be b) := by
      cases b with
      | inl f => rfl
      | inr g => cases g with
        | inl f => rfl
        | inr f => rfl
    rw [hg] at h1
    refine ⟨_, h1, (hK.2.1 ty hty).1 n _, (fun q => by cases q), by rw [arrV_size] <;> exact Nat.le_refl _, by rw [arrV_size] <;> rfl, fun j hj => arrV_read _ _ hj⟩
theorem hf_rcell {w : hf_W} {U : State} {a n : Nat} {ty : FieldType} {b : hf_B} {v : hf_S} {H : Heap} (hK : hf_K w U) (h : hf_at w a (.inr (.inr v)) H) (hv : v.2 = some (ty, n, b)) : ∃ cell : Cell, H[a]? = some cell ∧ U.isArrayOf cell ty ∧ cell.vm ≠ .unknown ∧ n ≤ cell.slots.size ∧ cell.slots.size.toInt32 = Int32.ofNat n ∧ ∀ j : Nat, j < n → cell.slots[j]? = some (hf_be b j) := by
  obtain ⟨cell, h1, h3, -, h9⟩ := h
  obtain ⟨h2, h4, h5, h6, h7⟩ := h9 ty n b hv
  obtain ⟨k, comp, g1, g2⟩ := hK.2.2.2.1.2.2.2 ty _ h2
  exact ⟨cell, h1, ⟨h4, k, g1, comp, g2⟩, h3, h5, h6, h7⟩
