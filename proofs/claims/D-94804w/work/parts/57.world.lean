set_option maxRecDepth 100000
set_option maxHeartbeats 4000000
/-! the world at the start -/
/-- the start's abstract heap: the script, the names, the texts -/
def hf_Start (gs : hf_gs) (b L : Nat) (xs : Nat → Int32) (h : hf_H) : Prop :=
  (∃ x, h.1 b = some (.inr (.inr (x, some (.int, L, .inl xs))))) ∧
  (∃ nm x, gs.1 0 = some nm ∧ h.1 nm = some (.inr (.inr (x, some (.object "java/lang/String", 13, .inr (.inr fun k => some (gs.2 k))))))) ∧
  (∀ i, i < 27 → ∃ v x y, h.1 (gs.2 i) = some (.inr (.inr (some v, x))) ∧ h.1 v = some (.inr (.inr (y, some (.byte, hf_len i, .inl (hf_bt i)))))) ∧
  (∀ a, h.2.1 ≤ a → h.1 a = none) ∧ ∀ a x, h.1 a = some x → ∃ v, x = .inr (.inr v)
theorem hn_r {args : Array Value} {s : State} (h : (Jvm.Cond.and given_1 narrow_1).before args s = true) : ∀ q ∈ hf_stl, (Cond.isRef (.static q.1 q.2.1 q.2.2)).before args s = true := by
  unfold hf_stl
  exact List.forall_mem_cons.mpr ⟨hn_r0 h, List.forall_mem_cons.mpr ⟨hn_r1 h, List.forall_mem_cons.mpr ⟨hn_r2 h, List.forall_mem_cons.mpr ⟨hn_r3 h, List.forall_mem_cons.mpr ⟨hn_r4 h, List.forall_mem_cons.mpr ⟨hn_r5 h, fun _ h => absurd h List.not_mem_nil⟩⟩⟩⟩⟩⟩
theorem hf_len_lt : ∀ i, i < 27 → hf_len i < 100 := by decide
theorem hf_bt_ge (i j : Nat) (h : hf_len i ≤ j) : hf_bt i j = 0 := by
  unfold hf_bt
  unfold hf_len at h
  rw [List.getD_eq_getElem?_getD, List.getElem?_eq_none h]
  rfl
/-- facts of the i-th text at the start -/
def hf_TX (s : State) (args : Array Value) (i p v : Nat) : Prop := (hf_tm i).eval args s none [] s = some (.ref p) ∧ va_O "java/lang/String" p (fun a => s.heap.size ≤ a) s s.heap ∧ va_OF "java/lang/String" "coder" "B" (.int 0) p (fun a => s.heap.size ≤ a) s s.heap ∧ va_OF "java/lang/String" "value" "[B" (.ref v) p (fun a => s.heap.size ≤ a) s s.heap ∧ va_T .byte v (hf_len i) (fun j => .int (hf_bt i j)) (fun a => s.heap.size ≤ a) s s.heap
theorem hf_tx {args : Array Value} {s : State} (h : (Jvm.Cond.and given_1 narrow_1).before args s = true) (i : Nat) (hi : i < 27) : ∃ p v : Nat, hf_TX s args i p v := by
  obtain ⟨h1, h2, h3, h4, h5⟩ := hn_s h i hi
  have hA : ∀ a : Nat, a < s.heap.size → ¬ s.heap.size ≤ a := fun a ha => by omega
  obtain ⟨a, c, cA, kA, q1, q2, q3, q4, q5, q6, -⟩ := Cond.exactly_spec (args := args) (first := s) (o := none) (s := s) (idx := []) (t := hf_tm i) (cls := "java/lang/String") h1
  obtain ⟨t, ht, hT⟩ := va_Tof (f := fun j => .int (hf_bt i j)) (A := fun a => s.heap.size ≤ a) (by have := hf_len_lt i hi; omega) h3 (va_eqt h4) (fun j hj => va_eqt (h5 j hj)) hA
  exact ⟨a, t, q1, ⟨cA, q3, q5, by rw [q6]; exact q2, hA a (Array.getElem?_eq_some_iff.mp q3).1⟩, vk_OFof q1 (va_eqt h2) hA, vk_OFof q1 ht hA, hT⟩
theorem hf_arrE {s : State} {c1 : Cell} {t1 t2 : FieldType} (h1 : s.isArrayOf c1 t1) (h2 : s.isArrayOf c1 t2) : t1 = t2 := by
  obtain ⟨-, k1, e1, c1', e2⟩ := h1
  obtain ⟨-, k2, e3, c2', e4⟩ := h2
  cases e1.symm.trans e3
  cases e2.symm.trans e4
  rfl
theorem hf_ofN {a b : Nat} (ha : a < 100) (hb : b < 100) (e : Int32.ofNat a = Int32.ofNat b) : a = b := by
  have h1 : (Int32.ofNat a).toInt = a := Int32.toInt_ofNat_of_lt (by omega)
  have h2 : (Int32.ofNat b).toInt = b := Int32.toInt_ofNat_of_lt (by omega)
  rw [e, h2] at h1
  omega
theorem hf_world {s : State} {b L : Nat} {xs : Nat → Int32} (hts : ∀ w ∈ lw_tbl, w.before #[Value.ref b] s = true) (hX : va_X b L xs s s.heap) (hg : (Jvm.Cond.and given_1 narrow_1).before #[Value.ref b] s = true) : ∃ (w : hf_W) (h : hf_H), hf_K w s ∧ hf_Rel w h s.heap ∧ hf_Start w.2.2.2.2.2 b L xs h ∧ w.2.2.1 = s.heap.size := by
  generalize hargs : #[Value.ref b] = args at hts hg
  have hall : ∀ w ∈ lw_all, w.before args s = true := fun w hw => hts w (lw_all_tbl hw)
  have hA : ∀ a : Nat, a < s.heap.size → ¬ s.heap.size ≤ a := fun a ha => by omega
  -- classes
  have hcl : ∀ c : Nat, ∃ p : ClassId × (Nat → Nat), ∀ q, hf_cl[c]? = some q → u_Kn s q.1 q.2.1 q.2.2 p.1 p.2 := by
    intro c
    cases e : hf_cl[c]? with
    | none => exact ⟨(0, fun _ => 0), fun q hq => by cases hq⟩
    | some q =>
      obtain ⟨⟨n, h1⟩, h2⟩ := hn_cl q (List.mem_of_getElem? e)
      obtain ⟨cC, iS, h3⟩ := u_known (ws := lw_all) hall h2 (hall _ h1)
      exact ⟨(cC, iS), fun q' hq => by cases hq; exact h3⟩
  obtain ⟨fc, hfc⟩ := Classical.axiomOfChoice hcl
  -- texts
  have htx : ∀ i : Nat, ∃ p : Nat × Nat, i < 27 → hf_TX s args i p.1 p.2 := by
    intro i
    by_cases hi : i < 27
    · obtain ⟨p, v, h1⟩ := hf_tx hg i hi
      exact ⟨(p, v), fun _ => h1⟩
    · exact ⟨(0, 0), fun h => absurd h hi⟩
  obtain ⟨ft, hft⟩ := Classical.axiomOfChoice htx
  obtain ⟨mi, hmi⟩ := va_Mi.of (hn_mi hg)
  -- statics
  have hst : ∀ i : Nat, ∃ o : Option Nat, ∀ q, hf_stl[i]? = some q → (Term.static q.1 q.2.1 q.2.2).eval args s none [] s = some (va_rf o) ∧ va_Z q.1 q.2.1 q.2.2 (va_rf o) (fun a => s.heap.size ≤ a) s s.heap := by
    intro i
    cases e : hf_stl[i]? with
    | none => exact ⟨none, fun q hq => by cases hq⟩
    | some q =>
      obtain ⟨v, hv, hr⟩ := Cond.isRef_spec (hn_r hg q (List.mem_of_getElem? e))
      obtain ⟨h1, h2⟩ := hn_ls i q e
      have key : ∃ o : Option Nat, v = va_rf o := by
        cases v with
        | null => exact ⟨none, rfl⟩
        | ref a => exact ⟨some a, rfl⟩
        | _ => cases hr
      obtain ⟨o, rfl⟩ := key
      exact ⟨o, fun q' hq => by
        cases hq
        exact ⟨hv, va_Zof (hts _ h1) (hall _ h2) hv hA⟩⟩
  obtain ⟨fs, hfs⟩ := Classical.axiomOfChoice hst
  -- names
  obtain ⟨nm, hnm, hnT⟩ := va_Tof (N := 13) (f := fun k => .ref (ft k).1) (A := fun a => s.heap.size ≤ a) (by decide) (hn_na hg) (va_eqt (hn_nl hg)) (fun k hk => by
    have h1 := hn_n hg k hk
    have h2 := (hft k (by omega)).1
    obtain ⟨w1, w2, w3⟩ := Cond.eq_one (show (Cond.eq (.elem hf_NA (.int (Int32.ofNat k))) (hf_tm k)).holds args s none s [] = true from h1)
    rw [h2] at w3
    cases w3
    exact w2) hA
  have hfs0 : fs 0 = some nm := by
    have h1 := (hfs 0 _ rfl).1
    have h2 : some (va_rf (fs 0)) = some (Value.ref nm) := h1.symm.trans hnm
    cases e : fs 0 with
    | none => rw [e] at h2; cases h2
    | some z => rw [e] at h2; cases h2; rfl
  -- String
  obtain ⟨t0, ⟨cell0, s1, s2, s3, s4⟩, ⟨cfC, kfC, fiC, fdC, cellC, c1, c2, c3, c4, c5, c6⟩, ⟨cfV, kfV, fiV, fdV, cellV, v1, v2, v3, v4, v5, v6⟩, hT0⟩ := hft 0 (by decide)
  obtain ⟨cS, hcS⟩ : ∃ c, s.vm.findClass "java/lang/String" = some c := ⟨_, s3⟩
  -- the texts' cells
  have hsv : ∀ i, i < 27 → ∃ cell : Cell, s.heap[(ft i).1]? = some cell ∧ cell.vm ≠ .unknown ∧ cell.vm.isStatics = false ∧ cell.cls = cS ∧ cell.slots[fdV.slot]? = some (.ref (ft i).2) ∧ cell.slots[fdC.slot]? = some (.int 0) := by
    intro i hi
    obtain ⟨z0, ⟨cell, z1, z2, z3, z4⟩, ⟨_, _, _, _, cellc, d1, d2, d3, d4, d5, d6⟩, ⟨_, _, _, _, cellv, e1, e2, e3, e4, e5, e6⟩, -⟩ := hft i hi
    have f1 := c1.symm.trans d1
    have f2 := v1.symm.trans e1
    simp only [Option.some.injEq, Prod.mk.injEq] at f1 f2
    obtain ⟨-, -, -, f1⟩ := f1
    obtain ⟨-, -, -, f2⟩ := f2
    cases z1.symm.trans d3
    cases z1.symm.trans e3
    exact ⟨cell, z1, d4, z2, Option.some.inj (z3.symm.trans hcS), by rw [f2]; exact e5, by rw [f1]; exact d5⟩
  have hPr : ∀ (ty : FieldType) (cell : Cell), s.isArrayOf cell ty → ∃ (k : Class) (comp : ClassId), s.vm.classes[cell.cls]? = some k ∧ k.kind = .array comp ty := by
    intro ty cell hc
    obtain ⟨-, k, g1, comp, g2⟩ := hc
    exact ⟨k, comp, g1, g2⟩
  have hnb : nm ≠ b := by
    intro e
    obtain ⟨cell, g1, g2, -⟩ := hnT
    obtain ⟨scr, g3, g4, -⟩ := hX
    rw [e] at g1
    cases g1.symm.trans g3
    cases hf_arrE g2 g4
  have hvb : ∀ i, i < 27 → (ft i).2 ≠ b ∧ (ft i).2 ≠ nm := by
    intro i hi
    obtain ⟨-, -, -, -, cell, g1, g2, -⟩ := hft i hi
    refine ⟨fun e => ?_, fun e => ?_⟩
    · obtain ⟨scr, g3, g4, -⟩ := hX
      rw [e] at g1
      cases g1.symm.trans g3
      cases hf_arrE g2 g4
    · obtain ⟨cell9, g3, g4, -⟩ := hnT
      rw [e] at g1
      cases g1.symm.trans g3
      cases hf_arrE g2 g4
  -- the heap
  have hex : ∃ (sv : Nat → Option Nat) (av : Nat → Option (FieldType × Nat × hf_B)), (∀ a v, sv a = some v → ∃ i, i < 27 ∧ (ft i).1 = a ∧ (ft i).2 = v) ∧ (∀ i, i < 27 → sv (ft i).1 = some (ft i).2) ∧
      (∀ a ty n bb, av a = some (ty, n, bb) → (a = b ∧ ty = .int ∧ n = L ∧ bb = .inl xs) ∨ (a = nm ∧ ty = .object "java/lang/String" ∧ n = 13 ∧ bb = .inr (.inr fun k => some (if k = 27 then mi else (ft k).1))) ∨ ∃ i, i < 27 ∧ (ft i).2 = a ∧ ty = .byte ∧ n = hf_len i ∧ bb = .inl (hf_bt i)) ∧
      av b = some (.int, L, .inl xs) ∧ av nm = some (.object "java/lang/String", 13, .inr (.inr fun k => some (if k = 27 then mi else (ft k).1))) ∧ ∀ i, i < 27 → av (ft i).2 = some (.byte, hf_len i, .inl (hf_bt i)) := by
    classical
    refine ⟨fun a => if h : ∃ i, i < 27 ∧ (ft i).1 = a then some (ft (Classical.choose h)).2 else none, fun a => if a = b then some (.int, L, .inl xs) else if a = nm then some (.object "java/lang/String", 13, .inr (.inr fun k => some (if k = 27 then mi else (ft k).1))) else if h : ∃ i, i < 27 ∧ (ft i).2 = a then some (.byte, hf_len (Classical.choose h), .inl (hf_bt (Classical.choose h))) else none, ?_, ?_, ?_, ?_, ?_, ?_⟩
    · intro a v hv
      dsimp only at hv
      split at hv
      · next h9 =>
        cases hv
        exact ⟨_, (Classical.choose_spec h9).1, (Classical.choose_spec h9).2, rfl⟩
      · cases hv
    · intro i hi
      have h9 : ∃ j, j < 27 ∧ (ft j).1 = (ft i).1 := ⟨i, hi, rfl⟩
      dsimp only
      rw [dif_pos h9]
      obtain ⟨g1, g2⟩ := Classical.choose_spec h9
      obtain ⟨ca, a1, -, -, -, a5, -⟩ := hsv _ g1
      obtain ⟨cb, b1, -, -, -, b5, -⟩ := hsv i hi
      rw [g2] at a1
      cases a1.symm.trans b1
      congr 1
      have := a5.symm.trans b5
      simp only [Option.some.injEq, Value.ref.injEq] at this
      exact this
    · intro a ty n bb hv
      dsimp only at hv
      split at hv
      · next e => cases hv; exact Or.inl ⟨e, rfl, rfl, rfl⟩
      · split at hv
        · next e => cases hv; exact Or.inr (Or.inl ⟨e, rfl, rfl, rfl⟩)
        · split at hv
          · next h9 =>
            cases hv
            exact Or.inr (Or.inr ⟨_, (Classical.choose_spec h9).1, (Classical.choose_spec h9).2, rfl, rfl, rfl⟩)
          · cases hv
    · dsimp only
      rw [if_pos rfl]
    · dsimp only
      rw [if_neg hnb, if_pos rfl]
    · intro i hi
      have h9 : ∃ j, j < 27 ∧ (ft j).2 = (ft i).2 := ⟨i, hi, rfl⟩
      dsimp only
      rw [if_neg (hvb i hi).1, if_neg (hvb i hi).2, dif_pos h9]
      obtain ⟨g1, g2⟩ := Classical.choose_spec h9
      generalize Classical.choose h9 = j at g1 g2
      obtain ⟨-, -, -, -, ca, a1, a2, a3, a4, a5, a6, -⟩ := hft j g1
      obtain ⟨-, -, -, -, cb, b1, b2, b3, b4, b5, b6, -⟩ := hft i hi
      rw [g2] at a1
      cases a1.symm.trans b1
      have el : hf_len j = hf_len i := hf_ofN (hf_len_lt j g1) (hf_len_lt i hi) (a5.symm.trans b5)
      have eb : hf_bt j = hf_bt i := by
        funext k
        by_cases hk : k < hf_len i
        · have := (a6 k (by omega)).symm.trans (b6 k hk)
          simp only [Option.some.injEq, Value.int.injEq] at this
          exact this
        · rw [hf_bt_ge j k (by omega), hf_bt_ge i k (by omega)]
      rw [el, eb]
  obtain ⟨sv, av, hs1, hs2, ha1, ha2, ha3, ha4⟩ := hex
  have hcellA : ∀ a ty n bb, av a = some (ty, n, bb) → ∃ cell : Cell, s.heap[a]? = some cell ∧ cell.vm ≠ .unknown ∧ (∃ (k : Class) (comp : ClassId), s.vm.classes[cell.cls]? = some k ∧ k.kind = .array comp ty) ∧ (∀ k, cell.vm ≠ .statics k) ∧ n ≤ cell.slots.size ∧ cell.slots.size.toInt32 = Int32.ofNat n ∧ ∀ j : Nat, j < n → cell.slots[j]? = some (hf_be bb j) := by
    intro a ty n bb h9
    rcases ha1 a ty n bb h9 with ⟨rfl, rfl, rfl, rfl⟩ | ⟨rfl, rfl, rfl, rfl⟩ | ⟨i, hi, rfl, rfl, rfl, rfl⟩
    · obtain ⟨scr, g3, g4, g5, g6, g7⟩ := hX
      exact ⟨scr, g3, g5, hPr _ _ g4, g4.1, Nat.le_of_eq g6.symm, by rw [g6] <;> rfl, g7⟩
    · obtain ⟨cell, g1, g2, g3, g4, g5, g6, -⟩ := hnT
      exact ⟨cell, g1, g3, hPr _ _ g2, g2.1, g4, g5, fun j hj => by
        rw [g6 j hj]
        show _ = some (va_rf (some (if j = 27 then mi else (ft j).1)))
        rw [if_neg (by omega)]
        rfl⟩
    · obtain ⟨-, -, -, -, cell, g1, g2, g3, g4, g5, g6, -⟩ := hft i hi
      exact ⟨cell, g1, g3, hPr _ _ g2, g2.1, g4, g5, g6⟩
  have hcellS : ∀ a v, sv a = some v → ∃ cell : Cell, s.heap[a]? = some cell ∧ cell.vm ≠ .unknown ∧ cell.vm.isStatics = false ∧ cell.cls = cS ∧ cell.slots[fdV.slot]? = some (.ref v) ∧ cell.slots[fdC.slot]? = some (.int 0) := by
    intro a v h9
    obtain ⟨i, hi, rfl, rfl⟩ := hs1 a v h9
    exact hsv i hi
  -- the world
  refine ⟨((fun c => (fc c).1, fun c => (fc c).2), (fun ty => (s.vm.findClass ("[" ++ ty.toString)).getD 0), s.heap.size, s.heap, (cS, fdV.slot, fdC.slot, fun ty c => ∃ (k : Class) (comp : ClassId), s.vm.classes[c]? = some k ∧ k.kind = .array comp ty), fs, fun i => if i = 27 then mi else (ft i).1), (fun a => if (sv a).isSome = true ∨ (av a).isSome = true then some (.inr (.inr (sv a, av a))) else none, s.heap.size, 0), ?_, ?_, ?_, rfl⟩
  · refine ⟨fun c q hq => hfc c q hq, ?_, ?_, ⟨hcS, ⟨_, _, _, _, v1, v2, rfl⟩, ⟨_, _, _, _, c1, c2, rfl⟩, fun ty c hc => hc⟩, fun i q hq => (hfs i q hq).2, ?_, ?_, ?_, va_Zof (hts _ hn_cc.1) (hall _ hn_cc.2) (va_eqi (hn_cs hg)) hA, hmi⟩
    · have prim : ∀ ty : FieldType, Cond.arrayClass ty ∈ lw_all → (∀ cA, s.vm.findClass ("[" ++ ty.toString) = some cA → va_RA s cA ty) → ArrOfT s ((s.vm.findClass ("[" ++ ty.toString)).getD 0) ty ∧ va_RA s ((s.vm.findClass ("[" ++ ty.toString)).getD 0) ty := by
        intro ty h1 h2
        obtain ⟨c, k, comp, g1, g2, g3⟩ := Cond.arrayClass_spec (hall _ h1)
        rw [g1]
        exact ⟨fun N z => ⟨(fun k h => by cases h), k, g2, comp, g3⟩, h2 c g1⟩
      have obj : ∀ E : String, Cond.arrayOver (.object E) ∈ lw_tbl → ArrOfT s ((s.vm.findClass ("[" ++ (FieldType.object E).toString)).getD 0) (.object E) ∧ va_RA s ((s.vm.findClass ("[" ++ (FieldType.object E).toString)).getD 0) (.object E) := by
        intro E h1
        obtain ⟨comp, c, k, g1, -, g3, g4, g5⟩ := Cond.arrayOver_spec (hts _ h1)
        rw [g5]
        exact ⟨fun N z => ⟨(fun k h => by cases h), k, g3, comp, g4⟩, ⟨k, comp, g3, g4, g1, g5⟩⟩
      unfold hf_tys
      exact List.forall_mem_cons.mpr ⟨prim _ q289 (fun _ h => h), List.forall_mem_cons.mpr ⟨prim _ q467 (fun _ h => h), List.forall_mem_cons.mpr ⟨prim _ q468 (fun _ h => h), List.forall_mem_cons.mpr ⟨prim _ q469 (fun _ h => h), List.forall_mem_cons.mpr ⟨obj _ q215, List.forall_mem_cons.mpr ⟨obj _ q381, List.forall_mem_cons.mpr ⟨obj _ q386, List.forall_mem_cons.mpr ⟨obj _ q2087, fun _ h => absurd h List.not_mem_nil⟩⟩⟩⟩⟩⟩⟩⟩
    · intro x hx hn
      have h1 := hts x hx
      cases x
      case arrayOver t =>
        cases t
        case object C => exact va_AO.of h1
        all_goals exact absurd hn Bool.false_ne_true
      all_goals first | exact va_Nw.of rfl h1 | exact absurd hn Bool.false_ne_true
    · intro i q hq
      have hi : i < 27 := (List.getElem?_eq_some_iff.mp hq).1
      have h1 := (hft i hi).1
      have h2 : hf_tm i = .string q.1 q.2.1 := by
        unfold hf_tm
        rw [hq]
      rw [h2] at h1
      show vk_R q.1 q.2.1 q.2.2 (if i = 27 then mi else (ft i).1) s
      rw [if_neg (by omega)]
      exact vk_R.of (hts _ (hn_sr q (List.mem_of_getElem? hq))) h1
    · exact vx_Zqof (hts _ q344) (hall _ q159) (hn_r4 hg) hA
    · exact vx_Zqof (hts _ q346) (hall _ q159) (hn_r5 hg) hA
  · refine ⟨rfl, Nat.le_refl _, fun q _ => rfl, fun a x hx => ?_, fun a a' x y q hx hy hq hq' => ?_⟩
    · dsimp only at hx
      split at hx
      · next hor =>
        cases hx
        refine ⟨?_, fun e => by cases e⟩
        have hc : ∃ cell : Cell, s.heap[a]? = some cell ∧ cell.vm ≠ .unknown := by
          rcases hor with h9 | h9
          · obtain ⟨v, hv⟩ := Option.isSome_iff_exists.mp h9
            obtain ⟨cell, g1, g2, -⟩ := hcellS a v hv
            exact ⟨cell, g1, g2⟩
          · obtain ⟨⟨ty, n, bb⟩, hv⟩ := Option.isSome_iff_exists.mp h9
            obtain ⟨cell, g1, g2, -⟩ := hcellA a ty n bb hv
            exact ⟨cell, g1, g2⟩
        obtain ⟨cell, g1, g2⟩ := hc
        refine ⟨cell, g1, g2, fun v hv => ?_, fun ty n bb hv => ?_⟩
        · obtain ⟨cell', k1, k2, k3⟩ := hcellS a v hv
          cases g1.symm.trans k1
          exact k3
        · obtain ⟨cell', k1, k2, k3⟩ := hcellA a ty n bb hv
          cases g1.symm.trans k1
          exact k3
      · cases hx
    · dsimp only at hx hy
      split at hx
      · split at hy
        · cases hx
          cases hy
          exact Or.inl ((show q = a from hq).symm.trans (show q = a' from hq'))
        · cases hy
      · cases hx
  · refine ⟨⟨sv b, ?_⟩, ⟨nm, sv nm, hfs0, ?_⟩, fun i hi => ⟨(ft i).2, av (ft i).1, sv (ft i).2, ?_, ?_⟩, fun a ha => ?_, fun a x hx => ?_⟩
    · dsimp only
      rw [ha2]; simp
    · dsimp only
      rw [ha3]; simp
    · dsimp only
      rw [if_neg (by omega : ¬ i = 27), hs2 i hi]; simp
    · dsimp only
      rw [ha4 i hi]; simp
    · dsimp only at ha ⊢
      refine if_neg ?_
      rintro (h9 | h9)
      · obtain ⟨v, hv⟩ := Option.isSome_iff_exists.mp h9
        obtain ⟨cell, g1, -⟩ := hcellS a v hv
        have := (Array.getElem?_eq_some_iff.mp g1).1
        omega
      · obtain ⟨⟨ty, n, bb⟩, hv⟩ := Option.isSome_iff_exists.mp h9
        obtain ⟨cell, g1, -⟩ := hcellA a ty n bb hv
        have := (Array.getElem?_eq_some_iff.mp g1).1
        omega
    · dsimp only at hx
      split at hx
      · cases hx
        exact ⟨_, rfl⟩
      · cases hx
