set_option maxRecDepth 100000
set_option maxHeartbeats 4000000
/-! THE START: what the Statement gives of the heap, the texts and the statics -/
/-- the constant texts' bytes -/
def hf_by : List (List Int32) := [[98, 117, 121, 101, 114], [112, 117, 114, 115, 101], [115, 112, 111, 116], [104, 111, 117, 114], [108, 101, 102, 116], [104, 97, 115], [104, 97, 108, 102], [115, 104, 97, 112, 101], [115, 105, 100, 101], [112, 114, 105, 99, 101], [102, 105, 116, 115], [110, 101, 97, 114, 108, 121], [107, 110, 111, 119, 110], [110, 111, 116], [97, 110, 100], [111, 114], [110, 101, 97, 114], [100, 117, 115, 107], [104, 101, 97, 114], [115, 116, 97, 108, 108, 115], [104, 97, 108, 102], [102, 111, 114, 103, 101, 100], [98, 117, 121, 101, 114], [99, 108, 117, 98], [98, 117, 121], [103, 111], [105, 102]]
def hf_len (i : Nat) : Nat := (hf_by.getD i []).length
def hf_bt (i j : Nat) : Int32 := (hf_by.getD i []).getD j 0
def hf_tm (i : Nat) : Term := match hf_strs[i]? with
  | some (o, k, _) => .string o k
  | none => .string "" 0
abbrev hf_bv (i : Nat) : Term := .field (hf_tm i) "java/lang/String" "value" "[B"
abbrev hf_NA : Term := .static "HalfFair" "NAMES" "[Ljava/lang/String;"
theorem hn_a {args : Array Value} {s : State} {a b : Cond} (h : (Cond.and a b).before args s = true) : a.before args s = true := by
  rw [Cond.before_and, Bool.and_eq_true] at h
  exact h.1
theorem hn_b {args : Array Value} {s : State} {a b : Cond} (h : (Cond.and a b).before args s = true) : b.before args s = true := by
  rw [Cond.before_and, Bool.and_eq_true] at h
  exact h.2
section HN
variable {args : Array Value} {s : State}
/-- what is given of the i-th text -/
def hn_S (args : Array Value) (s : State) (i : Nat) : Prop := (Cond.exactly (hf_tm i) "java/lang/String").before args s = true ∧ (Cond.eq (.field (hf_tm i) "java/lang/String" "coder" "B") (.int 0)).before args s = true ∧ (Cond.arrayOf (hf_bv i) .byte).before args s = true ∧ (Cond.eq (.length (hf_bv i)) (.int (Int32.ofNat (hf_len i)))).before args s = true ∧ ∀ j, j < hf_len i → (Cond.eq (.elem (hf_bv i) (.int (Int32.ofNat j))) (.int (hf_bt i j))).before args s = true
theorem hn_s0 (h : (Jvm.Cond.and given_1 narrow_1).before args s = true) : hn_S args s 0 := by
  refine ⟨(hn_a (hn_a (hn_b (hn_a (hn_a (hn_b (hn_a (hn_b (hn_b h))))))))), (hn_b (hn_a (hn_b (hn_a (hn_a (hn_b (hn_a (hn_b (hn_b h))))))))), (hn_a (hn_b (hn_b (hn_a (hn_a (hn_b (hn_a (hn_b (hn_b h))))))))), (hn_a (hn_b (hn_b (hn_b (hn_a (hn_a (hn_b (hn_a (hn_b (hn_b h)))))))))), fun j hj => ?_⟩
  have hj : j < 5 := hj
  match j, hj with
  | 0, _ => exact (hn_b (hn_b (hn_b (hn_b (hn_a (hn_a (hn_b (hn_a (hn_b (hn_b h))))))))))
  | 1, _ => exact (hn_a (hn_a (hn_a (hn_b (hn_a (hn_b (hn_a (hn_b (hn_b h)))))))))
  | 2, _ => exact (hn_b (hn_a (hn_a (hn_b (hn_a (hn_b (hn_a (hn_b (hn_b h)))))))))
  | 3, _ => exact (hn_a (hn_b (hn_a (hn_b (hn_a (hn_b (hn_a (hn_b (hn_b h)))))))))
  | 4, _ => exact (hn_a (hn_b (hn_b (hn_a (hn_b (hn_a (hn_b (hn_a (hn_b (hn_b h))))))))))
theorem hn_s1 (h : (Jvm.Cond.and given_1 narrow_1).before args s = true) : hn_S args s 1 := by
  refine ⟨(hn_a (hn_a (hn_b (hn_b (hn_a (hn_b (hn_a (hn_b (hn_b h))))))))), (hn_b (hn_a (hn_b (hn_b (hn_a (hn_b (hn_a (hn_b (hn_b h))))))))), (hn_a (hn_b (hn_b (hn_b (hn_a (hn_b (hn_a (hn_b (hn_b h))))))))), (hn_a (hn_b (hn_b (hn_b (hn_b (hn_a (hn_b (hn_a (hn_b (hn_b h)))))))))), fun j hj => ?_⟩
  have hj : j < 5 := hj
  match j, hj with
  | 0, _ => exact (hn_b (hn_b (hn_b (hn_b (hn_b (hn_a (hn_b (hn_a (hn_b (hn_b h))))))))))
  | 1, _ => exact (hn_a (hn_a (hn_a (hn_a (hn_b (hn_b (hn_a (hn_b (hn_b h)))))))))
  | 2, _ => exact (hn_b (hn_a (hn_a (hn_a (hn_b (hn_b (hn_a (hn_b (hn_b h)))))))))
  | 3, _ => exact (hn_a (hn_b (hn_a (hn_a (hn_b (hn_b (hn_a (hn_b (hn_b h)))))))))
  | 4, _ => exact (hn_a (hn_b (hn_b (hn_a (hn_a (hn_b (hn_b (hn_a (hn_b (hn_b h))))))))))
theorem hn_s2 (h : (Jvm.Cond.and given_1 narrow_1).before args s = true) : hn_S args s 2 := by
  refine ⟨(hn_b (hn_b (hn_b (hn_a (hn_a (hn_b (hn_b (hn_a (hn_b (hn_b h)))))))))), (hn_a (hn_a (hn_b (hn_a (hn_b (hn_b (hn_a (hn_b (hn_b h))))))))), (hn_b (hn_a (hn_b (hn_a (hn_b (hn_b (hn_a (hn_b (hn_b h))))))))), (hn_a (hn_b (hn_b (hn_a (hn_b (hn_b (hn_a (hn_b (hn_b h))))))))), fun j hj => ?_⟩
  have hj : j < 4 := hj
  match j, hj with
  | 0, _ => exact (hn_a (hn_b (hn_b (hn_b (hn_a (hn_b (hn_b (hn_a (hn_b (hn_b h))))))))))
  | 1, _ => exact (hn_b (hn_b (hn_b (hn_b (hn_a (hn_b (hn_b (hn_a (hn_b (hn_b h))))))))))
  | 2, _ => exact (hn_a (hn_a (hn_a (hn_b (hn_b (hn_b (hn_a (hn_b (hn_b h)))))))))
  | 3, _ => exact (hn_b (hn_a (hn_a (hn_b (hn_b (hn_b (hn_a (hn_b (hn_b h)))))))))
theorem hn_s3 (h : (Jvm.Cond.and given_1 narrow_1).before args s = true) : hn_S args s 3 := by
  refine ⟨(hn_a (hn_b (hn_a (hn_b (hn_b (hn_b (hn_a (hn_b (hn_b h))))))))), (hn_a (hn_b (hn_b (hn_a (hn_b (hn_b (hn_b (hn_a (hn_b (hn_b h)))))))))), (hn_b (hn_b (hn_b (hn_a (hn_b (hn_b (hn_b (hn_a (hn_b (hn_b h)))))))))), (hn_a (hn_a (hn_b (hn_b (hn_b (hn_b (hn_a (hn_b (hn_b h))))))))), fun j hj => ?_⟩
  have hj : j < 4 := hj
  match j, hj with
  | 0, _ => exact (hn_b (hn_a (hn_b (hn_b (hn_b (hn_b (hn_a (hn_b (hn_b h)))))))))
  | 1, _ => exact (hn_a (hn_b (hn_b (hn_b (hn_b (hn_b (hn_a (hn_b (hn_b h)))))))))
  | 2, _ => exact (hn_a (hn_b (hn_b (hn_b (hn_b (hn_b (hn_b (hn_a (hn_b (hn_b h))))))))))
  | 3, _ => exact (hn_b (hn_b (hn_b (hn_b (hn_b (hn_b (hn_b (hn_a (hn_b (hn_b h))))))))))
theorem hn_s4 (h : (Jvm.Cond.and given_1 narrow_1).before args s = true) : hn_S args s 4 := by
  refine ⟨(hn_a (hn_a (hn_a (hn_a (hn_a (hn_a (hn_b (hn_b (hn_b h))))))))), (hn_b (hn_a (hn_a (hn_a (hn_a (hn_a (hn_b (hn_b (hn_b h))))))))), (hn_a (hn_b (hn_a (hn_a (hn_a (hn_a (hn_b (hn_b (hn_b h))))))))), (hn_b (hn_b (hn_a (hn_a (hn_a (hn_a (hn_b (hn_b (hn_b h))))))))), fun j hj => ?_⟩
  have hj : j < 4 := hj
  match j, hj with
  | 0, _ => exact (hn_a (hn_a (hn_b (hn_a (hn_a (hn_a (hn_b (hn_b (hn_b h)))))))))
  | 1, _ => exact (hn_b (hn_a (hn_b (hn_a (hn_a (hn_a (hn_b (hn_b (hn_b h)))))))))
  | 2, _ => exact (hn_a (hn_b (hn_b (hn_a (hn_a (hn_a (hn_b (hn_b (hn_b h)))))))))
  | 3, _ => exact (hn_a (hn_b (hn_b (hn_b (hn_a (hn_a (hn_a (hn_b (hn_b (hn_b h))))))))))
theorem hn_s5 (h : (Jvm.Cond.and given_1 narrow_1).before args s = true) : hn_S args s 5 := by
  refine ⟨(hn_b (hn_b (hn_b (hn_b (hn_a (hn_a (hn_a (hn_b (hn_b (hn_b h)))))))))), (hn_a (hn_a (hn_a (hn_b (hn_a (hn_a (hn_b (hn_b (hn_b h))))))))), (hn_b (hn_a (hn_a (hn_b (hn_a (hn_a (hn_b (hn_b (hn_b h))))))))), (hn_a (hn_b (hn_a (hn_b (hn_a (hn_a (hn_b (hn_b (hn_b h))))))))), fun j hj => ?_⟩
  have hj : j < 3 := hj
  match j, hj with
  | 0, _ => exact (hn_a (hn_b (hn_b (hn_a (hn_b (hn_a (hn_a (hn_b (hn_b (hn_b h))))))))))
  | 1, _ => exact (hn_b (hn_b (hn_b (hn_a (hn_b (hn_a (hn_a (hn_b (hn_b (hn_b h))))))))))
  | 2, _ => exact (hn_a (hn_a (hn_b (hn_b (hn_a (hn_a (hn_b (hn_b (hn_b h)))))))))
theorem hn_s6 (h : (Jvm.Cond.and given_1 narrow_1).before args s = true) : hn_S args s 6 := by
  refine ⟨(hn_b (hn_a (hn_b (hn_b (hn_a (hn_a (hn_b (hn_b (hn_b h))))))))), (hn_a (hn_b (hn_b (hn_b (hn_a (hn_a (hn_b (hn_b (hn_b h))))))))), (hn_a (hn_b (hn_b (hn_b (hn_b (hn_a (hn_a (hn_b (hn_b (hn_b h)))))))))), (hn_b (hn_b (hn_b (hn_b (hn_b (hn_a (hn_a (hn_b (hn_b (hn_b h)))))))))), fun j hj => ?_⟩
  have hj : j < 4 := hj
  match j, hj with
  | 0, _ => exact (hn_a (hn_a (hn_a (hn_a (hn_b (hn_a (hn_b (hn_b (hn_b h)))))))))
  | 1, _ => exact (hn_b (hn_a (hn_a (hn_a (hn_b (hn_a (hn_b (hn_b (hn_b h)))))))))
  | 2, _ => exact (hn_a (hn_b (hn_a (hn_a (hn_b (hn_a (hn_b (hn_b (hn_b h)))))))))
  | 3, _ => exact (hn_a (hn_b (hn_b (hn_a (hn_a (hn_b (hn_a (hn_b (hn_b (hn_b h))))))))))
theorem hn_s7 (h : (Jvm.Cond.and given_1 narrow_1).before args s = true) : hn_S args s 7 := by
  refine ⟨(hn_a (hn_a (hn_b (hn_a (hn_b (hn_a (hn_b (hn_b (hn_b h))))))))), (hn_b (hn_a (hn_b (hn_a (hn_b (hn_a (hn_b (hn_b (hn_b h))))))))), (hn_a (hn_b (hn_b (hn_a (hn_b (hn_a (hn_b (hn_b (hn_b h))))))))), (hn_a (hn_b (hn_b (hn_b (hn_a (hn_b (hn_a (hn_b (hn_b (hn_b h)))))))))), fun j hj => ?_⟩
  have hj : j < 5 := hj
  match j, hj with
  | 0, _ => exact (hn_b (hn_b (hn_b (hn_b (hn_a (hn_b (hn_a (hn_b (hn_b (hn_b h))))))))))
  | 1, _ => exact (hn_a (hn_a (hn_a (hn_b (hn_b (hn_a (hn_b (hn_b (hn_b h)))))))))
  | 2, _ => exact (hn_b (hn_a (hn_a (hn_b (hn_b (hn_a (hn_b (hn_b (hn_b h)))))))))
  | 3, _ => exact (hn_a (hn_b (hn_a (hn_b (hn_b (hn_a (hn_b (hn_b (hn_b h)))))))))
  | 4, _ => exact (hn_a (hn_b (hn_b (hn_a (hn_b (hn_b (hn_a (hn_b (hn_b (hn_b h))))))))))
theorem hn_s8 (h : (Jvm.Cond.and given_1 narrow_1).before args s = true) : hn_S args s 8 := by
  refine ⟨(hn_b (hn_b (hn_b (hn_a (hn_b (hn_b (hn_a (hn_b (hn_b (hn_b h)))))))))), (hn_a (hn_a (hn_b (hn_b (hn_b (hn_a (hn_b (hn_b (hn_b h))))))))), (hn_b (hn_a (hn_b (hn_b (hn_b (hn_a (hn_b (hn_b (hn_b h))))))))), (hn_a (hn_b (hn_b (hn_b (hn_b (hn_a (hn_b (hn_b (hn_b h))))))))), fun j hj => ?_⟩
  have hj : j < 4 := hj
  match j, hj with
  | 0, _ => exact (hn_a (hn_b (hn_b (hn_b (hn_b (hn_b (hn_a (hn_b (hn_b (hn_b h))))))))))
  | 1, _ => exact (hn_b (hn_b (hn_b (hn_b (hn_b (hn_b (hn_a (hn_b (hn_b (hn_b h))))))))))
  | 2, _ => exact (hn_a (hn_a (hn_a (hn_a (hn_a (hn_b (hn_b (hn_b (hn_b h)))))))))
  | 3, _ => exact (hn_b (hn_a (hn_a (hn_a (hn_a (hn_b (hn_b (hn_b (hn_b h)))))))))
theorem hn_s9 (h : (Jvm.Cond.and given_1 narrow_1).before args s = true) : hn_S args s 9 := by
  refine ⟨(hn_a (hn_b (hn_a (hn_a (hn_a (hn_b (hn_b (hn_b (hn_b h))))))))), (hn_b (hn_b (hn_a (hn_a (hn_a (hn_b (hn_b (hn_b (hn_b h))))))))), (hn_a (hn_a (hn_b (hn_a (hn_a (hn_b (hn_b (hn_b (hn_b h))))))))), (hn_b (hn_a (hn_b (hn_a (hn_a (hn_b (hn_b (hn_b (hn_b h))))))))), fun j hj => ?_⟩
  have hj : j < 5 := hj
  match j, hj with
  | 0, _ => exact (hn_a (hn_b (hn_b (hn_a (hn_a (hn_b (hn_b (hn_b (hn_b h)))))))))
  | 1, _ => exact (hn_a (hn_b (hn_b (hn_b (hn_a (hn_a (hn_b (hn_b (hn_b (hn_b h))))))))))
  | 2, _ => exact (hn_b (hn_b (hn_b (hn_b (hn_a (hn_a (hn_b (hn_b (hn_b (hn_b h))))))))))
  | 3, _ => exact (hn_a (hn_a (hn_a (hn_b (hn_a (hn_b (hn_b (hn_b (hn_b h)))))))))
  | 4, _ => exact (hn_b (hn_a (hn_a (hn_b (hn_a (hn_b (hn_b (hn_b (hn_b h)))))))))
theorem hn_s10 (h : (Jvm.Cond.and given_1 narrow_1).before args s = true) : hn_S args s 10 := by
  refine ⟨(hn_a (hn_b (hn_a (hn_b (hn_a (hn_b (hn_b (hn_b (hn_b h))))))))), (hn_a (hn_b (hn_b (hn_a (hn_b (hn_a (hn_b (hn_b (hn_b (hn_b h)))))))))), (hn_b (hn_b (hn_b (hn_a (hn_b (hn_a (hn_b (hn_b (hn_b (hn_b h)))))))))), (hn_a (hn_a (hn_b (hn_b (hn_a (hn_b (hn_b (hn_b (hn_b h))))))))), fun j hj => ?_⟩
  have hj : j < 4 := hj
  match j, hj with
  | 0, _ => exact (hn_b (hn_a (hn_b (hn_b (hn_a (hn_b (hn_b (hn_b (hn_b h)))))))))
  | 1, _ => exact (hn_a (hn_b (hn_b (hn_b (hn_a (hn_b (hn_b (hn_b (hn_b h)))))))))
  | 2, _ => exact (hn_a (hn_b (hn_b (hn_b (hn_b (hn_a (hn_b (hn_b (hn_b (hn_b h))))))))))
  | 3, _ => exact (hn_b (hn_b (hn_b (hn_b (hn_b (hn_a (hn_b (hn_b (hn_b (hn_b h))))))))))
theorem hn_s11 (h : (Jvm.Cond.and given_1 narrow_1).before args s = true) : hn_S args s 11 := by
  refine ⟨(hn_a (hn_a (hn_a (hn_a (hn_b (hn_b (hn_b (hn_b (hn_b h))))))))), (hn_b (hn_a (hn_a (hn_a (hn_b (hn_b (hn_b (hn_b (hn_b h))))))))), (hn_a (hn_b (hn_a (hn_a (hn_b (hn_b (hn_b (hn_b (hn_b h))))))))), (hn_a (hn_b (hn_b (hn_a (hn_a (hn_b (hn_b (hn_b (hn_b (hn_b h)))))))))), fun j hj => ?_⟩
  have hj : j < 6 := hj
  match j, hj with
  | 0, _ => exact (hn_b (hn_b (hn_b (hn_a (hn_a (hn_b (hn_b (hn_b (hn_b (hn_b h))))))))))
  | 1, _ => exact (hn_a (hn_a (hn_b (hn_a (hn_b (hn_b (hn_b (hn_b (hn_b h)))))))))
  | 2, _ => exact (hn_b (hn_a (hn_b (hn_a (hn_b (hn_b (hn_b (hn_b (hn_b h)))))))))
  | 3, _ => exact (hn_a (hn_b (hn_b (hn_a (hn_b (hn_b (hn_b (hn_b (hn_b h)))))))))
  | 4, _ => exact (hn_a (hn_b (hn_b (hn_b (hn_a (hn_b (hn_b (hn_b (hn_b (hn_b h))))))))))
  | 5, _ => exact (hn_b (hn_b (hn_b (hn_b (hn_a (hn_b (hn_b (hn_b (hn_b (hn_b h))))))))))
theorem hn_s12 (h : (Jvm.Cond.and given_1 narrow_1).before args s = true) : hn_S args s 12 := by
  refine ⟨(hn_a (hn_a (hn_a (hn_b (hn_b (hn_b (hn_b (hn_b (hn_b h))))))))), (hn_b (hn_a (hn_a (hn_b (hn_b (hn_b (hn_b (hn_b (hn_b h))))))))), (hn_a (hn_b (hn_a (hn_b (hn_b (hn_b (hn_b (hn_b (hn_b h))))))))), (hn_a (hn_b (hn_b (hn_a (hn_b (hn_b (hn_b (hn_b (hn_b (hn_b h)))))))))), fun j hj => ?_⟩
  have hj : j < 5 := hj
  match j, hj with
  | 0, _ => exact (hn_b (hn_b (hn_b (hn_a (hn_b (hn_b (hn_b (hn_b (hn_b (hn_b h))))))))))
  | 1, _ => exact (hn_a (hn_a (hn_b (hn_b (hn_b (hn_b (hn_b (hn_b (hn_b h)))))))))
  | 2, _ => exact (hn_b (hn_a (hn_b (hn_b (hn_b (hn_b (hn_b (hn_b (hn_b h)))))))))
  | 3, _ => exact (hn_a (hn_b (hn_b (hn_b (hn_b (hn_b (hn_b (hn_b (hn_b h)))))))))
  | 4, _ => exact (hn_a (hn_b (hn_b (hn_b (hn_b (hn_b (hn_b (hn_b (hn_b (hn_b h))))))))))
theorem hn_s13 (h : (Jvm.Cond.and given_1 narrow_1).before args s = true) : hn_S args s 13 := by
  refine ⟨(hn_b (hn_b (hn_b (hn_a (hn_a (hn_b (hn_a (hn_a (hn_b (hn_b h)))))))))), (hn_a (hn_a (hn_b (hn_a (hn_b (hn_a (hn_a (hn_b (hn_b h))))))))), (hn_b (hn_a (hn_b (hn_a (hn_b (hn_a (hn_a (hn_b (hn_b h))))))))), (hn_a (hn_b (hn_b (hn_a (hn_b (hn_a (hn_a (hn_b (hn_b h))))))))), fun j hj => ?_⟩
  have hj : j < 3 := hj
  match j, hj with
  | 0, _ => exact (hn_a (hn_b (hn_b (hn_b (hn_a (hn_b (hn_a (hn_a (hn_b (hn_b h))))))))))
  | 1, _ => exact (hn_b (hn_b (hn_b (hn_b (hn_a (hn_b (hn_a (hn_a (hn_b (hn_b h))))))))))
  | 2, _ => exact (hn_a (hn_a (hn_a (hn_b (hn_b (hn_a (hn_a (hn_b (hn_b h)))))))))
theorem hn_s14 (h : (Jvm.Cond.and given_1 narrow_1).before args s = true) : hn_S args s 14 := by
  refine ⟨(hn_b (hn_a (hn_a (hn_b (hn_b (hn_a (hn_a (hn_b (hn_b h))))))))), (hn_a (hn_b (hn_a (hn_b (hn_b (hn_a (hn_a (hn_b (hn_b h))))))))), (hn_a (hn_b (hn_b (hn_a (hn_b (hn_b (hn_a (hn_a (hn_b (hn_b h)))))))))), (hn_b (hn_b (hn_b (hn_a (hn_b (hn_b (hn_a (hn_a (hn_b (hn_b h)))))))))), fun j hj => ?_⟩
  have hj : j < 3 := hj
  match j, hj with
  | 0, _ => exact (hn_a (hn_a (hn_b (hn_b (hn_b (hn_a (hn_a (hn_b (hn_b h)))))))))
  | 1, _ => exact (hn_b (hn_a (hn_b (hn_b (hn_b (hn_a (hn_a (hn_b (hn_b h)))))))))
  | 2, _ => exact (hn_a (hn_b (hn_b (hn_b (hn_b (hn_a (hn_a (hn_b (hn_b h)))))))))
theorem hn_s15 (h : (Jvm.Cond.and given_1 narrow_1).before args s = true) : hn_S args s 15 := by
  refine ⟨(hn_a (hn_b (hn_b (hn_b (hn_b (hn_b (hn_a (hn_a (hn_b (hn_b h)))))))))), (hn_b (hn_b (hn_b (hn_b (hn_b (hn_b (hn_a (hn_a (hn_b (hn_b h)))))))))), (hn_a (hn_a (hn_a (hn_a (hn_a (hn_b (hn_a (hn_b (hn_b h))))))))), (hn_b (hn_a (hn_a (hn_a (hn_a (hn_b (hn_a (hn_b (hn_b h))))))))), fun j hj => ?_⟩
  have hj : j < 2 := hj
  match j, hj with
  | 0, _ => exact (hn_a (hn_b (hn_a (hn_a (hn_a (hn_b (hn_a (hn_b (hn_b h)))))))))
  | 1, _ => exact (hn_b (hn_b (hn_a (hn_a (hn_a (hn_b (hn_a (hn_b (hn_b h)))))))))
theorem hn_s16 (h : (Jvm.Cond.and given_1 narrow_1).before args s = true) : hn_S args s 16 := by
  refine ⟨(hn_a (hn_a (hn_a (hn_a (hn_b (hn_b (hn_b (hn_a (hn_b h))))))))), (hn_b (hn_a (hn_a (hn_a (hn_b (hn_b (hn_b (hn_a (hn_b h))))))))), (hn_a (hn_b (hn_a (hn_a (hn_b (hn_b (hn_b (hn_a (hn_b h))))))))), (hn_a (hn_b (hn_b (hn_a (hn_a (hn_b (hn_b (hn_b (hn_a (hn_b h)))))))))), fun j hj => ?_⟩
  have hj : j < 4 := hj
  match j, hj with
  | 0, _ => exact (hn_b (hn_b (hn_b (hn_a (hn_a (hn_b (hn_b (hn_b (hn_a (hn_b h))))))))))
  | 1, _ => exact (hn_a (hn_a (hn_b (hn_a (hn_b (hn_b (hn_b (hn_a (hn_b h)))))))))
  | 2, _ => exact (hn_b (hn_a (hn_b (hn_a (hn_b (hn_b (hn_b (hn_a (hn_b h)))))))))
  | 3, _ => exact (hn_a (hn_b (hn_b (hn_a (hn_b (hn_b (hn_b (hn_a (hn_b h)))))))))
theorem hn_s17 (h : (Jvm.Cond.and given_1 narrow_1).before args s = true) : hn_S args s 17 := by
  refine ⟨(hn_a (hn_b (hn_b (hn_b (hn_a (hn_b (hn_b (hn_b (hn_a (hn_b h)))))))))), (hn_b (hn_b (hn_b (hn_b (hn_a (hn_b (hn_b (hn_b (hn_a (hn_b h)))))))))), (hn_a (hn_a (hn_a (hn_b (hn_b (hn_b (hn_b (hn_a (hn_b h))))))))), (hn_b (hn_a (hn_a (hn_b (hn_b (hn_b (hn_b (hn_a (hn_b h))))))))), fun j hj => ?_⟩
  have hj : j < 4 := hj
  match j, hj with
  | 0, _ => exact (hn_a (hn_b (hn_a (hn_b (hn_b (hn_b (hn_b (hn_a (hn_b h)))))))))
  | 1, _ => exact (hn_a (hn_b (hn_b (hn_a (hn_b (hn_b (hn_b (hn_b (hn_a (hn_b h))))))))))
  | 2, _ => exact (hn_b (hn_b (hn_b (hn_a (hn_b (hn_b (hn_b (hn_b (hn_a (hn_b h))))))))))
  | 3, _ => exact (hn_a (hn_a (hn_b (hn_b (hn_b (hn_b (hn_b (hn_a (hn_b h)))))))))
theorem hn_s18 (h : (Jvm.Cond.and given_1 narrow_1).before args s = true) : hn_S args s 18 := by
  refine ⟨(hn_b (hn_a (hn_b (hn_b (hn_b (hn_b (hn_b (hn_a (hn_b h))))))))), (hn_a (hn_b (hn_b (hn_b (hn_b (hn_b (hn_b (hn_a (hn_b h))))))))), (hn_a (hn_b (hn_b (hn_b (hn_b (hn_b (hn_b (hn_b (hn_a (hn_b h)))))))))), (hn_b (hn_b (hn_b (hn_b (hn_b (hn_b (hn_b (hn_b (hn_a (hn_b h)))))))))), fun j hj => ?_⟩
  have hj : j < 4 := hj
  match j, hj with
  | 0, _ => exact (hn_a (hn_a (hn_a (hn_a (hn_a (hn_a (hn_a (hn_b (hn_b h)))))))))
  | 1, _ => exact (hn_b (hn_a (hn_a (hn_a (hn_a (hn_a (hn_a (hn_b (hn_b h)))))))))
  | 2, _ => exact (hn_a (hn_b (hn_a (hn_a (hn_a (hn_a (hn_a (hn_b (hn_b h)))))))))
  | 3, _ => exact (hn_b (hn_b (hn_a (hn_a (hn_a (hn_a (hn_a (hn_b (hn_b h)))))))))
theorem hn_s19 (h : (Jvm.Cond.and given_1 narrow_1).before args s = true) : hn_S args s 19 := by
  refine ⟨(hn_b (hn_b (hn_b (hn_a (hn_b (hn_a (hn_a (hn_b (hn_a (hn_b h)))))))))), (hn_a (hn_a (hn_b (hn_b (hn_a (hn_a (hn_b (hn_a (hn_b h))))))))), (hn_b (hn_a (hn_b (hn_b (hn_a (hn_a (hn_b (hn_a (hn_b h))))))))), (hn_a (hn_b (hn_b (hn_b (hn_a (hn_a (hn_b (hn_a (hn_b h))))))))), fun j hj => ?_⟩
  have hj : j < 6 := hj
  match j, hj with
  | 0, _ => exact (hn_a (hn_b (hn_b (hn_b (hn_b (hn_a (hn_a (hn_b (hn_a (hn_b h))))))))))
  | 1, _ => exact (hn_b (hn_b (hn_b (hn_b (hn_b (hn_a (hn_a (hn_b (hn_a (hn_b h))))))))))
  | 2, _ => exact (hn_a (hn_a (hn_a (hn_a (hn_b (hn_a (hn_b (hn_a (hn_b h)))))))))
  | 3, _ => exact (hn_b (hn_a (hn_a (hn_a (hn_b (hn_a (hn_b (hn_a (hn_b h)))))))))
  | 4, _ => exact (hn_a (hn_b (hn_a (hn_a (hn_b (hn_a (hn_b (hn_a (hn_b h)))))))))
  | 5, _ => exact (hn_a (hn_b (hn_b (hn_a (hn_a (hn_b (hn_a (hn_b (hn_a (hn_b h))))))))))
theorem hn_s20 (h : (Jvm.Cond.and given_1 narrow_1).before args s = true) : hn_S args s 20 := by
  refine ⟨(hn_b (hn_b (hn_b (hn_a (hn_a (hn_b (hn_a (hn_b (hn_a (hn_b h)))))))))), (hn_a (hn_a (hn_b (hn_a (hn_b (hn_a (hn_b (hn_a (hn_b h))))))))), (hn_b (hn_a (hn_b (hn_a (hn_b (hn_a (hn_b (hn_a (hn_b h))))))))), (hn_a (hn_b (hn_b (hn_a (hn_b (hn_a (hn_b (hn_a (hn_b h))))))))), fun j hj => ?_⟩
  have hj : j < 4 := hj
  match j, hj with
  | 0, _ => exact (hn_a (hn_b (hn_b (hn_b (hn_a (hn_b (hn_a (hn_b (hn_a (hn_b h))))))))))
  | 1, _ => exact (hn_b (hn_b (hn_b (hn_b (hn_a (hn_b (hn_a (hn_b (hn_a (hn_b h))))))))))
  | 2, _ => exact (hn_a (hn_a (hn_a (hn_b (hn_b (hn_a (hn_b (hn_a (hn_b h)))))))))
  | 3, _ => exact (hn_b (hn_a (hn_a (hn_b (hn_b (hn_a (hn_b (hn_a (hn_b h)))))))))
theorem hn_s21 (h : (Jvm.Cond.and given_1 narrow_1).before args s = true) : hn_S args s 21 := by
  refine ⟨(hn_a (hn_b (hn_a (hn_b (hn_b (hn_a (hn_b (hn_a (hn_b h))))))))), (hn_a (hn_b (hn_b (hn_a (hn_b (hn_b (hn_a (hn_b (hn_a (hn_b h)))))))))), (hn_b (hn_b (hn_b (hn_a (hn_b (hn_b (hn_a (hn_b (hn_a (hn_b h)))))))))), (hn_a (hn_a (hn_b (hn_b (hn_b (hn_a (hn_b (hn_a (hn_b h))))))))), fun j hj => ?_⟩
  have hj : j < 6 := hj
  match j, hj with
  | 0, _ => exact (hn_b (hn_a (hn_b (hn_b (hn_b (hn_a (hn_b (hn_a (hn_b h)))))))))
  | 1, _ => exact (hn_a (hn_b (hn_b (hn_b (hn_b (hn_a (hn_b (hn_a (hn_b h)))))))))
  | 2, _ => exact (hn_a (hn_b (hn_b (hn_b (hn_b (hn_b (hn_a (hn_b (hn_a (hn_b h))))))))))
  | 3, _ => exact (hn_b (hn_b (hn_b (hn_b (hn_b (hn_b (hn_a (hn_b (hn_a (hn_b h))))))))))
  | 4, _ => exact (hn_a (hn_a (hn_a (hn_a (hn_a (hn_b (hn_b (hn_a (hn_b h)))))))))
  | 5, _ => exact (hn_b (hn_a (hn_a (hn_a (hn_a (hn_b (hn_b (hn_a (hn_b h)))))))))
theorem hn_s22 (h : (Jvm.Cond.and given_1 narrow_1).before args s = true) : hn_S args s 22 := by
  refine ⟨(hn_a (hn_b (hn_a (hn_a (hn_a (hn_b (hn_b (hn_a (hn_b h))))))))), (hn_b (hn_b (hn_a (hn_a (hn_a (hn_b (hn_b (hn_a (hn_b h))))))))), (hn_a (hn_a (hn_b (hn_a (hn_a (hn_b (hn_b (hn_a (hn_b h))))))))), (hn_b (hn_a (hn_b (hn_a (hn_a (hn_b (hn_b (hn_a (hn_b h))))))))), fun j hj => ?_⟩
  have hj : j < 5 := hj
  match j, hj with
  | 0, _ => exact (hn_a (hn_b (hn_b (hn_a (hn_a (hn_b (hn_b (hn_a (hn_b h)))))))))
  | 1, _ => exact (hn_a (hn_b (hn_b (hn_b (hn_a (hn_a (hn_b (hn_b (hn_a (hn_b h))))))))))
  | 2, _ => exact (hn_b (hn_b (hn_b (hn_b (hn_a (hn_a (hn_b (hn_b (hn_a (hn_b h))))))))))
  | 3, _ => exact (hn_a (hn_a (hn_a (hn_b (hn_a (hn_b (hn_b (hn_a (hn_b h)))))))))
  | 4, _ => exact (hn_b (hn_a (hn_a (hn_b (hn_a (hn_b (hn_b (hn_a (hn_b h)))))))))
theorem hn_s23 (h : (Jvm.Cond.and given_1 narrow_1).before args s = true) : hn_S args s 23 := by
  refine ⟨(hn_a (hn_b (hn_a (hn_b (hn_a (hn_b (hn_b (hn_a (hn_b h))))))))), (hn_a (hn_b (hn_b (hn_a (hn_b (hn_a (hn_b (hn_b (hn_a (hn_b h)))))))))), (hn_b (hn_b (hn_b (hn_a (hn_b (hn_a (hn_b (hn_b (hn_a (hn_b h)))))))))), (hn_a (hn_a (hn_b (hn_b (hn_a (hn_b (hn_b (hn_a (hn_b h))))))))), fun j hj => ?_⟩
  have hj : j < 4 := hj
  match j, hj with
  | 0, _ => exact (hn_b (hn_a (hn_b (hn_b (hn_a (hn_b (hn_b (hn_a (hn_b h)))))))))
  | 1, _ => exact (hn_a (hn_b (hn_b (hn_b (hn_a (hn_b (hn_b (hn_a (hn_b h)))))))))
  | 2, _ => exact (hn_a (hn_b (hn_b (hn_b (hn_b (hn_a (hn_b (hn_b (hn_a (hn_b h))))))))))
  | 3, _ => exact (hn_b (hn_b (hn_b (hn_b (hn_b (hn_a (hn_b (hn_b (hn_a (hn_b h))))))))))
theorem hn_s24 (h : (Jvm.Cond.and given_1 narrow_1).before args s = true) : hn_S args s 24 := by
  refine ⟨(hn_a (hn_a (hn_b (hn_a (hn_a (hn_a (hn_a (hn_b (hn_b h))))))))), (hn_b (hn_a (hn_b (hn_a (hn_a (hn_a (hn_a (hn_b (hn_b h))))))))), (hn_a (hn_b (hn_b (hn_a (hn_a (hn_a (hn_a (hn_b (hn_b h))))))))), (hn_a (hn_b (hn_b (hn_b (hn_a (hn_a (hn_a (hn_a (hn_b (hn_b h)))))))))), fun j hj => ?_⟩
  have hj : j < 3 := hj
  match j, hj with
  | 0, _ => exact (hn_b (hn_b (hn_b (hn_b (hn_a (hn_a (hn_a (hn_a (hn_b (hn_b h))))))))))
  | 1, _ => exact (hn_a (hn_a (hn_a (hn_b (hn_a (hn_a (hn_a (hn_b (hn_b h)))))))))
  | 2, _ => exact (hn_b (hn_a (hn_a (hn_b (hn_a (hn_a (hn_a (hn_b (hn_b h)))))))))
theorem hn_s25 (h : (Jvm.Cond.and given_1 narrow_1).before args s = true) : hn_S args s 25 := by
  refine ⟨(hn_a (hn_b (hn_a (hn_b (hn_a (hn_a (hn_a (hn_b (hn_b h))))))))), (hn_a (hn_b (hn_b (hn_a (hn_b (hn_a (hn_a (hn_a (hn_b (hn_b h)))))))))), (hn_b (hn_b (hn_b (hn_a (hn_b (hn_a (hn_a (hn_a (hn_b (hn_b h)))))))))), (hn_a (hn_a (hn_b (hn_b (hn_a (hn_a (hn_a (hn_b (hn_b h))))))))), fun j hj => ?_⟩
  have hj : j < 2 := hj
  match j, hj with
  | 0, _ => exact (hn_b (hn_a (hn_b (hn_b (hn_a (hn_a (hn_a (hn_b (hn_b h)))))))))
  | 1, _ => exact (hn_a (hn_b (hn_b (hn_b (hn_a (hn_a (hn_a (hn_b (hn_b h)))))))))
theorem hn_s26 (h : (Jvm.Cond.and given_1 narrow_1).before args s = true) : hn_S args s 26 := by
  refine ⟨(hn_a (hn_b (hn_b (hn_b (hn_b (hn_a (hn_a (hn_a (hn_b (hn_b h)))))))))), (hn_b (hn_b (hn_b (hn_b (hn_b (hn_a (hn_a (hn_a (hn_b (hn_b h)))))))))), (hn_a (hn_a (hn_a (hn_a (hn_b (hn_a (hn_a (hn_b (hn_b h))))))))), (hn_b (hn_a (hn_a (hn_a (hn_b (hn_a (hn_a (hn_b (hn_b h))))))))), fun j hj => ?_⟩
  have hj : j < 2 := hj
  match j, hj with
  | 0, _ => exact (hn_a (hn_b (hn_a (hn_a (hn_b (hn_a (hn_a (hn_b (hn_b h)))))))))
  | 1, _ => exact (hn_a (hn_b (hn_b (hn_a (hn_a (hn_b (hn_a (hn_a (hn_b (hn_b h))))))))))
theorem hn_s (h : (Jvm.Cond.and given_1 narrow_1).before args s = true) (i : Nat) (hi : i < 27) : hn_S args s i := by
  match i, hi with
  | 0, _ => exact hn_s0 h
  | 1, _ => exact hn_s1 h
  | 2, _ => exact hn_s2 h
  | 3, _ => exact hn_s3 h
  | 4, _ => exact hn_s4 h
  | 5, _ => exact hn_s5 h
  | 6, _ => exact hn_s6 h
  | 7, _ => exact hn_s7 h
  | 8, _ => exact hn_s8 h
  | 9, _ => exact hn_s9 h
  | 10, _ => exact hn_s10 h
  | 11, _ => exact hn_s11 h
  | 12, _ => exact hn_s12 h
  | 13, _ => exact hn_s13 h
  | 14, _ => exact hn_s14 h
  | 15, _ => exact hn_s15 h
  | 16, _ => exact hn_s16 h
  | 17, _ => exact hn_s17 h
  | 18, _ => exact hn_s18 h
  | 19, _ => exact hn_s19 h
  | 20, _ => exact hn_s20 h
  | 21, _ => exact hn_s21 h
  | 22, _ => exact hn_s22 h
  | 23, _ => exact hn_s23 h
  | 24, _ => exact hn_s24 h
  | 25, _ => exact hn_s25 h
  | 26, _ => exact hn_s26 h
  | n + 27, hi => exact absurd hi (by omega)
theorem hn_n (h : (Jvm.Cond.and given_1 narrow_1).before args s = true) (k : Nat) (hk : k < 13) : (Cond.eq (.elem hf_NA (.int (Int32.ofNat k))) (hf_tm k)).before args s = true := by
  match k, hk with
  | 0, _ => exact (hn_a (hn_b (hn_a (hn_b (hn_a (hn_a (hn_a (hn_a (hn_b h)))))))))
  | 1, _ => exact (hn_a (hn_b (hn_b (hn_a (hn_b (hn_a (hn_a (hn_a (hn_a (hn_b h))))))))))
  | 2, _ => exact (hn_b (hn_b (hn_b (hn_a (hn_b (hn_a (hn_a (hn_a (hn_a (hn_b h))))))))))
  | 3, _ => exact (hn_a (hn_a (hn_b (hn_b (hn_a (hn_a (hn_a (hn_a (hn_b h)))))))))
  | 4, _ => exact (hn_b (hn_a (hn_b (hn_b (hn_a (hn_a (hn_a (hn_a (hn_b h)))))))))
  | 5, _ => exact (hn_a (hn_b (hn_b (hn_b (hn_a (hn_a (hn_a (hn_a (hn_b h)))))))))
  | 6, _ => exact (hn_a (hn_b (hn_b (hn_b (hn_b (hn_a (hn_a (hn_a (hn_a (hn_b h))))))))))
  | 7, _ => exact (hn_b (hn_b (hn_b (hn_b (hn_b (hn_a (hn_a (hn_a (hn_a (hn_b h))))))))))
  | 8, _ => exact (hn_a (hn_a (hn_a (hn_a (hn_b (hn_a (hn_a (hn_a (hn_b h)))))))))
  | 9, _ => exact (hn_b (hn_a (hn_a (hn_a (hn_b (hn_a (hn_a (hn_a (hn_b h)))))))))
  | 10, _ => exact (hn_a (hn_b (hn_a (hn_a (hn_b (hn_a (hn_a (hn_a (hn_b h)))))))))
  | 11, _ => exact (hn_b (hn_b (hn_a (hn_a (hn_b (hn_a (hn_a (hn_a (hn_b h)))))))))
  | 12, _ => exact (hn_a (hn_a (hn_b (hn_a (hn_b (hn_a (hn_a (hn_a (hn_b h)))))))))
theorem hn_na (h : (Jvm.Cond.and given_1 narrow_1).before args s = true) : (Cond.arrayOf hf_NA (.object "java/lang/String")).before args s = true := (hn_a (hn_a (hn_a (hn_b (hn_a (hn_a (hn_a (hn_a (hn_b h)))))))))
theorem hn_nl (h : (Jvm.Cond.and given_1 narrow_1).before args s = true) : (Cond.eq (.length hf_NA) (.int 13)).before args s = true := (hn_b (hn_a (hn_a (hn_b (hn_a (hn_a (hn_a (hn_a (hn_b h)))))))))
theorem hn_cs (h : (Jvm.Cond.and given_1 narrow_1).before args s = true) : (Cond.eq (.static "java/lang/String" "COMPACT_STRINGS" "Z") (.int 1)).before args s = true := (hn_b (hn_a (hn_b (hn_a (hn_b (hn_a (hn_a (hn_a (hn_b h)))))))))
theorem hn_mi (h : (Jvm.Cond.and given_1 narrow_1).before args s = true) : (Cond.isRef (.mirror "[Ljava/lang/Object;")).before args s = true := (hn_a (hn_b (hn_b (hn_a (hn_b (hn_a (hn_a (hn_b (hn_a (hn_b h))))))))))
theorem hn_r0 (h : (Jvm.Cond.and given_1 narrow_1).before args s = true) : (Cond.isRef (.static "HalfFair" "NAMES" "[Ljava/lang/String;")).before args s = true := (hn_b (hn_b (hn_b (hn_b (hn_a (hn_a (hn_a (hn_a (hn_a (hn_b h))))))))))
theorem hn_r1 (h : (Jvm.Cond.and given_1 narrow_1).before args s = true) : (Cond.isRef (.static "java/util/ArrayList" "EMPTY_ELEMENTDATA" "[Ljava/lang/Object;")).before args s = true := (hn_a (hn_b (hn_a (hn_a (hn_a (hn_a (hn_a (hn_a (hn_b h)))))))))
theorem hn_r2 (h : (Jvm.Cond.and given_1 narrow_1).before args s = true) : (Cond.isRef (.static "java/util/ArrayList" "DEFAULTCAPACITY_EMPTY_ELEMENTDATA" "[Ljava/lang/Object;")).before args s = true := (hn_b (hn_a (hn_a (hn_b (hn_b (hn_a (hn_a (hn_a (hn_b h)))))))))
theorem hn_r3 (h : (Jvm.Cond.and given_1 narrow_1).before args s = true) : (Cond.isRef (.static "jdk/internal/util/Preconditions" "SIOOBE_FORMATTER" "Ljava/util/function/BiFunction;")).before args s = true := (hn_a (hn_b (hn_b (hn_a (hn_b (hn_a (hn_a (hn_a (hn_b h)))))))))
theorem hn_r4 (h : (Jvm.Cond.and given_1 narrow_1).before args s = true) : (Cond.isRef (.static "java/lang/Throwable" "UNASSIGNED_STACK" "[Ljava/lang/StackTraceElement;")).before args s = true := (hn_a (hn_b (hn_b (hn_a (hn_a (hn_a (hn_a (hn_a (hn_b h)))))))))
theorem hn_r5 (h : (Jvm.Cond.and given_1 narrow_1).before args s = true) : (Cond.isRef (.static "java/lang/Throwable" "SUPPRESSED_SENTINEL" "Ljava/util/List;")).before args s = true := (hn_a (hn_b (hn_b (hn_b (hn_a (hn_a (hn_a (hn_a (hn_a (hn_b h))))))))))
end HN
theorem hn_cl : ∀ q ∈ hf_cl, (∃ n, Cond.instantiable q.1 n ∈ lw_all) ∧ ∀ x ∈ u_ws q.1 q.2.1 q.2.2, x ∈ lw_all := by
  unfold hf_cl
  exact List.forall_mem_cons.mpr ⟨⟨⟨_, q189⟩, in_X0⟩, List.forall_mem_cons.mpr ⟨⟨⟨_, q197⟩, in_X1⟩, List.forall_mem_cons.mpr ⟨⟨⟨_, q291⟩, in_X2⟩, List.forall_mem_cons.mpr ⟨⟨⟨_, q320⟩, in_X3⟩, List.forall_mem_cons.mpr ⟨⟨⟨_, q1395⟩, in_X4⟩, List.forall_mem_cons.mpr ⟨⟨⟨_, q487⟩, in_X5⟩, List.forall_mem_cons.mpr ⟨⟨⟨_, q622⟩, in_X6⟩, List.forall_mem_cons.mpr ⟨⟨⟨_, q718⟩, in_X7⟩, List.forall_mem_cons.mpr ⟨⟨⟨_, q816⟩, in_X8⟩, List.forall_mem_cons.mpr ⟨⟨⟨_, q622⟩, in_X6⟩, List.forall_mem_cons.mpr ⟨⟨⟨_, q847⟩, in_X10⟩, List.forall_mem_cons.mpr ⟨⟨⟨_, q865⟩, in_X11⟩, List.forall_mem_cons.mpr ⟨⟨⟨_, q875⟩, in_X12⟩, List.forall_mem_cons.mpr ⟨⟨⟨_, q891⟩, in_X13⟩, List.forall_mem_cons.mpr ⟨⟨⟨_, q622⟩, in_X6⟩, List.forall_mem_cons.mpr ⟨⟨⟨_, q915⟩, in_X15⟩, List.forall_mem_cons.mpr ⟨⟨⟨_, q928⟩, in_X16⟩, List.forall_mem_cons.mpr ⟨⟨⟨_, q948⟩, in_X17⟩, List.forall_mem_cons.mpr ⟨⟨⟨_, q1348⟩, in_X18⟩, List.forall_mem_cons.mpr ⟨⟨⟨_, q203⟩, in_J2⟩, (fun _ h => absurd h List.not_mem_nil)⟩⟩⟩⟩⟩⟩⟩⟩⟩⟩⟩⟩⟩⟩⟩⟩⟩⟩⟩⟩
theorem hn_ls : ∀ (i : Nat) (q : String × String × String), hf_stl[i]? = some q → (Cond.laysStatic q.1 q.2.1 q.2.2 ∈ lw_tbl ∧ Cond.initialized q.1 ∈ lw_all) := by
  intro i q hq
  have h : ∀ q ∈ hf_stl, (Cond.laysStatic q.1 q.2.1 q.2.2 ∈ lw_tbl ∧ Cond.initialized q.1 ∈ lw_all) := by
    unfold hf_stl
    exact List.forall_mem_cons.mpr ⟨⟨q383, q153⟩, List.forall_mem_cons.mpr ⟨⟨q217, q157⟩, List.forall_mem_cons.mpr ⟨⟨q667, q157⟩, List.forall_mem_cons.mpr ⟨⟨q571, q166⟩, List.forall_mem_cons.mpr ⟨⟨q344, q159⟩, List.forall_mem_cons.mpr ⟨⟨q346, q159⟩, (fun _ h => absurd h List.not_mem_nil)⟩⟩⟩⟩⟩⟩
  exact h q (List.mem_of_getElem? hq)
theorem hn_sr : ∀ q ∈ hf_strs, Cond.stringRef q.1 q.2.1 q.2.2 ∈ lw_tbl := by
  unfold hf_strs
  exact List.forall_mem_cons.mpr ⟨q2074, List.forall_mem_cons.mpr ⟨q2075, List.forall_mem_cons.mpr ⟨q2076, List.forall_mem_cons.mpr ⟨q2077, List.forall_mem_cons.mpr ⟨q2078, List.forall_mem_cons.mpr ⟨q2079, List.forall_mem_cons.mpr ⟨q2080, List.forall_mem_cons.mpr ⟨q2081, List.forall_mem_cons.mpr ⟨q2082, List.forall_mem_cons.mpr ⟨q2083, List.forall_mem_cons.mpr ⟨q2084, List.forall_mem_cons.mpr ⟨q2085, List.forall_mem_cons.mpr ⟨q2086, List.forall_mem_cons.mpr ⟨q909, List.forall_mem_cons.mpr ⟨q946, List.forall_mem_cons.mpr ⟨q963, List.forall_mem_cons.mpr ⟨q748, List.forall_mem_cons.mpr ⟨q749, List.forall_mem_cons.mpr ⟨q754, List.forall_mem_cons.mpr ⟨q524, List.forall_mem_cons.mpr ⟨q612, List.forall_mem_cons.mpr ⟨q715, List.forall_mem_cons.mpr ⟨q716, List.forall_mem_cons.mpr ⟨q732, List.forall_mem_cons.mpr ⟨q832, List.forall_mem_cons.mpr ⟨q833, List.forall_mem_cons.mpr ⟨q892, (fun _ h => absurd h List.not_mem_nil)⟩⟩⟩⟩⟩⟩⟩⟩⟩⟩⟩⟩⟩⟩⟩⟩⟩⟩⟩⟩⟩⟩⟩⟩⟩⟩⟩
theorem hn_cc : Cond.laysStatic "java/lang/String" "COMPACT_STRINGS" "Z" ∈ lw_tbl ∧ Cond.initialized "java/lang/String" ∈ lw_all := ⟨q555, q164⟩
