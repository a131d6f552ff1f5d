set_option maxRecDepth 100000
set_option maxHeartbeats 1000000
/-! HalfFair's sums and tests: trees in the heap, their codes -/
def hf_Val : Nat → hf_H → Nat → List Nat → Prop
  | 0 => fun _ _ _ => False
  | d + 1 => fun h a c => (∃ (V : hf_V) (k : Nat), hf_ob 0 10 h a = some V ∧ V.1 0 = Int32.ofNat k ∧ k ≤ 99999 ∧ c = [16 * k]) ∨ (∃ (V : hf_V) (k : Nat), hf_ob 0 11 h a = some V ∧ V.1 0 = Int32.ofNat k ∧ k < 13 ∧ c = [1 + 16 * k]) ∨ (∃ (V : hf_V) (a1 a2 : Nat) (c1 c2 : List Nat) (s : Nat), hf_ob 0 12 h a = some V ∧ V.2.2.1 0 = some a1 ∧ V.2.2.1 1 = some a2 ∧ hf_Val d h a1 c1 ∧ hf_Val d h a2 c2 ∧ c = c1 ++ c2 ++ [s] ∧ ((V.1 2 = 43 ∧ s = 2) ∨ (V.1 2 = 45 ∧ s = 3) ∨ (V.1 2 = 42 ∧ s = 4) ∨ (V.1 2 = 47 ∧ s = 5) ∨ (V.1 2 = 37 ∧ s = 14)))
theorem hf_Val.mono : ∀ (d e : Nat) (h : hf_H) (a : Nat) (c : List Nat), d ≤ e → hf_Val d h a c → hf_Val e h a c
  | 0, _, _, _, _, _, H => by cases H
  | d + 1, 0, _, _, _, hd, _ => by omega
  | d + 1, e + 1, h, a, c, hd, H => by
    rcases H with H | H | ⟨V, a1, a2, c1, c2, s, e1, e2, e3, e4, e5, e6, e7⟩
    · exact Or.inl H
    · exact Or.inr (Or.inl H)
    · exact Or.inr (Or.inr ⟨V, a1, a2, c1, c2, s, e1, e2, e3, hf_Val.mono d e h a1 c1 (by omega) e4, hf_Val.mono d e h a2 c2 (by omega) e5, e6, e7⟩)
/-- the words asked -/
def hf_wd (h : hf_H) (w : Nat) (wd : Nat → Int64) : Prop := ∃ XV : hf_V, hf_ob 1 0 h w = some XV ∧ ∀ k, k < 13 → XV.2.2.2.2.1 16 k = wd k
theorem hf_wd.al {h : hf_H} {w : Nat} {wd : Nat → Int64} (D : hf_wd h w wd) {k : Nat} (hk : k < 13) : hf_al 0 16 13 h w (Int32.ofNat k) = some (wd k) := by
  obtain ⟨XV, e1, e2⟩ := D
  rw [hf_al_eq e1, z_ld hk (by omega), e2 k hk]
theorem zone2 (x y : Int64) : zone 2 x y = x + y := rfl
theorem zone3 (x y : Int64) : zone 3 x y = x - y := rfl
theorem zone4 (x y : Int64) : zone 4 x y = x * y := rfl
theorem zone5 (x y : Int64) : some (zone 5 x y) = if (lg_cmp y (0 : Int64)) = 0 then (some (0 : Int64)) else if y = 0 then none else some (x / y) := (zone_ok 5 x y).symm
theorem zone14 (x y : Int64) : some (zone 14 x y) = if (lg_cmp y (0 : Int64)) = 0 then (some (0 : Int64)) else if y = 0 then none else some (x - x / y * y) := (zone_ok 14 x y).symm
theorem zone6 (x y : Int64) : zone 6 x y = if x < y then 1 else 0 := by
  have h : some (zone 6 x y) = if 0 ≤ (lg_cmp x y) then (some (0 : Int64)) else some (1 : Int64) := (zone_ok 6 x y).symm
  by_cases e : x < y
  · rw [if_neg (fun z => Int64.not_le.mpr e ((lg_cmp_ge _ _).mp z))] at h
    rw [if_pos e]; exact Option.some.inj h
  · rw [if_pos ((lg_cmp_ge _ _).mpr (Int64.not_lt.mp e))] at h
    rw [if_neg e]; exact Option.some.inj h
theorem zone7 (x y : Int64) : zone 7 x y = if y < x then 0 else 1 := by
  have h : some (zone 7 x y) = if 0 < (lg_cmp x y) then (some (0 : Int64)) else some (1 : Int64) := (zone_ok 7 x y).symm
  by_cases e : y < x
  · rw [if_pos ((lg_cmp_gt _ _).mpr e)] at h
    rw [if_pos e]; exact Option.some.inj h
  · rw [if_neg (fun z => e ((lg_cmp_gt _ _).mp z))] at h
    rw [if_neg e]; exact Option.some.inj h
theorem zone8 (x y : Int64) : zone 8 x y = if x = y then 1 else 0 := by
  have h : some (zone 8 x y) = if (lg_cmp x y) = 0 then (some (1 : Int64)) else some (0 : Int64) := (zone_ok 8 x y).symm
  by_cases e : x = y
  · rw [if_pos ((lg_cmp_eq _ _).mpr e)] at h
    rw [if_pos e]; exact Option.some.inj h
  · rw [if_neg (fun z => e ((lg_cmp_eq _ _).mp z))] at h
    rw [if_neg e]; exact Option.some.inj h
theorem zone9 (x y : Int64) : zone 9 x y = if x < y then 0 else 1 := by
  have h : some (zone 9 x y) = if (lg_cmp x y) < 0 then (some (0 : Int64)) else some (1 : Int64) := (zone_ok 9 x y).symm
  by_cases e : x < y
  · rw [if_pos ((lg_cmp_lt _ _).mpr e)] at h
    rw [if_pos e]; exact Option.some.inj h
  · rw [if_neg (fun z => e ((lg_cmp_lt _ _).mp z))] at h
    rw [if_neg e]; exact Option.some.inj h
theorem zone10 (x y : Int64) : zone 10 x y = if y < x then 1 else 0 := by
  have h : some (zone 10 x y) = if (lg_cmp x y) ≤ 0 then (some (0 : Int64)) else some (1 : Int64) := (zone_ok 10 x y).symm
  by_cases e : y < x
  · rw [if_neg (fun z => Int64.not_le.mpr e ((lg_cmp_le _ _).mp z))] at h
    rw [if_pos e]; exact Option.some.inj h
  · rw [if_pos ((lg_cmp_le _ _).mpr (Int64.not_lt.mp e))] at h
    rw [if_neg e]; exact Option.some.inj h
theorem zrun_bin (wd : Nat → Int64) {c1 c2 : List Nat} {s : Nat} {x y : Int64} (h1 : ∀ st, zrun wd c1 st = some (x :: st)) (h2 : ∀ st, zrun wd c2 st = some (y :: st)) (hs : 2 ≤ s) (hs2 : s < 16) (h11 : s ≠ 11) (st : List Int64) : zrun wd (c1 ++ c2 ++ [s]) st = some (zone s x y :: st) := by
  rw [zrun_app, zrun_app, h1, Option.bind_some, h2, Option.bind_some]
  unfold zrun
  have hm : s % 16 = s := Nat.mod_eq_of_lt hs2
  rw [hm, if_neg (by omega), if_neg (by omega), if_neg h11]
  rfl
theorem spVal_10 {d a w : Nat} {h : hf_H} {V : hf_V} (e : hf_ob 0 10 h a = some V) : spVal (d + 1) a w h = spX10_of a w h := by
  show (match h.1 a with
    | some (.inl (_, 10, _)) => spX10_of a w h
    | some (.inl (_, 11, _)) => spX11_of a w h
    | some (.inl (_, 12, _)) => spX12_of (spVal d) a w h
    | _ => none) = _
  rw [hf_ob_spec e]
  rfl
theorem spVal_11 {d a w : Nat} {h : hf_H} {V : hf_V} (e : hf_ob 0 11 h a = some V) : spVal (d + 1) a w h = spX11_of a w h := by
  show (match h.1 a with
    | some (.inl (_, 10, _)) => spX10_of a w h
    | some (.inl (_, 11, _)) => spX11_of a w h
    | some (.inl (_, 12, _)) => spX12_of (spVal d) a w h
    | _ => none) = _
  rw [hf_ob_spec e]
  rfl
theorem spVal_12 {d a w : Nat} {h : hf_H} {V : hf_V} (e : hf_ob 0 12 h a = some V) : spVal (d + 1) a w h = spX12_of (spVal d) a w h := by
  show (match h.1 a with
    | some (.inl (_, 10, _)) => spX10_of a w h
    | some (.inl (_, 11, _)) => spX11_of a w h
    | some (.inl (_, 12, _)) => spX12_of (spVal d) a w h
    | _ => none) = _
  rw [hf_ob_spec e]
  rfl
theorem spCnd_15 {d a w : Nat} {h : hf_H} {V : hf_V} (e : hf_ob 0 15 h a = some V) : spCnd (d + 1) a w h = spX15_is (spCnd d) a w h := by
  show (match h.1 a with
    | some (.inl (_, 15, _)) => spX15_is (spCnd d) a w h
    | some (.inl (_, 16, _)) => spX16_is (spVal 64) a w h
    | some (.inl (_, 17, _)) => spX17_is (spCnd d) a w h
    | _ => none) = _
  rw [hf_ob_spec e]
  rfl
theorem spCnd_16 {d a w : Nat} {h : hf_H} {V : hf_V} (e : hf_ob 0 16 h a = some V) : spCnd (d + 1) a w h = spX16_is (spVal 64) a w h := by
  show (match h.1 a with
    | some (.inl (_, 15, _)) => spX15_is (spCnd d) a w h
    | some (.inl (_, 16, _)) => spX16_is (spVal 64) a w h
    | some (.inl (_, 17, _)) => spX17_is (spCnd d) a w h
    | _ => none) = _
  rw [hf_ob_spec e]
  rfl
theorem spCnd_17 {d a w : Nat} {h : hf_H} {V : hf_V} (e : hf_ob 0 17 h a = some V) : spCnd (d + 1) a w h = spX17_is (spCnd d) a w h := by
  show (match h.1 a with
    | some (.inl (_, 15, _)) => spX15_is (spCnd d) a w h
    | some (.inl (_, 16, _)) => spX16_is (spVal 64) a w h
    | some (.inl (_, 17, _)) => spX17_is (spCnd d) a w h
    | _ => none) = _
  rw [hf_ob_spec e]
  rfl
theorem x_val : ∀ (d : Nat) (h : hf_H) (a : Nat) (c : List Nat) (w : Nat) (wd : Nat → Int64), hf_wd h w wd → hf_Val d h a c → ∃ x, spVal d a w h = some (x, h) ∧ ∀ st, zrun wd c st = some (x :: st)
  | 0, _, _, _, _, _, _, H => by cases H
  | d + 1, h, a, c, w, wd, D, H => by
    rcases H with ⟨V, k, e1, e2, e3, e4⟩ | ⟨V, k, e1, e2, e3, e4⟩ | ⟨V, a1, a2, c1, c2, s, e1, e2, e3, e4, e5, e6, e7⟩
    · refine ⟨(Int32.ofNat k).toInt64, ?_, fun st => ?_⟩
      · have hr : spVal (d + 1) a w h = spX10_of a w h := spVal_10 e1
        rw [hr]
        unfold spX10_of
        rw [hf_gi_eq e1, Option.bind_some, e2]
      · rw [e4]
        unfold zrun
        rw [if_pos (by omega), show 16 * k / 16 = k by omega]
        rfl
    · refine ⟨wd k, ?_, fun st => ?_⟩
      · have hr : spVal (d + 1) a w h = spX11_of a w h := spVal_11 e1
        rw [hr]
        unfold spX11_of
        rw [hf_gi_eq e1, Option.bind_some, e2, D.al e3, Option.bind_some]
      · rw [e4]
        unfold zrun
        rw [if_neg (by omega), if_pos (by omega), show (1 + 16 * k) / 16 = k by omega]
        rfl
    · obtain ⟨x, x1, x2⟩ := x_val d h a1 c1 w wd D e4
      obtain ⟨y, y1, y2⟩ := x_val d h a2 c2 w wd D e5
      have hr : spVal (d + 1) a w h = spX12_of (spVal d) a w h := spVal_12 e1
      refine ⟨zone s x y, ?_, fun st => ?_⟩
      · rw [hr]
        unfold spX12_of
        simp only [hf_ga_eq e1, e2, e3, Option.bind_some, x1, y1, hf_b2_some, hf_gi_eq e1]
        rcases e7 with ⟨g1, g2⟩ | ⟨g1, g2⟩ | ⟨g1, g2⟩ | ⟨g1, g2⟩ | ⟨g1, g2⟩
        · rw [g1, g2, if_pos rfl, zone2]
        · rw [g1, g2, if_neg (by decide), if_pos rfl, zone3]
        · rw [g1, g2, if_neg (by decide), if_neg (by decide), if_pos rfl, zone4]
        · have := zone5 x y
          by_cases e : y = 0
          · rw [if_pos ((lg_cmp_eq _ _).mpr e)] at this
            rw [g1, g2, if_neg (by decide), if_neg (by decide), if_neg (by decide), if_pos ((lg_cmp_eq _ _).mpr e), Option.some.inj this]
          · rw [if_neg (fun z => e ((lg_cmp_eq _ _).mp z)), if_neg e] at this
            rw [g1, g2, if_neg (by decide), if_neg (by decide), if_neg (by decide), if_neg (fun z => e ((lg_cmp_eq _ _).mp z)), if_pos rfl, if_neg e, Option.some.inj this]
        · have := zone14 x y
          by_cases e : y = 0
          · rw [if_pos ((lg_cmp_eq _ _).mpr e)] at this
            rw [g1, g2, if_neg (by decide), if_neg (by decide), if_neg (by decide), if_pos ((lg_cmp_eq _ _).mpr e), Option.some.inj this]
          · rw [if_neg (fun z => e ((lg_cmp_eq _ _).mp z)), if_neg e] at this
            rw [g1, g2, if_neg (by decide), if_neg (by decide), if_neg (by decide), if_neg (fun z => e ((lg_cmp_eq _ _).mp z)), if_neg (by decide), if_neg e, Option.some.inj this]
      · rw [e6]
        exact zrun_bin wd x2 y2 (by rcases e7 with ⟨_, g⟩ | ⟨_, g⟩ | ⟨_, g⟩ | ⟨_, g⟩ | ⟨_, g⟩ <;> omega) (by rcases e7 with ⟨_, g⟩ | ⟨_, g⟩ | ⟨_, g⟩ | ⟨_, g⟩ | ⟨_, g⟩ <;> omega) (by rcases e7 with ⟨_, g⟩ | ⟨_, g⟩ | ⟨_, g⟩ | ⟨_, g⟩ | ⟨_, g⟩ <;> omega) st
def hf_Cnd : Nat → hf_H → Nat → List Nat → Prop
  | 0 => fun _ _ _ => False
  | d + 1 => fun h a c => (∃ (V : hf_V) (a1 : Nat) (c1 : List Nat), hf_ob 0 15 h a = some V ∧ V.2.2.1 0 = some a1 ∧ hf_Cnd d h a1 c1 ∧ c = c1 ++ [11]) ∨ (∃ (V : hf_V) (a1 a2 : Nat) (c1 c2 : List Nat) (s : Nat), hf_ob 0 16 h a = some V ∧ V.2.2.1 0 = some a1 ∧ V.2.2.1 1 = some a2 ∧ hf_Val 64 h a1 c1 ∧ hf_Val 64 h a2 c2 ∧ c = c1 ++ c2 ++ [s] ∧ ((V.1 2 = 60 ∧ V.1 3 = 0 ∧ s = 6) ∨ (V.1 2 = 60 ∧ V.1 3 = 1 ∧ s = 7) ∨ (V.1 2 = 61 ∧ V.1 3 = 0 ∧ s = 8) ∨ (V.1 2 = 62 ∧ V.1 3 = 1 ∧ s = 9) ∨ (V.1 2 = 62 ∧ V.1 3 = 0 ∧ s = 10))) ∨ (∃ (V : hf_V) (a1 a2 : Nat) (c1 c2 : List Nat) (s : Nat), hf_ob 0 17 h a = some V ∧ V.2.2.1 0 = some a1 ∧ V.2.2.1 1 = some a2 ∧ hf_Cnd d h a1 c1 ∧ hf_Cnd d h a2 c2 ∧ c = c1 ++ c2 ++ [s] ∧ ((V.1 2 = 0 ∧ s = 12) ∨ (V.1 2 = 1 ∧ s = 13)))
theorem hf_Cnd.mono : ∀ (d e : Nat) (h : hf_H) (a : Nat) (c : List Nat), d ≤ e → hf_Cnd d h a c → hf_Cnd e h a c
  | 0, _, _, _, _, _, H => by cases H
  | d + 1, 0, _, _, _, hd, _ => by omega
  | d + 1, e + 1, h, a, c, hd, H => by
    rcases H with ⟨V, a1, c1, e1, e2, e3, e4⟩ | H | ⟨V, a1, a2, c1, c2, s, e1, e2, e3, e4, e5, e6, e7⟩
    · exact Or.inl ⟨V, a1, c1, e1, e2, hf_Cnd.mono d e h a1 c1 (by omega) e3, e4⟩
    · exact Or.inr (Or.inl H)
    · exact Or.inr (Or.inr ⟨V, a1, a2, c1, c2, s, e1, e2, e3, hf_Cnd.mono d e h a1 c1 (by omega) e4, hf_Cnd.mono d e h a2 c2 (by omega) e5, e6, e7⟩)
def zb64 (b : Bool) : Int64 := if b then 1 else 0
def zb32 (b : Bool) : Int32 := if b then 1 else 0
theorem x_cnd : ∀ (d : Nat) (h : hf_H) (a : Nat) (c : List Nat) (w : Nat) (wd : Nat → Int64), hf_wd h w wd → hf_Cnd d h a c → ∃ b : Bool, spCnd d a w h = some (zb32 b, h) ∧ ∀ st, zrun wd c st = some (zb64 b :: st)
  | 0, _, _, _, _, _, _, H => by cases H
  | d + 1, h, a, c, w, wd, D, H => by
    rcases H with ⟨V, a1, c1, e1, e2, e3, e4⟩ | ⟨V, a1, a2, c1, c2, s, e1, e2, e3, e4, e5, e6, e7⟩ | ⟨V, a1, a2, c1, c2, s, e1, e2, e3, e4, e5, e6, e7⟩
    · obtain ⟨b, b1, b2⟩ := x_cnd d h a1 c1 w wd D e3
      have hr : spCnd (d + 1) a w h = spX15_is (spCnd d) a w h := spCnd_15 e1
      refine ⟨!b, ?_, fun st => ?_⟩
      · rw [hr]
        unfold spX15_is
        simp only [hf_ga_eq e1, e2, Option.bind_some, b1, hf_b2_some]
        cases b <;> rfl
      · rw [e4, zrun_app, b2, Option.bind_some]
        unfold zrun
        rw [if_neg (by decide), if_neg (by decide), if_pos (by decide)]
        cases b <;> rfl
    · obtain ⟨x, x1, x2⟩ := x_val 64 h a1 c1 w wd D e4
      obtain ⟨y, y1, y2⟩ := x_val 64 h a2 c2 w wd D e5
      have hr : spCnd (d + 1) a w h = spX16_is (spVal 64) a w h := spCnd_16 e1
      have key : ∀ (b : Bool), zone s x y = zb64 b → spX16_is (spVal 64) a w h = some (zb32 b, h) → ∃ b : Bool, spCnd (d + 1) a w h = some (zb32 b, h) ∧ ∀ st, zrun wd c st = some (zb64 b :: st) := by
        intro b h1 h2
        refine ⟨b, hr.trans h2, fun st => ?_⟩
        rw [e6, ← h1]
        exact zrun_bin wd x2 y2 (by rcases e7 with ⟨_, _, g⟩ | ⟨_, _, g⟩ | ⟨_, _, g⟩ | ⟨_, _, g⟩ | ⟨_, _, g⟩ <;> omega) (by rcases e7 with ⟨_, _, g⟩ | ⟨_, _, g⟩ | ⟨_, _, g⟩ | ⟨_, _, g⟩ | ⟨_, _, g⟩ <;> omega) (by rcases e7 with ⟨_, _, g⟩ | ⟨_, _, g⟩ | ⟨_, _, g⟩ | ⟨_, _, g⟩ | ⟨_, _, g⟩ <;> omega) st
      have hsp : spX16_is (spVal 64) a w h = if x = y then (if V.1 2 = 61 then some (1, h) else if V.1 3 = 0 then some (0, h) else some (1, h)) else (if V.1 2 = 60 then (if x < y then some (1, h) else ndX16_is_66 a x y h) else ndX16_is_66 a x y h) := by
        unfold spX16_is
        simp only [hf_ga_eq e1, e2, e3, Option.bind_some, x1, y1, hf_b2_some, hf_gi_eq e1, lg_cmp_eq, lg_cmp_lt]
      have hnd : ndX16_is_66 a x y h = if V.1 2 = 62 then (if x ≤ y then some (0, h) else some (1, h)) else some (0, h) := by
        unfold ndX16_is_66
        simp only [hf_gi_eq e1, Option.bind_some, lg_cmp_le]
      rw [hnd] at hsp
      have l1 : x < y → ¬ x = y := fun z e => by rw [e] at z; exact Int64.lt_irrefl z
      have l2 : y < x → ¬ x = y := fun z e => by rw [e] at z; exact Int64.lt_irrefl z
      rcases e7 with ⟨g1, g2, g3⟩ | ⟨g1, g2, g3⟩ | ⟨g1, g2, g3⟩ | ⟨g1, g2, g3⟩ | ⟨g1, g2, g3⟩
      · refine key (decide (x < y)) ?_ ?_
        · rw [g3, zone6]; by_cases e : x < y <;> simp [e, zb64]
        · rw [hsp, g1, g2]
          by_cases e : x = y
          · subst e; simp [zb32, Int64.lt_irrefl]
          · by_cases e9 : x < y <;> simp [e, e9, zb32]
      · refine key (decide (¬ y < x)) ?_ ?_
        · rw [g3, zone7]; by_cases e : y < x <;> simp [e, zb64]
        · rw [hsp, g1, g2]
          by_cases e : x = y
          · subst e; simp [zb32, Int64.lt_irrefl]
          · by_cases e9 : x < y
            · have : ¬ y < x := Int64.not_lt.mpr (Int64.le_of_lt e9)
              simp [e, e9, this, zb32]
            · have : y < x := Int64.lt_of_le_of_ne (Int64.not_lt.mp e9) (fun z => e z.symm)
              simp [e, e9, this, zb32]
      · refine key (decide (x = y)) ?_ ?_
        · rw [g3, zone8]; by_cases e : x = y <;> simp [e, zb64]
        · rw [hsp, g1, g2]
          by_cases e : x = y <;> simp [e, zb32]
      · refine key (decide (¬ x < y)) ?_ ?_
        · rw [g3, zone9]; by_cases e : x < y <;> simp [e, zb64]
        · rw [hsp, g1, g2]
          by_cases e : x = y
          · subst e; simp [zb32, Int64.lt_irrefl]
          · by_cases e9 : x < y
            · have : x ≤ y := Int64.le_of_lt e9
              simp [e, e9, this, zb32]
            · have : ¬ x ≤ y := fun z => e9 (Int64.lt_of_le_of_ne z e)
              simp [e, e9, this, zb32]
      · refine key (decide (y < x)) ?_ ?_
        · rw [g3, zone10]; by_cases e : y < x <;> simp [e, zb64]
        · rw [hsp, g1, g2]
          by_cases e : x = y
          · subst e; simp [zb32, Int64.lt_irrefl]
          · by_cases e9 : y < x
            · have : ¬ x ≤ y := Int64.not_le.mpr e9
              simp [e, e9, this, zb32]
            · have : x ≤ y := Int64.not_lt.mp e9
              simp [e, e9, this, zb32]
    · obtain ⟨b, b1, b2⟩ := x_cnd d h a1 c1 w wd D e4
      obtain ⟨b', b3, b4⟩ := x_cnd d h a2 c2 w wd D e5
      have hr : spCnd (d + 1) a w h = spX17_is (spCnd d) a w h := spCnd_17 e1
      rcases e7 with ⟨g1, g2⟩ | ⟨g1, g2⟩
      · refine ⟨b && b', ?_, fun st => ?_⟩
        · rw [hr]
          unfold spX17_is
          simp only [hf_ga_eq e1, e2, e3, Option.bind_some, b1, b3, hf_b2_some, hf_gi_eq e1, g1]
          cases b <;> cases b' <;> rfl
        · rw [e6, g2, zrun_bin wd b2 b4 (by decide) (by decide) (by decide)]
          cases b <;> cases b' <;> rfl
      · refine ⟨b || b', ?_, fun st => ?_⟩
        · rw [hr]
          unfold spX17_is
          simp only [hf_ga_eq e1, e2, e3, Option.bind_some, b1, b3, hf_b2_some, hf_gi_eq e1, g1]
          cases b <;> cases b' <;> rfl
        · rw [e6, g2, zrun_bin wd b2 b4 (by decide) (by decide) (by decide)]
          cases b <;> cases b' <;> rfl
