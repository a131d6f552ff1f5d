set_option maxRecDepth 100000
set_option maxHeartbeats 1000000
/-! texts: a test's states -/
theorem hf_Cnd.blank {h : hf_H} {x ci : Nat} (e : hf_ob 0 ci h x = some hf_V0) (hc : 12 ≤ ci) (Y : hf_C) : ∀ (d a : Nat) (c : List Nat), hf_Cnd d h a c → hf_Cnd d (hf_up h x Y) a c
  | 0, _, _, H => by cases H
  | d + 1, a, c, H => by
    have hne : ∀ (ci' : Nat) (V : hf_V) (a1 : Nat), hf_ob 0 ci' h a = some V → V.2.2.1 0 = some a1 → a ≠ x := fun ci' V a1 e1 e2 z => by
      subst z
      have h1 := (hf_ob_spec e1).symm.trans (hf_ob_spec e)
      cases h1
      cases e2
    rcases H with ⟨V, a1, c1, e1, e2, e3, e4⟩ | ⟨V, a1, a2, c1, c2, s, e1, e2, e3, e4, e5, e6⟩ | ⟨V, a1, a2, c1, c2, s, e1, e2, e3, e4, e5, e6⟩
    · exact Or.inl ⟨V, a1, c1, by rw [hf_ob_ne (hne _ _ _ e1 e2)]; exact e1, e2, hf_Cnd.blank e hc Y d a1 c1 e3, e4⟩
    · exact Or.inr (Or.inl ⟨V, a1, a2, c1, c2, s, by rw [hf_ob_ne (hne _ _ _ e1 e2)]; exact e1, e2, e3, hf_Val.blank e hc Y _ _ _ e4, hf_Val.blank e hc Y _ _ _ e5, e6⟩)
    · exact Or.inr (Or.inr ⟨V, a1, a2, c1, c2, s, by rw [hf_ob_ne (hne _ _ _ e1 e2)]; exact e1, e2, e3, hf_Cnd.blank e hc Y d a1 c1 e4, hf_Cnd.blank e hc Y d a2 c2 e5, e6⟩)
/-- how many of the open are put later -/
def zpend : List Nat → Nat
  | [] => 0
  | x :: r => (if x = 91 then 0 else 1) + zpend r
theorem zpend_app : ∀ a b, zpend (a ++ b) = zpend a + zpend b
  | [], b => by simp [zpend]
  | x :: r, b => by
    show (if x = 91 then 0 else 1) + zpend (r ++ b) = (if x = 91 then 0 else 1) + zpend r + zpend b
    rw [zpend_app r b]
    omega
def hf_wt0 (A B : hf_V) (t L : Nat) : Prop := (∀ j, j ≠ 3 → j ≠ 4 → j ≠ 15 → B.2.2.2.1 j = A.2.2.2.1 j) ∧ (∀ j, (j < 400 * t + L ∨ 400 * t + 400 ≤ j) → B.2.2.2.1 3 j = A.2.2.2.1 3 j) ∧ ∀ j, j ≠ t → B.2.2.2.1 4 j = A.2.2.2.1 4 j
def hf_wq (A B : hf_V) (t L : Nat) : Prop := (∀ k, k ≠ 8 → k ≠ 10 → k ≠ 12 → k ≠ 13 → k ≠ 16 → B.1 k = A.1 k) ∧ hf_wt0 A B t L
def hf_wf9 (A B : hf_V) (t L : Nat) : Prop := (∀ k, k ≠ 8 → k ≠ 9 → k ≠ 10 → k ≠ 12 → k ≠ 13 → k ≠ 16 → B.1 k = A.1 k) ∧ hf_wt0 A B t L
def hf_pw (A B : hf_V) : Prop := B.2 = A.2 ∧ ∀ k, k ≠ 1 → k ≠ 2 → k ≠ 3 → B.1 k = A.1 k
section ZP
variable {A B C : hf_V} {t L L' : Nat}
theorem hf_wt0.trans (H : hf_wt0 A B t L) (K : hf_wt0 B C t L') (h : L ≤ L') : hf_wt0 A C t L := ⟨fun j a b c => (K.1 j a b c).trans (H.1 j a b c), fun j a => (K.2.1 j (by omega)).trans (H.2.1 j a), fun j a => (K.2.2 j a).trans (H.2.2 j a)⟩
theorem hf_vt.wt (H : hf_vt A B t L) : hf_wt0 A B t L := ⟨fun j a b _ => H.1 j a b, H.2.1, H.2.2⟩
theorem hf_wq.rfl_ (A : hf_V) (t L : Nat) : hf_wq A A t L := ⟨fun _ _ _ _ _ _ => rfl, (hf_vt.rfl_ A t L).wt⟩
theorem hf_vq.wq (H : hf_vq A B t L) : hf_wq A B t L := ⟨fun k a b c _ _ => H.1 k a b c, H.2.wt⟩
theorem hf_wq.trans (H : hf_wq A B t L) (K : hf_wq B C t L') (h : L ≤ L') : hf_wq A C t L := ⟨fun k a b c d e => (K.1 k a b c d e).trans (H.1 k a b c d e), H.2.trans K.2 h⟩
theorem hf_wq.f9 (H : hf_wq A B t L) (K : hf_wf9 B C t L') (h : L ≤ L') : hf_wf9 A C t L := ⟨fun k a b c d e f => (K.1 k a b c d e f).trans (H.1 k a c d e f), H.2.trans K.2 h⟩
theorem hf_vf.w9 (H : hf_vf A B t L) : hf_wf9 A B t L := ⟨fun k a b c d _ _ => H.1 k a b c d, H.2.wt⟩
theorem hf_wq.fail (H : hf_wq A B t L) (x : Int32) : hf_wf9 A (hf_ui B 9 x) t L := ⟨fun j a b c d e f => by rw [hf_ui_ne _ b]; exact H.1 j a c d e f, H.2⟩
theorem hf_wq.ui (H : hf_wq A B t L) {k : Nat} (hk : k = 8 ∨ k = 10 ∨ k = 12 ∨ k = 13 ∨ k = 16) (x : Int32) : hf_wq A (hf_ui B k x) t L := ⟨fun j a b c d e => by rw [hf_ui_ne _ (by omega)]; exact H.1 j a b c d e, H.2⟩
theorem hf_wq.ua15 (H : hf_wq A B t L) (i : Nat) (x : Int32) : hf_wq A (hf_ua B 15 i x) t L := ⟨H.1, fun j a b c => by rw [hf_ua_ne _ c]; exact H.2.1 j a b c, fun j a => by rw [hf_ua_ne _ (by decide)]; exact H.2.2.1 j a, fun j a => by rw [hf_ua_ne _ (by decide)]; exact H.2.2.2 j a⟩
theorem hf_pw.trans (H : hf_pw A B) (K : hf_pw B C) : hf_pw A C := ⟨K.1.trans H.1, fun k a b c => (K.2 k a b c).trans (H.2 k a b c)⟩
theorem hf_pw.rfl_ (A : hf_V) : hf_pw A A := ⟨rfl, fun _ _ _ _ => rfl⟩
theorem hf_pz.pw (H : hf_pz A B) : hf_pw A B := ⟨H.1, fun k a _ c => H.2 k a c⟩
theorem hf_pw.ui (H : hf_pw A B) {k : Nat} (hk : k = 1 ∨ k = 2 ∨ k = 3) (x : Int32) : hf_pw A (hf_ui B k x) := ⟨H.1, fun j a b c => by rw [hf_ui_ne _ (by omega)]; exact H.2 j a b c⟩
theorem zcds.w0 {V V' : hf_V} {b : Nat} {c : List Nat} (H : zcds V t b c) (K : hf_wt0 V V' t L) (h : b + c.length ≤ L) : zcds V' t b c := fun k hk => by
  rw [K.2.1 _ (by omega)]
  exact H k hk
end ZP
/-- the model, in a test: what follows closes; the head of settles(3); the head of a fact -/
def zKR (n : Nat) (V10 : hf_V) : Option (Int32 × hf_V) :=
  hf_b2 (spX4_isWord (6385252 : Int64) V10) fun x12 V11 =>
  if x12 = 0 then (hf_b2 (spX4_isWord (28530 : Int64) V11) fun x14 V13 =>
  if x14 = 0 then (ndX4_tested_54 (lpX4_tested_12 n) (0 : Int32) V13) else
  ndX4_tested_49 (lpX4_tested_12 n) V13) else
  ndX4_tested_49 (lpX4_tested_12 n) V11
def zKB (n c s : Nat) (V : hf_V) : Option (Int32 × hf_V) := ((lpX4_settles_0 s (3 : Int32) V).bind fun V1 => lpX4_closes_5 c V1).bind fun V10 => zKR n V10
def zKA (n f : Nat) (l : Int32) (V : hf_V) : Option (Int32 × hf_V) := hf_b2 (lpX4_fact_2 f l V) fun x9 V8 => if x9 = 0 then some ((0 : Int32), V8) else (spX4_closes V8).bind fun V10 => zKR n V10
theorem zKA_of (n : Nat) (V : hf_V) : lpX4_tested_12 (n + 1) (1 : Int32) V = zKA n hf_N (1 : Int32) V := rfl
theorem zKA_B (n : Nat) (V : hf_V) : ((spX4_closes V).bind fun V10 => zKR n V10) = zKB n hf_N hf_N V := rfl
set_option maxRecDepth 100000
set_option maxHeartbeats 1000000
/-! texts: the model's moves behind a fact -/
def zqq (q : List Nat) : Prop := ∀ x ∈ q, x = 91 ∨ x = 11 ∨ x = 12 ∨ x = 13
/-- what settles(l) leaves -/
def zstp (l : Nat) (q : List Nat) : Prop := q = [] ∨ zstr (q.getD (q.length - 1) 0) < l
theorem zlast (q : List Nat) (x : Nat) : (q ++ [x]).getD ((q ++ [x]).length - 1) 0 = x := by
  simp
theorem zstp_app {l x : Nat} (q : List Nat) (h : zstr x < l) : zstp l (q ++ [x]) := Or.inr (by rw [zlast]; exact h)
theorem zqq.get {q : List Nat} (H : zqq q) (k : Nat) (hk : k < q.length) : q.getD k 0 < 1000 := by
  have h1 : q.getD k 0 ∈ q := by
    rw [List.getD_eq_getElem?_getD, List.getElem?_eq_getElem hk]
    exact List.getElem_mem hk
  rcases H _ h1 with h | h | h | h <;> omega
theorem zqq.left {q r : List Nat} (H : zqq (q ++ r)) : zqq q := fun x hx => H x (List.mem_append_left _ hx)
theorem zqq.app {q r : List Nat} (H : zqq q) (K : zqq r) : zqq (q ++ r) := fun x hx => by
  rcases List.mem_append.mp hx with h | h
  · exact H x h
  · exact K x h
theorem zqq.one {x : Nat} (h : x = 91 ∨ x = 11 ∨ x = 12 ∨ x = 13) : zqq [x] := fun y hy => by
  rw [List.mem_singleton.mp hy]
  exact h
def zok (l : Nat) (rho : List Nat) : Prop := rho.length + l ≤ 3 ∧ ∀ y ∈ rho, (y = 12 ∨ y = 13) ∧ l ≤ zstr y
theorem zok.qq {l : Nat} {r : List Nat} (H : zok l r) : zqq r := fun x hx => by
  rcases (H.2 x hx).1 with h | h
  · exact Or.inr (Or.inr (Or.inl h))
  · exact Or.inr (Or.inr (Or.inr h))
theorem zok.le {l : Nat} {r : List Nat} (H : zok (l + 1) r) : zok l r := ⟨by have := H.1; omega, fun y hy => ⟨(H.2 y hy).1, by have := (H.2 y hy).2; omega⟩⟩
theorem zok.pend {l : Nat} : ∀ {r : List Nat}, (∀ y ∈ r, (y = 12 ∨ y = 13) ∧ l ≤ zstr y) → zpend r = r.length
  | [], _ => rfl
  | x :: r, H => by
    have ih := zok.pend (l := l) (r := r) (fun y hy => H y (List.mem_cons_of_mem _ hy))
    have h := (H x (List.mem_cons_self ..)).1
    show (if x = 91 then 0 else 1) + zpend r = r.length + 1
    rw [if_neg (by omega), ih]
    omega
theorem zok.lv {l : Nat} : ∀ {r : List Nat}, (∀ y ∈ r, (y = 12 ∨ y = 13) ∧ l ≤ zstr y) → zlv r = 0
  | [], _ => rfl
  | x :: r, H => by
    have ih := zok.lv (l := l) (r := r) (fun y hy => H y (List.mem_cons_of_mem _ hy))
    have h := (H x (List.mem_cons_self ..)).1
    show (if x % 16 ≤ 1 then 1 else 0) + zlv r = 0
    rw [if_neg (by omega), ih]
theorem zok.nil {r : List Nat} (H : zok 3 r) : r = [] := by
  have := H.1
  cases r with
  | nil => rfl
  | cons x r =>
    have h : (x :: r).length = r.length + 1 := rfl
    omega
theorem zlv_rev : ∀ r, zlv (List.reverse r) = zlv r
  | [] => rfl
  | x :: r => by
    rw [List.reverse_cons, zlv_app, zlv_rev r]
    show zlv r + ((if x % 16 ≤ 1 then 1 else 0) + 0) = (if x % 16 ≤ 1 then 1 else 0) + zlv r
    omega
theorem hf_os.eq {V V' : hf_V} {q : List Nat} (H : hf_os V q) (h1 : V'.1 16 = V.1 16) (h2 : V'.2.2.2.1 15 = V.2.2.2.1 15) : hf_os V' q := ⟨H.1, by rw [h1]; exact H.2.1, fun k hk => by rw [h2]; exact H.2.2 k hk⟩
theorem hf_os.push {V : hf_V} {q : List Nat} (H : hf_os V q) (h : q.length < 399) (x : Nat) : hf_os (hf_ui (hf_ua V 15 q.length (Int32.ofNat x)) 16 (Int32.ofNat (q.length + 1))) (q ++ [x]) := by
  have hl : (q ++ [x]).length = q.length + 1 := by simp
  refine ⟨by omega, by rw [hf_ui_at, hl], fun k hk => ?_⟩
  rw [hl] at hk
  show (hf_ua V 15 q.length (Int32.ofNat x)).2.2.2.1 15 k = _
  rw [hf_ua_at]
  by_cases e : k = q.length
  · rw [if_pos e, e, List.getD_eq_getElem?_getD, List.getElem?_append_right (by omega), Nat.sub_self]
    rfl
  · rw [if_neg e, H.2.2 k (by omega), List.getD_eq_getElem?_getD, List.getD_eq_getElem?_getD, List.getElem?_append_left (by omega)]
section ZM
variable {V : hf_V} {t L : Nat}
theorem m_settleN {q : List Nat} {l d : Nat} (hl : l < 10) (Q : zqq q) (hs : zstp l q) : ∀ (r : List Nat) (V : hf_V) (L n : Nat), (∀ x ∈ r, (x = 12 ∨ x = 13) ∧ l ≤ zstr x) → hf_os V (q ++ r.reverse) → hf_tt V t L → V.1 13 = Int32.ofNat d → L + r.length ≤ 400 → r.length < n → ∃ V', lpX4_settles_0 n (Int32.ofNat l) V = some V' ∧ hf_os V' q ∧ (∀ k, k ≠ 16 → V'.1 k = V.1 k) ∧ hf_vt V V' t L ∧ hf_tt V' t (L + r.length) ∧ zcds V' t L r
  | [], V, L, n, _, O, TT, _, _, hn => by
    cases n with
    | zero => omega
    | succ n =>
      rw [List.reverse_nil, List.append_nil] at O
      exact ⟨V, m_settle0 O (Q.get) hl hs n, O, fun _ _ => rfl, hf_vt.rfl_ V t L, TT, fun k hk => absurd hk (Nat.not_lt_zero _)⟩
  | x :: r, V, L, n, hr, O, TT, hd, hL, hn => by
    have hlen : (x :: r).length = r.length + 1 := rfl
    rw [hlen] at hL hn
    cases n with
    | zero => omega
    | succ n =>
      have O1 : hf_os V ((q ++ r.reverse) ++ [x]) := by
        rw [List.reverse_cons, ← List.append_assoc] at O
        exact O
      obtain ⟨hx, hx2⟩ := hr x (List.mem_cons_self ..)
      have hx11 : x ≠ 11 := by omega
      obtain ⟨V1, s1, s2, s3, s4, s5, s6, s7⟩ := m_settle1 O1 (Or.inr hx) hx2 TT (by omega) hd (fun h => absurd h hx11) n
      rw [if_neg hx11] at s3
      obtain ⟨V2, u1, u2, u3, u4, u5, u6⟩ := m_settleN hl Q hs r V1 (L + 1) n (fun y hy => hr y (List.mem_cons_of_mem _ hy)) s2 s6 s3 (by omega) (by omega)
      refine ⟨V2, s1.trans u1, u2, fun k hk => ?_, s5.trans u4 (by omega), ?_, ?_⟩
      · rw [u3 k hk]
        by_cases e : k = 13
        · rw [e, s3, hd]
        · exact s4 k e hk
      · rw [hlen, show L + (r.length + 1) = L + 1 + r.length by omega]
        exact u5
      · exact zcds.app (c := [x]) (s7.vt u4 (Nat.le_refl _)) u6
theorem m_insideL {q : List Nat} (O : hf_os V q) (Q : zqq q) : ∀ n k fuel, q.length - k = n → k ≤ q.length → n < fuel → lpX4_isInside_2 fuel (Int32.ofNat k) V = some (Int32.ofNat (if 91 ∈ q.drop k then 1 else 0), V)
  | 0, k, fuel, hn, hk, hf => by
    cases fuel with
    | zero => omega
    | succ fuel =>
      have e : k = q.length := by omega
      have h0 : q.drop k = [] := by rw [e, List.drop_length]
      show ndX4_isInside_2 (lpX4_isInside_2 fuel) _ _ = _
      unfold ndX4_isInside_2
      rw [O.2.1, if_pos (z_yle (by omega) (by have := O.1; omega)), h0, if_neg (by simp)]
      rfl
  | n + 1, k, fuel, hn, hk, hf => by
    cases fuel with
    | zero => omega
    | succ fuel =>
      have o1 := O.1
      have hk2 : k < q.length := by omega
      have h0 : q.drop k = q.getD k 0 :: q.drop (k + 1) := by
        rw [List.drop_eq_getElem_cons hk2]
        simp [hk2]
      have hx := Q.get k hk2
      have e91 : (Int32.ofNat (q.getD k 0) = (91 : Int32)) ↔ q.getD k 0 = 91 := z_eq (b := 91) (by omega) (by decide)
      have a1 : Int32.ofNat k + (1 : Int32) = Int32.ofNat (k + 1) := z_add k 1
      show ndX4_isInside_2 (lpX4_isInside_2 fuel) _ _ = _
      unfold ndX4_isInside_2
      rw [O.2.1, if_neg (z_nle hk2 (by omega)), z_ld (by omega) (by omega), Option.bind_some, O.2.2 k hk2, h0]
      by_cases e : q.getD k 0 = 91
      · rw [if_pos (e91.mpr e), e, if_pos (List.mem_cons_self ..)]
        rfl
      · rw [if_neg (fun z => e (e91.mp z)), hf_let_eq, a1, m_insideL O Q n (k + 1) fuel (by omega) (by omega) (by omega)]
        have hiff : (91 ∈ q.getD k 0 :: q.drop (k + 1)) ↔ 91 ∈ q.drop (k + 1) := by
          rw [List.mem_cons]
          exact ⟨fun z => z.resolve_left (fun y => e y.symm), Or.inr⟩
        by_cases e2 : 91 ∈ q.drop (k + 1)
        · rw [if_pos e2, if_pos (hiff.mpr e2)]
        · rw [if_neg e2, if_neg (fun z => e2 (hiff.mp z))]
theorem m_inside {q : List Nat} (O : hf_os V q) (Q : zqq q) : spX4_isInside V = some (Int32.ofNat (if 91 ∈ q then 1 else 0), V) := by
  have := m_insideL O Q q.length 0 hf_N (by omega) (by omega) (by have := O.1; unfold hf_N; omega)
  rw [List.drop_zero] at this
  exact this
end ZM
/-- the model's part of a test's state -/
def zMS (V : hf_V) (B : Nat → Nat) (T a m : Nat) (q : List Nat) (d t L : Nat) : Prop := hf_mt V B T ∧ V.1 8 = Int32.ofNat a ∧ V.1 9 = 0 ∧ V.1 12 = Int32.ofNat m ∧ hf_tt V t L ∧ hf_os V q ∧ V.1 13 = Int32.ofNat d ∧ a ≤ T
theorem hf_mt.wq {V V' : hf_V} {B : Nat → Nat} {T t L : Nat} (H : hf_mt V B T) (K : hf_wq V V' t L) : hf_mt V' B T := ⟨H.1, by rw [K.1 1 (by decide) (by decide) (by decide) (by decide) (by decide)]; exact H.2.1, fun k hk => by rw [K.2.1 0 (by decide) (by decide) (by decide)]; exact H.2.2 k hk⟩
section ZM
variable {V : hf_V} {B : Nat → Nat} {T a m d t L : Nat} {q : List Nat}
theorem zMS.at_ (H : zMS V B T a m q d t L) {a' : Nat} (h : a' ≤ T) : zMS (hf_ui V 8 (Int32.ofNat a')) B T a' m q d t L := by
  obtain ⟨h1, h2, h3, h4, h5, h6, h7, h8⟩ := H
  exact ⟨h1.ui (by decide) _, hf_ui_at _ _ _, by rw [hf_ui_ne _ (by decide)]; exact h3, by rw [hf_ui_ne _ (by decide)]; exact h4, h5.ui (by decide) _, h6.eq (hf_ui_ne _ (by decide) _) rfl, by rw [hf_ui_ne _ (by decide)]; exact h7, h⟩
theorem zKB_0 (H : zMS V B T a m q d t L) (Q : zqq q) (hs : zstp 3 q) (n c s : Nat) : zKB n (c + 1) (s + 1) V = (ndX4_closes_5 (lpX4_closes_5 c) V).bind fun V10 => zKR n V10 := by
  unfold zKB
  have := m_settle0 H.2.2.2.2.2.1 Q.get (show 3 < 10 by decide) hs s
  have h3 : (3 : Int32) = Int32.ofNat 3 := rfl
  rw [h3, this, Option.bind_some]
  rfl
theorem zKB_sk (H : zMS V B T a m q d t L) (Q : zqq q) (hs : zstp 3 q) (n c s : Nat) : zKB n (c + 1) (s + 1) V = zKB n (c + 1) (s + 1) (hf_ui V 8 (Int32.ofNat (zsk B T a))) := by
  have ha := H.2.2.2.2.2.2.2
  have s2 := (zsk_le (B := B) ha).2
  have H1 := H.at_ s2
  have hpp : zsk B T (zsk B T a) = zsk B T a := zsk_idem B T _ a rfl ha
  rw [zKB_0 H Q hs, zKB_0 H1 Q hs]
  have ms1 := m_see H1.1 H1.2.1 s2
  rw [hpp, hf_ui_self H1.2.1] at ms1
  unfold ndX4_closes_5
  rw [m_see H.1 H.2.1 ha, ms1]
/-- a bracket closes -/
theorem m_close {rho : List Nat} (H : zMS V B T a m (q ++ [91] ++ rho) d t L) (Q : zqq q) (hr : zok 1 rho) (hp : zsk B T a < T) (h93 : B (zsk B T a) = 93) (hd : 1 ≤ d) (hL : L + rho.length ≤ 400) (n c s : Nat) : ∃ V', zKB n (c + 1) (s + 1) V = zKB n c hf_N V' ∧ zMS V' B T (zsk B T a + 1) m q (d - 1) t (L + rho.length) ∧ hf_wq V V' t L ∧ zcds V' t L rho.reverse := by
  have ha := H.2.2.2.2.2.2.2
  obtain ⟨p, hpe⟩ : ∃ p, p = zsk B T a := ⟨_, rfl⟩
  rw [← hpe] at hp h93 ⊢
  have hpp : zsk B T p = p := by rw [hpe]; exact zsk_idem B T _ a rfl ha
  have Q91 : zqq (q ++ [91]) := Q.app (zqq.one (Or.inl rfl))
  have QQ : zqq (q ++ [91] ++ rho) := Q91.app hr.qq
  have hst : zstp 3 (q ++ [91] ++ rho) := by
    rcases List.eq_nil_or_concat rho with h | ⟨r, x, h⟩
    · rw [h, List.append_nil]
      exact zstp_app q (by decide)
    · rw [h, List.concat_eq_append, ← List.append_assoc]
      refine zstp_app _ ?_
      have h1 := (hr.2 x (by rw [h, List.concat_eq_append]; exact List.mem_append_right _ (List.mem_singleton.mpr rfl))).1
      rcases h1 with rfl | rfl <;> decide
  have H1 := H.at_ (a' := p) (by omega)
  rw [zKB_0 H QQ hst]
  have ms := m_see H.1 H.2.1 ha
  rw [← hpe] at ms
  obtain ⟨V1, hV1⟩ : ∃ x, x = hf_ui V 8 (Int32.ofNat p) := ⟨_, rfl⟩
  rw [← hV1] at ms H1
  obtain ⟨i1, i2, i3, i4, i5, i6, i7, i8⟩ := H1
  have hz : zch B T p = (93 : Int32) := by
    unfold zch
    rw [if_pos hp, h93]
    rfl
  have hin := m_inside i6 QQ
  rw [if_pos (List.mem_append_left _ (List.mem_append_right _ (List.mem_singleton.mpr rfl)))] at hin
  have hlen : rho.reverse.length = rho.length := List.length_reverse
  have o1 := i6.1
  obtain ⟨V5, u1, u2, u3, u4, u5, u6⟩ := m_settleN (l := 1) (by decide) Q91 (zstp_app q (by decide)) rho.reverse V1 L hf_N (fun x hx => hr.2 x (List.mem_reverse.mp hx)) (by rw [List.reverse_reverse]; exact i6) i5 i7 (by omega) (by rw [List.length_append] at o1; rw [hlen]; unfold hf_N; omega)
  have u1' : spX4_settles (1 : Int32) V1 = some V5 := u1
  have v16 : V5.1 16 = Int32.ofNat (q.length + 1) := by rw [u2.2.1, List.length_append]; rfl
  have a16 : Int32.ofNat (q.length + 1) - (1 : Int32) = Int32.ofNat q.length := z_sub (a := q.length + 1) (b := 1) (by omega)
  have a13 : Int32.ofNat d - (1 : Int32) = Int32.ofNat (d - 1) := z_sub (b := 1) hd
  have a8 : Int32.ofNat p + (1 : Int32) = Int32.ofNat (p + 1) := z_add p 1
  have v13 : V5.1 13 = Int32.ofNat d := by rw [u3 13 (by decide)]; exact i7
  have v8 : V5.1 8 = Int32.ofNat p := by rw [u3 8 (by decide)]; exact i2
  obtain ⟨V6, hV6⟩ : ∃ x, x = hf_ui V5 16 (Int32.ofNat q.length) := ⟨_, rfl⟩
  obtain ⟨V7, hV7⟩ : ∃ x, x = hf_ui V6 13 (Int32.ofNat (d - 1)) := ⟨_, rfl⟩
  obtain ⟨V8, hV8⟩ : ∃ x, x = hf_ui V7 8 (Int32.ofNat (p + 1)) := ⟨_, rfl⟩
  have w13 : V6.1 13 = Int32.ofNat d := by rw [hV6, hf_ui_ne _ (by decide), v13]
  have w8 : V7.1 8 = Int32.ofNat p := by rw [hV7, hf_ui_ne _ (by decide), hV6, hf_ui_ne _ (by decide), v8]
  have W5 : hf_wq V V5 t L := by
    refine ((hf_wq.rfl_ V t L).ui (Or.inl rfl) (Int32.ofNat p)).trans (L' := L) ?_ (Nat.le_refl _)
    rw [← hV1]
    exact ⟨fun k _ _ _ _ h => u3 k h, u4.wt⟩
  have W8 : hf_wq V V8 t L := by
    rw [hV8, hV7, hV6]
    exact ((W5.ui (by omega) _).ui (by omega) _).ui (by omega) _
  refine ⟨V8, ?_, ⟨H.1.wq W8, by rw [hV8, hf_ui_at], ?_, ?_, ?_, ?_, ?_, by omega⟩, W8, ?_⟩
  · unfold ndX4_closes_5
    rw [ms, hf_b2_some, if_pos hz, hin, hf_b2_some, if_neg (by decide), u1', Option.bind_some, v16, a16, hf_let_eq, ← hV6, w13, a13, hf_let_eq, ← hV7, w8, a8, hf_let_eq, ← hV8]
    rfl
  · rw [W8.1 9 (by decide) (by decide) (by decide) (by decide) (by decide)]
    exact H.2.2.1
  · rw [hV8, hf_ui_ne _ (by decide), hV7, hf_ui_ne _ (by decide), hV6, hf_ui_ne _ (by decide), u3 12 (by decide)]
    exact i4
  · rw [hlen] at u5
    rw [hV8, hV7, hV6]
    exact ((u5.ui (by decide) _).ui (by decide) _).ui (by decide) _
  · have O6 : hf_os V6 q := by
      refine ⟨by have := u2.1; rw [List.length_append] at this; omega, by rw [hV6, hf_ui_at], fun k hk => ?_⟩
      have h9 := u2.2.2 k (by rw [List.length_append]; omega)
      rw [hV6]
      show V5.2.2.2.1 15 k = _
      rw [h9, List.getD_eq_getElem?_getD, List.getElem?_append_left hk, ← List.getD_eq_getElem?_getD]
    rw [hV8, hV7]
    exact (O6.eq (V' := hf_ui V6 13 (Int32.ofNat (d - 1))) (hf_ui_ne _ (by decide) _) rfl).eq (hf_ui_ne _ (by decide) _) rfl
  · rw [hV8, hf_ui_ne _ (by decide), hV7, hf_ui_at]
  · rw [hV8, hV7, hV6]
    exact u6
end ZM
set_option maxRecDepth 100000
set_option maxHeartbeats 1000000
/-! texts: the model's moves behind a fact, on -/
def zno (B : Nat → Nat) (T l a : Nat) : Prop := (l ≤ 2 → ¬ zis B T a (zw 14) ∧ zsk B T a = a) ∧ (l ≤ 1 → ¬ zis B T a (zw 15))
theorem zstp.le {l k : Nat} {q : List Nat} (H : zstp l q) (h : l ≤ k) : zstp k q := by
  rcases H with H | H
  · exact Or.inl H
  · exact Or.inr (by omega)
theorem zok.stp {l k : Nat} {q rho : List Nat} (H : zok l rho) (hs : zstp k q) (h : 3 ≤ k) : zstp k (q ++ rho) := by
  rcases List.eq_nil_or_concat rho with e | ⟨r, x, e⟩
  · rw [e, List.append_nil]
    exact hs
  · rw [e, List.concat_eq_append, ← List.append_assoc]
    refine zstp_app _ ?_
    have h1 := (H.2 x (by rw [e, List.concat_eq_append]; exact List.mem_append_right _ (List.mem_singleton.mpr rfl))).1
    rcases h1 with rfl | rfl
    · exact Nat.lt_of_lt_of_le (by decide) h
    · exact Nat.lt_of_lt_of_le (by decide) h
/-- a word of at least two letters has been passed -/
theorem zis.we {B : Nat → Nat} {T a : Nat} {W : List Nat} (H : zis B T a W) (hW : zwok W) (ha : a ≤ T) : zwe B T (zsk B T a) = zsk B T a + W.length ∧ zsk B T a + W.length ≤ T := by
  have s2 := (zsk_le (B := B) ha).2
  have h1 := zwe_le (B := B) s2
  have h2 := (zis.p H).1
  have h3 := hW.1
  omega
theorem zz00 : Int32.ofNat 0 = 0 := rfl
theorem zz10 : ¬ Int32.ofNat 1 = 0 := by decide
section ZM
variable {V : hf_V} {B : Nat → Nat} {T a m d t L : Nat} {q : List Nat}
theorem zis_no {B : Nat → Nat} {T a i j : Nat} (hi : i < 27) (hj : j < 27) (h : zis B T a (zw i)) (hne : zw i ≠ zw j) : ¬ zis B T a (zw j) := fun z => by
  refine hne (List.ext_getElem ((zis.p h).1.symm.trans (zis.p z).1) (fun k h1 h2 => ?_))
  have e1 := (zis.p h).2 k h1
  have e2 := (zis.p z).2 k h2
  rw [e1, List.getD_eq_getElem?_getD, List.getD_eq_getElem?_getD, List.getElem?_eq_getElem h1, List.getElem?_eq_getElem h2] at e2
  exact e2
/-- 'and' or 'or' joins -/
theorem m_joins {rho : List Nat} {l x i : Nat} (hx : (x = 12 ∧ l = 2 ∧ i = 14) ∨ (x = 13 ∧ l = 1 ∧ i = 15)) (H : zMS V B T a m (q ++ rho) d t L) (Q : zqq q) (hs : zstp l q) (hr : zok l rho) (hz : zis B T a (zw i)) (hq : q.length < 300) (hL : L + rho.length ≤ 400) (n c s : Nat) : ∃ V', zKB (n + 1) (c + 1) (s + 1) V = zKA n hf_N 1 V' ∧ zMS V' B T (zwe B T (zsk B T a)) m (q ++ [x]) d t (L + rho.length) ∧ hf_wq V V' t L ∧ zcds V' t L rho.reverse := by
  have ha := H.2.2.2.2.2.2.2
  have hi27 : i < 27 := by omega
  obtain ⟨p, hpe⟩ : ∃ p, p = zsk B T a := ⟨_, rfl⟩
  have hp2 := (zsk_le (B := B) ha).2
  have hpp : zsk B T (zsk B T a) = zsk B T a := zsk_idem B T _ a rfl ha
  have hzp : zis B T (zsk B T a) (zw i) := (zis_sk ha _).mpr hz
  have hwok := zw_ok i hi27
  have hwe := zis.we hz hwok ha
  have QQ : zqq (q ++ rho) := Q.app hr.qq
  have hst : zstp 3 (q ++ rho) := hr.stp (hs.le (by omega)) (Nat.le_refl _)
  rw [zKB_0 H QQ hst]
  have H1 := H.at_ hp2
  have ms := m_see H.1 H.2.1 ha
  have mi : ∀ j, j < 27 → spX4_isWord (zwI j) (hf_ui V 8 (Int32.ofNat (zsk B T a))) = some (Int32.ofNat (if zis B T (zsk B T a) (zw j) then 1 else 0), hf_ui V 8 (Int32.ofNat (zsk B T a))) := fun j hj => by
    have := m_isW H1.1 H1.2.1 hp2 hj
    rw [hpp, hf_ui_self H1.2.1] at this
    exact this
  obtain ⟨V1, hV1⟩ : ∃ x, x = hf_ui V 8 (Int32.ofNat (zsk B T a)) := ⟨_, rfl⟩
  rw [← hV1] at ms mi H1
  rw [← hpe] at hp2 hpp hzp hwe ms mi H1 ⊢
  obtain ⟨i1, i2, i3, i4, i5, i6, i7, i8⟩ := H1
  -- no bracket here
  have hne93 : zch B T p ≠ (93 : Int32) := fun z => by
    have h0 := (zis.p hzp).2 0 hwok.1
    rw [hpp, Nat.add_zero] at h0
    have h1 := hwok.2.2 0 hwok.1
    have hpT : p < T := by
      have := hwok.1
      omega
    unfold zch at z
    rw [if_pos hpT] at z
    have := (z_eq (b := 93) (by omega) (by decide)).mp z
    omega
  have hc5 : ndX4_closes_5 (lpX4_closes_5 c) V = some V1 := by
    unfold ndX4_closes_5
    rw [ms, hf_b2_some, if_neg hne93]
  -- passing the word
  have mp := m_passWord i1 i2 hp2
  obtain ⟨V2, hV2⟩ : ∃ y, y = hf_ui V1 8 (Int32.ofNat (zwe B T p)) := ⟨_, rfl⟩
  rw [← hV2] at mp
  have hlen : rho.reverse.length = rho.length := List.length_reverse
  have o1 := i6.1
  rw [List.length_append] at o1
  have H2 := (H.at_ (a' := zwe B T p) (zwe_le (B := B) hp2).2)
  have hV21 : V2 = hf_ui V 8 (Int32.ofNat (zwe B T p)) := by rw [hV2, hV1, hf_ui_ui]
  rw [← hV21] at H2
  obtain ⟨j1, j2, j3, j4, j5, j6, j7, j8⟩ := H2
  obtain ⟨V3, u1, u2, u3, u4, u5, u6⟩ := m_settleN (l := l) (by omega) Q hs rho.reverse V2 L hf_N (fun y hy => hr.2 y (List.mem_reverse.mp hy)) (by rw [List.reverse_reverse]; exact j6) j5 j7 (by omega) (by rw [hlen]; unfold hf_N; omega)
  have hstr : spX4_strength (Int32.ofNat x) = some (Int32.ofNat l) := by
    rw [m_strength (by omega)]
    rcases hx with ⟨rfl, rfl, _⟩ | ⟨rfl, rfl, _⟩ <;> rfl
  have u1' : spX4_settles (Int32.ofNat l) V2 = some V3 := u1
  have v16 : V3.1 16 = Int32.ofNat q.length := u2.2.1
  have a16 : Int32.ofNat q.length + (1 : Int32) = Int32.ofNat (q.length + 1) := z_add _ 1
  obtain ⟨V4, hV4⟩ : ∃ y, y = hf_ui (hf_ua V3 15 q.length (Int32.ofNat x)) 16 (Int32.ofNat (q.length + 1)) := ⟨_, rfl⟩
  have O4 : hf_os V4 (q ++ [x]) := by rw [hV4]; exact u2.push (by omega) x
  have h76 : ndX4_tested_76 (lpX4_tested_12 (n + 1)) 1 (Int32.ofNat x) V1 = zKA n hf_N 1 V4 := by
    unfold ndX4_tested_76
    have v16b : (hf_ua V3 15 q.length (Int32.ofNat x)).1 16 = Int32.ofNat q.length := v16
    rw [mp, Option.bind_some, hstr, Option.bind_some, u1', Option.bind_some, v16, z_sd (by omega) (by omega), v16b, a16, hf_let_eq, ← hV4]
    rfl
  have W3 : hf_wq V V3 t L := by
    refine ((hf_wq.rfl_ V t L).ui (Or.inl rfl) (Int32.ofNat (zwe B T p))).trans (L' := L) ?_ (Nat.le_refl _)
    rw [← hV21]
    exact ⟨fun k _ _ _ _ h => u3 k h, u4.wt⟩
  have W4 : hf_wq V V4 t L := by
    rw [hV4]
    exact (W3.ua15 _ _).ui (by omega) _
  refine ⟨V4, ?_, ⟨H.1.wq W4, ?_, ?_, ?_, ?_, O4, ?_, j8⟩, W4, ?_⟩
  · rw [hc5, Option.bind_some]
    unfold zKR
    have e14 : (6385252 : Int64) = zwI 14 := zwI_14
    have e15 : (28530 : Int64) = zwI 15 := zwI_15
    rcases hx with ⟨rfl, rfl, rfl⟩ | ⟨rfl, rfl, rfl⟩
    · rw [e14, mi 14 (by decide), if_pos hzp, hf_b2_some, if_neg (by decide)]
      unfold ndX4_tested_49 ndX4_tested_54
      rw [if_neg (by decide), e14, mi 14 (by decide), if_pos hzp, hf_b2_some, if_neg (by decide)]
      exact h76
    · have hn14 : ¬ zis B T p (zw 14) := zis_no (by decide) (by decide) hzp (by decide)
      rw [e14, mi 14 (by decide), if_neg hn14, hf_b2_some, if_pos zz00, e15, mi 15 (by decide), if_pos hzp, hf_b2_some, if_neg (by decide)]
      unfold ndX4_tested_49 ndX4_tested_54
      rw [if_neg (by decide), e14, mi 14 (by decide), if_neg hn14, hf_b2_some, if_pos zz00]
      exact h76
  · rw [hV4, hf_ui_ne _ (by decide)]
    show V3.1 8 = _
    rw [u3 8 (by decide)]
    exact j2
  · rw [W4.1 9 (by decide) (by decide) (by decide) (by decide) (by decide)]
    exact H.2.2.1
  · rw [hV4, hf_ui_ne _ (by decide)]
    show V3.1 12 = _
    rw [u3 12 (by decide)]
    exact j4
  · rw [hlen] at u5
    rw [hV4]
    obtain ⟨y1, y2, y3⟩ := u5
    exact ⟨y1, by rw [hf_ui_ne _ (by decide)]; exact y2, by
      show (hf_ua V3 15 q.length (Int32.ofNat x)).2.2.2.1 4 t = _
      rw [hf_ua_ne _ (by decide)]
      exact y3⟩
  · rw [hV4, hf_ui_ne _ (by decide)]
    show V3.1 13 = _
    rw [u3 13 (by decide)]
    exact j7
  · intro k hk
    rw [hV4]
    show (hf_ua V3 15 q.length (Int32.ofNat x)).2.2.2.1 3 _ = _ ∧ _
    rw [hf_ua_ne _ (by decide)]
    exact u6 k hk
/-- neither 'and' nor 'or', no bracket that closes: the test ends -/
theorem m_ends (H : zMS V B T a m q d t L) (QQ : zqq q) (hst : zstp 3 q) (hn : zno B T 1 a) (h93 : ¬ (zsk B T a < T ∧ B (zsk B T a) = 93 ∧ 91 ∈ q)) (n c s : Nat) : zKB (n + 1) (c + 1) (s + 1) V = if 91 ∈ q then some (0, hf_ui (hf_ui V 8 (Int32.ofNat (zsk B T a))) 9 (Int32.ofNat (1 + 8 * zsk B T a + 0))) else (spX4_settles (1 : Int32) (hf_ui V 8 (Int32.ofNat (zsk B T a)))).bind fun V3 => some ((1 : Int32), V3) := by
  have ha := H.2.2.2.2.2.2.2
  obtain ⟨p, hpe⟩ : ∃ p, p = zsk B T a := ⟨_, rfl⟩
  have hp2 := (zsk_le (B := B) ha).2
  have hpp : zsk B T (zsk B T a) = zsk B T a := zsk_idem B T _ a rfl ha
  have hn14 : ¬ zis B T (zsk B T a) (zw 14) := fun z => (hn.1 (by decide)).1 ((zis_sk ha _).mp z)
  have hn15 : ¬ zis B T (zsk B T a) (zw 15) := fun z => hn.2 (by decide) ((zis_sk ha _).mp z)
  rw [zKB_0 H QQ hst]
  have H1 := H.at_ hp2
  have ms := m_see H.1 H.2.1 ha
  have ms1 := m_see H1.1 H1.2.1 hp2
  rw [hpp, hf_ui_self H1.2.1] at ms1
  have mi : ∀ j, j < 27 → spX4_isWord (zwI j) (hf_ui V 8 (Int32.ofNat (zsk B T a))) = some (Int32.ofNat (if zis B T (zsk B T a) (zw j) then 1 else 0), hf_ui V 8 (Int32.ofNat (zsk B T a))) := fun j hj => by
    have := m_isW H1.1 H1.2.1 hp2 hj
    rw [hpp, hf_ui_self H1.2.1] at this
    exact this
  obtain ⟨V1, hV1⟩ : ∃ x, x = hf_ui V 8 (Int32.ofNat (zsk B T a)) := ⟨_, rfl⟩
  rw [← hV1] at ms ms1 mi H1 ⊢
  rw [← hpe] at hp2 hpp hn14 hn15 ms ms1 mi H1 h93 ⊢
  obtain ⟨i1, i2, i3, i4, i5, i6, i7, i8⟩ := H1
  have hin := m_inside i6 QQ
  have hc5 : ndX4_closes_5 (lpX4_closes_5 c) V = some V1 := by
    unfold ndX4_closes_5
    rw [ms, hf_b2_some]
    by_cases z : zch B T p = (93 : Int32)
    · have hT4 := i1.1
      have hz : p < T ∧ B p = 93 := by
        unfold zch at z
        by_cases e : p < T
        · rw [if_pos e] at z
          have hb := (i1.2.2 p (by omega)).2
          exact ⟨e, (z_eq (b := 93) (by omega) (by decide)).mp z⟩
        · rw [if_neg e] at z
          exact absurd z (by decide)
      have h91 : ¬ 91 ∈ q := fun y => h93 ⟨hz.1, hz.2, y⟩
      rw [if_pos z, hin, hf_b2_some, if_neg h91, if_pos zz00]
    · rw [if_neg z]
  rw [hc5, Option.bind_some]
  unfold zKR
  have e14 : (6385252 : Int64) = zwI 14 := zwI_14
  have e15 : (28530 : Int64) = zwI 15 := zwI_15
  rw [e14, mi 14 (by decide), if_neg hn14, hf_b2_some, if_pos zz00, e15, mi 15 (by decide), if_neg hn15, hf_b2_some, if_pos zz00]
  unfold ndX4_tested_54
  rw [if_pos rfl]
  show ndX4_tested_12 (lpX4_tested_12 n) _ _ = _
  unfold ndX4_tested_12
  rw [if_pos rfl, hin, hf_b2_some]
  by_cases e : 91 ∈ q
  · have hfl : spX4_fails (0 : Int32) (Int32.ofNat p) V1 = some (0, hf_ui V1 9 (Int32.ofNat (1 + 8 * p + 0))) := m_fails0 i3 0 p
    rw [if_pos e, if_pos e, if_neg (by decide), ms1, hf_b2_some, i2, hfl, hf_b2_some, if_pos (Or.inl rfl)]
  · rw [if_neg e, if_neg e, if_pos zz00]
end ZM
