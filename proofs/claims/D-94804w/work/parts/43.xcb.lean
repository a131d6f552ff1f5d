set_option maxRecDepth 100000
set_option maxHeartbeats 4000000
/-! X0_asks -/
theorem flX0_72 : hf_Fl RX0 72 0 16 := ⟨(RX0, TX0, 23), RX0, rfl, by decide, in_X0, tyX0_ok, nmX0, Or.inl q413, Or.inl rfl⟩
theorem mvX0_309 : hf_MV RX0 309 RX0 yX0_fitting cX0_fitting 6 (some .int) 3 := ⟨lw_V q1190 q1192 qs51 q153 q1193, by decide +kernel⟩
theorem mvX0_312 : hf_MV RX0 312 RX2 yX2_atStalls cX2_atStalls 4 (some .int) 1 := ⟨lw_V q1194 q1195 q1196 q158 q1197, by decide +kernel⟩
theorem mvX0_306 : hf_MV RX0 306 RX1 yX1_left cX1_left 2 (some .int) 1 := ⟨lw_V q1185 q1186 q1187 q154 q1188, by decide +kernel⟩
def ndX0_asks_90 (k90 : Nat → Nat → Int32 → Int32 → Int32 → Int32 → hf_H → Option hf_H) (l0 : Nat) (l1 : Nat) (l2 : Int32) (l3 : Int32) (l4 : Int32) (l5 : Int32) (V0 : hf_H) : Option hf_H :=
  (hf_ob 1 0 V0 l0).bind fun _ =>
  (hf_ob 1 0 V0 l0).bind fun _ =>
  if (13 : Int32) ≤ l5 then (if l3 = (-1 : Int32) then (some V0) else
  (hf_ob 1 0 V0 l0).bind fun _ =>
  (hf_sl 0 16 13 V0 l0 (6 : Int32) (Int32.toInt64 l3)).bind fun g1 =>
  (hf_ob 1 0 g1 l0).bind fun _ =>
  (hf_ga 1 0 0 g1 l0).bind fun x2 =>
  (hf_ga 1 1 0 g1 x2).bind fun x3 =>
  (hf_ob 0 19 g1 x3).bind fun _ =>
  hf_b2 (spJ2_get x3 l3 g1) fun x5 g4 =>
  (hf_ob 0 6 g4 x5).bind fun _ =>
  (hf_gi 0 6 1 g4 x5).bind fun x6 =>
  (hf_sl 0 16 13 g4 l0 (7 : Int32) (Int32.toInt64 x6)).bind fun g7 =>
  (hf_ob 1 0 g7 l0).bind fun _ =>
  (hf_ga 1 0 0 g7 l0).bind fun x8 =>
  (hf_ga 1 1 0 g7 x8).bind fun x9 =>
  (hf_ob 0 19 g7 x9).bind fun _ =>
  hf_b2 (spJ2_get x9 l3 g7) fun x11 g10 =>
  (hf_ob 0 6 g10 x11).bind fun _ =>
  (hf_gi 0 6 2 g10 x11).bind fun x12 =>
  (hf_sl 0 16 13 g10 l0 (8 : Int32) (Int32.toInt64 x12)).bind fun g13 =>
  (hf_ob 1 0 g13 l0).bind fun _ =>
  (hf_ga 1 0 0 g13 l0).bind fun x14 =>
  (hf_gi 1 2 4 g13 l1).bind fun x15 =>
  (hf_ob 1 1 g13 x14).bind fun _ =>
  hf_b2 (spX1_priceAt x14 l3 x15 g13) fun x17 g16 =>
  (hf_sl 0 16 13 g16 l0 (9 : Int32) (Int32.toInt64 x17)).bind fun g18 =>
  (hf_ob 1 0 g18 l0).bind fun _ =>
  (hf_ob 1 0 g18 l0).bind fun _ =>
  hf_b2 (spX0_fitting l0 l3 l4 (2 : Int32) g18) fun x20 g19 =>
  (hf_sl 0 16 13 g19 l0 (10 : Int32) (Int32.toInt64 x20)).bind fun g21 =>
  (hf_ob 1 0 g21 l0).bind fun _ =>
  (hf_ob 1 0 g21 l0).bind fun _ =>
  hf_b2 (spX0_fitting l0 l3 l4 (1 : Int32) g21) fun x23 g22 =>
  (hf_sl 0 16 13 g22 l0 (11 : Int32) (Int32.toInt64 x23)).bind fun g24 =>
  (hf_ob 1 0 g24 l0).bind fun _ =>
  (hf_ga 1 0 0 g24 l0).bind fun x25 =>
  (hf_ob 1 2 g24 l1).bind fun _ =>
  hf_b2 (spX2_clubSaw l1 x25 l2 g24) fun x27 g26 =>
  (hf_ga 1 0 0 g26 l0).bind fun x28 =>
  (hf_ob 1 2 g26 l1).bind fun _ =>
  hf_b2 (spX2_atStalls l1 x28 g26) fun x30 g29 =>
  (hf_ob 1 0 g29 l0).bind fun _ =>
  hf_b2 (spX0_fitting l0 l3 (x27 &&& x30) (2 : Int32) g29) fun x32 g31 =>
  (hf_sl 0 16 13 g31 l0 (12 : Int32) (Int32.toInt64 x32)).bind fun g33 =>
  some g33) else
  (hf_ob 1 0 V0 l0).bind fun _ =>
  (hf_sl 0 16 13 V0 l0 l5 (0 : Int64)).bind fun g34 =>
  hf_let (l5 + (1 : Int32)) fun x35 =>
  k90 l0 l1 l2 l3 l4 x35 g34
theorem nlX0_asks_90 {C : hf_X} {gs : hf_gs} (o : hf_In C cX0_asks RX0 6 (none) 6 136) (og : hf_G C gs) (k90 : Nat → Nat → Int32 → Int32 → Int32 → Int32 → hf_H → Option hf_H) (hk90 : ∀ (l0 : Nat) (l1 : Nat) (l2 : Int32) (l3 : Int32) (l4 : Int32) (l5 : Int32) (V0 : hf_H), hf_J C hf_dHV (k90 l0 l1 l2 l3 l4 l5 V0) V0 90 [(0, .ref l0), (1, .ref l1), (2, .int l2), (3, .int l3), (4, .int l4), (5, .int l5)] []) (l0 : Nat) (l1 : Nat) (l2 : Int32) (l3 : Int32) (l4 : Int32) (l5 : Int32) (V0 : hf_H) : hf_J C hf_dHV (ndX0_asks_90 k90 l0 l1 l2 l3 l4 l5 V0) V0 90 [(0, .ref l0), (1, .ref l1), (2, .int l2), (3, .int l3), (4, .int l4), (5, .int l5)] [] := by
  refine hr_iload o 5 dX0_asks_90 rfl ?_
  refine hr_aload_n o 0 dX0_asks_92 rfl ?_
  refine hr_getO o flX0_72 dX0_asks_93 126 (fun _ => rfl) (fun _ _ => ?_)
  refine hx_alen o 0 16 126 13 rfl (by decide) .long rfl (by simp [hf_tys]) (13 : Int32) (by decide) dX0_asks_96 (fun _ => ?_)
  refine hr_icmp_ge o 114 dX0_asks_97 (by decide) (fun _ => ?_) (fun _ => ?_)
  · refine hr_iload_n o 3 dX0_asks_114 rfl ?_
    refine hr_iconst o (-1 : Int32) dX0_asks_115 (by decide) ?_
    refine hr_icmp_ne o 120 dX0_asks_116 (by decide) (fun _ => ?_) (fun _ => ?_)
    · exact hr_vret o dX0_asks_119 rfl
    refine hr_aload_n o 0 dX0_asks_120 rfl ?_
    refine hr_getO o flX0_72 dX0_asks_121 126 (fun _ => rfl) (fun _ _ => ?_)
    refine hr_bipush o (6 : Int32) dX0_asks_124 (by decide) ?_
    refine hr_iload_n o 3 dX0_asks_126 rfl ?_
    refine hr_i2l o dX0_asks_127 ?_
    refine hx_last o 0 16 126 13 rfl (by decide) (fun j h1 h2 => hf_of0_inj j 16 h1 h2) rfl dX0_asks_128 (fun g1 => ?_)
    refine hr_aload_n o 0 dX0_asks_129 rfl ?_
    refine hr_getO o flX0_72 dX0_asks_130 126 (fun _ => rfl) (fun _ _ => ?_)
    refine hr_bipush o (7 : Int32) dX0_asks_133 (by decide) ?_
    refine hr_aload_n o 0 dX0_asks_135 rfl ?_
    refine hr_getA (md := 1) o flX0_12 dX0_asks_136 (fun _ => rfl) (fun x2 => ?_)
    refine hr_getA (md := 1) o flX0_93 dX0_asks_139 (fun _ => rfl) (fun x3 => ?_)
    refine hr_iload_n o 3 dX0_asks_142 rfl ?_
    refine hx_callVA (q := (RJ2, TJ2, 3)) o og mvX0_153 dX0_asks_143 0 19 rfl [.int l3] (fun zr zg ze => mtJ2_get x3 l3 g1 zr zg ze) rfl rfl (Nat.le_of_ble_eq_true rfl) ⟨by decide, by decide⟩ (fun x5 g4 => ?_)
    refine hx_cast (md := 0) (ci := 6) (q := (RX6, TX6, 4)) o q990 rfl dX0_asks_146 (fun _ => ?_)
    refine hr_getI (md := 0) o flX0_159 dX0_asks_149 (fun _ => rfl) (fun x6 => ?_)
    refine hr_i2l o dX0_asks_152 ?_
    refine hx_last o 0 16 126 13 rfl (by decide) (fun j h1 h2 => hf_of0_inj j 16 h1 h2) rfl dX0_asks_153 (fun g7 => ?_)
    refine hr_aload_n o 0 dX0_asks_154 rfl ?_
    refine hr_getO o flX0_72 dX0_asks_155 126 (fun _ => rfl) (fun _ _ => ?_)
    refine hr_bipush o (8 : Int32) dX0_asks_158 (by decide) ?_
    refine hr_aload_n o 0 dX0_asks_160 rfl ?_
    refine hr_getA (md := 1) o flX0_12 dX0_asks_161 (fun _ => rfl) (fun x8 => ?_)
    refine hr_getA (md := 1) o flX0_93 dX0_asks_164 (fun _ => rfl) (fun x9 => ?_)
    refine hr_iload_n o 3 dX0_asks_167 rfl ?_
    refine hx_callVA (q := (RJ2, TJ2, 3)) o og mvX0_153 dX0_asks_168 0 19 rfl [.int l3] (fun zr zg ze => mtJ2_get x9 l3 g7 zr zg ze) rfl rfl (Nat.le_of_ble_eq_true rfl) ⟨by decide, by decide⟩ (fun x11 g10 => ?_)
    refine hx_cast (md := 0) (ci := 6) (q := (RX6, TX6, 4)) o q990 rfl dX0_asks_171 (fun _ => ?_)
    refine hr_getI (md := 0) o flX0_162 dX0_asks_174 (fun _ => rfl) (fun x12 => ?_)
    refine hr_i2l o dX0_asks_177 ?_
    refine hx_last o 0 16 126 13 rfl (by decide) (fun j h1 h2 => hf_of0_inj j 16 h1 h2) rfl dX0_asks_178 (fun g13 => ?_)
    refine hr_aload_n o 0 dX0_asks_179 rfl ?_
    refine hr_getO o flX0_72 dX0_asks_180 126 (fun _ => rfl) (fun _ _ => ?_)
    refine hr_bipush o (9 : Int32) dX0_asks_183 (by decide) ?_
    refine hr_aload_n o 0 dX0_asks_185 rfl ?_
    refine hr_getA (md := 1) o flX0_12 dX0_asks_186 (fun _ => rfl) (fun x14 => ?_)
    refine hr_iload_n o 3 dX0_asks_189 rfl ?_
    refine hr_aload_n o 1 dX0_asks_190 rfl ?_
    refine hr_getI (md := 1) o flX0_165 dX0_asks_191 (fun _ => rfl) (fun x15 => ?_)
    refine hx_callVI (q := (RX1, TX1, 13)) o og mvX0_168 dX0_asks_194 1 1 rfl [.int l3, .int x15] (fun zr zg ze => mtX1_priceAt x14 l3 x15 g13 zr zg ze) rfl rfl (Nat.le_of_ble_eq_true rfl) ⟨by decide, by decide⟩ (fun x17 g16 => ?_)
    refine hr_i2l o dX0_asks_197 ?_
    refine hx_last o 0 16 126 13 rfl (by decide) (fun j h1 h2 => hf_of0_inj j 16 h1 h2) rfl dX0_asks_198 (fun g18 => ?_)
    refine hr_aload_n o 0 dX0_asks_199 rfl ?_
    refine hr_getO o flX0_72 dX0_asks_200 126 (fun _ => rfl) (fun _ _ => ?_)
    refine hr_bipush o (10 : Int32) dX0_asks_203 (by decide) ?_
    refine hr_aload_n o 0 dX0_asks_205 rfl ?_
    refine hr_iload_n o 3 dX0_asks_206 rfl ?_
    refine hr_iload o 4 dX0_asks_207 rfl ?_
    refine hr_iconst o (2 : Int32) dX0_asks_209 (by decide) ?_
    refine hx_callVI (q := (RX0, TX0, 23)) o og mvX0_309 dX0_asks_210 1 0 rfl [.int l3, .int l4, .int (2 : Int32)] (fun zr zg ze => mtX0_fitting l0 l3 l4 (2 : Int32) g18 zr zg ze) rfl rfl (Nat.le_of_ble_eq_true rfl) ⟨by decide, by decide⟩ (fun x20 g19 => ?_)
    refine hr_i2l o dX0_asks_213 ?_
    refine hx_last o 0 16 126 13 rfl (by decide) (fun j h1 h2 => hf_of0_inj j 16 h1 h2) rfl dX0_asks_214 (fun g21 => ?_)
    refine hr_aload_n o 0 dX0_asks_215 rfl ?_
    refine hr_getO o flX0_72 dX0_asks_216 126 (fun _ => rfl) (fun _ _ => ?_)
    refine hr_bipush o (11 : Int32) dX0_asks_219 (by decide) ?_
    refine hr_aload_n o 0 dX0_asks_221 rfl ?_
    refine hr_iload_n o 3 dX0_asks_222 rfl ?_
    refine hr_iload o 4 dX0_asks_223 rfl ?_
    refine hr_iconst o (1 : Int32) dX0_asks_225 (by decide) ?_
    refine hx_callVI (q := (RX0, TX0, 23)) o og mvX0_309 dX0_asks_226 1 0 rfl [.int l3, .int l4, .int (1 : Int32)] (fun zr zg ze => mtX0_fitting l0 l3 l4 (1 : Int32) g21 zr zg ze) rfl rfl (Nat.le_of_ble_eq_true rfl) ⟨by decide, by decide⟩ (fun x23 g22 => ?_)
    refine hr_i2l o dX0_asks_229 ?_
    refine hx_last o 0 16 126 13 rfl (by decide) (fun j h1 h2 => hf_of0_inj j 16 h1 h2) rfl dX0_asks_230 (fun g24 => ?_)
    refine hr_aload_n o 0 dX0_asks_231 rfl ?_
    refine hr_getO o flX0_72 dX0_asks_232 126 (fun _ => rfl) (fun _ _ => ?_)
    refine hr_bipush o (12 : Int32) dX0_asks_235 (by decide) ?_
    refine hr_aload_n o 0 dX0_asks_237 rfl ?_
    refine hr_iload_n o 3 dX0_asks_238 rfl ?_
    refine hr_aload_n o 1 dX0_asks_239 rfl ?_
    refine hr_aload_n o 0 dX0_asks_240 rfl ?_
    refine hr_getA (md := 1) o flX0_12 dX0_asks_241 (fun _ => rfl) (fun x25 => ?_)
    refine hr_iload_n o 2 dX0_asks_244 rfl ?_
    refine hx_callVI (q := (RX2, TX2, 5)) o og mvX0_199 dX0_asks_245 1 2 rfl [.ref x25, .int l2] (fun zr zg ze => mtX2_clubSaw l1 x25 l2 g24 zr zg ze) rfl rfl (Nat.le_of_ble_eq_true rfl) ⟨by decide, by decide⟩ (fun x27 g26 => ?_)
    refine hr_aload_n o 1 dX0_asks_248 rfl ?_
    refine hr_aload_n o 0 dX0_asks_249 rfl ?_
    refine hr_getA (md := 1) o flX0_12 dX0_asks_250 (fun _ => rfl) (fun x28 => ?_)
    refine hx_callVI (q := (RX2, TX2, 5)) o og mvX0_312 dX0_asks_253 1 2 rfl [.ref x28] (fun zr zg ze => mtX2_atStalls l1 x28 g26 zr zg ze) rfl rfl (Nat.le_of_ble_eq_true rfl) ⟨by decide, by decide⟩ (fun x30 g29 => ?_)
    refine hr_iand o dX0_asks_256 ?_
    refine hr_iconst o (2 : Int32) dX0_asks_257 (by decide) ?_
    refine hx_callVI (q := (RX0, TX0, 23)) o og mvX0_309 dX0_asks_258 1 0 rfl [.int l3, .int (x27 &&& x30), .int (2 : Int32)] (fun zr zg ze => mtX0_fitting l0 l3 (x27 &&& x30) (2 : Int32) g29 zr zg ze) rfl rfl (Nat.le_of_ble_eq_true rfl) ⟨by decide, by decide⟩ (fun x32 g31 => ?_)
    refine hr_i2l o dX0_asks_261 ?_
    refine hx_last o 0 16 126 13 rfl (by decide) (fun j h1 h2 => hf_of0_inj j 16 h1 h2) rfl dX0_asks_262 (fun g33 => ?_)
    exact hr_vret o dX0_asks_263 rfl
  refine hr_aload_n o 0 dX0_asks_100 rfl ?_
  refine hr_getO o flX0_72 dX0_asks_101 126 (fun _ => rfl) (fun _ _ => ?_)
  refine hr_iload o 5 dX0_asks_104 rfl ?_
  refine hr_lconst o (0 : Int64) dX0_asks_106 (by decide) ?_
  refine hx_last o 0 16 126 13 rfl (by decide) (fun j h1 h2 => hf_of0_inj j 16 h1 h2) rfl dX0_asks_107 (fun g34 => ?_)
  refine hr_iincN o (1 : Int32) 5 (fun y => [(5, .int y), (0, .ref l0), (1, .ref l1), (2, .int l2), (3, .int l3), (4, .int l4)]) dX0_asks_108 rfl (by decide) (by decide) (fun y => rfl) (fun x35 => ?_)
  refine hr_goto o 90 dX0_asks_111 (by decide) ?_
  refine hr_sub [1, 2, 3, 4, 5, 0] rfl ?_
  exact hk90 l0 l1 l2 l3 l4 x35 g34
def lpX0_asks_90  : Nat → Nat → Nat → Int32 → Int32 → Int32 → Int32 → hf_H → Option hf_H
  | 0 => fun _ _ _ _ _ _ _ => none
  | n + 1 => fun l0 l1 l2 l3 l4 l5 V0 => ndX0_asks_90  (lpX0_asks_90  n) l0 l1 l2 l3 l4 l5 V0
theorem llX0_asks_90 {C : hf_X} {gs : hf_gs} (o : hf_In C cX0_asks RX0 6 (none) 6 136) (og : hf_G C gs)   (n : Nat) : ∀ (l0 : Nat) (l1 : Nat) (l2 : Int32) (l3 : Int32) (l4 : Int32) (l5 : Int32) (V0 : hf_H), hf_J C hf_dHV ((lpX0_asks_90  n) l0 l1 l2 l3 l4 l5 V0) V0 90 [(0, .ref l0), (1, .ref l1), (2, .int l2), (3, .int l3), (4, .int l4), (5, .int l5)] [] := by
  induction n with
  | zero => exact fun _ _ _ _ _ _ _ => hr_none
  | succ n ih => exact fun l0 l1 l2 l3 l4 l5 V0 => nlX0_asks_90 o og  (lpX0_asks_90  n)  ih l0 l1 l2 l3 l4 l5 V0
def spX0_asks (l0 : Nat) (l1 : Nat) (l2 : Int32) (l3 : Int32) (V0 : hf_H) : Option hf_H :=
  (hf_ga 1 0 0 V0 l0).bind fun x1 =>
  (hf_ob 1 2 V0 l1).bind fun _ =>
  hf_b2 (spX2_halvesOf l1 x1 l2 V0) fun x3 g2 =>
  (hf_ob 1 0 g2 l0).bind fun _ =>
  (hf_sl 0 16 13 g2 l0 (0 : Int32) (Int32.toInt64 l2)).bind fun g4 =>
  (hf_ob 1 0 g4 l0).bind fun _ =>
  (hf_ob 1 2 g4 l1).bind fun _ =>
  (hf_ai 2 1 4 g4 l1 l2).bind fun x5 =>
  (hf_sl 0 16 13 g4 l0 (1 : Int32) (Int32.toInt64 x5)).bind fun g6 =>
  (hf_ob 1 0 g6 l0).bind fun _ =>
  (hf_ob 1 2 g6 l1).bind fun _ =>
  (hf_ai 2 2 4 g6 l1 l2).bind fun x7 =>
  (hf_sl 0 16 13 g6 l0 (2 : Int32) (Int32.toInt64 x7)).bind fun g8 =>
  (hf_ob 1 0 g8 l0).bind fun _ =>
  (hf_gi 1 2 4 g8 l1).bind fun x9 =>
  (hf_sl 0 16 13 g8 l0 (3 : Int32) (Int32.toInt64 x9)).bind fun g10 =>
  (hf_ob 1 0 g10 l0).bind fun _ =>
  (hf_ga 1 0 0 g10 l0).bind fun x11 =>
  (hf_gi 1 2 4 g10 l1).bind fun x12 =>
  (hf_ob 1 1 g10 x11).bind fun _ =>
  hf_b2 (spX1_left x11 x12 g10) fun x14 g13 =>
  (hf_sl 0 16 13 g13 l0 (4 : Int32) (Int32.toInt64 x14)).bind fun g15 =>
  (hf_ob 1 0 g15 l0).bind fun _ =>
  (spJ14_bitCount x3).bind fun x16 =>
  (hf_sl 0 16 13 g15 l0 (5 : Int32) (Int32.toInt64 x16)).bind fun g17 =>
  lpX0_asks_90 hf_N l0 l1 l2 l3 x3 (6 : Int32) g17
theorem jtX0_asks {C : hf_X} {gs : hf_gs} (o : hf_In C cX0_asks RX0 6 (none) 6 136) (og : hf_G C gs) (l0 : Nat) (l1 : Nat) (l2 : Int32) (l3 : Int32) (V0 : hf_H) : hf_J C hf_dHV (spX0_asks l0 l1 l2 l3 V0) V0 0 [(0, .ref l0), (1, .ref l1), (2, .int l2), (3, .int l3)] [] := by
  refine hr_aload_n o 1 dX0_asks_0 rfl ?_
  refine hr_aload_n o 0 dX0_asks_1 rfl ?_
  refine hr_getA (md := 1) o flX0_12 dX0_asks_2 (fun _ => rfl) (fun x1 => ?_)
  refine hr_iload_n o 2 dX0_asks_5 rfl ?_
  refine hx_callVI (q := (RX2, TX2, 5)) o og mvX0_195 dX0_asks_6 1 2 rfl [.ref x1, .int l2] (fun zr zg ze => mtX2_halvesOf l1 x1 l2 V0 zr zg ze) rfl rfl (Nat.le_of_ble_eq_true rfl) ⟨by decide, by decide⟩ (fun x3 g2 => ?_)
  refine hr_istore o [(4, .int x3), (0, .ref l0), (1, .ref l1), (2, .int l2), (3, .int l3)] dX0_asks_9 (by decide) rfl ?_
  refine hr_aload_n o 1 dX0_asks_11 rfl ?_
  refine hr_getO o flX0_72 dX0_asks_12 126 (fun _ => rfl) (fun _ _ => ?_)
  refine hr_iconst o (0 : Int32) dX0_asks_15 (by decide) ?_
  refine hr_iload_n o 3 dX0_asks_16 rfl ?_
  refine hr_i2l o dX0_asks_17 ?_
  refine hx_last o 0 16 126 13 rfl (by decide) (fun j h1 h2 => hf_of0_inj j 16 h1 h2) rfl dX0_asks_18 (fun g4 => ?_)
  refine hr_aload_n o 1 dX0_asks_19 rfl ?_
  refine hr_getO o flX0_72 dX0_asks_20 126 (fun _ => rfl) (fun _ _ => ?_)
  refine hr_iconst o (1 : Int32) dX0_asks_23 (by decide) ?_
  refine hr_aload_n o 2 dX0_asks_24 rfl ?_
  refine hr_getO o flX0_189 dX0_asks_25 2 (fun _ => rfl) (fun _ _ => ?_)
  refine hr_iload_n o 3 dX0_asks_28 rfl ?_
  refine hx_iald o 2 1 2 4 rfl (by decide) rfl dX0_asks_29 (fun x5 => ?_)
  refine hr_i2l o dX0_asks_30 ?_
  refine hx_last o 0 16 126 13 rfl (by decide) (fun j h1 h2 => hf_of0_inj j 16 h1 h2) rfl dX0_asks_31 (fun g6 => ?_)
  refine hr_aload_n o 1 dX0_asks_32 rfl ?_
  refine hr_getO o flX0_72 dX0_asks_33 126 (fun _ => rfl) (fun _ _ => ?_)
  refine hr_iconst o (2 : Int32) dX0_asks_36 (by decide) ?_
  refine hr_aload_n o 2 dX0_asks_37 rfl ?_
  refine hr_getO o flX0_192 dX0_asks_38 3 (fun _ => rfl) (fun _ _ => ?_)
  refine hr_iload_n o 3 dX0_asks_41 rfl ?_
  refine hx_iald o 2 2 3 4 rfl (by decide) rfl dX0_asks_42 (fun x7 => ?_)
  refine hr_i2l o dX0_asks_43 ?_
  refine hx_last o 0 16 126 13 rfl (by decide) (fun j h1 h2 => hf_of0_inj j 16 h1 h2) rfl dX0_asks_44 (fun g8 => ?_)
  refine hr_aload_n o 1 dX0_asks_45 rfl ?_
  refine hr_getO o flX0_72 dX0_asks_46 126 (fun _ => rfl) (fun _ _ => ?_)
  refine hr_iconst o (3 : Int32) dX0_asks_49 (by decide) ?_
  refine hr_aload_n o 2 dX0_asks_50 rfl ?_
  refine hr_getI (md := 1) o flX0_165 dX0_asks_51 (fun _ => rfl) (fun x9 => ?_)
  refine hr_i2l o dX0_asks_54 ?_
  refine hx_last o 0 16 126 13 rfl (by decide) (fun j h1 h2 => hf_of0_inj j 16 h1 h2) rfl dX0_asks_55 (fun g10 => ?_)
  refine hr_aload_n o 1 dX0_asks_56 rfl ?_
  refine hr_getO o flX0_72 dX0_asks_57 126 (fun _ => rfl) (fun _ _ => ?_)
  refine hr_iconst o (4 : Int32) dX0_asks_60 (by decide) ?_
  refine hr_aload_n o 1 dX0_asks_61 rfl ?_
  refine hr_getA (md := 1) o flX0_12 dX0_asks_62 (fun _ => rfl) (fun x11 => ?_)
  refine hr_aload_n o 2 dX0_asks_65 rfl ?_
  refine hr_getI (md := 1) o flX0_165 dX0_asks_66 (fun _ => rfl) (fun x12 => ?_)
  refine hx_callVI (q := (RX1, TX1, 13)) o og mvX0_306 dX0_asks_69 1 1 rfl [.int x12] (fun zr zg ze => mtX1_left x11 x12 g10 zr zg ze) rfl rfl (Nat.le_of_ble_eq_true rfl) ⟨by decide, by decide⟩ (fun x14 g13 => ?_)
  refine hr_i2l o dX0_asks_72 ?_
  refine hx_last o 0 16 126 13 rfl (by decide) (fun j h1 h2 => hf_of0_inj j 16 h1 h2) rfl dX0_asks_73 (fun g15 => ?_)
  refine hr_aload_n o 1 dX0_asks_74 rfl ?_
  refine hr_getO o flX0_72 dX0_asks_75 126 (fun _ => rfl) (fun _ _ => ?_)
  refine hr_iconst o (5 : Int32) dX0_asks_78 (by decide) ?_
  refine hr_iload o 0 dX0_asks_79 rfl ?_
  refine pr_callI o msX0_291 dX0_asks_81 [.int x3] (fun zr ze => mtJ14_bitCount x3 zr ze) rfl rfl (Nat.le_of_ble_eq_true rfl) ⟨by decide, by decide⟩ (fun x16 => ?_)
  refine hr_i2l o dX0_asks_84 ?_
  refine hx_last o 0 16 126 13 rfl (by decide) (fun j h1 h2 => hf_of0_inj j 16 h1 h2) rfl dX0_asks_85 (fun g17 => ?_)
  refine hr_bipush o (6 : Int32) dX0_asks_86 (by decide) ?_
  refine hr_istore o [(5, .int (6 : Int32)), (4, .int x3), (0, .ref l0), (1, .ref l1), (2, .int l2), (3, .int l3)] dX0_asks_88 (by decide) rfl ?_
  refine hr_sub [2, 3, 4, 5, 1, 0] rfl ?_
  exact llX0_asks_90 o og hf_N l0 l1 l2 l3 x3 (6 : Int32) g17
theorem mtX0_asks {gs : hf_gs} (l0 : Nat) (l1 : Nat) (l2 : Int32) (l3 : Int32) (V0 V1 : hf_H) (e : spX0_asks l0 l1 l2 l3 V0 = some V1) : hf_ConG gs yX0_asks cX0_asks 6 (none) 6 136 [.ref l0, .ref l1, .int l2, .int l3] V0 (.returned none, V1) := hf_entryG (dec := hf_dHV) (by decide) [.ref l0, .ref l1, .int l2, .int l3] (Nat.le_of_ble_eq_true rfl) [(0, .ref l0), (1, .ref l1), (2, .int l2), (3, .int l3)] rfl e (fun C o og _ => jtX0_asks o og l0 l1 l2 l3 V0)

/-! X0_wanted -/
theorem mvX0_316 : hf_MV RX0 316 RX0 yX0_asks cX0_asks 6 (none) 3 := ⟨lw_V q1181 q1183 qs50 q153 q1184, by decide +kernel⟩
theorem mvX0_320 : hf_MV RX0 320 RX8 yX8_sum cX8_sum 4 (some .long) 2 := ⟨lw_V q1198 q1199 q1200 q176 q1201, by decide +kernel⟩
def ndX0_wanted_73 (k9 : Nat → Nat → Int32 → Nat → Int32 → Int64 → Int32 → hf_H → Option (Int32 × hf_H)) (l0 : Nat) (l1 : Nat) (l2 : Int32) (l3 : Nat) (l4 : Int32) (l5 : Int64) (l7 : Int32) (V0 : hf_H) : Option (Int32 × hf_H) :=
  hf_let (l7 + (1 : Int32)) fun x1 =>
  k9 l0 l1 l2 l3 l4 l5 x1 V0
theorem nlX0_wanted_73 {C : hf_X} {gs : hf_gs} (o : hf_In C cX0_wanted RX0 10 (some .int) 131 3269) (og : hf_G C gs) (k9 : Nat → Nat → Int32 → Nat → Int32 → Int64 → Int32 → hf_H → Option (Int32 × hf_H)) (hk9 : ∀ (l0 : Nat) (l1 : Nat) (l2 : Int32) (l3 : Nat) (l4 : Int32) (l5 : Int64) (l7 : Int32) (V0 : hf_H), hf_J C hf_dHI (k9 l0 l1 l2 l3 l4 l5 l7 V0) V0 9 [(0, .ref l0), (1, .ref l1), (2, .int l2), (3, .ref l3), (4, .int l4), (5, .long l5), (7, .int l7)] []) (l0 : Nat) (l1 : Nat) (l2 : Int32) (l3 : Nat) (l4 : Int32) (l5 : Int64) (l7 : Int32) (V0 : hf_H) : hf_J C hf_dHI (ndX0_wanted_73 k9 l0 l1 l2 l3 l4 l5 l7 V0) V0 73 [(0, .ref l0), (1, .ref l1), (2, .int l2), (3, .ref l3), (4, .int l4), (5, .long l5), (7, .int l7)] [] := by
  refine hr_iincN o (1 : Int32) 6 (fun y => [(7, .int y), (0, .ref l0), (1, .ref l1), (2, .int l2), (3, .ref l3), (4, .int l4), (5, .long l5)]) dX0_wanted_73 rfl (by decide) (by decide) (fun y => rfl) (fun x1 => ?_)
  refine hr_goto o 9 dX0_wanted_76 (by decide) ?_
  refine hr_sub [1, 2, 3, 4, 5, 6, 0] rfl ?_
  exact hk9 l0 l1 l2 l3 l4 l5 x1 V0
def ndX0_wanted_9 (k9 : Nat → Nat → Int32 → Nat → Int32 → Int64 → Int32 → hf_H → Option (Int32 × hf_H)) (l0 : Nat) (l1 : Nat) (l2 : Int32) (l3 : Nat) (l4 : Int32) (l5 : Int64) (l7 : Int32) (V0 : hf_H) : Option (Int32 × hf_H) :=
  (hf_ob 1 0 V0 l0).bind fun _ =>
  hf_b2 (spX0_many l0 V0) fun x2 g1 =>
  if x2 ≤ l7 then (some (l4, g1)) else
  (hf_ga 1 0 0 g1 l0).bind fun x3 =>
  (hf_ob 1 2 g1 l1).bind fun _ =>
  hf_b2 (spX2_canBuy l1 x3 l2 l7 g1) fun x5 g4 =>
  if x5 = 0 then (ndX0_wanted_73 k9 l0 l1 l2 l3 l4 l5 l7 g4) else
  (hf_ob 1 0 g4 l0).bind fun _ =>
  (spX0_asks l0 l1 l2 l7 g4).bind fun g6 =>
  (hf_ob 1 0 g6 l0).bind fun _ =>
  (hf_ob 0 8 g6 l3).bind fun _ =>
  hf_b2 (spX8_sum l3 (1 : Int32) l0 g6) fun x8 g7 =>
  if 0 < (lg_cmp x8 l5) then (ndX0_wanted_73 k9 l0 l1 l2 l3 l7 x8 l7 g7) else
  ndX0_wanted_73 k9 l0 l1 l2 l3 l4 l5 l7 g7
theorem nlX0_wanted_9 {C : hf_X} {gs : hf_gs} (o : hf_In C cX0_wanted RX0 10 (some .int) 131 3269) (og : hf_G C gs) (k9 : Nat → Nat → Int32 → Nat → Int32 → Int64 → Int32 → hf_H → Option (Int32 × hf_H)) (hk9 : ∀ (l0 : Nat) (l1 : Nat) (l2 : Int32) (l3 : Nat) (l4 : Int32) (l5 : Int64) (l7 : Int32) (V0 : hf_H), hf_J C hf_dHI (k9 l0 l1 l2 l3 l4 l5 l7 V0) V0 9 [(0, .ref l0), (1, .ref l1), (2, .int l2), (3, .ref l3), (4, .int l4), (5, .long l5), (7, .int l7)] []) (l0 : Nat) (l1 : Nat) (l2 : Int32) (l3 : Nat) (l4 : Int32) (l5 : Int64) (l7 : Int32) (V0 : hf_H) : hf_J C hf_dHI (ndX0_wanted_9 k9 l0 l1 l2 l3 l4 l5 l7 V0) V0 9 [(0, .ref l0), (1, .ref l1), (2, .int l2), (3, .ref l3), (4, .int l4), (5, .long l5), (7, .int l7)] [] := by
  refine hr_iload o 6 dX0_wanted_9 rfl ?_
  refine hr_aload_n o 0 dX0_wanted_11 rfl ?_
  refine hx_callVI (q := (RX0, TX0, 23)) o og mvX0_103 dX0_wanted_12 1 0 rfl [] (fun zr zg ze => mtX0_many l0 V0 zr zg ze) rfl rfl (Nat.le_of_ble_eq_true rfl) ⟨by decide, by decide⟩ (fun x2 g1 => ?_)
  refine hr_icmp_ge o 79 dX0_wanted_15 (by decide) (fun _ => ?_) (fun _ => ?_)
  · refine hr_iload o 4 dX0_wanted_79 rfl ?_
    exact hr_iret o dX0_wanted_81 rfl rfl
  refine hr_aload_n o 1 dX0_wanted_18 rfl ?_
  refine hr_aload_n o 0 dX0_wanted_19 rfl ?_
  refine hr_getA (md := 1) o flX0_12 dX0_wanted_20 (fun _ => rfl) (fun x3 => ?_)
  refine hr_iload_n o 2 dX0_wanted_23 rfl ?_
  refine hr_iload o 6 dX0_wanted_24 rfl ?_
  refine hx_callVI (q := (RX2, TX2, 5)) o og mvX0_266 dX0_wanted_26 1 2 rfl [.ref x3, .int l2, .int l7] (fun zr zg ze => mtX2_canBuy l1 x3 l2 l7 g1 zr zg ze) rfl rfl (Nat.le_of_ble_eq_true rfl) ⟨by decide, by decide⟩ (fun x5 g4 => ?_)
  refine hr_if_ne o 35 dX0_wanted_29 (by decide) (fun _ => ?_) (fun _ => ?_)
  · refine hr_goto o 73 dX0_wanted_32 (by decide) ?_
    exact nlX0_wanted_73 o og k9 hk9 l0 l1 l2 l3 l4 l5 l7 g4
  refine hr_aload_n o 0 dX0_wanted_35 rfl ?_
  refine hr_aload_n o 1 dX0_wanted_36 rfl ?_
  refine hr_iload_n o 2 dX0_wanted_37 rfl ?_
  refine hr_iload o 6 dX0_wanted_38 rfl ?_
  refine hx_callVV (q := (RX0, TX0, 23)) o og mvX0_316 dX0_wanted_40 1 0 rfl [.ref l1, .int l2, .int l7] (fun zg ze => mtX0_asks l0 l1 l2 l7 g4 zg ze) rfl rfl (Nat.le_of_ble_eq_true rfl) ⟨by decide, by decide⟩ (fun g6 => ?_)
  refine hr_aload_n o 3 dX0_wanted_43 rfl ?_
  refine hr_iconst o (1 : Int32) dX0_wanted_44 (by decide) ?_
  refine hr_aload_n o 0 dX0_wanted_45 rfl ?_
  refine hr_getO o flX0_72 dX0_wanted_46 126 (fun _ => rfl) (fun _ _ => ?_)
  refine hx_callVL (q := (RX8, TX8, 1)) o og mvX0_320 dX0_wanted_49 0 8 rfl [.int (1 : Int32), .ref (l0 + 126)] (fun zr zg ze => mtX8_sum l3 (1 : Int32) l0 g6 zr zg ze) rfl rfl (Nat.le_of_ble_eq_true rfl) ⟨by decide, by decide⟩ (fun x8 g7 => ?_)
  refine hr_lstore o [(8, .long x8), (0, .ref l0), (1, .ref l1), (2, .int l2), (3, .ref l3), (4, .int l4), (5, .long l5), (7, .int l7)] dX0_wanted_52 (by decide) rfl ?_
  refine hr_lload o 0 dX0_wanted_54 rfl ?_
  refine hr_lload o 6 dX0_wanted_56 rfl ?_
  refine hr_lcmp o dX0_wanted_58 ?_
  refine hr_if_gt o 65 dX0_wanted_59 (by decide) (fun _ => ?_) (fun _ => ?_)
  · refine hr_iload o 7 dX0_wanted_65 rfl ?_
    refine hr_istore o [(4, .int l7), (8, .long x8), (0, .ref l0), (1, .ref l1), (2, .int l2), (3, .ref l3), (5, .long l5), (7, .int l7)] dX0_wanted_67 (by decide) rfl ?_
    refine hr_lload o 1 dX0_wanted_69 rfl ?_
    refine hr_lstore o [(5, .long x8), (4, .int l7), (8, .long x8), (0, .ref l0), (1, .ref l1), (2, .int l2), (3, .ref l3), (7, .int l7)] dX0_wanted_71 (by decide) rfl ?_
    refine hr_sub [3, 4, 5, 6, 1, 0, 7] rfl ?_
    exact nlX0_wanted_73 o og k9 hk9 l0 l1 l2 l3 l7 x8 l7 g7
  refine hr_goto o 73 dX0_wanted_62 (by decide) ?_
  refine hr_sub [1, 2, 3, 4, 5, 6, 7] rfl ?_
  exact nlX0_wanted_73 o og k9 hk9 l0 l1 l2 l3 l4 l5 l7 g7
def lpX0_wanted_9  : Nat → Nat → Nat → Int32 → Nat → Int32 → Int64 → Int32 → hf_H → Option (Int32 × hf_H)
  | 0 => fun _ _ _ _ _ _ _ _ => none
  | n + 1 => fun l0 l1 l2 l3 l4 l5 l7 V0 => ndX0_wanted_9  (lpX0_wanted_9  n) l0 l1 l2 l3 l4 l5 l7 V0
theorem llX0_wanted_9 {C : hf_X} {gs : hf_gs} (o : hf_In C cX0_wanted RX0 10 (some .int) 131 3269) (og : hf_G C gs)   (n : Nat) : ∀ (l0 : Nat) (l1 : Nat) (l2 : Int32) (l3 : Nat) (l4 : Int32) (l5 : Int64) (l7 : Int32) (V0 : hf_H), hf_J C hf_dHI ((lpX0_wanted_9  n) l0 l1 l2 l3 l4 l5 l7 V0) V0 9 [(0, .ref l0), (1, .ref l1), (2, .int l2), (3, .ref l3), (4, .int l4), (5, .long l5), (7, .int l7)] [] := by
  induction n with
  | zero => exact fun _ _ _ _ _ _ _ _ => hr_none
  | succ n ih => exact fun l0 l1 l2 l3 l4 l5 l7 V0 => nlX0_wanted_9 o og  (lpX0_wanted_9  n)  ih l0 l1 l2 l3 l4 l5 l7 V0
def spX0_wanted (l0 : Nat) (l1 : Nat) (l2 : Int32) (l3 : Nat) (V0 : hf_H) : Option (Int32 × hf_H) :=
  lpX0_wanted_9 hf_N l0 l1 l2 l3 (-1 : Int32) (0 : Int64) (0 : Int32) V0
theorem jtX0_wanted {C : hf_X} {gs : hf_gs} (o : hf_In C cX0_wanted RX0 10 (some .int) 131 3269) (og : hf_G C gs) (l0 : Nat) (l1 : Nat) (l2 : Int32) (l3 : Nat) (V0 : hf_H) : hf_J C hf_dHI (spX0_wanted l0 l1 l2 l3 V0) V0 0 [(0, .ref l0), (1, .ref l1), (2, .int l2), (3, .ref l3)] [] := by
  refine hr_iconst o (-1 : Int32) dX0_wanted_0 (by decide) ?_
  refine hr_istore o [(4, .int (-1 : Int32)), (0, .ref l0), (1, .ref l1), (2, .int l2), (3, .ref l3)] dX0_wanted_1 (by decide) rfl ?_
  refine hr_lconst o (0 : Int64) dX0_wanted_3 (by decide) ?_
  refine hr_lstore o [(5, .long (0 : Int64)), (4, .int (-1 : Int32)), (0, .ref l0), (1, .ref l1), (2, .int l2), (3, .ref l3)] dX0_wanted_4 (by decide) rfl ?_
  refine hr_iconst o (0 : Int32) dX0_wanted_6 (by decide) ?_
  refine hr_istore o [(7, .int (0 : Int32)), (5, .long (0 : Int64)), (4, .int (-1 : Int32)), (0, .ref l0), (1, .ref l1), (2, .int l2), (3, .ref l3)] dX0_wanted_7 (by decide) rfl ?_
  refine hr_sub [3, 4, 5, 6, 2, 1, 0] rfl ?_
  exact llX0_wanted_9 o og hf_N l0 l1 l2 l3 (-1 : Int32) (0 : Int64) (0 : Int32) V0
theorem mtX0_wanted {gs : hf_gs} (l0 : Nat) (l1 : Nat) (l2 : Int32) (l3 : Nat) (V0 : hf_H) (r : Int32) (V1 : hf_H) (e : spX0_wanted l0 l1 l2 l3 V0 = some (r, V1)) : hf_ConG gs yX0_wanted cX0_wanted 10 (some .int) 131 3269 [.ref l0, .ref l1, .int l2, .ref l3] V0 (.returned (some (.int r)), V1) := hf_entryG (dec := hf_dHI) (by decide) [.ref l0, .ref l1, .int l2, .ref l3] (Nat.le_of_ble_eq_true rfl) [(0, .ref l0), (1, .ref l1), (2, .int l2), (3, .ref l3)] rfl e (fun C o og _ => jtX0_wanted o og l0 l1 l2 l3 V0)

/-! X0_buysBy -/
theorem mvX0_326 : hf_MV RX0 326 RX0 yX0_wanted cX0_wanted 10 (some .int) 3 := ⟨lw_V q1177 q1179 qs49 q153 q1180, by decide +kernel⟩
def ndX0_buysBy_12 (k12 : Nat → Nat → Int32 → Nat → Int32 → Int32 → hf_H → Option (Int32 × hf_H)) (l0 : Nat) (l1 : Nat) (l2 : Int32) (l3 : Nat) (l4 : Int32) (l5 : Int32) (V0 : hf_H) : Option (Int32 × hf_H) :=
  if l5 = (-1 : Int32) then (some (l4, V0)) else
  (hf_ga 1 0 0 V0 l0).bind fun x1 =>
  (hf_ob 1 2 V0 l1).bind fun _ =>
  (spX2_buys l1 x1 l2 l5 V0).bind fun g2 =>
  hf_let (l4 ||| ((1 : Int32) <<< (l5 &&& 31))) fun x3 =>
  (hf_ob 1 0 g2 l0).bind fun _ =>
  hf_b2 (spX0_wanted l0 l1 l2 l3 g2) fun x5 g4 =>
  k12 l0 l1 l2 l3 x3 x5 g4
theorem nlX0_buysBy_12 {C : hf_X} {gs : hf_gs} (o : hf_In C cX0_buysBy RX0 6 (some .int) 132 3298) (og : hf_G C gs) (k12 : Nat → Nat → Int32 → Nat → Int32 → Int32 → hf_H → Option (Int32 × hf_H)) (hk12 : ∀ (l0 : Nat) (l1 : Nat) (l2 : Int32) (l3 : Nat) (l4 : Int32) (l5 : Int32) (V0 : hf_H), hf_J C hf_dHI (k12 l0 l1 l2 l3 l4 l5 V0) V0 12 [(0, .ref l0), (1, .ref l1), (2, .int l2), (3, .ref l3), (4, .int l4), (5, .int l5)] []) (l0 : Nat) (l1 : Nat) (l2 : Int32) (l3 : Nat) (l4 : Int32) (l5 : Int32) (V0 : hf_H) : hf_J C hf_dHI (ndX0_buysBy_12 k12 l0 l1 l2 l3 l4 l5 V0) V0 12 [(0, .ref l0), (1, .ref l1), (2, .int l2), (3, .ref l3), (4, .int l4), (5, .int l5)] [] := by
  refine hr_iload o 5 dX0_buysBy_12 rfl ?_
  refine hr_iconst o (-1 : Int32) dX0_buysBy_14 (by decide) ?_
  refine hr_icmp_eq o 50 dX0_buysBy_15 (by decide) (fun _ => ?_) (fun _ => ?_)
  · refine hr_iload o 4 dX0_buysBy_50 rfl ?_
    exact hr_iret o dX0_buysBy_52 rfl rfl
  refine hr_aload_n o 1 dX0_buysBy_18 rfl ?_
  refine hr_aload_n o 0 dX0_buysBy_19 rfl ?_
  refine hr_getA (md := 1) o flX0_12 dX0_buysBy_20 (fun _ => rfl) (fun x1 => ?_)
  refine hr_iload_n o 2 dX0_buysBy_23 rfl ?_
  refine hr_iload o 5 dX0_buysBy_24 rfl ?_
  refine hx_callVV (q := (RX2, TX2, 5)) o og mvX0_270 dX0_buysBy_26 1 2 rfl [.ref x1, .int l2, .int l5] (fun zg ze => mtX2_buys l1 x1 l2 l5 V0 zg ze) rfl rfl (Nat.le_of_ble_eq_true rfl) ⟨by decide, by decide⟩ (fun g2 => ?_)
  refine hr_iload o 4 dX0_buysBy_29 rfl ?_
  refine hr_iconst o (1 : Int32) dX0_buysBy_31 (by decide) ?_
  refine hr_iload o 5 dX0_buysBy_32 rfl ?_
  refine hr_ishl o dX0_buysBy_34 ?_
  refine hr_ior o dX0_buysBy_35 ?_
  refine hr_nmI (fun x3 => ?_)
  refine hr_istore o [(4, .int x3), (0, .ref l0), (1, .ref l1), (2, .int l2), (3, .ref l3), (5, .int l5)] dX0_buysBy_36 (by decide) rfl ?_
  refine hr_aload_n o 1 dX0_buysBy_38 rfl ?_
  refine hr_aload_n o 2 dX0_buysBy_39 rfl ?_
  refine hr_iload_n o 3 dX0_buysBy_40 rfl ?_
  refine hr_aload_n o 4 dX0_buysBy_41 rfl ?_
  refine hx_callVI (q := (RX0, TX0, 23)) o og mvX0_326 dX0_buysBy_42 1 0 rfl [.ref l1, .int l2, .ref l3] (fun zr zg ze => mtX0_wanted l0 l1 l2 l3 g2 zr zg ze) rfl rfl (Nat.le_of_ble_eq_true rfl) ⟨by decide, by decide⟩ (fun x5 g4 => ?_)
  refine hr_istore o [(5, .int x5), (4, .int x3), (0, .ref l0), (1, .ref l1), (2, .int l2), (3, .ref l3)] dX0_buysBy_45 (by decide) rfl ?_
  refine hr_goto o 12 dX0_buysBy_47 (by decide) ?_
  refine hr_sub [2, 3, 4, 5, 1, 0] rfl ?_
  exact hk12 l0 l1 l2 l3 x3 x5 g4
def lpX0_buysBy_12  : Nat → Nat → Nat → Int32 → Nat → Int32 → Int32 → hf_H → Option (Int32 × hf_H)
  | 0 => fun _ _ _ _ _ _ _ => none
  | n + 1 => fun l0 l1 l2 l3 l4 l5 V0 => ndX0_buysBy_12  (lpX0_buysBy_12  n) l0 l1 l2 l3 l4 l5 V0
theorem llX0_buysBy_12 {C : hf_X} {gs : hf_gs} (o : hf_In C cX0_buysBy RX0 6 (some .int) 132 3298) (og : hf_G C gs)   (n : Nat) : ∀ (l0 : Nat) (l1 : Nat) (l2 : Int32) (l3 : Nat) (l4 : Int32) (l5 : Int32) (V0 : hf_H), hf_J C hf_dHI ((lpX0_buysBy_12  n) l0 l1 l2 l3 l4 l5 V0) V0 12 [(0, .ref l0), (1, .ref l1), (2, .int l2), (3, .ref l3), (4, .int l4), (5, .int l5)] [] := by
  induction n with
  | zero => exact fun _ _ _ _ _ _ _ => hr_none
  | succ n ih => exact fun l0 l1 l2 l3 l4 l5 V0 => nlX0_buysBy_12 o og  (lpX0_buysBy_12  n)  ih l0 l1 l2 l3 l4 l5 V0
def spX0_buysBy (l0 : Nat) (l1 : Nat) (l2 : Int32) (l3 : Nat) (V0 : hf_H) : Option (Int32 × hf_H) :=
  (hf_ob 1 0 V0 l0).bind fun _ =>
  hf_b2 (spX0_wanted l0 l1 l2 l3 V0) fun x2 g1 =>
  lpX0_buysBy_12 hf_N l0 l1 l2 l3 (0 : Int32) x2 g1
theorem jtX0_buysBy {C : hf_X} {gs : hf_gs} (o : hf_In C cX0_buysBy RX0 6 (some .int) 132 3298) (og : hf_G C gs) (l0 : Nat) (l1 : Nat) (l2 : Int32) (l3 : Nat) (V0 : hf_H) : hf_J C hf_dHI (spX0_buysBy l0 l1 l2 l3 V0) V0 0 [(0, .ref l0), (1, .ref l1), (2, .int l2), (3, .ref l3)] [] := by
  refine hr_iconst o (0 : Int32) dX0_buysBy_0 (by decide) ?_
  refine hr_istore o [(4, .int (0 : Int32)), (0, .ref l0), (1, .ref l1), (2, .int l2), (3, .ref l3)] dX0_buysBy_1 (by decide) rfl ?_
  refine hr_aload_n o 1 dX0_buysBy_3 rfl ?_
  refine hr_aload_n o 2 dX0_buysBy_4 rfl ?_
  refine hr_iload_n o 3 dX0_buysBy_5 rfl ?_
  refine hr_aload_n o 4 dX0_buysBy_6 rfl ?_
  refine hx_callVI (q := (RX0, TX0, 23)) o og mvX0_326 dX0_buysBy_7 1 0 rfl [.ref l1, .int l2, .ref l3] (fun zr zg ze => mtX0_wanted l0 l1 l2 l3 V0 zr zg ze) rfl rfl (Nat.le_of_ble_eq_true rfl) ⟨by decide, by decide⟩ (fun x2 g1 => ?_)
  refine hr_istore o [(5, .int x2), (4, .int (0 : Int32)), (0, .ref l0), (1, .ref l1), (2, .int l2), (3, .ref l3)] dX0_buysBy_10 (by decide) rfl ?_
  refine hr_sub [2, 3, 4, 5, 1, 0] rfl ?_
  exact llX0_buysBy_12 o og hf_N l0 l1 l2 l3 (0 : Int32) x2 g1
theorem mtX0_buysBy {gs : hf_gs} (l0 : Nat) (l1 : Nat) (l2 : Int32) (l3 : Nat) (V0 : hf_H) (r : Int32) (V1 : hf_H) (e : spX0_buysBy l0 l1 l2 l3 V0 = some (r, V1)) : hf_ConG gs yX0_buysBy cX0_buysBy 6 (some .int) 132 3298 [.ref l0, .ref l1, .int l2, .ref l3] V0 (.returned (some (.int r)), V1) := hf_entryG (dec := hf_dHI) (by decide) [.ref l0, .ref l1, .int l2, .ref l3] (Nat.le_of_ble_eq_true rfl) [(0, .ref l0), (1, .ref l1), (2, .int l2), (3, .ref l3)] rfl e (fun C o og _ => jtX0_buysBy o og l0 l1 l2 l3 V0)

/-! X0_wayBy -/
def ndX0_wayBy_34  (l4 : Int64) (V0 : hf_H) : Option (Int32 × hf_H) :=
  some ((Int64.toInt32 l4), V0)
theorem nlX0_wayBy_34 {C : hf_X} {gs : hf_gs} (o : hf_In C cX0_wayBy RX0 6 (some .int) 131 3269) (og : hf_G C gs)   (l4 : Int64) (V0 : hf_H) : hf_J C hf_dHI (ndX0_wayBy_34 l4 V0) V0 34 [(4, .long l4)] [] := by
  refine hr_lload o 0 dX0_wayBy_34 rfl ?_
  refine hr_l2i o dX0_wayBy_36 ?_
  refine hr_goto o 41 dX0_wayBy_37 (by decide) ?_
  exact hr_iret o dX0_wayBy_41 rfl rfl
def spX0_wayBy (l0 : Nat) (l1 : Nat) (l2 : Int32) (l3 : Nat) (V0 : hf_H) : Option (Int32 × hf_H) :=
  (hf_ob 1 0 V0 l0).bind fun _ =>
  (spX0_asks l0 l1 l2 (-1 : Int32) V0).bind fun g1 =>
  (hf_ob 1 0 g1 l0).bind fun _ =>
  (hf_ob 0 8 g1 l3).bind fun _ =>
  hf_b2 (spX8_sum l3 (0 : Int32) l0 g1) fun x3 g2 =>
  if (lg_cmp x3 (1 : Int64)) = 0 then (ndX0_wayBy_34 x3 g2) else
  if (lg_cmp x3 (-1 : Int64)) = 0 then (ndX0_wayBy_34 x3 g2) else
  some ((0 : Int32), g2)
theorem jtX0_wayBy {C : hf_X} {gs : hf_gs} (o : hf_In C cX0_wayBy RX0 6 (some .int) 131 3269) (og : hf_G C gs) (l0 : Nat) (l1 : Nat) (l2 : Int32) (l3 : Nat) (V0 : hf_H) : hf_J C hf_dHI (spX0_wayBy l0 l1 l2 l3 V0) V0 0 [(0, .ref l0), (1, .ref l1), (2, .int l2), (3, .ref l3)] [] := by
  refine hr_aload_n o 0 dX0_wayBy_0 rfl ?_
  refine hr_aload_n o 1 dX0_wayBy_1 rfl ?_
  refine hr_iload_n o 2 dX0_wayBy_2 rfl ?_
  refine hr_iconst o (-1 : Int32) dX0_wayBy_3 (by decide) ?_
  refine hx_callVV (q := (RX0, TX0, 23)) o og mvX0_316 dX0_wayBy_4 1 0 rfl [.ref l1, .int l2, .int (-1 : Int32)] (fun zg ze => mtX0_asks l0 l1 l2 (-1 : Int32) V0 zg ze) rfl rfl (Nat.le_of_ble_eq_true rfl) ⟨by decide, by decide⟩ (fun g1 => ?_)
  refine hr_aload_n o 3 dX0_wayBy_7 rfl ?_
  refine hr_iconst o (0 : Int32) dX0_wayBy_8 (by decide) ?_
  refine hr_aload_n o 0 dX0_wayBy_9 rfl ?_
  refine hr_getO o flX0_72 dX0_wayBy_10 126 (fun _ => rfl) (fun _ _ => ?_)
  refine hx_callVL (q := (RX8, TX8, 1)) o og mvX0_320 dX0_wayBy_13 0 8 rfl [.int (0 : Int32), .ref (l0 + 126)] (fun zr zg ze => mtX8_sum l3 (0 : Int32) l0 g1 zr zg ze) rfl rfl (Nat.le_of_ble_eq_true rfl) ⟨by decide, by decide⟩ (fun x3 g2 => ?_)
  refine hr_lstore o [(4, .long x3), (0, .ref l0), (1, .ref l1), (2, .int l2), (3, .ref l3)] dX0_wayBy_16 (by decide) rfl ?_
  refine hr_lload o 0 dX0_wayBy_18 rfl ?_
  refine hr_lconst o (1 : Int64) dX0_wayBy_20 (by decide) ?_
  refine hr_lcmp o dX0_wayBy_21 ?_
  refine hr_if_eq o 34 dX0_wayBy_22 (by decide) (fun _ => ?_) (fun _ => ?_)
  · refine hr_sub [0] rfl ?_
    exact nlX0_wayBy_34 o og x3 g2
  refine hr_lload o 0 dX0_wayBy_25 rfl ?_
  refine hr_ldc2 o (-1 : Int64) q1095 dX0_wayBy_27 ?_
  refine hr_lcmp o dX0_wayBy_30 ?_
  refine hr_if_ne o 40 dX0_wayBy_31 (by decide) (fun _ => ?_) (fun _ => ?_)
  · refine hr_sub [0] rfl ?_
    exact nlX0_wayBy_34 o og x3 g2
  refine hr_iconst o (0 : Int32) dX0_wayBy_40 (by decide) ?_
  exact hr_iret o dX0_wayBy_41 rfl rfl
theorem mtX0_wayBy {gs : hf_gs} (l0 : Nat) (l1 : Nat) (l2 : Int32) (l3 : Nat) (V0 : hf_H) (r : Int32) (V1 : hf_H) (e : spX0_wayBy l0 l1 l2 l3 V0 = some (r, V1)) : hf_ConG gs yX0_wayBy cX0_wayBy 6 (some .int) 131 3269 [.ref l0, .ref l1, .int l2, .ref l3] V0 (.returned (some (.int r)), V1) := hf_entryG (dec := hf_dHI) (by decide) [.ref l0, .ref l1, .int l2, .ref l3] (Nat.le_of_ble_eq_true rfl) [(0, .ref l0), (1, .ref l1), (2, .int l2), (3, .ref l3)] rfl e (fun C o og _ => jtX0_wayBy o og l0 l1 l2 l3 V0)

/-! X0_hourBy -/
theorem mvX0_330 : hf_MV RX0 330 RX0 yX0_buysBy cX0_buysBy 6 (some .int) 3 := ⟨lw_V q1173 q1175 qs48 q153 q1176, by decide +kernel⟩
theorem mvX0_333 : hf_MV RX0 333 RX0 yX0_wayBy cX0_wayBy 6 (some .int) 3 := ⟨lw_V q1237 q1239 qs52 q153 q1240, by decide +kernel⟩
def ndX0_hourBy_5 (k5 : Nat → Nat → Nat → Int32 → Int32 → hf_H → Option (Int32 × hf_H)) (l0 : Nat) (l1 : Nat) (l2 : Nat) (l3 : Int32) (l4 : Int32) (V0 : hf_H) : Option (Int32 × hf_H) :=
  (hf_ob 1 0 V0 l0).bind fun _ =>
  hf_b2 (spX0_buyers l0 V0) fun x2 g1 =>
  if x2 ≤ l4 then ((hf_ga 1 0 0 g1 l0).bind fun x3 =>
  (hf_ob 1 2 g1 l1).bind fun _ =>
  (spX2_passes l1 x3 g1).bind fun g4 =>
  some (l3, g4)) else
  (hf_ob 1 0 g1 l0).bind fun _ =>
  hf_b2 (spX0_buysBy l0 l1 l4 l2 g1) fun x6 g5 =>
  hf_let (l3 ||| x6) fun x7 =>
  (hf_ga 1 0 0 g5 l0).bind fun x8 =>
  (hf_ob 1 0 g5 l0).bind fun _ =>
  hf_b2 (spX0_wayBy l0 l1 l4 l2 g5) fun x10 g9 =>
  (hf_ob 1 2 g9 l1).bind fun _ =>
  (spX2_goes l1 x8 l4 x10 g9).bind fun g11 =>
  hf_let (l4 + (1 : Int32)) fun x12 =>
  k5 l0 l1 l2 x7 x12 g11
theorem nlX0_hourBy_5 {C : hf_X} {gs : hf_gs} (o : hf_In C cX0_hourBy RX0 5 (some .int) 133 3323) (og : hf_G C gs) (k5 : Nat → Nat → Nat → Int32 → Int32 → hf_H → Option (Int32 × hf_H)) (hk5 : ∀ (l0 : Nat) (l1 : Nat) (l2 : Nat) (l3 : Int32) (l4 : Int32) (V0 : hf_H), hf_J C hf_dHI (k5 l0 l1 l2 l3 l4 V0) V0 5 [(0, .ref l0), (1, .ref l1), (2, .ref l2), (3, .int l3), (4, .int l4)] []) (l0 : Nat) (l1 : Nat) (l2 : Nat) (l3 : Int32) (l4 : Int32) (V0 : hf_H) : hf_J C hf_dHI (ndX0_hourBy_5 k5 l0 l1 l2 l3 l4 V0) V0 5 [(0, .ref l0), (1, .ref l1), (2, .ref l2), (3, .int l3), (4, .int l4)] [] := by
  refine hr_iload o 4 dX0_hourBy_5 rfl ?_
  refine hr_aload_n o 0 dX0_hourBy_7 rfl ?_
  refine hx_callVI (q := (RX0, TX0, 23)) o og mvX0_110 dX0_hourBy_8 1 0 rfl [] (fun zr zg ze => mtX0_buyers l0 V0 zr zg ze) rfl rfl (Nat.le_of_ble_eq_true rfl) ⟨by decide, by decide⟩ (fun x2 g1 => ?_)
  refine hr_icmp_ge o 49 dX0_hourBy_11 (by decide) (fun _ => ?_) (fun _ => ?_)
  · refine hr_aload_n o 1 dX0_hourBy_49 rfl ?_
    refine hr_aload_n o 0 dX0_hourBy_50 rfl ?_
    refine hr_getA (md := 1) o flX0_12 dX0_hourBy_51 (fun _ => rfl) (fun x3 => ?_)
    refine hx_callVV (q := (RX2, TX2, 5)) o og mvX0_263 dX0_hourBy_54 1 2 rfl [.ref x3] (fun zg ze => mtX2_passes l1 x3 g1 zg ze) rfl rfl (Nat.le_of_ble_eq_true rfl) ⟨by decide, by decide⟩ (fun g4 => ?_)
    refine hr_iload_n o 3 dX0_hourBy_57 rfl ?_
    exact hr_iret o dX0_hourBy_58 rfl rfl
  refine hr_iload_n o 3 dX0_hourBy_14 rfl ?_
  refine hr_aload_n o 0 dX0_hourBy_15 rfl ?_
  refine hr_aload_n o 1 dX0_hourBy_16 rfl ?_
  refine hr_iload o 4 dX0_hourBy_17 rfl ?_
  refine hr_aload_n o 2 dX0_hourBy_19 rfl ?_
  refine hx_callVI (q := (RX0, TX0, 23)) o og mvX0_330 dX0_hourBy_20 1 0 rfl [.ref l1, .int l4, .ref l2] (fun zr zg ze => mtX0_buysBy l0 l1 l4 l2 g1 zr zg ze) rfl rfl (Nat.le_of_ble_eq_true rfl) ⟨by decide, by decide⟩ (fun x6 g5 => ?_)
  refine hr_ior o dX0_hourBy_23 ?_
  refine hr_nmI (fun x7 => ?_)
  refine hr_istore_n o [(3, .int x7), (0, .ref l0), (1, .ref l1), (2, .ref l2), (4, .int l4)] dX0_hourBy_24 (by decide) rfl ?_
  refine hr_aload_n o 2 dX0_hourBy_25 rfl ?_
  refine hr_aload_n o 1 dX0_hourBy_26 rfl ?_
  refine hr_getA (md := 1) o flX0_12 dX0_hourBy_27 (fun _ => rfl) (fun x8 => ?_)
  refine hr_iload o 4 dX0_hourBy_30 rfl ?_
  refine hr_aload_n o 1 dX0_hourBy_32 rfl ?_
  refine hr_aload_n o 2 dX0_hourBy_33 rfl ?_
  refine hr_iload o 4 dX0_hourBy_34 rfl ?_
  refine hr_aload_n o 3 dX0_hourBy_36 rfl ?_
  refine hx_callVI (q := (RX0, TX0, 23)) o og mvX0_333 dX0_hourBy_37 1 0 rfl [.ref l1, .int l4, .ref l2] (fun zr zg ze => mtX0_wayBy l0 l1 l4 l2 g5 zr zg ze) rfl rfl (Nat.le_of_ble_eq_true rfl) ⟨by decide, by decide⟩ (fun x10 g9 => ?_)
  refine hx_callVV (q := (RX2, TX2, 5)) o og mvX0_259 dX0_hourBy_40 1 2 rfl [.ref x8, .int l4, .int x10] (fun zg ze => mtX2_goes l1 x8 l4 x10 g9 zg ze) rfl rfl (Nat.le_of_ble_eq_true rfl) ⟨by decide, by decide⟩ (fun g11 => ?_)
  refine hr_iincN o (1 : Int32) 4 (fun y => [(4, .int y), (3, .int x7), (0, .ref l0), (1, .ref l1), (2, .ref l2)]) dX0_hourBy_43 rfl (by decide) (by decide) (fun y => rfl) (fun x12 => ?_)
  refine hr_goto o 5 dX0_hourBy_46 (by decide) ?_
  refine hr_sub [2, 3, 4, 1, 0] rfl ?_
  exact hk5 l0 l1 l2 x7 x12 g11
def lpX0_hourBy_5  : Nat → Nat → Nat → Nat → Int32 → Int32 → hf_H → Option (Int32 × hf_H)
  | 0 => fun _ _ _ _ _ _ => none
  | n + 1 => fun l0 l1 l2 l3 l4 V0 => ndX0_hourBy_5  (lpX0_hourBy_5  n) l0 l1 l2 l3 l4 V0
theorem llX0_hourBy_5 {C : hf_X} {gs : hf_gs} (o : hf_In C cX0_hourBy RX0 5 (some .int) 133 3323) (og : hf_G C gs)   (n : Nat) : ∀ (l0 : Nat) (l1 : Nat) (l2 : Nat) (l3 : Int32) (l4 : Int32) (V0 : hf_H), hf_J C hf_dHI ((lpX0_hourBy_5  n) l0 l1 l2 l3 l4 V0) V0 5 [(0, .ref l0), (1, .ref l1), (2, .ref l2), (3, .int l3), (4, .int l4)] [] := by
  induction n with
  | zero => exact fun _ _ _ _ _ _ => hr_none
  | succ n ih => exact fun l0 l1 l2 l3 l4 V0 => nlX0_hourBy_5 o og  (lpX0_hourBy_5  n)  ih l0 l1 l2 l3 l4 V0
def spX0_hourBy (l0 : Nat) (l1 : Nat) (l2 : Nat) (V0 : hf_H) : Option (Int32 × hf_H) :=
  lpX0_hourBy_5 hf_N l0 l1 l2 (0 : Int32) (0 : Int32) V0
theorem jtX0_hourBy {C : hf_X} {gs : hf_gs} (o : hf_In C cX0_hourBy RX0 5 (some .int) 133 3323) (og : hf_G C gs) (l0 : Nat) (l1 : Nat) (l2 : Nat) (V0 : hf_H) : hf_J C hf_dHI (spX0_hourBy l0 l1 l2 V0) V0 0 [(0, .ref l0), (1, .ref l1), (2, .ref l2)] [] := by
  refine hr_iconst o (0 : Int32) dX0_hourBy_0 (by decide) ?_
  refine hr_istore_n o [(3, .int (0 : Int32)), (0, .ref l0), (1, .ref l1), (2, .ref l2)] dX0_hourBy_1 (by decide) rfl ?_
  refine hr_iconst o (0 : Int32) dX0_hourBy_2 (by decide) ?_
  refine hr_istore o [(4, .int (0 : Int32)), (3, .int (0 : Int32)), (0, .ref l0), (1, .ref l1), (2, .ref l2)] dX0_hourBy_3 (by decide) rfl ?_
  refine hr_sub [2, 3, 4, 1, 0] rfl ?_
  exact llX0_hourBy_5 o og hf_N l0 l1 l2 (0 : Int32) (0 : Int32) V0
theorem mtX0_hourBy {gs : hf_gs} (l0 : Nat) (l1 : Nat) (l2 : Nat) (V0 : hf_H) (r : Int32) (V1 : hf_H) (e : spX0_hourBy l0 l1 l2 V0 = some (r, V1)) : hf_ConG gs yX0_hourBy cX0_hourBy 5 (some .int) 133 3323 [.ref l0, .ref l1, .ref l2] V0 (.returned (some (.int r)), V1) := hf_entryG (dec := hf_dHI) (by decide) [.ref l0, .ref l1, .ref l2] (Nat.le_of_ble_eq_true rfl) [(0, .ref l0), (1, .ref l1), (2, .ref l2)] rfl e (fun C o og _ => jtX0_hourBy o og l0 l1 l2 V0)

/-! X0_isRule -/
theorem flX0_31 : hf_Fl RX0 31 0 3 := ⟨(RX0, TX0, 23), RX0, rfl, by decide, in_X0, tyX0_ok, nmX0, Or.inl q392, Or.inl rfl⟩
def spX0_isRule (l0 : Nat) (l1 : Int32) (V0 : hf_H) : Option (Int32 × hf_H) :=
  (hf_ga 1 0 3 V0 l0).bind fun x1 =>
  (hf_ob 0 19 V0 x1).bind fun _ =>
  hf_b2 (spJ2_size x1 V0) fun x3 g2 =>
  (spX0_in (Int32.toInt64 l1) (0 : Int64) (Int32.toInt64 (x3 - (1 : Int32)))).bind fun x4 =>
  if x4 = 0 ∨ x4 = 1 then some (x4, g2) else none
theorem jtX0_isRule {C : hf_X} {gs : hf_gs} (o : hf_In C cX0_isRule RX0 2 (some .boolean) 1 25) (og : hf_G C gs) (l0 : Nat) (l1 : Int32) (V0 : hf_H) : hf_J C hf_dHI (spX0_isRule l0 l1 V0) V0 0 [(0, .ref l0), (1, .int l1)] [] := by
  refine hr_iload_n o 1 dX0_isRule_0 rfl ?_
  refine hr_i2l o dX0_isRule_1 ?_
  refine hr_lconst o (0 : Int64) dX0_isRule_2 (by decide) ?_
  refine hr_aload_n o 0 dX0_isRule_3 rfl ?_
  refine hr_getA (md := 1) o flX0_31 dX0_isRule_4 (fun _ => rfl) (fun x1 => ?_)
  refine hx_callVI (q := (RJ2, TJ2, 3)) o og mvX0_96 dX0_isRule_7 0 19 rfl [] (fun zr zg ze => mtJ2_size x1 V0 zr zg ze) rfl rfl (Nat.le_of_ble_eq_true rfl) ⟨by decide, by decide⟩ (fun x3 g2 => ?_)
  refine hr_iconst o (1 : Int32) dX0_isRule_10 (by decide) ?_
  refine hr_isub o dX0_isRule_11 ?_
  refine hr_i2l o dX0_isRule_12 ?_
  refine pr_callI o msX0_106 dX0_isRule_13 [.long (Int32.toInt64 l1), .long (0 : Int64), .long (Int32.toInt64 (x3 - (1 : Int32)))] (fun zr ze => mtX0_in (Int32.toInt64 l1) (0 : Int64) (Int32.toInt64 (x3 - (1 : Int32))) zr ze) rfl rfl (Nat.le_of_ble_eq_true rfl) ⟨by decide, by decide⟩ (fun x4 => ?_)
  refine hr_ck (fun hz => ?_)
  exact hr_iret o dX0_isRule_16 rfl (hf_nz hz)
theorem mtX0_isRule {gs : hf_gs} (l0 : Nat) (l1 : Int32) (V0 : hf_H) (r : Int32) (V1 : hf_H) (e : spX0_isRule l0 l1 V0 = some (r, V1)) : hf_ConG gs yX0_isRule cX0_isRule 2 (some .boolean) 1 25 [.ref l0, .int l1] V0 (.returned (some (.int r)), V1) := hf_entryG (dec := hf_dHI) (by decide) [.ref l0, .int l1] (Nat.le_of_ble_eq_true rfl) [(0, .ref l0), (1, .int l1)] rfl e (fun C o og _ => jtX0_isRule o og l0 l1 V0)

/-! X0_run -/
theorem mvX0_341 : hf_MV RX0 341 RX0 yX0_hourBy cX0_hourBy 5 (some .int) 2 := ⟨lw_V q1169 q1171 qs47 q153 q1172, by decide +kernel⟩
theorem mvX0_336 : hf_MV RX0 336 RX0 yX0_isRule cX0_isRule 2 (some .boolean) 1 := ⟨lw_V q1163 q1165 qs46 q153 q1166, by decide +kernel⟩
theorem mvX0_143 : hf_MV RX0 143 RX0 yX0_forgets cX0_forgets 1 (none) 0 := ⟨lw_V q798 q800 qs19 q153 q801, by decide +kernel⟩
def ndX0_run_49 (k49 : Nat → Int32 → Int32 → Int32 → hf_H → Option (Int32 × hf_H)) (l0 : Nat) (l1 : Int32) (l2 : Int32) (l3 : Int32) (V0 : hf_H) : Option (Int32 × hf_H) :=
  if l2 ≤ l3 then ((hf_ga 1 0 1 V0 l0).bind fun x1 =>
  (hf_gi 1 2 4 V0 x1).bind fun x2 =>
  some (x2, V0)) else
  (hf_ga 1 0 1 V0 l0).bind fun x3 =>
  (hf_ga 1 0 3 V0 l0).bind fun x4 =>
  (hf_ob 0 19 V0 x4).bind fun _ =>
  hf_b2 (spJ2_get x4 l1 V0) fun x6 g5 =>
  (hf_ob 0 8 g5 x6).bind fun _ =>
  (hf_ob 1 0 g5 l0).bind fun _ =>
  hf_b2 (spX0_hourBy l0 x3 x6 g5) fun x8 g7 =>
  hf_let (l3 + (1 : Int32)) fun x9 =>
  k49 l0 l1 l2 x9 g7
theorem nlX0_run_49 {C : hf_X} {gs : hf_gs} (o : hf_In C cX0_run RX0 4 (some .int) 134 3347) (og : hf_G C gs) (k49 : Nat → Int32 → Int32 → Int32 → hf_H → Option (Int32 × hf_H)) (hk49 : ∀ (l0 : Nat) (l1 : Int32) (l2 : Int32) (l3 : Int32) (V0 : hf_H), hf_J C hf_dHI (k49 l0 l1 l2 l3 V0) V0 49 [(0, .ref l0), (1, .int l1), (2, .int l2), (3, .int l3)] []) (l0 : Nat) (l1 : Int32) (l2 : Int32) (l3 : Int32) (V0 : hf_H) : hf_J C hf_dHI (ndX0_run_49 k49 l0 l1 l2 l3 V0) V0 49 [(0, .ref l0), (1, .int l1), (2, .int l2), (3, .int l3)] [] := by
  refine hr_iload_n o 3 dX0_run_49 rfl ?_
  refine hr_iload_n o 2 dX0_run_50 rfl ?_
  refine hr_icmp_ge o 80 dX0_run_51 (by decide) (fun _ => ?_) (fun _ => ?_)
  · refine hr_aload_n o 0 dX0_run_80 rfl ?_
    refine hr_getA (md := 1) o flX0_19 dX0_run_81 (fun _ => rfl) (fun x1 => ?_)
    refine hr_getI (md := 1) o flX0_165 dX0_run_84 (fun _ => rfl) (fun x2 => ?_)
    exact hr_iret o dX0_run_87 rfl rfl
  refine hr_aload_n o 0 dX0_run_54 rfl ?_
  refine hr_aload_n o 0 dX0_run_55 rfl ?_
  refine hr_getA (md := 1) o flX0_19 dX0_run_56 (fun _ => rfl) (fun x3 => ?_)
  refine hr_aload_n o 0 dX0_run_59 rfl ?_
  refine hr_getA (md := 1) o flX0_31 dX0_run_60 (fun _ => rfl) (fun x4 => ?_)
  refine hr_iload_n o 1 dX0_run_63 rfl ?_
  refine hx_callVA (q := (RJ2, TJ2, 3)) o og mvX0_153 dX0_run_64 0 19 rfl [.int l1] (fun zr zg ze => mtJ2_get x4 l1 V0 zr zg ze) rfl rfl (Nat.le_of_ble_eq_true rfl) ⟨by decide, by decide⟩ (fun x6 g5 => ?_)
  refine hx_cast (md := 0) (ci := 8) (q := (RX8, TX8, 1)) o q1168 rfl dX0_run_67 (fun _ => ?_)
  refine hx_callVI (q := (RX0, TX0, 23)) o og mvX0_341 dX0_run_70 1 0 rfl [.ref x3, .ref x6] (fun zr zg ze => mtX0_hourBy l0 x3 x6 g5 zr zg ze) rfl rfl (Nat.le_of_ble_eq_true rfl) ⟨by decide, by decide⟩ (fun x8 g7 => ?_)
  refine hr_pop o dX0_run_73 rfl ?_
  refine hr_iincN o (1 : Int32) 3 (fun y => [(3, .int y), (0, .ref l0), (1, .int l1), (2, .int l2)]) dX0_run_74 rfl (by decide) (by decide) (fun y => rfl) (fun x9 => ?_)
  refine hr_goto o 49 dX0_run_77 (by decide) ?_
  refine hr_sub [1, 2, 3, 0] rfl ?_
  exact hk49 l0 l1 l2 x9 g7
def lpX0_run_49  : Nat → Nat → Int32 → Int32 → Int32 → hf_H → Option (Int32 × hf_H)
  | 0 => fun _ _ _ _ _ => none
  | n + 1 => fun l0 l1 l2 l3 V0 => ndX0_run_49  (lpX0_run_49  n) l0 l1 l2 l3 V0
theorem llX0_run_49 {C : hf_X} {gs : hf_gs} (o : hf_In C cX0_run RX0 4 (some .int) 134 3347) (og : hf_G C gs)   (n : Nat) : ∀ (l0 : Nat) (l1 : Int32) (l2 : Int32) (l3 : Int32) (V0 : hf_H), hf_J C hf_dHI ((lpX0_run_49  n) l0 l1 l2 l3 V0) V0 49 [(0, .ref l0), (1, .int l1), (2, .int l2), (3, .int l3)] [] := by
  induction n with
  | zero => exact fun _ _ _ _ _ => hr_none
  | succ n ih => exact fun l0 l1 l2 l3 V0 => nlX0_run_49 o og  (lpX0_run_49  n)  ih l0 l1 l2 l3 V0
def spX0_run (l0 : Nat) (l1 : Int32) (l2 : Int32) (V0 : hf_H) : Option (Int32 × hf_H) :=
  (hf_ob 1 0 V0 l0).bind fun _ =>
  hf_b2 (spX0_isFair l0 V0) fun x2 g1 =>
  if x2 = 0 then (some ((-1 : Int32), g1)) else
  (hf_ob 1 0 g1 l0).bind fun _ =>
  hf_b2 (spX0_isRule l0 l1 g1) fun x4 g3 =>
  if x4 = 0 then (some ((-1 : Int32), g3)) else
  (spX0_in (Int32.toInt64 l2) (1 : Int64) (48 : Int64)).bind fun x5 =>
  if x5 = 0 then (some ((-1 : Int32), g3)) else
  (hf_ga 1 0 1 g3 l0).bind fun x6 =>
  (hf_gi 1 2 4 g3 x6).bind fun x7 =>
  if (x7 + l2) ≤ (99 : Int32) then ((hf_ob 1 0 g3 l0).bind fun _ =>
  (spX0_forgets l0 g3).bind fun g8 =>
  lpX0_run_49 hf_N l0 l1 l2 (0 : Int32) g8) else
  some ((-1 : Int32), g3)
theorem jtX0_run {C : hf_X} {gs : hf_gs} (o : hf_In C cX0_run RX0 4 (some .int) 134 3347) (og : hf_G C gs) (l0 : Nat) (l1 : Int32) (l2 : Int32) (V0 : hf_H) : hf_J C hf_dHI (spX0_run l0 l1 l2 V0) V0 0 [(0, .ref l0), (1, .int l1), (2, .int l2)] [] := by
  refine hr_aload_n o 0 dX0_run_0 rfl ?_
  refine hx_callVI (q := (RX0, TX0, 23)) o og mvX0_231 dX0_run_1 1 0 rfl [] (fun zr zg ze => mtX0_isFair l0 V0 zr zg ze) rfl rfl (Nat.le_of_ble_eq_true rfl) ⟨by decide, by decide⟩ (fun x2 g1 => ?_)
  refine hr_if_eq o 41 dX0_run_4 (by decide) (fun _ => ?_) (fun _ => ?_)
  · refine hr_iconst o (-1 : Int32) dX0_run_41 (by decide) ?_
    exact hr_iret o dX0_run_42 rfl rfl
  refine hr_aload_n o 0 dX0_run_7 rfl ?_
  refine hr_iload_n o 1 dX0_run_8 rfl ?_
  refine hx_callVI (q := (RX0, TX0, 23)) o og mvX0_336 dX0_run_9 1 0 rfl [.int l1] (fun zr zg ze => mtX0_isRule l0 l1 g1 zr zg ze) rfl rfl (Nat.le_of_ble_eq_true rfl) ⟨by decide, by decide⟩ (fun x4 g3 => ?_)
  refine hr_if_eq o 41 dX0_run_12 (by decide) (fun _ => ?_) (fun _ => ?_)
  · refine hr_iconst o (-1 : Int32) dX0_run_41 (by decide) ?_
    exact hr_iret o dX0_run_42 rfl rfl
  refine hr_iload_n o 2 dX0_run_15 rfl ?_
  refine hr_i2l o dX0_run_16 ?_
  refine hr_lconst o (1 : Int64) dX0_run_17 (by decide) ?_
  refine hr_ldc2 o (48 : Int64) q1167 dX0_run_18 ?_
  refine pr_callI o msX0_106 dX0_run_21 [.long (Int32.toInt64 l2), .long (1 : Int64), .long (48 : Int64)] (fun zr ze => mtX0_in (Int32.toInt64 l2) (1 : Int64) (48 : Int64) zr ze) rfl rfl (Nat.le_of_ble_eq_true rfl) ⟨by decide, by decide⟩ (fun x5 => ?_)
  refine hr_if_eq o 41 dX0_run_24 (by decide) (fun _ => ?_) (fun _ => ?_)
  · refine hr_iconst o (-1 : Int32) dX0_run_41 (by decide) ?_
    exact hr_iret o dX0_run_42 rfl rfl
  refine hr_aload_n o 0 dX0_run_27 rfl ?_
  refine hr_getA (md := 1) o flX0_19 dX0_run_28 (fun _ => rfl) (fun x6 => ?_)
  refine hr_getI (md := 1) o flX0_165 dX0_run_31 (fun _ => rfl) (fun x7 => ?_)
  refine hr_iload_n o 2 dX0_run_34 rfl ?_
  refine hr_iadd o dX0_run_35 ?_
  refine hr_bipush o (99 : Int32) dX0_run_36 (by decide) ?_
  refine hr_icmp_le o 43 dX0_run_38 (by decide) (fun _ => ?_) (fun _ => ?_)
  · refine hr_aload_n o 0 dX0_run_43 rfl ?_
    refine hx_callVV (q := (RX0, TX0, 23)) o og mvX0_143 dX0_run_44 1 0 rfl [] (fun zg ze => mtX0_forgets l0 g3 zg ze) rfl rfl (Nat.le_of_ble_eq_true rfl) ⟨by decide, by decide⟩ (fun g8 => ?_)
    refine hr_iconst o (0 : Int32) dX0_run_47 (by decide) ?_
    refine hr_istore_n o [(3, .int (0 : Int32)), (0, .ref l0), (1, .int l1), (2, .int l2)] dX0_run_48 (by decide) rfl ?_
    refine hr_sub [1, 2, 3, 0] rfl ?_
    exact llX0_run_49 o og hf_N l0 l1 l2 (0 : Int32) g8
  refine hr_iconst o (-1 : Int32) dX0_run_41 (by decide) ?_
  exact hr_iret o dX0_run_42 rfl rfl
theorem mtX0_run {gs : hf_gs} (l0 : Nat) (l1 : Int32) (l2 : Int32) (V0 : hf_H) (r : Int32) (V1 : hf_H) (e : spX0_run l0 l1 l2 V0 = some (r, V1)) : hf_ConG gs yX0_run cX0_run 4 (some .int) 134 3347 [.ref l0, .int l1, .int l2] V0 (.returned (some (.int r)), V1) := hf_entryG (dec := hf_dHI) (by decide) [.ref l0, .int l1, .int l2] (Nat.le_of_ble_eq_true rfl) [(0, .ref l0), (1, .int l1), (2, .int l2)] rfl e (fun C o og _ => jtX0_run o og l0 l1 l2 V0)

/-! X0_comes -/
theorem flX0_368 : hf_Fl RX0 368 0 19 := ⟨(RX0, TX0, 23), RX0, rfl, by decide, in_X0, tyX0_ok, nmX0, Or.inl q416, Or.inl rfl⟩
theorem flX0_371 : hf_Fl RX0 371 0 20 := ⟨(RX0, TX0, 23), RX0, rfl, by decide, in_X0, tyX0_ok, nmX0, Or.inl q417, Or.inl rfl⟩
theorem nf_0_20 : hf_Nf 0 20 := ⟨(RX0, TX0, 23), rfl, rfl⟩
theorem flX0_374 : hf_Fl RX0 374 0 21 := ⟨(RX0, TX0, 23), RX0, rfl, by decide, in_X0, tyX0_ok, nmX0, Or.inl q418, Or.inl rfl⟩
theorem nf_0_21 : hf_Nf 0 21 := ⟨(RX0, TX0, 23), rfl, rfl⟩
theorem nf_0_19 : hf_Nf 0 19 := ⟨(RX0, TX0, 23), rfl, rfl⟩
def spX0_comes (l0 : Nat) (l1 : Int32) (l2 : Int32) (l3 : Int32) (V0 : hf_H) : Option hf_H :=
  (hf_gi 1 0 19 V0 l0).bind fun x1 =>
  if l1 ≤ x1 then ((hf_gi 1 0 19 V0 l0).bind fun x2 =>
  if l1 = x2 then ((hf_gi 1 0 20 V0 l0).bind fun x3 =>
  hf_let (if l2 < x3 then l2 else x3) fun x4 =>
  (hf_pi 1 0 20 V0 l0 x4).bind fun g5 =>
  (hf_gi 1 0 21 g5 l0).bind fun x6 =>
  hf_let (if l3 < x6 then l3 else x6) fun x7 =>
  (hf_pi 1 0 21 g5 l0 x7).bind fun g8 =>
  some g8) else
  some V0) else
  (hf_pi 1 0 19 V0 l0 l1).bind fun g9 =>
  (hf_pi 1 0 20 g9 l0 l2).bind fun g10 =>
  (hf_pi 1 0 21 g10 l0 l3).bind fun g11 =>
  some g11
theorem jtX0_comes {C : hf_X} {gs : hf_gs} (o : hf_In C cX0_comes RX0 4 (none) 1 14) (og : hf_G C gs) (l0 : Nat) (l1 : Int32) (l2 : Int32) (l3 : Int32) (V0 : hf_H) : hf_J C hf_dHV (spX0_comes l0 l1 l2 l3 V0) V0 0 [(0, .ref l0), (1, .int l1), (2, .int l2), (3, .int l3)] [] := by
  refine hr_iload_n o 1 dX0_comes_0 rfl ?_
  refine hr_aload_n o 0 dX0_comes_1 rfl ?_
  refine hr_getI (md := 1) o flX0_368 dX0_comes_2 (fun _ => rfl) (fun x1 => ?_)
  refine hr_icmp_le o 26 dX0_comes_5 (by decide) (fun _ => ?_) (fun _ => ?_)
  · refine hr_iload_n o 1 dX0_comes_26 rfl ?_
    refine hr_aload_n o 0 dX0_comes_27 rfl ?_
    refine hr_getI (md := 1) o flX0_368 dX0_comes_28 (fun _ => rfl) (fun x2 => ?_)
    refine hr_icmp_ne o 58 dX0_comes_31 (by decide) (fun _ => ?_) (fun _ => ?_)
    · refine hr_aload_n o 0 dX0_comes_34 rfl ?_
      refine hr_aload_n o 0 dX0_comes_35 rfl ?_
      refine hr_getI (md := 1) o flX0_371 dX0_comes_36 (fun _ => rfl) (fun x3 => ?_)
      refine hr_iload_n o 2 dX0_comes_39 rfl ?_
      refine hx_mmin o q1100 q709 q171 q710 (by decide) (Nat.le_of_ble_eq_true rfl) dX0_comes_40 ?_
      refine hr_nmI (fun x4 => ?_)
      refine hx_putI (md := 1) o flX0_371 dX0_comes_43 rfl (Or.inl nf_0_20) rfl rfl (fun _ => rfl) (fun g5 => ?_)
      refine hr_aload_n o 0 dX0_comes_46 rfl ?_
      refine hr_aload_n o 0 dX0_comes_47 rfl ?_
      refine hr_getI (md := 1) o flX0_374 dX0_comes_48 (fun _ => rfl) (fun x6 => ?_)
      refine hr_iload_n o 3 dX0_comes_51 rfl ?_
      refine hx_mmin o q1100 q709 q171 q710 (by decide) (Nat.le_of_ble_eq_true rfl) dX0_comes_52 ?_
      refine hr_nmI (fun x7 => ?_)
      refine hx_putI (md := 1) o flX0_374 dX0_comes_55 rfl (Or.inl nf_0_21) rfl rfl (fun _ => rfl) (fun g8 => ?_)
      exact hr_vret o dX0_comes_58 rfl
    exact hr_vret o dX0_comes_58 rfl
  refine hr_aload_n o 0 dX0_comes_8 rfl ?_
  refine hr_iload_n o 1 dX0_comes_9 rfl ?_
  refine hx_putI (md := 1) o flX0_368 dX0_comes_10 rfl (Or.inl nf_0_19) rfl rfl (fun _ => rfl) (fun g9 => ?_)
  refine hr_aload_n o 0 dX0_comes_13 rfl ?_
  refine hr_iload_n o 2 dX0_comes_14 rfl ?_
  refine hx_putI (md := 1) o flX0_371 dX0_comes_15 rfl (Or.inl nf_0_20) rfl rfl (fun _ => rfl) (fun g10 => ?_)
  refine hr_aload_n o 0 dX0_comes_18 rfl ?_
  refine hr_iload_n o 3 dX0_comes_19 rfl ?_
  refine hx_putI (md := 1) o flX0_374 dX0_comes_20 rfl (Or.inl nf_0_21) rfl rfl (fun _ => rfl) (fun g11 => ?_)
  refine hr_goto o 58 dX0_comes_23 (by decide) ?_
  exact hr_vret o dX0_comes_58 rfl
theorem mtX0_comes {gs : hf_gs} (l0 : Nat) (l1 : Int32) (l2 : Int32) (l3 : Int32) (V0 V1 : hf_H) (e : spX0_comes l0 l1 l2 l3 V0 = some V1) : hf_ConG gs yX0_comes cX0_comes 4 (none) 1 14 [.ref l0, .int l1, .int l2, .int l3] V0 (.returned none, V1) := hf_entryG (dec := hf_dHV) (by decide) [.ref l0, .int l1, .int l2, .int l3] (Nat.le_of_ble_eq_true rfl) [(0, .ref l0), (1, .int l1), (2, .int l2), (3, .int l3)] rfl e (fun C o og _ => jtX0_comes o og l0 l1 l2 l3 V0)

/-! X0_costOf -/
theorem flX0_345 : hf_Fl RX0 345 6 3 := ⟨(RX6, TX6, 4), RX6, rfl, by decide, in_X6, tyX6_ok, nmX6, Or.inr ⟨"HalfFair", q640⟩, Or.inl rfl⟩
def ndX0_costOf_42 (k4 : Nat → Int32 → Int32 → Int32 → hf_H → Option (Int32 × hf_H)) (l0 : Nat) (l1 : Int32) (l3 : Int32) (s0 : Int32) (s1 : Int32) (V0 : hf_H) : Option (Int32 × hf_H) :=
  hf_let (s0 + s1) fun x1 =>
  hf_let (l3 + (1 : Int32)) fun x2 =>
  k4 l0 l1 x1 x2 V0
theorem nlX0_costOf_42 {C : hf_X} {gs : hf_gs} (o : hf_In C cX0_costOf RX0 4 (some .int) 3 64) (og : hf_G C gs) (k4 : Nat → Int32 → Int32 → Int32 → hf_H → Option (Int32 × hf_H)) (hk4 : ∀ (l0 : Nat) (l1 : Int32) (l2 : Int32) (l3 : Int32) (V0 : hf_H), hf_J C hf_dHI (k4 l0 l1 l2 l3 V0) V0 4 [(0, .ref l0), (1, .int l1), (2, .int l2), (3, .int l3)] []) (l0 : Nat) (l1 : Int32) (l3 : Int32) (s0 : Int32) (s1 : Int32) (V0 : hf_H) : hf_J C hf_dHI (ndX0_costOf_42 k4 l0 l1 l3 s0 s1 V0) V0 42 [(0, .ref l0), (1, .int l1), (3, .int l3)] [.int s1, .int s0] := by
  refine hr_iadd o dX0_costOf_42 ?_
  refine hr_nmI (fun x1 => ?_)
  refine hr_istore_n o [(2, .int x1), (0, .ref l0), (1, .int l1), (3, .int l3)] dX0_costOf_43 (by decide) rfl ?_
  refine hr_iincN o (1 : Int32) 3 (fun y => [(3, .int y), (2, .int x1), (0, .ref l0), (1, .int l1)]) dX0_costOf_44 rfl (by decide) (by decide) (fun y => rfl) (fun x2 => ?_)
  refine hr_goto o 4 dX0_costOf_47 (by decide) ?_
  refine hr_sub [2, 3, 1, 0] rfl ?_
  exact hk4 l0 l1 x1 x2 V0
def ndX0_costOf_4 (k4 : Nat → Int32 → Int32 → Int32 → hf_H → Option (Int32 × hf_H)) (l0 : Nat) (l1 : Int32) (l2 : Int32) (l3 : Int32) (V0 : hf_H) : Option (Int32 × hf_H) :=
  (hf_ob 1 0 V0 l0).bind fun _ =>
  hf_b2 (spX0_many l0 V0) fun x2 g1 =>
  if x2 ≤ l3 then (some (l2, g1)) else
  (spX0_has l1 l3).bind fun x3 =>
  if x3 = 0 then (ndX0_costOf_42 k4 l0 l1 l3 l2 (0 : Int32) g1) else
  (hf_ga 1 0 0 g1 l0).bind fun x4 =>
  (hf_ga 1 1 0 g1 x4).bind fun x5 =>
  (hf_ob 0 19 g1 x5).bind fun _ =>
  hf_b2 (spJ2_get x5 l3 g1) fun x7 g6 =>
  (hf_ob 0 6 g6 x7).bind fun _ =>
  (hf_gi 0 6 3 g6 x7).bind fun x8 =>
  ndX0_costOf_42 k4 l0 l1 l3 l2 x8 g6
theorem nlX0_costOf_4 {C : hf_X} {gs : hf_gs} (o : hf_In C cX0_costOf RX0 4 (some .int) 3 64) (og : hf_G C gs) (k4 : Nat → Int32 → Int32 → Int32 → hf_H → Option (Int32 × hf_H)) (hk4 : ∀ (l0 : Nat) (l1 : Int32) (l2 : Int32) (l3 : Int32) (V0 : hf_H), hf_J C hf_dHI (k4 l0 l1 l2 l3 V0) V0 4 [(0, .ref l0), (1, .int l1), (2, .int l2), (3, .int l3)] []) (l0 : Nat) (l1 : Int32) (l2 : Int32) (l3 : Int32) (V0 : hf_H) : hf_J C hf_dHI (ndX0_costOf_4 k4 l0 l1 l2 l3 V0) V0 4 [(0, .ref l0), (1, .int l1), (2, .int l2), (3, .int l3)] [] := by
  refine hr_iload_n o 3 dX0_costOf_4 rfl ?_
  refine hr_aload_n o 0 dX0_costOf_5 rfl ?_
  refine hx_callVI (q := (RX0, TX0, 23)) o og mvX0_103 dX0_costOf_6 1 0 rfl [] (fun zr zg ze => mtX0_many l0 V0 zr zg ze) rfl rfl (Nat.le_of_ble_eq_true rfl) ⟨by decide, by decide⟩ (fun x2 g1 => ?_)
  refine hr_icmp_ge o 50 dX0_costOf_9 (by decide) (fun _ => ?_) (fun _ => ?_)
  · refine hr_iload_n o 2 dX0_costOf_50 rfl ?_
    exact hr_iret o dX0_costOf_51 rfl rfl
  refine hr_iload_n o 2 dX0_costOf_12 rfl ?_
  refine hr_iload_n o 1 dX0_costOf_13 rfl ?_
  refine hr_iload_n o 3 dX0_costOf_14 rfl ?_
  refine pr_callI o msX0_175 dX0_costOf_15 [.int l1, .int l3] (fun zr ze => mtX0_has l1 l3 zr ze) rfl rfl (Nat.le_of_ble_eq_true rfl) ⟨by decide, by decide⟩ (fun x3 => ?_)
  refine hr_if_eq o 41 dX0_costOf_18 (by decide) (fun _ => ?_) (fun _ => ?_)
  · refine hr_iconst o (0 : Int32) dX0_costOf_41 (by decide) ?_
    refine hr_sub [0, 1, 3] rfl ?_
    exact nlX0_costOf_42 o og k4 hk4 l0 l1 l3 l2 (0 : Int32) g1
  refine hr_aload_n o 0 dX0_costOf_21 rfl ?_
  refine hr_getA (md := 1) o flX0_12 dX0_costOf_22 (fun _ => rfl) (fun x4 => ?_)
  refine hr_getA (md := 1) o flX0_93 dX0_costOf_25 (fun _ => rfl) (fun x5 => ?_)
  refine hr_iload_n o 3 dX0_costOf_28 rfl ?_
  refine hx_callVA (q := (RJ2, TJ2, 3)) o og mvX0_153 dX0_costOf_29 0 19 rfl [.int l3] (fun zr zg ze => mtJ2_get x5 l3 g1 zr zg ze) rfl rfl (Nat.le_of_ble_eq_true rfl) ⟨by decide, by decide⟩ (fun x7 g6 => ?_)
  refine hx_cast (md := 0) (ci := 6) (q := (RX6, TX6, 4)) o q990 rfl dX0_costOf_32 (fun _ => ?_)
  refine hr_getI (md := 0) o flX0_345 dX0_costOf_35 (fun _ => rfl) (fun x8 => ?_)
  refine hr_goto o 42 dX0_costOf_38 (by decide) ?_
  refine hr_sub [0, 1, 3] rfl ?_
  exact nlX0_costOf_42 o og k4 hk4 l0 l1 l3 l2 x8 g6
def lpX0_costOf_4  : Nat → Nat → Int32 → Int32 → Int32 → hf_H → Option (Int32 × hf_H)
  | 0 => fun _ _ _ _ _ => none
  | n + 1 => fun l0 l1 l2 l3 V0 => ndX0_costOf_4  (lpX0_costOf_4  n) l0 l1 l2 l3 V0
theorem llX0_costOf_4 {C : hf_X} {gs : hf_gs} (o : hf_In C cX0_costOf RX0 4 (some .int) 3 64) (og : hf_G C gs)   (n : Nat) : ∀ (l0 : Nat) (l1 : Int32) (l2 : Int32) (l3 : Int32) (V0 : hf_H), hf_J C hf_dHI ((lpX0_costOf_4  n) l0 l1 l2 l3 V0) V0 4 [(0, .ref l0), (1, .int l1), (2, .int l2), (3, .int l3)] [] := by
  induction n with
  | zero => exact fun _ _ _ _ _ => hr_none
  | succ n ih => exact fun l0 l1 l2 l3 V0 => nlX0_costOf_4 o og  (lpX0_costOf_4  n)  ih l0 l1 l2 l3 V0
def spX0_costOf (l0 : Nat) (l1 : Int32) (V0 : hf_H) : Option (Int32 × hf_H) :=
  lpX0_costOf_4 hf_N l0 l1 (0 : Int32) (0 : Int32) V0
theorem jtX0_costOf {C : hf_X} {gs : hf_gs} (o : hf_In C cX0_costOf RX0 4 (some .int) 3 64) (og : hf_G C gs) (l0 : Nat) (l1 : Int32) (V0 : hf_H) : hf_J C hf_dHI (spX0_costOf l0 l1 V0) V0 0 [(0, .ref l0), (1, .int l1)] [] := by
  refine hr_iconst o (0 : Int32) dX0_costOf_0 (by decide) ?_
  refine hr_istore_n o [(2, .int (0 : Int32)), (0, .ref l0), (1, .int l1)] dX0_costOf_1 (by decide) rfl ?_
  refine hr_iconst o (0 : Int32) dX0_costOf_2 (by decide) ?_
  refine hr_istore_n o [(3, .int (0 : Int32)), (2, .int (0 : Int32)), (0, .ref l0), (1, .int l1)] dX0_costOf_3 (by decide) rfl ?_
  refine hr_sub [2, 3, 1, 0] rfl ?_
  exact llX0_costOf_4 o og hf_N l0 l1 (0 : Int32) (0 : Int32) V0
theorem mtX0_costOf {gs : hf_gs} (l0 : Nat) (l1 : Int32) (V0 : hf_H) (r : Int32) (V1 : hf_H) (e : spX0_costOf l0 l1 V0 = some (r, V1)) : hf_ConG gs yX0_costOf cX0_costOf 4 (some .int) 3 64 [.ref l0, .int l1] V0 (.returned (some (.int r)), V1) := hf_entryG (dec := hf_dHI) (by decide) [.ref l0, .int l1] (Nat.le_of_ble_eq_true rfl) [(0, .ref l0), (1, .int l1)] rfl e (fun C o og _ => jtX0_costOf o og l0 l1 V0)

/-! X0_buysAll -/
theorem mvX0_354 : hf_MV RX0 354 RX0 yX0_costOf cX0_costOf 4 (some .int) 1 := ⟨lw_V q1260 q1262 qs56 q153 q1263, by decide +kernel⟩
theorem flX0_77 : hf_Fl RX0 77 0 17 := ⟨(RX0, TX0, 23), RX0, rfl, by decide, in_X0, tyX0_ok, nmX0, Or.inl q414, Or.inl rfl⟩
theorem mvX0_348 : hf_MV RX0 348 RX1 yX1_stallAt cX1_stallAt 4 (some .int) 2 := ⟨lw_V q1258 q787 q788 q154 q789, by decide +kernel⟩
theorem mvX0_351 : hf_MV RX0 351 RX2 yX2_halvesAt cX2_halvesAt 5 (some .int) 2 := ⟨lw_V q1259 q795 q796 q158 q797, by decide +kernel⟩
def ndX0_buysAll_129 (k2 : Nat → Int32 → Int32 → Int32 → hf_H → Option hf_H) (k38 : Nat → Int32 → Int32 → Int32 → Int32 → Int32 → hf_H → Option hf_H) (k71 : Nat → Int32 → Int32 → Int32 → Int32 → Int32 → Int32 → hf_H → Option hf_H) (l0 : Nat) (l1 : Int32) (l2 : Int32) (l3 : Int32) (l4 : Int32) (l5 : Int32) (l6 : Int32) (V0 : hf_H) : Option hf_H :=
  hf_let (l6 + (1 : Int32)) fun x1 =>
  k71 l0 l1 l2 l3 l4 l5 x1 V0
theorem nlX0_buysAll_129 {C : hf_X} {gs : hf_gs} (o : hf_In C cX0_buysAll RX0 7 (none) 4 87) (og : hf_G C gs) (k2 : Nat → Int32 → Int32 → Int32 → hf_H → Option hf_H) (k38 : Nat → Int32 → Int32 → Int32 → Int32 → Int32 → hf_H → Option hf_H) (k71 : Nat → Int32 → Int32 → Int32 → Int32 → Int32 → Int32 → hf_H → Option hf_H) (hk2 : ∀ (l0 : Nat) (l1 : Int32) (l2 : Int32) (l3 : Int32) (V0 : hf_H), hf_J C hf_dHV (k2 l0 l1 l2 l3 V0) V0 2 [(0, .ref l0), (1, .int l1), (2, .int l2), (3, .int l3)] []) (hk38 : ∀ (l0 : Nat) (l1 : Int32) (l2 : Int32) (l3 : Int32) (l4 : Int32) (l5 : Int32) (V0 : hf_H), hf_J C hf_dHV (k38 l0 l1 l2 l3 l4 l5 V0) V0 38 [(0, .ref l0), (1, .int l1), (2, .int l2), (3, .int l3), (4, .int l4), (5, .int l5)] []) (hk71 : ∀ (l0 : Nat) (l1 : Int32) (l2 : Int32) (l3 : Int32) (l4 : Int32) (l5 : Int32) (l6 : Int32) (V0 : hf_H), hf_J C hf_dHV (k71 l0 l1 l2 l3 l4 l5 l6 V0) V0 71 [(0, .ref l0), (1, .int l1), (2, .int l2), (3, .int l3), (4, .int l4), (5, .int l5), (6, .int l6)] []) (l0 : Nat) (l1 : Int32) (l2 : Int32) (l3 : Int32) (l4 : Int32) (l5 : Int32) (l6 : Int32) (V0 : hf_H) : hf_J C hf_dHV (ndX0_buysAll_129 k2 k38 k71 l0 l1 l2 l3 l4 l5 l6 V0) V0 129 [(0, .ref l0), (1, .int l1), (2, .int l2), (3, .int l3), (4, .int l4), (5, .int l5), (6, .int l6)] [] := by
  refine hr_iincN o (1 : Int32) 6 (fun y => [(6, .int y), (0, .ref l0), (1, .int l1), (2, .int l2), (3, .int l3), (4, .int l4), (5, .int l5)]) dX0_buysAll_129 rfl (by decide) (by decide) (fun y => rfl) (fun x1 => ?_)
  refine hr_goto o 71 dX0_buysAll_132 (by decide) ?_
  refine hr_sub [1, 2, 3, 4, 5, 6, 0] rfl ?_
  exact hk71 l0 l1 l2 l3 l4 l5 x1 V0
def ndX0_buysAll_135 (k2 : Nat → Int32 → Int32 → Int32 → hf_H → Option hf_H) (k38 : Nat → Int32 → Int32 → Int32 → Int32 → Int32 → hf_H → Option hf_H) (l0 : Nat) (l1 : Int32) (l2 : Int32) (l3 : Int32) (l4 : Int32) (l5 : Int32) (V0 : hf_H) : Option hf_H :=
  hf_let (l5 + (1 : Int32)) fun x1 =>
  k38 l0 l1 l2 l3 l4 x1 V0
theorem nlX0_buysAll_135 {C : hf_X} {gs : hf_gs} (o : hf_In C cX0_buysAll RX0 7 (none) 4 87) (og : hf_G C gs) (k2 : Nat → Int32 → Int32 → Int32 → hf_H → Option hf_H) (k38 : Nat → Int32 → Int32 → Int32 → Int32 → Int32 → hf_H → Option hf_H) (hk2 : ∀ (l0 : Nat) (l1 : Int32) (l2 : Int32) (l3 : Int32) (V0 : hf_H), hf_J C hf_dHV (k2 l0 l1 l2 l3 V0) V0 2 [(0, .ref l0), (1, .int l1), (2, .int l2), (3, .int l3)] []) (hk38 : ∀ (l0 : Nat) (l1 : Int32) (l2 : Int32) (l3 : Int32) (l4 : Int32) (l5 : Int32) (V0 : hf_H), hf_J C hf_dHV (k38 l0 l1 l2 l3 l4 l5 V0) V0 38 [(0, .ref l0), (1, .int l1), (2, .int l2), (3, .int l3), (4, .int l4), (5, .int l5)] []) (l0 : Nat) (l1 : Int32) (l2 : Int32) (l3 : Int32) (l4 : Int32) (l5 : Int32) (V0 : hf_H) : hf_J C hf_dHV (ndX0_buysAll_135 k2 k38 l0 l1 l2 l3 l4 l5 V0) V0 135 [(0, .ref l0), (1, .int l1), (2, .int l2), (3, .int l3), (4, .int l4), (5, .int l5)] [] := by
  refine hr_iincN o (1 : Int32) 5 (fun y => [(5, .int y), (0, .ref l0), (1, .int l1), (2, .int l2), (3, .int l3), (4, .int l4)]) dX0_buysAll_135 rfl (by decide) (by decide) (fun y => rfl) (fun x1 => ?_)
  refine hr_goto o 38 dX0_buysAll_138 (by decide) ?_
  refine hr_sub [1, 2, 3, 4, 5, 0] rfl ?_
  exact hk38 l0 l1 l2 l3 l4 x1 V0
def ndX0_buysAll_71 (k2 : Nat → Int32 → Int32 → Int32 → hf_H → Option hf_H) (k38 : Nat → Int32 → Int32 → Int32 → Int32 → Int32 → hf_H → Option hf_H) (k71 : Nat → Int32 → Int32 → Int32 → Int32 → Int32 → Int32 → hf_H → Option hf_H) (l0 : Nat) (l1 : Int32) (l2 : Int32) (l3 : Int32) (l4 : Int32) (l5 : Int32) (l6 : Int32) (V0 : hf_H) : Option hf_H :=
  (hf_ob 1 0 V0 l0).bind fun _ =>
  hf_b2 (spX0_many l0 V0) fun x2 g1 =>
  if x2 ≤ l6 then (ndX0_buysAll_135 k2 k38 l0 l1 l2 l3 l4 l5 g1) else
  (spX0_has (l4 &&& (l5 ^^^ (-1 : Int32))) l6).bind fun x3 =>
  if x3 = 0 then (ndX0_buysAll_129 k2 k38 k71 l0 l1 l2 l3 l4 l5 l6 g1) else
  (hf_ob 1 0 g1 l0).bind fun _ =>
  hf_b2 (spX0_costOf l0 (l5 ||| ((1 : Int32) <<< (l6 &&& 31))) g1) fun x5 g4 =>
  if l2 < x5 then (ndX0_buysAll_129 k2 k38 k71 l0 l1 l2 l3 l4 l5 l6 g4) else
  (hf_ob 1 0 g4 l0).bind fun _ =>
  (hf_si 0 17 32768 g4 l0 (((4096 : Int32) * l3) + (l5 ||| ((1 : Int32) <<< (l6 &&& 31)))) (vp_nar .boolean (1 : Int32))).bind fun g6 =>
  ndX0_buysAll_129 k2 k38 k71 l0 l1 l2 l3 l4 l5 l6 g6
theorem nlX0_buysAll_71 {C : hf_X} {gs : hf_gs} (o : hf_In C cX0_buysAll RX0 7 (none) 4 87) (og : hf_G C gs) (k2 : Nat → Int32 → Int32 → Int32 → hf_H → Option hf_H) (k38 : Nat → Int32 → Int32 → Int32 → Int32 → Int32 → hf_H → Option hf_H) (k71 : Nat → Int32 → Int32 → Int32 → Int32 → Int32 → Int32 → hf_H → Option hf_H) (hk2 : ∀ (l0 : Nat) (l1 : Int32) (l2 : Int32) (l3 : Int32) (V0 : hf_H), hf_J C hf_dHV (k2 l0 l1 l2 l3 V0) V0 2 [(0, .ref l0), (1, .int l1), (2, .int l2), (3, .int l3)] []) (hk38 : ∀ (l0 : Nat) (l1 : Int32) (l2 : Int32) (l3 : Int32) (l4 : Int32) (l5 : Int32) (V0 : hf_H), hf_J C hf_dHV (k38 l0 l1 l2 l3 l4 l5 V0) V0 38 [(0, .ref l0), (1, .int l1), (2, .int l2), (3, .int l3), (4, .int l4), (5, .int l5)] []) (hk71 : ∀ (l0 : Nat) (l1 : Int32) (l2 : Int32) (l3 : Int32) (l4 : Int32) (l5 : Int32) (l6 : Int32) (V0 : hf_H), hf_J C hf_dHV (k71 l0 l1 l2 l3 l4 l5 l6 V0) V0 71 [(0, .ref l0), (1, .int l1), (2, .int l2), (3, .int l3), (4, .int l4), (5, .int l5), (6, .int l6)] []) (l0 : Nat) (l1 : Int32) (l2 : Int32) (l3 : Int32) (l4 : Int32) (l5 : Int32) (l6 : Int32) (V0 : hf_H) : hf_J C hf_dHV (ndX0_buysAll_71 k2 k38 k71 l0 l1 l2 l3 l4 l5 l6 V0) V0 71 [(0, .ref l0), (1, .int l1), (2, .int l2), (3, .int l3), (4, .int l4), (5, .int l5), (6, .int l6)] [] := by
  refine hr_iload o 6 dX0_buysAll_71 rfl ?_
  refine hr_aload_n o 0 dX0_buysAll_73 rfl ?_
  refine hx_callVI (q := (RX0, TX0, 23)) o og mvX0_103 dX0_buysAll_74 1 0 rfl [] (fun zr zg ze => mtX0_many l0 V0 zr zg ze) rfl rfl (Nat.le_of_ble_eq_true rfl) ⟨by decide, by decide⟩ (fun x2 g1 => ?_)
  refine hr_icmp_ge o 135 dX0_buysAll_77 (by decide) (fun _ => ?_) (fun _ => ?_)
  · refine hr_sub [0, 1, 2, 3, 4, 5] rfl ?_
    exact nlX0_buysAll_135 o og k2 k38 hk2 hk38 l0 l1 l2 l3 l4 l5 g1
  refine hr_iload o 4 dX0_buysAll_80 rfl ?_
  refine hr_iload o 5 dX0_buysAll_82 rfl ?_
  refine hr_iconst o (-1 : Int32) dX0_buysAll_84 (by decide) ?_
  refine hr_ixor o dX0_buysAll_85 ?_
  refine hr_iand o dX0_buysAll_86 ?_
  refine hr_iload o 6 dX0_buysAll_87 rfl ?_
  refine pr_callI o msX0_175 dX0_buysAll_89 [.int (l4 &&& (l5 ^^^ (-1 : Int32))), .int l6] (fun zr ze => mtX0_has (l4 &&& (l5 ^^^ (-1 : Int32))) l6 zr ze) rfl rfl (Nat.le_of_ble_eq_true rfl) ⟨by decide, by decide⟩ (fun x3 => ?_)
  refine hr_if_eq o 129 dX0_buysAll_92 (by decide) (fun _ => ?_) (fun _ => ?_)
  · exact nlX0_buysAll_129 o og k2 k38 k71 hk2 hk38 hk71 l0 l1 l2 l3 l4 l5 l6 g1
  refine hr_aload_n o 0 dX0_buysAll_95 rfl ?_
  refine hr_iload o 5 dX0_buysAll_96 rfl ?_
  refine hr_iconst o (1 : Int32) dX0_buysAll_98 (by decide) ?_
  refine hr_iload o 6 dX0_buysAll_99 rfl ?_
  refine hr_ishl o dX0_buysAll_101 ?_
  refine hr_ior o dX0_buysAll_102 ?_
  refine hx_callVI (q := (RX0, TX0, 23)) o og mvX0_354 dX0_buysAll_103 1 0 rfl [.int (l5 ||| ((1 : Int32) <<< (l6 &&& 31)))] (fun zr zg ze => mtX0_costOf l0 (l5 ||| ((1 : Int32) <<< (l6 &&& 31))) g1 zr zg ze) rfl rfl (Nat.le_of_ble_eq_true rfl) ⟨by decide, by decide⟩ (fun x5 g4 => ?_)
  refine hr_iload_n o 2 dX0_buysAll_106 rfl ?_
  refine hr_icmp_gt o 129 dX0_buysAll_107 (by decide) (fun _ => ?_) (fun _ => ?_)
  · exact nlX0_buysAll_129 o og k2 k38 k71 hk2 hk38 hk71 l0 l1 l2 l3 l4 l5 l6 g4
  refine hr_aload_n o 0 dX0_buysAll_110 rfl ?_
  refine hr_getO o flX0_77 dX0_buysAll_111 127 (fun _ => rfl) (fun _ _ => ?_)
  refine hr_sipush o (4096 : Int32) dX0_buysAll_114 (by decide) ?_
  refine hr_iload_n o 3 dX0_buysAll_117 rfl ?_
  refine hr_imul o dX0_buysAll_118 ?_
  refine hr_iload o 5 dX0_buysAll_119 rfl ?_
  refine hr_iconst o (1 : Int32) dX0_buysAll_121 (by decide) ?_
  refine hr_iload o 6 dX0_buysAll_122 rfl ?_
  refine hr_ishl o dX0_buysAll_124 ?_
  refine hr_ior o dX0_buysAll_125 ?_
  refine hr_iadd o dX0_buysAll_126 ?_
  refine hr_iconst o (1 : Int32) dX0_buysAll_127 (by decide) ?_
  refine hx_zast o 0 17 127 32768 rfl (by decide) (fun j h1 h2 => hf_of0_inj j 17 h1 h2) rfl dX0_buysAll_128 (fun g6 => ?_)
  exact nlX0_buysAll_129 o og k2 k38 k71 hk2 hk38 hk71 l0 l1 l2 l3 l4 l5 l6 g6
def lpX0_buysAll_71 (k2 : Nat → Int32 → Int32 → Int32 → hf_H → Option hf_H) (k38 : Nat → Int32 → Int32 → Int32 → Int32 → Int32 → hf_H → Option hf_H) : Nat → Nat → Int32 → Int32 → Int32 → Int32 → Int32 → Int32 → hf_H → Option hf_H
  | 0 => fun _ _ _ _ _ _ _ _ => none
  | n + 1 => fun l0 l1 l2 l3 l4 l5 l6 V0 => ndX0_buysAll_71 k2 k38 (lpX0_buysAll_71 k2 k38 n) l0 l1 l2 l3 l4 l5 l6 V0
theorem llX0_buysAll_71 {C : hf_X} {gs : hf_gs} (o : hf_In C cX0_buysAll RX0 7 (none) 4 87) (og : hf_G C gs) (k2 : Nat → Int32 → Int32 → Int32 → hf_H → Option hf_H) (k38 : Nat → Int32 → Int32 → Int32 → Int32 → Int32 → hf_H → Option hf_H) (hk2 : ∀ (l0 : Nat) (l1 : Int32) (l2 : Int32) (l3 : Int32) (V0 : hf_H), hf_J C hf_dHV (k2 l0 l1 l2 l3 V0) V0 2 [(0, .ref l0), (1, .int l1), (2, .int l2), (3, .int l3)] []) (hk38 : ∀ (l0 : Nat) (l1 : Int32) (l2 : Int32) (l3 : Int32) (l4 : Int32) (l5 : Int32) (V0 : hf_H), hf_J C hf_dHV (k38 l0 l1 l2 l3 l4 l5 V0) V0 38 [(0, .ref l0), (1, .int l1), (2, .int l2), (3, .int l3), (4, .int l4), (5, .int l5)] []) (n : Nat) : ∀ (l0 : Nat) (l1 : Int32) (l2 : Int32) (l3 : Int32) (l4 : Int32) (l5 : Int32) (l6 : Int32) (V0 : hf_H), hf_J C hf_dHV ((lpX0_buysAll_71 k2 k38 n) l0 l1 l2 l3 l4 l5 l6 V0) V0 71 [(0, .ref l0), (1, .int l1), (2, .int l2), (3, .int l3), (4, .int l4), (5, .int l5), (6, .int l6)] [] := by
  induction n with
  | zero => exact fun _ _ _ _ _ _ _ _ => hr_none
  | succ n ih => exact fun l0 l1 l2 l3 l4 l5 l6 V0 => nlX0_buysAll_71 o og k2 k38 (lpX0_buysAll_71 k2 k38 n) hk2 hk38 ih l0 l1 l2 l3 l4 l5 l6 V0
def ndX0_buysAll_38 (k2 : Nat → Int32 → Int32 → Int32 → hf_H → Option hf_H) (k38 : Nat → Int32 → Int32 → Int32 → Int32 → Int32 → hf_H → Option hf_H) (l0 : Nat) (l1 : Int32) (l2 : Int32) (l3 : Int32) (l4 : Int32) (l5 : Int32) (V0 : hf_H) : Option hf_H :=
  (hf_ob 1 0 V0 l0).bind fun _ =>
  hf_b2 (spX0_many l0 V0) fun x2 g1 =>
  if ((1 : Int32) <<< (x2 &&& 31)) ≤ l5 then (hf_let (l3 + (1 : Int32)) fun x3 =>
  k2 l0 l1 l2 x3 g1) else
  (hf_ob 1 0 g1 l0).bind fun _ =>
  (hf_ai 0 17 32768 g1 l0 (((4096 : Int32) * l3) + l5)).bind fun x4 =>
  if x4 = 0 then (ndX0_buysAll_135 k2 k38 l0 l1 l2 l3 l4 l5 g1) else
  lpX0_buysAll_71 k2 k38 hf_N l0 l1 l2 l3 l4 l5 (0 : Int32) g1
theorem nlX0_buysAll_38 {C : hf_X} {gs : hf_gs} (o : hf_In C cX0_buysAll RX0 7 (none) 4 87) (og : hf_G C gs) (k2 : Nat → Int32 → Int32 → Int32 → hf_H → Option hf_H) (k38 : Nat → Int32 → Int32 → Int32 → Int32 → Int32 → hf_H → Option hf_H) (hk2 : ∀ (l0 : Nat) (l1 : Int32) (l2 : Int32) (l3 : Int32) (V0 : hf_H), hf_J C hf_dHV (k2 l0 l1 l2 l3 V0) V0 2 [(0, .ref l0), (1, .int l1), (2, .int l2), (3, .int l3)] []) (hk38 : ∀ (l0 : Nat) (l1 : Int32) (l2 : Int32) (l3 : Int32) (l4 : Int32) (l5 : Int32) (V0 : hf_H), hf_J C hf_dHV (k38 l0 l1 l2 l3 l4 l5 V0) V0 38 [(0, .ref l0), (1, .int l1), (2, .int l2), (3, .int l3), (4, .int l4), (5, .int l5)] []) (l0 : Nat) (l1 : Int32) (l2 : Int32) (l3 : Int32) (l4 : Int32) (l5 : Int32) (V0 : hf_H) : hf_J C hf_dHV (ndX0_buysAll_38 k2 k38 l0 l1 l2 l3 l4 l5 V0) V0 38 [(0, .ref l0), (1, .int l1), (2, .int l2), (3, .int l3), (4, .int l4), (5, .int l5)] [] := by
  refine hr_iload o 5 dX0_buysAll_38 rfl ?_
  refine hr_iconst o (1 : Int32) dX0_buysAll_40 (by decide) ?_
  refine hr_aload_n o 0 dX0_buysAll_41 rfl ?_
  refine hx_callVI (q := (RX0, TX0, 23)) o og mvX0_103 dX0_buysAll_42 1 0 rfl [] (fun zr zg ze => mtX0_many l0 V0 zr zg ze) rfl rfl (Nat.le_of_ble_eq_true rfl) ⟨by decide, by decide⟩ (fun x2 g1 => ?_)
  refine hr_ishl o dX0_buysAll_45 ?_
  refine hr_icmp_ge o 141 dX0_buysAll_46 (by decide) (fun _ => ?_) (fun _ => ?_)
  · refine hr_iincN o (1 : Int32) 3 (fun y => [(3, .int y), (0, .ref l0), (1, .int l1), (2, .int l2), (4, .int l4), (5, .int l5)]) dX0_buysAll_141 rfl (by decide) (by decide) (fun y => rfl) (fun x3 => ?_)
    refine hr_goto o 2 dX0_buysAll_144 (by decide) ?_
    refine hr_sub [1, 2, 3, 0] rfl ?_
    exact hk2 l0 l1 l2 x3 g1
  refine hr_aload_n o 0 dX0_buysAll_49 rfl ?_
  refine hr_getO o flX0_77 dX0_buysAll_50 127 (fun _ => rfl) (fun _ _ => ?_)
  refine hr_sipush o (4096 : Int32) dX0_buysAll_53 (by decide) ?_
  refine hr_iload_n o 3 dX0_buysAll_56 rfl ?_
  refine hr_imul o dX0_buysAll_57 ?_
  refine hr_iload o 5 dX0_buysAll_58 rfl ?_
  refine hr_iadd o dX0_buysAll_60 ?_
  refine hx_zald o 0 17 127 32768 rfl (by decide) rfl dX0_buysAll_61 (fun x4 => ?_)
  refine hr_if_ne o 68 dX0_buysAll_62 (by decide) (fun _ => ?_) (fun _ => ?_)
  · refine hr_goto o 135 dX0_buysAll_65 (by decide) ?_
    exact nlX0_buysAll_135 o og k2 k38 hk2 hk38 l0 l1 l2 l3 l4 l5 g1
  refine hr_iconst o (0 : Int32) dX0_buysAll_68 (by decide) ?_
  refine hr_istore o [(6, .int (0 : Int32)), (0, .ref l0), (1, .int l1), (2, .int l2), (3, .int l3), (4, .int l4), (5, .int l5)] dX0_buysAll_69 (by decide) rfl ?_
  refine hr_sub [1, 2, 3, 4, 5, 6, 0] rfl ?_
  exact llX0_buysAll_71 o og k2 k38 hk2 hk38 hf_N l0 l1 l2 l3 l4 l5 (0 : Int32) g1
def lpX0_buysAll_38 (k2 : Nat → Int32 → Int32 → Int32 → hf_H → Option hf_H) : Nat → Nat → Int32 → Int32 → Int32 → Int32 → Int32 → hf_H → Option hf_H
  | 0 => fun _ _ _ _ _ _ _ => none
  | n + 1 => fun l0 l1 l2 l3 l4 l5 V0 => ndX0_buysAll_38 k2 (lpX0_buysAll_38 k2 n) l0 l1 l2 l3 l4 l5 V0
theorem llX0_buysAll_38 {C : hf_X} {gs : hf_gs} (o : hf_In C cX0_buysAll RX0 7 (none) 4 87) (og : hf_G C gs) (k2 : Nat → Int32 → Int32 → Int32 → hf_H → Option hf_H) (hk2 : ∀ (l0 : Nat) (l1 : Int32) (l2 : Int32) (l3 : Int32) (V0 : hf_H), hf_J C hf_dHV (k2 l0 l1 l2 l3 V0) V0 2 [(0, .ref l0), (1, .int l1), (2, .int l2), (3, .int l3)] []) (n : Nat) : ∀ (l0 : Nat) (l1 : Int32) (l2 : Int32) (l3 : Int32) (l4 : Int32) (l5 : Int32) (V0 : hf_H), hf_J C hf_dHV ((lpX0_buysAll_38 k2 n) l0 l1 l2 l3 l4 l5 V0) V0 38 [(0, .ref l0), (1, .int l1), (2, .int l2), (3, .int l3), (4, .int l4), (5, .int l5)] [] := by
  induction n with
  | zero => exact fun _ _ _ _ _ _ _ => hr_none
  | succ n ih => exact fun l0 l1 l2 l3 l4 l5 V0 => nlX0_buysAll_38 o og k2 (lpX0_buysAll_38 k2 n) hk2 ih l0 l1 l2 l3 l4 l5 V0
def ndX0_buysAll_2 (k2 : Nat → Int32 → Int32 → Int32 → hf_H → Option hf_H) (l0 : Nat) (l1 : Int32) (l2 : Int32) (l3 : Int32) (V0 : hf_H) : Option hf_H :=
  (hf_ga 1 0 0 V0 l0).bind fun x1 =>
  (hf_gi 1 1 3 V0 x1).bind fun x2 =>
  if x2 ≤ l3 then (some V0) else
  (hf_ga 1 0 1 V0 l0).bind fun x3 =>
  (hf_ga 1 0 0 V0 l0).bind fun x4 =>
  (hf_ga 1 0 0 V0 l0).bind fun x5 =>
  (hf_ob 1 1 V0 x5).bind fun _ =>
  hf_b2 (spX1_stallAt x5 l3 l1 V0) fun x7 g6 =>
  (hf_ob 1 2 g6 x3).bind fun _ =>
  hf_b2 (spX2_halvesAt x3 x4 x7 g6) fun x9 g8 =>
  lpX0_buysAll_38 k2 hf_N l0 l1 l2 l3 x9 (0 : Int32) g8
theorem nlX0_buysAll_2 {C : hf_X} {gs : hf_gs} (o : hf_In C cX0_buysAll RX0 7 (none) 4 87) (og : hf_G C gs) (k2 : Nat → Int32 → Int32 → Int32 → hf_H → Option hf_H) (hk2 : ∀ (l0 : Nat) (l1 : Int32) (l2 : Int32) (l3 : Int32) (V0 : hf_H), hf_J C hf_dHV (k2 l0 l1 l2 l3 V0) V0 2 [(0, .ref l0), (1, .int l1), (2, .int l2), (3, .int l3)] []) (l0 : Nat) (l1 : Int32) (l2 : Int32) (l3 : Int32) (V0 : hf_H) : hf_J C hf_dHV (ndX0_buysAll_2 k2 l0 l1 l2 l3 V0) V0 2 [(0, .ref l0), (1, .int l1), (2, .int l2), (3, .int l3)] [] := by
  refine hr_iload_n o 3 dX0_buysAll_2 rfl ?_
  refine hr_aload_n o 0 dX0_buysAll_3 rfl ?_
  refine hr_getA (md := 1) o flX0_12 dX0_buysAll_4 (fun _ => rfl) (fun x1 => ?_)
  refine hr_getI (md := 1) o flX0_89 dX0_buysAll_7 (fun _ => rfl) (fun x2 => ?_)
  refine hr_icmp_ge o 147 dX0_buysAll_10 (by decide) (fun _ => ?_) (fun _ => ?_)
  · exact hr_vret o dX0_buysAll_147 rfl
  refine hr_aload_n o 0 dX0_buysAll_13 rfl ?_
  refine hr_getA (md := 1) o flX0_19 dX0_buysAll_14 (fun _ => rfl) (fun x3 => ?_)
  refine hr_aload_n o 0 dX0_buysAll_17 rfl ?_
  refine hr_getA (md := 1) o flX0_12 dX0_buysAll_18 (fun _ => rfl) (fun x4 => ?_)
  refine hr_aload_n o 0 dX0_buysAll_21 rfl ?_
  refine hr_getA (md := 1) o flX0_12 dX0_buysAll_22 (fun _ => rfl) (fun x5 => ?_)
  refine hr_iload_n o 3 dX0_buysAll_25 rfl ?_
  refine hr_iload_n o 1 dX0_buysAll_26 rfl ?_
  refine hx_callVI (q := (RX1, TX1, 13)) o og mvX0_348 dX0_buysAll_27 1 1 rfl [.int l3, .int l1] (fun zr zg ze => mtX1_stallAt x5 l3 l1 V0 zr zg ze) rfl rfl (Nat.le_of_ble_eq_true rfl) ⟨by decide, by decide⟩ (fun x7 g6 => ?_)
  refine hx_callVI (q := (RX2, TX2, 5)) o og mvX0_351 dX0_buysAll_30 1 2 rfl [.ref x4, .int x7] (fun zr zg ze => mtX2_halvesAt x3 x4 x7 g6 zr zg ze) rfl rfl (Nat.le_of_ble_eq_true rfl) ⟨by decide, by decide⟩ (fun x9 g8 => ?_)
  refine hr_istore o [(4, .int x9), (0, .ref l0), (1, .int l1), (2, .int l2), (3, .int l3)] dX0_buysAll_33 (by decide) rfl ?_
  refine hr_iconst o (0 : Int32) dX0_buysAll_35 (by decide) ?_
  refine hr_istore o [(5, .int (0 : Int32)), (4, .int x9), (0, .ref l0), (1, .int l1), (2, .int l2), (3, .int l3)] dX0_buysAll_36 (by decide) rfl ?_
  refine hr_sub [2, 3, 4, 5, 1, 0] rfl ?_
  exact llX0_buysAll_38 o og k2 hk2 hf_N l0 l1 l2 l3 x9 (0 : Int32) g8
def lpX0_buysAll_2  : Nat → Nat → Int32 → Int32 → Int32 → hf_H → Option hf_H
  | 0 => fun _ _ _ _ _ => none
  | n + 1 => fun l0 l1 l2 l3 V0 => ndX0_buysAll_2  (lpX0_buysAll_2  n) l0 l1 l2 l3 V0
theorem llX0_buysAll_2 {C : hf_X} {gs : hf_gs} (o : hf_In C cX0_buysAll RX0 7 (none) 4 87) (og : hf_G C gs)   (n : Nat) : ∀ (l0 : Nat) (l1 : Int32) (l2 : Int32) (l3 : Int32) (V0 : hf_H), hf_J C hf_dHV ((lpX0_buysAll_2  n) l0 l1 l2 l3 V0) V0 2 [(0, .ref l0), (1, .int l1), (2, .int l2), (3, .int l3)] [] := by
  induction n with
  | zero => exact fun _ _ _ _ _ => hr_none
  | succ n ih => exact fun l0 l1 l2 l3 V0 => nlX0_buysAll_2 o og  (lpX0_buysAll_2  n)  ih l0 l1 l2 l3 V0
def spX0_buysAll (l0 : Nat) (l1 : Int32) (l2 : Int32) (V0 : hf_H) : Option hf_H :=
  lpX0_buysAll_2 hf_N l0 l1 l2 (0 : Int32) V0
theorem jtX0_buysAll {C : hf_X} {gs : hf_gs} (o : hf_In C cX0_buysAll RX0 7 (none) 4 87) (og : hf_G C gs) (l0 : Nat) (l1 : Int32) (l2 : Int32) (V0 : hf_H) : hf_J C hf_dHV (spX0_buysAll l0 l1 l2 V0) V0 0 [(0, .ref l0), (1, .int l1), (2, .int l2)] [] := by
  refine hr_iconst o (0 : Int32) dX0_buysAll_0 (by decide) ?_
  refine hr_istore_n o [(3, .int (0 : Int32)), (0, .ref l0), (1, .int l1), (2, .int l2)] dX0_buysAll_1 (by decide) rfl ?_
  refine hr_sub [1, 2, 3, 0] rfl ?_
  exact llX0_buysAll_2 o og hf_N l0 l1 l2 (0 : Int32) V0
theorem mtX0_buysAll {gs : hf_gs} (l0 : Nat) (l1 : Int32) (l2 : Int32) (V0 V1 : hf_H) (e : spX0_buysAll l0 l1 l2 V0 = some V1) : hf_ConG gs yX0_buysAll cX0_buysAll 7 (none) 4 87 [.ref l0, .int l1, .int l2] V0 (.returned none, V1) := hf_entryG (dec := hf_dHV) (by decide) [.ref l0, .int l1, .int l2] (Nat.le_of_ble_eq_true rfl) [(0, .ref l0), (1, .int l1), (2, .int l2)] rfl e (fun C o og _ => jtX0_buysAll o og l0 l1 l2 V0)

/-! X0_goesAll -/
theorem flX0_80 : hf_Fl RX0 80 0 18 := ⟨(RX0, TX0, 23), RX0, rfl, by decide, in_X0, tyX0_ok, nmX0, Or.inl q415, Or.inl rfl⟩
def ndX0_goesAll_118 (k26 : Nat → Int32 → Int32 → Int32 → hf_H → Option hf_H) (k40 : Nat → Int32 → Int32 → Int32 → Int32 → hf_H → Option hf_H) (l0 : Nat) (l1 : Int32) (l2 : Int32) (l3 : Int32) (l4 : Int32) (V0 : hf_H) : Option hf_H :=
  hf_let (l4 + (1 : Int32)) fun x1 =>
  k40 l0 l1 l2 l3 x1 V0
theorem nlX0_goesAll_118 {C : hf_X} {gs : hf_gs} (o : hf_In C cX0_goesAll RX0 6 (none) 2 40) (og : hf_G C gs) (k26 : Nat → Int32 → Int32 → Int32 → hf_H → Option hf_H) (k40 : Nat → Int32 → Int32 → Int32 → Int32 → hf_H → Option hf_H) (hk26 : ∀ (l0 : Nat) (l1 : Int32) (l2 : Int32) (l3 : Int32) (V0 : hf_H), hf_J C hf_dHV (k26 l0 l1 l2 l3 V0) V0 26 [(0, .ref l0), (1, .int l1), (2, .int l2), (3, .int l3)] []) (hk40 : ∀ (l0 : Nat) (l1 : Int32) (l2 : Int32) (l3 : Int32) (l4 : Int32) (V0 : hf_H), hf_J C hf_dHV (k40 l0 l1 l2 l3 l4 V0) V0 40 [(0, .ref l0), (1, .int l1), (2, .int l2), (3, .int l3), (4, .int l4)] []) (l0 : Nat) (l1 : Int32) (l2 : Int32) (l3 : Int32) (l4 : Int32) (V0 : hf_H) : hf_J C hf_dHV (ndX0_goesAll_118 k26 k40 l0 l1 l2 l3 l4 V0) V0 118 [(0, .ref l0), (1, .int l1), (2, .int l2), (3, .int l3), (4, .int l4)] [] := by
  refine hr_iincN o (1 : Int32) 4 (fun y => [(4, .int y), (0, .ref l0), (1, .int l1), (2, .int l2), (3, .int l3)]) dX0_goesAll_118 rfl (by decide) (by decide) (fun y => rfl) (fun x1 => ?_)
  refine hr_goto o 40 dX0_goesAll_121 (by decide) ?_
  refine hr_sub [1, 2, 3, 4, 0] rfl ?_
  exact hk40 l0 l1 l2 l3 x1 V0
def ndX0_goesAll_73 (k26 : Nat → Int32 → Int32 → Int32 → hf_H → Option hf_H) (k40 : Nat → Int32 → Int32 → Int32 → Int32 → hf_H → Option hf_H) (k73 : Nat → Int32 → Int32 → Int32 → Int32 → Int32 → hf_H → Option hf_H) (l0 : Nat) (l1 : Int32) (l2 : Int32) (l3 : Int32) (l4 : Int32) (l5 : Int32) (V0 : hf_H) : Option hf_H :=
  if l2 < l5 then (ndX0_goesAll_118 k26 k40 l0 l1 l2 l3 l4 V0) else
  (hf_ob 1 0 V0 l0).bind fun _ =>
  (hf_ga 1 0 0 V0 l0).bind fun x1 =>
  (hf_gi 1 1 3 V0 x1).bind fun x2 =>
  (hf_ga 1 0 0 V0 l0).bind fun x3 =>
  (hf_gi 1 1 3 V0 x3).bind fun x4 =>
  if x4 = 0 then none else
  (hf_si 0 18 32768 V0 l0 (((4096 : Int32) * (((l3 + l5) + x2) - ((l3 + l5) + x2) / x4 * x4)) + l4) (vp_nar .boolean (1 : Int32))).bind fun g5 =>
  hf_let (l5 + (1 : Int32)) fun x6 =>
  k73 l0 l1 l2 l3 l4 x6 g5
theorem nlX0_goesAll_73 {C : hf_X} {gs : hf_gs} (o : hf_In C cX0_goesAll RX0 6 (none) 2 40) (og : hf_G C gs) (k26 : Nat → Int32 → Int32 → Int32 → hf_H → Option hf_H) (k40 : Nat → Int32 → Int32 → Int32 → Int32 → hf_H → Option hf_H) (k73 : Nat → Int32 → Int32 → Int32 → Int32 → Int32 → hf_H → Option hf_H) (hk26 : ∀ (l0 : Nat) (l1 : Int32) (l2 : Int32) (l3 : Int32) (V0 : hf_H), hf_J C hf_dHV (k26 l0 l1 l2 l3 V0) V0 26 [(0, .ref l0), (1, .int l1), (2, .int l2), (3, .int l3)] []) (hk40 : ∀ (l0 : Nat) (l1 : Int32) (l2 : Int32) (l3 : Int32) (l4 : Int32) (V0 : hf_H), hf_J C hf_dHV (k40 l0 l1 l2 l3 l4 V0) V0 40 [(0, .ref l0), (1, .int l1), (2, .int l2), (3, .int l3), (4, .int l4)] []) (hk73 : ∀ (l0 : Nat) (l1 : Int32) (l2 : Int32) (l3 : Int32) (l4 : Int32) (l5 : Int32) (V0 : hf_H), hf_J C hf_dHV (k73 l0 l1 l2 l3 l4 l5 V0) V0 73 [(0, .ref l0), (1, .int l1), (2, .int l2), (3, .int l3), (4, .int l4), (5, .int l5)] []) (l0 : Nat) (l1 : Int32) (l2 : Int32) (l3 : Int32) (l4 : Int32) (l5 : Int32) (V0 : hf_H) : hf_J C hf_dHV (ndX0_goesAll_73 k26 k40 k73 l0 l1 l2 l3 l4 l5 V0) V0 73 [(0, .ref l0), (1, .int l1), (2, .int l2), (3, .int l3), (4, .int l4), (5, .int l5)] [] := by
  refine hr_iload o 5 dX0_goesAll_73 rfl ?_
  refine hr_iload_n o 2 dX0_goesAll_75 rfl ?_
  refine hr_icmp_gt o 118 dX0_goesAll_76 (by decide) (fun _ => ?_) (fun _ => ?_)
  · refine hr_sub [0, 1, 2, 3, 4] rfl ?_
    exact nlX0_goesAll_118 o og k26 k40 hk26 hk40 l0 l1 l2 l3 l4 V0
  refine hr_aload_n o 0 dX0_goesAll_79 rfl ?_
  refine hr_getO o flX0_80 dX0_goesAll_80 128 (fun _ => rfl) (fun _ _ => ?_)
  refine hr_sipush o (4096 : Int32) dX0_goesAll_83 (by decide) ?_
  refine hr_iload_n o 3 dX0_goesAll_86 rfl ?_
  refine hr_iload o 5 dX0_goesAll_87 rfl ?_
  refine hr_iadd o dX0_goesAll_89 ?_
  refine hr_aload_n o 0 dX0_goesAll_90 rfl ?_
  refine hr_getA (md := 1) o flX0_12 dX0_goesAll_91 (fun _ => rfl) (fun x1 => ?_)
  refine hr_getI (md := 1) o flX0_89 dX0_goesAll_94 (fun _ => rfl) (fun x2 => ?_)
  refine hr_iadd o dX0_goesAll_97 ?_
  refine hr_aload_n o 0 dX0_goesAll_98 rfl ?_
  refine hr_getA (md := 1) o flX0_12 dX0_goesAll_99 (fun _ => rfl) (fun x3 => ?_)
  refine hr_getI (md := 1) o flX0_89 dX0_goesAll_102 (fun _ => rfl) (fun x4 => ?_)
  refine hr_irem o dX0_goesAll_105 (fun _ => ?_)
  refine hr_imul o dX0_goesAll_106 ?_
  refine hr_iload o 4 dX0_goesAll_107 rfl ?_
  refine hr_iadd o dX0_goesAll_109 ?_
  refine hr_iconst o (1 : Int32) dX0_goesAll_110 (by decide) ?_
  refine hx_zast o 0 18 128 32768 rfl (by decide) (fun j h1 h2 => hf_of0_inj j 18 h1 h2) rfl dX0_goesAll_111 (fun g5 => ?_)
  refine hr_iincN o (1 : Int32) 5 (fun y => [(5, .int y), (0, .ref l0), (1, .int l1), (2, .int l2), (3, .int l3), (4, .int l4)]) dX0_goesAll_112 rfl (by decide) (by decide) (fun y => rfl) (fun x6 => ?_)
  refine hr_goto o 73 dX0_goesAll_115 (by decide) ?_
  refine hr_sub [1, 2, 3, 4, 5, 0] rfl ?_
  exact hk73 l0 l1 l2 l3 l4 x6 g5
def lpX0_goesAll_73 (k26 : Nat → Int32 → Int32 → Int32 → hf_H → Option hf_H) (k40 : Nat → Int32 → Int32 → Int32 → Int32 → hf_H → Option hf_H) : Nat → Nat → Int32 → Int32 → Int32 → Int32 → Int32 → hf_H → Option hf_H
  | 0 => fun _ _ _ _ _ _ _ => none
  | n + 1 => fun l0 l1 l2 l3 l4 l5 V0 => ndX0_goesAll_73 k26 k40 (lpX0_goesAll_73 k26 k40 n) l0 l1 l2 l3 l4 l5 V0
theorem llX0_goesAll_73 {C : hf_X} {gs : hf_gs} (o : hf_In C cX0_goesAll RX0 6 (none) 2 40) (og : hf_G C gs) (k26 : Nat → Int32 → Int32 → Int32 → hf_H → Option hf_H) (k40 : Nat → Int32 → Int32 → Int32 → Int32 → hf_H → Option hf_H) (hk26 : ∀ (l0 : Nat) (l1 : Int32) (l2 : Int32) (l3 : Int32) (V0 : hf_H), hf_J C hf_dHV (k26 l0 l1 l2 l3 V0) V0 26 [(0, .ref l0), (1, .int l1), (2, .int l2), (3, .int l3)] []) (hk40 : ∀ (l0 : Nat) (l1 : Int32) (l2 : Int32) (l3 : Int32) (l4 : Int32) (V0 : hf_H), hf_J C hf_dHV (k40 l0 l1 l2 l3 l4 V0) V0 40 [(0, .ref l0), (1, .int l1), (2, .int l2), (3, .int l3), (4, .int l4)] []) (n : Nat) : ∀ (l0 : Nat) (l1 : Int32) (l2 : Int32) (l3 : Int32) (l4 : Int32) (l5 : Int32) (V0 : hf_H), hf_J C hf_dHV ((lpX0_goesAll_73 k26 k40 n) l0 l1 l2 l3 l4 l5 V0) V0 73 [(0, .ref l0), (1, .int l1), (2, .int l2), (3, .int l3), (4, .int l4), (5, .int l5)] [] := by
  induction n with
  | zero => exact fun _ _ _ _ _ _ _ => hr_none
  | succ n ih => exact fun l0 l1 l2 l3 l4 l5 V0 => nlX0_goesAll_73 o og k26 k40 (lpX0_goesAll_73 k26 k40 n) hk26 hk40 ih l0 l1 l2 l3 l4 l5 V0
def ndX0_goesAll_40 (k26 : Nat → Int32 → Int32 → Int32 → hf_H → Option hf_H) (k40 : Nat → Int32 → Int32 → Int32 → Int32 → hf_H → Option hf_H) (l0 : Nat) (l1 : Int32) (l2 : Int32) (l3 : Int32) (l4 : Int32) (V0 : hf_H) : Option hf_H :=
  (hf_ob 1 0 V0 l0).bind fun _ =>
  hf_b2 (spX0_many l0 V0) fun x2 g1 =>
  if ((1 : Int32) <<< (x2 &&& 31)) ≤ l4 then (hf_let (l3 + (1 : Int32)) fun x3 =>
  k26 l0 l1 l2 x3 g1) else
  (hf_ob 1 0 g1 l0).bind fun _ =>
  (hf_ai 0 17 32768 g1 l0 (((4096 : Int32) * l3) + l4)).bind fun x4 =>
  if x4 = 0 then (ndX0_goesAll_118 k26 k40 l0 l1 l2 l3 l4 g1) else
  lpX0_goesAll_73 k26 k40 hf_N l0 l1 l2 l3 l4 l1 g1
theorem nlX0_goesAll_40 {C : hf_X} {gs : hf_gs} (o : hf_In C cX0_goesAll RX0 6 (none) 2 40) (og : hf_G C gs) (k26 : Nat → Int32 → Int32 → Int32 → hf_H → Option hf_H) (k40 : Nat → Int32 → Int32 → Int32 → Int32 → hf_H → Option hf_H) (hk26 : ∀ (l0 : Nat) (l1 : Int32) (l2 : Int32) (l3 : Int32) (V0 : hf_H), hf_J C hf_dHV (k26 l0 l1 l2 l3 V0) V0 26 [(0, .ref l0), (1, .int l1), (2, .int l2), (3, .int l3)] []) (hk40 : ∀ (l0 : Nat) (l1 : Int32) (l2 : Int32) (l3 : Int32) (l4 : Int32) (V0 : hf_H), hf_J C hf_dHV (k40 l0 l1 l2 l3 l4 V0) V0 40 [(0, .ref l0), (1, .int l1), (2, .int l2), (3, .int l3), (4, .int l4)] []) (l0 : Nat) (l1 : Int32) (l2 : Int32) (l3 : Int32) (l4 : Int32) (V0 : hf_H) : hf_J C hf_dHV (ndX0_goesAll_40 k26 k40 l0 l1 l2 l3 l4 V0) V0 40 [(0, .ref l0), (1, .int l1), (2, .int l2), (3, .int l3), (4, .int l4)] [] := by
  refine hr_iload o 4 dX0_goesAll_40 rfl ?_
  refine hr_iconst o (1 : Int32) dX0_goesAll_42 (by decide) ?_
  refine hr_aload_n o 0 dX0_goesAll_43 rfl ?_
  refine hx_callVI (q := (RX0, TX0, 23)) o og mvX0_103 dX0_goesAll_44 1 0 rfl [] (fun zr zg ze => mtX0_many l0 V0 zr zg ze) rfl rfl (Nat.le_of_ble_eq_true rfl) ⟨by decide, by decide⟩ (fun x2 g1 => ?_)
  refine hr_ishl o dX0_goesAll_47 ?_
  refine hr_icmp_ge o 124 dX0_goesAll_48 (by decide) (fun _ => ?_) (fun _ => ?_)
  · refine hr_iincN o (1 : Int32) 3 (fun y => [(3, .int y), (0, .ref l0), (1, .int l1), (2, .int l2), (4, .int l4)]) dX0_goesAll_124 rfl (by decide) (by decide) (fun y => rfl) (fun x3 => ?_)
    refine hr_goto o 26 dX0_goesAll_127 (by decide) ?_
    refine hr_sub [1, 2, 3, 0] rfl ?_
    exact hk26 l0 l1 l2 x3 g1
  refine hr_aload_n o 0 dX0_goesAll_51 rfl ?_
  refine hr_getO o flX0_77 dX0_goesAll_52 127 (fun _ => rfl) (fun _ _ => ?_)
  refine hr_sipush o (4096 : Int32) dX0_goesAll_55 (by decide) ?_
  refine hr_iload_n o 3 dX0_goesAll_58 rfl ?_
  refine hr_imul o dX0_goesAll_59 ?_
  refine hr_iload o 4 dX0_goesAll_60 rfl ?_
  refine hr_iadd o dX0_goesAll_62 ?_
  refine hx_zald o 0 17 127 32768 rfl (by decide) rfl dX0_goesAll_63 (fun x4 => ?_)
  refine hr_if_ne o 70 dX0_goesAll_64 (by decide) (fun _ => ?_) (fun _ => ?_)
  · refine hr_goto o 118 dX0_goesAll_67 (by decide) ?_
    exact nlX0_goesAll_118 o og k26 k40 hk26 hk40 l0 l1 l2 l3 l4 g1
  refine hr_iload_n o 1 dX0_goesAll_70 rfl ?_
  refine hr_istore o [(5, .int l1), (0, .ref l0), (1, .int l1), (2, .int l2), (3, .int l3), (4, .int l4)] dX0_goesAll_71 (by decide) rfl ?_
  refine hr_sub [1, 2, 3, 4, 5, 0] rfl ?_
  exact llX0_goesAll_73 o og k26 k40 hk26 hk40 hf_N l0 l1 l2 l3 l4 l1 g1
def lpX0_goesAll_40 (k26 : Nat → Int32 → Int32 → Int32 → hf_H → Option hf_H) : Nat → Nat → Int32 → Int32 → Int32 → Int32 → hf_H → Option hf_H
  | 0 => fun _ _ _ _ _ _ => none
  | n + 1 => fun l0 l1 l2 l3 l4 V0 => ndX0_goesAll_40 k26 (lpX0_goesAll_40 k26 n) l0 l1 l2 l3 l4 V0
theorem llX0_goesAll_40 {C : hf_X} {gs : hf_gs} (o : hf_In C cX0_goesAll RX0 6 (none) 2 40) (og : hf_G C gs) (k26 : Nat → Int32 → Int32 → Int32 → hf_H → Option hf_H) (hk26 : ∀ (l0 : Nat) (l1 : Int32) (l2 : Int32) (l3 : Int32) (V0 : hf_H), hf_J C hf_dHV (k26 l0 l1 l2 l3 V0) V0 26 [(0, .ref l0), (1, .int l1), (2, .int l2), (3, .int l3)] []) (n : Nat) : ∀ (l0 : Nat) (l1 : Int32) (l2 : Int32) (l3 : Int32) (l4 : Int32) (V0 : hf_H), hf_J C hf_dHV ((lpX0_goesAll_40 k26 n) l0 l1 l2 l3 l4 V0) V0 40 [(0, .ref l0), (1, .int l1), (2, .int l2), (3, .int l3), (4, .int l4)] [] := by
  induction n with
  | zero => exact fun _ _ _ _ _ _ => hr_none
  | succ n ih => exact fun l0 l1 l2 l3 l4 V0 => nlX0_goesAll_40 o og k26 (lpX0_goesAll_40 k26 n) hk26 ih l0 l1 l2 l3 l4 V0
def ndX0_goesAll_132 (k132 : Nat → Int32 → hf_H → Option hf_H) (l0 : Nat) (l3 : Int32) (V0 : hf_H) : Option hf_H :=
  (hf_ob 1 0 V0 l0).bind fun _ =>
  (hf_ob 1 0 V0 l0).bind fun _ =>
  if (32768 : Int32) ≤ l3 then (some V0) else
  (hf_ob 1 0 V0 l0).bind fun _ =>
  (hf_ob 1 0 V0 l0).bind fun _ =>
  (hf_ai 0 18 32768 V0 l0 l3).bind fun x1 =>
  (hf_si 0 17 32768 V0 l0 l3 (vp_nar .boolean x1)).bind fun g2 =>
  hf_let (l3 + (1 : Int32)) fun x3 =>
  k132 l0 x3 g2
theorem nlX0_goesAll_132 {C : hf_X} {gs : hf_gs} (o : hf_In C cX0_goesAll RX0 6 (none) 2 40) (og : hf_G C gs) (k132 : Nat → Int32 → hf_H → Option hf_H) (hk132 : ∀ (l0 : Nat) (l3 : Int32) (V0 : hf_H), hf_J C hf_dHV (k132 l0 l3 V0) V0 132 [(0, .ref l0), (3, .int l3)] []) (l0 : Nat) (l3 : Int32) (V0 : hf_H) : hf_J C hf_dHV (ndX0_goesAll_132 k132 l0 l3 V0) V0 132 [(0, .ref l0), (3, .int l3)] [] := by
  refine hr_iload_n o 1 dX0_goesAll_132 rfl ?_
  refine hr_aload_n o 0 dX0_goesAll_133 rfl ?_
  refine hr_getO o flX0_80 dX0_goesAll_134 128 (fun _ => rfl) (fun _ _ => ?_)
  refine hx_alen o 0 18 128 32768 rfl (by decide) .boolean rfl (by simp [hf_tys]) (32768 : Int32) (by decide) dX0_goesAll_137 (fun _ => ?_)
  refine hr_icmp_ge o 159 dX0_goesAll_138 (by decide) (fun _ => ?_) (fun _ => ?_)
  · exact hr_vret o dX0_goesAll_159 rfl
  refine hr_aload_n o 0 dX0_goesAll_141 rfl ?_
  refine hr_getO o flX0_77 dX0_goesAll_142 127 (fun _ => rfl) (fun _ _ => ?_)
  refine hr_iload_n o 1 dX0_goesAll_145 rfl ?_
  refine hr_aload_n o 0 dX0_goesAll_146 rfl ?_
  refine hr_getO o flX0_80 dX0_goesAll_147 128 (fun _ => rfl) (fun _ _ => ?_)
  refine hr_iload_n o 1 dX0_goesAll_150 rfl ?_
  refine hx_zald o 0 18 128 32768 rfl (by decide) rfl dX0_goesAll_151 (fun x1 => ?_)
  refine hx_zast o 0 17 127 32768 rfl (by decide) (fun j h1 h2 => hf_of0_inj j 17 h1 h2) rfl dX0_goesAll_152 (fun g2 => ?_)
  refine hr_iincN o (1 : Int32) 1 (fun y => [(3, .int y), (0, .ref l0)]) dX0_goesAll_153 rfl (by decide) (by decide) (fun y => rfl) (fun x3 => ?_)
  refine hr_goto o 132 dX0_goesAll_156 (by decide) ?_
  refine hr_sub [1, 0] rfl ?_
  exact hk132 l0 x3 g2
def lpX0_goesAll_132  : Nat → Nat → Int32 → hf_H → Option hf_H
  | 0 => fun _ _ _ => none
  | n + 1 => fun l0 l3 V0 => ndX0_goesAll_132  (lpX0_goesAll_132  n) l0 l3 V0
theorem llX0_goesAll_132 {C : hf_X} {gs : hf_gs} (o : hf_In C cX0_goesAll RX0 6 (none) 2 40) (og : hf_G C gs)   (n : Nat) : ∀ (l0 : Nat) (l3 : Int32) (V0 : hf_H), hf_J C hf_dHV ((lpX0_goesAll_132  n) l0 l3 V0) V0 132 [(0, .ref l0), (3, .int l3)] [] := by
  induction n with
  | zero => exact fun _ _ _ => hr_none
  | succ n ih => exact fun l0 l3 V0 => nlX0_goesAll_132 o og  (lpX0_goesAll_132  n)  ih l0 l3 V0
def ndX0_goesAll_26 (k26 : Nat → Int32 → Int32 → Int32 → hf_H → Option hf_H) (l0 : Nat) (l1 : Int32) (l2 : Int32) (l3 : Int32) (V0 : hf_H) : Option hf_H :=
  (hf_ga 1 0 0 V0 l0).bind fun x1 =>
  (hf_gi 1 1 3 V0 x1).bind fun x2 =>
  if x2 ≤ l3 then (lpX0_goesAll_132 hf_N l0 (0 : Int32) V0) else
  lpX0_goesAll_40 k26 hf_N l0 l1 l2 l3 (0 : Int32) V0
theorem nlX0_goesAll_26 {C : hf_X} {gs : hf_gs} (o : hf_In C cX0_goesAll RX0 6 (none) 2 40) (og : hf_G C gs) (k26 : Nat → Int32 → Int32 → Int32 → hf_H → Option hf_H) (hk26 : ∀ (l0 : Nat) (l1 : Int32) (l2 : Int32) (l3 : Int32) (V0 : hf_H), hf_J C hf_dHV (k26 l0 l1 l2 l3 V0) V0 26 [(0, .ref l0), (1, .int l1), (2, .int l2), (3, .int l3)] []) (l0 : Nat) (l1 : Int32) (l2 : Int32) (l3 : Int32) (V0 : hf_H) : hf_J C hf_dHV (ndX0_goesAll_26 k26 l0 l1 l2 l3 V0) V0 26 [(0, .ref l0), (1, .int l1), (2, .int l2), (3, .int l3)] [] := by
  refine hr_iload_n o 3 dX0_goesAll_26 rfl ?_
  refine hr_aload_n o 0 dX0_goesAll_27 rfl ?_
  refine hr_getA (md := 1) o flX0_12 dX0_goesAll_28 (fun _ => rfl) (fun x1 => ?_)
  refine hr_getI (md := 1) o flX0_89 dX0_goesAll_31 (fun _ => rfl) (fun x2 => ?_)
  refine hr_icmp_ge o 130 dX0_goesAll_34 (by decide) (fun _ => ?_) (fun _ => ?_)
  · refine hr_iconst o (0 : Int32) dX0_goesAll_130 (by decide) ?_
    refine hr_istore_n o [(3, .int (0 : Int32)), (0, .ref l0), (1, .int l1), (2, .int l2)] dX0_goesAll_131 (by decide) rfl ?_
    refine hr_sub [1, 0] rfl ?_
    exact llX0_goesAll_132 o og hf_N l0 (0 : Int32) V0
  refine hr_iconst o (0 : Int32) dX0_goesAll_37 (by decide) ?_
  refine hr_istore o [(4, .int (0 : Int32)), (0, .ref l0), (1, .int l1), (2, .int l2), (3, .int l3)] dX0_goesAll_38 (by decide) rfl ?_
  refine hr_sub [1, 2, 3, 4, 0] rfl ?_
  exact llX0_goesAll_40 o og k26 hk26 hf_N l0 l1 l2 l3 (0 : Int32) V0
def lpX0_goesAll_26  : Nat → Nat → Int32 → Int32 → Int32 → hf_H → Option hf_H
  | 0 => fun _ _ _ _ _ => none
  | n + 1 => fun l0 l1 l2 l3 V0 => ndX0_goesAll_26  (lpX0_goesAll_26  n) l0 l1 l2 l3 V0
theorem llX0_goesAll_26 {C : hf_X} {gs : hf_gs} (o : hf_In C cX0_goesAll RX0 6 (none) 2 40) (og : hf_G C gs)   (n : Nat) : ∀ (l0 : Nat) (l1 : Int32) (l2 : Int32) (l3 : Int32) (V0 : hf_H), hf_J C hf_dHV ((lpX0_goesAll_26  n) l0 l1 l2 l3 V0) V0 26 [(0, .ref l0), (1, .int l1), (2, .int l2), (3, .int l3)] [] := by
  induction n with
  | zero => exact fun _ _ _ _ _ => hr_none
  | succ n ih => exact fun l0 l1 l2 l3 V0 => nlX0_goesAll_26 o og  (lpX0_goesAll_26  n)  ih l0 l1 l2 l3 V0
def ndX0_goesAll_2 (k2 : Nat → Int32 → Int32 → Int32 → hf_H → Option hf_H) (l0 : Nat) (l1 : Int32) (l2 : Int32) (l3 : Int32) (V0 : hf_H) : Option hf_H :=
  (hf_ob 1 0 V0 l0).bind fun _ =>
  (hf_ob 1 0 V0 l0).bind fun _ =>
  if (32768 : Int32) ≤ l3 then (lpX0_goesAll_26 hf_N l0 l1 l2 (0 : Int32) V0) else
  (hf_ob 1 0 V0 l0).bind fun _ =>
  (hf_si 0 18 32768 V0 l0 l3 (vp_nar .boolean (0 : Int32))).bind fun g1 =>
  hf_let (l3 + (1 : Int32)) fun x2 =>
  k2 l0 l1 l2 x2 g1
theorem nlX0_goesAll_2 {C : hf_X} {gs : hf_gs} (o : hf_In C cX0_goesAll RX0 6 (none) 2 40) (og : hf_G C gs) (k2 : Nat → Int32 → Int32 → Int32 → hf_H → Option hf_H) (hk2 : ∀ (l0 : Nat) (l1 : Int32) (l2 : Int32) (l3 : Int32) (V0 : hf_H), hf_J C hf_dHV (k2 l0 l1 l2 l3 V0) V0 2 [(0, .ref l0), (1, .int l1), (2, .int l2), (3, .int l3)] []) (l0 : Nat) (l1 : Int32) (l2 : Int32) (l3 : Int32) (V0 : hf_H) : hf_J C hf_dHV (ndX0_goesAll_2 k2 l0 l1 l2 l3 V0) V0 2 [(0, .ref l0), (1, .int l1), (2, .int l2), (3, .int l3)] [] := by
  refine hr_iload_n o 3 dX0_goesAll_2 rfl ?_
  refine hr_aload_n o 0 dX0_goesAll_3 rfl ?_
  refine hr_getO o flX0_80 dX0_goesAll_4 128 (fun _ => rfl) (fun _ _ => ?_)
  refine hx_alen o 0 18 128 32768 rfl (by decide) .boolean rfl (by simp [hf_tys]) (32768 : Int32) (by decide) dX0_goesAll_7 (fun _ => ?_)
  refine hr_icmp_ge o 24 dX0_goesAll_8 (by decide) (fun _ => ?_) (fun _ => ?_)
  · refine hr_iconst o (0 : Int32) dX0_goesAll_24 (by decide) ?_
    refine hr_istore_n o [(3, .int (0 : Int32)), (0, .ref l0), (1, .int l1), (2, .int l2)] dX0_goesAll_25 (by decide) rfl ?_
    refine hr_sub [1, 2, 3, 0] rfl ?_
    exact llX0_goesAll_26 o og hf_N l0 l1 l2 (0 : Int32) V0
  refine hr_aload_n o 0 dX0_goesAll_11 rfl ?_
  refine hr_getO o flX0_80 dX0_goesAll_12 128 (fun _ => rfl) (fun _ _ => ?_)
  refine hr_iload_n o 3 dX0_goesAll_15 rfl ?_
  refine hr_iconst o (0 : Int32) dX0_goesAll_16 (by decide) ?_
  refine hx_zast o 0 18 128 32768 rfl (by decide) (fun j h1 h2 => hf_of0_inj j 18 h1 h2) rfl dX0_goesAll_17 (fun g1 => ?_)
  refine hr_iincN o (1 : Int32) 3 (fun y => [(3, .int y), (0, .ref l0), (1, .int l1), (2, .int l2)]) dX0_goesAll_18 rfl (by decide) (by decide) (fun y => rfl) (fun x2 => ?_)
  refine hr_goto o 2 dX0_goesAll_21 (by decide) ?_
  refine hr_sub [1, 2, 3, 0] rfl ?_
  exact hk2 l0 l1 l2 x2 g1
def lpX0_goesAll_2  : Nat → Nat → Int32 → Int32 → Int32 → hf_H → Option hf_H
  | 0 => fun _ _ _ _ _ => none
  | n + 1 => fun l0 l1 l2 l3 V0 => ndX0_goesAll_2  (lpX0_goesAll_2  n) l0 l1 l2 l3 V0
theorem llX0_goesAll_2 {C : hf_X} {gs : hf_gs} (o : hf_In C cX0_goesAll RX0 6 (none) 2 40) (og : hf_G C gs)   (n : Nat) : ∀ (l0 : Nat) (l1 : Int32) (l2 : Int32) (l3 : Int32) (V0 : hf_H), hf_J C hf_dHV ((lpX0_goesAll_2  n) l0 l1 l2 l3 V0) V0 2 [(0, .ref l0), (1, .int l1), (2, .int l2), (3, .int l3)] [] := by
  induction n with
  | zero => exact fun _ _ _ _ _ => hr_none
  | succ n ih => exact fun l0 l1 l2 l3 V0 => nlX0_goesAll_2 o og  (lpX0_goesAll_2  n)  ih l0 l1 l2 l3 V0
def spX0_goesAll (l0 : Nat) (l1 : Int32) (l2 : Int32) (V0 : hf_H) : Option hf_H :=
  lpX0_goesAll_2 hf_N l0 l1 l2 (0 : Int32) V0
theorem jtX0_goesAll {C : hf_X} {gs : hf_gs} (o : hf_In C cX0_goesAll RX0 6 (none) 2 40) (og : hf_G C gs) (l0 : Nat) (l1 : Int32) (l2 : Int32) (V0 : hf_H) : hf_J C hf_dHV (spX0_goesAll l0 l1 l2 V0) V0 0 [(0, .ref l0), (1, .int l1), (2, .int l2)] [] := by
  refine hr_iconst o (0 : Int32) dX0_goesAll_0 (by decide) ?_
  refine hr_istore_n o [(3, .int (0 : Int32)), (0, .ref l0), (1, .int l1), (2, .int l2)] dX0_goesAll_1 (by decide) rfl ?_
  refine hr_sub [1, 2, 3, 0] rfl ?_
  exact llX0_goesAll_2 o og hf_N l0 l1 l2 (0 : Int32) V0
theorem mtX0_goesAll {gs : hf_gs} (l0 : Nat) (l1 : Int32) (l2 : Int32) (V0 V1 : hf_H) (e : spX0_goesAll l0 l1 l2 V0 = some V1) : hf_ConG gs yX0_goesAll cX0_goesAll 6 (none) 2 40 [.ref l0, .int l1, .int l2] V0 (.returned none, V1) := hf_entryG (dec := hf_dHV) (by decide) [.ref l0, .int l1, .int l2] (Nat.le_of_ble_eq_true rfl) [(0, .ref l0), (1, .int l1), (2, .int l2)] rfl e (fun C o og _ => jtX0_goesAll o og l0 l1 l2 V0)

/-! X0_walksBy -/
theorem mvX0_361 : hf_MV RX0 361 RX0 yX0_goesAll cX0_goesAll 6 (none) 2 := ⟨lw_V q1264 q1266 qs57 q153 q1267, by decide +kernel⟩
theorem mvX0_364 : hf_MV RX0 364 RX0 yX0_comes cX0_comes 4 (none) 3 := ⟨lw_V q1246 q1248 qs53 q153 q1249, by decide +kernel⟩
theorem mvX0_357 : hf_MV RX0 357 RX0 yX0_buysAll cX0_buysAll 7 (none) 2 := ⟨lw_V q1254 q1256 qs55 q153 q1257, by decide +kernel⟩
def ndX0_walksBy_118 (k75 : Nat → Int32 → Int32 → Int32 → Int32 → Int32 → hf_H → Option hf_H) (l0 : Nat) (l1 : Int32) (l2 : Int32) (l3 : Int32) (l4 : Int32) (l5 : Int32) (s0 : Nat) (s1 : Int32) (s2 : Int32) (V0 : hf_H) : Option hf_H :=
  (hf_ob 1 0 V0 s0).bind fun _ =>
  (spX0_goesAll s0 s1 s2 V0).bind fun g1 =>
  hf_let (l5 + (1 : Int32)) fun x2 =>
  k75 l0 l1 l2 l3 l4 x2 g1
theorem nlX0_walksBy_118 {C : hf_X} {gs : hf_gs} (o : hf_In C cX0_walksBy RX0 9 (none) 5 113) (og : hf_G C gs) (k75 : Nat → Int32 → Int32 → Int32 → Int32 → Int32 → hf_H → Option hf_H) (hk75 : ∀ (l0 : Nat) (l1 : Int32) (l2 : Int32) (l3 : Int32) (l4 : Int32) (l5 : Int32) (V0 : hf_H), hf_J C hf_dHV (k75 l0 l1 l2 l3 l4 l5 V0) V0 75 [(0, .ref l0), (1, .int l1), (2, .int l2), (3, .int l3), (4, .int l4), (5, .int l5)] []) (l0 : Nat) (l1 : Int32) (l2 : Int32) (l3 : Int32) (l4 : Int32) (l5 : Int32) (s0 : Nat) (s1 : Int32) (s2 : Int32) (V0 : hf_H) : hf_J C hf_dHV (ndX0_walksBy_118 k75 l0 l1 l2 l3 l4 l5 s0 s1 s2 V0) V0 118 [(0, .ref l0), (1, .int l1), (2, .int l2), (3, .int l3), (4, .int l4), (5, .int l5)] [.int s2, .int s1, .ref s0] := by
  refine hx_callVV (q := (RX0, TX0, 23)) o og mvX0_361 dX0_walksBy_118 1 0 rfl [.int s1, .int s2] (fun zg ze => mtX0_goesAll s0 s1 s2 V0 zg ze) rfl rfl (Nat.le_of_ble_eq_true rfl) ⟨by decide, by decide⟩ (fun g1 => ?_)
  refine hr_iincN o (1 : Int32) 5 (fun y => [(5, .int y), (0, .ref l0), (1, .int l1), (2, .int l2), (3, .int l3), (4, .int l4)]) dX0_walksBy_121 rfl (by decide) (by decide) (fun y => rfl) (fun x2 => ?_)
  refine hr_goto o 75 dX0_walksBy_124 (by decide) ?_
  refine hr_sub [1, 2, 3, 4, 5, 0] rfl ?_
  exact hk75 l0 l1 l2 l3 l4 x2 g1
def ndX0_walksBy_108 (k75 : Nat → Int32 → Int32 → Int32 → Int32 → Int32 → hf_H → Option hf_H) (l0 : Nat) (l1 : Int32) (l2 : Int32) (l3 : Int32) (l4 : Int32) (l5 : Int32) (s0 : Nat) (s1 : Int32) (V0 : hf_H) : Option hf_H :=
  if l5 = 0 then (ndX0_walksBy_118 k75 l0 l1 l2 l3 l4 l5 s0 s1 l2 V0) else
  ndX0_walksBy_118 k75 l0 l1 l2 l3 l4 l5 s0 s1 (1 : Int32) V0
theorem nlX0_walksBy_108 {C : hf_X} {gs : hf_gs} (o : hf_In C cX0_walksBy RX0 9 (none) 5 113) (og : hf_G C gs) (k75 : Nat → Int32 → Int32 → Int32 → Int32 → Int32 → hf_H → Option hf_H) (hk75 : ∀ (l0 : Nat) (l1 : Int32) (l2 : Int32) (l3 : Int32) (l4 : Int32) (l5 : Int32) (V0 : hf_H), hf_J C hf_dHV (k75 l0 l1 l2 l3 l4 l5 V0) V0 75 [(0, .ref l0), (1, .int l1), (2, .int l2), (3, .int l3), (4, .int l4), (5, .int l5)] []) (l0 : Nat) (l1 : Int32) (l2 : Int32) (l3 : Int32) (l4 : Int32) (l5 : Int32) (s0 : Nat) (s1 : Int32) (V0 : hf_H) : hf_J C hf_dHV (ndX0_walksBy_108 k75 l0 l1 l2 l3 l4 l5 s0 s1 V0) V0 108 [(0, .ref l0), (1, .int l1), (2, .int l2), (3, .int l3), (4, .int l4), (5, .int l5)] [.int s1, .ref s0] := by
  refine hr_iload o 5 dX0_walksBy_108 rfl ?_
  refine hr_if_ne o 117 dX0_walksBy_110 (by decide) (fun _ => ?_) (fun _ => ?_)
  · refine hr_iload_n o 2 dX0_walksBy_113 rfl ?_
    refine hr_goto o 118 dX0_walksBy_114 (by decide) ?_
    exact nlX0_walksBy_118 o og k75 hk75 l0 l1 l2 l3 l4 l5 s0 s1 l2 V0
  refine hr_iconst o (1 : Int32) dX0_walksBy_117 (by decide) ?_
  exact nlX0_walksBy_118 o og k75 hk75 l0 l1 l2 l3 l4 l5 s0 s1 (1 : Int32) V0
def ndX0_walksBy_200 (k144 : Nat → Int32 → Int32 → Int32 → Int32 → hf_H → Option hf_H) (k161 : Nat → Int32 → Int32 → Int32 → Int32 → Int32 → Int32 → hf_H → Option hf_H) (l0 : Nat) (l2 : Int32) (l4 : Int32) (l5 : Int32) (l6 : Int32) (l8 : Int32) (s0 : Int32) (V0 : hf_H) : Option hf_H :=
  hf_let (l8 + (1 : Int32)) fun x1 =>
  k161 l0 l2 l4 l5 l6 s0 x1 V0
theorem nlX0_walksBy_200 {C : hf_X} {gs : hf_gs} (o : hf_In C cX0_walksBy RX0 9 (none) 5 113) (og : hf_G C gs) (k144 : Nat → Int32 → Int32 → Int32 → Int32 → hf_H → Option hf_H) (k161 : Nat → Int32 → Int32 → Int32 → Int32 → Int32 → Int32 → hf_H → Option hf_H) (hk144 : ∀ (l0 : Nat) (l2 : Int32) (l4 : Int32) (l5 : Int32) (l6 : Int32) (V0 : hf_H), hf_J C hf_dHV (k144 l0 l2 l4 l5 l6 V0) V0 144 [(0, .ref l0), (2, .int l2), (4, .int l4), (5, .int l5), (6, .int l6)] []) (hk161 : ∀ (l0 : Nat) (l2 : Int32) (l4 : Int32) (l5 : Int32) (l6 : Int32) (l7 : Int32) (l8 : Int32) (V0 : hf_H), hf_J C hf_dHV (k161 l0 l2 l4 l5 l6 l7 l8 V0) V0 161 [(0, .ref l0), (2, .int l2), (4, .int l4), (5, .int l5), (6, .int l6), (7, .int l7), (8, .int l8)] []) (l0 : Nat) (l2 : Int32) (l4 : Int32) (l5 : Int32) (l6 : Int32) (l8 : Int32) (s0 : Int32) (V0 : hf_H) : hf_J C hf_dHV (ndX0_walksBy_200 k144 k161 l0 l2 l4 l5 l6 l8 s0 V0) V0 200 [(0, .ref l0), (2, .int l2), (4, .int l4), (5, .int l5), (6, .int l6), (8, .int l8)] [.int s0] := by
  refine hr_istore o [(7, .int s0), (0, .ref l0), (2, .int l2), (4, .int l4), (5, .int l5), (6, .int l6), (8, .int l8)] dX0_walksBy_200 (by decide) rfl ?_
  refine hr_iincN o (1 : Int32) 6 (fun y => [(8, .int y), (7, .int s0), (0, .ref l0), (2, .int l2), (4, .int l4), (5, .int l5), (6, .int l6)]) dX0_walksBy_202 rfl (by decide) (by decide) (fun y => rfl) (fun x1 => ?_)
  refine hr_goto o 161 dX0_walksBy_205 (by decide) ?_
  refine hr_sub [2, 3, 4, 5, 6, 1, 0] rfl ?_
  exact hk161 l0 l2 l4 l5 l6 s0 x1 V0
def ndX0_walksBy_195 (k144 : Nat → Int32 → Int32 → Int32 → Int32 → hf_H → Option hf_H) (k161 : Nat → Int32 → Int32 → Int32 → Int32 → Int32 → Int32 → hf_H → Option hf_H) (l0 : Nat) (l2 : Int32) (l4 : Int32) (l5 : Int32) (l6 : Int32) (l8 : Int32) (V0 : hf_H) : Option hf_H :=
  ndX0_walksBy_200 k144 k161 l0 l2 l4 l5 l6 l8 (1 : Int32) V0
theorem nlX0_walksBy_195 {C : hf_X} {gs : hf_gs} (o : hf_In C cX0_walksBy RX0 9 (none) 5 113) (og : hf_G C gs) (k144 : Nat → Int32 → Int32 → Int32 → Int32 → hf_H → Option hf_H) (k161 : Nat → Int32 → Int32 → Int32 → Int32 → Int32 → Int32 → hf_H → Option hf_H) (hk144 : ∀ (l0 : Nat) (l2 : Int32) (l4 : Int32) (l5 : Int32) (l6 : Int32) (V0 : hf_H), hf_J C hf_dHV (k144 l0 l2 l4 l5 l6 V0) V0 144 [(0, .ref l0), (2, .int l2), (4, .int l4), (5, .int l5), (6, .int l6)] []) (hk161 : ∀ (l0 : Nat) (l2 : Int32) (l4 : Int32) (l5 : Int32) (l6 : Int32) (l7 : Int32) (l8 : Int32) (V0 : hf_H), hf_J C hf_dHV (k161 l0 l2 l4 l5 l6 l7 l8 V0) V0 161 [(0, .ref l0), (2, .int l2), (4, .int l4), (5, .int l5), (6, .int l6), (7, .int l7), (8, .int l8)] []) (l0 : Nat) (l2 : Int32) (l4 : Int32) (l5 : Int32) (l6 : Int32) (l8 : Int32) (V0 : hf_H) : hf_J C hf_dHV (ndX0_walksBy_195 k144 k161 l0 l2 l4 l5 l6 l8 V0) V0 195 [(0, .ref l0), (2, .int l2), (4, .int l4), (5, .int l5), (6, .int l6), (8, .int l8)] [] := by
  refine hr_iconst o (1 : Int32) dX0_walksBy_195 (by decide) ?_
  refine hr_goto o 200 dX0_walksBy_196 (by decide) ?_
  exact nlX0_walksBy_200 o og k144 k161 hk144 hk161 l0 l2 l4 l5 l6 l8 (1 : Int32) V0
def ndX0_walksBy_240 (k144 : Nat → Int32 → Int32 → Int32 → Int32 → hf_H → Option hf_H) (l0 : Nat) (l2 : Int32) (l4 : Int32) (l5 : Int32) (l6 : Int32) (V0 : hf_H) : Option hf_H :=
  hf_let (l6 + (1 : Int32)) fun x1 =>
  k144 l0 l2 l4 l5 x1 V0
theorem nlX0_walksBy_240 {C : hf_X} {gs : hf_gs} (o : hf_In C cX0_walksBy RX0 9 (none) 5 113) (og : hf_G C gs) (k144 : Nat → Int32 → Int32 → Int32 → Int32 → hf_H → Option hf_H) (hk144 : ∀ (l0 : Nat) (l2 : Int32) (l4 : Int32) (l5 : Int32) (l6 : Int32) (V0 : hf_H), hf_J C hf_dHV (k144 l0 l2 l4 l5 l6 V0) V0 144 [(0, .ref l0), (2, .int l2), (4, .int l4), (5, .int l5), (6, .int l6)] []) (l0 : Nat) (l2 : Int32) (l4 : Int32) (l5 : Int32) (l6 : Int32) (V0 : hf_H) : hf_J C hf_dHV (ndX0_walksBy_240 k144 l0 l2 l4 l5 l6 V0) V0 240 [(0, .ref l0), (2, .int l2), (4, .int l4), (5, .int l5), (6, .int l6)] [] := by
  refine hr_iincN o (1 : Int32) 4 (fun y => [(6, .int y), (0, .ref l0), (2, .int l2), (4, .int l4), (5, .int l5)]) dX0_walksBy_240 rfl (by decide) (by decide) (fun y => rfl) (fun x1 => ?_)
  refine hr_goto o 144 dX0_walksBy_243 (by decide) ?_
  refine hr_sub [1, 2, 3, 4, 0] rfl ?_
  exact hk144 l0 l2 l4 l5 x1 V0
def ndX0_walksBy_161 (k144 : Nat → Int32 → Int32 → Int32 → Int32 → hf_H → Option hf_H) (k161 : Nat → Int32 → Int32 → Int32 → Int32 → Int32 → Int32 → hf_H → Option hf_H) (l0 : Nat) (l2 : Int32) (l4 : Int32) (l5 : Int32) (l6 : Int32) (l7 : Int32) (l8 : Int32) (V0 : hf_H) : Option hf_H :=
  (hf_ga 1 0 0 V0 l0).bind fun x1 =>
  (hf_gi 1 1 3 V0 x1).bind fun x2 =>
  if x2 ≤ l8 then (if l7 = 0 then (ndX0_walksBy_240 k144 l0 l2 l4 l5 l6 V0) else
  (hf_ob 1 0 V0 l0).bind fun _ =>
  (hf_ai 0 12 4096 V0 l0 (l5 ||| l6)).bind fun x3 =>
  (hf_ob 1 0 V0 l0).bind fun _ =>
  hf_b2 (spX0_costOf l0 l6 V0) fun x5 g4 =>
  (hf_ob 1 0 g4 l0).bind fun _ =>
  (spX0_comes l0 ((x3 + l4) - x5) l2 l6 g4).bind fun g6 =>
  ndX0_walksBy_240 k144 l0 l2 l4 l5 l6 g6) else
  if l7 = 0 then ((hf_ob 1 0 V0 l0).bind fun _ =>
  (hf_ai 0 17 32768 V0 l0 (((4096 : Int32) * l8) + l6)).bind fun x7 =>
  if x7 = 0 then (ndX0_walksBy_200 k144 k161 l0 l2 l4 l5 l6 l8 (0 : Int32) V0) else
  ndX0_walksBy_195 k144 k161 l0 l2 l4 l5 l6 l8 V0) else
  ndX0_walksBy_195 k144 k161 l0 l2 l4 l5 l6 l8 V0
theorem nlX0_walksBy_161 {C : hf_X} {gs : hf_gs} (o : hf_In C cX0_walksBy RX0 9 (none) 5 113) (og : hf_G C gs) (k144 : Nat → Int32 → Int32 → Int32 → Int32 → hf_H → Option hf_H) (k161 : Nat → Int32 → Int32 → Int32 → Int32 → Int32 → Int32 → hf_H → Option hf_H) (hk144 : ∀ (l0 : Nat) (l2 : Int32) (l4 : Int32) (l5 : Int32) (l6 : Int32) (V0 : hf_H), hf_J C hf_dHV (k144 l0 l2 l4 l5 l6 V0) V0 144 [(0, .ref l0), (2, .int l2), (4, .int l4), (5, .int l5), (6, .int l6)] []) (hk161 : ∀ (l0 : Nat) (l2 : Int32) (l4 : Int32) (l5 : Int32) (l6 : Int32) (l7 : Int32) (l8 : Int32) (V0 : hf_H), hf_J C hf_dHV (k161 l0 l2 l4 l5 l6 l7 l8 V0) V0 161 [(0, .ref l0), (2, .int l2), (4, .int l4), (5, .int l5), (6, .int l6), (7, .int l7), (8, .int l8)] []) (l0 : Nat) (l2 : Int32) (l4 : Int32) (l5 : Int32) (l6 : Int32) (l7 : Int32) (l8 : Int32) (V0 : hf_H) : hf_J C hf_dHV (ndX0_walksBy_161 k144 k161 l0 l2 l4 l5 l6 l7 l8 V0) V0 161 [(0, .ref l0), (2, .int l2), (4, .int l4), (5, .int l5), (6, .int l6), (7, .int l7), (8, .int l8)] [] := by
  refine hr_iload o 6 dX0_walksBy_161 rfl ?_
  refine hr_aload_n o 0 dX0_walksBy_163 rfl ?_
  refine hr_getA (md := 1) o flX0_12 dX0_walksBy_164 (fun _ => rfl) (fun x1 => ?_)
  refine hr_getI (md := 1) o flX0_89 dX0_walksBy_167 (fun _ => rfl) (fun x2 => ?_)
  refine hr_icmp_ge o 208 dX0_walksBy_170 (by decide) (fun _ => ?_) (fun _ => ?_)
  · refine hr_iload o 5 dX0_walksBy_208 rfl ?_
    refine hr_if_eq o 240 dX0_walksBy_210 (by decide) (fun _ => ?_) (fun _ => ?_)
    · refine hr_sub [0, 1, 2, 3, 4] rfl ?_
      exact nlX0_walksBy_240 o og k144 hk144 l0 l2 l4 l5 l6 V0
    refine hr_aload_n o 0 dX0_walksBy_213 rfl ?_
    refine hr_aload_n o 0 dX0_walksBy_214 rfl ?_
    refine hr_getO o flX0_57 dX0_walksBy_215 24 (fun _ => rfl) (fun _ _ => ?_)
    refine hr_iload o 3 dX0_walksBy_218 rfl ?_
    refine hr_iload o 4 dX0_walksBy_220 rfl ?_
    refine hr_ior o dX0_walksBy_222 ?_
    refine hx_iald o 0 12 24 4096 rfl (by decide) rfl dX0_walksBy_223 (fun x3 => ?_)
    refine hr_iload o 2 dX0_walksBy_224 rfl ?_
    refine hr_iadd o dX0_walksBy_226 ?_
    refine hr_aload_n o 0 dX0_walksBy_227 rfl ?_
    refine hr_iload o 4 dX0_walksBy_228 rfl ?_
    refine hx_callVI (q := (RX0, TX0, 23)) o og mvX0_354 dX0_walksBy_230 1 0 rfl [.int l6] (fun zr zg ze => mtX0_costOf l0 l6 V0 zr zg ze) rfl rfl (Nat.le_of_ble_eq_true rfl) ⟨by decide, by decide⟩ (fun x5 g4 => ?_)
    refine hr_isub o dX0_walksBy_233 ?_
    refine hr_iload_n o 1 dX0_walksBy_234 rfl ?_
    refine hr_iload o 4 dX0_walksBy_235 rfl ?_
    refine hx_callVV (q := (RX0, TX0, 23)) o og mvX0_364 dX0_walksBy_237 1 0 rfl [.int ((x3 + l4) - x5), .int l2, .int l6] (fun zg ze => mtX0_comes l0 ((x3 + l4) - x5) l2 l6 g4 zg ze) rfl rfl (Nat.le_of_ble_eq_true rfl) ⟨by decide, by decide⟩ (fun g6 => ?_)
    refine hr_sub [0, 1, 2, 3, 4] rfl ?_
    exact nlX0_walksBy_240 o og k144 hk144 l0 l2 l4 l5 l6 g6
  refine hr_iload o 5 dX0_walksBy_173 rfl ?_
  refine hr_if_ne o 195 dX0_walksBy_175 (by decide) (fun _ => ?_) (fun _ => ?_)
  · refine hr_aload_n o 0 dX0_walksBy_178 rfl ?_
    refine hr_getO o flX0_77 dX0_walksBy_179 127 (fun _ => rfl) (fun _ _ => ?_)
    refine hr_sipush o (4096 : Int32) dX0_walksBy_182 (by decide) ?_
    refine hr_iload o 6 dX0_walksBy_185 rfl ?_
    refine hr_imul o dX0_walksBy_187 ?_
    refine hr_iload o 4 dX0_walksBy_188 rfl ?_
    refine hr_iadd o dX0_walksBy_190 ?_
    refine hx_zald o 0 17 127 32768 rfl (by decide) rfl dX0_walksBy_191 (fun x7 => ?_)
    refine hr_if_eq o 199 dX0_walksBy_192 (by decide) (fun _ => ?_) (fun _ => ?_)
    · refine hr_iconst o (0 : Int32) dX0_walksBy_199 (by decide) ?_
      refine hr_sub [0, 1, 2, 3, 4, 6] rfl ?_
      exact nlX0_walksBy_200 o og k144 k161 hk144 hk161 l0 l2 l4 l5 l6 l8 (0 : Int32) V0
    refine hr_sub [0, 1, 2, 3, 4, 6] rfl ?_
    exact nlX0_walksBy_195 o og k144 k161 hk144 hk161 l0 l2 l4 l5 l6 l8 V0
  refine hr_sub [0, 1, 2, 3, 4, 6] rfl ?_
  exact nlX0_walksBy_195 o og k144 k161 hk144 hk161 l0 l2 l4 l5 l6 l8 V0
def lpX0_walksBy_161 (k144 : Nat → Int32 → Int32 → Int32 → Int32 → hf_H → Option hf_H) : Nat → Nat → Int32 → Int32 → Int32 → Int32 → Int32 → Int32 → hf_H → Option hf_H
  | 0 => fun _ _ _ _ _ _ _ _ => none
  | n + 1 => fun l0 l2 l4 l5 l6 l7 l8 V0 => ndX0_walksBy_161 k144 (lpX0_walksBy_161 k144 n) l0 l2 l4 l5 l6 l7 l8 V0
theorem llX0_walksBy_161 {C : hf_X} {gs : hf_gs} (o : hf_In C cX0_walksBy RX0 9 (none) 5 113) (og : hf_G C gs) (k144 : Nat → Int32 → Int32 → Int32 → Int32 → hf_H → Option hf_H) (hk144 : ∀ (l0 : Nat) (l2 : Int32) (l4 : Int32) (l5 : Int32) (l6 : Int32) (V0 : hf_H), hf_J C hf_dHV (k144 l0 l2 l4 l5 l6 V0) V0 144 [(0, .ref l0), (2, .int l2), (4, .int l4), (5, .int l5), (6, .int l6)] []) (n : Nat) : ∀ (l0 : Nat) (l2 : Int32) (l4 : Int32) (l5 : Int32) (l6 : Int32) (l7 : Int32) (l8 : Int32) (V0 : hf_H), hf_J C hf_dHV ((lpX0_walksBy_161 k144 n) l0 l2 l4 l5 l6 l7 l8 V0) V0 161 [(0, .ref l0), (2, .int l2), (4, .int l4), (5, .int l5), (6, .int l6), (7, .int l7), (8, .int l8)] [] := by
  induction n with
  | zero => exact fun _ _ _ _ _ _ _ _ => hr_none
  | succ n ih => exact fun l0 l2 l4 l5 l6 l7 l8 V0 => nlX0_walksBy_161 o og k144 (lpX0_walksBy_161 k144 n) hk144 ih l0 l2 l4 l5 l6 l7 l8 V0
def ndX0_walksBy_144 (k144 : Nat → Int32 → Int32 → Int32 → Int32 → hf_H → Option hf_H) (l0 : Nat) (l2 : Int32) (l4 : Int32) (l5 : Int32) (l6 : Int32) (V0 : hf_H) : Option hf_H :=
  (hf_ob 1 0 V0 l0).bind fun _ =>
  hf_b2 (spX0_many l0 V0) fun x2 g1 =>
  if ((1 : Int32) <<< (x2 &&& 31)) ≤ l6 then (some g1) else
  lpX0_walksBy_161 k144 hf_N l0 l2 l4 l5 l6 (0 : Int32) (0 : Int32) g1
theorem nlX0_walksBy_144 {C : hf_X} {gs : hf_gs} (o : hf_In C cX0_walksBy RX0 9 (none) 5 113) (og : hf_G C gs) (k144 : Nat → Int32 → Int32 → Int32 → Int32 → hf_H → Option hf_H) (hk144 : ∀ (l0 : Nat) (l2 : Int32) (l4 : Int32) (l5 : Int32) (l6 : Int32) (V0 : hf_H), hf_J C hf_dHV (k144 l0 l2 l4 l5 l6 V0) V0 144 [(0, .ref l0), (2, .int l2), (4, .int l4), (5, .int l5), (6, .int l6)] []) (l0 : Nat) (l2 : Int32) (l4 : Int32) (l5 : Int32) (l6 : Int32) (V0 : hf_H) : hf_J C hf_dHV (ndX0_walksBy_144 k144 l0 l2 l4 l5 l6 V0) V0 144 [(0, .ref l0), (2, .int l2), (4, .int l4), (5, .int l5), (6, .int l6)] [] := by
  refine hr_iload o 4 dX0_walksBy_144 rfl ?_
  refine hr_iconst o (1 : Int32) dX0_walksBy_146 (by decide) ?_
  refine hr_aload_n o 0 dX0_walksBy_147 rfl ?_
  refine hx_callVI (q := (RX0, TX0, 23)) o og mvX0_103 dX0_walksBy_148 1 0 rfl [] (fun zr zg ze => mtX0_many l0 V0 zr zg ze) rfl rfl (Nat.le_of_ble_eq_true rfl) ⟨by decide, by decide⟩ (fun x2 g1 => ?_)
  refine hr_ishl o dX0_walksBy_151 ?_
  refine hr_icmp_ge o 246 dX0_walksBy_152 (by decide) (fun _ => ?_) (fun _ => ?_)
  · exact hr_vret o dX0_walksBy_246 rfl
  refine hr_iconst o (0 : Int32) dX0_walksBy_155 (by decide) ?_
  refine hr_istore o [(7, .int (0 : Int32)), (0, .ref l0), (2, .int l2), (4, .int l4), (5, .int l5), (6, .int l6)] dX0_walksBy_156 (by decide) rfl ?_
  refine hr_iconst o (0 : Int32) dX0_walksBy_158 (by decide) ?_
  refine hr_istore o [(8, .int (0 : Int32)), (7, .int (0 : Int32)), (0, .ref l0), (2, .int l2), (4, .int l4), (5, .int l5), (6, .int l6)] dX0_walksBy_159 (by decide) rfl ?_
  refine hr_sub [2, 3, 4, 5, 6, 1, 0] rfl ?_
  exact llX0_walksBy_161 o og k144 hk144 hf_N l0 l2 l4 l5 l6 (0 : Int32) (0 : Int32) g1
def lpX0_walksBy_144  : Nat → Nat → Int32 → Int32 → Int32 → Int32 → hf_H → Option hf_H
  | 0 => fun _ _ _ _ _ _ => none
  | n + 1 => fun l0 l2 l4 l5 l6 V0 => ndX0_walksBy_144  (lpX0_walksBy_144  n) l0 l2 l4 l5 l6 V0
theorem llX0_walksBy_144 {C : hf_X} {gs : hf_gs} (o : hf_In C cX0_walksBy RX0 9 (none) 5 113) (og : hf_G C gs)   (n : Nat) : ∀ (l0 : Nat) (l2 : Int32) (l4 : Int32) (l5 : Int32) (l6 : Int32) (V0 : hf_H), hf_J C hf_dHV ((lpX0_walksBy_144  n) l0 l2 l4 l5 l6 V0) V0 144 [(0, .ref l0), (2, .int l2), (4, .int l4), (5, .int l5), (6, .int l6)] [] := by
  induction n with
  | zero => exact fun _ _ _ _ _ _ => hr_none
  | succ n ih => exact fun l0 l2 l4 l5 l6 V0 => nlX0_walksBy_144 o og  (lpX0_walksBy_144  n)  ih l0 l2 l4 l5 l6 V0
def ndX0_walksBy_75 (k75 : Nat → Int32 → Int32 → Int32 → Int32 → Int32 → hf_H → Option hf_H) (l0 : Nat) (l1 : Int32) (l2 : Int32) (l3 : Int32) (l4 : Int32) (l5 : Int32) (V0 : hf_H) : Option hf_H :=
  if l3 ≤ l5 then ((hf_ga 1 0 1 V0 l0).bind fun x1 =>
  (hf_ga 1 0 0 V0 l0).bind fun x2 =>
  (hf_ob 1 2 V0 x1).bind fun _ =>
  hf_b2 (spX2_halvesOf x1 x2 l1 V0) fun x4 g3 =>
  lpX0_walksBy_144 hf_N l0 l2 l4 x4 (0 : Int32) g3) else
  (hf_ga 1 0 1 V0 l0).bind fun x5 =>
  (hf_gi 1 2 4 V0 x5).bind fun x6 =>
  (hf_ob 1 0 V0 l0).bind fun _ =>
  (spX0_buysAll l0 (x6 + l5) l4 V0).bind fun g7 =>
  if l5 = 0 then (ndX0_walksBy_108 k75 l0 l1 l2 l3 l4 l5 l0 l2 g7) else
  ndX0_walksBy_108 k75 l0 l1 l2 l3 l4 l5 l0 (-1 : Int32) g7
theorem nlX0_walksBy_75 {C : hf_X} {gs : hf_gs} (o : hf_In C cX0_walksBy RX0 9 (none) 5 113) (og : hf_G C gs) (k75 : Nat → Int32 → Int32 → Int32 → Int32 → Int32 → hf_H → Option hf_H) (hk75 : ∀ (l0 : Nat) (l1 : Int32) (l2 : Int32) (l3 : Int32) (l4 : Int32) (l5 : Int32) (V0 : hf_H), hf_J C hf_dHV (k75 l0 l1 l2 l3 l4 l5 V0) V0 75 [(0, .ref l0), (1, .int l1), (2, .int l2), (3, .int l3), (4, .int l4), (5, .int l5)] []) (l0 : Nat) (l1 : Int32) (l2 : Int32) (l3 : Int32) (l4 : Int32) (l5 : Int32) (V0 : hf_H) : hf_J C hf_dHV (ndX0_walksBy_75 k75 l0 l1 l2 l3 l4 l5 V0) V0 75 [(0, .ref l0), (1, .int l1), (2, .int l2), (3, .int l3), (4, .int l4), (5, .int l5)] [] := by
  refine hr_iload o 5 dX0_walksBy_75 rfl ?_
  refine hr_iload_n o 3 dX0_walksBy_77 rfl ?_
  refine hr_icmp_ge o 127 dX0_walksBy_78 (by decide) (fun _ => ?_) (fun _ => ?_)
  · refine hr_aload_n o 0 dX0_walksBy_127 rfl ?_
    refine hr_getA (md := 1) o flX0_19 dX0_walksBy_128 (fun _ => rfl) (fun x1 => ?_)
    refine hr_aload_n o 0 dX0_walksBy_131 rfl ?_
    refine hr_getA (md := 1) o flX0_12 dX0_walksBy_132 (fun _ => rfl) (fun x2 => ?_)
    refine hr_iload_n o 1 dX0_walksBy_135 rfl ?_
    refine hx_callVI (q := (RX2, TX2, 5)) o og mvX0_195 dX0_walksBy_136 1 2 rfl [.ref x2, .int l1] (fun zr zg ze => mtX2_halvesOf x1 x2 l1 V0 zr zg ze) rfl rfl (Nat.le_of_ble_eq_true rfl) ⟨by decide, by decide⟩ (fun x4 g3 => ?_)
    refine hr_istore o [(5, .int x4), (0, .ref l0), (1, .int l1), (2, .int l2), (3, .int l3), (4, .int l4)] dX0_walksBy_139 (by decide) rfl ?_
    refine hr_iconst o (0 : Int32) dX0_walksBy_141 (by decide) ?_
    refine hr_istore o [(6, .int (0 : Int32)), (5, .int x4), (0, .ref l0), (1, .int l1), (2, .int l2), (3, .int l3), (4, .int l4)] dX0_walksBy_142 (by decide) rfl ?_
    refine hr_sub [2, 4, 6, 1, 0] rfl ?_
    exact llX0_walksBy_144 o og hf_N l0 l2 l4 x4 (0 : Int32) g3
  refine hr_aload_n o 0 dX0_walksBy_81 rfl ?_
  refine hr_aload_n o 0 dX0_walksBy_82 rfl ?_
  refine hr_getA (md := 1) o flX0_19 dX0_walksBy_83 (fun _ => rfl) (fun x5 => ?_)
  refine hr_getI (md := 1) o flX0_165 dX0_walksBy_86 (fun _ => rfl) (fun x6 => ?_)
  refine hr_iload o 5 dX0_walksBy_89 rfl ?_
  refine hr_iadd o dX0_walksBy_91 ?_
  refine hr_iload o 4 dX0_walksBy_92 rfl ?_
  refine hx_callVV (q := (RX0, TX0, 23)) o og mvX0_357 dX0_walksBy_94 1 0 rfl [.int (x6 + l5), .int l4] (fun zg ze => mtX0_buysAll l0 (x6 + l5) l4 V0 zg ze) rfl rfl (Nat.le_of_ble_eq_true rfl) ⟨by decide, by decide⟩ (fun g7 => ?_)
  refine hr_aload_n o 0 dX0_walksBy_97 rfl ?_
  refine hr_iload o 5 dX0_walksBy_98 rfl ?_
  refine hr_if_ne o 107 dX0_walksBy_100 (by decide) (fun _ => ?_) (fun _ => ?_)
  · refine hr_iload_n o 2 dX0_walksBy_103 rfl ?_
    refine hr_goto o 108 dX0_walksBy_104 (by decide) ?_
    exact nlX0_walksBy_108 o og k75 hk75 l0 l1 l2 l3 l4 l5 l0 l2 g7
  refine hr_iconst o (-1 : Int32) dX0_walksBy_107 (by decide) ?_
  exact nlX0_walksBy_108 o og k75 hk75 l0 l1 l2 l3 l4 l5 l0 (-1 : Int32) g7
def lpX0_walksBy_75  : Nat → Nat → Int32 → Int32 → Int32 → Int32 → Int32 → hf_H → Option hf_H
  | 0 => fun _ _ _ _ _ _ _ => none
  | n + 1 => fun l0 l1 l2 l3 l4 l5 V0 => ndX0_walksBy_75  (lpX0_walksBy_75  n) l0 l1 l2 l3 l4 l5 V0
theorem llX0_walksBy_75 {C : hf_X} {gs : hf_gs} (o : hf_In C cX0_walksBy RX0 9 (none) 5 113) (og : hf_G C gs)   (n : Nat) : ∀ (l0 : Nat) (l1 : Int32) (l2 : Int32) (l3 : Int32) (l4 : Int32) (l5 : Int32) (V0 : hf_H), hf_J C hf_dHV ((lpX0_walksBy_75  n) l0 l1 l2 l3 l4 l5 V0) V0 75 [(0, .ref l0), (1, .int l1), (2, .int l2), (3, .int l3), (4, .int l4), (5, .int l5)] [] := by
  induction n with
  | zero => exact fun _ _ _ _ _ _ _ => hr_none
  | succ n ih => exact fun l0 l1 l2 l3 l4 l5 V0 => nlX0_walksBy_75 o og  (lpX0_walksBy_75  n)  ih l0 l1 l2 l3 l4 l5 V0
def ndX0_walksBy_29 (k29 : Nat → Int32 → Int32 → Int32 → Int32 → Int32 → hf_H → Option hf_H) (l0 : Nat) (l1 : Int32) (l2 : Int32) (l3 : Int32) (l4 : Int32) (l5 : Int32) (V0 : hf_H) : Option hf_H :=
  (hf_ob 1 0 V0 l0).bind fun _ =>
  (hf_ob 1 0 V0 l0).bind fun _ =>
  if (32768 : Int32) ≤ l5 then ((hf_ob 1 0 V0 l0).bind fun _ =>
  (hf_ga 1 0 1 V0 l0).bind fun x1 =>
  (hf_ob 1 2 V0 x1).bind fun _ =>
  (hf_ai 2 2 4 V0 x1 l1).bind fun x2 =>
  (hf_si 0 17 32768 V0 l0 ((4096 : Int32) * x2) (vp_nar .boolean (1 : Int32))).bind fun g3 =>
  lpX0_walksBy_75 hf_N l0 l1 l2 l3 l4 (0 : Int32) g3) else
  (hf_ob 1 0 V0 l0).bind fun _ =>
  (hf_si 0 17 32768 V0 l0 l5 (vp_nar .boolean (0 : Int32))).bind fun g4 =>
  hf_let (l5 + (1 : Int32)) fun x5 =>
  k29 l0 l1 l2 l3 l4 x5 g4
theorem nlX0_walksBy_29 {C : hf_X} {gs : hf_gs} (o : hf_In C cX0_walksBy RX0 9 (none) 5 113) (og : hf_G C gs) (k29 : Nat → Int32 → Int32 → Int32 → Int32 → Int32 → hf_H → Option hf_H) (hk29 : ∀ (l0 : Nat) (l1 : Int32) (l2 : Int32) (l3 : Int32) (l4 : Int32) (l5 : Int32) (V0 : hf_H), hf_J C hf_dHV (k29 l0 l1 l2 l3 l4 l5 V0) V0 29 [(0, .ref l0), (1, .int l1), (2, .int l2), (3, .int l3), (4, .int l4), (5, .int l5)] []) (l0 : Nat) (l1 : Int32) (l2 : Int32) (l3 : Int32) (l4 : Int32) (l5 : Int32) (V0 : hf_H) : hf_J C hf_dHV (ndX0_walksBy_29 k29 l0 l1 l2 l3 l4 l5 V0) V0 29 [(0, .ref l0), (1, .int l1), (2, .int l2), (3, .int l3), (4, .int l4), (5, .int l5)] [] := by
  refine hr_iload o 5 dX0_walksBy_29 rfl ?_
  refine hr_aload_n o 0 dX0_walksBy_31 rfl ?_
  refine hr_getO o flX0_77 dX0_walksBy_32 127 (fun _ => rfl) (fun _ _ => ?_)
  refine hx_alen o 0 17 127 32768 rfl (by decide) .boolean rfl (by simp [hf_tys]) (32768 : Int32) (by decide) dX0_walksBy_35 (fun _ => ?_)
  refine hr_icmp_ge o 53 dX0_walksBy_36 (by decide) (fun _ => ?_) (fun _ => ?_)
  · refine hr_aload_n o 0 dX0_walksBy_53 rfl ?_
    refine hr_getO o flX0_77 dX0_walksBy_54 127 (fun _ => rfl) (fun _ _ => ?_)
    refine hr_sipush o (4096 : Int32) dX0_walksBy_57 (by decide) ?_
    refine hr_aload_n o 0 dX0_walksBy_60 rfl ?_
    refine hr_getA (md := 1) o flX0_19 dX0_walksBy_61 (fun _ => rfl) (fun x1 => ?_)
    refine hr_getO o flX0_192 dX0_walksBy_64 3 (fun _ => rfl) (fun _ _ => ?_)
    refine hr_iload_n o 1 dX0_walksBy_67 rfl ?_
    refine hx_iald o 2 2 3 4 rfl (by decide) rfl dX0_walksBy_68 (fun x2 => ?_)
    refine hr_imul o dX0_walksBy_69 ?_
    refine hr_iconst o (1 : Int32) dX0_walksBy_70 (by decide) ?_
    refine hx_zast o 0 17 127 32768 rfl (by decide) (fun j h1 h2 => hf_of0_inj j 17 h1 h2) rfl dX0_walksBy_71 (fun g3 => ?_)
    refine hr_iconst o (0 : Int32) dX0_walksBy_72 (by decide) ?_
    refine hr_istore o [(5, .int (0 : Int32)), (0, .ref l0), (1, .int l1), (2, .int l2), (3, .int l3), (4, .int l4)] dX0_walksBy_73 (by decide) rfl ?_
    refine hr_sub [1, 2, 3, 4, 5, 0] rfl ?_
    exact llX0_walksBy_75 o og hf_N l0 l1 l2 l3 l4 (0 : Int32) g3
  refine hr_aload_n o 0 dX0_walksBy_39 rfl ?_
  refine hr_getO o flX0_77 dX0_walksBy_40 127 (fun _ => rfl) (fun _ _ => ?_)
  refine hr_iload o 5 dX0_walksBy_43 rfl ?_
  refine hr_iconst o (0 : Int32) dX0_walksBy_45 (by decide) ?_
  refine hx_zast o 0 17 127 32768 rfl (by decide) (fun j h1 h2 => hf_of0_inj j 17 h1 h2) rfl dX0_walksBy_46 (fun g4 => ?_)
  refine hr_iincN o (1 : Int32) 5 (fun y => [(5, .int y), (0, .ref l0), (1, .int l1), (2, .int l2), (3, .int l3), (4, .int l4)]) dX0_walksBy_47 rfl (by decide) (by decide) (fun y => rfl) (fun x5 => ?_)
  refine hr_goto o 29 dX0_walksBy_50 (by decide) ?_
  refine hr_sub [1, 2, 3, 4, 5, 0] rfl ?_
  exact hk29 l0 l1 l2 l3 l4 x5 g4
def lpX0_walksBy_29  : Nat → Nat → Int32 → Int32 → Int32 → Int32 → Int32 → hf_H → Option hf_H
  | 0 => fun _ _ _ _ _ _ _ => none
  | n + 1 => fun l0 l1 l2 l3 l4 l5 V0 => ndX0_walksBy_29  (lpX0_walksBy_29  n) l0 l1 l2 l3 l4 l5 V0
theorem llX0_walksBy_29 {C : hf_X} {gs : hf_gs} (o : hf_In C cX0_walksBy RX0 9 (none) 5 113) (og : hf_G C gs)   (n : Nat) : ∀ (l0 : Nat) (l1 : Int32) (l2 : Int32) (l3 : Int32) (l4 : Int32) (l5 : Int32) (V0 : hf_H), hf_J C hf_dHV ((lpX0_walksBy_29  n) l0 l1 l2 l3 l4 l5 V0) V0 29 [(0, .ref l0), (1, .int l1), (2, .int l2), (3, .int l3), (4, .int l4), (5, .int l5)] [] := by
  induction n with
  | zero => exact fun _ _ _ _ _ _ _ => hr_none
  | succ n ih => exact fun l0 l1 l2 l3 l4 l5 V0 => nlX0_walksBy_29 o og  (lpX0_walksBy_29  n)  ih l0 l1 l2 l3 l4 l5 V0
def spX0_walksBy (l0 : Nat) (l1 : Int32) (l2 : Int32) (V0 : hf_H) : Option hf_H :=
  (hf_ga 1 0 0 V0 l0).bind fun x1 =>
  (hf_ga 1 0 1 V0 l0).bind fun x2 =>
  (hf_gi 1 2 4 V0 x2).bind fun x3 =>
  (hf_ob 1 1 V0 x1).bind fun _ =>
  hf_b2 (spX1_left x1 x3 V0) fun x5 g4 =>
  (hf_ga 1 0 1 g4 l0).bind fun x6 =>
  (hf_ob 1 2 g4 x6).bind fun _ =>
  (hf_ai 2 1 4 g4 x6 l1).bind fun x7 =>
  lpX0_walksBy_29 hf_N l0 l1 l2 x5 x7 (0 : Int32) g4
theorem jtX0_walksBy {C : hf_X} {gs : hf_gs} (o : hf_In C cX0_walksBy RX0 9 (none) 5 113) (og : hf_G C gs) (l0 : Nat) (l1 : Int32) (l2 : Int32) (V0 : hf_H) : hf_J C hf_dHV (spX0_walksBy l0 l1 l2 V0) V0 0 [(0, .ref l0), (1, .int l1), (2, .int l2)] [] := by
  refine hr_aload_n o 0 dX0_walksBy_0 rfl ?_
  refine hr_getA (md := 1) o flX0_12 dX0_walksBy_1 (fun _ => rfl) (fun x1 => ?_)
  refine hr_aload_n o 0 dX0_walksBy_4 rfl ?_
  refine hr_getA (md := 1) o flX0_19 dX0_walksBy_5 (fun _ => rfl) (fun x2 => ?_)
  refine hr_getI (md := 1) o flX0_165 dX0_walksBy_8 (fun _ => rfl) (fun x3 => ?_)
  refine hx_callVI (q := (RX1, TX1, 13)) o og mvX0_306 dX0_walksBy_11 1 1 rfl [.int x3] (fun zr zg ze => mtX1_left x1 x3 V0 zr zg ze) rfl rfl (Nat.le_of_ble_eq_true rfl) ⟨by decide, by decide⟩ (fun x5 g4 => ?_)
  refine hr_istore_n o [(3, .int x5), (0, .ref l0), (1, .int l1), (2, .int l2)] dX0_walksBy_14 (by decide) rfl ?_
  refine hr_aload_n o 1 dX0_walksBy_15 rfl ?_
  refine hr_getA (md := 1) o flX0_19 dX0_walksBy_16 (fun _ => rfl) (fun x6 => ?_)
  refine hr_getO o flX0_189 dX0_walksBy_19 2 (fun _ => rfl) (fun _ _ => ?_)
  refine hr_iload_n o 2 dX0_walksBy_22 rfl ?_
  refine hx_iald o 2 1 2 4 rfl (by decide) rfl dX0_walksBy_23 (fun x7 => ?_)
  refine hr_istore o [(4, .int x7), (3, .int x5), (0, .ref l0), (1, .int l1), (2, .int l2)] dX0_walksBy_24 (by decide) rfl ?_
  refine hr_iconst o (0 : Int32) dX0_walksBy_26 (by decide) ?_
  refine hr_istore o [(5, .int (0 : Int32)), (4, .int x7), (3, .int x5), (0, .ref l0), (1, .int l1), (2, .int l2)] dX0_walksBy_27 (by decide) rfl ?_
  refine hr_sub [3, 4, 5, 2, 1, 0] rfl ?_
  exact llX0_walksBy_29 o og hf_N l0 l1 l2 x5 x7 (0 : Int32) g4
theorem mtX0_walksBy {gs : hf_gs} (l0 : Nat) (l1 : Int32) (l2 : Int32) (V0 V1 : hf_H) (e : spX0_walksBy l0 l1 l2 V0 = some V1) : hf_ConG gs yX0_walksBy cX0_walksBy 9 (none) 5 113 [.ref l0, .int l1, .int l2] V0 (.returned none, V1) := hf_entryG (dec := hf_dHV) (by decide) [.ref l0, .int l1, .int l2] (Nat.le_of_ble_eq_true rfl) [(0, .ref l0), (1, .int l1), (2, .int l2)] rfl e (fun C o og _ => jtX0_walksBy o og l0 l1 l2 V0)

/-! X0_walk -/
theorem mvX0_379 : hf_MV RX0 379 RX0 yX0_walksBy cX0_walksBy 9 (none) 2 := ⟨lw_V q1250 q1252 qs54 q153 q1253, by decide +kernel⟩
def ndX0_walk_119  (l0 : Nat) (l2 : Int32) (V0 : hf_H) : Option (Int32 × hf_H) :=
  if l2 = 0 then ((hf_gi 1 0 19 V0 l0).bind fun x3 =>
  some (x3, V0)) else
  if l2 = (1 : Int32) then ((hf_gi 1 0 20 V0 l0).bind fun x2 =>
  some (x2, V0)) else
  (hf_gi 1 0 21 V0 l0).bind fun x1 =>
  some (x1, V0)
theorem nlX0_walk_119 {C : hf_X} {gs : hf_gs} (o : hf_In C cX0_walk RX0 5 (some .int) 7 159) (og : hf_G C gs)   (l0 : Nat) (l2 : Int32) (V0 : hf_H) : hf_J C hf_dHI (ndX0_walk_119 l0 l2 V0) V0 119 [(0, .ref l0), (2, .int l2)] [] := by
  refine hr_iload_n o 1 dX0_walk_119 rfl ?_
  refine hr_if_ne o 130 dX0_walk_120 (by decide) (fun _ => ?_) (fun _ => ?_)
  · refine hr_aload_n o 0 dX0_walk_123 rfl ?_
    refine hr_getI (md := 1) o flX0_368 dX0_walk_124 (fun _ => rfl) (fun x3 => ?_)
    refine hr_goto o 146 dX0_walk_127 (by decide) ?_
    exact hr_iret o dX0_walk_146 rfl rfl
  refine hr_iload_n o 1 dX0_walk_130 rfl ?_
  refine hr_iconst o (1 : Int32) dX0_walk_131 (by decide) ?_
  refine hr_icmp_ne o 142 dX0_walk_132 (by decide) (fun _ => ?_) (fun _ => ?_)
  · refine hr_aload_n o 0 dX0_walk_135 rfl ?_
    refine hr_getI (md := 1) o flX0_371 dX0_walk_136 (fun _ => rfl) (fun x2 => ?_)
    refine hr_goto o 146 dX0_walk_139 (by decide) ?_
    exact hr_iret o dX0_walk_146 rfl rfl
  refine hr_aload_n o 0 dX0_walk_142 rfl ?_
  refine hr_getI (md := 1) o flX0_374 dX0_walk_143 (fun _ => rfl) (fun x1 => ?_)
  exact hr_iret o dX0_walk_146 rfl rfl
def ndX0_walk_100 (k100 : Nat → Int32 → Int32 → Int32 → hf_H → Option (Int32 × hf_H)) (l0 : Nat) (l1 : Int32) (l2 : Int32) (l4 : Int32) (V0 : hf_H) : Option (Int32 × hf_H) :=
  if (1 : Int32) < l4 then (ndX0_walk_119 l0 l2 V0) else
  (hf_ob 1 0 V0 l0).bind fun _ =>
  (spX0_walksBy l0 l1 l4 V0).bind fun g1 =>
  hf_let (l4 + (1 : Int32)) fun x2 =>
  k100 l0 l1 l2 x2 g1
theorem nlX0_walk_100 {C : hf_X} {gs : hf_gs} (o : hf_In C cX0_walk RX0 5 (some .int) 7 159) (og : hf_G C gs) (k100 : Nat → Int32 → Int32 → Int32 → hf_H → Option (Int32 × hf_H)) (hk100 : ∀ (l0 : Nat) (l1 : Int32) (l2 : Int32) (l4 : Int32) (V0 : hf_H), hf_J C hf_dHI (k100 l0 l1 l2 l4 V0) V0 100 [(0, .ref l0), (1, .int l1), (2, .int l2), (4, .int l4)] []) (l0 : Nat) (l1 : Int32) (l2 : Int32) (l4 : Int32) (V0 : hf_H) : hf_J C hf_dHI (ndX0_walk_100 k100 l0 l1 l2 l4 V0) V0 100 [(0, .ref l0), (1, .int l1), (2, .int l2), (4, .int l4)] [] := by
  refine hr_iload o 3 dX0_walk_100 rfl ?_
  refine hr_iconst o (1 : Int32) dX0_walk_102 (by decide) ?_
  refine hr_icmp_gt o 119 dX0_walk_103 (by decide) (fun _ => ?_) (fun _ => ?_)
  · refine hr_sub [0, 2] rfl ?_
    exact nlX0_walk_119 o og l0 l2 V0
  refine hr_aload_n o 0 dX0_walk_106 rfl ?_
  refine hr_iload_n o 1 dX0_walk_107 rfl ?_
  refine hr_iload o 3 dX0_walk_108 rfl ?_
  refine hx_callVV (q := (RX0, TX0, 23)) o og mvX0_379 dX0_walk_110 1 0 rfl [.int l1, .int l4] (fun zg ze => mtX0_walksBy l0 l1 l4 V0 zg ze) rfl rfl (Nat.le_of_ble_eq_true rfl) ⟨by decide, by decide⟩ (fun g1 => ?_)
  refine hr_iincN o (1 : Int32) 3 (fun y => [(4, .int y), (0, .ref l0), (1, .int l1), (2, .int l2)]) dX0_walk_113 rfl (by decide) (by decide) (fun y => rfl) (fun x2 => ?_)
  refine hr_goto o 100 dX0_walk_116 (by decide) ?_
  refine hr_sub [1, 2, 3, 0] rfl ?_
  exact hk100 l0 l1 l2 x2 g1
def lpX0_walk_100  : Nat → Nat → Int32 → Int32 → Int32 → hf_H → Option (Int32 × hf_H)
  | 0 => fun _ _ _ _ _ => none
  | n + 1 => fun l0 l1 l2 l4 V0 => ndX0_walk_100  (lpX0_walk_100  n) l0 l1 l2 l4 V0
theorem llX0_walk_100 {C : hf_X} {gs : hf_gs} (o : hf_In C cX0_walk RX0 5 (some .int) 7 159) (og : hf_G C gs)   (n : Nat) : ∀ (l0 : Nat) (l1 : Int32) (l2 : Int32) (l4 : Int32) (V0 : hf_H), hf_J C hf_dHI ((lpX0_walk_100  n) l0 l1 l2 l4 V0) V0 100 [(0, .ref l0), (1, .int l1), (2, .int l2), (4, .int l4)] [] := by
  induction n with
  | zero => exact fun _ _ _ _ _ => hr_none
  | succ n ih => exact fun l0 l1 l2 l4 V0 => nlX0_walk_100 o og  (lpX0_walk_100  n)  ih l0 l1 l2 l4 V0
def spX0_walk (l0 : Nat) (l1 : Int32) (l2 : Int32) (V0 : hf_H) : Option (Int32 × hf_H) :=
  (hf_ob 1 0 V0 l0).bind fun _ =>
  hf_b2 (spX0_isBuyer l0 l1 V0) fun x2 g1 =>
  if x2 = 0 then (some ((-3 : Int32), g1)) else
  (spX0_in (Int32.toInt64 l2) (0 : Int64) (2 : Int64)).bind fun x3 =>
  if x3 = 0 then (some ((-3 : Int32), g1)) else
  (hf_ga 1 0 0 g1 l0).bind fun x4 =>
  (hf_ga 1 0 1 g1 l0).bind fun x5 =>
  (hf_gi 1 2 4 g1 x5).bind fun x6 =>
  (hf_ob 1 1 g1 x4).bind fun _ =>
  hf_b2 (spX1_left x4 x6 g1) fun x8 g7 =>
  if x8 ≤ (12 : Int32) then ((hf_ob 1 0 g7 l0).bind fun _ =>
  (spX0_fillsWorths l0 g7).bind fun g9 =>
  (hf_pi 1 0 19 g9 l0 (-1 : Int32)).bind fun g10 =>
  if x8 = 0 then ((hf_ob 1 0 g10 l0).bind fun _ =>
  (hf_ga 1 0 1 g10 l0).bind fun x11 =>
  (hf_ga 1 0 0 g10 l0).bind fun x12 =>
  (hf_ob 1 2 g10 x11).bind fun _ =>
  hf_b2 (spX2_halvesOf x11 x12 l1 g10) fun x14 g13 =>
  (hf_ai 0 12 4096 g13 l0 x14).bind fun x15 =>
  (hf_ga 1 0 1 g13 l0).bind fun x16 =>
  (hf_ob 1 2 g13 x16).bind fun _ =>
  (hf_ai 2 1 4 g13 x16 l1).bind fun x17 =>
  (hf_ob 1 0 g13 l0).bind fun _ =>
  (spX0_comes l0 (x15 + x17) (-2 : Int32) (0 : Int32) g13).bind fun g18 =>
  ndX0_walk_119 l0 l2 g18) else
  lpX0_walk_100 hf_N l0 l1 l2 (-1 : Int32) g10) else
  some ((-4 : Int32), g7)
theorem jtX0_walk {C : hf_X} {gs : hf_gs} (o : hf_In C cX0_walk RX0 5 (some .int) 7 159) (og : hf_G C gs) (l0 : Nat) (l1 : Int32) (l2 : Int32) (V0 : hf_H) : hf_J C hf_dHI (spX0_walk l0 l1 l2 V0) V0 0 [(0, .ref l0), (1, .int l1), (2, .int l2)] [] := by
  refine hr_aload_n o 0 dX0_walk_0 rfl ?_
  refine hr_iload_n o 1 dX0_walk_1 rfl ?_
  refine hx_callVI (q := (RX0, TX0, 23)) o og mvX0_186 dX0_walk_2 1 0 rfl [.int l1] (fun zr zg ze => mtX0_isBuyer l0 l1 V0 zr zg ze) rfl rfl (Nat.le_of_ble_eq_true rfl) ⟨by decide, by decide⟩ (fun x2 g1 => ?_)
  refine hr_if_eq o 20 dX0_walk_5 (by decide) (fun _ => ?_) (fun _ => ?_)
  · refine hr_bipush o (-3 : Int32) dX0_walk_20 (by decide) ?_
    exact hr_iret o dX0_walk_22 rfl rfl
  refine hr_iload_n o 2 dX0_walk_8 rfl ?_
  refine hr_i2l o dX0_walk_9 ?_
  refine hr_lconst o (0 : Int64) dX0_walk_10 (by decide) ?_
  refine hr_ldc2 o (2 : Int64) q1245 dX0_walk_11 ?_
  refine pr_callI o msX0_106 dX0_walk_14 [.long (Int32.toInt64 l2), .long (0 : Int64), .long (2 : Int64)] (fun zr ze => mtX0_in (Int32.toInt64 l2) (0 : Int64) (2 : Int64) zr ze) rfl rfl (Nat.le_of_ble_eq_true rfl) ⟨by decide, by decide⟩ (fun x3 => ?_)
  refine hr_if_ne o 23 dX0_walk_17 (by decide) (fun _ => ?_) (fun _ => ?_)
  · refine hr_bipush o (-3 : Int32) dX0_walk_20 (by decide) ?_
    exact hr_iret o dX0_walk_22 rfl rfl
  refine hr_aload_n o 0 dX0_walk_23 rfl ?_
  refine hr_getA (md := 1) o flX0_12 dX0_walk_24 (fun _ => rfl) (fun x4 => ?_)
  refine hr_aload_n o 0 dX0_walk_27 rfl ?_
  refine hr_getA (md := 1) o flX0_19 dX0_walk_28 (fun _ => rfl) (fun x5 => ?_)
  refine hr_getI (md := 1) o flX0_165 dX0_walk_31 (fun _ => rfl) (fun x6 => ?_)
  refine hx_callVI (q := (RX1, TX1, 13)) o og mvX0_306 dX0_walk_34 1 1 rfl [.int x6] (fun zr zg ze => mtX1_left x4 x6 g1 zr zg ze) rfl rfl (Nat.le_of_ble_eq_true rfl) ⟨by decide, by decide⟩ (fun x8 g7 => ?_)
  refine hr_istore_n o [(3, .int x8), (0, .ref l0), (1, .int l1), (2, .int l2)] dX0_walk_37 (by decide) rfl ?_
  refine hr_iload_n o 0 dX0_walk_38 rfl ?_
  refine hr_bipush o (12 : Int32) dX0_walk_39 (by decide) ?_
  refine hr_icmp_le o 47 dX0_walk_41 (by decide) (fun _ => ?_) (fun _ => ?_)
  · refine hr_aload_n o 1 dX0_walk_47 rfl ?_
    refine hx_callVV (q := (RX0, TX0, 23)) o og mvX0_228 dX0_walk_48 1 0 rfl [] (fun zg ze => mtX0_fillsWorths l0 g7 zg ze) rfl rfl (Nat.le_of_ble_eq_true rfl) ⟨by decide, by decide⟩ (fun g9 => ?_)
    refine hr_aload_n o 1 dX0_walk_51 rfl ?_
    refine hr_iconst o (-1 : Int32) dX0_walk_52 (by decide) ?_
    refine hx_putI (md := 1) o flX0_368 dX0_walk_53 rfl (Or.inl nf_0_19) rfl rfl (fun _ => rfl) (fun g10 => ?_)
    refine hr_iload_n o 0 dX0_walk_56 rfl ?_
    refine hr_if_ne o 97 dX0_walk_57 (by decide) (fun _ => ?_) (fun _ => ?_)
    · refine hr_aload_n o 1 dX0_walk_60 rfl ?_
      refine hr_aload_n o 1 dX0_walk_61 rfl ?_
      refine hr_getO o flX0_57 dX0_walk_62 24 (fun _ => rfl) (fun _ _ => ?_)
      refine hr_aload_n o 1 dX0_walk_65 rfl ?_
      refine hr_getA (md := 1) o flX0_19 dX0_walk_66 (fun _ => rfl) (fun x11 => ?_)
      refine hr_aload_n o 1 dX0_walk_69 rfl ?_
      refine hr_getA (md := 1) o flX0_12 dX0_walk_70 (fun _ => rfl) (fun x12 => ?_)
      refine hr_iload_n o 2 dX0_walk_73 rfl ?_
      refine hx_callVI (q := (RX2, TX2, 5)) o og mvX0_195 dX0_walk_74 1 2 rfl [.ref x12, .int l1] (fun zr zg ze => mtX2_halvesOf x11 x12 l1 g10 zr zg ze) rfl rfl (Nat.le_of_ble_eq_true rfl) ⟨by decide, by decide⟩ (fun x14 g13 => ?_)
      refine hx_iald o 0 12 24 4096 rfl (by decide) rfl dX0_walk_77 (fun x15 => ?_)
      refine hr_aload_n o 1 dX0_walk_78 rfl ?_
      refine hr_getA (md := 1) o flX0_19 dX0_walk_79 (fun _ => rfl) (fun x16 => ?_)
      refine hr_getO o flX0_189 dX0_walk_82 2 (fun _ => rfl) (fun _ _ => ?_)
      refine hr_iload_n o 2 dX0_walk_85 rfl ?_
      refine hx_iald o 2 1 2 4 rfl (by decide) rfl dX0_walk_86 (fun x17 => ?_)
      refine hr_iadd o dX0_walk_87 ?_
      refine hr_bipush o (-2 : Int32) dX0_walk_88 (by decide) ?_
      refine hr_iconst o (0 : Int32) dX0_walk_90 (by decide) ?_
      refine hx_callVV (q := (RX0, TX0, 23)) o og mvX0_364 dX0_walk_91 1 0 rfl [.int (x15 + x17), .int (-2 : Int32), .int (0 : Int32)] (fun zg ze => mtX0_comes l0 (x15 + x17) (-2 : Int32) (0 : Int32) g13 zg ze) rfl rfl (Nat.le_of_ble_eq_true rfl) ⟨by decide, by decide⟩ (fun g18 => ?_)
      refine hr_goto o 119 dX0_walk_94 (by decide) ?_
      refine hr_sub [1, 3] rfl ?_
      exact nlX0_walk_119 o og l0 l2 g18
    refine hr_iconst o (-1 : Int32) dX0_walk_97 (by decide) ?_
    refine hr_istore o [(4, .int (-1 : Int32)), (3, .int x8), (0, .ref l0), (1, .int l1), (2, .int l2)] dX0_walk_98 (by decide) rfl ?_
    refine hr_sub [2, 3, 4, 0] rfl ?_
    exact llX0_walk_100 o og hf_N l0 l1 l2 (-1 : Int32) g10
  refine hr_bipush o (-4 : Int32) dX0_walk_44 (by decide) ?_
  exact hr_iret o dX0_walk_46 rfl rfl
theorem mtX0_walk {gs : hf_gs} (l0 : Nat) (l1 : Int32) (l2 : Int32) (V0 : hf_H) (r : Int32) (V1 : hf_H) (e : spX0_walk l0 l1 l2 V0 = some (r, V1)) : hf_ConG gs yX0_walk cX0_walk 5 (some .int) 7 159 [.ref l0, .int l1, .int l2] V0 (.returned (some (.int r)), V1) := hf_entryG (dec := hf_dHI) (by decide) [.ref l0, .int l1, .int l2] (Nat.le_of_ble_eq_true rfl) [(0, .ref l0), (1, .int l1), (2, .int l2)] rfl e (fun C o og _ => jtX0_walk o og l0 l1 l2 V0)

/-! X0_chance -/
theorem mvX0_382 : hf_MV RX0 382 RX2 yX2_unseen cX2_unseen 3 (some .int) 2 := ⟨lw_V q1272 q1273 q1274 q158 q1275, by decide +kernel⟩
theorem msX0_385 : hf_MS RX0 385 yX0_divisor cX0_divisor 5 (some .int) 2 := ⟨lw_S q1278 q1279 q153 q1280, by decide +kernel⟩
def spX0_chance (l0 : Nat) (l1 : Int32) (l2 : Int32) (l3 : Int32) (V0 : hf_H) : Option (Int32 × hf_H) :=
  (hf_ob 1 0 V0 l0).bind fun _ =>
  hf_b2 (spX0_isBuyer l0 l1 V0) fun x2 g1 =>
  if x2 = 0 then (some ((-1 : Int32), g1)) else
  (hf_ob 1 0 g1 l0).bind fun _ =>
  hf_b2 (spX0_isHalf l0 l2 g1) fun x4 g3 =>
  if x4 = 0 then (some ((-1 : Int32), g3)) else
  (spX0_in (Int32.toInt64 l3) (0 : Int64) (1 : Int64)).bind fun x5 =>
  if x5 = 0 then (some ((-1 : Int32), g3)) else
  (hf_ga 1 0 1 g3 l0).bind fun x6 =>
  (hf_ga 1 0 0 g3 l0).bind fun x7 =>
  (hf_ob 1 2 g3 x6).bind fun _ =>
  hf_b2 (spX2_unseen x6 x7 l1 g3) fun x9 g8 =>
  (hf_ob 1 0 g8 l0).bind fun _ =>
  hf_b2 (spX0_fitting l0 l2 x9 (2 : Int32) g8) fun x11 g10 =>
  (spJ14_bitCount x9).bind fun x12 =>
  hf_let (if (1 : Int32) < x12 then x12 else (1 : Int32)) fun x13 =>
  (spX0_divisor x11 x13).bind fun x14 =>
  if l3 = 0 then (if x14 = 0 then none else
  some ((x11 / x14), g10)) else
  if x14 = 0 then none else
  some ((x13 / x14), g10)
theorem jtX0_chance {C : hf_X} {gs : hf_gs} (o : hf_In C cX0_chance RX0 8 (some .int) 6 136) (og : hf_G C gs) (l0 : Nat) (l1 : Int32) (l2 : Int32) (l3 : Int32) (V0 : hf_H) : hf_J C hf_dHI (spX0_chance l0 l1 l2 l3 V0) V0 0 [(0, .ref l0), (1, .int l1), (2, .int l2), (3, .int l3)] [] := by
  refine hr_aload_n o 0 dX0_chance_0 rfl ?_
  refine hr_iload_n o 1 dX0_chance_1 rfl ?_
  refine hx_callVI (q := (RX0, TX0, 23)) o og mvX0_186 dX0_chance_2 1 0 rfl [.int l1] (fun zr zg ze => mtX0_isBuyer l0 l1 V0 zr zg ze) rfl rfl (Nat.le_of_ble_eq_true rfl) ⟨by decide, by decide⟩ (fun x2 g1 => ?_)
  refine hr_if_eq o 26 dX0_chance_5 (by decide) (fun _ => ?_) (fun _ => ?_)
  · refine hr_iconst o (-1 : Int32) dX0_chance_26 (by decide) ?_
    exact hr_iret o dX0_chance_27 rfl rfl
  refine hr_aload_n o 0 dX0_chance_8 rfl ?_
  refine hr_iload_n o 2 dX0_chance_9 rfl ?_
  refine hx_callVI (q := (RX0, TX0, 23)) o og mvX0_149 dX0_chance_10 1 0 rfl [.int l2] (fun zr zg ze => mtX0_isHalf l0 l2 g1 zr zg ze) rfl rfl (Nat.le_of_ble_eq_true rfl) ⟨by decide, by decide⟩ (fun x4 g3 => ?_)
  refine hr_if_eq o 26 dX0_chance_13 (by decide) (fun _ => ?_) (fun _ => ?_)
  · refine hr_iconst o (-1 : Int32) dX0_chance_26 (by decide) ?_
    exact hr_iret o dX0_chance_27 rfl rfl
  refine hr_iload_n o 3 dX0_chance_16 rfl ?_
  refine hr_i2l o dX0_chance_17 ?_
  refine hr_lconst o (0 : Int64) dX0_chance_18 (by decide) ?_
  refine hr_lconst o (1 : Int64) dX0_chance_19 (by decide) ?_
  refine pr_callI o msX0_106 dX0_chance_20 [.long (Int32.toInt64 l3), .long (0 : Int64), .long (1 : Int64)] (fun zr ze => mtX0_in (Int32.toInt64 l3) (0 : Int64) (1 : Int64) zr ze) rfl rfl (Nat.le_of_ble_eq_true rfl) ⟨by decide, by decide⟩ (fun x5 => ?_)
  refine hr_if_ne o 28 dX0_chance_23 (by decide) (fun _ => ?_) (fun _ => ?_)
  · refine hr_iconst o (-1 : Int32) dX0_chance_26 (by decide) ?_
    exact hr_iret o dX0_chance_27 rfl rfl
  refine hr_aload_n o 0 dX0_chance_28 rfl ?_
  refine hr_getA (md := 1) o flX0_19 dX0_chance_29 (fun _ => rfl) (fun x6 => ?_)
  refine hr_aload_n o 0 dX0_chance_32 rfl ?_
  refine hr_getA (md := 1) o flX0_12 dX0_chance_33 (fun _ => rfl) (fun x7 => ?_)
  refine hr_iload_n o 1 dX0_chance_36 rfl ?_
  refine hx_callVI (q := (RX2, TX2, 5)) o og mvX0_382 dX0_chance_37 1 2 rfl [.ref x7, .int l1] (fun zr zg ze => mtX2_unseen x6 x7 l1 g3 zr zg ze) rfl rfl (Nat.le_of_ble_eq_true rfl) ⟨by decide, by decide⟩ (fun x9 g8 => ?_)
  refine hr_istore o [(4, .int x9), (0, .ref l0), (1, .int l1), (2, .int l2), (3, .int l3)] dX0_chance_40 (by decide) rfl ?_
  refine hr_aload_n o 1 dX0_chance_42 rfl ?_
  refine hr_iload_n o 3 dX0_chance_43 rfl ?_
  refine hr_iload o 0 dX0_chance_44 rfl ?_
  refine hr_iconst o (2 : Int32) dX0_chance_46 (by decide) ?_
  refine hx_callVI (q := (RX0, TX0, 23)) o og mvX0_309 dX0_chance_47 1 0 rfl [.int l2, .int x9, .int (2 : Int32)] (fun zr zg ze => mtX0_fitting l0 l2 x9 (2 : Int32) g8 zr zg ze) rfl rfl (Nat.le_of_ble_eq_true rfl) ⟨by decide, by decide⟩ (fun x11 g10 => ?_)
  refine hr_istore o [(5, .int x11), (4, .int x9), (0, .ref l0), (1, .int l1), (2, .int l2), (3, .int l3)] dX0_chance_50 (by decide) rfl ?_
  refine hr_iconst o (1 : Int32) dX0_chance_52 (by decide) ?_
  refine hr_iload o 1 dX0_chance_53 rfl ?_
  refine pr_callI o msX0_291 dX0_chance_55 [.int x9] (fun zr ze => mtJ14_bitCount x9 zr ze) rfl rfl (Nat.le_of_ble_eq_true rfl) ⟨by decide, by decide⟩ (fun x12 => ?_)
  refine hx_mmax o q1052 q672 q171 q673 (by decide) (Nat.le_of_ble_eq_true rfl) dX0_chance_58 ?_
  refine hr_nmI (fun x13 => ?_)
  refine hr_istore o [(6, .int x13), (5, .int x11), (4, .int x9), (0, .ref l0), (1, .int l1), (2, .int l2), (3, .int l3)] dX0_chance_61 (by decide) rfl ?_
  refine hr_iload o 1 dX0_chance_63 rfl ?_
  refine hr_iload o 0 dX0_chance_65 rfl ?_
  refine pr_callI o msX0_385 dX0_chance_67 [.int x11, .int x13] (fun zr ze => mtX0_divisor x11 x13 zr ze) rfl rfl (Nat.le_of_ble_eq_true rfl) ⟨by decide, by decide⟩ (fun x14 => ?_)
  refine hr_istore o [(7, .int x14), (6, .int x13), (5, .int x11), (4, .int x9), (0, .ref l0), (1, .int l1), (2, .int l2), (3, .int l3)] dX0_chance_70 (by decide) rfl ?_
  refine hr_iload_n o 7 dX0_chance_72 rfl ?_
  refine hr_if_ne o 84 dX0_chance_73 (by decide) (fun _ => ?_) (fun _ => ?_)
  · refine hr_iload o 2 dX0_chance_76 rfl ?_
    refine hr_iload o 0 dX0_chance_78 rfl ?_
    refine hr_idiv o dX0_chance_80 (fun _ => ?_)
    refine hr_goto o 89 dX0_chance_81 (by decide) ?_
    exact hr_iret o dX0_chance_89 rfl rfl
  refine hr_iload o 1 dX0_chance_84 rfl ?_
  refine hr_iload o 0 dX0_chance_86 rfl ?_
  refine hr_idiv o dX0_chance_88 (fun _ => ?_)
  exact hr_iret o dX0_chance_89 rfl rfl
theorem mtX0_chance {gs : hf_gs} (l0 : Nat) (l1 : Int32) (l2 : Int32) (l3 : Int32) (V0 : hf_H) (r : Int32) (V1 : hf_H) (e : spX0_chance l0 l1 l2 l3 V0 = some (r, V1)) : hf_ConG gs yX0_chance cX0_chance 8 (some .int) 6 136 [.ref l0, .int l1, .int l2, .int l3] V0 (.returned (some (.int r)), V1) := hf_entryG (dec := hf_dHI) (by decide) [.ref l0, .int l1, .int l2, .int l3] (Nat.le_of_ble_eq_true rfl) [(0, .ref l0), (1, .int l1), (2, .int l2), (3, .int l3)] rfl e (fun C o og _ => jtX0_chance o og l0 l1 l2 l3 V0)

/-! X0_moreWorth -/
def spX0_moreWorth (l0 : Nat) (l1 : Int32) (l2 : Int32) (V0 : hf_H) : Option (Int32 × hf_H) :=
  (hf_ga 1 0 1 V0 l0).bind fun x1 =>
  (hf_ga 1 0 0 V0 l0).bind fun x2 =>
  (hf_ob 1 2 V0 x1).bind fun _ =>
  hf_b2 (spX2_halvesOf x1 x2 l1 V0) fun x4 g3 =>
  (hf_ob 1 0 g3 l0).bind fun _ =>
  (hf_ai 0 12 4096 g3 l0 (x4 ||| ((1 : Int32) <<< (l2 &&& 31)))).bind fun x5 =>
  (hf_ob 1 0 g3 l0).bind fun _ =>
  (hf_ai 0 12 4096 g3 l0 x4).bind fun x6 =>
  some ((x5 - x6), g3)
theorem jtX0_moreWorth {C : hf_X} {gs : hf_gs} (o : hf_In C cX0_moreWorth RX0 4 (some .int) 3 66) (og : hf_G C gs) (l0 : Nat) (l1 : Int32) (l2 : Int32) (V0 : hf_H) : hf_J C hf_dHI (spX0_moreWorth l0 l1 l2 V0) V0 0 [(0, .ref l0), (1, .int l1), (2, .int l2)] [] := by
  refine hr_aload_n o 0 dX0_moreWorth_0 rfl ?_
  refine hr_getA (md := 1) o flX0_19 dX0_moreWorth_1 (fun _ => rfl) (fun x1 => ?_)
  refine hr_aload_n o 0 dX0_moreWorth_4 rfl ?_
  refine hr_getA (md := 1) o flX0_12 dX0_moreWorth_5 (fun _ => rfl) (fun x2 => ?_)
  refine hr_iload_n o 1 dX0_moreWorth_8 rfl ?_
  refine hx_callVI (q := (RX2, TX2, 5)) o og mvX0_195 dX0_moreWorth_9 1 2 rfl [.ref x2, .int l1] (fun zr zg ze => mtX2_halvesOf x1 x2 l1 V0 zr zg ze) rfl rfl (Nat.le_of_ble_eq_true rfl) ⟨by decide, by decide⟩ (fun x4 g3 => ?_)
  refine hr_istore_n o [(3, .int x4), (0, .ref l0), (1, .int l1), (2, .int l2)] dX0_moreWorth_12 (by decide) rfl ?_
  refine hr_aload_n o 1 dX0_moreWorth_13 rfl ?_
  refine hr_getO o flX0_57 dX0_moreWorth_14 24 (fun _ => rfl) (fun _ _ => ?_)
  refine hr_iload_n o 0 dX0_moreWorth_17 rfl ?_
  refine hr_iconst o (1 : Int32) dX0_moreWorth_18 (by decide) ?_
  refine hr_iload_n o 3 dX0_moreWorth_19 rfl ?_
  refine hr_ishl o dX0_moreWorth_20 ?_
  refine hr_ior o dX0_moreWorth_21 ?_
  refine hx_iald o 0 12 24 4096 rfl (by decide) rfl dX0_moreWorth_22 (fun x5 => ?_)
  refine hr_aload_n o 1 dX0_moreWorth_23 rfl ?_
  refine hr_getO o flX0_57 dX0_moreWorth_24 24 (fun _ => rfl) (fun _ _ => ?_)
  refine hr_iload_n o 0 dX0_moreWorth_27 rfl ?_
  refine hx_iald o 0 12 24 4096 rfl (by decide) rfl dX0_moreWorth_28 (fun x6 => ?_)
  refine hr_isub o dX0_moreWorth_29 ?_
  exact hr_iret o dX0_moreWorth_30 rfl rfl
theorem mtX0_moreWorth {gs : hf_gs} (l0 : Nat) (l1 : Int32) (l2 : Int32) (V0 : hf_H) (r : Int32) (V1 : hf_H) (e : spX0_moreWorth l0 l1 l2 V0 = some (r, V1)) : hf_ConG gs yX0_moreWorth cX0_moreWorth 4 (some .int) 3 66 [.ref l0, .int l1, .int l2] V0 (.returned (some (.int r)), V1) := hf_entryG (dec := hf_dHI) (by decide) [.ref l0, .int l1, .int l2] (Nat.le_of_ble_eq_true rfl) [(0, .ref l0), (1, .int l1), (2, .int l2)] rfl e (fun C o og _ => jtX0_moreWorth o og l0 l1 l2 V0)
