set_option maxRecDepth 100000
set_option maxHeartbeats 1000000
section ZM
variable {V : hf_V} {v : Nat → Nat}
theorem m_hourComes (S : hf_sv V v) (hn : v 1 ≤ 12) (hm : v 2 ≤ 4) (h0 : v 0 ≤ 8) (h3 : v 3 < 900) (h4 : v 4 < 1000) (hp : ∀ b, b < v 2 → v (70 + 4 * b + 1) < v 0) : spX4_hourComes V = some (hf_sd20 V (zhour v)) := by
  unfold spX4_hourComes
  have q3 := S.b 3
  simp (disch := omega) only [z_lit, z_add, S.ld, Option.bind_some]
  rw [z_sd (by omega) (by omega), S.ua]
  have hb : ∀ k, zup v 3 (v 3 + 1) k < 16777216 := fun k => by
    unfold zup
    split
    · omega
    · exact S.b k
  have S2 := hf_sd20_sv V hb
  rw [m_allSee S2 hn hm h0 (by rw [zup_at]; omega) h4 (fun b hb => by
    rw [zup_ne _ (by omega)]
    exact hp b hb), hf_sd20_sd]
  rfl
theorem m_buys (S : hf_sv V v) {b h : Nat} (hb : b < 4) (hh : h < 12) (hle : zpr v h ≤ v (70 + 4 * b)) : spX4_buys (Int32.ofNat b) (Int32.ofNat h) V = some (hf_sd20 V (zbuys v b h)) := by
  unfold spX4_buys
  simp (disch := omega) only [z_lit, z_add, z_mul, S.ld, Option.bind_some, hf_let_eq, m_priceOf S, hf_b2_some, z_sub]
  rw [z_sd (by omega) (by omega), S.ua, z_sd (by omega) (by omega), hf_sd20_ua]
  rfl
end ZM
