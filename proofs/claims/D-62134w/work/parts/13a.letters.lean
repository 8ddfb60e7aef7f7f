/-! ===== the twin: letters, tokens ===== -/
section
variable {B : ab_H} {b : Nat} {I : Nat → Int32} {P : Int64} {A : Nat → Nat → Int32} {N : Nat → Int64} {L : List Int32}
theorem tw_at (d : Nat) (hn : I 10 = nI L.length) (hl : rdl (A 7) 0 L) (hL : L.length ≤ 64) {i : Nat} (hi : i < 1000) : ab_cl gG true d 100 [.inr (.inr (some b)), .inl (nI i)] (TW B b I P A N) = some (some (.inl (L.getD i 0)), TW B b I P A N) := by
  rw [ent_100, bl_100_0, tw_i10, Option.bind_some, hn]
  by_cases h : i < L.length
  · rw [if_pos (nI_lt h (by omega)), tw_r11, Option.bind_some, Option.bind_some, tw_a7 (by omega), Option.bind_some]
    have := hl i h
    rw [Nat.zero_add] at this
    rw [this]
  · rw [if_neg (nI_nlt (by omega) (by omega)), getD_out (by omega)]
theorem tw_op (d : Nat) (hn : I 10 = nI L.length) (hl : rdl (A 7) 0 L) (hL : L.length ≤ 64) {i : Nat} (hi : i < 900) : ab_cl gG true (d + 1) 83 [.inr (.inr (some b)), .inl (nI i)] (TW B b I P A N) = some (some (.inl (op2 (L.getD i 0) (L.getD (i + 1) 0))), TW B b I P A N) := by
  rw [ent_83, bl_83_0, if_pos tw_isc, tw_at d hn hl hL (by omega), qb_c1s, Option.bind_some]
  dsimp only
  rw [if_pos tw_isc, nI_1, tw_at d hn hl hL (by omega), qb_c1s, Option.bind_some]
  dsimp only
  unfold op2
  (repeat' split) <;> first | rfl | (exfalso; simp_all; done)
theorem tw_token (d : Nat) (hb : B.1.1 ≤ b) {t : Nat} (ht : I 12 = nI t) (ht2 : t < 64) (k i : Int32) : ab_cl gG true d 84 [.inr (.inr (some b)), .inl k, .inl i] (TW B b I P A N) = some (none, TW B b (ab_up I 12 (nI (t + 1))) P (ab_up (ab_up (ab_up A 8 (ab_up (A 8) t k)) 9 (ab_up (A 9) t i)) 10 (ab_up (A 10) t i)) N) := by
  rw [ent_84, bl_84_0, tw_r13, Option.bind_some, tw_i12, Option.bind_some, Option.bind_some, ht, tw_s8 hb ht2, Option.bind_some, tw_r14, Option.bind_some, tw_i12, Option.bind_some, Option.bind_some, ht, tw_s9 hb ht2, Option.bind_some, tw_r15, Option.bind_some, tw_i12, Option.bind_some, Option.bind_some, ht, tw_s10 hb ht2, Option.bind_some, tw_i12, Option.bind_some, ht, tw_w12 hb, Option.bind_some, nI_1]
  rfl
end
