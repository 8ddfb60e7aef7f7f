/-! ===== THE TWIN IN A HEAP: its object at b, its 29 arrays behind it; I the int fields by number, P pathName, A the arrays by place, N the names ===== -/
def tw_of (k : Nat) : Nat := match k with
  | 3 => 1
  | 4 => 2
  | 5 => 3
  | 6 => 4
  | 7 => 5
  | 8 => 6
  | 11 => 7
  | 13 => 8
  | 14 => 9
  | 15 => 10
  | 17 => 11
  | 18 => 12
  | 20 => 13
  | 23 => 14
  | 24 => 15
  | 25 => 16
  | 26 => 17
  | 27 => 18
  | 28 => 19
  | 29 => 20
  | 30 => 21
  | 31 => 22
  | 32 => 23
  | 33 => 24
  | 34 => 25
  | 37 => 26
  | 40 => 27
  | 41 => 28
  | 47 => 29
  | _ => 0
def tw_kl (o : Nat) : Nat × Nat := match o with
  | 1 => (3, 13)
  | 2 => (3, 13)
  | 3 => (0, 13)
  | 4 => (9, 13)
  | 5 => (0, 13)
  | 6 => (0, 2080)
  | 7 => (0, 64)
  | 8 => (0, 64)
  | 9 => (0, 64)
  | 10 => (0, 64)
  | 11 => (0, 65)
  | 12 => (0, 65)
  | 13 => (0, 200)
  | 14 => (0, 5)
  | 15 => (0, 5)
  | 16 => (0, 5)
  | 17 => (0, 5)
  | 18 => (0, 5)
  | 19 => (3, 5)
  | 20 => (3, 5)
  | 21 => (0, 480)
  | 22 => (0, 5)
  | 23 => (0, 1600)
  | 24 => (0, 10)
  | 25 => (0, 96)
  | 26 => (0, 160)
  | 27 => (0, 161)
  | 28 => (0, 161)
  | 29 => (0, 96)
  | _ => (0, 0)
def tw_f (b : Nat) (I : Nat → Int32) (P : Int64) (k : Nat) : ab_V := match tw_of k with
  | 0 => if k = 44 then .inr (.inl P) else .inl (I k)
  | o + 1 => .inr (.inr (some (b + (o + 1))))
def tw_c (b : Nat) (I : Nat → Int32) (P : Int64) (A : Nat → Nat → Int32) (N : Nat → Int64) (o : Nat) : ab_C := if o = 0 then ab_cO 7 (tw_f b I P) else if o = 4 then ab_cL 13 N else ab_cI (tw_kl o).1 (tw_kl o).2 (A o)
def TW (B : ab_H) (b : Nat) (I : Nat → Int32) (P : Int64) (A : Nat → Nat → Int32) (N : Nat → Int64) : ab_H := (B.1, B.2.1, B.2.2.1, fun a => if b ≤ a ∧ a ≤ b + 29 then some (tw_c b I P A N (a - b)) else B.2.2.2 a)
section
variable {B : ab_H} {b : Nat} {I : Nat → Int32} {P : Int64} {A : Nat → Nat → Int32} {N : Nat → Int64}
theorem tw_ce {o : Nat} (ho : o ≤ 29) : ab_ce (TW B b I P A N) (b + o) = some (tw_c b I P A N o) := by
  unfold ab_ce TW
  dsimp only
  rw [if_pos ⟨by omega, by omega⟩, Nat.add_sub_cancel_left]
theorem tw_ce0 : ab_ce (TW B b I P A N) b = some (ab_cO 7 (tw_f b I P)) := tw_ce (o := 0) (by omega)
theorem tw_ceo {a : Nat} (h : a < b ∨ b + 29 < a) : ab_ce (TW B b I P A N) a = ab_ce B a := by
  unfold ab_ce TW
  dsimp only
  rw [if_neg (by omega)]
theorem tw_ext {h : ab_H} (h1 : h.1 = B.1) (h2 : h.2.1 = B.2.1) (h3 : h.2.2.1 = B.2.2.1) (h4 : ∀ o, o ≤ 29 → h.2.2.2 (b + o) = some (tw_c b I P A N o)) (h5 : ∀ a, a < b ∨ b + 29 < a → h.2.2.2 a = B.2.2.2 a) : h = TW B b I P A N := by
  obtain ⟨x, y, z, w⟩ := h
  dsimp only at h1 h2 h3 h4 h5
  subst h1 h2 h3
  unfold TW
  congr 3
  funext a
  by_cases h : b ≤ a ∧ a ≤ b + 29
  · rw [if_pos h]
    have := h4 (a - b) (by omega)
    rw [show b + (a - b) = a by omega] at this
    exact this
  · rw [if_neg h]
    exact h5 a (by omega)
theorem tw_put {o : Nat} (ho : o ≤ 29) {c : ab_C} {I' : Nat → Int32} {P' : Int64} {A' : Nat → Nat → Int32} {N' : Nat → Int64} (hc : c = tw_c b I' P' A' N' o) (hk : ∀ q, q ≤ 29 → q ≠ o → tw_c b I P A N q = tw_c b I' P' A' N' q) : ab_put (TW B b I P A N) (b + o) c = TW B b I' P' A' N' := by
  refine tw_ext rfl rfl rfl (fun q hq => ?_) (fun a ha => ?_)
  · show ab_up _ (b + o) _ (b + q) = _
    unfold ab_up
    by_cases h : q = o
    · rw [if_pos (by omega), hc, h]
    · rw [if_neg (by omega), ← hk q hq h]
      exact tw_ce hq
  · show ab_up _ (b + o) _ a = _
    unfold ab_up
    rw [if_neg (by omega)]
    exact tw_ceo ha
theorem tw_fup {k : Nat} (h1 : tw_of k = 0) (h2 : k ≠ 44) (x : Int32) : ab_up (tw_f b I P) k (.inl x) = tw_f b (ab_up I k x) P := by
  funext j
  unfold ab_up tw_f
  by_cases h : j = k
  · subst h
    rw [h1]
    simp [h2]
  · simp [h]
theorem tw_w {k : Nat} (h1 : tw_of k = 0) (h2 : k ≠ 44) (h3 : k < 100) (hb : B.1.1 ≤ b) (x : Int32) : ab_pf (TW B b I P A N) b (700 + k) (.inl x) = some (TW B b (ab_up I k x) P A N) := by
  unfold ab_pf
  rw [tw_ce0]
  dsimp only
  have e : (700 + k) % 100 = k := by omega
  have e2 : (700 + k) / 100 = 7 := by omega
  have e3 : tw_f b I P k = .inl (I k) := by unfold tw_f; rw [h1]; simp [h2]
  rw [e, e2, e3, if_pos ⟨rfl, hb, rfl⟩, tw_fup h1 h2]
  congr 1
  refine tw_put (o := 0) (by omega) rfl (fun q hq h => ?_)
  unfold tw_c
  rw [if_neg h, if_neg h]
theorem tw_wP (hb : B.1.1 ≤ b) (x : Int64) : ab_pf (TW B b I P A N) b 744 (.inr (.inl x)) = some (TW B b I x A N) := by
  unfold ab_pf
  rw [tw_ce0]
  dsimp only
  have e4 : ab_up (tw_f b I P) 44 (.inr (.inl x)) = tw_f b I x := by
    funext j
    unfold ab_up tw_f
    by_cases h : j = 44
    · subst h
      rfl
    · simp [h]
  rw [if_pos ⟨rfl, hb, rfl⟩]
  congr 1
  rw [show 744 % 100 = 44 from rfl, e4]
  refine tw_put (o := 0) (by omega) rfl (fun q hq h => ?_)
  unfold tw_c
  rw [if_neg h, if_neg h]
theorem tw_i {k : Nat} (h1 : tw_of k = 0) (h2 : k ≠ 44) (h3 : k < 100) : ab_fI (TW B b I P A N) b (700 + k) = some (I k) := by
  unfold ab_fI ab_fd
  rw [tw_ce0]
  have e : (700 + k) % 100 = k := by omega
  have e2 : (700 + k) / 100 = 7 := by omega
  have e3 : tw_f b I P k = .inl (I k) := by unfold tw_f; rw [h1]; simp [h2]
  dsimp only
  rw [e, e2, if_pos (show ab_sub 7 7 = true from rfl), e3]
theorem tw_P : ab_fL (TW B b I P A N) b 744 = some P := by
  unfold ab_fL ab_fd
  rw [tw_ce0]
  rfl
theorem tw_isc : ab_isc (TW B b I P A N) b 7 = true := by
  unfold ab_isc ab_cls
  rw [tw_ce0]
  rfl
theorem tw_r {k o : Nat} (h1 : tw_of k = o + 1) (h3 : k < 100) : ab_fR (TW B b I P A N) b (700 + k) = some (some (b + (o + 1))) := by
  unfold ab_fR ab_fd
  rw [tw_ce0]
  have e : (700 + k) % 100 = k := by omega
  have e2 : (700 + k) / 100 = 7 := by omega
  have e3 : tw_f b I P k = .inr (.inr (some (b + (o + 1)))) := by unfold tw_f; rw [h1]
  dsimp only
  rw [e, e2, if_pos (show ab_sub 7 7 = true from rfl), e3]
theorem tw_cA {o : Nat} (h0 : o ≠ 0) (h4 : o ≠ 4) (ho : o ≤ 29) : ab_ce (TW B b I P A N) (b + o) = some (ab_cI (tw_kl o).1 (tw_kl o).2 (A o)) := by
  rw [tw_ce ho]
  unfold tw_c
  rw [if_neg h0, if_neg h4]
theorem tw_a {q o k n : Nat} (h0 : o ≠ 0) (h4 : o ≠ 4) (ho : o ≤ 29) (hkl : tw_kl o = (k, n)) (hq : ab_kd q k = true) (hn : n < 2 ^ 31) {i : Nat} (hi : i < n) : ab_aI q (TW B b I P A N) (b + o) (nI i) = some (A o i) := by
  unfold ab_aI
  rw [tw_cA h0 h4 ho, hkl]
  dsimp only
  rw [if_pos ⟨hq, qb_ind hi hn⟩, nI_clamp (by omega)]
theorem tw_s {q o k n : Nat} (h0 : o ≠ 0) (h4 : o ≠ 4) (ho : o ≤ 29) (hkl : tw_kl o = (k, n)) (hq : ab_kd q k = true) (hn : n < 2 ^ 31) (hb : B.1.1 ≤ b) {i : Nat} (hi : i < n) (x : Int32) : ab_sI q (TW B b I P A N) (b + o) (nI i) x = some (TW B b I P (ab_up A o (ab_up (A o) i (vp_nar (ab_ty k) x))) N) := by
  unfold ab_sI
  rw [tw_cA h0 h4 ho, hkl]
  dsimp only
  rw [if_pos ⟨hq, qb_ind hi hn, (show B.1.1 ≤ b + o by omega)⟩, nI_clamp (by omega)]
  congr 1
  refine tw_put ho ?_ (fun q9 hq9 h => ?_)
  · unfold tw_c ab_up
    rw [if_neg h0, if_neg h4, hkl, if_pos rfl]
  · unfold tw_c ab_up
    rw [if_neg h]
theorem tw_cN : ab_ce (TW B b I P A N) (b + 4) = some (ab_cL 13 N) := tw_ce (by omega)
theorem tw_aN {i : Nat} (hi : i < 13) : ab_aL (TW B b I P A N) (b + 4) (nI i) = some (N i) := by
  unfold ab_aL
  rw [tw_cN]
  dsimp only
  rw [if_pos (qb_ind hi (by omega)), nI_clamp (by omega)]
theorem tw_sN (hb : B.1.1 ≤ b) {i : Nat} (hi : i < 13) (x : Int64) : ab_sL (TW B b I P A N) (b + 4) (nI i) x = some (TW B b I P A (ab_up N i x)) := by
  unfold ab_sL
  rw [tw_cN]
  dsimp only
  rw [if_pos ⟨qb_ind hi (by omega), (show B.1.1 ≤ b + 4 by omega)⟩, nI_clamp (by omega)]
  congr 1
  refine tw_put (o := 4) (by omega) rfl (fun q9 hq9 h => ?_)
  unfold tw_c
  rw [if_neg h, if_neg h]
theorem tw_i0 : ab_fI (TW B b I P A N) b 700 = some (I 0) := tw_i (k := 0) rfl (by decide) (by decide)
theorem tw_w0 (hb : B.1.1 ≤ b) (x : Int32) : ab_pf (TW B b I P A N) b 700 (.inl x) = some (TW B b (ab_up I 0 x) P A N) := tw_w (k := 0) rfl (by decide) (by decide) hb x
theorem tw_i1 : ab_fI (TW B b I P A N) b 701 = some (I 1) := tw_i (k := 1) rfl (by decide) (by decide)
theorem tw_w1 (hb : B.1.1 ≤ b) (x : Int32) : ab_pf (TW B b I P A N) b 701 (.inl x) = some (TW B b (ab_up I 1 x) P A N) := tw_w (k := 1) rfl (by decide) (by decide) hb x
theorem tw_i2 : ab_fI (TW B b I P A N) b 702 = some (I 2) := tw_i (k := 2) rfl (by decide) (by decide)
theorem tw_w2 (hb : B.1.1 ≤ b) (x : Int32) : ab_pf (TW B b I P A N) b 702 (.inl x) = some (TW B b (ab_up I 2 x) P A N) := tw_w (k := 2) rfl (by decide) (by decide) hb x
theorem tw_r3 : ab_fR (TW B b I P A N) b 703 = some (some (b + 1)) := tw_r (k := 3) rfl (by decide)
theorem tw_r4 : ab_fR (TW B b I P A N) b 704 = some (some (b + 2)) := tw_r (k := 4) rfl (by decide)
theorem tw_r5 : ab_fR (TW B b I P A N) b 705 = some (some (b + 3)) := tw_r (k := 5) rfl (by decide)
theorem tw_r6 : ab_fR (TW B b I P A N) b 706 = some (some (b + 4)) := tw_r (k := 6) rfl (by decide)
theorem tw_r7 : ab_fR (TW B b I P A N) b 707 = some (some (b + 5)) := tw_r (k := 7) rfl (by decide)
theorem tw_r8 : ab_fR (TW B b I P A N) b 708 = some (some (b + 6)) := tw_r (k := 8) rfl (by decide)
theorem tw_i9 : ab_fI (TW B b I P A N) b 709 = some (I 9) := tw_i (k := 9) rfl (by decide) (by decide)
theorem tw_w9 (hb : B.1.1 ≤ b) (x : Int32) : ab_pf (TW B b I P A N) b 709 (.inl x) = some (TW B b (ab_up I 9 x) P A N) := tw_w (k := 9) rfl (by decide) (by decide) hb x
theorem tw_i10 : ab_fI (TW B b I P A N) b 710 = some (I 10) := tw_i (k := 10) rfl (by decide) (by decide)
theorem tw_w10 (hb : B.1.1 ≤ b) (x : Int32) : ab_pf (TW B b I P A N) b 710 (.inl x) = some (TW B b (ab_up I 10 x) P A N) := tw_w (k := 10) rfl (by decide) (by decide) hb x
theorem tw_r11 : ab_fR (TW B b I P A N) b 711 = some (some (b + 7)) := tw_r (k := 11) rfl (by decide)
theorem tw_i12 : ab_fI (TW B b I P A N) b 712 = some (I 12) := tw_i (k := 12) rfl (by decide) (by decide)
theorem tw_w12 (hb : B.1.1 ≤ b) (x : Int32) : ab_pf (TW B b I P A N) b 712 (.inl x) = some (TW B b (ab_up I 12 x) P A N) := tw_w (k := 12) rfl (by decide) (by decide) hb x
theorem tw_r13 : ab_fR (TW B b I P A N) b 713 = some (some (b + 8)) := tw_r (k := 13) rfl (by decide)
theorem tw_r14 : ab_fR (TW B b I P A N) b 714 = some (some (b + 9)) := tw_r (k := 14) rfl (by decide)
theorem tw_r15 : ab_fR (TW B b I P A N) b 715 = some (some (b + 10)) := tw_r (k := 15) rfl (by decide)
theorem tw_i16 : ab_fI (TW B b I P A N) b 716 = some (I 16) := tw_i (k := 16) rfl (by decide) (by decide)
theorem tw_w16 (hb : B.1.1 ≤ b) (x : Int32) : ab_pf (TW B b I P A N) b 716 (.inl x) = some (TW B b (ab_up I 16 x) P A N) := tw_w (k := 16) rfl (by decide) (by decide) hb x
theorem tw_r17 : ab_fR (TW B b I P A N) b 717 = some (some (b + 11)) := tw_r (k := 17) rfl (by decide)
theorem tw_r18 : ab_fR (TW B b I P A N) b 718 = some (some (b + 12)) := tw_r (k := 18) rfl (by decide)
theorem tw_i19 : ab_fI (TW B b I P A N) b 719 = some (I 19) := tw_i (k := 19) rfl (by decide) (by decide)
theorem tw_w19 (hb : B.1.1 ≤ b) (x : Int32) : ab_pf (TW B b I P A N) b 719 (.inl x) = some (TW B b (ab_up I 19 x) P A N) := tw_w (k := 19) rfl (by decide) (by decide) hb x
theorem tw_r20 : ab_fR (TW B b I P A N) b 720 = some (some (b + 13)) := tw_r (k := 20) rfl (by decide)
theorem tw_i21 : ab_fI (TW B b I P A N) b 721 = some (I 21) := tw_i (k := 21) rfl (by decide) (by decide)
theorem tw_w21 (hb : B.1.1 ≤ b) (x : Int32) : ab_pf (TW B b I P A N) b 721 (.inl x) = some (TW B b (ab_up I 21 x) P A N) := tw_w (k := 21) rfl (by decide) (by decide) hb x
theorem tw_i22 : ab_fI (TW B b I P A N) b 722 = some (I 22) := tw_i (k := 22) rfl (by decide) (by decide)
theorem tw_w22 (hb : B.1.1 ≤ b) (x : Int32) : ab_pf (TW B b I P A N) b 722 (.inl x) = some (TW B b (ab_up I 22 x) P A N) := tw_w (k := 22) rfl (by decide) (by decide) hb x
theorem tw_r23 : ab_fR (TW B b I P A N) b 723 = some (some (b + 14)) := tw_r (k := 23) rfl (by decide)
theorem tw_r24 : ab_fR (TW B b I P A N) b 724 = some (some (b + 15)) := tw_r (k := 24) rfl (by decide)
theorem tw_r25 : ab_fR (TW B b I P A N) b 725 = some (some (b + 16)) := tw_r (k := 25) rfl (by decide)
theorem tw_r26 : ab_fR (TW B b I P A N) b 726 = some (some (b + 17)) := tw_r (k := 26) rfl (by decide)
theorem tw_r27 : ab_fR (TW B b I P A N) b 727 = some (some (b + 18)) := tw_r (k := 27) rfl (by decide)
theorem tw_r28 : ab_fR (TW B b I P A N) b 728 = some (some (b + 19)) := tw_r (k := 28) rfl (by decide)
theorem tw_r29 : ab_fR (TW B b I P A N) b 729 = some (some (b + 20)) := tw_r (k := 29) rfl (by decide)
theorem tw_r30 : ab_fR (TW B b I P A N) b 730 = some (some (b + 21)) := tw_r (k := 30) rfl (by decide)
theorem tw_r31 : ab_fR (TW B b I P A N) b 731 = some (some (b + 22)) := tw_r (k := 31) rfl (by decide)
theorem tw_r32 : ab_fR (TW B b I P A N) b 732 = some (some (b + 23)) := tw_r (k := 32) rfl (by decide)
theorem tw_r33 : ab_fR (TW B b I P A N) b 733 = some (some (b + 24)) := tw_r (k := 33) rfl (by decide)
theorem tw_r34 : ab_fR (TW B b I P A N) b 734 = some (some (b + 25)) := tw_r (k := 34) rfl (by decide)
theorem tw_i35 : ab_fI (TW B b I P A N) b 735 = some (I 35) := tw_i (k := 35) rfl (by decide) (by decide)
theorem tw_w35 (hb : B.1.1 ≤ b) (x : Int32) : ab_pf (TW B b I P A N) b 735 (.inl x) = some (TW B b (ab_up I 35 x) P A N) := tw_w (k := 35) rfl (by decide) (by decide) hb x
theorem tw_i36 : ab_fI (TW B b I P A N) b 736 = some (I 36) := tw_i (k := 36) rfl (by decide) (by decide)
theorem tw_w36 (hb : B.1.1 ≤ b) (x : Int32) : ab_pf (TW B b I P A N) b 736 (.inl x) = some (TW B b (ab_up I 36 x) P A N) := tw_w (k := 36) rfl (by decide) (by decide) hb x
theorem tw_r37 : ab_fR (TW B b I P A N) b 737 = some (some (b + 26)) := tw_r (k := 37) rfl (by decide)
theorem tw_i38 : ab_fI (TW B b I P A N) b 738 = some (I 38) := tw_i (k := 38) rfl (by decide) (by decide)
theorem tw_w38 (hb : B.1.1 ≤ b) (x : Int32) : ab_pf (TW B b I P A N) b 738 (.inl x) = some (TW B b (ab_up I 38 x) P A N) := tw_w (k := 38) rfl (by decide) (by decide) hb x
theorem tw_i39 : ab_fI (TW B b I P A N) b 739 = some (I 39) := tw_i (k := 39) rfl (by decide) (by decide)
theorem tw_w39 (hb : B.1.1 ≤ b) (x : Int32) : ab_pf (TW B b I P A N) b 739 (.inl x) = some (TW B b (ab_up I 39 x) P A N) := tw_w (k := 39) rfl (by decide) (by decide) hb x
theorem tw_r40 : ab_fR (TW B b I P A N) b 740 = some (some (b + 27)) := tw_r (k := 40) rfl (by decide)
theorem tw_r41 : ab_fR (TW B b I P A N) b 741 = some (some (b + 28)) := tw_r (k := 41) rfl (by decide)
theorem tw_i42 : ab_fI (TW B b I P A N) b 742 = some (I 42) := tw_i (k := 42) rfl (by decide) (by decide)
theorem tw_w42 (hb : B.1.1 ≤ b) (x : Int32) : ab_pf (TW B b I P A N) b 742 (.inl x) = some (TW B b (ab_up I 42 x) P A N) := tw_w (k := 42) rfl (by decide) (by decide) hb x
theorem tw_i43 : ab_fI (TW B b I P A N) b 743 = some (I 43) := tw_i (k := 43) rfl (by decide) (by decide)
theorem tw_w43 (hb : B.1.1 ≤ b) (x : Int32) : ab_pf (TW B b I P A N) b 743 (.inl x) = some (TW B b (ab_up I 43 x) P A N) := tw_w (k := 43) rfl (by decide) (by decide) hb x
theorem tw_i45 : ab_fI (TW B b I P A N) b 745 = some (I 45) := tw_i (k := 45) rfl (by decide) (by decide)
theorem tw_w45 (hb : B.1.1 ≤ b) (x : Int32) : ab_pf (TW B b I P A N) b 745 (.inl x) = some (TW B b (ab_up I 45 x) P A N) := tw_w (k := 45) rfl (by decide) (by decide) hb x
theorem tw_i46 : ab_fI (TW B b I P A N) b 746 = some (I 46) := tw_i (k := 46) rfl (by decide) (by decide)
theorem tw_w46 (hb : B.1.1 ≤ b) (x : Int32) : ab_pf (TW B b I P A N) b 746 (.inl x) = some (TW B b (ab_up I 46 x) P A N) := tw_w (k := 46) rfl (by decide) (by decide) hb x
theorem tw_r47 : ab_fR (TW B b I P A N) b 747 = some (some (b + 29)) := tw_r (k := 47) rfl (by decide)
theorem tw_i48 : ab_fI (TW B b I P A N) b 748 = some (I 48) := tw_i (k := 48) rfl (by decide) (by decide)
theorem tw_w48 (hb : B.1.1 ≤ b) (x : Int32) : ab_pf (TW B b I P A N) b 748 (.inl x) = some (TW B b (ab_up I 48 x) P A N) := tw_w (k := 48) rfl (by decide) (by decide) hb x
theorem tw_a1 {i : Nat} (hi : i < 13) : ab_aI 1 (TW B b I P A N) (b + 1) (nI i) = some (A 1 i) := tw_a (k := 3) (n := 13) (by decide) (by decide) (by decide) rfl rfl (by decide) hi
theorem tw_s1 (hb : B.1.1 ≤ b) {i : Nat} (hi : i < 13) (x : Int32) : ab_sI 1 (TW B b I P A N) (b + 1) (nI i) x = some (TW B b I P (ab_up A 1 (ab_up (A 1) i (vp_nar .boolean x))) N) := tw_s (k := 3) (n := 13) (by decide) (by decide) (by decide) rfl rfl (by decide) hb hi x
theorem tw_a2 {i : Nat} (hi : i < 13) : ab_aI 1 (TW B b I P A N) (b + 2) (nI i) = some (A 2 i) := tw_a (k := 3) (n := 13) (by decide) (by decide) (by decide) rfl rfl (by decide) hi
theorem tw_s2 (hb : B.1.1 ≤ b) {i : Nat} (hi : i < 13) (x : Int32) : ab_sI 1 (TW B b I P A N) (b + 2) (nI i) x = some (TW B b I P (ab_up A 2 (ab_up (A 2) i (vp_nar .boolean x))) N) := tw_s (k := 3) (n := 13) (by decide) (by decide) (by decide) rfl rfl (by decide) hb hi x
theorem tw_a3 {i : Nat} (hi : i < 13) : ab_aI 0 (TW B b I P A N) (b + 3) (nI i) = some (A 3 i) := tw_a (k := 0) (n := 13) (by decide) (by decide) (by decide) rfl rfl (by decide) hi
theorem tw_s3 (hb : B.1.1 ≤ b) {i : Nat} (hi : i < 13) (x : Int32) : ab_sI 0 (TW B b I P A N) (b + 3) (nI i) x = some (TW B b I P (ab_up A 3 (ab_up (A 3) i x)) N) := tw_s (k := 0) (n := 13) (by decide) (by decide) (by decide) rfl rfl (by decide) hb hi x
theorem tw_a5 {i : Nat} (hi : i < 13) : ab_aI 0 (TW B b I P A N) (b + 5) (nI i) = some (A 5 i) := tw_a (k := 0) (n := 13) (by decide) (by decide) (by decide) rfl rfl (by decide) hi
theorem tw_s5 (hb : B.1.1 ≤ b) {i : Nat} (hi : i < 13) (x : Int32) : ab_sI 0 (TW B b I P A N) (b + 5) (nI i) x = some (TW B b I P (ab_up A 5 (ab_up (A 5) i x)) N) := tw_s (k := 0) (n := 13) (by decide) (by decide) (by decide) rfl rfl (by decide) hb hi x
theorem tw_a6 {i : Nat} (hi : i < 2080) : ab_aI 0 (TW B b I P A N) (b + 6) (nI i) = some (A 6 i) := tw_a (k := 0) (n := 2080) (by decide) (by decide) (by decide) rfl rfl (by decide) hi
theorem tw_s6 (hb : B.1.1 ≤ b) {i : Nat} (hi : i < 2080) (x : Int32) : ab_sI 0 (TW B b I P A N) (b + 6) (nI i) x = some (TW B b I P (ab_up A 6 (ab_up (A 6) i x)) N) := tw_s (k := 0) (n := 2080) (by decide) (by decide) (by decide) rfl rfl (by decide) hb hi x
theorem tw_a7 {i : Nat} (hi : i < 64) : ab_aI 0 (TW B b I P A N) (b + 7) (nI i) = some (A 7 i) := tw_a (k := 0) (n := 64) (by decide) (by decide) (by decide) rfl rfl (by decide) hi
theorem tw_s7 (hb : B.1.1 ≤ b) {i : Nat} (hi : i < 64) (x : Int32) : ab_sI 0 (TW B b I P A N) (b + 7) (nI i) x = some (TW B b I P (ab_up A 7 (ab_up (A 7) i x)) N) := tw_s (k := 0) (n := 64) (by decide) (by decide) (by decide) rfl rfl (by decide) hb hi x
theorem tw_a8 {i : Nat} (hi : i < 64) : ab_aI 0 (TW B b I P A N) (b + 8) (nI i) = some (A 8 i) := tw_a (k := 0) (n := 64) (by decide) (by decide) (by decide) rfl rfl (by decide) hi
theorem tw_s8 (hb : B.1.1 ≤ b) {i : Nat} (hi : i < 64) (x : Int32) : ab_sI 0 (TW B b I P A N) (b + 8) (nI i) x = some (TW B b I P (ab_up A 8 (ab_up (A 8) i x)) N) := tw_s (k := 0) (n := 64) (by decide) (by decide) (by decide) rfl rfl (by decide) hb hi x
theorem tw_a9 {i : Nat} (hi : i < 64) : ab_aI 0 (TW B b I P A N) (b + 9) (nI i) = some (A 9 i) := tw_a (k := 0) (n := 64) (by decide) (by decide) (by decide) rfl rfl (by decide) hi
theorem tw_s9 (hb : B.1.1 ≤ b) {i : Nat} (hi : i < 64) (x : Int32) : ab_sI 0 (TW B b I P A N) (b + 9) (nI i) x = some (TW B b I P (ab_up A 9 (ab_up (A 9) i x)) N) := tw_s (k := 0) (n := 64) (by decide) (by decide) (by decide) rfl rfl (by decide) hb hi x
theorem tw_a10 {i : Nat} (hi : i < 64) : ab_aI 0 (TW B b I P A N) (b + 10) (nI i) = some (A 10 i) := tw_a (k := 0) (n := 64) (by decide) (by decide) (by decide) rfl rfl (by decide) hi
theorem tw_s10 (hb : B.1.1 ≤ b) {i : Nat} (hi : i < 64) (x : Int32) : ab_sI 0 (TW B b I P A N) (b + 10) (nI i) x = some (TW B b I P (ab_up A 10 (ab_up (A 10) i x)) N) := tw_s (k := 0) (n := 64) (by decide) (by decide) (by decide) rfl rfl (by decide) hb hi x
theorem tw_a11 {i : Nat} (hi : i < 65) : ab_aI 0 (TW B b I P A N) (b + 11) (nI i) = some (A 11 i) := tw_a (k := 0) (n := 65) (by decide) (by decide) (by decide) rfl rfl (by decide) hi
theorem tw_s11 (hb : B.1.1 ≤ b) {i : Nat} (hi : i < 65) (x : Int32) : ab_sI 0 (TW B b I P A N) (b + 11) (nI i) x = some (TW B b I P (ab_up A 11 (ab_up (A 11) i x)) N) := tw_s (k := 0) (n := 65) (by decide) (by decide) (by decide) rfl rfl (by decide) hb hi x
theorem tw_a12 {i : Nat} (hi : i < 65) : ab_aI 0 (TW B b I P A N) (b + 12) (nI i) = some (A 12 i) := tw_a (k := 0) (n := 65) (by decide) (by decide) (by decide) rfl rfl (by decide) hi
theorem tw_s12 (hb : B.1.1 ≤ b) {i : Nat} (hi : i < 65) (x : Int32) : ab_sI 0 (TW B b I P A N) (b + 12) (nI i) x = some (TW B b I P (ab_up A 12 (ab_up (A 12) i x)) N) := tw_s (k := 0) (n := 65) (by decide) (by decide) (by decide) rfl rfl (by decide) hb hi x
theorem tw_a13 {i : Nat} (hi : i < 200) : ab_aI 0 (TW B b I P A N) (b + 13) (nI i) = some (A 13 i) := tw_a (k := 0) (n := 200) (by decide) (by decide) (by decide) rfl rfl (by decide) hi
theorem tw_s13 (hb : B.1.1 ≤ b) {i : Nat} (hi : i < 200) (x : Int32) : ab_sI 0 (TW B b I P A N) (b + 13) (nI i) x = some (TW B b I P (ab_up A 13 (ab_up (A 13) i x)) N) := tw_s (k := 0) (n := 200) (by decide) (by decide) (by decide) rfl rfl (by decide) hb hi x
theorem tw_a14 {i : Nat} (hi : i < 5) : ab_aI 0 (TW B b I P A N) (b + 14) (nI i) = some (A 14 i) := tw_a (k := 0) (n := 5) (by decide) (by decide) (by decide) rfl rfl (by decide) hi
theorem tw_s14 (hb : B.1.1 ≤ b) {i : Nat} (hi : i < 5) (x : Int32) : ab_sI 0 (TW B b I P A N) (b + 14) (nI i) x = some (TW B b I P (ab_up A 14 (ab_up (A 14) i x)) N) := tw_s (k := 0) (n := 5) (by decide) (by decide) (by decide) rfl rfl (by decide) hb hi x
theorem tw_a15 {i : Nat} (hi : i < 5) : ab_aI 0 (TW B b I P A N) (b + 15) (nI i) = some (A 15 i) := tw_a (k := 0) (n := 5) (by decide) (by decide) (by decide) rfl rfl (by decide) hi
theorem tw_s15 (hb : B.1.1 ≤ b) {i : Nat} (hi : i < 5) (x : Int32) : ab_sI 0 (TW B b I P A N) (b + 15) (nI i) x = some (TW B b I P (ab_up A 15 (ab_up (A 15) i x)) N) := tw_s (k := 0) (n := 5) (by decide) (by decide) (by decide) rfl rfl (by decide) hb hi x
theorem tw_a16 {i : Nat} (hi : i < 5) : ab_aI 0 (TW B b I P A N) (b + 16) (nI i) = some (A 16 i) := tw_a (k := 0) (n := 5) (by decide) (by decide) (by decide) rfl rfl (by decide) hi
theorem tw_s16 (hb : B.1.1 ≤ b) {i : Nat} (hi : i < 5) (x : Int32) : ab_sI 0 (TW B b I P A N) (b + 16) (nI i) x = some (TW B b I P (ab_up A 16 (ab_up (A 16) i x)) N) := tw_s (k := 0) (n := 5) (by decide) (by decide) (by decide) rfl rfl (by decide) hb hi x
theorem tw_a17 {i : Nat} (hi : i < 5) : ab_aI 0 (TW B b I P A N) (b + 17) (nI i) = some (A 17 i) := tw_a (k := 0) (n := 5) (by decide) (by decide) (by decide) rfl rfl (by decide) hi
theorem tw_s17 (hb : B.1.1 ≤ b) {i : Nat} (hi : i < 5) (x : Int32) : ab_sI 0 (TW B b I P A N) (b + 17) (nI i) x = some (TW B b I P (ab_up A 17 (ab_up (A 17) i x)) N) := tw_s (k := 0) (n := 5) (by decide) (by decide) (by decide) rfl rfl (by decide) hb hi x
theorem tw_a18 {i : Nat} (hi : i < 5) : ab_aI 0 (TW B b I P A N) (b + 18) (nI i) = some (A 18 i) := tw_a (k := 0) (n := 5) (by decide) (by decide) (by decide) rfl rfl (by decide) hi
theorem tw_s18 (hb : B.1.1 ≤ b) {i : Nat} (hi : i < 5) (x : Int32) : ab_sI 0 (TW B b I P A N) (b + 18) (nI i) x = some (TW B b I P (ab_up A 18 (ab_up (A 18) i x)) N) := tw_s (k := 0) (n := 5) (by decide) (by decide) (by decide) rfl rfl (by decide) hb hi x
theorem tw_a19 {i : Nat} (hi : i < 5) : ab_aI 1 (TW B b I P A N) (b + 19) (nI i) = some (A 19 i) := tw_a (k := 3) (n := 5) (by decide) (by decide) (by decide) rfl rfl (by decide) hi
theorem tw_s19 (hb : B.1.1 ≤ b) {i : Nat} (hi : i < 5) (x : Int32) : ab_sI 1 (TW B b I P A N) (b + 19) (nI i) x = some (TW B b I P (ab_up A 19 (ab_up (A 19) i (vp_nar .boolean x))) N) := tw_s (k := 3) (n := 5) (by decide) (by decide) (by decide) rfl rfl (by decide) hb hi x
theorem tw_a20 {i : Nat} (hi : i < 5) : ab_aI 1 (TW B b I P A N) (b + 20) (nI i) = some (A 20 i) := tw_a (k := 3) (n := 5) (by decide) (by decide) (by decide) rfl rfl (by decide) hi
theorem tw_s20 (hb : B.1.1 ≤ b) {i : Nat} (hi : i < 5) (x : Int32) : ab_sI 1 (TW B b I P A N) (b + 20) (nI i) x = some (TW B b I P (ab_up A 20 (ab_up (A 20) i (vp_nar .boolean x))) N) := tw_s (k := 3) (n := 5) (by decide) (by decide) (by decide) rfl rfl (by decide) hb hi x
theorem tw_a21 {i : Nat} (hi : i < 480) : ab_aI 0 (TW B b I P A N) (b + 21) (nI i) = some (A 21 i) := tw_a (k := 0) (n := 480) (by decide) (by decide) (by decide) rfl rfl (by decide) hi
theorem tw_s21 (hb : B.1.1 ≤ b) {i : Nat} (hi : i < 480) (x : Int32) : ab_sI 0 (TW B b I P A N) (b + 21) (nI i) x = some (TW B b I P (ab_up A 21 (ab_up (A 21) i x)) N) := tw_s (k := 0) (n := 480) (by decide) (by decide) (by decide) rfl rfl (by decide) hb hi x
theorem tw_a22 {i : Nat} (hi : i < 5) : ab_aI 0 (TW B b I P A N) (b + 22) (nI i) = some (A 22 i) := tw_a (k := 0) (n := 5) (by decide) (by decide) (by decide) rfl rfl (by decide) hi
theorem tw_s22 (hb : B.1.1 ≤ b) {i : Nat} (hi : i < 5) (x : Int32) : ab_sI 0 (TW B b I P A N) (b + 22) (nI i) x = some (TW B b I P (ab_up A 22 (ab_up (A 22) i x)) N) := tw_s (k := 0) (n := 5) (by decide) (by decide) (by decide) rfl rfl (by decide) hb hi x
theorem tw_a23 {i : Nat} (hi : i < 1600) : ab_aI 0 (TW B b I P A N) (b + 23) (nI i) = some (A 23 i) := tw_a (k := 0) (n := 1600) (by decide) (by decide) (by decide) rfl rfl (by decide) hi
theorem tw_s23 (hb : B.1.1 ≤ b) {i : Nat} (hi : i < 1600) (x : Int32) : ab_sI 0 (TW B b I P A N) (b + 23) (nI i) x = some (TW B b I P (ab_up A 23 (ab_up (A 23) i x)) N) := tw_s (k := 0) (n := 1600) (by decide) (by decide) (by decide) rfl rfl (by decide) hb hi x
theorem tw_a24 {i : Nat} (hi : i < 10) : ab_aI 0 (TW B b I P A N) (b + 24) (nI i) = some (A 24 i) := tw_a (k := 0) (n := 10) (by decide) (by decide) (by decide) rfl rfl (by decide) hi
theorem tw_s24 (hb : B.1.1 ≤ b) {i : Nat} (hi : i < 10) (x : Int32) : ab_sI 0 (TW B b I P A N) (b + 24) (nI i) x = some (TW B b I P (ab_up A 24 (ab_up (A 24) i x)) N) := tw_s (k := 0) (n := 10) (by decide) (by decide) (by decide) rfl rfl (by decide) hb hi x
theorem tw_a25 {i : Nat} (hi : i < 96) : ab_aI 0 (TW B b I P A N) (b + 25) (nI i) = some (A 25 i) := tw_a (k := 0) (n := 96) (by decide) (by decide) (by decide) rfl rfl (by decide) hi
theorem tw_s25 (hb : B.1.1 ≤ b) {i : Nat} (hi : i < 96) (x : Int32) : ab_sI 0 (TW B b I P A N) (b + 25) (nI i) x = some (TW B b I P (ab_up A 25 (ab_up (A 25) i x)) N) := tw_s (k := 0) (n := 96) (by decide) (by decide) (by decide) rfl rfl (by decide) hb hi x
theorem tw_a26 {i : Nat} (hi : i < 160) : ab_aI 0 (TW B b I P A N) (b + 26) (nI i) = some (A 26 i) := tw_a (k := 0) (n := 160) (by decide) (by decide) (by decide) rfl rfl (by decide) hi
theorem tw_s26 (hb : B.1.1 ≤ b) {i : Nat} (hi : i < 160) (x : Int32) : ab_sI 0 (TW B b I P A N) (b + 26) (nI i) x = some (TW B b I P (ab_up A 26 (ab_up (A 26) i x)) N) := tw_s (k := 0) (n := 160) (by decide) (by decide) (by decide) rfl rfl (by decide) hb hi x
theorem tw_a27 {i : Nat} (hi : i < 161) : ab_aI 0 (TW B b I P A N) (b + 27) (nI i) = some (A 27 i) := tw_a (k := 0) (n := 161) (by decide) (by decide) (by decide) rfl rfl (by decide) hi
theorem tw_s27 (hb : B.1.1 ≤ b) {i : Nat} (hi : i < 161) (x : Int32) : ab_sI 0 (TW B b I P A N) (b + 27) (nI i) x = some (TW B b I P (ab_up A 27 (ab_up (A 27) i x)) N) := tw_s (k := 0) (n := 161) (by decide) (by decide) (by decide) rfl rfl (by decide) hb hi x
theorem tw_a28 {i : Nat} (hi : i < 161) : ab_aI 0 (TW B b I P A N) (b + 28) (nI i) = some (A 28 i) := tw_a (k := 0) (n := 161) (by decide) (by decide) (by decide) rfl rfl (by decide) hi
theorem tw_s28 (hb : B.1.1 ≤ b) {i : Nat} (hi : i < 161) (x : Int32) : ab_sI 0 (TW B b I P A N) (b + 28) (nI i) x = some (TW B b I P (ab_up A 28 (ab_up (A 28) i x)) N) := tw_s (k := 0) (n := 161) (by decide) (by decide) (by decide) rfl rfl (by decide) hb hi x
theorem tw_a29 {i : Nat} (hi : i < 96) : ab_aI 0 (TW B b I P A N) (b + 29) (nI i) = some (A 29 i) := tw_a (k := 0) (n := 96) (by decide) (by decide) (by decide) rfl rfl (by decide) hi
theorem tw_s29 (hb : B.1.1 ≤ b) {i : Nat} (hi : i < 96) (x : Int32) : ab_sI 0 (TW B b I P A N) (b + 29) (nI i) x = some (TW B b I P (ab_up A 29 (ab_up (A 29) i x)) N) := tw_s (k := 0) (n := 96) (by decide) (by decide) (by decide) rfl rfl (by decide) hb hi x
end
theorem ab_up_e {α : Type} (f : Nat → α) (k : Nat) (x : α) : ab_up f k x k = x := if_pos rfl
theorem ab_up_n {α : Type} (f : Nat → α) {k j : Nat} (x : α) (h : j ≠ k) : ab_up f k x j = f j := if_neg h
theorem ab_up_s {α : Type} (f : Nat → α) (k : Nat) : ab_up f k (f k) = f := by funext j; unfold ab_up; split <;> simp_all
theorem ab_up_u {α : Type} (f : Nat → α) (k : Nat) (x y : α) : ab_up (ab_up f k x) k y = ab_up f k y := by funext j; unfold ab_up; split <;> rfl
