/-! ===== the twin: startCommand and endCommand ===== -/
section
variable {B : ab_H} {b : Nat} {I : Nat → Int32} {P : Int64} {A : Nat → Nat → Int32} {N : Nat → Int64} {Z : sL} {n : Nat} {fa : Nat → Nat} {lv : Nat} {s : sS}
/-- startCommand() at a simple command, or at a group whose redirections cannot be made -/
theorem tw_startS (d : Nat) (hb : B.1.1 ≤ b) (hZ : okZ Z) (hk : tkR n Z.2.1 Z.2.2 fa) (hR : RT Z n fa lv s I A N) (hs : stI Z s) (hl2 : lv < 5) {t0 tc r : Nat} (hp : I 22 = nI t0) (ht0 : t0 ≤ n) (hpc : pC Z.2.1 100 (pG Z.2.1 100 r) t0 = some tc) (hend : Z.2.1 tc = 1 ∨ Z.2.1 tc = 2 ∨ Z.2.1 tc = 3 ∨ Z.2.1 tc = 4 ∨ Z.2.1 tc = 9 ∨ Z.2.1 tc = 11) {o : Option Nat} {src : List Int32} (hsrc : inI src) (hnx : A 16 lv = oI o) (hin : twIn o src A) (ho : o ≠ some (2 * lv + 1)) (H : sG)
    (hsim : Z.2.1 t0 ≠ 8 ∨ (redF Z.1.1 s.2.1 (wdS Z s) (rdW Z.2.1 (decide (Z.2.1 t0 = 8)) 100 (if Z.2.1 t0 = 8 then (pG Z.2.1 100 r t0).getD 0 else t0)).2 s.1 none none).1 ≠ 0) :
    ∃ I' P' A' N', ab_cl gG true (d + 6) 74 [.inr (.inr (some b))] (TW B b I P A N) = some (some (.inl (if (preS Z (pG Z.2.1 100 r) H t0 s src).1.1 = true then -9 else nI (preS Z (pG Z.2.1 100 r) H t0 s src).1.2.2.1)), TW B b I' P' A' N') ∧ RT Z n fa lv (preS Z (pG Z.2.1 100 r) H t0 s src).1.2.1 I' A' N' ∧ twD lv o tc s.2.1 (preS Z (pG Z.2.1 100 r) H t0 s src) I' A' ∧
      fr [16, 19, 22, 48, 35, 36, 38, 39, 42, 43, 9] I I' ∧ fr [11, 12, 13, 1, 2, 3, 5, 17, 15, 23, 24, 18, 25, 26, 27, 28] A A' ∧ lvA lv o A A' := by
  obtain ⟨w', q1, q2, q3, q4, q5⟩ := pC_inv hk.1 ht0 hpc
  have h1 := hs.2.2.2.1
  have hz := hZ.2.1
  obtain ⟨k1, k2, k3, k4, k5⟩ := red_k (here := s.2.1) (W := wdS Z s) hZ.1 (rdW Z.2.1 (decide (Z.2.1 t0 = 8)) 100 (if Z.2.1 t0 = 8 then (pG Z.2.1 100 r t0).getD 0 else t0)).2 s.1 none none hs.1 (by omega) hs.2.1 ⟨fun f e => (by cases e), fun x e => (by cases e)⟩
  obtain ⟨I1, P1, A1, N1, e1, f1, p1, x1, x2, f2, R1, C1, b1, l1⟩ := sc_red (B := B) (b := b) (P := P) (d + 2) hb hZ hk hR hs hl2 hp ht0 hpc hend hnx hin ho _ rfl
  unfold preS
  generalize hu : redF Z.1.1 s.2.1 (wdS Z s) (rdW Z.2.1 (decide (Z.2.1 t0 = 8)) 100 (if Z.2.1 t0 = 8 then (pG Z.2.1 100 r t0).getD 0 else t0)).2 s.1 none none = u at *
  obtain ⟨c, r1, fd, tg⟩ := u
  dsimp only at k1 k2 k3 k4 k5 e1 p1 R1 C1 hsim
  have hl1 : lvA lv o A A1 := ⟨l1.1, fun i hi _ => l1.2.1 i hi (by simp), l1.2.2⟩
  have hr0 : rdl (A1 25) 0 [] := rdl.nil
  match c, k5 with
  | 1, _ =>
    rw [if_neg (by decide)] at e1
    exact ⟨I1, P1, A1, N1, e1, R1, ⟨fun _ => ⟨p1, x1, hr0, C1.1⟩, b1, C1.2.1⟩, f1.mo rfl, f2.mo rfl, hl1⟩
  | 2, _ =>
    rw [if_neg (by decide)] at e1
    exact ⟨I1, P1, A1, N1, e1, R1, ⟨fun e => (by cases e), b1, C1.2.1⟩, f1.mo rfl, f2.mo rfl, hl1⟩
  | 0, _ =>
    have h8 : Z.2.1 t0 ≠ 8 := hsim.resolve_right (fun h => h rfl)
    rw [if_pos rfl, decide_eq_false h8] at e1
    rw [if_neg h8, decide_eq_false h8] at q1
    have hs1 : stI Z (r1, s.2) := ⟨k1, Nat.le_trans hs.2.1 k2.1, by show sD r1 s.2.1 = true; rw [(k2.2 _ hs.2.1).1]; exact hs.2.2.1, by show sC r1 ≤ _; omega, hs.2.2.2.2⟩
    obtain ⟨I2, P2, A2, N2, e2, R2, d2, i2, g1, g2, g3⟩ := sc_run (B := B) (b := b) (P := P1) (H := H) (r := r) d hb hZ hk hl2 ht0 q5 q1 (q2 h8) hsrc (k4.1) R1 hs1 p1 x1 x2 C1 ho _ rfl
    have hlA : lvA lv o A A2 := ⟨fun j hj => by
      obtain ⟨a1, a2, a3⟩ := l1.1 j hj
      exact ⟨by rw [g2 _ rfl]; exact a1, by rw [g2 _ rfl]; exact a2, by rw [g2 _ rfl]; exact a3⟩, fun i hi ho => by rw [g3 i hi ho]; exact l1.2.1 i hi (by simp), fun k hk2 => by rw [g2 _ rfl]; exact l1.2.2 k hk2⟩
    have hf1 : fr [16, 19, 22, 48, 35, 36, 38, 39, 42, 43, 9] I I2 := (f1.mo rfl).tr (g1.mo rfl)
    have hf2 : fr [11, 12, 13, 1, 2, 3, 5, 17, 15, 23, 24, 18, 25, 26, 27, 28] A A2 := (f2.mo rfl).tr (g2.mo rfl)
    have hbk : A2 18 lv = nI s.2.1 := by rw [g2 _ rfl]; exact b1
    rw [decide_eq_false h8, if_neg h8]
    cases fd with
    | none =>
      exact ⟨I2, P2, A2, N2, e1.trans e2, R2, ⟨d2, hbk, i2⟩, hf1, hf2, hlA⟩
    | some f =>
      exact ⟨I2, P2, A2, N2, e1.trans e2, R2, ⟨d2, hbk, i2⟩, hf1, hf2, hlA⟩
/-- startCommand() at a group -/
theorem tw_startG (d : Nat) (hb : B.1.1 ≤ b) (hZ : okZ Z) (hk : tkR n Z.2.1 Z.2.2 fa) (hR : RT Z n fa lv s I A N) (hs : stI Z s) (hl2 : lv < 4) {t0 tc r : Nat} (hp : I 22 = nI t0) (ht0 : t0 ≤ n) (hpc : pC Z.2.1 100 (pG Z.2.1 100 r) t0 = some tc) (hend : Z.2.1 tc = 1 ∨ Z.2.1 tc = 2 ∨ Z.2.1 tc = 3 ∨ Z.2.1 tc = 4 ∨ Z.2.1 tc = 9 ∨ Z.2.1 tc = 11) {o : Option Nat} {src : List Int32} (hnx : A 16 lv = oI o) (hin : twIn o src A) (ho : o ≠ some (2 * lv + 1)) (h8 : Z.2.1 t0 = 8) (ht1 : t0 + 1 < n) {r1 : sT} {fd : Option (List Int32)} {tg : Option Nat}
    (hu : redF Z.1.1 s.2.1 (wdS Z s) (rdW Z.2.1 (decide (Z.2.1 t0 = 8)) 100 (if Z.2.1 t0 = 8 then (pG Z.2.1 100 r t0).getD 0 else t0)).2 s.1 none none = (0, r1, fd, tg)) :
    ∃ I' P' A' N', ab_cl gG true (d + 5) 74 [.inr (.inr (some b))] (TW B b I P A N) = some (some (.inl (-1)), TW B b I' P' A' N') ∧ RT Z n fa (lv + 1) (r1, s.2) I' A' N' ∧ I' 22 = nI (if Z.2.1 (t0 + 1) = 10 then t0 + 1 + 1 else t0 + 1) ∧ twC lv o src fd tg A' ∧ A' 18 lv = nI s.2.1 ∧
      A' 14 (lv + 1) = A' 15 lv ∧ A' 16 (lv + 1) = A' 15 lv ∧ A' 22 (lv + 1) = 0 ∧ A' 20 (lv + 1) = b01 (decide (Z.2.1 (t0 + 1) = 10)) ∧ A' 19 (lv + 1) = b01 (decide (Z.2.1 (peA Z.2.1 n true 0 (if Z.2.1 (t0 + 1) = 10 then t0 + 1 + 1 else t0 + 1)) = 4)) ∧
      fr [16, 19, 22, 35, 36, 42, 43, 21] I I' ∧ fr [11, 12, 13, 1, 2, 3, 5, 17, 15, 23, 24, 18, 14, 22, 20, 19, 16] A A' ∧ lvA lv none A A' ∧ ∀ j, j ≠ lv + 1 → A' 14 j = A 14 j ∧ A' 22 j = A 22 j ∧ A' 20 j = A 20 j ∧ A' 19 j = A 19 j ∧ A' 16 j = A 16 j := by
  obtain ⟨I1, P1, A1, N1, e1, f1, p1, x1, x2, f2, R1, C1, b1, l1⟩ := sc_red (B := B) (b := b) (P := P) (d + 1) hb hZ hk hR hs (by omega) hp ht0 hpc hend hnx hin ho _ hu.symm
  have hn := hk.2.1
  dsimp only at e1 p1 R1 C1
  rw [if_pos rfl, decide_eq_true h8] at e1
  have p1 : I1 22 = nI t0 := p1
  obtain ⟨h1, h2, h3, h4, h5, h6, h7, h8', h9⟩ := id R1
  -- the group is opened
  have fI : fr [22, 21] I1 (ab_up (ab_up I1 22 (nI (t0 + 1))) 21 (nI (lv + 1))) := (fr.up fr.rf _ rfl).up _ rfl
  have fA : fr [14, 22] A1 (ab_up (ab_up A1 14 (ab_up (A1 14) (lv + 1) (A1 15 lv))) 22 (ab_up (A1 22) (lv + 1) 0)) := (fr.up fr.rf _ rfl).up _ rfl
  have e2 : ab_cl gG true (d + 5) 74 [.inr (.inr (some b))] (TW B b I P A N) = (ab_c0 (ab_cl gG true (d + 4) 73 [.inr (.inr (some b))] (TW B b (ab_up (ab_up I1 22 (nI (t0 + 1))) 21 (nI (lv + 1))) P1 (ab_up (ab_up A1 14 (ab_up (A1 14) (lv + 1) (A1 15 lv))) 22 (ab_up (A1 22) (lv + 1) 0)) N1))).bind fun h26 => some (some (.inl (-1)), h26) := by
    rw [e1, bl_74_51, if_neg (nI_nlt (Nat.le_refl _) (by have := (pC_inv hk.1 ht0 hpc).choose_spec.2.2.2.2; omega)), if_neg (by decide)]
    simp (disch := omega) only [Option.bind_some, qb_c0s, qb_c1s, qb_c2s, qb_c3s, tw_isc, tw_P, ↓reduceIte, tw_i0, tw_i1, tw_i2, tw_i9, tw_i10, tw_i12, tw_i16, tw_i19, tw_i21, tw_i22, tw_i35, tw_i36, tw_i38, tw_i39, tw_i42, tw_i43, tw_i45, tw_i46, tw_i48, tw_r3, tw_r4, tw_r5, tw_r6, tw_r7, tw_r8, tw_r11, tw_r13, tw_r14, tw_r15, tw_r17, tw_r18, tw_r20, tw_r23, tw_r24, tw_r25, tw_r26, tw_r27, tw_r28, tw_r29, tw_r30, tw_r31, tw_r32, tw_r33, tw_r34, tw_r37, tw_r40, tw_r41, tw_r47, tw_w22 hb, tw_w21 hb, tw_a15, tw_s14 hb, tw_s22 hb, ab_up_e, ab_up_n, p1, h6, nI_1, nI_pred]
  have p2 : (ab_up (ab_up I1 22 (nI (t0 + 1))) 21 (nI (lv + 1))) 22 = nI (t0 + 1) := by rw [ab_up_n _ _ (by decide), ab_up_e]
  have p3 : (ab_up (ab_up I1 22 (nI (t0 + 1))) 21 (nI (lv + 1))) 21 = nI (lv + 1) := ab_up_e _ _ _
  have a1 : (ab_up (ab_up A1 14 (ab_up (A1 14) (lv + 1) (A1 15 lv))) 22 (ab_up (A1 22) (lv + 1) 0)) 14 = ab_up (A1 14) (lv + 1) (A1 15 lv) := by rw [ab_up_n _ _ (by decide), ab_up_e]
  have a2 : (ab_up (ab_up A1 14 (ab_up (A1 14) (lv + 1) (A1 15 lv))) 22 (ab_up (A1 22) (lv + 1) 0)) 22 = ab_up (A1 22) (lv + 1) 0 := ab_up_e _ _ _
  generalize ab_up (ab_up I1 22 (nI (t0 + 1))) 21 (nI (lv + 1)) = I2 at fI e2 p2 p3
  generalize ab_up (ab_up A1 14 (ab_up (A1 14) (lv + 1) (A1 15 lv))) 22 (ab_up (A1 22) (lv + 1) 0) = A2 at fA e2 a1 a2
  have hT2 : twTk n Z.2.1 Z.2.2 fa I2 A2 := h1.cg (fI _ rfl) (fA _ rfl) (fA _ rfl) (fA _ rfl) (fA _ rfl)
  obtain ⟨I3, A3, e3, g1, g2, g3, g4, g5, g6, g7⟩ := tw_startP (B := B) (b := b) (P := P1) (N := N1) (d + 3) hb hk.1 hn hT2 p3 (by omega) p2 ht1
  rw [e3, qb_c0s, Option.bind_some] at e2
  have hcm : A3 15 = A1 15 := by rw [g2 _ rfl, fA _ rfl]
  refine ⟨I3, P1, A3, N1, e2, ⟨hT2.cg (g1 _ rfl) (g2 _ rfl) (g2 _ rfl) (g2 _ rfl) (g2 _ rfl), (h2.fr fA rfl).fr g2 rfl, by rw [g1 _ rfl, fI _ rfl]; exact h3, by rw [g1 _ rfl, fI _ rfl]; exact h4, by rw [g1 _ rfl, fI _ rfl]; exact h5, by rw [g1 _ rfl]; exact p3, ⟨by rw [g1 _ rfl, fI _ rfl]; exact h7.1, by rw [g1 _ rfl, fI _ rfl]; exact h7.2⟩, by rw [g1 _ rfl, fI _ rfl]; exact h8', by rw [g1 _ rfl, fI _ rfl]; exact h9⟩, g3, ?_, ?_, ?_, ?_, ?_, g4, g5, ?_, ?_, ?_, ?_⟩
  · obtain ⟨c1, c2, c3, c4⟩ := C1
    refine ⟨by rw [g2 _ rfl, fA _ rfl]; exact c1, c2.cg (fun i _ => by rw [g2 _ rfl, fA _ rfl]) (fun i _ k _ _ => by rw [g2 _ rfl, fA _ rfl]), fun e => by rw [hcm]; exact c3 e, fun f e => ?_⟩
    obtain ⟨c5, c6⟩ := c4 f e
    exact ⟨by rw [hcm]; exact c5, c6.cg (fun i _ => by rw [g2 _ rfl, fA _ rfl]) (fun i _ k _ _ => by rw [g2 _ rfl, fA _ rfl])⟩
  · rw [g2 _ rfl, fA _ rfl]; exact b1
  · rw [g2 _ rfl, a1, ab_up_e, hcm]
  · rw [g6, a1, ab_up_e, hcm]
  · rw [g2 _ rfl, a2, ab_up_e]
  · exact ((f1.mo rfl).tr (fI.mo rfl)).tr (g1.mo rfl)
  · exact ((f2.mo rfl).tr (fA.mo rfl)).tr (g2.mo rfl)
  · refine ⟨fun j hj => ?_, fun i hi h => ?_, fun k hk2 => ?_⟩
    · obtain ⟨q1, q2, q3⟩ := l1.1 j hj
      exact ⟨by rw [g2 _ rfl, fA _ rfl]; exact q1, by rw [g2 _ rfl, fA _ rfl]; exact q2, by rw [g2 _ rfl, fA _ rfl]; exact q3⟩
    · rw [g2 _ rfl, fA _ rfl]; exact l1.2.1 i hi h
    · rw [g2 _ rfl, fA _ rfl]; exact l1.2.2 k hk2
  · intro j hj
    obtain ⟨q1, q2, q3⟩ := g7 j hj
    refine ⟨?_, ?_, ?_, ?_, ?_⟩
    · rw [g2 _ rfl, a1, ab_up_n _ _ hj, f2 _ rfl]
    · rw [g2 _ rfl, a2, ab_up_n _ _ hj, f2 _ rfl]
    · rw [q1, fA _ rfl, f2 _ rfl]
    · rw [q2, fA _ rfl, f2 _ rfl]
    · rw [q3, fA _ rfl, f2 _ rfl]
/-! ===== chars(), addTo, fill ===== -/
theorem ch_lp (d : Nat) {r : sT} (hn : sN r ≤ 12) (hW : twW r A N) : ∀ (k x : Nat) (v : Int32), x + k = 13 → v + nI 0 = (if x = 0 then 0 else nI (sumTo (fun y => (sX r y).length) (min (x - 1) (sN r)))) →
    ab_ev gG true d 42 4 [some (.inr (.inr (some b))), some (.inl v), some (.inl (nI x))] [] (TW B b I P A N) = some (some (.inl (nI (sC r))), TW B b I P A N) := by
  intro k
  induction k with
  | zero =>
    intro x v hx hv
    rw [bl_42_4, if_neg (by rw [nlt_13 (by omega)]; omega)]
    rw [if_neg (by omega), show x - 1 = 12 by omega, Nat.min_eq_right hn, show nI 0 = 0 from rfl, Int32.add_zero] at hv
    rw [hv]
    rfl
  | succ k ih =>
    intro x v hx hv
    rw [show nI 0 = 0 from rfl, Int32.add_zero] at hv
    rw [bl_42_4, if_pos (by rw [nlt_13 (by omega)]; omega), tw_r3, Option.bind_some, Option.bind_some, tw_a1 (by omega), Option.bind_some, hW.1 x (by omega), nI_1]
    by_cases h : x ≤ sN r
    · obtain ⟨-, -, -, h4, -⟩ := hW.2 x h
      rw [decide_eq_true h, if_neg (by decide), tw_r7, Option.bind_some, Option.bind_some, tw_a5 (by omega), Option.bind_some, h4]
      refine ih (x + 1) _ (by omega) ?_
      rw [show nI 0 = 0 from rfl, Int32.add_zero, hv, if_neg (show ¬ x + 1 = 0 by omega), Nat.add_sub_cancel, Nat.min_eq_left h]
      by_cases h0 : x = 0
      · subst h0
        rw [if_pos rfl, Int32.zero_add]
        rfl
      · rw [if_neg h0, Nat.min_eq_left (by omega), nI_add]
        congr 1
        obtain ⟨y, rfl⟩ : ∃ y, x = y + 1 := ⟨x - 1, by omega⟩
        rw [Nat.add_sub_cancel, sumTo]
    · rw [decide_eq_false h, if_pos b01_f]
      refine ih (x + 1) _ (by omega) ?_
      rw [show nI 0 = 0 from rfl, Int32.add_zero, hv, if_neg (by omega), if_neg (by omega), Nat.add_sub_cancel, Nat.min_eq_right (by omega), Nat.min_eq_right (by omega)]
theorem tw_chars (d : Nat) {r : sT} (hn : sN r ≤ 12) (hW : twW r A N) : ab_cl gG true d 42 [.inr (.inr (some b))] (TW B b I P A N) = some (some (.inl (nI (sC r))), TW B b I P A N) := by
  rw [ent_42, bl_42_0]
  exact ch_lp d hn hW 13 0 0 rfl rfl
theorem add_lp (d : Nat) (hb : B.1.1 ≤ b) {x m l : Nat} (hx : x < 13) (hm : A 5 x = nI m) (hl : I 35 = nI l) (hl2 : l ≤ 96) (hml : m + l ≤ 160) (v2 : Int32) : ∀ (s : List Int32) (k : Nat) (f : Nat → Int32), k + s.length = l → rdl (A 25) k s →
    ab_ev gG true (d + 1) 93 14 [some (.inr (.inr (some b))), some (.inl (nI x)), some (.inl v2), some (.inl (nI k))] [] (TW B b I P (ab_up A 6 f) N) = some (some (.inl 1), TW B b I P (ab_up (ab_up A 6 (cpw f (160 * x + m + k) s)) 5 (ab_up (A 5) x (nI (m + l)))) N) := by
  intro s
  induction s with
  | nil =>
    intro k f hk hr
    rw [List.length_nil] at hk
    rw [bl_93_14]
    simp (disch := omega) only [Option.bind_some, qb_c0s, qb_c1s, qb_c2s, qb_c3s, tw_isc, tw_P, ↓reduceIte, tw_i0, tw_i1, tw_i2, tw_i9, tw_i10, tw_i12, tw_i16, tw_i19, tw_i21, tw_i22, tw_i35, tw_i36, tw_i38, tw_i39, tw_i42, tw_i43, tw_i45, tw_i46, tw_i48, tw_r3, tw_r4, tw_r5, tw_r6, tw_r7, tw_r8, tw_r11, tw_r13, tw_r14, tw_r15, tw_r17, tw_r18, tw_r20, tw_r23, tw_r24, tw_r25, tw_r26, tw_r27, tw_r28, tw_r29, tw_r30, tw_r31, tw_r32, tw_r33, tw_r34, tw_r37, tw_r40, tw_r41, tw_r47, tw_a5, ab_up_e, ab_up_n, hl, hm, nI_ltI, nI_add, tw_s5 hb]
    rw [if_neg (by omega)]
    rfl
  | cons c s ih =>
    intro k f hk hr
    rw [List.length_cons] at hk
    have e1 : (160 : Int32) * nI x + nI m + nI k = nI (160 * x + m + k) := by
      rw [show (160 : Int32) * nI x = nI (160 * x) from pk_mul 160 x, nI_add, nI_add]
    rw [bl_93_14]
    simp (disch := omega) only [Option.bind_some, qb_c0s, qb_c1s, qb_c2s, qb_c3s, tw_isc, tw_P, ↓reduceIte, tw_i0, tw_i1, tw_i2, tw_i9, tw_i10, tw_i12, tw_i16, tw_i19, tw_i21, tw_i22, tw_i35, tw_i36, tw_i38, tw_i39, tw_i42, tw_i43, tw_i45, tw_i46, tw_i48, tw_r3, tw_r4, tw_r5, tw_r6, tw_r7, tw_r8, tw_r11, tw_r13, tw_r14, tw_r15, tw_r17, tw_r18, tw_r20, tw_r23, tw_r24, tw_r25, tw_r26, tw_r27, tw_r28, tw_r29, tw_r30, tw_r31, tw_r32, tw_r33, tw_r34, tw_r37, tw_r40, tw_r41, tw_r47, tw_a5, tw_a25, ab_up_e, ab_up_n, hl, hm, nI_ltI, e1, tw_s6 hb, ab_up_u, nI_1]
    rw [if_pos (by omega), hr.hd, ih (k + 1) _ (by omega) hr.tl, cpw, Nat.add_assoc (160 * x + m) k 1]
/-- addTo(x) -/
theorem tw_addTo (d : Nat) (hb : B.1.1 ≤ b) {r : sT} (hr : okT r) (hW : twW r A N) {cl : Nat} (hcl : I 1 = nI cl) (hcl2 : cl ≤ 160) {x : Nat} (hx : x ≤ sN r) {t : List Int32} (ht : I 35 = nI t.length) (ht2 : t.length ≤ 96) (hrt : rdl (A 25) 0 t) (hC : sC r ≤ 160) :
    (cl < sC r + t.length → ab_cl gG true (d + 1) 93 [.inr (.inr (some b)), .inl (nI x)] (TW B b I P A N) = some (some (.inl 0), TW B b I P A N)) ∧
    (sC r + t.length ≤ cl → ∃ A', ab_cl gG true (d + 1) 93 [.inr (.inr (some b)), .inl (nI x)] (TW B b I P A N) = some (some (.inl 1), TW B b I P A' N) ∧ fr [6, 5] A A' ∧ twW (sSet r x (sX r x ++ t)) A' N) := by
  have hn := hr.n
  have e0 : ab_cl gG true (d + 1) 93 [.inr (.inr (some b)), .inl (nI x)] (TW B b I P A N) = (if nI cl < nI (sC r + t.length) then some (some (.inl 0), TW B b I P A N) else ab_ev gG true (d + 1) 93 14 [some (.inr (.inr (some b))), some (.inl (nI x)), some (.inl (nI (sC r))), some (.inl 0)] [] (TW B b I P A N)) := by
    rw [ent_93, bl_93_0, if_pos tw_isc, tw_chars d hn hW, qb_c1s, Option.bind_some]
    dsimp only
    rw [tw_i35, Option.bind_some, ht, tw_i1, Option.bind_some, hcl, nI_add]
  refine ⟨fun h => by rw [e0, if_pos (nI_lt h (by omega))], fun h => ?_⟩
  obtain ⟨k1, k2, k3, k4, k5⟩ := hW.2 x hx
  have hlx := sX_len hx
  have e1 := add_lp (B := B) (b := b) (I := I) (P := P) (A := A) (N := N) d hb (x := x) (m := (sX r x).length) (l := t.length) (by omega) k4 ht ht2 (by omega) (nI (sC r)) t 0 (A 6) (by omega) hrt
  rw [ab_up_s] at e1
  rw [if_neg (nI_nlt h (by omega))] at e0
  refine ⟨_, e0.trans e1, (fr.up fr.rf _ rfl).up _ rfl, ?_⟩
  refine ⟨fun y hy => ?_, fun y hy => ?_⟩
  · simp (disch := omega) only [ab_up_e, ab_up_n]
    exact hW.1 y hy
  · have hy : y ≤ sN r := hy
    obtain ⟨j1, j2, j3, j4, j5⟩ := hW.2 y hy
    have hly := sX_len hy
    simp (disch := omega) only [ab_up_e, ab_up_n]
    refine ⟨j1, j2, j3, ?_, ?_⟩
    · by_cases e : y = x
      · rw [e, ab_up_e, sSet_X, List.length_append]
      · rw [ab_up_n _ _ e, sSet_Xn e]; exact j4
    · by_cases e : y = x
      · rw [e, sSet_X]
        refine rdl.ap (k5.cg (fun k a1 a2 => cpw_o _ _ _ _ (by omega))) ?_
        exact cpw_r _ _ _
      · rw [sSet_Xn e]
        exact j5.cg (fun k a1 a2 => cpw_o _ _ _ _ (by omega))
theorem fil_lp (d : Nat) (hb : B.1.1 ≤ b) {x l : Nat} (hx : x < 10) (hl : I 35 = nI l) (hl2 : l ≤ 96) : ∀ (s : List Int32) (k : Nat) (f : Nat → Int32), k + s.length = l → rdl (A 25) k s →
    ab_ev gG true d 94 8 [some (.inr (.inr (some b))), some (.inl (nI x)), some (.inl (nI k))] [] (TW B b I P (ab_up A 23 f) N) = some (none, TW B b I P (ab_up A 23 (cpw f (160 * x + k) s)) N) := by
  intro s
  induction s with
  | nil =>
    intro k f hk hr
    rw [List.length_nil] at hk
    rw [bl_94_8, tw_i35, Option.bind_some, hl, if_neg (nI_nlt (by omega) (by omega))]
    rfl
  | cons c s ih =>
    intro k f hk hr
    rw [List.length_cons] at hk
    have e1 : (160 : Int32) * nI x + nI k = nI (160 * x + k) := by
      rw [show (160 : Int32) * nI x = nI (160 * x) from pk_mul 160 x, nI_add]
    rw [bl_94_8]
    simp (disch := omega) only [Option.bind_some, qb_c0s, qb_c1s, qb_c2s, qb_c3s, tw_isc, tw_P, ↓reduceIte, tw_i0, tw_i1, tw_i2, tw_i9, tw_i10, tw_i12, tw_i16, tw_i19, tw_i21, tw_i22, tw_i35, tw_i36, tw_i38, tw_i39, tw_i42, tw_i43, tw_i45, tw_i46, tw_i48, tw_r3, tw_r4, tw_r5, tw_r6, tw_r7, tw_r8, tw_r11, tw_r13, tw_r14, tw_r15, tw_r17, tw_r18, tw_r20, tw_r23, tw_r24, tw_r25, tw_r26, tw_r27, tw_r28, tw_r29, tw_r30, tw_r31, tw_r32, tw_r33, tw_r34, tw_r37, tw_r40, tw_r41, tw_r47, tw_a25, ab_up_e, ab_up_n, hl, nI_ltI, e1, tw_s23 hb, ab_up_u, nI_1]
    rw [if_pos (by omega), hr.hd, ih (k + 1) _ (by omega) hr.tl, cpw, Nat.add_assoc (160 * x) k 1]
/-- fill(x) -/
theorem tw_fill (d : Nat) (hb : B.1.1 ≤ b) {x : Nat} (hx : x < 10) {t : List Int32} (ht : I 35 = nI t.length) (ht2 : t.length ≤ 96) (hrt : rdl (A 25) 0 t) :
    ∃ A', ab_cl gG true d 94 [.inr (.inr (some b)), .inl (nI x)] (TW B b I P A N) = some (none, TW B b I P A' N) ∧ fr [23, 24] A A' ∧ twIn (some x) t A' ∧ (∀ i, i ≠ x → A' 24 i = A 24 i) ∧ ∀ k, (k < 160 * x ∨ 160 * x + 160 ≤ k) → A' 23 k = A 23 k := by
  have e1 := fil_lp (B := B) (b := b) (I := I) (P := P) (A := ab_up A 24 (ab_up (A 24) x (nI t.length))) (N := N) d hb hx ht ht2 t 0 (A 23) (by omega) (by rw [ab_up_n _ _ (by decide)]; exact hrt)
  have e4 : ab_up (ab_up A 24 (ab_up (A 24) x (nI t.length))) 23 (A 23) = ab_up A 24 (ab_up (A 24) x (nI t.length)) := by
    have : A 23 = (ab_up A 24 (ab_up (A 24) x (nI t.length))) 23 := by rw [ab_up_n _ _ (by decide)]
    rw [this, ab_up_s]
  rw [e4] at e1
  refine ⟨_, ?_, ((fr.up fr.rf _ rfl).up _ rfl : fr [23, 24] A (ab_up (ab_up A 24 (ab_up (A 24) x (nI t.length))) 23 (cpw (A 23) (160 * x + 0) t))), ⟨hx, ?_, ?_, by omega⟩, fun i hi => ?_, fun k hk => ?_⟩
  · rw [ent_94, bl_94_0, tw_r33, Option.bind_some, tw_i35, Option.bind_some, Option.bind_some, ht, tw_s24 hb hx, Option.bind_some]
    exact e1
  · simp (disch := omega) only [ab_up_e, ab_up_n]
  · simp (disch := omega) only [ab_up_e, ab_up_n]
    exact cpw_r _ _ _
  · simp (disch := omega) only [ab_up_e, ab_up_n]
  · simp (disch := omega) only [ab_up_e, ab_up_n]
    exact cpw_o _ _ _ _ (by omega)
end
