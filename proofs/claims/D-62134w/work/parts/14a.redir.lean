/-! ===== the twin: redirections ===== -/
/-- the command's input, what is fed, the target, at a level -/
def twC (lv : Nat) (o : Option Nat) (src : List Int32) (fd : Option (List Int32)) (tg : Option Nat) (A : Nat → Nat → Int32) : Prop := A 17 lv = oI tg ∧ twIn o src A ∧ (fd = none → A 15 lv = oI o) ∧ ∀ f, fd = some f → A 15 lv = nI (2 * lv + 1) ∧ twIn (some (2 * lv + 1)) f A
theorem twIn.cg {o : Option Nat} {s : List Int32} {A A' : Nat → Nat → Int32} (h : twIn o s A) (h1 : ∀ i, o = some i → A' 24 i = A 24 i) (h2 : ∀ i, o = some i → ∀ k, 160 * i ≤ k → k < 160 * i + 160 → A' 23 k = A 23 k) : twIn o s A' := by
  unfold twIn at h ⊢
  cases o with
  | none => exact h
  | some i =>
    obtain ⟨q1, q2, q3, q4⟩ := h
    exact ⟨q1, by rw [h1 i rfl]; exact q2, q3.cg (fun k k1 k2 => h2 i rfl k k1 (by omega)), q4⟩
/-- what a redirection at level lv leaves alone -/
def lvR (lv : Nat) (A A' : Nat → Nat → Int32) : Prop := (∀ j, j ≠ lv → A' 17 j = A 17 j ∧ A' 15 j = A 15 j) ∧ (∀ i, i ≠ 2 * lv + 1 → A' 24 i = A 24 i) ∧ ∀ k, (k < 160 * (2 * lv + 1) ∨ 160 * (2 * lv + 1) + 160 ≤ k) → A' 23 k = A 23 k
theorem lvR.rf {lv : Nat} {A : Nat → Nat → Int32} : lvR lv A A := ⟨fun _ _ => ⟨rfl, rfl⟩, fun _ _ => rfl, fun _ _ => rfl⟩
theorem lvR.tr {lv : Nat} {A A' A'' : Nat → Nat → Int32} (h : lvR lv A A') (h' : lvR lv A' A'') : lvR lv A A'' := ⟨fun j hj => ⟨((h'.1 j hj).1).trans (h.1 j hj).1, ((h'.1 j hj).2).trans (h.1 j hj).2⟩, fun i hi => (h'.2.1 i hi).trans (h.2.1 i hi), fun k hk => (h'.2.2 k hk).trans (h.2.2 k hk)⟩
theorem lvR.cg {lv : Nat} {A A' : Nat → Nat → Int32} (h1 : A' 17 = A 17) (h2 : A' 15 = A 15) (h3 : A' 24 = A 24) (h4 : A' 23 = A 23) : lvR lv A A' := ⟨fun _ _ => ⟨by rw [h1], by rw [h2]⟩, fun _ _ => by rw [h3], fun _ _ => by rw [h4]⟩
def rcI (c : Nat) : Int32 := if c = 0 then 0 else if c = 1 then 1 else -9
section
variable {B : ab_H} {b : Nat} {I : Nat → Int32} {P : Int64} {A : Nat → Nat → Int32} {N : Nat → Int64}
theorem cpr_lp (d : Nat) (hb : B.1.1 ≤ b) {n x lv : Nat} (hn : A 5 x = nI n) (hn2 : n ≤ 160) (hx : I 42 = nI x) (hx2 : x < 13) (hl : I 21 = nI lv) (hl2 : lv < 5) (v1 v2 : Int32) : ∀ (s : List Int32) (k : Nat) (f : Nat → Int32), k + s.length = n → rdl (A 6) (160 * x + k) s →
    ab_ev gG true (d + 1) 90 44 [some (.inr (.inr (some b))), some (.inl v1), some (.inl v2), some (.inl (nI (2 * lv + 1))), some (.inl (nI k))] [] (TW B b I P (ab_up A 23 f) N) = some (some (.inl 0), TW B b I P (ab_up (ab_up A 23 (cpw f (160 * (2 * lv + 1) + k) s)) 15 (ab_up (A 15) lv (nI (2 * lv + 1)))) N) := by
  intro s
  induction s with
  | nil =>
    intro k f hk hr
    rw [List.length_nil] at hk
    rw [bl_90_44]
    simp (disch := omega) only [Option.bind_some, qb_c0s, qb_c1s, qb_c2s, qb_c3s, tw_isc, tw_P, ↓reduceIte, tw_i0, tw_i1, tw_i2, tw_i9, tw_i10, tw_i12, tw_i16, tw_i19, tw_i21, tw_i22, tw_i35, tw_i36, tw_i38, tw_i39, tw_i42, tw_i43, tw_i45, tw_i46, tw_i48, tw_r3, tw_r4, tw_r5, tw_r6, tw_r7, tw_r8, tw_r11, tw_r13, tw_r14, tw_r15, tw_r17, tw_r18, tw_r20, tw_r23, tw_r24, tw_r25, tw_r26, tw_r27, tw_r28, tw_r29, tw_r30, tw_r31, tw_r32, tw_r33, tw_r34, tw_r37, tw_r40, tw_r41, tw_r47, tw_a5, ab_up_e, ab_up_n, hx, hn, nI_ltI, hl, tw_s15 hb]
    rw [if_neg (by omega)]
    rfl
  | cons c s ih =>
    intro k f hk hr
    rw [List.length_cons] at hk
    have e1 : (160 : Int32) * nI x + nI k = nI (160 * x + k) := by
      rw [show (160 : Int32) * nI x = nI (160 * x) from pk_mul 160 x, nI_add]
    have e2 : (160 : Int32) * nI (2 * lv + 1) + nI k = nI (160 * (2 * lv + 1) + k) := by
      rw [show (160 : Int32) * nI (2 * lv + 1) = nI (160 * (2 * lv + 1)) from pk_mul 160 _, nI_add]
    rw [bl_90_44]
    simp (disch := omega) only [Option.bind_some, qb_c0s, qb_c1s, qb_c2s, qb_c3s, tw_isc, tw_P, ↓reduceIte, tw_i0, tw_i1, tw_i2, tw_i9, tw_i10, tw_i12, tw_i16, tw_i19, tw_i21, tw_i22, tw_i35, tw_i36, tw_i38, tw_i39, tw_i42, tw_i43, tw_i45, tw_i46, tw_i48, tw_r3, tw_r4, tw_r5, tw_r6, tw_r7, tw_r8, tw_r11, tw_r13, tw_r14, tw_r15, tw_r17, tw_r18, tw_r20, tw_r23, tw_r24, tw_r25, tw_r26, tw_r27, tw_r28, tw_r29, tw_r30, tw_r31, tw_r32, tw_r33, tw_r34, tw_r37, tw_r40, tw_r41, tw_r47, tw_a5, tw_a6, ab_up_e, ab_up_n, hx, hn, nI_ltI, e1, e2, tw_s23 hb, ab_up_u, nI_1]
    rw [if_pos (by omega), hr.hd, ih (k + 1) _ (by omega) (by have := hr.tl; rwa [Nat.add_assoc] at this), cpw, Nat.add_assoc (160 * (2 * lv + 1)) k 1]
/-- from where the path leads on: to or from a file -/
theorem rd_go (d : Nat) (hb : B.1.1 ≤ b) {r : sT} (hr : okT r) (hx160 : ∀ x, x ≤ sN r → (sX r x).length ≤ 160) (hW : twW r A N) {here lv nl op : Nat} (hh : here ≤ sN r) (hl : I 21 = nI lv) (hl2 : lv < 5) (hnl : I 0 = nI nl) (hnl2 : nl ≤ 12) {l : List Int32} (hF : twF (folS r here l) I P) (hop : op = 5 ∨ op = 6 ∨ op = 7) {o : Option Nat} {src : List Int32} {fd : Option (List Int32)} {tg : Option Nat} (hC : twC lv o src fd tg A) (ho : o ≠ some (2 * lv + 1)) (v2 : Int32) :
    ∃ A' N', (if nI op = 5 then (ab_fI (TW B b I P A N) b 742).bind fun x5 => if x5 < 0 then some (some (.inl 1), TW B b I P A N) else (ab_fR (TW B b I P A N) b 704).bind fun o6 => (ab_fI (TW B b I P A N) b 742).bind fun x7 => o6.bind fun a8 => (ab_aI 1 (TW B b I P A N) a8 x7).bind fun x9 => if x9 = 0 then (ab_fI (TW B b I P A N) b 721).bind fun x10 => (ab_fR (TW B b I P A N) b 733).bind fun o11 => (ab_fR (TW B b I P A N) b 707).bind fun o12 => (ab_fI (TW B b I P A N) b 742).bind fun x13 => o12.bind fun a14 => (ab_aI 0 (TW B b I P A N) a14 x13).bind fun x15 => o11.bind fun a16 => (ab_sI 0 (TW B b I P A N) a16 (2 * x10 + 1) x15).bind fun h17 => ab_ev gG true (d + 1) 90 44 [some (.inr (.inr (some b))), some (.inl (nI op)), some (.inl v2), some (.inl (2 * x10 + 1)), some (.inl 0)] [] h17 else some (some (.inl 1), TW B b I P A N)
      else (ab_fI (TW B b I P A N) b 742).bind fun x18 => if x18 < 0 then ab_ev gG true (d + 1) 90 87 [some (.inr (.inr (some b))), some (.inl (nI op)), some (.inl v2), none, none] [] (TW B b I P A N) else (ab_fR (TW B b I P A N) b 704).bind fun o19 => (ab_fI (TW B b I P A N) b 742).bind fun x20 => o19.bind fun a21 => (ab_aI 1 (TW B b I P A N) a21 x20).bind fun x22 => if x22 = 0 then ab_ev gG true (d + 1) 90 87 [some (.inr (.inr (some b))), some (.inl (nI op)), some (.inl v2), none, none] [] (TW B b I P A N) else some (some (.inl 1), TW B b I P A N)) =
      some (some (.inl (rcI (red1 nl here l op r fd tg).1)), TW B b I P A' N') ∧ fr [1, 2, 3, 5, 17, 15, 23, 24] A A' ∧ twW (red1 nl here l op r fd tg).2.1 A' N' ∧ twC lv o src (red1 nl here l op r fd tg).2.2.1 (red1 nl here l op r fd tg).2.2.2 A' ∧ lvR lv A A' := by
  obtain ⟨t1, t2, t3⟩ := hF
  have hn := hr.n
  obtain ⟨f1, f2⟩ := fol_ok hr hh l
  unfold red1
  rcases hF : folS r here l with ⟨nd, vc⟩
  rw [hF] at t1 t2 t3 f1 f2
  dsimp only at t1 t2 t3
  have hop2 : op < 2 ^ 31 := by omega
  -- a target x is there: from place 104 on
  have tgt : ∀ (A1 : Nat → Nat → Int32) (N1 : Nat → Int64) (r1 : sT) (x : Nat), x ≤ sN r1 → sN r1 ≤ 12 → sD r1 x = false → twW r1 A1 N1 → op ≠ 5 → fr [1, 2, 3, 5, 17, 15, 23, 24] A A1 → twC lv o src fd tg A1 → lvR lv A A1 →
      ∃ A', ab_ev gG true (d + 1) 90 104 [some (.inr (.inr (some b))), some (.inl (nI op)), some (.inl v2), none, none] [.inl (nI x)] (TW B b I P A1 N1) = some (some (.inl 0), TW B b I P A' N1) ∧ fr [1, 2, 3, 5, 17, 15, 23, 24] A A' ∧ twW (if op = 7 then sSet r1 x [] else r1) A' N1 ∧ twC lv o src fd (some x) A' ∧ lvR lv A A' := by
    intro A1 N1 r1 x hx hn1 hD hW1 h5 hf hC1 hR
    obtain ⟨k1, k2, k3, k4, k5⟩ := hW1.2 x hx
    have fin : ∀ (A2 : Nat → Nat → Int32), A2 = ab_up (ab_up A1 5 (ab_up (A1 5) x (if op = 7 then 0 else A1 5 x))) 17 (ab_up (A1 17) lv (nI x)) → fr [1, 2, 3, 5, 17, 15, 23, 24] A A2 ∧ twW (if op = 7 then sSet r1 x [] else r1) A2 N1 ∧ twC lv o src fd (some x) A2 ∧ lvR lv A A2 := by
      intro A2 hA2
      have g : ∀ k, k ≠ 5 → k ≠ 17 → A2 k = A1 k := fun k h1 h2 => by rw [hA2, ab_up_n _ _ h2, ab_up_n _ _ h1]
      have g5 : A2 5 = ab_up (A1 5) x (if op = 7 then 0 else A1 5 x) := by rw [hA2, ab_up_n _ _ (by decide), ab_up_e]
      have g17 : A2 17 = ab_up (A1 17) lv (nI x) := by rw [hA2, ab_up_e]
      refine ⟨?_, ?_, ?_, ?_⟩
      · rw [hA2]; exact (hf.up _ rfl).up _ rfl
      · refine ⟨fun y hy => ?_, fun y hy => ?_⟩
        · rw [g _ (by decide) (by decide), hW1.1 y hy]
          by_cases h7 : op = 7
          · rw [if_pos h7]; rfl
          · rw [if_neg h7]
        · have hy1 : y ≤ sN r1 := by
            by_cases h7 : op = 7
            · rw [if_pos h7] at hy; exact hy
            · rw [if_neg h7] at hy; exact hy
          obtain ⟨q1, q2, q3, q4, q5⟩ := hW1.2 y hy1
          rw [g _ (by decide) (by decide), g _ (by decide) (by decide), g5, g 6 (by decide) (by decide)]
          by_cases h7 : op = 7
          · rw [if_pos h7, if_pos h7]
            refine ⟨q1, q2, q3, ?_, ?_⟩
            · by_cases e : y = x
              · rw [e, ab_up_e, sSet_X]; rfl
              · rw [ab_up_n _ _ e, sSet_Xn e]; exact q4
            · by_cases e : y = x
              · rw [e, sSet_X]; exact rdl.nil
              · rw [sSet_Xn e]; exact q5
          · rw [if_neg h7, if_neg h7, ab_up_s]
            exact ⟨q1, q2, q3, q4, q5⟩
      · obtain ⟨c1, c2, c3, c4⟩ := hC1
        refine ⟨by rw [g17, ab_up_e]; rfl, c2.cg (fun i _ => by rw [g _ (by decide) (by decide)]) (fun i _ k _ _ => by rw [g _ (by decide) (by decide)]), fun e => by rw [g _ (by decide) (by decide)]; exact c3 e, fun f e => ?_⟩
        obtain ⟨c5, c6⟩ := c4 f e
        exact ⟨by rw [g _ (by decide) (by decide)]; exact c5, c6.cg (fun i _ => by rw [g _ (by decide) (by decide)]) (fun i _ k _ _ => by rw [g _ (by decide) (by decide)])⟩
      · refine hR.tr ⟨fun j hj => ⟨by rw [g17, ab_up_n _ _ hj], by rw [g _ (by decide) (by decide)]⟩, fun i _ => by rw [g _ (by decide) (by decide)], fun k _ => by rw [g _ (by decide) (by decide)]⟩
    rw [bl_90_104, if_neg (nI_pos (by omega)), tw_r7, Option.bind_some]
    by_cases h7 : op = 7
    · rw [if_pos ((neq_7 hop2).mpr h7), Option.bind_some, tw_s5 hb (by omega), Option.bind_some, tw_r26, Option.bind_some, tw_i21, Option.bind_some, Option.bind_some, hl, tw_s17 hb hl2, Option.bind_some, ab_up_n _ _ (by decide)]
      exact ⟨_, rfl, fin _ (by rw [if_pos h7])⟩
    · rw [if_neg (fun e => h7 ((neq_7 hop2).mp e)), Option.bind_some, Option.bind_some, tw_a5 (by omega), Option.bind_some, Option.bind_some, tw_s5 hb (by omega), Option.bind_some, tw_r26, Option.bind_some, tw_i21, Option.bind_some, Option.bind_some, hl, tw_s17 hb hl2, Option.bind_some, ab_up_n _ _ (by decide)]
      exact ⟨_, rfl, fin _ (by rw [if_neg h7])⟩
  match nd, vc, t1, t2, t3, f1, f2 with
  | some x, vc, t1, t2, t3, f1, f2 =>
    have hx := f1 x rfl
    obtain ⟨k1, k2, k3, k4, k5⟩ := hW.2 x hx
    have t1 : I 42 = nI x := t1
    dsimp only
    have hx0 : ¬ nI x < 0 := nI_pos (by omega)
    simp (disch := omega) only [tw_i42, Option.bind_some, t1, hx0, ↓reduceIte, tw_r4, tw_a2, k1]
    cases hD : sD r x with
    | true =>
      simp only [b01_t, show ¬ ((1 : Int32) = 0) by decide, ↓reduceIte, ite_self]
      exact ⟨A, N, rfl, fr.rf, hW, hC, lvR.rf⟩
    | false =>
      simp only [b01_f, ↓reduceIte, Bool.false_eq_true]
      by_cases h5 : op = 5
      · rw [if_pos ((neq_5 hop2).mpr h5), if_pos h5]
        have e2 : (2 : Int32) * nI lv + 1 = nI (2 * lv + 1) := by rw [show (2 : Int32) * nI lv = nI (2 * lv) from pk_mul 2 lv, nI_1]
        rw [tw_i21, Option.bind_some, hl, tw_r33, Option.bind_some, tw_r7, Option.bind_some, Option.bind_some, tw_a5 (by omega), Option.bind_some, Option.bind_some, e2, tw_s24 hb (by omega), Option.bind_some, k4]
        have e3 := cpr_lp (B := B) (b := b) (I := I) (P := P) (N := N) (A := ab_up A 24 (ab_up (A 24) (2 * lv + 1) (nI (sX r x).length))) d hb (n := (sX r x).length) (x := x) (lv := lv) (by rw [ab_up_n _ _ (by decide)]; exact k4) (hx160 x hx) t1 (by omega) hl hl2 (nI op) v2 (sX r x) 0 (A 23) (by omega) (by rw [ab_up_n _ _ (by decide)]; exact k5)
        have e4 : ab_up (ab_up A 24 (ab_up (A 24) (2 * lv + 1) (nI (sX r x).length))) 23 (A 23) = ab_up A 24 (ab_up (A 24) (2 * lv + 1) (nI (sX r x).length)) := by
          have : A 23 = (ab_up A 24 (ab_up (A 24) (2 * lv + 1) (nI (sX r x).length))) 23 := by rw [ab_up_n _ _ (by decide)]
          rw [this, ab_up_s]
        rw [e4] at e3
        refine ⟨_, N, e3, ((fr.up fr.rf _ rfl).up _ rfl).up _ rfl, hW.fr (S := [24, 23, 15]) (((fr.up fr.rf _ rfl).up _ rfl).up _ rfl) rfl, ?_, ?_⟩
        · obtain ⟨c1, c2, c3, c4⟩ := hC
          refine ⟨?_, ?_, fun e => (by cases e), fun f e => ?_⟩
          · simp (disch := omega) only [ab_up_e, ab_up_n]; exact c1
          · refine c2.cg (fun i hi => ?_) (fun i hi k h1 h2 => ?_)
            · have : i ≠ 2 * lv + 1 := fun e => ho (by rw [hi, e])
              simp (disch := omega) only [ab_up_e, ab_up_n]
            · have : i ≠ 2 * lv + 1 := fun e => ho (by rw [hi, e])
              simp (disch := omega) only [ab_up_e, ab_up_n]
              have hlen := hx160 x hx
              rw [cpw_o _ _ _ _ (by omega)]
          · cases e
            refine ⟨?_, ?_, ?_, ?_, hx160 x hx⟩
            · simp (disch := omega) only [ab_up_e, ab_up_n]
            · omega
            · simp (disch := omega) only [ab_up_e, ab_up_n]
            · simp (disch := omega) only [ab_up_e, ab_up_n]
              exact cpw_r _ _ _
        · refine ⟨fun j hj => ⟨?_, ?_⟩, fun i hi => ?_, fun k hk => ?_⟩
          · simp (disch := omega) only [ab_up_e, ab_up_n]
          · simp (disch := omega) only [ab_up_e, ab_up_n]
          · simp (disch := omega) only [ab_up_e, ab_up_n]
          · simp (disch := omega) only [ab_up_e, ab_up_n]
            have hlen := hx160 x hx
            rw [cpw_o _ _ _ _ (by omega)]
      · rw [if_neg (fun e => h5 ((neq_5 hop2).mp e)), if_neg h5]
        obtain ⟨A', e1, e2, e3, e4, e5⟩ := tgt A N r x hx hn hD hW h5 fr.rf hC lvR.rf
        refine ⟨A', N, ?_, e2, e3, e4, e5⟩
        rw [bl_90_87, tw_i42, Option.bind_some, t1, if_neg (nI_pos (by omega)), Option.bind_some, if_neg (nI_pos (by omega)), Option.bind_some]
        exact e1
  | none, none, t1, t2, t3, f1, f2 =>
    have t1 : I 42 = -1 := t1
    have t2 : I 43 = -1 := t2
    dsimp only
    simp only [tw_i42, Option.bind_some, t1, show (-1 : Int32) < 0 by decide, ↓reduceIte, bl_90_87, tw_i43, t2, ite_self]
    exact ⟨A, N, rfl, fr.rf, hW, hC, lvR.rf⟩
  | none, some (dd, m), t1, t2, t3, f1, f2 =>
    have t1 : I 42 = -1 := t1
    have t2 : I 43 = nI dd := t2
    obtain ⟨q1, q2, q3, q4, q5⟩ := f2 dd m rfl
    dsimp only
    simp only [tw_i42, Option.bind_some, t1, show (-1 : Int32) < 0 by decide, ↓reduceIte]
    by_cases h5 : op = 5
    · rw [if_pos ((neq_5 hop2).mpr h5), if_pos h5]
      exact ⟨A, N, rfl, fr.rf, hW, hC, lvR.rf⟩
    · obtain ⟨m1, m2⟩ := tw_made (B := B) (b := b) (P := P) (N := N) d hb hr hW hnl hnl2 false t2
      rw [if_neg (fun e => h5 ((neq_5 hop2).mp e)), if_neg h5, bl_90_87, tw_i42, Option.bind_some, t1, if_pos (by decide), tw_i43, Option.bind_some, t2, if_neg (nI_pos (by omega)), Option.bind_some, if_pos (by decide), if_pos tw_isc]
      by_cases hf : nl ≤ sN r
      · rw [if_pos hf, show ab_cl gG true d 107 [.inr (.inr (some b)), .inl (0 : Int32)] (TW B b I P A N) = _ from m1 hf, qb_c1s, Option.bind_some, bl_90_104, if_pos (show (-1 : Int32) < 0 by decide)]
        exact ⟨A, N, rfl, fr.rf, hW, hC, lvR.rf⟩
      · obtain ⟨A2, N2, e2, g1, g2⟩ := m2 (by omega)
        have hc : twC lv o src fd tg A2 := by
          obtain ⟨c1, c2, c3, c4⟩ := hC
          refine ⟨by rw [g1 _ rfl]; exact c1, c2.cg (fun i _ => by rw [g1 _ rfl]) (fun i _ k _ _ => by rw [g1 _ rfl]), fun e => by rw [g1 _ rfl]; exact c3 e, fun f e => ?_⟩
          obtain ⟨c5, c6⟩ := c4 f e
          exact ⟨by rw [g1 _ rfl]; exact c5, c6.cg (fun i _ => by rw [g1 _ rfl]) (fun i _ k _ _ => by rw [g1 _ rfl])⟩
        rw [t3 dd m rfl] at g2
        have h12 : sN r + 1 ≤ 12 := by omega
        obtain ⟨A', e1, e3, e4, e5, e6⟩ := tgt A2 N2 (sNew r false dd m) (sN r + 1) (Nat.le_refl _) h12 (ab_up_e _ _ _) g2 h5 (g1.mo rfl) hc (lvR.cg (g1 _ rfl) (g1 _ rfl) (g1 _ rfl) (g1 _ rfl))
        rw [if_neg hf, show ab_cl gG true d 107 [.inr (.inr (some b)), .inl (0 : Int32)] (TW B b I P A N) = _ from e2, qb_c1s, Option.bind_some]
        refine ⟨A', N2, e1, e3, ?_, e5, e6⟩
        by_cases h7 : op = 7
        · rw [if_pos h7] at e4
          have hs : sSet (sNew r false dd m) (sN r + 1) [] = sNew r false dd m := by
            unfold sSet sNew
            dsimp only
            rw [ab_up_u]
          rw [hs] at e4
          exact e4
        · rw [if_neg h7] at e4
          exact e4
end
