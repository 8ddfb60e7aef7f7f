/-! ===== the twin: startCommand() ===== -/
theorem pW_n {K : Nat → Nat} {n : Nat} (hK : okK K n) {g : Bool} : ∀ (f t w t' w' : Nat), t ≤ n → pW K g f t w = some (t', w') → t' ≤ n := by
  intro f
  induction f with
  | zero => intro t w t' w' _ e; cases e
  | succ f ih =>
    intro t w t' w' ht e
    rw [pW] at e
    split at e
    · rename_i h
      exact ih _ _ _ _ (by have := hK.lt (t := t) (by omega); omega) e
    · split at e
      · split at e
        · rename_i h0
          exact ih _ _ _ _ (by have := hK.lt (t := t + 1) (by omega); omega) e
        · cases e
      · cases e; exact ht
theorem pG_n {K : Nat → Nat} {n : Nat} (hK : okK K n) {F : Nat} : ∀ (r t t' : Nat), pG K F r t = some t' → t' ≤ n := by
  intro r
  cases r with
  | zero => intro t t' e; cases e
  | succ r =>
    intro t t' e
    rw [pG] at e
    cases hp : pL K F (pG K F r) F (t + 1) with
    | none => rw [hp] at e; cases e
    | some t1 =>
      rw [hp] at e
      dsimp only at e
      split at e
      · rename_i h9
        cases e
        have := hK.lt (t := t1) (by omega)
        omega
      · cases e
/-- a command that passes: its words and redirections -/
theorem pC_inv {K : Nat → Nat} {n : Nat} (hK : okK K n) {r t t' : Nat} (ht : t ≤ n) (e : pC K 100 (pG K 100 r) t = some t') : ∃ w', pW K (decide (K t = 8)) 100 (if K t = 8 then (pG K 100 r t).getD 0 else t) 0 = some (t', w') ∧ (K t ≠ 8 → 0 < w') ∧ (K t = 8 → pG K 100 r t = some ((pG K 100 r t).getD 0)) ∧ t < t' ∧ t' ≤ n := by
  unfold pC at e
  by_cases h8 : K t = 8
  · rw [if_pos h8] at e
    rw [if_pos h8, decide_eq_true h8]
    cases hg : pG K 100 r t with
    | none => rw [hg] at e; cases e
    | some t1 =>
      rw [hg] at e
      dsimp only at e
      rw [Option.getD_some]
      cases hp : pW K true 100 t1 0 with
      | none => rw [hp] at e; cases e
      | some x =>
        obtain ⟨t2, w⟩ := x
        rw [hp] at e
        cases e
        have h1 := pG_lt r t t1 hg
        have h2 := (pW_le _ _ _ _ _ hp).1
        exact ⟨w, rfl, fun h => absurd h8 h, fun _ => rfl, by omega, pW_n hK _ _ _ _ _ (pG_n hK r t t1 hg) hp⟩
  · rw [if_neg h8] at e
    rw [if_neg h8, decide_eq_false h8]
    cases hp : pW K false 100 t 0 with
    | none => rw [hp] at e; cases e
    | some x =>
      obtain ⟨t2, w⟩ := x
      rw [hp] at e
      dsimp only at e
      split at e
      · rename_i hw
        cases e
        refine ⟨w, rfl, fun _ => hw, fun h => absurd h h8, ?_, pW_n hK _ _ _ _ _ ht hp⟩
        have hle := (pW_le _ _ _ _ _ hp).1
        rcases Nat.lt_or_ge t t' with h | h
        · exact h
        · exfalso
          have h2 : t' = t := by omega
          subst h2
          rw [show (100 : Nat) = 99 + 1 from rfl, pW] at hp
          split at hp
          · have := (pW_le _ _ _ _ _ hp).1; omega
          · split at hp
            · split at hp
              · have := (pW_le _ _ _ _ _ hp).1; omega
              · cases hp
            · cases hp; omega
      · cases e
/-- a command up to its store -/
def preS (Z : sL) (G : Nat → Option Nat) (H : sG) (t : Nat) (s : sS) (inp : List Int32) : sR × Option Nat :=
  match redF Z.1.1 s.2.1 (wdS Z s) (rdW Z.2.1 (decide (Z.2.1 t = 8)) 100 (if Z.2.1 t = 8 then (G t).getD 0 else t)).2 s.1 none none with
  | (0, r, fd, tg) => (match fd with
    | none => actS Z H (decide (Z.2.1 t = 8)) t (rdW Z.2.1 (decide (Z.2.1 t = 8)) 100 (if Z.2.1 t = 8 then (G t).getD 0 else t)).1 (r, s.2) inp
    | some f => ((actS Z H (decide (Z.2.1 t = 8)) t (rdW Z.2.1 (decide (Z.2.1 t = 8)) 100 (if Z.2.1 t = 8 then (G t).getD 0 else t)).1 (r, s.2) f).1, (actS Z H (decide (Z.2.1 t = 8)) t (rdW Z.2.1 (decide (Z.2.1 t = 8)) 100 (if Z.2.1 t = 8 then (G t).getD 0 else t)).1 (r, s.2) f).2.1, (actS Z H (decide (Z.2.1 t = 8)) t (rdW Z.2.1 (decide (Z.2.1 t = 8)) 100 (if Z.2.1 t = 8 then (G t).getD 0 else t)).1 (r, s.2) f).2.2.1, (actS Z H (decide (Z.2.1 t = 8)) t (rdW Z.2.1 (decide (Z.2.1 t = 8)) 100 (if Z.2.1 t = 8 then (G t).getD 0 else t)).1 (r, s.2) f).2.2.2.1, inp), tg)
  | (1, r, _, tg) => ((false, (r, s.2), 1, [], inp), tg)
  | (_, r, _, tg) => ((true, (r, s.2), 1, [], inp), tg)
theorem sto_fd (Z : sL) (tg : Option Nat) (u : sR) (i : List Int32) : stoS Z tg (u.1, u.2.1, u.2.2.1, u.2.2.2.1, i) = ((stoS Z tg u).1, (stoS Z tg u).2.1, (stoS Z tg u).2.2.1, (stoS Z tg u).2.2.2.1, i) := by
  unfold stoS
  dsimp only
  split
  · rfl
  · cases tg with
    | none => rfl
    | some x =>
      dsimp only
      split <;> rfl
theorem cmd_pre {Z : sL} (hZ : okZ Z) {G : Nat → Option Nat} {H : sG} (t : Nat) {s : sS} (inp : List Int32) (hs : stI Z s) : cmdS Z G H t s inp = stoS Z (preS Z G H t s inp).2 (preS Z G H t s inp).1 := by
  unfold cmdS preS
  rcases hrd : rdW Z.2.1 (decide (Z.2.1 t = 8)) 100 (if Z.2.1 t = 8 then (G t).getD 0 else t) with ⟨ws, rs⟩
  dsimp only
  have h1 := hs.2.2.2.1
  have hz := hZ.2.1
  obtain ⟨k1, k2, k3, k4, k5⟩ := red_k (here := s.2.1) (W := wdS Z s) hZ.1 rs s.1 none none hs.1 (by omega) hs.2.1 ⟨fun f e => (by cases e), fun x e => (by cases e)⟩
  have e0 : redF Z.1.1 s.2.1 (fun w => wx (dg s.2.2.1) false (Z.2.2 w)) rs s.1 none none = redF Z.1.1 s.2.1 (wdS Z s) rs s.1 none none := rfl
  rw [e0]
  generalize redF Z.1.1 s.2.1 (wdS Z s) rs s.1 none none = u at k1 k2 k3 k4 k5 ⊢
  obtain ⟨c, r, fd, tg⟩ := u
  dsimp only at k1 k2 k3 k4 k5
  match c, k5 with
  | 0, _ =>
    cases fd with
    | none => rfl
    | some f =>
      show _ = stoS Z tg (_, _, _, _, inp)
      rw [sto_fd]
      rfl
  | 1, _ =>
    show (false, (r, s.2), 1, [], inp) = stoS Z tg (false, (r, s.2), 1, [], inp)
    unfold stoS
    dsimp only
    rw [if_neg (by decide)]
    cases tg with
    | none => rfl
    | some x =>
      dsimp only
      rw [if_neg (by show ¬ Z.1.2.1 < sC r + 0; omega), List.append_nil]
      have : sSet r x (sX r x) = r := by
        unfold sSet sX
        rw [ab_up_s]
      rw [this]
  | 2, _ =>
    show (true, (r, s.2), 1, [], inp) = stoS Z tg (true, (r, s.2), 1, [], inp)
    unfold stoS
    rw [if_pos rfl]
/-- what starting a command at level lv leaves alone -/
def lvA (lv : Nat) (o : Option Nat) (A A' : Nat → Nat → Int32) : Prop := (∀ j, j ≠ lv → A' 17 j = A 17 j ∧ A' 15 j = A 15 j ∧ A' 18 j = A 18 j) ∧ (∀ i, i ≠ 2 * lv + 1 → o ≠ some i → A' 24 i = A 24 i) ∧ ∀ k, (k < 160 * (2 * lv + 1) ∨ 160 * (2 * lv + 1) + 160 ≤ k) → A' 23 k = A 23 k
section
variable {B : ab_H} {b : Nat} {I : Nat → Int32} {P : Int64} {A : Nat → Nat → Int32} {N : Nat → Int64} {Z : sL} {n : Nat} {fa : Nat → Nat} {lv : Nat} {s : sS}
/-- up to the redirections -/
theorem sc_red (d : Nat) (hb : B.1.1 ≤ b) (hZ : okZ Z) (hk : tkR n Z.2.1 Z.2.2 fa) (hR : RT Z n fa lv s I A N) (hs : stI Z s) (hl2 : lv < 5) {t0 tc r : Nat} (hp : I 22 = nI t0) (ht0 : t0 ≤ n) (hpc : pC Z.2.1 100 (pG Z.2.1 100 r) t0 = some tc) (hend : Z.2.1 tc = 1 ∨ Z.2.1 tc = 2 ∨ Z.2.1 tc = 3 ∨ Z.2.1 tc = 4 ∨ Z.2.1 tc = 9 ∨ Z.2.1 tc = 11) {o : Option Nat} {src : List Int32} (hnx : A 16 lv = oI o) (hin : twIn o src A) (ho : o ≠ some (2 * lv + 1)) (u : Nat × sT × Option (List Int32) × Option Nat) (hu : u = redF Z.1.1 s.2.1 (wdS Z s) (rdW Z.2.1 (decide (Z.2.1 t0 = 8)) 100 (if Z.2.1 t0 = 8 then (pG Z.2.1 100 r t0).getD 0 else t0)).2 s.1 none none) :
    ∃ I' P' A' N', ab_cl gG true (d + 4) 74 [.inr (.inr (some b))] (TW B b I P A N) = (if u.1 = 0 then ab_ev gG true (d + 4) 74 51 [some (.inr (.inr (some b))), some (.inl (b01 (decide (Z.2.1 t0 = 8)))), some (.inl (nI tc)), some (.inl 0), some (.inl (nI tc)), none] [] (TW B b I' P' A' N') else some (some (.inl (rcI u.1)), TW B b I' P' A' N')) ∧
      fr [16, 19, 42, 43, 22, 35, 36] I I' ∧ (I' 22 = if u.1 = 1 then nI tc else nI t0) ∧ I' 35 = 0 ∧ I' 36 = 0 ∧ fr [11, 12, 13, 1, 2, 3, 5, 17, 15, 23, 24, 18] A A' ∧ RT Z n fa lv (u.2.1, s.2) I' A' N' ∧ twC lv o src u.2.2.1 u.2.2.2 A' ∧ A' 18 lv = nI s.2.1 ∧ lvA lv none A A' := by
  obtain ⟨w', q1, q2, q3, q4, q5⟩ := pC_inv hk.1 ht0 hpc
  obtain ⟨h1, h2, h3, h4, h5, h6, h7, h8, h9⟩ := id hR
  have hn := hk.2.1
  have htc := pC_end hk.1 hpc hend
  -- the state after the first rows
  have fI : fr [35, 36] I (ab_up (ab_up I 35 0) 36 0) := (fr.up fr.rf _ rfl).up _ rfl
  have fA : fr [18, 15, 17] A (ab_up (ab_up (ab_up A 18 (ab_up (A 18) lv (nI s.2.1))) 15 (ab_up (A 15) lv (oI o))) 17 (ab_up (A 17) lv (-1))) := ((fr.up fr.rf _ rfl).up _ rfl).up _ rfl
  have hR1 := hR.kp fI fA rfl rfl
  have ep := tw_pe (B := B) (b := b) (P := P) (N := N) (d + 3) hk.1 hn hR1.1 true ht0
  rw [htc] at ep
  have e0 : ab_cl gG true (d + 4) 74 [.inr (.inr (some b))] (TW B b I P A N) = ab_ev gG true (d + 4) 74 51 [some (.inr (.inr (some b))), some (.inl (b01 (decide (Z.2.1 t0 = 8)))), some (.inl (nI tc)), some (.inl 0), some (.inl (nI t0)), none] [] (TW B b (ab_up (ab_up I 35 0) 36 0) P (ab_up (ab_up (ab_up A 18 (ab_up (A 18) lv (nI s.2.1))) 15 (ab_up (A 15) lv (oI o))) 17 (ab_up (A 17) lv (-1))) N) := by
    have hkt := (h1.2 t0 (by omega)).1
    have hk10 := (hk.1 t0).1 (by omega)
    rw [ent_74, bl_74_0]
    simp (disch := omega) only [Option.bind_some, qb_c0s, qb_c1s, qb_c2s, qb_c3s, tw_isc, tw_P, ↓reduceIte, tw_i0, tw_i1, tw_i2, tw_i9, tw_i10, tw_i12, tw_i16, tw_i19, tw_i21, tw_i22, tw_i35, tw_i36, tw_i38, tw_i39, tw_i42, tw_i43, tw_i45, tw_i46, tw_i48, tw_r3, tw_r4, tw_r5, tw_r6, tw_r7, tw_r8, tw_r11, tw_r13, tw_r14, tw_r15, tw_r17, tw_r18, tw_r20, tw_r23, tw_r24, tw_r25, tw_r26, tw_r27, tw_r28, tw_r29, tw_r30, tw_r31, tw_r32, tw_r33, tw_r34, tw_r37, tw_r40, tw_r41, tw_r47, tw_s18 hb, tw_a16, tw_s15 hb, tw_s17 hb, tw_w35 hb, tw_w36 hb, tw_a8, ab_up_e, ab_up_n, h6, h3, hnx, hp, hkt, neq_8]
    by_cases h88 : Z.2.1 t0 = 8
    · rw [if_pos h88, show ab_cl gG true (d + 3) 89 [.inr (.inr (some b)), .inl (nI t0), .inl (1 : Int32)] (TW B b (ab_up (ab_up I 35 0) 36 0) P (ab_up (ab_up (ab_up A 18 (ab_up (A 18) lv (nI s.2.1))) 15 (ab_up (A 15) lv (oI o))) 17 (ab_up (A 17) lv (-1))) N) = _ from ep, qb_c1s, Option.bind_some, decide_eq_true h88]
      dsimp only
      simp (disch := omega) only [Option.bind_some, qb_c0s, qb_c1s, qb_c2s, qb_c3s, tw_isc, tw_P, ↓reduceIte, tw_i0, tw_i1, tw_i2, tw_i9, tw_i10, tw_i12, tw_i16, tw_i19, tw_i21, tw_i22, tw_i35, tw_i36, tw_i38, tw_i39, tw_i42, tw_i43, tw_i45, tw_i46, tw_i48, tw_r3, tw_r4, tw_r5, tw_r6, tw_r7, tw_r8, tw_r11, tw_r13, tw_r14, tw_r15, tw_r17, tw_r18, tw_r20, tw_r23, tw_r24, tw_r25, tw_r26, tw_r27, tw_r28, tw_r29, tw_r30, tw_r31, tw_r32, tw_r33, tw_r34, tw_r37, tw_r40, tw_r41, tw_r47, ab_up_e, ab_up_n, hp]
      rfl
    · rw [if_neg h88, show ab_cl gG true (d + 3) 89 [.inr (.inr (some b)), .inl (nI t0), .inl (1 : Int32)] (TW B b (ab_up (ab_up I 35 0) 36 0) P (ab_up (ab_up (ab_up A 18 (ab_up (A 18) lv (nI s.2.1))) 15 (ab_up (A 15) lv (oI o))) 17 (ab_up (A 17) lv (-1))) N) = _ from ep, qb_c1s, Option.bind_some, decide_eq_false h88]
      dsimp only
      simp (disch := omega) only [Option.bind_some, qb_c0s, qb_c1s, qb_c2s, qb_c3s, tw_isc, tw_P, ↓reduceIte, tw_i0, tw_i1, tw_i2, tw_i9, tw_i10, tw_i12, tw_i16, tw_i19, tw_i21, tw_i22, tw_i35, tw_i36, tw_i38, tw_i39, tw_i42, tw_i43, tw_i45, tw_i46, tw_i48, tw_r3, tw_r4, tw_r5, tw_r6, tw_r7, tw_r8, tw_r11, tw_r13, tw_r14, tw_r15, tw_r17, tw_r18, tw_r20, tw_r23, tw_r24, tw_r25, tw_r26, tw_r27, tw_r28, tw_r29, tw_r30, tw_r31, tw_r32, tw_r33, tw_r34, tw_r37, tw_r40, tw_r41, tw_r47, ab_up_e, ab_up_n, hp]
      rfl
  have p1 : (ab_up (ab_up I 35 0) 36 0) 22 = nI t0 := by simp (disch := omega) only [ab_up_e, ab_up_n]; exact hp
  have p2 : (ab_up (ab_up I 35 0) 36 0) 35 = 0 := by simp (disch := omega) only [ab_up_e, ab_up_n]
  have p3 : (ab_up (ab_up I 35 0) 36 0) 36 = 0 := ab_up_e _ _ _
  have a1 : (ab_up (ab_up (ab_up A 18 (ab_up (A 18) lv (nI s.2.1))) 15 (ab_up (A 15) lv (oI o))) 17 (ab_up (A 17) lv (-1))) 18 = ab_up (A 18) lv (nI s.2.1) := by simp (disch := omega) only [ab_up_e, ab_up_n]
  have a2 : (ab_up (ab_up (ab_up A 18 (ab_up (A 18) lv (nI s.2.1))) 15 (ab_up (A 15) lv (oI o))) 17 (ab_up (A 17) lv (-1))) 15 = ab_up (A 15) lv (oI o) := by simp (disch := omega) only [ab_up_e, ab_up_n]
  have a3 : (ab_up (ab_up (ab_up A 18 (ab_up (A 18) lv (nI s.2.1))) 15 (ab_up (A 15) lv (oI o))) 17 (ab_up (A 17) lv (-1))) 17 = ab_up (A 17) lv (-1) := ab_up_e _ _ _
  generalize ab_up (ab_up I 35 0) 36 0 = I1 at fI hR1 ep e0 p1 p2 p3
  generalize ab_up (ab_up (ab_up A 18 (ab_up (A 18) lv (nI s.2.1))) 15 (ab_up (A 15) lv (oI o))) 17 (ab_up (A 17) lv (-1)) = A1 at fA hR1 ep e0 a1 a2 a3
  have hC1 : twC lv o src none none A1 := ⟨by rw [a3, ab_up_e]; rfl, hin.cg (fun i _ => by rw [fA _ rfl]) (fun i _ k _ _ => by rw [fA _ rfl]), fun _ => by rw [a2, ab_up_e], fun f e => (by cases e)⟩
  -- to the place behind a group
  have e1 : ab_ev gG true (d + 4) 74 51 [some (.inr (.inr (some b))), some (.inl (b01 (decide (Z.2.1 t0 = 8)))), some (.inl (nI tc)), some (.inl 0), some (.inl (nI t0)), none] [] (TW B b I1 P A1 N) = ab_ev gG true (d + 4) 74 51 [some (.inr (.inr (some b))), some (.inl (b01 (decide (Z.2.1 t0 = 8)))), some (.inl (nI tc)), some (.inl 0), some (.inl (nI (if Z.2.1 t0 = 8 then (pG Z.2.1 100 r t0).getD 0 else t0))), none] [] (TW B b I1 P A1 N) := by
    by_cases h88 : Z.2.1 t0 = 8
    · rw [if_pos h88]
      have hle := (pW_le _ _ _ _ _ q1).1
      rw [if_pos h88] at hle
      exact st_grp (d + 3) hk.1 hn hR1.1 h88 (q3 h88) hle q5 _
    · rw [if_neg h88]
  obtain ⟨r0, h0, st0, rn0⟩ := s
  obtain ⟨I', P', A', N', g1, g2, g3, g4, g5, g6, g7⟩ := rl_lp (B := B) (b := b) d hb hZ hk hl2 ho (decide (Z.2.1 t0 = 8)) q5 (b01 (decide (Z.2.1 t0 = 8))) 100 (if Z.2.1 t0 = 8 then (pG Z.2.1 100 r t0).getD 0 else t0) 0 r0 none none I1 P A1 N none q1 hR1 hs hC1 ⟨fun f e => (by cases e), fun x e => (by cases e)⟩
  rw [← hu] at g1 g3 g5 g6
  refine ⟨I', P', A', N', e0.trans (e1.trans g1), (fI.mo rfl).tr (g2.mo rfl), by rw [g3, p1], ?_, ?_, (fA.mo rfl).tr (g4.mo rfl), g5, g6, ?_, ?_⟩
  · rw [g2 _ rfl]; exact p2
  · rw [g2 _ rfl]; exact p3
  · rw [g4 _ rfl, a1, ab_up_e]
  · refine ⟨fun j hj => ⟨?_, ?_, ?_⟩, fun i hi _ => ?_, fun k hk2 => ?_⟩
    · rw [(g7.1 j hj).1, a3, ab_up_n _ _ hj]
    · rw [(g7.1 j hj).2, a2, ab_up_n _ _ hj]
    · rw [g4 _ rfl, a1, ab_up_n _ _ hj]
    · rw [g7.2.1 i hi, fA _ rfl]
    · rw [g7.2.2 k hk2, fA _ rfl]
end
