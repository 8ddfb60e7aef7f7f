/-! ===== the twin: a command is started ===== -/
/-- the twin while a line is run: tokens, tree, here, status, count, level, limits -/
def RT (Z : sL) (n : Nat) (fa : Nat → Nat) (lv : Nat) (s : sS) (I : Nat → Int32) (A : Nat → Nat → Int32) (N : Nat → Int64) : Prop := twTk n Z.2.1 Z.2.2 fa I A ∧ twW s.1 A N ∧ I 9 = nI s.2.1 ∧ I 45 = nI s.2.2.1 ∧ I 48 = nI s.2.2.2 ∧ I 21 = nI lv ∧ (I 0 = nI Z.1.1 ∧ I 10 = 0) ∧ I 1 = nI Z.1.2.1 ∧ I 2 = nI Z.1.2.2
theorem stI.x {Z : sL} (hZ : okZ Z) {s : sS} (h : stI Z s) : ∀ x, x ≤ sN s.1 → (sX s.1 x).length ≤ 160 := fun x hx => by
  have := sX_len hx
  have := h.2.2.2.1
  have := hZ.2.1
  omega
theorem stI.w {Z : sL} (hZ : okZ Z) {s : sS} (h : stI Z s) : okW s.1 s.2.1 := ⟨h.1, h.2.1, h.2.2.1, h.x hZ⟩
/-- letters of the word that token w is -/
def wdS (Z : sL) (s : sS) (w : Nat) : List Int32 := wx (dg s.2.2.1) false (Z.2.2 w)
section
variable {B : ab_H} {b : Nat} {I : Nat → Int32} {P : Int64} {A : Nat → Nat → Int32} {N : Nat → Int64} {Z : sL} {n : Nat} {fa : Nat → Nat} {lv : Nat} {s : sS}
theorem RT.kp (h : RT Z n fa lv s I A N) {I' : Nat → Int32} {A' : Nat → Nat → Int32} {S T : List Nat} (hI : fr S I I') (hA : fr T A A') (hS : S.all (fun k => !([12, 9, 45, 48, 21, 0, 1, 2, 10] : List Nat).contains k) = true) (hT : T.all (fun k => !([8, 9, 10, 7, 1, 2, 3, 5, 6] : List Nat).contains k) = true) : RT Z n fa lv s I' A' N := by
  have eI : ∀ k, ([12, 9, 45, 48, 21, 0, 1, 2, 10] : List Nat).contains k = true → I' k = I k := fun k hk => hI k (by
    cases hc : S.contains k with
    | false => rfl
    | true =>
      rw [List.all_eq_true] at hS
      have := hS k (List.contains_iff_mem.mp hc)
      rw [hk] at this
      cases this)
  have eA : ∀ k, ([8, 9, 10, 7, 1, 2, 3, 5, 6] : List Nat).contains k = true → A' k = A k := fun k hk => hA k (by
    cases hc : T.contains k with
    | false => rfl
    | true =>
      rw [List.all_eq_true] at hT
      have := hT k (List.contains_iff_mem.mp hc)
      rw [hk] at this
      cases this)
  obtain ⟨h1, h2, h3, h4, h5, h6, h7, h8, h9⟩ := h
  refine ⟨h1.cg (eI _ rfl) (eA _ rfl) (eA _ rfl) (eA _ rfl) (eA _ rfl), ?_, by rw [eI _ rfl]; exact h3, by rw [eI _ rfl]; exact h4, by rw [eI _ rfl]; exact h5, by rw [eI _ rfl]; exact h6, ⟨by rw [eI _ rfl]; exact h7.1, by rw [eI _ rfl]; exact h7.2⟩, by rw [eI _ rfl]; exact h8, by rw [eI _ rfl]; exact h9⟩
  refine ⟨fun x hx => ?_, fun x hx => ?_⟩
  · rw [eA _ rfl]; exact h2.1 x hx
  · rw [eA _ rfl, eA _ rfl, eA _ rfl, eA _ rfl]; exact h2.2 x hx
/-- another tree -/
theorem RT.tt {r : sT} (h : RT Z n fa lv s I A N) {I' : Nat → Int32} {A' : Nat → Nat → Int32} {N' : Nat → Int64} {S T : List Nat} (hI : fr S I I') (hA : fr T A A') (hS : S.all (fun k => !([12, 9, 45, 48, 21, 0, 1, 2, 10] : List Nat).contains k) = true) (hT : T.all (fun k => !([8, 9, 10, 7] : List Nat).contains k) = true) (hW : twW r A' N') : RT Z n fa lv (r, s.2) I' A' N' := by
  have eI : ∀ k, ([12, 9, 45, 48, 21, 0, 1, 2, 10] : List Nat).contains k = true → I' k = I k := fun k hk => hI k (by
    cases hc : S.contains k with
    | false => rfl
    | true =>
      rw [List.all_eq_true] at hS
      have := hS k (List.contains_iff_mem.mp hc)
      rw [hk] at this
      cases this)
  have eA : ∀ k, ([8, 9, 10, 7] : List Nat).contains k = true → A' k = A k := fun k hk => hA k (by
    cases hc : T.contains k with
    | false => rfl
    | true =>
      rw [List.all_eq_true] at hT
      have := hT k (List.contains_iff_mem.mp hc)
      rw [hk] at this
      cases this)
  obtain ⟨h1, h2, h3, h4, h5, h6, h7, h8, h9⟩ := h
  exact ⟨h1.cg (eI _ rfl) (eA _ rfl) (eA _ rfl) (eA _ rfl) (eA _ rfl), hW, by rw [eI _ rfl]; exact h3, by rw [eI _ rfl]; exact h4, by rw [eI _ rfl]; exact h5, by rw [eI _ rfl]; exact h6, ⟨by rw [eI _ rfl]; exact h7.1, by rw [eI _ rfl]; exact h7.2⟩, by rw [eI _ rfl]; exact h8, by rw [eI _ rfl]; exact h9⟩
theorem wd_ok (hZ : okZ Z) (hs : stI Z s) (w : Nat) : okl (wdS Z s w) := by
  have := hs.2.2.2.2
  exact wx_l (dg_l (by omega)) _ _ _ (Nat.le_refl _) (hZ.2.2.2 w)
/-- redirect(op, t) -/
theorem tw_redirect (d : Nat) (hb : B.1.1 ≤ b) (hZ : okZ Z) (hk : tkR n Z.2.1 Z.2.2 fa) (hR : RT Z n fa lv s I A N) (hs : stI Z s) (hl2 : lv < 5) {t op : Nat} (ht0 : Z.2.1 t = 0) (hop : op = 5 ∨ op = 6 ∨ op = 7) {o : Option Nat} {src : List Int32} {fd : Option (List Int32)} {tg : Option Nat} (hC : twC lv o src fd tg A) (ho : o ≠ some (2 * lv + 1)) :
    ∃ I' P' A' N', ab_cl gG true (d + 3) 90 [.inr (.inr (some b)), .inl (nI op), .inl (nI t)] (TW B b I P A N) = some (some (.inl (rcI (red1 Z.1.1 s.2.1 (wdS Z s t) op s.1 fd tg).1)), TW B b I' P' A' N') ∧ fr [16, 19, 42, 43] I I' ∧ fr [11, 12, 13, 1, 2, 3, 5, 17, 15, 23, 24] A A' ∧ RT Z n fa lv ((red1 Z.1.1 s.2.1 (wdS Z s t) op s.1 fd tg).2.1, s.2) I' A' N' ∧ twC lv o src (red1 Z.1.1 s.2.1 (wdS Z s t) op s.1 fd tg).2.2.1 (red1 Z.1.1 s.2.1 (wdS Z s t) op s.1 fd tg).2.2.2 A' ∧ lvR lv A A' := by
  obtain ⟨h1, h2, h3, h4, h5, h6, h7, h8, h9⟩ := id hR
  have htn : t < n := hk.1.lt (by omega)
  have hst := hs.2.2.2.2
  obtain ⟨-, k2⟩ := h1.2 t htn
  obtain ⟨k3, k4, k5⟩ := k2 ht0
  have k6 := hk.2.2.2.1 t ht0
  obtain ⟨I1, A1, e1, f1, f2, g1, g2, g3, g4, g5, -, -⟩ := tw_expand (B := B) (b := b) (I := ab_up (ab_up I 16 0) 19 0) (P := P) (A := A) (N := N) (t := t) (a := fa t) (e := fa t + (Z.2.2 t).length) (v := s.2.2.1) (w := 0) (n := 0) (s := Z.2.2 t) d hb (by have := hk.2.1; omega) k3 k4 k6 rfl k5 (by omega) (by simp (disch := omega) only [ab_up_e, ab_up_n]; exact h4) (by simp (disch := omega) only [ab_up_e, ab_up_n]; rfl) (by omega) (ab_up_e _ _ _) (by omega)
  rw [Nat.zero_add] at g2 g4
  have f0 : fr [16, 19, 42, 43] I I1 := ((fr.up fr.rf _ rfl).up _ rfl : fr [16, 19, 42, 43] I (ab_up (ab_up I 16 0) 19 0)).tr (f1.mo rfl)
  have hwl := wx_len (dg s.2.2.1) (dg_len s.2.2.1).2 _ false (Z.2.2 t) (Nat.le_refl _)
  obtain ⟨I2, P2, e2, f3, t1⟩ := tw_follow (B := B) (b := b) (I := I1) (P := P) (A := A1) (N := N) d hb hs.1 (h2.fr f2 rfl) hs.2.1 (by rw [f0 _ rfl]; exact h3) (w := 0) (a := 0) (l := wdS Z s t) (by omega) g3 (by rw [Nat.zero_add]; exact g4) g5 (by unfold wdS; omega) (wd_ok hZ hs t)
  have f4 := f0.tr (f3.mo rfl)
  have hC1 : twC lv o src fd tg A1 := by
    obtain ⟨c1, c2, c3, c4⟩ := hC
    refine ⟨by rw [f2 _ rfl]; exact c1, c2.cg (fun i _ => by rw [f2 _ rfl]) (fun i _ k _ _ => by rw [f2 _ rfl]), fun e => by rw [f2 _ rfl]; exact c3 e, fun f e => ?_⟩
    obtain ⟨c5, c6⟩ := c4 f e
    exact ⟨by rw [f2 _ rfl]; exact c5, c6.cg (fun i _ => by rw [f2 _ rfl]) (fun i _ k _ _ => by rw [f2 _ rfl])⟩
  obtain ⟨A', N', e3, f5, w5, c5, r5⟩ := rd_go (B := B) (b := b) (I := I2) (P := P2) (A := A1) (N := N) (d + 2) hb hs.1 (hs.x hZ) (h2.fr f2 rfl) hs.2.1 (lv := lv) (nl := Z.1.1) (op := op) (by rw [f4 _ rfl]; exact h6) hl2 (by rw [f4 _ rfl]; exact h7.1) hZ.1 t1 hop hC1 ho (nI t)
  have f6 : fr [11, 12, 13, 1, 2, 3, 5, 17, 15, 23, 24] A A' := (f2.mo rfl).tr (f5.mo rfl)
  refine ⟨I2, P2, A', N', ?_, f4, f6, hR.tt f4 f6 rfl rfl w5, c5, (lvR.cg (f2 _ rfl) (f2 _ rfl) (f2 _ rfl) (f2 _ rfl)).tr r5⟩
  rw [ent_90, bl_90_0, tw_w16 hb, Option.bind_some, tw_w19 hb, Option.bind_some, if_pos tw_isc, e1, qb_c0s, Option.bind_some, if_pos tw_isc, show ab_cl gG true (d + 2) 106 [.inr (.inr (some b)), .inl (0 : Int32)] (TW B b I1 P A1 N) = _ from e2, qb_c0s, Option.bind_some]
  exact e3
theorem st_u5 (d : Nat) (v1 v2 v3 v4 : Int32) (u5 u5' : Option ab_V) (h : ab_H) : ab_ev gG true (d + 1) 74 51 [some (.inr (.inr (some b))), some (.inl v1), some (.inl v2), some (.inl v3), some (.inl v4), u5] [] h = ab_ev gG true (d + 1) 74 51 [some (.inr (.inr (some b))), some (.inl v1), some (.inl v2), some (.inl v3), some (.inl v4), u5'] [] h := by
  rw [bl_74_51, bl_74_51]
/-- a token outside of groups that is no redirection and no bracket -/
theorem st_word (d : Nat) (hn : n ≤ 64) (hT : twTk n Z.2.1 Z.2.2 fa I A) {t tc : Nat} (ht : t < tc) (htc : tc ≤ n) (hr : redK (Z.2.1 t) = false) (h8 : Z.2.1 t ≠ 8) (h9 : Z.2.1 t ≠ 9) (h10 : Z.2.1 t ≤ 10) (v1 : Int32) (u5 : Option ab_V) : ab_ev gG true (d + 1) 74 51 [some (.inr (.inr (some b))), some (.inl v1), some (.inl (nI tc)), some (.inl 0), some (.inl (nI t)), u5] [] (TW B b I P A N) = ab_ev gG true (d + 1) 74 51 [some (.inr (.inr (some b))), some (.inl v1), some (.inl (nI tc)), some (.inl 0), some (.inl (nI (t + 1))), none] [] (TW B b I P A N) := by
  have hk := (hT.2 t (by omega)).1
  rw [bl_74_51, if_pos (nI_lt ht (by omega)), tw_r13, Option.bind_some, Option.bind_some, tw_a8 (by omega), Option.bind_some, hk, if_neg (fun e => h8 ((neq_8 (by omega)).mp e)), Option.bind_some, Option.bind_some, tw_a8 (by omega), Option.bind_some, hk, if_neg (fun e => h9 ((neq_9 (by omega)).mp e)), bl_74_76, if_pos rfl, tw_r13, Option.bind_some, Option.bind_some, tw_a8 (by omega), Option.bind_some, hk, tw_redir _ (by omega), qb_c1s, Option.bind_some, hr, nI_1]
  rfl
/-- the redirections, from t on -/
theorem rl_lp (d : Nat) (hb : B.1.1 ≤ b) (hZ : okZ Z) (hk : tkR n Z.2.1 Z.2.2 fa) (hl2 : lv < 5) {o : Option Nat} {src : List Int32} (ho : o ≠ some (2 * lv + 1)) (g : Bool) {tc w' : Nat} (htc : tc ≤ n) (v1 : Int32) {h0 st0 rn0 : Nat} : ∀ (f t w : Nat) (r : sT) (fd : Option (List Int32)) (tg : Option Nat) (I : Nat → Int32) (P : Int64) (A : Nat → Nat → Int32) (N : Nat → Int64) (u5 : Option ab_V), pW Z.2.1 g f t w = some (tc, w') → RT Z n fa lv (r, h0, st0, rn0) I A N → stI Z (r, h0, st0, rn0) → twC lv o src fd tg A → rdI r fd tg →
    ∃ I' P' A' N', ab_ev gG true (d + 4) 74 51 [some (.inr (.inr (some b))), some (.inl v1), some (.inl (nI tc)), some (.inl 0), some (.inl (nI t)), u5] [] (TW B b I P A N) = (if (redF Z.1.1 h0 (wdS Z (r, h0, st0, rn0)) (rdW Z.2.1 g f t).2 r fd tg).1 = 0 then ab_ev gG true (d + 4) 74 51 [some (.inr (.inr (some b))), some (.inl v1), some (.inl (nI tc)), some (.inl 0), some (.inl (nI tc)), none] [] (TW B b I' P' A' N') else some (some (.inl (rcI (redF Z.1.1 h0 (wdS Z (r, h0, st0, rn0)) (rdW Z.2.1 g f t).2 r fd tg).1)), TW B b I' P' A' N')) ∧
      fr [16, 19, 42, 43, 22] I I' ∧ (I' 22 = if (redF Z.1.1 h0 (wdS Z (r, h0, st0, rn0)) (rdW Z.2.1 g f t).2 r fd tg).1 = 1 then nI tc else I 22) ∧ fr [11, 12, 13, 1, 2, 3, 5, 17, 15, 23, 24] A A' ∧ RT Z n fa lv ((redF Z.1.1 h0 (wdS Z (r, h0, st0, rn0)) (rdW Z.2.1 g f t).2 r fd tg).2.1, h0, st0, rn0) I' A' N' ∧ twC lv o src (redF Z.1.1 h0 (wdS Z (r, h0, st0, rn0)) (rdW Z.2.1 g f t).2 r fd tg).2.2.1 (redF Z.1.1 h0 (wdS Z (r, h0, st0, rn0)) (rdW Z.2.1 g f t).2 r fd tg).2.2.2 A' ∧ lvR lv A A' := by
  have hn := hk.2.1
  intro f
  induction f with
  | zero => intro t w r fd tg I P A N u5 e; cases e
  | succ f ih =>
    intro t w r fd tg I P A N u5 e hR hs hC hI
    rw [pW] at e
    rw [rdW]
    by_cases hw : Z.2.1 t = 0 ∧ g = false
    · rw [if_pos hw] at e
      rw [if_pos hw]
      have hle := (pW_le _ _ _ _ _ e).1
      rw [st_word (d + 3) hn hR.1 (by omega) htc (by rw [hw.1]; rfl) (by omega) (by omega) (by omega)]
      exact ih (t + 1) (w + 1) r fd tg I P A N none e hR hs hC hI
    · rw [if_neg hw] at e
      rw [if_neg hw]
      by_cases hr : redK (Z.2.1 t) = true
      · rw [if_pos hr] at e
        rw [if_pos hr]
        by_cases h0t : Z.2.1 (t + 1) = 0
        · rw [if_pos h0t] at e
          have hle := (pW_le _ _ _ _ _ e).1
          have hop := (redK_iff _).mp hr
          obtain ⟨I1, P1, A1, N1, e1, f1, f2, R1, C1, L1⟩ := tw_redirect (B := B) (b := b) (P := P) d hb hZ hk hR hs hl2 (t := t + 1) h0t hop hC ho
          have hkt := (hR.1.2 t (by omega)).1
          have hst : ab_ev gG true (d + 4) 74 51 [some (.inr (.inr (some b))), some (.inl v1), some (.inl (nI tc)), some (.inl 0), some (.inl (nI t)), u5] [] (TW B b I P A N) = (if rcI (red1 Z.1.1 h0 (wdS Z (r, h0, st0, rn0) (t + 1)) (Z.2.1 t) r fd tg).1 = 0 then ab_ev gG true (d + 4) 74 51 [some (.inr (.inr (some b))), some (.inl v1), some (.inl (nI tc)), some (.inl 0), some (.inl (nI (t + 1))), some (.inl (rcI (red1 Z.1.1 h0 (wdS Z (r, h0, st0, rn0) (t + 1)) (Z.2.1 t) r fd tg).1))] [] (TW B b I1 P1 A1 N1) else if 0 < rcI (red1 Z.1.1 h0 (wdS Z (r, h0, st0, rn0) (t + 1)) (Z.2.1 t) r fd tg).1 then some (some (.inl (rcI (red1 Z.1.1 h0 (wdS Z (r, h0, st0, rn0) (t + 1)) (Z.2.1 t) r fd tg).1)), TW B b (ab_up I1 22 (nI tc)) P1 A1 N1) else some (some (.inl (rcI (red1 Z.1.1 h0 (wdS Z (r, h0, st0, rn0) (t + 1)) (Z.2.1 t) r fd tg).1)), TW B b (ab_up I1 22 (I1 22)) P1 A1 N1)) := by
            rw [bl_74_51, if_pos (nI_lt (by omega) (by omega)), tw_r13, Option.bind_some, Option.bind_some, tw_a8 (by omega), Option.bind_some, hkt, if_neg (fun e => by have := (neq_8 (by omega)).mp e; omega), Option.bind_some, Option.bind_some, tw_a8 (by omega), Option.bind_some, hkt, if_neg (fun e => by have := (neq_9 (by omega)).mp e; omega), bl_74_76, if_pos rfl, tw_r13, Option.bind_some, Option.bind_some, tw_a8 (by omega), Option.bind_some, hkt, tw_redir _ (by omega), qb_c1s, Option.bind_some, hr]
            dsimp only
            rw [if_neg (by decide), tw_r13, Option.bind_some, Option.bind_some, tw_a8 (by omega), Option.bind_some, hkt, if_pos tw_isc, nI_1, e1, qb_c1s, Option.bind_some]
            dsimp only
            rw [tw_w22 hb, Option.bind_some, tw_i22, Option.bind_some, tw_w22 hb, Option.bind_some]
          obtain ⟨k1, k2, k3, k4, k5⟩ := red_k (here := h0) (W := wdS Z (r, h0, st0, rn0)) hZ.1 [(Z.2.1 t, t + 1)] r fd tg hs.1 (by have h1 : sC r ≤ Z.1.2.1 := hs.2.2.2.1; have := hZ.2.1; omega) hs.2.1 hI
          rw [redF_c] at k1 k2 k3 k4 k5
          rw [redF_c, hst]
          generalize red1 Z.1.1 h0 (wdS Z (r, h0, st0, rn0) (t + 1)) (Z.2.1 t) r fd tg = v at e1 R1 C1 k1 k2 k3 k4 k5 hst ⊢
          obtain ⟨c, r1, fd1, tg1⟩ := v
          by_cases hc0 : c = 0
          · subst hc0
            dsimp only at R1 C1 k1 k2 k3 k4 k5 ⊢
            rw [if_pos (by decide), if_pos rfl]
            rw [if_pos rfl] at k1 k2 k3 k4
            dsimp only [redF] at k1 k2 k3 k4
            have hs1 : stI Z (r1, h0, st0, rn0) := ⟨k1, Nat.le_trans hs.2.1 k2.1, by show sD r1 h0 = true; rw [(k2.2 _ hs.2.1).1]; exact hs.2.2.1, by have := hs.2.2.2.1; show sC r1 ≤ _; have : sC r ≤ Z.1.2.1 := this; omega, hs.2.2.2.2⟩
            rw [st_word (d + 3) hn R1.1 (by omega) htc (by rw [h0t]; rfl) (by omega) (by omega) (by omega)]
            obtain ⟨I2, P2, A2, N2, a1, a2, a3, a4, a5, a6, a7⟩ := ih (t + 2) w r1 fd1 tg1 I1 P1 A1 N1 none e R1 hs1 C1 k4
            refine ⟨I2, P2, A2, N2, a1, (f1.mo rfl).tr a2, ?_, f2.tr a4, a5, a6, L1.tr a7⟩
            rw [a3, f1 _ rfl]
            rfl
          · have hc : rcI c ≠ 0 := by
              unfold rcI
              rw [if_neg hc0]
              split <;> decide
            dsimp only at R1 C1 k5 ⊢
            rw [if_neg hc0] at k5
            rw [if_neg hc, if_neg hc0]
            dsimp only
            by_cases hc1 : c = 1
            · subst hc1
              rw [if_pos (by decide)]
              exact ⟨ab_up I1 22 (nI tc), P1, A1, N1, rfl, (f1.mo rfl).up _ rfl, ab_up_e _ _ _, f2, R1.kp (S := [22]) (T := []) (fr.up fr.rf _ rfl) fr.rf rfl rfl, C1, L1⟩
            · have hc2 : ¬ 0 < rcI c := by
                unfold rcI
                rw [if_neg hc0, if_neg hc1]
                decide
              rw [if_neg hc2, ab_up_s]
              exact ⟨I1, P1, A1, N1, by rw [if_neg hc0], f1.mo rfl, by rw [if_neg hc1]; exact f1 _ rfl, f2, R1, C1, L1⟩
        · rw [if_neg h0t] at e
          cases e
      · rw [if_neg hr] at e
        rw [if_neg hr]
        cases e
        rw [show redF Z.1.1 h0 (wdS Z (r, h0, st0, rn0)) (([], []) : List Nat × List (Nat × Nat)).2 r fd tg = (0, r, fd, tg) from rfl]
        dsimp only
        exact ⟨I, P, A, N, st_u5 (d + 3) v1 _ _ _ _ _ _, fr.rf, rfl, fr.rf, hR, hC, lvR.rf⟩
/-- over a group -/
theorem st_grp (d : Nat) (hK : okK Z.2.1 n) (hn : n ≤ 64) (hT : twTk n Z.2.1 Z.2.2 fa I A) {r t t1 tc : Nat} (h8 : Z.2.1 t = 8) (hG : pG Z.2.1 100 r t = some t1) (h1 : t1 ≤ tc) (htc : tc ≤ n) (v1 : Int32) : ab_ev gG true (d + 1) 74 51 [some (.inr (.inr (some b))), some (.inl v1), some (.inl (nI tc)), some (.inl 0), some (.inl (nI t)), none] [] (TW B b I P A N) = ab_ev gG true (d + 1) 74 51 [some (.inr (.inr (some b))), some (.inl v1), some (.inl (nI tc)), some (.inl 0), some (.inl (nI t1)), none] [] (TW B b I P A N) := by
  have hsk : skS Z.2.1 t1 (fun c t => ab_ev gG true (d + 1) 74 51 [some (.inr (.inr (some b))), some (.inl v1), some (.inl (nI tc)), some (.inl (nI c)), some (.inl (nI t)), none] [] (TW B b I P A N)) := by
    have st : ∀ c t, c ≤ t → t < t1 → (fun c t => ab_ev gG true (d + 1) 74 51 [some (.inr (.inr (some b))), some (.inl v1), some (.inl (nI tc)), some (.inl (nI c)), some (.inl (nI t)), none] [] (TW B b I P A N)) c t = ab_ev gG true (d + 1) 74 76 [some (.inr (.inr (some b))), some (.inl v1), some (.inl (nI tc)), some (.inl (nI c)), some (.inl (nI t)), none] [.inl (if Z.2.1 t = 8 then nI (c + 1) else if Z.2.1 t = 9 then nI c - 1 else nI c)] (TW B b I P A N) := fun c t hc ht => by
      have hk := (hT.2 t (by omega)).1
      have h10 := (hK t).1 (by omega)
      dsimp only
      rw [bl_74_51, if_pos (nI_lt (by omega) (by omega))]
      simp (disch := omega) only [tw_r13, Option.bind_some, tw_a8, hk, neq_8, neq_9, nI_1]
      split
      · rfl
      · split <;> rfl
    have sk : ∀ c x t, 0 < x → x ≤ 1000 → t < t1 → ab_ev gG true (d + 1) 74 76 [some (.inr (.inr (some b))), some (.inl v1), some (.inl (nI tc)), some (.inl (nI c)), some (.inl (nI t)), none] [.inl (nI x)] (TW B b I P A N) = ab_ev gG true (d + 1) 74 51 [some (.inr (.inr (some b))), some (.inl v1), some (.inl (nI tc)), some (.inl (nI x)), some (.inl (nI (t + 1))), none] [] (TW B b I P A N) := fun c x t hx hx2 ht => by
      rw [bl_74_76, if_neg (fun e => by have := (neq_0 (by omega)).mp e; omega), nI_1]
    refine ⟨fun c t hc ht h1 h2 => ?_, fun c t hc ht h1 => ?_, fun c t hc ht h1 => ?_⟩
    · rw [st (c + 1) t (by omega) ht, if_neg h1, if_neg h2, sk _ _ _ (by omega) (by omega) ht]
    · rw [st c t hc ht, if_pos h1, sk _ _ _ (by omega) (by omega) ht]
    · rw [st (c + 1) t (by omega) ht, if_neg (by omega), if_pos h1, nI_pred]
      by_cases hc0 : c = 0
      · subst hc0
        have hk := (hT.2 t (by omega)).1
        rw [bl_74_76, if_pos (show nI 0 = 0 from rfl), tw_r13, Option.bind_some, Option.bind_some, tw_a8 (by omega), Option.bind_some, hk, h1, tw_redir _ (by omega), qb_c1s, Option.bind_some, nI_1]
        rfl
      · exact sk _ _ _ (by omega) (by omega) ht
  exact pG_sk hsk r t t1 h8 hG (Nat.le_refl _) 0 (Nat.zero_le _)
end
