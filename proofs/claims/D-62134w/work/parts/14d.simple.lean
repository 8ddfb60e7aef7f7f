/-! ===== the twin: a simple command ===== -/
/-- the words so far, with m letters in all -/
def twWn (ws : List (List Int32)) (m : Nat) (I : Nat → Int32) (A : Nat → Nat → Int32) : Prop := I 16 = nI ws.length ∧ I 19 = nI m ∧ ∀ w, w < ws.length → ∃ a, A 11 w = nI a ∧ A 12 w = nI (a + (ws.getD w []).length) ∧ rdl (A 13) a (ws.getD w []) ∧ a + (ws.getD w []).length ≤ m ∧ okl (ws.getD w [])
theorem getD_apl {ws : List (List Int32)} {x : List Int32} {w : Nat} (h : w < ws.length) : (ws ++ [x]).getD w [] = ws.getD w [] := by
  rw [List.getD_eq_getElem?_getD, List.getD_eq_getElem?_getD, List.getElem?_append_left h]
theorem getD_apr {ws : List (List Int32)} {x : List Int32} : (ws ++ [x]).getD ws.length [] = x := by
  rw [List.getD_eq_getElem?_getD, List.getElem?_append_right (Nat.le_refl _), Nat.sub_self]
  rfl
theorem rdW_len {K : Nat → Nat} : ∀ (f t w t' w' : Nat), pW K false f t w = some (t', w') → (rdW K false f t).1.length + w = w' := by
  intro f
  induction f with
  | zero => intro t w t' w' e; cases e
  | succ f ih =>
    intro t w t' w' e
    rw [pW] at e
    rw [rdW]
    by_cases h : K t = 0 ∧ false = false
    · rw [if_pos h] at e
      rw [if_pos h]
      have := ih _ _ _ _ e
      show (_ :: _).length + w = w'
      rw [List.length_cons]
      omega
    · rw [if_neg h] at e
      rw [if_neg h]
      by_cases hr : redK (K t) = true
      · rw [if_pos hr] at e
        rw [if_pos hr]
        by_cases h0 : K (t + 1) = 0
        · rw [if_pos h0] at e
          exact ih _ _ _ _ e
        · rw [if_neg h0] at e; cases e
      · rw [if_neg hr] at e
        rw [if_neg hr]
        cases e
        exact Nat.zero_add _
section
variable {B : ab_H} {b : Nat} {I : Nat → Int32} {P : Int64} {A : Nat → Nat → Int32} {N : Nat → Int64} {Z : sL} {n : Nat} {fa : Nat → Nat} {lv : Nat} {s : sS}
theorem wl_lp (d : Nat) (hb : B.1.1 ≤ b) (hZ : okZ Z) (hk : tkR n Z.2.1 Z.2.2 fa) (hs : stI Z s) {t0 tc w' : Nat} (htc : tc ≤ n) (v1 v3 : Int32) : ∀ (f t w m : Nat) (ws : List (List Int32)) (I : Nat → Int32) (A : Nat → Nat → Int32), pW Z.2.1 false f t w = some (tc, w') → (t = t0 ∨ (t0 < t ∧ redK (Z.2.1 (t - 1)) = false)) → t0 ≤ t → ws.length ≤ t → RT Z n fa lv s I A N → I 22 = nI t0 → twWn ws m I A → (∀ t', t ≤ t' → Z.2.1 t' = 0 → m ≤ 3 * fa t') → m ≤ 192 →
    ∃ I' A' m', ab_ev gG true (d + 3) 74 155 [some (.inr (.inr (some b))), some (.inl v1), some (.inl (nI tc)), some (.inl v3), some (.inl (nI t)), none] [] (TW B b I P A N) = ab_ev gG true (d + 3) 74 155 [some (.inr (.inr (some b))), some (.inl v1), some (.inl (nI tc)), some (.inl v3), some (.inl (nI tc)), none] [] (TW B b I' P A' N) ∧ fr [19, 16] I I' ∧ fr [13, 12, 11] A A' ∧ twWn (ws ++ (rdW Z.2.1 false f t).1.map (wdS Z s)) m' I' A' ∧ m' ≤ 192 := by
  have hn := hk.2.1
  have hst := hs.2.2.2.2
  intro f
  induction f with
  | zero => intro t w m ws I A e; cases e
  | succ f ih =>
    intro t w m ws I A e hprev ht0 hws hR hp hW hm h192
    rw [pW] at e
    rw [rdW]
    by_cases hw : Z.2.1 t = 0 ∧ false = false
    · rw [if_pos hw] at e
      rw [if_pos hw]
      have hle := (pW_le _ _ _ _ _ e).1
      have htn : t < n := by omega
      obtain ⟨hkt, k2⟩ := hR.1.2 t htn
      obtain ⟨k3, k4, k5⟩ := k2 hw.1
      have k6 := hk.2.2.2.1 t hw.1
      have hm1 := hm t (Nat.le_refl _) hw.1
      obtain ⟨I1, A1, e1, f1, f2, g1, g2, g3, g4, g5, g6, g7⟩ := tw_expand (B := B) (b := b) (I := I) (P := P) (A := A) (N := N) (t := t) (a := fa t) (e := fa t + (Z.2.2 t).length) (v := s.2.2.1) (w := ws.length) (n := m) (s := Z.2.2 t) d hb (by omega) k3 k4 k6 rfl k5 (by omega) hR.2.2.2.1 hW.1 (by omega) hW.2.1 (by omega)
      have hwl := wx_len (dg s.2.2.1) (dg_len s.2.2.1).2 _ false (Z.2.2 t) (Nat.le_refl _)
      have hW1 : twWn (ws ++ [wdS Z s t]) (m + (wdS Z s t).length) I1 A1 := by
        refine ⟨by rw [g1, List.length_append, List.length_singleton], g2, fun x hx => ?_⟩
        rw [List.length_append, List.length_singleton] at hx
        by_cases hxl : x < ws.length
        · obtain ⟨a, q1, q2, q3, q4, q5⟩ := hW.2.2 x hxl
          rw [getD_apl hxl]
          obtain ⟨p1, p2⟩ := g7 x (by omega)
          exact ⟨a, by rw [p1]; exact q1, by rw [p2]; exact q2, q3.cg (fun k k1 k2 => g6 k (by omega)), by omega, q5⟩
        · have : x = ws.length := by omega
          rw [this, getD_apr]
          exact ⟨m, g3, g4, g5, Nat.le_refl _, wd_ok hZ hs t⟩
      have hstep : ab_ev gG true (d + 3) 74 155 [some (.inr (.inr (some b))), some (.inl v1), some (.inl (nI tc)), some (.inl v3), some (.inl (nI t)), none] [] (TW B b I P A N) = ab_ev gG true (d + 3) 74 155 [some (.inr (.inr (some b))), some (.inl v1), some (.inl (nI tc)), some (.inl v3), some (.inl (nI (t + 1))), none] [] (TW B b I1 P A1 N) := by
        rw [bl_74_155, if_pos (nI_lt (by omega) (by omega)), tw_r13, Option.bind_some, Option.bind_some, tw_a8 (by omega), Option.bind_some, hkt, if_pos ((neq_0 (by omega)).mpr hw.1), tw_i22, Option.bind_some, hp, nI_1]
        by_cases htt : t = t0
        · rw [if_pos (by rw [htt]), if_pos tw_isc, e1, qb_c0s, Option.bind_some]
        · obtain ⟨hlt, hrd⟩ := hprev.resolve_left htt
          have hk1 := (hR.1.2 (t - 1) (by omega)).1
          have hk10 := (hk.1 (t - 1)).1 (by omega)
          rw [if_neg (fun e => htt ((nI_eq (by omega) (by omega)).mp e)), Option.bind_some, Option.bind_some, show nI t - (1 : Int32) = nI (t - 1) from by rw [show t = t - 1 + 1 by omega, nI_pred]; rfl, tw_a8 (by omega), Option.bind_some, hk1, tw_redir _ (by omega), qb_c1s, Option.bind_some, hrd]
          dsimp only
          rw [if_pos b01_f, if_pos tw_isc, e1, qb_c0s, Option.bind_some]
      have hlen2 : (wdS Z s t).length ≤ 3 * (Z.2.2 t).length := hwl
      obtain ⟨I2, A2, m2, b1, b2, b3, b4, b5⟩ := ih (t + 1) (w + 1) (m + (wdS Z s t).length) (ws ++ [wdS Z s t]) I1 A1 e (Or.inr ⟨by omega, by rw [Nat.add_sub_cancel, hw.1]; rfl⟩) (by omega) (by rw [List.length_append, List.length_singleton]; omega) (hR.kp f1 f2 rfl rfl) (by rw [f1 _ rfl]; exact hp) hW1 (fun t' ht' h0 => by
        have := hk.2.2.2.2 t t' (by omega) hw.1 h0
        omega) (by omega)
      refine ⟨I2, A2, m2, hstep.trans b1, f1.tr b2, f2.tr b3, ?_, b5⟩
      rw [List.append_assoc] at b4
      exact b4
    · rw [if_neg hw] at e
      rw [if_neg hw]
      by_cases hr : redK (Z.2.1 t) = true
      · rw [if_pos hr] at e
        rw [if_pos hr]
        by_cases h0t : Z.2.1 (t + 1) = 0
        · rw [if_pos h0t] at e
          have hle := (pW_le _ _ _ _ _ e).1
          have hop := (redK_iff _).mp hr
          have hkt := (hR.1.2 t (by omega)).1
          have hkt1 := (hR.1.2 (t + 1) (by omega)).1
          have hstep : ab_ev gG true (d + 3) 74 155 [some (.inr (.inr (some b))), some (.inl v1), some (.inl (nI tc)), some (.inl v3), some (.inl (nI t)), none] [] (TW B b I P A N) = ab_ev gG true (d + 3) 74 155 [some (.inr (.inr (some b))), some (.inl v1), some (.inl (nI tc)), some (.inl v3), some (.inl (nI (t + 2))), none] [] (TW B b I P A N) := by
            rw [bl_74_155, if_pos (nI_lt (by omega) (by omega)), tw_r13, Option.bind_some, Option.bind_some, tw_a8 (by omega), Option.bind_some, hkt, if_neg (fun e => by have := (neq_0 (by omega)).mp e; omega), nI_1, bl_74_155, if_pos (nI_lt (by omega) (by omega)), tw_r13, Option.bind_some, Option.bind_some, tw_a8 (by omega), Option.bind_some, hkt1, if_pos ((neq_0 (by omega)).mpr h0t), tw_i22, Option.bind_some, hp, if_neg (fun e => by have := (nI_eq (by omega) (by omega)).mp e; omega), Option.bind_some, Option.bind_some, nI_pred, tw_a8 (by omega), Option.bind_some, hkt, tw_redir _ (by omega), qb_c1s, Option.bind_some, hr]
            dsimp only
            rw [if_neg (by decide), nI_1]
          obtain ⟨I2, A2, m2, b1, b2, b3, b4, b5⟩ := ih (t + 2) w m ws I A e (Or.inr ⟨by omega, by rw [show t + 2 - 1 = t + 1 by omega, h0t]; rfl⟩) (by omega) (by omega) hR hp hW (fun t' ht' => hm t' (by omega)) h192
          exact ⟨I2, A2, m2, hstep.trans b1, b2, b3, b4, b5⟩
        · rw [if_neg h0t] at e
          cases e
      · rw [if_neg hr] at e
        rw [if_neg hr]
        cases e
        exact ⟨I, A, m, rfl, fr.rf, fr.rf, by show twWn (ws ++ [].map (wdS Z s)) m I A; rw [List.map_nil, List.append_nil]; exact hW, h192⟩
/-- the twin's view of what comes behind a command at level lv -/
def twD (lv : Nat) (o : Option Nat) (tc : Nat) (back : Nat) (u : sR × Option Nat) (I' : Nat → Int32) (A' : Nat → Nat → Int32) : Prop := (u.1.1 = false → I' 22 = nI tc ∧ I' 35 = nI u.1.2.2.2.1.length ∧ rdl (A' 25) 0 u.1.2.2.2.1 ∧ A' 17 lv = oI u.2) ∧ A' 18 lv = nI back ∧ twIn o u.1.2.2.2.2 A'
/-- a simple command, whose redirections could be made -/
theorem sc_run (d : Nat) (hb : B.1.1 ≤ b) (hZ : okZ Z) (hk : tkR n Z.2.1 Z.2.2 fa) (hl2 : lv < 5) {t0 tc r w' : Nat} (ht0 : t0 ≤ n) (htc : tc ≤ n) (hpw : pW Z.2.1 false 100 t0 0 = some (tc, w')) (hw0 : 0 < w') {H : sG} {o : Option Nat} {src : List Int32} (hsrc : inI src) {fd : Option (List Int32)} {tg : Option Nat} (hfd : ∀ f, fd = some f → inI f) (hR : RT Z n fa lv s I A N) (hs : stI Z s) (hp : I 22 = nI t0) (h35 : I 35 = 0) (h36 : I 36 = 0) (hC : twC lv o src fd tg A) (ho : o ≠ some (2 * lv + 1)) (v : sR) (hv : v = actS Z H false t0 (rdW Z.2.1 false 100 t0).1 s (fd.getD src)) :
    ∃ I' P' A' N', ab_ev gG true (d + 6) 74 51 [some (.inr (.inr (some b))), some (.inl 0), some (.inl (nI tc)), some (.inl 0), some (.inl (nI tc)), none] [] (TW B b I P A N) = some (some (.inl (if v.1 = true then -9 else nI v.2.2.1)), TW B b I' P' A' N') ∧ RT Z n fa lv v.2.1 I' A' N' ∧
      (v.1 = false → I' 22 = nI tc ∧ I' 35 = nI v.2.2.2.1.length ∧ rdl (A' 25) 0 v.2.2.2.1 ∧ A' 17 lv = oI tg) ∧ twIn o (if fd = none then v.2.2.2.2 else src) A' ∧
      fr [16, 19, 22, 48, 35, 36, 38, 39, 42, 43, 9] I I' ∧ fr [13, 12, 11, 25, 26, 24, 27, 28, 1, 2, 3, 5] A A' ∧ ∀ i, i ≠ 2 * lv + 1 → o ≠ some i → A' 24 i = A 24 i := by
  have hn := hk.2.1
  have hst := hs.2.2.2.2
  have hR1 := hR.kp (S := [16, 19]) (T := []) (I' := ab_up (ab_up I 16 0) 19 0) ((fr.up fr.rf _ rfl).up _ rfl) fr.rf rfl rfl
  have f0 : fr [16, 19, 22, 48, 35, 36, 38, 39, 42, 43, 9] I (ab_up (ab_up I 16 0) 19 0) := (fr.up fr.rf _ rfl).up _ rfl
  have hp1 : (ab_up (ab_up I 16 0) 19 0) 22 = nI t0 := by simp (disch := omega) only [ab_up_e, ab_up_n]; exact hp
  obtain ⟨I1, A1, m1, e1, f1, f2, w1, w2⟩ := wl_lp (B := B) (b := b) (P := P) (N := N) (lv := lv) (s := s) (d + 3) hb hZ hk hs (t0 := t0) htc 0 0 100 t0 0 0 [] (ab_up (ab_up I 16 0) 19 0) A hpw (Or.inl rfl) (Nat.le_refl _) (Nat.zero_le _) hR1 hp1 ⟨by simp (disch := omega) only [ab_up_e, ab_up_n]; rfl, ab_up_e _ _ _, fun w hw => absurd hw (Nat.not_lt_zero _)⟩ (fun t' _ _ => Nat.zero_le _) (Nat.zero_le _)
  rw [List.nil_append] at w1
  have hR2 := hR1.kp f1 f2 rfl rfl
  -- the words
  have hlen := rdW_len _ _ _ _ _ hpw
  have hwl : ((rdW Z.2.1 false 100 t0).1.map (wdS Z s)).length = w' := by rw [List.length_map]; omega
  have hw64 : w' < 65 := by
    have hc : ∀ (f t w t' w' : Nat), pW Z.2.1 false f t w = some (t', w') → w' + t ≤ w + t' := by
      intro f
      induction f with
      | zero => intro t w t' w' e; cases e
      | succ f ih =>
        intro t w t' w' e
        rw [pW] at e
        split at e
        · have := ih _ _ _ _ e; omega
        · split at e
          · split at e
            · have := ih _ _ _ _ e; omega
            · cases e
          · cases e; omega
    have := hc _ _ _ _ _ hpw
    omega
  have hne : (rdW Z.2.1 false 100 t0).1.map (wdS Z s) ≠ [] := fun e => by rw [e] at hwl; simp at hwl; omega
  -- state ahead of the tool
  have fI2 : fr [22, 48] I1 (ab_up (ab_up I1 22 (nI tc)) 48 (nI (s.2.2.2 + 1))) := (fr.up fr.rf _ rfl).up _ rfl
  have hI21 : ∀ k, k ≠ 22 → k ≠ 48 → (ab_up (ab_up I1 22 (nI tc)) 48 (nI (s.2.2.2 + 1))) k = I1 k := fun k h1 h2 => by rw [ab_up_n _ _ h2, ab_up_n _ _ h1]
  have hpos2 : (ab_up (ab_up I1 22 (nI tc)) 48 (nI (s.2.2.2 + 1))) 22 = nI tc := by rw [ab_up_n _ _ (by decide), ab_up_e]
  have hcnt2 : (ab_up (ab_up I1 22 (nI tc)) 48 (nI (s.2.2.2 + 1))) 48 = nI (s.2.2.2 + 1) := ab_up_e _ _ _
  have e2 : ab_ev gG true (d + 6) 74 51 [some (.inr (.inr (some b))), some (.inl 0), some (.inl (nI tc)), some (.inl 0), some (.inl (nI tc)), none] [] (TW B b I P A N) = (ab_c1 (ab_cl gG true (d + 5) 92 [.inr (.inr (some b))] (TW B b (ab_up (ab_up I1 22 (nI tc)) 48 (nI (s.2.2.2 + 1))) P A1 N))).bind fun r14 => if 0 < r14.1 then (ab_pf r14.2 b 735 (.inl 0)).bind fun h15 => (ab_pf h15 b 736 (.inl 0)).bind fun h16 => (ab_fI h16 b 736).bind fun x17 => if x17 = 0 then some (some (.inl r14.1), h16) else some (some (.inl (-9)), h16) else (ab_fI r14.2 b 736).bind fun x18 => if x18 = 0 then some (some (.inl r14.1), r14.2) else some (some (.inl (-9)), r14.2) := by
    rw [bl_74_51, if_neg (nI_nlt (Nat.le_refl _) (by omega)), if_pos rfl, tw_w16 hb, Option.bind_some, tw_w19 hb, Option.bind_some, tw_i22, Option.bind_some, hp1]
    refine e1.trans ?_
    rw [bl_74_155, if_neg (nI_nlt (Nat.le_refl _) (by omega)), tw_w22 hb, Option.bind_some, tw_i48, Option.bind_some, ab_up_n _ _ (by decide), hR2.2.2.2.2.1, tw_w48 hb, Option.bind_some, nI_1, if_pos tw_isc]
  have hx35 : I1 35 = I 35 := by rw [f1 _ rfl]; simp (disch := omega) only [ab_up_e, ab_up_n]
  have hx36 : I1 36 = I 36 := by rw [f1 _ rfl]; simp (disch := omega) only [ab_up_e, ab_up_n]
  have fI0 : fr [16, 19, 22, 48, 35, 36, 38, 39, 42, 43, 9] I (ab_up (ab_up I1 22 (nI tc)) 48 (nI (s.2.2.2 + 1))) := (f0.tr (f1.mo rfl)).tr (fI2.mo rfl)
  generalize ab_up (ab_up I1 22 (nI tc)) 48 (nI (s.2.2.2 + 1)) = I2 at fI2 hI21 hpos2 hcnt2 e2 fI0
  obtain ⟨h1, h2, h3, h4, h5, h6, h7, h8, h9⟩ := id hR2
  -- the input that the tool reads
  obtain ⟨c1, c2, c3, c4⟩ := hC
  obtain ⟨oc, hoc1, hoc2, hoc3⟩ : ∃ oc, A1 15 lv = oI oc ∧ twIn oc (fd.getD src) A1 ∧ (fd = none → oc = o) ∧ (fd ≠ none → oc = some (2 * lv + 1)) := by
    cases fd with
    | none => exact ⟨o, by rw [f2 _ rfl]; exact c3 rfl, c2.cg (fun i _ => by rw [f2 _ rfl]) (fun i _ k _ _ => by rw [f2 _ rfl]), fun _ => rfl, fun e => absurd rfl e⟩
    | some f =>
      obtain ⟨c5, c6⟩ := c4 f rfl
      exact ⟨some (2 * lv + 1), by rw [f2 _ rfl]; exact c5, c6.cg (fun i _ => by rw [f2 _ rfl]) (fun i _ k _ _ => by rw [f2 _ rfl]), fun e => (by cases e), fun _ => rfl⟩
  have hWd : twWd ((rdW Z.2.1 false 100 t0).1.map (wdS Z s)) I2 A1 := ⟨by rw [hI21 _ (by decide) (by decide)]; exact w1.1, by omega, fun w hw => by
    obtain ⟨a, q1, q2, q3, q4, q5⟩ := w1.2.2 w hw
    exact ⟨a, q1, q2, q3, by omega, q5⟩⟩
  have hKK : twK s.1 s.2.1 lv oc (fd.getD src) Z.1.2.2 Z.1.1 I2 A1 N := ⟨h2, by rw [hI21 _ (by decide) (by decide)]; exact h3, by rw [hI21 _ (by decide) (by decide)]; exact h6, hoc1, hoc2, by rw [hI21 _ (by decide) (by decide)]; exact h9, by rw [hI21 _ (by decide) (by decide)]; exact h7.1⟩
  have hEE : twE Z.1.2.2 [] I2 A1 := ⟨by rw [hI21 _ (by decide) (by decide), hx35, h35]; show (0 : Int32) = nI (min _ 0); rw [Nat.min_zero]; rfl, by rw [hI21 _ (by decide) (by decide), hx36, h36]; rfl, by rw [List.take_nil]; exact rdl.nil⟩
  obtain ⟨I3, P3, A3, N3, e3, t1, t2, t3, t4, t5, t6, t7⟩ := tw_tool (B := B) (b := b) (P := P) d hb (hs.w hZ) hZ.2.2.1 hZ.1 hl2 hne hWd hKK hEE
  have hargs : ∀ w, w ∈ (rdW Z.2.1 false 100 t0).1.map (wdS Z s) → okl w := fun w hw => by
    obtain ⟨x, -, rfl⟩ := List.mem_map.mp hw
    exact wd_ok hZ hs x
  have hsg : inI (fd.getD src) := by
    cases fd with
    | none => exact hsrc
    | some f => exact hfd f rfl
  obtain ⟨q1, q2, q3, q4, q5, q6, q7, q8⟩ := tool_k hs.1 hs.2.1 hs.2.2.1 hsg.1 hsg.2 (by have := hs.2.2.2.1; have := hZ.2.1; omega) hZ.1 hargs
  have hv2 : v = (match toolS Z.1.1 s.1 s.2.1 (fd.getD src) ((rdW Z.2.1 false 100 t0).1.map (wdS Z s)) with
    | (bb, c, x, r, h, i2) => (bb || decide (c = 0 ∧ Z.1.2.2 < x.length), (r, h, s.2.2.1, s.2.2.2 + 1), c, (if c = 0 then x else []), i2)) := by
    rw [hv]
    unfold actS
    rw [if_neg (by decide)]
    rfl
  generalize toolS Z.1.1 s.1 s.2.1 (fd.getD src) ((rdW Z.2.1 false 100 t0).1.map (wdS Z s)) = u at e3 t1 t2 t3 t4 t5 t6 t7 q1 q2 q3 q4 q5 q6 q7 q8 hv2
  obtain ⟨bb, c, x, r', h', i2⟩ := u
  dsimp only at e3 t1 t2 t3 t4 t5 t6 t7 q1 q2 q3 q4 q5 q6 q7 q8 hv2
  have hi2 : i2.length ≤ 160 := by
    rcases q8 with e | e
    · rw [e]; exact hsg.2
    · rw [e]; decide
  -- frames
  have fA : fr [13, 12, 11, 25, 26, 24, 27, 28, 1, 2, 3, 5] A A3 := (f2.mo rfl).tr (t2.mo rfl)
  have hin9 : twIn o (if fd = none then i2 else src) A3 := by
    cases fd with
    | none =>
      rw [if_pos rfl]
      rw [hoc3.1 rfl] at t6
      exact t6
    | some f =>
      rw [if_neg (by simp)]
      have hoc := hoc3.2 (by simp)
      exact c2.cg (fun i hi => by rw [t7 i (by rw [hoc]; intro e; exact ho (by rw [hi, ← e])), f2 _ rfl]) (fun i _ k _ _ => by rw [t2 _ rfl, f2 _ rfl])
  have h24 : ∀ i, i ≠ 2 * lv + 1 → o ≠ some i → A3 24 i = A 24 i := fun i hi hoi => by
    rw [t7 i (fun e => ?_), f2 _ rfl]
    cases fd with
    | none => rw [hoc3.1 rfl] at e; exact hoi e
    | some f => rw [hoc3.2 (by simp)] at e; exact hi (Option.some.inj e).symm
  have hR3 : ∀ I4, fr [35, 36] I3 I4 → RT Z n fa lv (r', h', s.2.2.1, s.2.2.2 + 1) I4 A3 N3 := fun I4 f4 => by
    have g1 : ∀ k, k ≠ 35 → k ≠ 36 → I4 k = I3 k := fun k a1 a2 => f4 k (by simp [a1, a2])
    refine ⟨h1.cg (by rw [g1 _ (by decide) (by decide), t1 _ rfl, hI21 _ (by decide) (by decide)]) (t2 _ rfl) (t2 _ rfl) (t2 _ rfl) (t2 _ rfl), t3, by rw [g1 _ (by decide) (by decide)]; exact t4, by rw [g1 _ (by decide) (by decide), t1 _ rfl, hI21 _ (by decide) (by decide)]; exact h4, by rw [g1 _ (by decide) (by decide), t1 _ rfl]; exact hcnt2, by rw [g1 _ (by decide) (by decide), t1 _ rfl, hI21 _ (by decide) (by decide)]; exact h6, ⟨by rw [g1 _ (by decide) (by decide), t1 _ rfl, hI21 _ (by decide) (by decide)]; exact h7.1, by rw [g1 _ (by decide) (by decide), t1 _ rfl, hI21 _ (by decide) (by decide)]; exact h7.2⟩, by rw [g1 _ (by decide) (by decide), t1 _ rfl, hI21 _ (by decide) (by decide)]; exact h8, by rw [g1 _ (by decide) (by decide), t1 _ rfl, hI21 _ (by decide) (by decide)]; exact h9⟩
  have fI3 : fr [16, 19, 22, 48, 35, 36, 38, 39, 42, 43, 9] I I3 := fI0.tr (t1.mo rfl)
  have htg : A3 17 lv = oI tg := by rw [t2 _ rfl, f2 _ rfl]; exact c1
  have hpos3 : I3 22 = nI tc := by rw [t1 _ rfl]; exact hpos2
  rw [e3, qb_c1s, Option.bind_some] at e2
  dsimp only at e2
  rw [hv2]
  dsimp only
  cases bb with
  | true =>
    have ht : tlA (true, c, x, r', h', i2) = -9 := rfl
    rw [ht, if_neg (by decide), tw_i36, Option.bind_some, ite_self] at e2
    exact ⟨I3, P3, A3, N3, e2, hR3 I3 fr.rf, fun e => (by cases e), hin9, fI3, fA, h24⟩
  | false =>
    have ht : tlA (false, c, x, r', h', i2) = nI c := rfl
    rw [ht] at e2
    rw [Bool.false_or]
    by_cases hc0 : c = 0
    · rw [hc0, if_neg (by decide), tw_i36, Option.bind_some, (t5 rfl hc0).2.1] at e2
      by_cases hpl : Z.1.2.2 < x.length
      · rw [show decide (Z.1.2.2 < x.length) = true from decide_eq_true hpl, if_neg (by decide)] at e2
        rw [show decide (c = 0 ∧ Z.1.2.2 < x.length) = true from decide_eq_true ⟨hc0, hpl⟩]
        exact ⟨I3, P3, A3, N3, e2, hR3 I3 fr.rf, fun e => (by cases e), hin9, fI3, fA, h24⟩
      · rw [show decide (Z.1.2.2 < x.length) = false from decide_eq_false hpl, if_pos b01_f] at e2
        rw [show decide (c = 0 ∧ Z.1.2.2 < x.length) = false from decide_eq_false (fun e => hpl e.2), if_neg (by decide), if_pos hc0, hc0]
        refine ⟨I3, P3, A3, N3, e2, hR3 I3 fr.rf, fun _ => ⟨hpos3, ?_, ?_, htg⟩, hin9, fI3, fA, h24⟩
        · rw [(t5 rfl hc0).1, Nat.min_eq_right (by omega)]
        · have := (t5 rfl hc0).2.2
          rwa [List.take_of_length_le (by omega)] at this
    · rw [if_pos ((ngt_0 (by omega)).mpr (by omega)), tw_w35 hb, Option.bind_some, tw_w36 hb, Option.bind_some, tw_i36, Option.bind_some, ab_up_e, if_pos rfl] at e2
      rw [show decide (c = 0 ∧ Z.1.2.2 < x.length) = false from decide_eq_false (fun e => hc0 e.1), if_neg (by decide), if_neg hc0]
      have f5 : fr [35, 36] I3 (ab_up (ab_up I3 35 0) 36 0) := (fr.up fr.rf _ rfl).up _ rfl
      refine ⟨_, P3, A3, N3, e2, hR3 _ f5, fun _ => ⟨?_, ?_, rdl.nil, htg⟩, hin9, fI3.tr (f5.mo rfl), fA, h24⟩
      · rw [f5 _ rfl]; exact hpos3
      · rw [ab_up_n _ _ (by decide), ab_up_e]; rfl
end
