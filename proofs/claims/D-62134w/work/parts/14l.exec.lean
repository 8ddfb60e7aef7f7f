/-! ===== the twin's run: lists; execute() ===== -/
def anS (Z : sL) (G : Nat → Option Nat) (H : sG) (f te : Nat) (u : Bool × sS × List Int32 × List Int32) : Bool × sS × List Int32 × List Int32 × Nat := match u with
  | (true, s1, i1, o1) => (true, s1, i1, o1, 0)
  | (false, s1, i1, o1) => andS Z G H f te s1 i1 o1
theorem andS_run {Z : sL} {G : Nat → Option Nat} {H : sG} {f t te : Nat} {s : sS} {i o : List Int32} (h : Z.2.1 t = 2 ∨ Z.2.1 t = 3) (hg : ¬ ((Z.2.1 t = 2 ∧ s.2.2.1 ≠ 0) ∨ (Z.2.1 t = 3 ∧ s.2.2.1 = 0))) (hp : pP Z.2.1 100 G (t + 1) = some te) : andS Z G H (f + 1) t s i o = anS Z G H f te (plnS Z G H (t + 1) s i o) := by
  have : endP Z G (t + 1) = te := by unfold endP; rw [hp]; rfl
  rw [andS, if_pos h, this, if_pos]
  · unfold anS
    rcases plnS Z G H (t + 1) s i o with ⟨b, s1, i1, o1⟩
    cases b <;> rfl
  · constructor
    · intro h2; exact Classical.byContradiction fun h0 => hg (Or.inl ⟨h2, h0⟩)
    · intro h0; rcases h with h | h
      · exact h
      · exact absurd (Or.inr ⟨h, h0⟩) hg
theorem andS_skip {Z : sL} {G : Nat → Option Nat} {H : sG} {f t te : Nat} {s : sS} {i o : List Int32} (hg : (Z.2.1 t = 2 ∧ s.2.2.1 ≠ 0) ∨ (Z.2.1 t = 3 ∧ s.2.2.1 = 0)) (hp : pP Z.2.1 100 G (t + 1) = some te) : andS Z G H (f + 1) t s i o = andS Z G H f te s i o := by
  have : endP Z G (t + 1) = te := by unfold endP; rw [hp]; rfl
  rw [andS, if_pos (by omega), this, if_neg (by omega)]
theorem andS_n {Z : sL} {G : Nat → Option Nat} {H : sG} {f t : Nat} {s : sS} {i o : List Int32} (h : ¬ (Z.2.1 t = 2 ∨ Z.2.1 t = 3)) : andS Z G H (f + 1) t s i o = (false, s, i, o, t) := by
  rw [andS, if_neg h]
section
variable {B : ab_H} {b : Nat} {I : Nat → Int32} {P : Int64} {A : Nat → Nat → Int32} {N : Nat → Int64} {Z : sL} {n : Nat} {fa : Nat → Nat} {lv : Nat} {s : sS}
theorem LC.lO {d : Nat} {o : Option Nat} {tend : Nat} {F : Bool × sS × List Int32 × List Int32} {A A1 : Nat → Nat → Int32} {E : Option ab_R} (h : LC B b Z n fa d lv o tend F A1 E) (hl : lvO lv o A A1) : LC B b Z n fa d lv o tend F A E := ⟨fun hf => by
  obtain ⟨I', P', A', N', e1, e2, e3⟩ := h.1 hf
  exact ⟨I', P', A', N', e1, e2, hl.tr e3⟩, fun hf => by
  obtain ⟨τ, v, I', P', A', N', e1, e2, e3, e4, e5, e6⟩ := h.2 hf
  exact ⟨τ, v, I', P', A', N', e1, e2, e3, e4, e5, hl.tr e6⟩⟩
/-- lists of fuel f -/
def LSf (B : ab_H) (b : Nat) (Z : sL) (n : Nat) (fa : Nat → Nat) (d r lv f : Nat) : Prop := ∀ (t0 : Nat) (nt : Bool) (s : sS) (o : Option Nat) (inp out : List Int32) (tc te t1 tend τ : Nat) (u2 : Option ab_V) (I : Nat → Int32) (P : Int64) (A : Nat → Nat → Int32) (N : Nat → Int64),
  stI Z s → inI inp → okb out → out.length ≤ Z.1.2.2 → (∀ i, o = some i → i < 2 * lv) → t0 ≤ n → τ ≤ t0 → pC Z.2.1 100 (pG Z.2.1 100 r) t0 = some tc → pB Z.2.1 100 (pG Z.2.1 100 r) 100 tc = some te → pO Z.2.1 100 (pG Z.2.1 100 r) 100 te = some t1 → tlE Z.2.1 r f t1 = some tend → (Z.2.1 tend = 9 ∨ Z.2.1 tend = 11) → SC Z n fa lv t0 s o inp out o inp nt (decide (Z.2.1 tc = 4)) I A N →
  LC B b Z n fa d lv o tend (lsT Z (pG Z.2.1 100 r) (grpS Z r) f t0 nt te s inp out) A (ab_ev gG true (d + 7) 61 4 [some (.inr (.inr (some b))), some (.inl (nI τ)), u2] [] (TW B b I P A N))
/-- behind a pipeline -/
theorem and_run (d : Nat) (hb : B.1.1 ≤ b) (hZ : okZ Z) (hk : tkR n Z.2.1 Z.2.2 fa) {r t1 tend g : Nat} (hrl : r + lv = 4) (hL : ∀ r', r = r' + 1 → LST B b Z n fa d r' (lv + 1)) (hG : ∀ g', g = g' + 1 → LSf B b Z n fa d r lv g') {o : Option Nat} (ho : ∀ i, o = some i → i < 2 * lv) (htl : tlE Z.2.1 r g t1 = some tend) (hte9 : Z.2.1 tend = 9 ∨ Z.2.1 tend = 11) :
    ∀ (f te τ v : Nat) (s : sS) (inp out : List Int32) (I : Nat → Int32) (P : Int64) (A : Nat → Nat → Int32) (N : Nat → Int64), f ≤ 100 → pO Z.2.1 100 (pG Z.2.1 100 r) f te = some t1 → te ≤ n → τ + 1 ≤ te → v < 1000 → stI Z s → inI inp → okb out → out.length ≤ Z.1.2.2 → AG Z n fa lv r f te s o inp out I A N →
    LC B b Z n fa d lv o tend (rsS Z (pG Z.2.1 100 r) (grpS Z r) g f te s inp out) A (ab_ev gG true (d + 7) 61 25 [some (.inr (.inr (some b))), some (.inl (nI τ)), some (.inl (nI v))] [] (TW B b I P A N)) := by
  have hk1 := tlE_kind htl hte9
  -- a pipeline begins at t
  have start : ∀ (t te' τ v : Nat) (s : sS) (inp out : List Int32) (I : Nat → Int32) (P : Int64) (A : Nat → Nat → Int32) (N : Nat → Int64), t < n → τ + 1 ≤ t → v < 1000 → XS Z n fa lv s o inp out I A N → I 22 = nI (if Z.2.1 t = 10 then t + 1 else t) → A 20 lv = b01 (decide (Z.2.1 t = 10)) → A 19 lv = b01 (decide (Z.2.1 (peA Z.2.1 n true 0 (if Z.2.1 t = 10 then t + 1 else t)) = 4)) → A 16 lv = oI o → pP Z.2.1 100 (pG Z.2.1 100 r) t = some te' → (Z.2.1 te' = 2 ∨ Z.2.1 te' = 3 ∨ Z.2.1 te' = 1 ∨ Z.2.1 te' = 9 ∨ Z.2.1 te' = 11) →
      ∃ tc, pC Z.2.1 100 (pG Z.2.1 100 r) (if Z.2.1 t = 10 then t + 1 else t) = some tc ∧ pB Z.2.1 100 (pG Z.2.1 100 r) 100 tc = some te' ∧ te' ≤ n ∧ t < te' ∧ (if Z.2.1 t = 10 then t + 1 else t) ≤ n ∧ SC Z n fa lv (if Z.2.1 t = 10 then t + 1 else t) s o inp out o inp (decide (Z.2.1 t = 10)) (decide (Z.2.1 tc = 4)) I A N ∧ ab_ev gG true (d + 7) 61 25 [some (.inr (.inr (some b))), some (.inl (nI τ)), some (.inl (nI v))] [] (TW B b I P A N) = ab_ev gG true (d + 7) 61 4 [some (.inr (.inr (some b))), some (.inl (nI (τ + 1))), some (.inl (nI v))] [] (TW B b I P A N) := by
    intro t te' τ v s inp out I P A N ht hτ hv hX hp hnt hmn hnx hpp hkt
    obtain ⟨tc, q1, q2, q3, q4, q5, q6⟩ := pP_inv hk.1 (by omega) hpp
    have hend := pB_kind q2 hkt
    have hpe := pC_end hk.1 q1 hend
    rw [hpe] at hmn
    obtain ⟨w', -, -, -, a4, a5⟩ := pC_inv hk.1 q5 q1
    have hx := x_go (B := B) (b := b) (P := P) (N := N) d hk hX.1.1 hp (by omega) (pC_k (F := 99) q1).1 (τ := τ) (v := v) hv
    exact ⟨tc, q1, q2, q4, q6, q5, ⟨hX, hp, hnx, hX.2.2.1, hnt, hmn⟩, hx⟩
  intro f
  induction f with
  | zero => intro te τ v s inp out I P A N _ e; cases e
  | succ f ih =>
    intro te τ v s inp out I P A N hf hpo hten hτ hv hs hi hob hol hA
    obtain ⟨hX, hA1, hA2⟩ := hA
    have hpo' := hpo
    rw [pO] at hpo
    unfold rsS
    by_cases h23 : Z.2.1 te = 2 ∨ Z.2.1 te = 3
    · rw [if_pos h23] at hpo
      cases hpp : pP Z.2.1 100 (pG Z.2.1 100 r) (te + 1) with
      | none => rw [hpp] at hpo; cases hpo
      | some te' =>
        rw [hpp] at hpo
        dsimp only at hpo
        have hkt := pO_kind hpo hk1
        have htn := hk.1.lt (t := te) (by omega)
        have heP : endP Z (pG Z.2.1 100 r) (te + 1) = te' := by unfold endP; rw [hpp]; rfl
        by_cases hsk : (Z.2.1 te = 2 ∧ s.2.2.1 ≠ 0) ∨ (Z.2.1 te = 3 ∧ s.2.2.1 = 0)
        · -- it is passed over
          have hgo : goS Z (pG Z.2.1 100 r) n (f + 1) te s.2.2.1 = goS Z (pG Z.2.1 100 r) n f te' s.2.2.1 := by rw [goS, if_pos hsk, heP]
          rw [hgo] at hA1 hA2
          obtain ⟨tc, -, -, q1, q2, -, q3⟩ := pP_inv hk.1 (by omega) hpp
          rw [andS_skip hsk hpp]
          exact ih te' τ v s inp out I P A N (by omega) hpo q2 (by omega) hv hs hi hob hol ⟨hX, hA1, hA2⟩
        · -- it is run
          have hgo : goS Z (pG Z.2.1 100 r) n (f + 1) te s.2.2.1 = (te + 1, true) := by rw [goS, if_neg hsk, if_pos h23]
          rw [hgo] at hA2
          obtain ⟨b1, b2, b3, b4, b5⟩ := hA2 rfl
          obtain ⟨tc, q1, q2, q3, q4, q5, q6, q7⟩ := start (te + 1) te' τ v s inp out I P A N b1 (by omega) hv hX b2 b3 b4 b5 hpp hkt
          have hP := pip_run (B := B) (b := b) (P := P) (t1 := t1) (τ := τ + 1) d hb hZ hk hrl hL ho hol (pO_100 (by omega) hpo) hk1 (some (.inl (nI v))) q6 hs hi q5 (by split <;> omega) q1 q2
          rw [← q7] at hP
          have hpk := pip_k (G := pG Z.2.1 100 r) hZ (grp_k hZ r) (if Z.2.1 (te + 1) = 10 then te + 1 + 1 else te + 1) (decide (Z.2.1 (te + 1) = 10)) hs hi hob hol
          rw [andS_run h23 hsk hpp]
          unfold plnS
          generalize pipS Z (pG Z.2.1 100 r) (grpS Z r) (if Z.2.1 (te + 1) = 10 then te + 1 + 1 else te + 1) (decide (Z.2.1 (te + 1) = 10)) s inp out = F at hP hpk
          obtain ⟨bb, s1, i1, o1⟩ := F
          obtain ⟨y1, y2, y3, y4, y5⟩ := hpk
          dsimp only at y1 y2 y3 y4 y5
          cases bb with
          | true => exact ⟨fun _ => hP.1 rfl, fun e => (by cases e)⟩
          | false =>
            obtain ⟨τ1, v1, I1, P1, A1, N1, e1, e2, e3, e4, e5⟩ := hP.2 rfl
            have hm := goS_mono (n := n) f te' t1 s1.2.2.1 hpo (100 - f)
            rw [show f + (100 - f) = 100 by omega] at hm
            have hAG : AG Z n fa lv r f te' s1 o i1 o1 I1 A1 N1 := by
              obtain ⟨z1, z2, z3⟩ := e4
              dsimp only at z1 z2 z3
              rw [hm] at z2 z3
              exact ⟨z1, z2, z3⟩
            have := ih te' τ1 v1 s1 i1 o1 I1 P1 A1 N1 (by omega) hpo q3 e2 e3 y1 y3 y4 y5 hAG
            rw [e1]
            exact this.lO e5
    · rw [if_neg h23] at hpo
      cases hpo
      rw [andS_n h23]
      dsimp only
      have hnsk : ¬ ((Z.2.1 t1 = 2 ∧ s.2.2.1 ≠ 0) ∨ (Z.2.1 t1 = 3 ∧ s.2.2.1 = 0)) := by omega
      unfold tlE at htl
      by_cases h1 : Z.2.1 t1 = 1
      · have hgo : goS Z (pG Z.2.1 100 r) n (f + 1) t1 s.2.2.1 = (t1 + 1, decide (t1 + 1 < n ∧ Z.2.1 (t1 + 1) ≠ 9)) := by rw [goS, if_neg hnsk, if_neg h23, if_pos h1]
        rw [hgo] at hA1 hA2
        rw [if_pos h1] at htl
        have htn := hk.1.lt (t := t1) (by omega)
        by_cases hbg : bgK (Z.2.1 (t1 + 1)) = true
        · rw [if_pos ⟨h1, hbg⟩]
          rw [if_pos hbg] at htl
          have hkk := (bgK_iff _).mp hbg
          have htn1 := hk.1.lt (t := t1 + 1) (by omega)
          cases g with
          | zero => cases htl
          | succ g' =>
            obtain ⟨tc, te', t1', a1, a2, a3, a4, a5, a6, a7⟩ := pL_inv hk.1 (by omega) htl
            have hk1' := tlE_kind a5 hte9
            have hkt := pO_kind a4 hk1'
            obtain ⟨b1, b2, b3, b4, b5⟩ := hA2 (decide_eq_true ⟨htn1, by omega⟩)
            obtain ⟨tc2, q1, q2, q3, q4, q5, q6, q7⟩ := start (t1 + 1) te' τ v s inp out I P A N b1 (by omega) hv hX b2 b3 b4 b5 a3 hkt
            have := hG g' rfl (if Z.2.1 (t1 + 1) = 10 then t1 + 1 + 1 else t1 + 1) (decide (Z.2.1 (t1 + 1) = 10)) s o inp out tc2 te' t1' tend (τ + 1) (some (.inl (nI v))) I P A N hs hi hob hol ho q5 (by split <;> omega) q1 q2 a4 a5 hte9 q6
            rw [← q7] at this
            have heP : endP Z (pG Z.2.1 100 r) (t1 + 1) = te' := by unfold endP; rw [a3]; rfl
            rw [lstS_T, heP]
            exact this
        · rw [if_neg (fun h => hbg h.2)]
          rw [if_neg hbg] at htl
          cases htl
          have hfal : decide (t1 + 1 < n ∧ Z.2.1 (t1 + 1) ≠ 9) = false := decide_eq_false (fun h => by
            rcases hte9 with h9 | h11
            · exact h.2 h9
            · have := (hk.1 (t1 + 1)).1 h.1; omega)
          have hp := hA1 hfal
          exact ⟨fun e => (by cases e), fun _ => ⟨τ, v, I, P, A, N, rfl, by omega, hv, hX, hp, lvO.rf⟩⟩
      · have hgo : goS Z (pG Z.2.1 100 r) n (f + 1) t1 s.2.2.1 = (t1, false) := by rw [goS, if_neg hnsk, if_neg h23, if_neg h1]
        rw [hgo] at hA1
        rw [if_neg h1] at htl
        cases htl
        rw [if_neg (fun h => h1 h.1)]
        exact ⟨fun e => (by cases e), fun _ => ⟨τ, v, I, P, A, N, rfl, by omega, hv, hX, hA1 rfl, lvO.rf⟩⟩
theorem lst_f (d : Nat) (hb : B.1.1 ≤ b) (hZ : okZ Z) (hk : tkR n Z.2.1 Z.2.2 fa) {r : Nat} (hrl : r + lv = 4) (hL : ∀ r', r = r' + 1 → LST B b Z n fa d r' (lv + 1)) : ∀ f, LSf B b Z n fa d r lv f := by
  intro f
  induction f with
  | zero =>
    intro t0 nt s o inp out tc te t1 tend τ u2 I P A N hs hi hob hol ho ht hτ hpc hpb hpo htl h9 hS
    have hk1 := tlE_kind htl h9
    have hP := pip_run (B := B) (b := b) (P := P) (t1 := t1) (τ := τ) d hb hZ hk hrl hL ho hol hpo hk1 u2 hS hs hi ht hτ hpc hpb
    have hpk := pip_k (G := pG Z.2.1 100 r) hZ (grp_k hZ r) t0 nt hs hi hob hol
    unfold lsT
    generalize pipS Z (pG Z.2.1 100 r) (grpS Z r) t0 nt s inp out = F at hP hpk
    obtain ⟨bb, s1, i1, o1⟩ := F
    obtain ⟨y1, y2, y3, y4, y5⟩ := hpk
    dsimp only at y1 y2 y3 y4 y5
    have hten : te ≤ n := by
      obtain ⟨w', -, -, -, a4, a5⟩ := pC_inv hk.1 ht hpc
      have hle := pB_le (pG_lt r) _ _ _ hpb
      rcases pO_kind hpo hk1 with h | h | h | h | h
      · have := hk.1.lt (t := te) (by omega); omega
      · have := hk.1.lt (t := te) (by omega); omega
      · have := hk.1.lt (t := te) (by omega); omega
      · have := hk.1.lt (t := te) (by omega); omega
      · have hb2 : ∀ (f t t' : Nat), t ≤ n → pB Z.2.1 100 (pG Z.2.1 100 r) f t = some t' → t' ≤ n := by
          intro f
          induction f with
          | zero => intro t t' _ e; cases e
          | succ f ih =>
            intro t t' ht e
            rw [pB] at e
            split at e
            · rename_i h4
              cases hq : pC Z.2.1 100 (pG Z.2.1 100 r) (t + 1) with
              | none => rw [hq] at e; cases e
              | some t2 =>
                rw [hq] at e
                have := hk.1.lt (t := t) (by omega)
                obtain ⟨w2, -, -, -, a4, a5⟩ := pC_inv hk.1 (by omega) hq
                exact ih _ _ a5 e
            · cases e; exact ht
        exact hb2 _ _ _ a5 hpb
    cases bb with
    | true => exact ⟨fun _ => hP.1 rfl, fun e => (by cases e)⟩
    | false =>
      obtain ⟨τ1, v1, I1, P1, A1, N1, e1, e2, e3, e4, e5⟩ := hP.2 rfl
      have := and_run (B := B) (b := b) d hb hZ hk (g := 0) hrl hL (fun g' e => by cases e) ho htl h9 100 te τ1 v1 s1 i1 o1 I1 P1 A1 N1 (Nat.le_refl _) hpo hten e2 e3 y1 y3 y4 y5 e4
      rw [e1]
      exact this.lO e5
  | succ f ihf =>
    intro t0 nt s o inp out tc te t1 tend τ u2 I P A N hs hi hob hol ho ht hτ hpc hpb hpo htl h9 hS
    have hk1 := tlE_kind htl h9
    have hP := pip_run (B := B) (b := b) (P := P) (t1 := t1) (τ := τ) d hb hZ hk hrl hL ho hol hpo hk1 u2 hS hs hi ht hτ hpc hpb
    have hpk := pip_k (G := pG Z.2.1 100 r) hZ (grp_k hZ r) t0 nt hs hi hob hol
    unfold lsT
    generalize pipS Z (pG Z.2.1 100 r) (grpS Z r) t0 nt s inp out = F at hP hpk
    obtain ⟨bb, s1, i1, o1⟩ := F
    obtain ⟨y1, y2, y3, y4, y5⟩ := hpk
    dsimp only at y1 y2 y3 y4 y5
    have hten : te ≤ n := by
      obtain ⟨w', -, -, -, a4, a5⟩ := pC_inv hk.1 ht hpc
      have hb2 : ∀ (f t t' : Nat), t ≤ n → pB Z.2.1 100 (pG Z.2.1 100 r) f t = some t' → t' ≤ n := by
        intro f
        induction f with
        | zero => intro t t' _ e; cases e
        | succ f ih =>
          intro t t' ht e
          rw [pB] at e
          split at e
          · rename_i h4
            cases hq : pC Z.2.1 100 (pG Z.2.1 100 r) (t + 1) with
            | none => rw [hq] at e; cases e
            | some t2 =>
              rw [hq] at e
              have := hk.1.lt (t := t) (by omega)
              obtain ⟨w2, -, -, -, a4, a5⟩ := pC_inv hk.1 (by omega) hq
              exact ih _ _ a5 e
          · cases e; exact ht
      exact hb2 _ _ _ a5 hpb
    cases bb with
    | true => exact ⟨fun _ => hP.1 rfl, fun e => (by cases e)⟩
    | false =>
      obtain ⟨τ1, v1, I1, P1, A1, N1, e1, e2, e3, e4, e5⟩ := hP.2 rfl
      have := and_run (B := B) (b := b) d hb hZ hk (g := f + 1) hrl hL (fun g' e => by cases e; exact ihf) ho htl h9 100 te τ1 v1 s1 i1 o1 I1 P1 A1 N1 (Nat.le_refl _) hpo hten e2 e3 y1 y3 y4 y5 e4
      rw [e1]
      exact this.lO e5
/-- lists at every level -/
theorem lst_all (d : Nat) (hb : B.1.1 ≤ b) (hZ : okZ Z) (hk : tkR n Z.2.1 Z.2.2 fa) : ∀ r lv, r + lv = 4 → LST B b Z n fa d r lv := by
  intro r
  induction r with
  | zero =>
    intro lv hrl f
    exact lst_f d hb hZ hk hrl (fun r' e => by omega) f
  | succ r ih =>
    intro lv hrl f
    exact lst_f d hb hZ hk hrl (fun r' e => by cases e; exact ih (lv + 1) (by omega)) f
end
