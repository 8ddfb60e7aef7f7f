/-! ===== the twin: tool() ===== -/
/-- a tool's answer -/
def tlA (u : sO) : Int32 := if u.1 = true then -9 else nI u.2.1
/-- what a tool leaves -/
def tlP (pl : Nat) (o : Option Nat) (u : sO) (I : Nat → Int32) (A : Nat → Nat → Int32) (I' : Nat → Int32) (A' : Nat → Nat → Int32) (N' : Nat → Int64) : Prop :=
  fr [35, 36, 38, 39, 42, 43, 9] I I' ∧ fr [25, 26, 24, 27, 28, 1, 2, 3, 5] A A' ∧ twW u.2.2.2.1 A' N' ∧ I' 9 = nI u.2.2.2.2.1 ∧ (u.1 = false → u.2.1 = 0 → twE pl u.2.2.1 I' A') ∧ twIn o u.2.2.2.2.2 A' ∧ ∀ j, o ≠ some j → A' 24 j = A 24 j
theorem in_keep {o : Option Nat} {s : List Int32} {A A' : Nat → Nat → Int32} (h : twIn o s A) (h1 : A' 23 = A 23) (h2 : A' 24 = A 24) : twIn o s A' ∧ ∀ j, o ≠ some j → A' 24 j = A 24 j := by
  unfold twIn at h ⊢
  cases o with
  | none => exact ⟨h, fun j _ => by rw [h2]⟩
  | some i =>
    dsimp only at h ⊢
    rw [h1, h2]
    exact ⟨h, fun j _ => rfl⟩
theorem in_read {o : Option Nat} {s : List Int32} {A A' : Nat → Nat → Int32} (h : twIn o s A) (h1 : twOut o A A') : twIn o [] A' ∧ ∀ j, o ≠ some j → A' 24 j = A 24 j := by
  unfold twIn at h ⊢
  unfold twOut at h1
  cases o with
  | none =>
    dsimp only at h1
    exact ⟨rfl, fun j _ => by rw [h1]⟩
  | some i =>
    dsimp only at h h1 ⊢
    rw [h1]
    exact ⟨⟨h.1, ab_up_e _ _ _, rdl.nil, by decide⟩, fun j hj => ab_up_n _ _ (fun e => hj (by rw [e]))⟩
section
variable {B : ab_H} {b : Nat} {I : Nat → Int32} {P : Int64} {A : Nat → Nat → Int32} {N : Nat → Int64} {r : sT} {here lv : Nat} {o : Option Nat} {src : List Int32} {pl nl : Nat}
/-- nothing but fields of no account -/
theorem tlP_no (hK : twK r here lv o src pl nl I A N) {c : Nat} {I' : Nat → Int32} {A' : Nat → Nat → Int32} (h1 : fr [35, 36, 38, 39, 42, 43] I I') (h2 : fr [25, 26, 27, 28] A A') {x : List Int32} (hx : c = 0 → twE pl x I' A') : tlP pl o (false, c, x, r, here, src) I A I' A' N := by
  obtain ⟨k1, k2, k3, k4, k5, k6, k7⟩ := hK
  obtain ⟨i1, i2⟩ := in_keep k5 (h2 _ rfl) (h2 _ rfl)
  exact ⟨h1.mo rfl, h2.mo rfl, k1.fr h2 rfl, by rw [h1 _ rfl]; exact k2, fun _ e => hx e, i1, i2⟩
theorem tlP_rd (hK : twK r here lv o src pl nl I A N) {c : Nat} {I' : Nat → Int32} {A' : Nat → Nat → Int32} (h1 : fr [35, 36, 38, 39, 42, 43] I I') (h2 : fr [25, 26, 24, 27, 28] A A') (h3 : twOut o A A') {x : List Int32} (hx : c = 0 → twE pl x I' A') : tlP pl o (false, c, x, r, here, []) I A I' A' N := by
  obtain ⟨k1, k2, k3, k4, k5, k6, k7⟩ := hK
  obtain ⟨i1, i2⟩ := in_read k5 h3
  exact ⟨h1.mo rfl, h2.mo rfl, k1.fr h2 rfl, by rw [h1 _ rfl]; exact k2, fun _ e => hx e, i1, i2⟩
theorem twOut.tr {A A' A'' : Nat → Nat → Int32} (h : twOut o A A') (h2 : A'' 24 = A' 24) : twOut o A A'' := by
  unfold twOut at h ⊢
  cases o with
  | none => dsimp only at h ⊢; rw [h2]; exact h
  | some i => dsimp only at h ⊢; rw [h2]; exact h
theorem tl_wc (d : Nat) (hb : B.1.1 ≤ b) (ho : okW r here) (hp : pl ≤ 96) (hl : lv < 5) {n : List Int32} {ws : List (List Int32)} (hW : twWd (n :: ws) I A) (hK : twK r here lv o src pl nl I A N) (hE : twE pl [] I A) (u : sO) (hu : u = wcU r here src ws) :
    ∃ I' P' A' N', ab_cl gG true (d + 4) 113 [.inr (.inr (some b))] (TW B b I P A N) = some (some (.inl (tlA u)), TW B b I' P' A' N') ∧ tlP pl o u I A I' A' N' := by
  have h65 := hW.2.1
  rw [ent_113, bl_113_0, tw_i16, Option.bind_some, hW.1]
  obtain ⟨k1, k2, k3, k4, k5, k6, k7⟩ := id hK
  match ws, hu, hW, h65 with
  | [], hu, hW, h65 =>
    obtain ⟨I1, A1, e1, f1, f2, s1, f4⟩ := tw_reads_in (B := B) (b := b) (P := P) (N := N) (d + 2) hb (w := 1) (nw := 1) (Nat.le_refl _) (by omega) hW.1 k3 hl k4 k5
    obtain ⟨I2, A2, g1, g2, g3, g4⟩ := wc_go (B := B) (b := b) (P := P) (N := N) (d + 2) hb hp s1 (by rw [f1 _ rfl]; exact k6) (hE.tr (f1 _ rfl) (f1 _ rfl) (f2 _ rfl))
    rw [hu, show [n].length = 1 from rfl, if_neg (by decide), if_pos tw_isc, show ab_cl gG true (d + 3) 129 [.inr (.inr (some b)), .inl (1 : Int32)] (TW B b I P A N) = _ from e1, qb_c1s, Option.bind_some]
    dsimp only
    rw [if_neg (by decide)]
    exact ⟨I2, P, A2, N, g1, tlP_rd hK ((f1.mo rfl).tr (g2.mo rfl)) ((f2.mo rfl).tr (g3.mo rfl)) (f4.tr (g3 _ rfl)) (fun _ => g4)⟩
  | [w], hu, hW, h65 =>
    obtain ⟨a, w1, w2, w3, w4, w5⟩ := hW.2.2 1 (by simp)
    have hg : [n, w].getD 1 [] = w := rfl
    rw [hg] at w2 w3 w4 w5
    obtain ⟨I1, P1, A1, e1, f1, f2, f3⟩ := tw_reads_f (B := B) (b := b) (P := P) (N := N) d hb ho.1 k1 ho.2.2.2 ho.2.1 k2 hW.1 (by simp) (by simp) w1 w2 w3 w4 w5
    rw [show [n, w].length = 2 from rfl, if_neg (by decide), if_pos tw_isc, show ab_cl gG true (d + 3) 129 [.inr (.inr (some b)), .inl (1 : Int32)] (TW B b I P A N) = _ from e1, qb_c1s, Option.bind_some]
    cases hd : docS r here w with
    | none =>
      dsimp only
      have hu2 : u = (false, 1, [], r, here, src) := by rw [hu, wcU, hd]
      rw [if_pos rfl, hu2]
      exact ⟨I1, P1, A1, N, rfl, tlP_no hK (f1.mo rfl) (f2.mo rfl) (fun e => by cases e)⟩
    | some t =>
      dsimp only
      have hu2 : u = (false, 0, wcS t, r, here, src) := by rw [hu, wcU, hd]
      rw [if_neg (by decide), hu2]
      obtain ⟨I2, A2, g1, g2, g3, g4⟩ := wc_go (B := B) (b := b) (P := P1) (N := N) (d + 2) hb hp (f3 t hd) (by rw [f1 _ rfl]; exact k6) (hE.tr (f1 _ rfl) (f1 _ rfl) (f2 _ rfl))
      exact ⟨I2, P1, A2, N, g1, tlP_no hK ((f1.mo rfl).tr (g2.mo rfl)) ((f2.mo rfl).tr (g3.mo rfl)) (fun _ => g4)⟩
  | w :: w' :: ws, hu, hW, h65 =>
    rw [hu, if_pos ((ngt_2 (by omega)).mpr (by simp))]
    exact ⟨I, P, A, N, rfl, tlP_no hK fr.rf fr.rf (fun e => by cases e)⟩
theorem tl_grep (d : Nat) (hb : B.1.1 ≤ b) (ho : okW r here) (hp : pl ≤ 96) (hl : lv < 5) {n : List Int32} {ws : List (List Int32)} (hW : twWd (n :: ws) I A) (hK : twK r here lv o src pl nl I A N) (hE : twE pl [] I A) (u : sO) (hu : u = grepU r here src ws) :
    ∃ I' P' A' N', ab_cl gG true (d + 4) 114 [.inr (.inr (some b))] (TW B b I P A N) = some (some (.inl (tlA u)), TW B b I' P' A' N') ∧ tlP pl o u I A I' A' N' := by
  have h65 := hW.2.1
  rw [List.length_cons] at h65
  obtain ⟨k1, k2, k3, k4, k5, k6, k7⟩ := id hK
  -- behind the option: s0 is the pattern's number
  have go : ∀ (inv : Bool) (s0 : Nat) (rest : List (List Int32)), (n :: ws).drop s0 = rest → s0 < 3 → s0 ≤ ws.length + 1 → u = grepS r here src inv rest →
      ∃ I' P' A' N', ab_ev gG true (d + 3 + 1) 114 19 [some (.inr (.inr (some b))), some (.inl (b01 inv)), none, none, none, none, none, none, none, none, none, none, none] [.inl (nI s0)] (TW B b I P A N) = some (some (.inl (tlA u)), TW B b I' P' A' N') ∧ tlP pl o u I A I' A' N' := by
    intro inv s0 rest hrest hs0 hs1 hu
    have hlen : rest.length = ws.length + 1 - s0 := by rw [← hrest, List.length_drop, List.length_cons]
    rw [bl_114_19, tw_i16, Option.bind_some, hW.1, List.length_cons]
    match rest, hrest, hu, hlen with
    | [], hrest, hu, hlen =>
      rw [List.length_nil] at hlen
      rw [if_neg (nI_nlt (by omega) (by omega)), hu]
      exact ⟨I, P, A, N, rfl, tlP_no hK fr.rf fr.rf (fun e => by cases e)⟩
    | [p], hrest, hu, hlen =>
      rw [show [p].length = 1 from rfl] at hlen
      have hd2 := dropW (ws := n :: ws) (w := s0) (by rw [List.length_cons]; omega)
      rw [hrest] at hd2
      injection hd2 with hg _
      obtain ⟨a, w1, w2, w3, w4, w5⟩ := hW.2.2 s0 (by rw [List.length_cons]; omega)
      rw [← hg] at w2 w3 w4 w5
      obtain ⟨I1, A1, e1, f1, f2, s1, f4⟩ := tw_reads_in (B := B) (b := b) (P := P) (N := N) (d + 2) hb (w := s0 + 1) (nw := ws.length + 1) (by omega) (by omega) (by rw [hW.1, List.length_cons]) k3 hl k4 k5
      obtain ⟨I2, A2, g1, g2, g3, g4⟩ := grep_go (B := B) (b := b) (P := P) (N := N) (d + 2) hb hp (inv := inv) (w := s0) (by omega) (by rw [f2 _ rfl]; exact w1) (by rw [f2 _ rfl]; exact w2) (by rw [f2 _ rfl]; exact w3) w4 s1 (by rw [f1 _ rfl]; exact k6) (hE.tr (f1 _ rfl) (f1 _ rfl) (f2 _ rfl))
      rw [if_pos (nI_lt (by omega) (by omega)), Option.bind_some, show nI s0 + 2 = nI (s0 + 2) from nI_add s0 2, if_neg (nI_nlt (by omega) (by omega)), if_pos tw_isc, nI_1, e1, qb_c1s, Option.bind_some]
      dsimp only
      rw [if_neg (by decide), tw_r17, Option.bind_some, Option.bind_some, tw_a11 (by omega), Option.bind_some, tw_r18, Option.bind_some, Option.bind_some, tw_a12 (by omega), Option.bind_some, f2 _ rfl, f2 _ rfl, w1, w2, tw_r20]
      simp only [Option.bind_some, show ¬ ((1 : Int32) = 0) by decide, ↓reduceIte, nI_1]
      rw [hu]
      exact ⟨I2, P, A2, N, by
        rw [show tlA (grepS r here src inv [p]) = (if gany inv p (lnS [] src) = true then 0 else 1) from by
          unfold grepS tlA
          dsimp only
          rw [if_neg (by decide)]
          split <;> rfl]
        exact g1, tlP_rd hK ((f1.mo rfl).tr (g2.mo rfl)) ((f2.mo rfl).tr (g3.mo rfl)) (f4.tr (g3 _ rfl)) (fun _ => g4)⟩
    | [p, w], hrest, hu, hlen =>
      rw [show [p, w].length = 2 from rfl] at hlen
      have hd2 := dropW (ws := n :: ws) (w := s0) (by rw [List.length_cons]; omega)
      rw [hrest] at hd2
      injection hd2 with hg hr1
      have hd3 := dropW (ws := n :: ws) (w := s0 + 1) (by rw [List.length_cons]; omega)
      rw [← hr1] at hd3
      injection hd3 with hg3 _
      obtain ⟨a, w1, w2, w3, w4, w5⟩ := hW.2.2 s0 (by rw [List.length_cons]; omega)
      rw [← hg] at w2 w3 w4 w5
      obtain ⟨a', x1, x2, x3, x4, x5⟩ := hW.2.2 (s0 + 1) (by rw [List.length_cons]; omega)
      rw [← hg3] at x2 x3 x4 x5
      obtain ⟨I1, P1, A1, e1, f1, f2, f3⟩ := tw_reads_f (B := B) (b := b) (P := P) (N := N) d hb ho.1 k1 ho.2.2.2 ho.2.1 k2 hW.1 (by rw [List.length_cons]; omega) (by rw [List.length_cons]; omega) x1 x2 x3 x4 x5
      rw [if_pos (nI_lt (by omega) (by omega)), Option.bind_some, show nI s0 + 2 = nI (s0 + 2) from nI_add s0 2, if_neg (nI_nlt (by omega) (by omega)), if_pos tw_isc, nI_1, e1, qb_c1s, Option.bind_some]
      rw [hu]
      unfold grepS
      dsimp only
      cases hd : docS r here w with
      | none =>
        dsimp only
        rw [if_pos rfl]
        exact ⟨I1, P1, A1, N, rfl, tlP_no hK (f1.mo rfl) (f2.mo rfl) (fun e => by cases e)⟩
      | some t =>
        dsimp only
        obtain ⟨I2, A2, g1, g2, g3, g4⟩ := grep_go (B := B) (b := b) (P := P1) (N := N) (d + 2) hb hp (inv := inv) (w := s0) (by omega) (by rw [f2 _ rfl]; exact w1) (by rw [f2 _ rfl]; exact w2) (by rw [f2 _ rfl]; exact w3) w4 (f3 t hd) (by rw [f1 _ rfl]; exact k6) (hE.tr (f1 _ rfl) (f1 _ rfl) (f2 _ rfl))
        rw [if_neg (by decide), tw_r17, Option.bind_some, Option.bind_some, tw_a11 (by omega), Option.bind_some, tw_r18, Option.bind_some, Option.bind_some, tw_a12 (by omega), Option.bind_some, f2 _ rfl, f2 _ rfl, w1, w2, tw_r20]
        simp only [Option.bind_some, show ¬ ((1 : Int32) = 0) by decide, ↓reduceIte, nI_1]
        exact ⟨I2, P1, A2, N, by
          rw [show tlA (false, (if gany inv p (lnS [] t) = true then 0 else 1), gout inv p (lnS [] t), r, here, src) = (if gany inv p (lnS [] t) = true then 0 else 1) from by
            unfold tlA
            dsimp only
            rw [if_neg (by decide)]
            split <;> rfl]
          exact g1, tlP_no hK ((f1.mo rfl).tr (g2.mo rfl)) ((f2.mo rfl).tr (g3.mo rfl)) (fun _ => g4)⟩
    | p :: w :: w' :: rest, hrest, hu, hlen =>
      simp only [List.length_cons] at hlen
      rw [if_pos (nI_lt (by omega) (by omega)), Option.bind_some, show nI s0 + 2 = nI (s0 + 2) from nI_add s0 2, if_pos (nI_lt (by omega) (by omega)), hu]
      exact ⟨I, P, A, N, rfl, tlP_no hK fr.rf fr.rf (fun e => by cases e)⟩
  rw [ent_114, bl_114_0, tw_i16, Option.bind_some, hW.1, List.length_cons]
  cases ws with
  | nil =>
    rw [if_neg (show ¬ (1 : Int32) < nI (([] : List (List Int32)).length + 1) from by decide), if_pos rfl]
    exact go false 1 [] rfl (by omega) (by simp) hu
  | cons g ws =>
    obtain ⟨a, w1, w2, w3, w4, w5⟩ := hW.2.2 1 (by simp)
    have hg : (n :: g :: ws).getD 1 [] = g := rfl
    rw [hg] at w2 w3 w4 w5
    rw [List.length_cons] at h65
    have ew : ab_cl gG true (d + 2 + 1) 110 [.inr (.inr (some b)), .inl (1 : Int32)] (TW B b I P A N) = some (some (.inr (.inl (pk g))), TW B b I P A N) := tw_wordAs (w := 1) (d + 2) (by omega) w1 w2 w3 w4
    rw [if_pos ((ngt_1 (by rw [List.length_cons]; omega)).mpr (by rw [List.length_cons]; omega)), if_pos tw_isc, ew, qb_c2s, Option.bind_some]
    dsimp only
    by_cases hn : g = [45, 118]
    · rw [if_pos ((lcmp0 _ _).mpr ((pk_is w5 pk_v rfl (by decide) (by decide)).mpr hn)), if_neg (by decide)]
      refine go true 2 ws rfl (by omega) (by simp) ?_
      rw [hu]
      unfold grepU
      rw [if_pos (by rw [hn]; rfl)]
      rfl
    · rw [if_neg (fun e => hn ((pk_is w5 pk_v rfl (by decide) (by decide)).mp ((lcmp0 _ _).mp e))), if_pos rfl]
      refine go false 1 (g :: ws) rfl (by omega) (by simp) ?_
      have hh : ¬ (g :: ws).head? = some [45, 118] := fun e => hn (Option.some.inj e)
      rw [hu]
      unfold grepU
      rw [if_neg hh]
theorem tl_ls (d : Nat) (hb : B.1.1 ≤ b) (ho : okW r here) (hp : pl ≤ 96) {n : List Int32} {ws : List (List Int32)} (hW : twWd (n :: ws) I A) (hK : twK r here lv o src pl nl I A N) (hE : twE pl [] I A) (u : sO) (hu : u = lsU r here src ws) :
    ∃ I' P' A' N', ab_cl gG true (d + 3) 115 [.inr (.inr (some b))] (TW B b I P A N) = some (some (.inl (tlA u)), TW B b I' P' A' N') ∧ tlP pl o u I A I' A' N' := by
  have h65 := hW.2.1
  rw [ent_115, bl_115_0, tw_i16, Option.bind_some, hW.1]
  obtain ⟨k1, k2, k3, k4, k5, k6, k7⟩ := id hK
  have hup : ∀ k, k ≠ 42 → ab_up I 42 (nI here) k = I k := fun k hk => ab_up_n _ _ hk
  have f0 : fr [35, 36, 38, 39, 42, 43] I (ab_up I 42 (nI here)) := fr.up fr.rf _ rfl
  match ws, hu, hW, h65 with
  | [], hu, hW, h65 =>
    obtain ⟨I2, A2, g1, g2, g3, g4⟩ := ls_go (B := B) (b := b) (I := ab_up I 42 (nI here)) (P := P) (N := N) (d + 1) hb hp ho.1 k1 ho.2.1 (ab_up_e _ _ _) (by rw [hup _ (by decide)]; exact k6) (hE.tr (hup _ (by decide)) (hup _ (by decide)) rfl)
    rw [hu, show [n].length = 1 from rfl, if_neg (by decide), tw_i9, Option.bind_some, k2, tw_w42 hb, Option.bind_some, tw_i16, Option.bind_some, hup _ (by decide), hW.1, show [n].length = 1 from rfl, if_neg (by decide)]
    exact ⟨I2, P, A2, N, g1, tlP_no hK (f0.tr (g2.mo rfl)) (g3.mo rfl) (fun _ => g4)⟩
  | [w], hu, hW, h65 =>
    obtain ⟨a, w1, w2, w3, w4, w5⟩ := hW.2.2 1 (by simp)
    have hg : [n, w].getD 1 [] = w := rfl
    rw [hg] at w2 w3 w4 w5
    obtain ⟨I1, P1, e1, f1, t1, t2, t3⟩ := tw_follow (B := B) (b := b) (I := ab_up I 42 (nI here)) (P := P) d hb ho.1 k1 ho.2.1 (by rw [hup _ (by decide)]; exact k2) (w := 1) (by omega) w1 w2 w3 w4 w5
    rw [show [n, w].length = 2 from rfl, if_neg (by decide), tw_i9, Option.bind_some, k2, tw_w42 hb, Option.bind_some, tw_i16, Option.bind_some, hup _ (by decide), hW.1, show [n, w].length = 2 from rfl, if_pos (by decide), if_pos tw_isc, show ab_cl gG true (d + 2) 106 [.inr (.inr (some b)), .inl (1 : Int32)] (TW B b (ab_up I 42 (nI here)) P A N) = _ from e1, qb_c0s, Option.bind_some]
    have f2 := f0.tr (f1.mo rfl)
    cases hF : (folS r here w).1 with
    | none =>
      have hu2 : u = (false, 1, [], r, here, src) := by rw [hu, lsU, hF]
      rw [hF] at t1
      rw [hu2, bl_115_17, tw_i42, Option.bind_some, t1, if_pos (by decide)]
      exact ⟨I1, P1, A, N, rfl, tlP_no hK f2 fr.rf (fun e => by cases e)⟩
    | some x =>
      have hu2 : u = (false, 0, lsS r x, r, here, src) := by rw [hu, lsU, hF]
      rw [hF] at t1
      rw [hu2]
      obtain ⟨I2, A2, g1, g2, g3, g4⟩ := ls_go (B := B) (b := b) (I := I1) (P := P1) (N := N) (d + 1) hb hp ho.1 k1 ((fol_ok ho.1 ho.2.1 w).1 x hF) t1 (by rw [f2 _ rfl]; exact k6) (hE.tr (by rw [f1 _ rfl, hup _ (by decide)]) (by rw [f1 _ rfl, hup _ (by decide)]) rfl)
      exact ⟨I2, P1, A2, N, g1, tlP_no hK (f2.tr (g2.mo rfl)) (g3.mo rfl) (fun _ => g4)⟩
  | w :: w' :: ws, hu, hW, h65 =>
    rw [hu, if_pos ((ngt_2 (by omega)).mpr (by simp))]
    exact ⟨I, P, A, N, rfl, tlP_no hK fr.rf fr.rf (fun e => by cases e)⟩
theorem tl_mkdir (d : Nat) (hb : B.1.1 ≤ b) (ho : okW r here) (hnl : nl ≤ 12) {n : List Int32} {ws : List (List Int32)} (hW : twWd (n :: ws) I A) (hK : twK r here lv o src pl nl I A N) (hE : twE pl [] I A) (u : sO) (hu : u = mkU nl r here src ws) :
    ∃ I' P' A' N', ab_cl gG true (d + 3) 116 [.inr (.inr (some b))] (TW B b I P A N) = some (some (.inl (tlA u)), TW B b I' P' A' N') ∧ tlP pl o u I A I' A' N' := by
  have h65 := hW.2.1
  rw [ent_116, bl_116_0, tw_i16, Option.bind_some, hW.1]
  obtain ⟨k1, k2, k3, k4, k5, k6, k7⟩ := id hK
  match ws, hu, hW, h65 with
  | [], hu, hW, h65 =>
    rw [hu, show [n].length = 1 from rfl, if_neg (by decide)]
    exact ⟨I, P, A, N, rfl, tlP_no hK fr.rf fr.rf (fun e => by cases e)⟩
  | [w], hu, hW, h65 =>
    obtain ⟨a, w1, w2, w3, w4, w5⟩ := hW.2.2 1 (by simp)
    have hg : [n, w].getD 1 [] = w := rfl
    rw [hg] at w2 w3 w4 w5
    obtain ⟨I1, P1, e1, f1, t1, t2, t3⟩ := tw_follow (B := B) (b := b) (I := I) (P := P) d hb ho.1 k1 ho.2.1 k2 (w := 1) (by omega) w1 w2 w3 w4 w5
    rw [show [n, w].length = 2 from rfl, if_pos (by decide), if_pos tw_isc, show ab_cl gG true (d + 2) 106 [.inr (.inr (some b)), .inl (1 : Int32)] (TW B b I P A N) = _ from e1, qb_c0s, Option.bind_some, tw_i43, Option.bind_some, t2]
    have hfo := (fol_ok ho.1 ho.2.1 w).2
    cases hF : (folS r here w).2 with
    | none =>
      have hu2 : u = (false, 1, [], r, here, src) := by rw [hu, mkU, hF]
      rw [show oI (Option.map Prod.fst (none : Option (Nat × Int64))) = -1 from rfl, if_pos (by decide), hu2]
      exact ⟨I1, P1, A, N, rfl, tlP_no hK (f1.mo rfl) fr.rf (fun e => by cases e)⟩
    | some v =>
      obtain ⟨dd, m⟩ := v
      have hn := ho.1.n
      have hd := (hfo dd m hF).1
      rw [hF] at t2
      have t2 : I1 43 = nI dd := t2
      obtain ⟨m1, m2⟩ := tw_made (B := B) (b := b) (P := P1) (N := N) (d + 2) hb ho.1 k1 (by rw [f1 _ rfl]; exact k7) hnl true t2
      rw [show oI (Option.map Prod.fst (some (dd, m))) = nI dd from rfl, if_neg (nI_pos (by omega)), if_pos tw_isc]
      have hu2 : u = if nl ≤ sN r then (true, 0, [], r, here, src) else (false, 0, [], sNew r true dd m, here, src) := by rw [hu, mkU, hF]
      rw [hu2]
      by_cases hf : nl ≤ sN r
      · rw [if_pos hf, show ab_cl gG true (d + 2) 107 [.inr (.inr (some b)), .inl (1 : Int32)] (TW B b I1 P1 A N) = _ from m1 hf, qb_c1s, Option.bind_some]
        dsimp only
        rw [if_pos (by decide)]
        refine ⟨I1, P1, A, N, rfl, f1.mo rfl, fr.rf, k1, by rw [f1 _ rfl]; exact k2, fun e => (by cases e), in_keep k5 rfl rfl⟩
      · obtain ⟨A2, N2, e2, g1, g2⟩ := m2 (by omega)
        rw [if_neg hf, show ab_cl gG true (d + 2) 107 [.inr (.inr (some b)), .inl (1 : Int32)] (TW B b I1 P1 A N) = _ from e2, qb_c1s, Option.bind_some]
        dsimp only
        rw [if_neg (nI_pos (by omega))]
        rw [t3 dd m hF] at g2
        refine ⟨I1, P1, A2, N2, rfl, f1.mo rfl, g1.mo rfl, g2, by rw [f1 _ rfl]; exact k2, fun _ _ => hE.tr (f1 _ rfl) (f1 _ rfl) (g1 _ rfl), in_keep k5 (g1 _ rfl) (g1 _ rfl)⟩
  | w :: w' :: ws, hu, hW, h65 =>
    rw [hu, if_neg (by rw [neq_2 (by omega)]; simp)]
    exact ⟨I, P, A, N, rfl, tlP_no hK fr.rf fr.rf (fun e => by cases e)⟩
theorem tl_cd (d : Nat) (hb : B.1.1 ≤ b) (ho : okW r here) {n : List Int32} {ws : List (List Int32)} (hW : twWd (n :: ws) I A) (hK : twK r here lv o src pl nl I A N) (hE : twE pl [] I A) (u : sO) (hu : u = cdU r here src ws) :
    ∃ I' P' A' N', ab_cl gG true (d + 3) 117 [.inr (.inr (some b))] (TW B b I P A N) = some (some (.inl (tlA u)), TW B b I' P' A' N') ∧ tlP pl o u I A I' A' N' := by
  have h65 := hW.2.1
  rw [ent_117, bl_117_0, tw_i16, Option.bind_some, hW.1]
  obtain ⟨k1, k2, k3, k4, k5, k6, k7⟩ := id hK
  have hup : ∀ k, k ≠ 42 → ab_up I 42 0 k = I k := fun k hk => ab_up_n _ _ hk
  have f0 : fr [35, 36, 38, 39, 42, 43] I (ab_up I 42 0) := fr.up fr.rf _ rfl
  have hn := ho.1.n
  -- it goes there
  have good : ∀ (I1 : Nat → Int32) (P1 : Int64) (x : Nat), fr [35, 36, 38, 39, 42, 43] I I1 → I1 35 = I 35 → I1 36 = I 36 → I1 42 = nI x → x ≤ sN r → sD r x = true → u = (false, 0, [], r, x, src) → ∃ I' P' A' N', ab_ev gG true (d + 2 + 1) 117 16 [some (.inr (.inr (some b)))] [] (TW B b I1 P1 A N) = some (some (.inl (tlA u)), TW B b I' P' A' N') ∧ tlP pl o u I A I' A' N' := by
    intro I1 P1 x hf h35 h36 hx hxn hD hu
    obtain ⟨d1, -⟩ := k1.2 x hxn
    rw [bl_117_16, tw_i42, Option.bind_some, hx, if_neg (nI_pos (by omega)), tw_r4, Option.bind_some, Option.bind_some, Option.bind_some, tw_a2 (by omega), Option.bind_some, d1, hD, if_neg (by decide), Option.bind_some, tw_w9 hb, Option.bind_some, hu]
    refine ⟨_, P1, A, N, rfl, (hf.mo rfl).up _ rfl, fr.rf, k1, ab_up_e _ _ _, fun _ _ => hE.tr (by rw [ab_up_n _ _ (by decide)]; exact h35) (by rw [ab_up_n _ _ (by decide)]; exact h36) rfl, in_keep k5 rfl rfl⟩
  match ws, hu, hW, h65 with
  | [], hu, hW, h65 =>
    rw [show [n].length = 1 from rfl, if_neg (by decide), tw_w42 hb, Option.bind_some, tw_i16, Option.bind_some, hup _ (by decide), hW.1, show [n].length = 1 from rfl, if_neg (by decide)]
    exact good _ P 0 f0 (hup _ (by decide)) (hup _ (by decide)) (ab_up_e _ _ _) (Nat.zero_le _) ho.1.2.1 hu
  | [w], hu, hW, h65 =>
    obtain ⟨a, w1, w2, w3, w4, w5⟩ := hW.2.2 1 (by simp)
    have hg : [n, w].getD 1 [] = w := rfl
    rw [hg] at w2 w3 w4 w5
    obtain ⟨I1, P1, e1, f1, t1, t2, t3⟩ := tw_follow (B := B) (b := b) (I := ab_up I 42 0) (P := P) d hb ho.1 k1 ho.2.1 (by rw [hup _ (by decide)]; exact k2) (w := 1) (by omega) w1 w2 w3 w4 w5
    have f2 := f0.tr (f1.mo rfl)
    rw [show [n, w].length = 2 from rfl, if_neg (by decide), tw_w42 hb, Option.bind_some, tw_i16, Option.bind_some, hup _ (by decide), hW.1, show [n, w].length = 2 from rfl, if_pos (by decide), if_pos tw_isc, show ab_cl gG true (d + 2) 106 [.inr (.inr (some b)), .inl (1 : Int32)] (TW B b (ab_up I 42 0) P A N) = _ from e1, qb_c0s, Option.bind_some]
    rw [cdU] at hu
    cases hF : (folS r here w).1 with
    | none =>
      rw [hF] at t1 hu
      dsimp only at hu
      rw [bl_117_16, tw_i42, Option.bind_some, t1, if_pos (by decide), hu]
      exact ⟨I1, P1, A, N, rfl, tlP_no hK f2 fr.rf (fun e => by cases e)⟩
    | some x =>
      rw [hF] at t1 hu
      have hx := (fol_ok ho.1 ho.2.1 w).1 x hF
      obtain ⟨d1, -⟩ := k1.2 x hx
      dsimp only at hu
      cases hD : sD r x with
      | true =>
        rw [hD, if_pos rfl] at hu
        exact good I1 P1 x f2 (by rw [f1 _ rfl, hup _ (by decide)]) (by rw [f1 _ rfl, hup _ (by decide)]) t1 hx hD hu
      | false =>
        rw [hD, if_neg (by decide)] at hu
        rw [bl_117_16, tw_i42, Option.bind_some, t1, show oI (some x) = nI x from rfl, if_neg (nI_pos (by omega)), tw_r4, Option.bind_some, Option.bind_some, Option.bind_some, tw_a2 (by omega), Option.bind_some, d1, hD, if_pos b01_f, hu]
        exact ⟨I1, P1, A, N, rfl, tlP_no hK f2 fr.rf (fun e => by cases e)⟩
  | w :: w' :: ws, hu, hW, h65 =>
    rw [hu, if_pos ((ngt_2 (by omega)).mpr (by simp))]
    exact ⟨I, P, A, N, rfl, tlP_no hK fr.rf fr.rf (fun e => by cases e)⟩
/-- tool() -/
theorem tw_tool (d : Nat) (hb : B.1.1 ≤ b) (ho : okW r here) (hp : pl ≤ 96) (hnl : nl ≤ 12) (hl : lv < 5) {a : List (List Int32)} (ha : a ≠ []) (hW : twWd a I A) (hK : twK r here lv o src pl nl I A N) (hE : twE pl [] I A) :
    ∃ I' P' A' N', ab_cl gG true (d + 5) 92 [.inr (.inr (some b))] (TW B b I P A N) = some (some (.inl (tlA (toolS nl r here src a))), TW B b I' P' A' N') ∧ tlP pl o (toolS nl r here src a) I A I' A' N' := by
  cases a with
  | nil => exact absurd rfl ha
  | cons n ws =>
    obtain ⟨k1, k2, k3, k4, k5, k6, k7⟩ := id hK
    obtain ⟨a0, w1, w2, w3, w4, w5⟩ := hW.2.2 0 (by simp)
    have hg : (n :: ws).getD 0 [] = n := rfl
    rw [hg] at w2 w3 w4 w5
    have ew : ab_cl gG true (d + 4) 110 [.inr (.inr (some b)), .inl (0 : Int32)] (TW B b I P A N) = some (some (.inr (.inl (pk n))), TW B b I P A N) := tw_wordAs (w := 0) (d + 3) (by omega) w1 w2 w3 w4
    rw [ent_92, bl_92_0, if_pos tw_isc, ew, qb_c2s, Option.bind_some]
    dsimp only
    rw [if_pos tw_isc]
    simp only [lcmp0]
    unfold toolS
    dsimp only
    have c1 : pk n = 28538272837795840 ↔ n = [101, 99, 104, 111] := pk_is w5 (by decide) rfl (by decide) (by decide)
    have c2 : pk n = 27973173538455552 ↔ n = [99, 97, 116] := pk_is w5 (by decide) rfl (by decide) (by decide)
    have c3 : pk n = 33604373879717888 ↔ n = [119, 99] := pk_is w5 (by decide) rfl (by decide) (by decide)
    have c4 : pk n = 29117702597509120 ↔ n = [103, 114, 101, 112] := pk_is w5 (by decide) rfl (by decide) (by decide)
    have c5 : pk n = 30525741321945088 ↔ n = [108, 115] := pk_is w5 (by decide) rfl (by decide) (by decide)
    have c6 : pk n = 30798851471441920 ↔ n = [109, 107, 100, 105, 114] := pk_is w5 (by decide) rfl (by decide) (by decide)
    have c7 : pk n = 27975973857132544 ↔ n = [99, 100] := pk_is w5 (by decide) rfl (by decide) (by decide)
    simp only [c1, c2, c3, c4, c5, c6, c7]
    by_cases h1 : n = [101, 99, 104, 111]
    · rw [if_pos h1, if_pos h1]
      obtain ⟨I', A', e1, e2, e3, e4⟩ := tw_echo (B := B) (b := b) (P := P) (N := N) (d + 2) hb hp hW k6 hE
      rw [e1, qb_c1s, Option.bind_some]
      exact ⟨I', P, A', N, rfl, tlP_no hK (e2.mo rfl) (e3.mo rfl) (fun _ => e4)⟩
    rw [if_neg h1, if_neg h1]
    by_cases h2 : n = [99, 97, 116]
    · rw [if_pos h2, if_pos h2]
      cases ws with
      | nil =>
        obtain ⟨I', A', e1, e2, e3, e4, e5⟩ := tw_cat0 (B := B) (b := b) (P := P) (N := N) (d + 2) hb hp hl hW hK hE
        rw [if_pos tw_isc, e1, qb_c1s, Option.bind_some]
        exact ⟨I', P, A', N, rfl, tlP_rd hK (e2.mo rfl) (e3.mo rfl) e5 (fun _ => e4)⟩
      | cons g ws =>
        obtain ⟨I', P', A', e1, e2, e3, e4⟩ := tw_cat (B := B) (b := b) (P := P) (N := N) d hb ho hp hW k1 k2 k6 hE
        rw [if_pos tw_isc, e1, qb_c1s, Option.bind_some]
        unfold catU
        dsimp only
        cases hc : catS r here (g :: ws) with
        | none => exact ⟨I', P', A', N, rfl, tlP_no hK (e2.mo rfl) (e3.mo rfl) (fun e => by cases e)⟩
        | some t => exact ⟨I', P', A', N, rfl, tlP_no hK (e2.mo rfl) (e3.mo rfl) (fun _ => e4 t hc)⟩
    rw [if_neg h2, if_neg h2]
    by_cases h3 : n = [119, 99]
    · rw [if_pos h3, if_pos h3]
      obtain ⟨I', P', A', N', e1, e2⟩ := tl_wc (B := B) (b := b) (P := P) d hb ho hp hl hW hK hE _ rfl
      rw [if_pos tw_isc, e1, qb_c1s, Option.bind_some]
      exact ⟨I', P', A', N', rfl, e2⟩
    rw [if_neg h3, if_neg h3]
    by_cases h4 : n = [103, 114, 101, 112]
    · rw [if_pos h4, if_pos h4]
      obtain ⟨I', P', A', N', e1, e2⟩ := tl_grep (B := B) (b := b) (P := P) d hb ho hp hl hW hK hE _ rfl
      rw [if_pos tw_isc, e1, qb_c1s, Option.bind_some]
      exact ⟨I', P', A', N', rfl, e2⟩
    rw [if_neg h4, if_neg h4]
    by_cases h5 : n = [108, 115]
    · rw [if_pos h5, if_pos h5]
      obtain ⟨I', P', A', N', e1, e2⟩ := tl_ls (B := B) (b := b) (P := P) (d + 1) hb ho hp hW hK hE _ rfl
      rw [if_pos tw_isc, e1, qb_c1s, Option.bind_some]
      exact ⟨I', P', A', N', rfl, e2⟩
    rw [if_neg h5, if_neg h5]
    by_cases h6 : n = [109, 107, 100, 105, 114]
    · rw [if_pos h6, if_pos h6]
      obtain ⟨I', P', A', N', e1, e2⟩ := tl_mkdir (B := B) (b := b) (P := P) (d + 1) hb ho hnl hW hK hE _ rfl
      rw [if_pos tw_isc, e1, qb_c1s, Option.bind_some]
      exact ⟨I', P', A', N', rfl, e2⟩
    rw [if_neg h6, if_neg h6]
    by_cases h7 : n = [99, 100]
    · rw [if_pos h7, if_pos h7]
      obtain ⟨I', P', A', N', e1, e2⟩ := tl_cd (B := B) (b := b) (P := P) (d + 1) hb ho hW hK hE _ rfl
      rw [if_pos tw_isc, e1, qb_c1s, Option.bind_some]
      exact ⟨I', P', A', N', rfl, e2⟩
    rw [if_neg h7, if_neg h7]
    exact ⟨I, P, A, N, rfl, tlP_no hK fr.rf fr.rf (fun e => by cases e)⟩
end
