/-! ===== the twin: tools ===== -/
/-- the command's words in the twin's arrays -/
def twWd (ws : List (List Int32)) (I : Nat → Int32) (A : Nat → Nat → Int32) : Prop := I 16 = nI ws.length ∧ ws.length < 65 ∧ ∀ w, w < ws.length → ∃ a, A 11 w = nI a ∧ A 12 w = nI (a + (ws.getD w []).length) ∧ rdl (A 13) a (ws.getD w []) ∧ a + (ws.getD w []).length ≤ 200 ∧ okl (ws.getD w [])
theorem twWd.cg {ws : List (List Int32)} {I I' : Nat → Int32} {A A' : Nat → Nat → Int32} (h : twWd ws I A) (h1 : I' 16 = I 16) (h2 : A' 11 = A 11) (h3 : A' 12 = A 12) (h4 : A' 13 = A 13) : twWd ws I' A' := by
  unfold twWd
  rw [h1, h2, h3, h4]
  exact h
/-- the tree, here, the level, the input, the limits -/
def twK (r : sT) (here lv : Nat) (o : Option Nat) (src : List Int32) (pl nl : Nat) (I : Nat → Int32) (A : Nat → Nat → Int32) (N : Nat → Int64) : Prop := twW r A N ∧ I 9 = nI here ∧ I 21 = nI lv ∧ A 15 lv = oI o ∧ twIn o src A ∧ I 2 = nI pl ∧ I 0 = nI nl
/-- what holds of tree and here -/
def okW (r : sT) (here : Nat) : Prop := okT r ∧ here ≤ sN r ∧ sD r here = true ∧ ∀ x, x ≤ sN r → (sX r x).length ≤ 160
theorem twK.fr {r : sT} {here lv : Nat} {o : Option Nat} {src : List Int32} {pl nl : Nat} {I I' : Nat → Int32} {A A' : Nat → Nat → Int32} {N : Nat → Int64} (h : twK r here lv o src pl nl I A N) {S T : List Nat} (hI : fr S I I') (hA : fr T A A') (hS : S.all (fun k => !([0, 2, 9, 21] : List Nat).contains k) = true) (hT : T.all (fun k => !([1, 2, 3, 5, 6, 15, 23, 24] : List Nat).contains k) = true) : twK r here lv o src pl nl I' A' N := by
  have eI : ∀ k, ([0, 2, 9, 21] : List Nat).contains k = true → I' k = I k := fun k hk => hI k (by
    cases hc : S.contains k with
    | false => rfl
    | true =>
      rw [List.all_eq_true] at hS
      have := hS k (List.contains_iff_mem.mp hc)
      rw [hk] at this
      cases this)
  have eA : ∀ k, ([1, 2, 3, 5, 6, 15, 23, 24] : List Nat).contains k = true → A' k = A k := fun k hk => hA k (by
    cases hc : T.contains k with
    | false => rfl
    | true =>
      rw [List.all_eq_true] at hT
      have := hT k (List.contains_iff_mem.mp hc)
      rw [hk] at this
      cases this)
  obtain ⟨h1, h2, h3, h4, h5, h6, h7⟩ := h
  refine ⟨?_, by rw [eI _ rfl]; exact h2, by rw [eI _ rfl]; exact h3, by rw [eA _ rfl]; exact h4, ?_, by rw [eI _ rfl]; exact h6, by rw [eI _ rfl]; exact h7⟩
  · refine ⟨fun x hx => ?_, fun x hx => ?_⟩
    · rw [eA _ rfl]; exact h1.1 x hx
    · rw [eA _ rfl, eA _ rfl, eA _ rfl, eA _ rfl]; exact h1.2 x hx
  · unfold twIn at h5 ⊢
    cases o with
    | none => exact h5
    | some i =>
      dsimp only at h5 ⊢
      rw [eA _ rfl, eA _ rfl]
      exact h5
/-- each word behind a blank -/
def jrS : List (List Int32) → List Int32
  | [] => []
  | w :: l => 32 :: (w ++ jrS l)
theorem joinS_c (w : List Int32) : ∀ l, joinS (w :: l) = w ++ jrS l := by
  intro l
  induction l generalizing w with
  | nil => rw [joinS, jrS, List.append_nil]
  | cons v l ih => rw [joinS, ih v, jrS]
theorem dropW {ws : List (List Int32)} {w : Nat} (h : w < ws.length) : ws.drop w = ws.getD w [] :: ws.drop (w + 1) := by
  rw [List.getD_eq_getElem?_getD, List.getElem?_eq_getElem h]
  exact List.drop_eq_getElem_cons h
section
variable {B : ab_H} {b : Nat} {I : Nat → Int32} {P : Int64} {A : Nat → Nat → Int32} {N : Nat → Int64}
/-- the letters of a word are put out -/
theorem ech_w (d : Nat) (hb : B.1.1 ≤ b) {pl : Nat} (hp : pl ≤ 96) (v1 v2 : Int32) {w e : Nat} (hw : w < 65) (he : e ≤ 200) : ∀ (g : List Int32) (k : Nat) (I : Nat → Int32) (A : Nat → Nat → Int32) (l : List Int32), k + g.length = e → A 12 w = nI e → rdl (A 13) k g → I 2 = nI pl → twE pl l I A →
    ∃ I' A' u4, ab_ev gG true (d + 1) 111 38 [some (.inr (.inr (some b))), some (.inl v1), some (.inl v2), some (.inl (nI w)), some (.inl (nI k))] [] (TW B b I P A N) = ab_ev gG true (d + 1) 111 22 [some (.inr (.inr (some b))), some (.inl v1), some (.inl v2), some (.inl (nI (w + 1))), u4] [] (TW B b I' P A' N) ∧ fr [35, 36] I I' ∧ fr [25] A A' ∧ twE pl (l ++ g) I' A' := by
  intro g
  induction g with
  | nil =>
    intro k I A l hk hto hr hpl hE
    rw [List.length_nil] at hk
    refine ⟨I, A, some (.inl (nI k)), ?_, fr.rf, fr.rf, by rw [List.append_nil]; exact hE⟩
    rw [bl_111_38, tw_r18, Option.bind_some, Option.bind_some, tw_a12 hw, Option.bind_some, hto, if_neg (nI_nlt (by omega) (by omega)), nI_1]
  | cons c g ih =>
    intro k I A l hk hto hr hpl hE
    rw [List.length_cons] at hk
    obtain ⟨I1, A1, a1, a2, a3, a4⟩ := tw_emit (P := P) (N := N) d hb hpl hp hE c
    obtain ⟨I2, A2, u4, b1, b2, b3, b4⟩ := ih (k + 1) I1 A1 _ (by omega) (by rw [a3 _ rfl]; exact hto) (by rw [a3 _ rfl]; exact hr.tl) (by rw [a2 _ rfl]; exact hpl) a4
    refine ⟨I2, A2, u4, ?_, a2.tr b2, a3.tr b3, ?_⟩
    · rw [bl_111_38, tw_r18, Option.bind_some, Option.bind_some, tw_a12 hw, Option.bind_some, hto, if_pos (nI_lt (by omega) (by omega)), tw_r20, Option.bind_some, Option.bind_some, tw_a13 (by omega), Option.bind_some, if_pos tw_isc, hr.hd, a1, qb_c0s, Option.bind_some, nI_1]
      exact b1
    · rw [List.append_assoc] at b4
      exact b4
theorem ech_end (d : Nat) (hb : B.1.1 ≤ b) {pl : Nat} (hp : pl ≤ 96) (bare : Bool) (v2 : Int32) {w : Nat} {ws : List (List Int32)} (hw : ws.length ≤ w) (hw2 : w < 1000) (u4 : Option ab_V) {l : List Int32} (hI : I 16 = nI ws.length) (hpl : I 2 = nI pl) (hE : twE pl l I A) :
    ∃ I' A', ab_ev gG true (d + 1) 111 22 [some (.inr (.inr (some b))), some (.inl (b01 bare)), some (.inl v2), some (.inl (nI w)), u4] [] (TW B b I P A N) = some (some (.inl 0), TW B b I' P A' N) ∧ fr [35, 36] I I' ∧ fr [25] A A' ∧ twE pl (l ++ (if bare = true then [] else [10])) I' A' := by
  cases bare with
  | true =>
    refine ⟨I, A, ?_, fr.rf, fr.rf, by rw [if_pos rfl, List.append_nil]; exact hE⟩
    rw [bl_111_22, tw_i16, Option.bind_some, hI, if_neg (nI_nlt hw (by omega)), if_neg (by decide)]
  | false =>
    obtain ⟨I1, A1, a1, a2, a3, a4⟩ := tw_emit (P := P) (N := N) d hb hpl hp hE 10
    refine ⟨I1, A1, ?_, a2, a3, a4⟩
    rw [bl_111_22, tw_i16, Option.bind_some, hI, if_neg (nI_nlt hw (by omega)), if_pos b01_f, if_pos tw_isc, a1, qb_c0s, Option.bind_some]
theorem ech_lp (d : Nat) (hb : B.1.1 ≤ b) {pl : Nat} (hp : pl ≤ 96) (bare : Bool) {f : Nat} {ws : List (List Int32)} : ∀ (rest : List (List Int32)) (w : Nat) (I : Nat → Int32) (A : Nat → Nat → Int32) (l : List Int32) (u4 : Option ab_V), f < w → w + rest.length = ws.length → ws.drop w = rest → twWd ws I A → I 2 = nI pl → twE pl l I A →
    ∃ I' A', ab_ev gG true (d + 1) 111 22 [some (.inr (.inr (some b))), some (.inl (b01 bare)), some (.inl (nI f)), some (.inl (nI w)), u4] [] (TW B b I P A N) = some (some (.inl 0), TW B b I' P A' N) ∧ fr [35, 36] I I' ∧ fr [25] A A' ∧ twE pl (l ++ (jrS rest ++ (if bare = true then [] else [10]))) I' A' := by
  intro rest
  induction rest with
  | nil =>
    intro w I A l u4 hf hw hd hW hpl hE
    rw [List.length_nil] at hw
    have := hW.2.1
    exact ech_end d hb hp bare _ (by omega) (by omega) u4 hW.1 hpl hE
  | cons g rest ih =>
    intro w I A l u4 hf hw hd hW hpl hE
    rw [List.length_cons] at hw
    have h65 := hW.2.1
    have hd2 := dropW (ws := ws) (w := w) (by omega)
    rw [hd] at hd2
    injection hd2 with hg hrest
    obtain ⟨I1, A1, a1, a2, a3, a4⟩ := tw_emit (P := P) (N := N) d hb hpl hp hE 32
    have hW1 : twWd ws I1 A1 := hW.cg (a2 _ rfl) (a3 _ rfl) (a3 _ rfl) (a3 _ rfl)
    obtain ⟨a, w1, w2, w3, w4, -⟩ := hW1.2.2 w (by omega)
    rw [← hg] at w2 w3 w4
    obtain ⟨I2, A2, v4, b1, b2, b3, b4⟩ := ech_w (B := B) (b := b) (P := P) (N := N) d hb hp (b01 bare) (nI f) (w := w) (by omega) w4 g a I1 A1 _ rfl w2 w3 (by rw [a2 _ rfl]; exact hpl) a4
    obtain ⟨I3, A3, c1, c2, c3, c4⟩ := ih (w + 1) I2 A2 _ v4 (by omega) (by omega) hrest.symm (hW1.cg (b2 _ rfl) (b3 _ rfl) (b3 _ rfl) (b3 _ rfl)) (by rw [b2 _ rfl, a2 _ rfl]; exact hpl) b4
    refine ⟨I3, A3, ?_, (a2.tr b2).tr c2, (a3.tr b3).tr c3, ?_⟩
    · rw [bl_111_22, tw_i16, Option.bind_some, hW.1, if_pos (nI_lt (by omega) (by omega)), if_pos (nI_lt hf (by omega)), if_pos tw_isc, a1, qb_c0s, Option.bind_some, tw_r17, Option.bind_some, Option.bind_some, tw_a11 (by omega), Option.bind_some, w1]
      exact b1.trans c1
    · rw [jrS]
      rw [List.append_assoc, List.append_assoc] at c4
      simpa only [List.append_assoc, List.cons_append, List.nil_append] using c4
/-- all words from f on are put out -/
theorem ech_all (d : Nat) (hb : B.1.1 ≤ b) {pl : Nat} (hp : pl ≤ 96) (bare : Bool) {f : Nat} {ws : List (List Int32)} (hf : f < 1000) (hW : twWd ws I A) (hpl : I 2 = nI pl) (hE : twE pl [] I A) :
    ∃ I' A', ab_ev gG true (d + 1) 111 22 [some (.inr (.inr (some b))), some (.inl (b01 bare)), some (.inl (nI f)), some (.inl (nI f)), none] [] (TW B b I P A N) = some (some (.inl 0), TW B b I' P A' N) ∧ fr [35, 36] I I' ∧ fr [25] A A' ∧ twE pl (joinS (ws.drop f) ++ (if bare = true then [] else [10])) I' A' := by
  have h65 := hW.2.1
  by_cases h : f < ws.length
  · rw [dropW h, joinS_c]
    obtain ⟨a, w1, w2, w3, w4, -⟩ := hW.2.2 f h
    obtain ⟨I2, A2, v4, b1, b2, b3, b4⟩ := ech_w (B := B) (b := b) (P := P) (N := N) d hb hp (b01 bare) (nI f) (w := f) (by omega) w4 (ws.getD f []) a I A _ rfl w2 w3 hpl hE
    obtain ⟨I3, A3, c1, c2, c3, c4⟩ := ech_lp (B := B) (b := b) (P := P) (N := N) d hb hp bare (f := f) (ws.drop (f + 1)) (f + 1) I2 A2 _ v4 (by omega) (by rw [List.length_drop]; omega) rfl (hW.cg (b2 _ rfl) (b3 _ rfl) (b3 _ rfl) (b3 _ rfl)) (by rw [b2 _ rfl]; exact hpl) b4
    refine ⟨I3, A3, ?_, b2.tr c2, b3.tr c3, ?_⟩
    · rw [bl_111_22, tw_i16, Option.bind_some, hW.1, if_pos (nI_lt h (by omega)), if_neg (nI_nlt (Nat.le_refl _) (by omega)), tw_r17, Option.bind_some, Option.bind_some, tw_a11 (by omega), Option.bind_some, w1]
      exact b1.trans c1
    · rw [List.append_assoc]
      exact c4
  · rw [List.drop_eq_nil_of_le (by omega)]
    exact ech_end d hb hp bare _ (by omega) (by omega) none hW.1 hpl hE
theorem pk_n : pk [45, 110] = 12787320231034880 := by decide
theorem pk_v : pk [45, 118] = 12796116324057088 := by decide
theorem okl_d {l : List Int32} (h : l.all (fun c => decide (1 ≤ c.toInt ∧ c.toInt ≤ 126)) = true) : okl l := fun c hc => by
  rw [List.all_eq_true] at h
  show 1 ≤ c.toInt ∧ c.toInt ≤ 126
  exact of_decide_eq_true (h c hc)
theorem pk_is {l m : List Int32} {x : Int64} (hl : okl l) (hx : pk m = x) (hm : m.all (fun c => decide (1 ≤ c.toInt ∧ c.toInt ≤ 126)) = true) (h7 : m.length ≤ 7) (h0 : m ≠ []) : pk l = x ↔ l = m := by
  rw [← hx]
  exact ⟨fun e => pk_inj hl (okl_d hm) h7 h0 e, fun e => by rw [e]⟩
/-- echo -/
theorem tw_echo (d : Nat) (hb : B.1.1 ≤ b) {pl : Nat} (hp : pl ≤ 96) {n : List Int32} {ws : List (List Int32)} (hW : twWd (n :: ws) I A) (hpl : I 2 = nI pl) (hE : twE pl [] I A) :
    ∃ I' A', ab_cl gG true (d + 2) 111 [.inr (.inr (some b))] (TW B b I P A N) = some (some (.inl 0), TW B b I' P A' N) ∧ fr [35, 36] I I' ∧ fr [25] A A' ∧ twE pl (echoS ws) I' A' := by
  have h65 := hW.2.1
  rw [List.length_cons] at h65
  rw [ent_111, bl_111_0, tw_i16, Option.bind_some, hW.1, List.length_cons]
  have e12 : ab_ev gG true (d + 1 + 1) 111 12 [some (.inr (.inr (some b))), none, none, none, none] [] (TW B b I P A N) = ab_ev gG true (d + 1 + 1) 111 22 [some (.inr (.inr (some b))), some (.inl (b01 false)), some (.inl (nI 1)), some (.inl (nI 1)), none] [] (TW B b I P A N) := by
    rw [bl_111_12, if_pos rfl]
    rfl
  have base : ws.head? ≠ some [45, 110] → ∃ I' A', ab_ev gG true (d + 1 + 1) 111 12 [some (.inr (.inr (some b))), none, none, none, none] [] (TW B b I P A N) = some (some (.inl 0), TW B b I' P A' N) ∧ fr [35, 36] I I' ∧ fr [25] A A' ∧ twE pl (echoS ws) I' A' := fun hne => by
    rw [e12]
    obtain ⟨I', A', e1, e2, e3, e4⟩ := ech_all (B := B) (b := b) (P := P) (N := N) (d + 1) hb hp false (f := 1) (by omega) hW hpl hE
    refine ⟨I', A', e1, e2, e3, ?_⟩
    have : echoS ws = joinS ws ++ [10] := by
      unfold echoS
      split
      · exact absurd rfl hne
      · rfl
    rw [this]
    exact e4
  cases ws with
  | nil =>
    rw [if_neg (show ¬ (1 : Int32) < nI (([] : List (List Int32)).length + 1) from by decide)]
    exact base (by simp)
  | cons g ws =>
    obtain ⟨a, w1, w2, w3, w4, w5⟩ := hW.2.2 1 (by simp)
    have hg : (n :: g :: ws).getD 1 [] = g := rfl
    rw [hg] at w2 w3 w4 w5
    rw [List.length_cons] at h65
    have ew : ab_cl gG true (d + 1) 110 [.inr (.inr (some b)), .inl (1 : Int32)] (TW B b I P A N) = some (some (.inr (.inl (pk g))), TW B b I P A N) := tw_wordAs (w := 1) d (by omega) w1 w2 w3 w4
    rw [if_pos ((ngt_1 (by rw [List.length_cons]; omega)).mpr (by rw [List.length_cons]; omega)), if_pos tw_isc, ew, qb_c2s, Option.bind_some]
    dsimp only
    by_cases hn : g = [45, 110]
    · rw [if_pos ((lcmp0 _ _).mpr ((pk_is w5 pk_n rfl (by decide) (by decide)).mpr hn)), if_neg (by decide)]
      obtain ⟨I', A', e1, e2, e3, e4⟩ := ech_all (B := B) (b := b) (P := P) (N := N) (d + 1) hb hp true (f := 2) (by omega) hW hpl hE
      refine ⟨I', A', e1, e2, e3, ?_⟩
      rw [hn]
      rw [if_pos rfl, List.append_nil] at e4
      exact e4
    · rw [if_neg (fun e => hn ((pk_is w5 pk_n rfl (by decide) (by decide)).mp ((lcmp0 _ _).mp e)))]
      exact base (fun e => hn (Option.some.inj e))
/-! ===== cat ===== -/
theorem cat_ck (d : Nat) (hb : B.1.1 ≤ b) {r : sT} {here : Nat} (ho : okW r here) {ws : List (List Int32)} : ∀ (rest : List (List Int32)) (w : Nat) (I : Nat → Int32) (P : Int64), w + rest.length = ws.length → ws.drop w = rest → twWd ws I A → twW r A N → I 9 = nI here →
    ∃ I' P', ab_ev gG true (d + 3) 112 2 [some (.inr (.inr (some b))), some (.inl (nI w)), none, none, none] [] (TW B b I P A N) = (match catS r here rest with
      | none => some (some (.inl 1), TW B b I' P' A N)
      | some _ => ab_ev gG true (d + 3) 112 2 [some (.inr (.inr (some b))), some (.inl (nI ws.length)), none, none, none] [] (TW B b I' P' A N)) ∧ fr [42, 43] I I' := by
  intro rest
  induction rest with
  | nil =>
    intro w I P hw hd hW hT hI
    rw [List.length_nil] at hw
    have : w = ws.length := by omega
    rw [this]
    exact ⟨I, P, rfl, fr.rf⟩
  | cons g rest ih =>
    intro w I P hw hd hW hT hI
    rw [List.length_cons] at hw
    have h65 := hW.2.1
    have hd2 := dropW (ws := ws) (w := w) (by omega)
    rw [hd] at hd2
    injection hd2 with hg hrest
    obtain ⟨a, w1, w2, w3, w4, w5⟩ := hW.2.2 w (by omega)
    rw [← hg] at w2 w3 w4 w5
    obtain ⟨I1, P1, e1, f1, t1, t2, t3⟩ := tw_follow (B := B) (b := b) (P := P) d hb ho.1 hT ho.2.1 hI (by omega) w1 w2 w3 w4 w5
    have hn := ho.1.n
    have hf := (fol_ok ho.1 ho.2.1 g).1
    have e0 : ab_ev gG true (d + 3) 112 2 [some (.inr (.inr (some b))), some (.inl (nI w)), none, none, none] [] (TW B b I P A N) = (if oI (folS r here g).1 < 0 then some (some (.inl 1), TW B b I1 P1 A N) else (ab_aI 1 (TW B b I1 P1 A N) (b + 2) (oI (folS r here g).1)).bind fun x7 => if x7 = 0 then ab_ev gG true (d + 3) 112 2 [some (.inr (.inr (some b))), some (.inl (nI (w + 1))), none, none, none] [] (TW B b I1 P1 A N) else some (some (.inl 1), TW B b I1 P1 A N)) := by
      rw [bl_112_2, tw_i16, Option.bind_some, hW.1, if_pos (nI_lt (by omega) (by omega)), if_pos tw_isc, e1, qb_c0s, Option.bind_some]
      simp (disch := omega) only [Option.bind_some, qb_c0s, qb_c1s, qb_c2s, qb_c3s, tw_isc, tw_P, ↓reduceIte, tw_i0, tw_i1, tw_i2, tw_i9, tw_i10, tw_i12, tw_i16, tw_i19, tw_i21, tw_i22, tw_i35, tw_i36, tw_i38, tw_i39, tw_i42, tw_i43, tw_i45, tw_i46, tw_i48, tw_r3, tw_r4, tw_r5, tw_r6, tw_r7, tw_r8, tw_r11, tw_r13, tw_r14, tw_r15, tw_r17, tw_r18, tw_r20, tw_r23, tw_r24, tw_r25, tw_r26, tw_r27, tw_r28, tw_r29, tw_r30, tw_r31, tw_r32, tw_r33, tw_r34, tw_r37, tw_r40, tw_r41, tw_r47, t1, nI_1]
    rw [e0, catS]
    unfold docS
    rcases hF : folS r here g with ⟨nd, vc⟩
    rw [hF] at hf
    cases nd with
    | none =>
      dsimp only
      rw [if_pos (by decide)]
      exact ⟨I1, P1, rfl, f1⟩
    | some x =>
      have hx := hf x rfl
      obtain ⟨k1, -⟩ := hT.2 x hx
      dsimp only
      rw [show oI (some x) = nI x from rfl, if_neg (nI_pos (by omega)), tw_a2 (by omega), Option.bind_some, k1]
      cases hD : sD r x with
      | true =>
        rw [if_neg (by decide), if_pos rfl]
        exact ⟨I1, P1, rfl, f1⟩
      | false =>
        rw [if_pos b01_f, if_neg (by decide)]
        obtain ⟨I2, P2, g1, g2⟩ := ih (w + 1) I1 P1 (by omega) hrest.symm (hW.cg (f1 _ rfl) rfl rfl rfl) hT (by rw [f1 _ rfl]; exact hI)
        refine ⟨I2, P2, ?_, f1.tr g2⟩
        rw [g1]
        dsimp only
        cases catS r here rest <;> rfl
/-- what was read is put out -/
theorem cat_w (d : Nat) (hb : B.1.1 ≤ b) {pl : Nat} (hp : pl ≤ 96) (v1 v2 : Int32) {n : Nat} (hn : n ≤ 160) : ∀ (g : List Int32) (k : Nat) (I : Nat → Int32) (A : Nat → Nat → Int32) (l : List Int32), k + g.length = n → I 38 = nI n → rdl (A 26) k g → I 2 = nI pl → twE pl l I A →
    ∃ I' A' u3 u4, ab_ev gG true (d + 1) 112 43 [some (.inr (.inr (some b))), some (.inl v1), some (.inl v2), some (.inl 1), some (.inl (nI k))] [] (TW B b I P A N) = ab_ev gG true (d + 1) 112 33 [some (.inr (.inr (some b))), some (.inl v1), some (.inl (v2 + 1)), u3, u4] [] (TW B b I' P A' N) ∧ fr [35, 36] I I' ∧ fr [25] A A' ∧ twE pl (l ++ g) I' A' := by
  intro g
  induction g with
  | nil =>
    intro k I A l hk hsl hr hpl hE
    rw [List.length_nil] at hk
    refine ⟨I, A, some (.inl 1), some (.inl (nI k)), ?_, fr.rf, fr.rf, by rw [List.append_nil]; exact hE⟩
    rw [bl_112_43, tw_i38, Option.bind_some, hsl, if_neg (nI_nlt (by omega) (by omega))]
  | cons c g ih =>
    intro k I A l hk hsl hr hpl hE
    rw [List.length_cons] at hk
    obtain ⟨I1, A1, a1, a2, a3, a4⟩ := tw_emit (P := P) (N := N) d hb hpl hp hE c
    obtain ⟨I2, A2, u3, u4, b1, b2, b3, b4⟩ := ih (k + 1) I1 A1 _ (by omega) (by rw [a2 _ rfl]; exact hsl) (by rw [a3 _ rfl]; exact hr.tl) (by rw [a2 _ rfl]; exact hpl) a4
    refine ⟨I2, A2, u3, u4, ?_, a2.tr b2, a3.tr b3, ?_⟩
    · rw [bl_112_43, tw_i38, Option.bind_some, hsl, if_pos (nI_lt (by omega) (by omega)), if_neg (by decide), tw_r37, Option.bind_some, Option.bind_some, tw_a26 (by omega), Option.bind_some, if_pos tw_isc, hr.hd, a1, qb_c0s, Option.bind_some, nI_1]
      exact b1
    · rw [List.append_assoc] at b4
      exact b4
theorem cat_rd (d : Nat) (hb : B.1.1 ≤ b) {r : sT} {here : Nat} (ho : okW r here) {pl : Nat} (hp : pl ≤ 96) {ws : List (List Int32)} : ∀ (rest : List (List Int32)) (w : Nat) (I : Nat → Int32) (P : Int64) (A : Nat → Nat → Int32) (l t : List Int32) (u3 u4 : Option ab_V), 1 ≤ w → w + rest.length = ws.length → ws.drop w = rest → catS r here rest = some t → twWd ws I A → twW r A N → I 9 = nI here → I 2 = nI pl → twE pl l I A →
    ∃ I' P' A', ab_ev gG true (d + 4) 112 33 [some (.inr (.inr (some b))), some (.inl (nI ws.length)), some (.inl (nI w)), u3, u4] [] (TW B b I P A N) = some (some (.inl 0), TW B b I' P' A' N) ∧ fr [35, 36, 38, 39, 42, 43] I I' ∧ fr [25, 26, 27, 28] A A' ∧ twE pl (l ++ t) I' A' := by
  intro rest
  induction rest with
  | nil =>
    intro w I P A l t u3 u4 h1 hw hd hc hW hT hI hpl hE
    rw [List.length_nil] at hw
    have h65 := hW.2.1
    cases hc
    refine ⟨I, P, A, ?_, fr.rf, fr.rf, by rw [List.append_nil]; exact hE⟩
    rw [bl_112_33, if_neg (nI_nlt (by omega) (by omega))]
  | cons g rest ih =>
    intro w I P A l t u3 u4 h1 hw hd hc hW hT hI hpl hE
    rw [List.length_cons] at hw
    have h65 := hW.2.1
    have hd2 := dropW (ws := ws) (w := w) (by omega)
    rw [hd] at hd2
    injection hd2 with hg hrest
    obtain ⟨a, w1, w2, w3, w4, w5⟩ := hW.2.2 w (by omega)
    rw [← hg] at w2 w3 w4 w5
    rw [catS] at hc
    obtain ⟨I1, P1, A1, e1, f1, f2, f3⟩ := tw_reads_f (B := B) (b := b) (P := P) (N := N) d hb ho.1 hT ho.2.2.2 ho.2.1 hI hW.1 (by omega) (by omega) w1 w2 w3 w4 w5
    cases hdoc : docS r here g with
    | none => rw [hdoc] at hc; cases hc
    | some t1 =>
      rw [hdoc] at hc e1
      dsimp only at hc e1
      obtain ⟨t2, hc2, rfl⟩ := Option.map_eq_some_iff.mp hc
      obtain ⟨s1, s2, s3, -, -⟩ := f3 t1 hdoc
      obtain ⟨I2, A2, v3, v4, b1, b2, b3, b4⟩ := cat_w (B := B) (b := b) (P := P1) (N := N) (d + 3) hb hp (nI ws.length) (nI w) s3 t1 0 I1 A1 l (by omega) s1 s2 (by rw [f1 _ rfl]; exact hpl) (hE.tr (f1 _ rfl) (f1 _ rfl) (f2 _ rfl))
      obtain ⟨I3, P3, A3, c1, c2, c3, c4⟩ := ih (w + 1) I2 P1 A2 _ t2 v3 v4 (by omega) (by omega) hrest.symm hc2 (hW.cg (by rw [b2 _ rfl, f1 _ rfl]) (by rw [b3 _ rfl, f2 _ rfl]) (by rw [b3 _ rfl, f2 _ rfl]) (by rw [b3 _ rfl, f2 _ rfl])) ((hT.fr f2 rfl).fr b3 rfl) (by rw [b2 _ rfl, f1 _ rfl]; exact hI) (by rw [b2 _ rfl, f1 _ rfl]; exact hpl) b4
      refine ⟨I3, P3, A3, ?_, ((f1.mo rfl).tr (b2.mo rfl)).tr c2, ((f2.mo rfl).tr (b3.mo rfl)).tr c3, ?_⟩
      · rw [bl_112_33, if_pos (nI_lt (by omega) (by omega)), if_pos tw_isc, e1, qb_c1s, Option.bind_some]
        dsimp only
        rw [nI_1] at b1
        exact b1.trans c1
      · rw [List.append_assoc] at c4
        exact c4
/-- cat without words: the input -/
theorem tw_cat0 (d : Nat) (hb : B.1.1 ≤ b) {r : sT} {here lv : Nat} {o : Option Nat} {src : List Int32} {pl nl : Nat} (hp : pl ≤ 96) (hl : lv < 5) {n : List Int32} (hW : twWd [n] I A) (hK : twK r here lv o src pl nl I A N) (hE : twE pl [] I A) :
    ∃ I' A', ab_cl gG true (d + 2) 112 [.inr (.inr (some b))] (TW B b I P A N) = some (some (.inl 0), TW B b I' P A' N) ∧ fr [35, 36, 38, 39] I I' ∧ fr [25, 26, 24, 27, 28] A A' ∧ twE pl src I' A' ∧ twOut o A A' := by
  obtain ⟨k1, k2, k3, k4, k5, k6, k7⟩ := hK
  obtain ⟨I1, A1, e1, f1, f2, ⟨s1, s2, s3, -, -⟩, f4⟩ := tw_reads_in (B := B) (b := b) (P := P) (N := N) d hb (w := 1) (nw := 1) (Nat.le_refl _) (by omega) hW.1 k3 hl k4 k5
  obtain ⟨I2, A2, v3, v4, b1, b2, b3, b4⟩ := cat_w (B := B) (b := b) (P := P) (N := N) (d + 1) hb hp 2 1 s3 src 0 I1 A1 [] (by omega) s1 s2 (by rw [f1 _ rfl]; exact k6) (hE.tr (f1 _ rfl) (f1 _ rfl) (f2 _ rfl))
  refine ⟨I2, A2, ?_, (f1.mo rfl).tr (b2.mo rfl), (f2.mo rfl).tr (b3.mo rfl), b4, ?_⟩
  · rw [ent_112, bl_112_0, bl_112_2, tw_i16, Option.bind_some, hW.1, show [n].length = 1 from rfl, if_neg (by decide), Option.bind_some, if_pos (by decide), bl_112_33, if_pos (by decide), if_pos tw_isc, show ab_cl gG true (d + 1) 129 [.inr (.inr (some b)), .inl (1 : Int32)] (TW B b I P A N) = _ from e1, qb_c1s, Option.bind_some]
    dsimp only
    refine b1.trans ?_
    rw [bl_112_33, if_neg (by decide)]
  · unfold twOut at f4 ⊢
    cases o with
    | none => dsimp only at f4 ⊢; rw [b3 _ rfl]; exact f4
    | some i => dsimp only at f4 ⊢; rw [b3 _ rfl]; exact f4
/-- cat of files -/
theorem tw_cat (d : Nat) (hb : B.1.1 ≤ b) {r : sT} {here : Nat} (ho : okW r here) {pl : Nat} (hp : pl ≤ 96) {n g : List Int32} {ws : List (List Int32)} (hW : twWd (n :: g :: ws) I A) (hT : twW r A N) (hI : I 9 = nI here) (hpl : I 2 = nI pl) (hE : twE pl [] I A) :
    ∃ I' P' A', ab_cl gG true (d + 4) 112 [.inr (.inr (some b))] (TW B b I P A N) = some (some (.inl (match catS r here (g :: ws) with | none => 1 | some _ => 0)), TW B b I' P' A' N) ∧ fr [35, 36, 38, 39, 42, 43] I I' ∧ fr [25, 26, 27, 28] A A' ∧ ∀ t, catS r here (g :: ws) = some t → twE pl t I' A' := by
  have h65 := hW.2.1
  have hlen : (n :: g :: ws).length = ws.length + 2 := rfl
  obtain ⟨I1, P1, e1, f1⟩ := cat_ck (B := B) (b := b) (A := A) (N := N) (d + 1) hb ho (ws := n :: g :: ws) (g :: ws) 1 I P (by simp; omega) rfl hW hT hI
  have e0 : ab_cl gG true (d + 4) 112 [.inr (.inr (some b))] (TW B b I P A N) = _ := (ent_112 true (d + 4) b _).trans ((bl_112_0 true (d + 3) b _).trans e1)
  cases hc : catS r here (g :: ws) with
  | none =>
    rw [hc] at e0
    exact ⟨I1, P1, A, e0, f1.mo rfl, fr.rf, fun t h => by cases h⟩
  | some t =>
    rw [hc] at e0
    dsimp only at e0
    obtain ⟨I2, P2, A2, c1, c2, c3, c4⟩ := cat_rd (B := B) (b := b) (N := N) d hb ho hp (ws := n :: g :: ws) (g :: ws) 1 I1 P1 A [] t none none (by omega) (by simp; omega) rfl hc (hW.cg (f1 _ rfl) rfl rfl rfl) hT (by rw [f1 _ rfl]; exact hI) (by rw [f1 _ rfl]; exact hpl) (hE.tr (f1 _ rfl) (f1 _ rfl) rfl)
    refine ⟨I2, P2, A2, ?_, (f1.mo rfl).tr c2, c3, fun t' h => by cases h; exact c4⟩
    rw [e0, bl_112_2, tw_i16, Option.bind_some, f1 _ rfl, hW.1, if_neg (nI_nlt (Nat.le_refl _) (by omega)), Option.bind_some, if_neg (by rw [neq_1 (by omega)]; omega), Option.bind_some]
    exact c1
end
