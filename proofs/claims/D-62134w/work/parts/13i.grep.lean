/-! ===== the twin: grep ===== -/
theorem mtF_no {core : List Int32} {bs es : Bool} {ln : Nat} : ∀ (k p : Nat) (s : List Int32), ln < p + core.length → mtF core bs es ln k p s = false := by
  intro k
  induction k with
  | zero => intro p s _; rfl
  | succ k ih =>
    intro p s h
    rw [mtF, ih (p + 1) _ (by omega), decide_eq_false (by omega), Bool.or_false, Bool.false_and, Bool.false_and, Bool.false_and]
section
variable {B : ab_H} {b : Nat} {I : Nat → Int32} {P : Int64} {A : Nat → Nat → Int32} {N : Nat → Int64}
theorem std_lp (d : Nat) {a e p : Nat} (he : e ≤ 200) : ∀ (c s : List Int32) (j : Nat), a + j + c.length = e → rdl (A 13) (a + j) c → rdl (A 26) (p + j) s → c.length ≤ s.length → p + j + s.length ≤ 160 →
    ab_ev gG true d 131 2 [some (.inr (.inr (some b))), some (.inl (nI a)), some (.inl (nI e)), some (.inl (nI p)), some (.inl (nI (a + j)))] [] (TW B b I P A N) = some (some (.inl (b01 (stS c s))), TW B b I P A N) := by
  intro c
  induction c with
  | nil =>
    intro s j h1 h2 h3 h4 h5
    rw [List.length_nil] at h1
    rw [bl_131_2, if_neg (nI_nlt (by omega) (by omega)), stS]
    rfl
  | cons x c ih =>
    intro s j h1 h2 h3 h4 h5
    rw [List.length_cons] at h1 h4
    cases s with
    | nil => rw [List.length_nil] at h4; omega
    | cons y s =>
      rw [List.length_cons] at h4 h5
      have hx := h2.hd
      have hy := h3.hd
      have := ih s (j + 1) (by omega) (by have := h2.tl; rwa [Nat.add_assoc] at this) (by have := h3.tl; rwa [Nat.add_assoc] at this) (by omega) (by omega)
      rw [bl_131_2, if_pos (nI_lt (by omega) (by omega)), tw_r20, Option.bind_some, Option.bind_some, tw_a13 (by omega), Option.bind_some, hx, nI_1, show a + j + 1 = a + (j + 1) by omega, this, stS]
      by_cases h46 : x = 46
      · rw [if_pos h46, show decide (x = 46) = true from decide_eq_true h46, Bool.true_or, Bool.true_and]
      · rw [if_neg h46, show decide (x = 46) = false from decide_eq_false h46, Bool.false_or, Option.bind_some, Option.bind_some, tw_a13 (by omega), Option.bind_some, hx, tw_r37, Option.bind_some, Option.bind_some, nI_add, pk_sub (by omega), show p + (a + j) - a = p + j by omega, tw_a26 (by omega), Option.bind_some, hy]
        by_cases hxy : x = y
        · rw [if_pos hxy, show decide (x = y) = true from decide_eq_true hxy, Bool.true_and]
        · rw [if_neg hxy, show decide (x = y) = false from decide_eq_false hxy, Bool.false_and]
          rfl
theorem tw_stands (d : Nat) {a p : Nat} {c s : List Int32} (he : a + c.length ≤ 200) (h2 : rdl (A 13) a c) (h3 : rdl (A 26) p s) (h4 : c.length ≤ s.length) (h5 : p + s.length ≤ 160) : ab_cl gG true d 131 [.inr (.inr (some b)), .inl (nI a), .inl (nI (a + c.length)), .inl (nI p)] (TW B b I P A N) = some (some (.inl (b01 (stS c s))), TW B b I P A N) := by
  rw [ent_131, bl_131_0]
  exact std_lp d he c s 0 rfl h2 h3 h4 h5
/-- the places of one line -/
theorem hit_lp (d : Nat) {a la : Nat} {c g : List Int32} {bs es : Bool} {l : Nat} (hl : l < 161) (he : a + c.length ≤ 200) (h2 : rdl (A 13) a c) (h3 : rdl (A 26) la g) (h5 : la + g.length ≤ 160) (hcg : c.length ≤ g.length) (hf : A 27 l = nI la) (v1 v2 v7 : Int32) :
    ∀ (m p : Nat) (hit : Bool) (u12 : Option ab_V), p + m = g.length - c.length + 1 →
    ∃ u12', ab_ev gG true (d + 1) 114 119 [some (.inr (.inr (some b))), some (.inl v1), some (.inl v2), some (.inl (nI a)), some (.inl (nI (a + c.length))), some (.inl (b01 bs)), some (.inl (b01 es)), some (.inl v7), some (.inl (nI l)), some (.inl (b01 hit)), some (.inl (nI (la + (g.length - c.length)))), some (.inl (nI (la + p))), u12] [] (TW B b I P A N) =
      ab_ev gG true (d + 1) 114 119 [some (.inr (.inr (some b))), some (.inl v1), some (.inl v2), some (.inl (nI a)), some (.inl (nI (a + c.length))), some (.inl (b01 bs)), some (.inl (b01 es)), some (.inl v7), some (.inl (nI l)), some (.inl (b01 (hit || mtF c bs es g.length (g.length + 1 - p) p (g.drop p)))), some (.inl (nI (la + (g.length - c.length)))), some (.inl (nI (la + (g.length - c.length) + 1))), u12'] [] (TW B b I P A N) := by
  intro m
  induction m with
  | zero =>
    intro p hit u12 hp
    rw [mtF_no _ _ _ (by omega), Bool.or_false, show la + p = la + (g.length - c.length) + 1 by omega]
    exact ⟨u12, rfl⟩
  | succ m ih =>
    intro p hit u12 hp
    have e1 : ab_ev gG true (d + 1) 114 119 [some (.inr (.inr (some b))), some (.inl v1), some (.inl v2), some (.inl (nI a)), some (.inl (nI (a + c.length))), some (.inl (b01 bs)), some (.inl (b01 es)), some (.inl v7), some (.inl (nI l)), some (.inl (b01 hit)), some (.inl (nI (la + (g.length - c.length)))), some (.inl (nI (la + p))), u12] [] (TW B b I P A N) =
        ab_ev gG true (d + 1) 114 139 [some (.inr (.inr (some b))), some (.inl v1), some (.inl v2), some (.inl (nI a)), some (.inl (nI (a + c.length))), some (.inl (b01 bs)), some (.inl (b01 es)), some (.inl v7), some (.inl (nI l)), some (.inl (b01 hit)), some (.inl (nI (la + (g.length - c.length)))), some (.inl (nI (la + p))), none] [.inl (b01 ((!bs || decide (p = 0)) && (!es || decide (p + c.length = g.length))))] (TW B b I P A N) := by
      rw [bl_114_119, if_neg (nI_nlt (by omega) (by omega)), tw_r40, Option.bind_some, Option.bind_some, tw_a27 hl, Option.bind_some, hf]
      simp (disch := omega) only [nI_eq]
      cases bs with
      | false =>
        rw [if_pos b01_f]
        cases es with
        | false => rw [if_pos b01_f]; rfl
        | true =>
          rw [if_neg (by decide)]
          by_cases h : p + c.length = g.length
          · rw [if_pos (by omega), decide_eq_true h]; rfl
          · rw [if_neg (by omega), decide_eq_false h]; rfl
      | true =>
        rw [if_neg (by decide)]
        by_cases h0 : p = 0
        · rw [if_pos (by omega), decide_eq_true h0]
          cases es with
          | false => rw [if_pos b01_f]; rfl
          | true =>
            rw [if_neg (by decide)]
            by_cases h : p + c.length = g.length
            · rw [if_pos (by omega), decide_eq_true h]; rfl
            · rw [if_neg (by omega), decide_eq_false h]; rfl
        · rw [if_neg (by omega), decide_eq_false h0]; rfl
    have hdl : (g.drop p).length = g.length - p := List.length_drop
    have e2 : ∃ u, ab_ev gG true (d + 1) 114 139 [some (.inr (.inr (some b))), some (.inl v1), some (.inl v2), some (.inl (nI a)), some (.inl (nI (a + c.length))), some (.inl (b01 bs)), some (.inl (b01 es)), some (.inl v7), some (.inl (nI l)), some (.inl (b01 hit)), some (.inl (nI (la + (g.length - c.length)))), some (.inl (nI (la + p))), none] [.inl (b01 ((!bs || decide (p = 0)) && (!es || decide (p + c.length = g.length))))] (TW B b I P A N) =
        ab_ev gG true (d + 1) 114 119 [some (.inr (.inr (some b))), some (.inl v1), some (.inl v2), some (.inl (nI a)), some (.inl (nI (a + c.length))), some (.inl (b01 bs)), some (.inl (b01 es)), some (.inl v7), some (.inl (nI l)), some (.inl (b01 (hit || ((!bs || decide (p = 0)) && (!es || decide (p + c.length = g.length)) && stS c (g.drop p))))), some (.inl (nI (la + (g.length - c.length)))), some (.inl (nI (la + (p + 1)))), u] [] (TW B b I P A N) := by
      generalize ((!bs || decide (p = 0)) && (!es || decide (p + c.length = g.length))) = pl
      rw [bl_114_139, tw_stands d he h2 (h3.dr p) (by omega) (by omega), qb_c1s, Option.bind_some, nI_1, show la + p + 1 = la + (p + 1) by omega]
      cases hit with
      | true => rw [if_neg (by decide)]; exact ⟨_, rfl⟩
      | false =>
        rw [if_pos b01_f]
        cases pl with
        | false => rw [if_pos b01_f]; exact ⟨_, rfl⟩
        | true =>
          rw [if_neg (by decide), if_pos tw_isc]
          dsimp only
          cases stS c (g.drop p) with
          | false => rw [if_pos b01_f]; exact ⟨_, rfl⟩
          | true => rw [if_neg (by decide)]; exact ⟨_, rfl⟩
    obtain ⟨u, e2⟩ := e2
    obtain ⟨u', e3⟩ := ih (p + 1) (hit || ((!bs || decide (p = 0)) && (!es || decide (p + c.length = g.length)) && stS c (g.drop p))) u (by omega)
    refine ⟨u', ?_⟩
    rw [e1, e2, e3, show g.length + 1 - p = (g.length + 1 - (p + 1)) + 1 by omega, mtF, decide_eq_true (show p + c.length ≤ g.length by omega), Bool.true_and, List.drop_drop, Bool.or_assoc]
/-- one line -/
theorem line_st (d : Nat) (hb : B.1.1 ≤ b) {pl : Nat} (hp : pl ≤ 96) {a la : Nat} {c g : List Int32} {bs es inv : Bool} {l n : Nat} (hl : l < 161) (he : a + c.length ≤ 200) (h2 : rdl (A 13) a c) (h3 : rdl (A 26) la g) (h5 : la + g.length ≤ 160) (hf : A 27 l = nI la) (ht : A 28 l = nI (la + g.length)) (hn : I 39 = nI n) (hln : l < n) (hn2 : n < 1000) (hpl : I 2 = nI pl) {x : List Int32} (hE : twE pl x I A) (v2 : Int32) (f : Nat) (u9 u10 u11 : Option ab_V) :
    ∃ I' A' w9 w10 w11, ab_ev gG true (d + 2) 114 98 [some (.inr (.inr (some b))), some (.inl (b01 inv)), some (.inl v2), some (.inl (nI a)), some (.inl (nI (a + c.length))), some (.inl (b01 bs)), some (.inl (b01 es)), some (.inl (nI f)), some (.inl (nI l)), u9, u10, u11, none] [] (TW B b I P A N) =
      ab_ev gG true (d + 2) 114 98 [some (.inr (.inr (some b))), some (.inl (b01 inv)), some (.inl v2), some (.inl (nI a)), some (.inl (nI (a + c.length))), some (.inl (b01 bs)), some (.inl (b01 es)), some (.inl (nI (if (mtS c bs es g != inv) = true then f + 1 else f))), some (.inl (nI (l + 1))), w9, w10, w11, none] [] (TW B b I' P A' N) ∧ fr [35, 36] I I' ∧ fr [25] A A' ∧ twE pl (x ++ (if (mtS c bs es g != inv) = true then g ++ [10] else [])) I' A' := by
  -- up to the last place
  have e0 : ∃ v10 v11 u12 : Option ab_V, ∃ x10 x11 : Int32, ab_ev gG true (d + 2) 114 98 [some (.inr (.inr (some b))), some (.inl (b01 inv)), some (.inl v2), some (.inl (nI a)), some (.inl (nI (a + c.length))), some (.inl (b01 bs)), some (.inl (b01 es)), some (.inl (nI f)), some (.inl (nI l)), u9, u10, u11, none] [] (TW B b I P A N) =
      ab_ev gG true (d + 1 + 1) 114 119 [some (.inr (.inr (some b))), some (.inl (b01 inv)), some (.inl v2), some (.inl (nI a)), some (.inl (nI (a + c.length))), some (.inl (b01 bs)), some (.inl (b01 es)), some (.inl (nI f)), some (.inl (nI l)), some (.inl (b01 (mtS c bs es g))), some (.inl x10), some (.inl x11), u12] [] (TW B b I P A N) ∧ x10 < x11 := by
    have e1 : ab_ev gG true (d + 2) 114 98 [some (.inr (.inr (some b))), some (.inl (b01 inv)), some (.inl v2), some (.inl (nI a)), some (.inl (nI (a + c.length))), some (.inl (b01 bs)), some (.inl (b01 es)), some (.inl (nI f)), some (.inl (nI l)), u9, u10, u11, none] [] (TW B b I P A N) =
        ab_ev gG true (d + 1 + 1) 114 119 [some (.inr (.inr (some b))), some (.inl (b01 inv)), some (.inl v2), some (.inl (nI a)), some (.inl (nI (a + c.length))), some (.inl (b01 bs)), some (.inl (b01 es)), some (.inl (nI f)), some (.inl (nI l)), some (.inl (b01 false)), some (.inl (nI (la + g.length) - nI c.length)), some (.inl (nI la)), none] [] (TW B b I P A N) := by
      rw [bl_114_98, tw_i39, Option.bind_some, hn, if_pos (nI_lt hln (by omega)), tw_r41, Option.bind_some, Option.bind_some, tw_a28 hl, Option.bind_some, tw_r40, Option.bind_some, Option.bind_some, tw_a27 hl, Option.bind_some, hf, ht, pk_sub (a := a + c.length) (b := a) (by omega), show a + c.length - a = c.length by omega]
      rfl
    unfold mtS
    by_cases hcg : c.length ≤ g.length
    · obtain ⟨u, e2⟩ := hit_lp (B := B) (b := b) (I := I) (P := P) (N := N) (d + 1) (bs := bs) (es := es) hl he h2 h3 h5 hcg hf (b01 inv) v2 (nI f) (g.length - c.length + 1) 0 false none (by omega)
      rw [pk_sub (by omega), show la + g.length - c.length = la + (g.length - c.length) by omega] at e1
      rw [Nat.add_zero, Bool.false_or, Nat.sub_zero, List.drop_zero] at e2
      exact ⟨none, none, u, _, _, e1.trans e2, nI_lt (by omega) (by omega)⟩
    · rw [mtF_no _ _ _ (by omega)]
      refine ⟨none, none, none, _, _, e1, ?_⟩
      rw [Int32.lt_iff_toInt_lt, pk_sub_toInt (by omega) (by omega), nI_toInt (by omega)]
      omega
  obtain ⟨-, -, u12, x10, x11, e1, hlt⟩ := e0
  generalize mtS c bs es g = hit at e1 ⊢
  by_cases hs : hit = inv
  · subst hs
    have hb' : ¬ (hit != hit) = true := by cases hit <;> decide
    rw [if_neg hb', if_neg hb', List.append_nil]
    refine ⟨I, A, some (.inl (b01 hit)), some (.inl x10), some (.inl x11), ?_, fr.rf, fr.rf, hE⟩
    rw [e1, bl_114_119, if_pos hlt, if_pos rfl, nI_1]
  · have hb' : (hit != inv) = true := by cases hit <;> cases inv <;> first | rfl | exact absurd rfl hs
    rw [if_pos hb', if_pos hb']
    obtain ⟨I1, A1, a1, a2, a3, a4⟩ := tw_emitLine (P := P) (N := N) d hb hpl hp hl hf ht h5 h3 hE
    refine ⟨I1, A1, some (.inl (b01 hit)), some (.inl x10), some (.inl x11), ?_, a2, a3, a4⟩
    rw [e1, bl_114_119, if_pos hlt, if_neg (fun e => hs (by cases hit <;> cases inv <;> first | rfl | exact absurd e (by decide))), if_pos tw_isc, a1, qb_c0s, Option.bind_some, nI_1, nI_1]
def cntS (inv bs es : Bool) (c : List Int32) : List (List Int32) → Nat
  | [] => 0
  | l :: ls => (if (mtS c bs es l != inv) = true then 1 else 0) + cntS inv bs es c ls
def outS (inv bs es : Bool) (c : List Int32) : List (List Int32) → List Int32
  | [] => []
  | l :: ls => (if (mtS c bs es l != inv) = true then l ++ [10] else []) ++ outS inv bs es c ls
theorem cnt_any (inv : Bool) (p : List Int32) : ∀ ls, (0 < cntS inv (gbS p) (geS p) (gkS p) ls ↔ gany inv p ls = true) ∧ outS inv (gbS p) (geS p) (gkS p) ls = gout inv p ls := by
  intro ls
  induction ls with
  | nil => exact ⟨⟨fun h => absurd h (Nat.lt_irrefl 0), fun h => by cases h⟩, rfl⟩
  | cons l ls ih =>
    obtain ⟨h1, h2⟩ := ih
    rw [cntS, gany, outS, gout, h2]
    refine ⟨?_, rfl⟩
    unfold gsel
    by_cases hs : (mtS (gkS p) (gbS p) (geS p) l != inv) = true
    · rw [if_pos hs, hs, Bool.true_or]
      exact ⟨fun _ => rfl, fun _ => by omega⟩
    · rw [if_neg hs, Nat.zero_add, h1, Bool.or_eq_true]
      exact ⟨fun h => Or.inr h, fun h => h.resolve_left hs⟩
theorem grep_lp (d : Nat) (hb : B.1.1 ≤ b) {pl : Nat} (hp : pl ≤ 96) {a : Nat} {c : List Int32} {bs es inv : Bool} {n m : Nat} (he : a + c.length ≤ 200) (hn2 : n ≤ 161) (hm : m ≤ 160) (v2 : Int32) : ∀ (ls : List (List Int32)) (l f : Nat) (I : Nat → Int32) (A : Nat → Nat → Int32) (x : List Int32) (u9 u10 u11 : Option ab_V), l + ls.length = n → f ≤ l → I 39 = nI n → rdl (A 13) a c → lnA (A 26) (A 27) (A 28) m l ls → I 2 = nI pl → twE pl x I A →
    ∃ I' A', ab_ev gG true (d + 2) 114 98 [some (.inr (.inr (some b))), some (.inl (b01 inv)), some (.inl v2), some (.inl (nI a)), some (.inl (nI (a + c.length))), some (.inl (b01 bs)), some (.inl (b01 es)), some (.inl (nI f)), some (.inl (nI l)), u9, u10, u11, none] [] (TW B b I P A N) =
      some (some (.inl (if 0 < f + cntS inv bs es c ls then 0 else 1)), TW B b I' P A' N) ∧ fr [35, 36] I I' ∧ fr [25] A A' ∧ twE pl (x ++ outS inv bs es c ls) I' A' := by
  intro ls
  induction ls with
  | nil =>
    intro l f I A x u9 u10 u11 hl hf hI hr hA hpl hE
    rw [List.length_nil] at hl
    refine ⟨I, A, ?_, fr.rf, fr.rf, by rw [outS, List.append_nil]; exact hE⟩
    rw [bl_114_98, tw_i39, Option.bind_some, hI, if_neg (nI_nlt (by omega) (by omega)), cntS]
    by_cases h0 : 0 < f
    · rw [if_pos ((ngt_0 (by omega)).mpr h0), if_pos (by omega)]
    · rw [if_neg (fun e => h0 ((ngt_0 (by omega)).mp e)), if_neg (by omega)]
  | cons g ls ih =>
    intro l f I A x u9 u10 u11 hl hf hI hr hA hpl hE
    rw [List.length_cons] at hl
    obtain ⟨la, k1, k2, k3, k4⟩ := hA 0 (by rw [List.length_cons]; omega)
    rw [Nat.add_zero] at k1 k2
    rw [List.getD_cons_zero] at k2 k3 k4
    obtain ⟨I1, A1, w9, w10, w11, b1, b2, b3, b4⟩ := line_st (B := B) (b := b) (P := P) (N := N) d hb hp (bs := bs) (es := es) (inv := inv) (l := l) (n := n) (by omega) he hr k3 (by omega) k1 k2 hI (by omega) (by omega) hpl hE v2 f u9 u10 u11
    obtain ⟨I2, A2, c1, c2, c3, c4⟩ := ih (l + 1) (if (mtS c bs es g != inv) = true then f + 1 else f) I1 A1 _ w9 w10 w11 (by omega) (by split <;> omega) (by rw [b2 _ rfl]; exact hI) (by rw [b3 _ rfl]; exact hr) (fun i hi => by
      obtain ⟨a', q1, q2, q3, q4⟩ := hA (i + 1) (by rw [List.length_cons]; omega)
      rw [List.getD_cons_succ] at q2 q3 q4
      rw [b3 _ rfl, b3 _ rfl, b3 _ rfl, show l + 1 + i = l + (i + 1) by omega]
      exact ⟨a', q1, q2, q3, q4⟩) (by rw [b2 _ rfl]; exact hpl) b4
    refine ⟨I2, A2, ?_, b2.tr c2, b3.tr c3, ?_⟩
    · have hq : (0 < (if (mtS c bs es g != inv) = true then f + 1 else f) + cntS inv bs es c ls) ↔ (0 < f + ((if (mtS c bs es g != inv) = true then 1 else 0) + cntS inv bs es c ls)) := by split <;> omega
      rw [b1, c1, cntS]
      simp only [hq]
    · rw [outS]
      rw [List.append_assoc] at c4
      exact c4
theorem getLast_D {l : List Int32} (h : l ≠ []) : l.getLast? = some (l.getD (l.length - 1) 0) := by
  have : 0 < l.length := List.length_pos_iff.mpr h
  rw [List.getLast?_eq_getElem?, List.getD_eq_getElem?_getD, List.getElem?_eq_getElem (by omega)]
  rfl
/-- the pattern's core, and the lines -/
theorem grep_go (d : Nat) (hb : B.1.1 ≤ b) {pl : Nat} (hp : pl ≤ 96) {a : Nat} {p : List Int32} {inv : Bool} {w : Nat} {t : List Int32} (hw : w < 65) (h1 : A 11 w = nI a) (h2 : A 12 w = nI (a + p.length)) (hr : rdl (A 13) a p) (ha : a + p.length ≤ 200) (hS : twS t I A) (hpl : I 2 = nI pl) (hE : twE pl [] I A) :
    ∃ I' A', (if nI a < nI (a + p.length) then (ab_aI 0 (TW B b I P A N) (b + 13) (nI a)).bind fun x12 => if x12 = 94 then ab_ev gG true (d + 2) 114 70 [some (.inr (.inr (some b))), some (.inl (b01 inv)), some (.inl (nI w)), some (.inl (nI a)), some (.inl (nI (a + p.length))), some (.inl 1), none, none, none, none, none, none, none] [.inl (nI (a + 1))] (TW B b I P A N) else ab_ev gG true (d + 2) 114 70 [some (.inr (.inr (some b))), some (.inl (b01 inv)), some (.inl (nI w)), some (.inl (nI a)), some (.inl (nI (a + p.length))), some (.inl 0), none, none, none, none, none, none, none] [.inl (nI a)] (TW B b I P A N)
      else ab_ev gG true (d + 2) 114 70 [some (.inr (.inr (some b))), some (.inl (b01 inv)), some (.inl (nI w)), some (.inl (nI a)), some (.inl (nI (a + p.length))), some (.inl 0), none, none, none, none, none, none, none] [.inl (nI a)] (TW B b I P A N)) = some (some (.inl (if gany inv p (lnS [] t) = true then 0 else 1)), TW B b I' P A' N) ∧ fr [35, 36] I I' ∧ fr [25] A A' ∧ twE pl (gout inv p (lnS [] t)) I' A' := by
  have e1 : (if nI a < nI (a + p.length) then (ab_aI 0 (TW B b I P A N) (b + 13) (nI a)).bind fun x12 => if x12 = 94 then ab_ev gG true (d + 2) 114 70 [some (.inr (.inr (some b))), some (.inl (b01 inv)), some (.inl (nI w)), some (.inl (nI a)), some (.inl (nI (a + p.length))), some (.inl 1), none, none, none, none, none, none, none] [.inl (nI (a + 1))] (TW B b I P A N) else ab_ev gG true (d + 2) 114 70 [some (.inr (.inr (some b))), some (.inl (b01 inv)), some (.inl (nI w)), some (.inl (nI a)), some (.inl (nI (a + p.length))), some (.inl 0), none, none, none, none, none, none, none] [.inl (nI a)] (TW B b I P A N)
      else ab_ev gG true (d + 2) 114 70 [some (.inr (.inr (some b))), some (.inl (b01 inv)), some (.inl (nI w)), some (.inl (nI a)), some (.inl (nI (a + p.length))), some (.inl 0), none, none, none, none, none, none, none] [.inl (nI a)] (TW B b I P A N)) =
      ab_ev gG true (d + 1 + 1) 114 70 [some (.inr (.inr (some b))), some (.inl (b01 inv)), some (.inl (nI w)), some (.inl (nI a)), some (.inl (nI (a + p.length))), some (.inl (b01 (gbS p))), none, none, none, none, none, none, none] [.inl (nI (a + (p.length - (gcS p).length)))] (TW B b I P A N) := by
    unfold gcS gbS
    cases p with
    | nil => rw [if_neg (nI_nlt (by rw [List.length_nil]; omega) (by omega))]; rfl
    | cons c p =>
      rw [List.length_cons] at ha
      rw [if_pos (nI_lt (by rw [List.length_cons]; omega) (by rw [List.length_cons]; omega)), tw_a13 (by omega), Option.bind_some, hr.hd]
      by_cases h94 : c = 94
      · rw [if_pos h94, h94]
        simp only [List.head?_cons, decide_true, ↓reduceIte, List.length_cons, List.drop_succ_cons, List.drop_zero]
        rw [show p.length + 1 - p.length = 1 by omega]
        rfl
      · rw [if_neg h94]
        have : decide ((c :: p).head? = some 94) = false := decide_eq_false (fun e => h94 (Option.some.inj e))
        rw [this, if_neg (by decide), Nat.sub_self]
        rfl
  rw [e1]
  have hgc : (gcS p).length ≤ p.length := by
    unfold gcS
    split
    · rw [List.length_drop]; omega
    · exact Nat.le_refl _
  have hcr : rdl (A 13) (a + (p.length - (gcS p).length)) (gcS p) := by
    unfold gcS
    split
    · rename_i hg
      have := hr.dr 1
      have h0 : 0 < p.length := by
        cases p with
        | nil => cases hg
        | cons c p => rw [List.length_cons]; omega
      rw [List.length_drop, show p.length - (p.length - 1) = 1 by omega]
      exact this
    · rw [Nat.sub_self]; exact hr
  have hend : a + p.length = a + (p.length - (gcS p).length) + (gcS p).length := by omega
  rw [hend]
  rw [hend] at ha
  generalize a + (p.length - (gcS p).length) = a' at hcr ha ⊢
  -- the end
  have e2 : ab_ev gG true (d + 1 + 1) 114 70 [some (.inr (.inr (some b))), some (.inl (b01 inv)), some (.inl (nI w)), some (.inl (nI a)), some (.inl (nI (a' + (gcS p).length))), some (.inl (b01 (gbS p))), none, none, none, none, none, none, none] [.inl (nI a')] (TW B b I P A N) =
      ab_ev gG true (d + 1 + 1) 114 98 [some (.inr (.inr (some b))), some (.inl (b01 inv)), some (.inl (nI w)), some (.inl (nI a')), some (.inl (nI (a' + (gkS p).length))), some (.inl (b01 (gbS p))), some (.inl (b01 (geS p))), some (.inl (nI 0)), some (.inl (nI 0)), none, none, none, none] [] (TW B b I P A N) := by
    unfold gkS geS
    rw [bl_114_70]
    cases hg : gcS p with
    | nil =>
      rw [if_neg (nI_nlt (by rw [List.length_nil]; omega) (by omega)), bl_114_85, if_pos rfl]
      rfl
    | cons c q =>
      have hlast := getLast_D (l := c :: q) (by simp)
      rw [hg] at hcr ha
      have hv := hcr ((c :: q).length - 1) (by rw [List.length_cons]; omega)
      rw [show nI (a' + (c :: q).length) - (1 : Int32) = nI (a' + ((c :: q).length - 1)) from by rw [List.length_cons, ← Nat.add_assoc, nI_pred, Nat.add_sub_cancel], if_pos (nI_lt (by rw [List.length_cons]; omega) (by rw [List.length_cons] at ha ⊢; omega)), tw_r20, Option.bind_some, Option.bind_some, tw_a13 (by rw [List.length_cons] at ha ⊢; omega), Option.bind_some, hv, hlast]
      by_cases h36 : (c :: q).getD ((c :: q).length - 1) 0 = 36
      · rw [if_pos h36, h36, bl_114_85, if_neg (by decide), decide_eq_true rfl, if_pos rfl, List.length_dropLast, show nI (a' + (c :: q).length) - (1 : Int32) = nI (a' + ((c :: q).length - 1)) from by rw [List.length_cons, ← Nat.add_assoc, nI_pred, Nat.add_sub_cancel]]
        rfl
      · rw [if_neg h36, bl_114_85, if_pos rfl, decide_eq_false (fun e => h36 (Option.some.inj e)), if_neg (by decide)]
        rfl
  rw [e2]
  have hkr : rdl (A 13) a' (gkS p) := by
    unfold gkS
    split
    · rw [List.dropLast_eq_take]; exact hcr.tk _
    · exact hcr
  have hkl : (gkS p).length ≤ (gcS p).length := by
    unfold gkS
    split
    · rw [List.length_dropLast]; omega
    · exact Nat.le_refl _
  obtain ⟨s1, s2, s3, s4, s5⟩ := hS
  have hl1 := lnS_len t []
  obtain ⟨I', A', c1, c2, c3, c4⟩ := grep_lp (B := B) (b := b) (P := P) (N := N) d hb hp (bs := gbS p) (es := geS p) (inv := inv) (n := (lnS [] t).length) (m := t.length) (show a' + (gkS p).length ≤ 200 by omega) (by omega) s3 (nI w) (lnS [] t) 0 0 I A [] none none none (by omega) (Nat.le_refl _) s4 hkr s5 hpl hE
  obtain ⟨q1, q2⟩ := cnt_any inv p (lnS [] t)
  refine ⟨I', A', ?_, c2, c3, by rw [q2] at c4; exact c4⟩
  rw [c1]
  simp only [Nat.zero_add, q1]
end
