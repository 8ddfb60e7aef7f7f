/-! ===== the twin: reading ===== -/
def cpw : (Nat → Int32) → Nat → List Int32 → Nat → Int32
  | f, _, [] => f
  | f, k, c :: l => cpw (ab_up f k c) (k + 1) l
theorem cpw_o : ∀ (l : List Int32) (f : Nat → Int32) (k j : Nat), (j < k ∨ k + l.length ≤ j) → cpw f k l j = f j := by
  intro l
  induction l with
  | nil => intro f k j _; rfl
  | cons c l ih =>
    intro f k j h
    rw [List.length_cons] at h
    rw [cpw, ih _ _ _ (by omega), ab_up_n _ _ (by omega)]
theorem cpw_r : ∀ (l : List Int32) (f : Nat → Int32) (k : Nat), rdl (cpw f k l) k l := by
  intro l
  induction l with
  | nil => intro f k; exact rdl.nil
  | cons c l ih =>
    intro f k i hi
    cases i with
    | zero => rw [Nat.add_zero, cpw, cpw_o _ _ _ _ (by omega), ab_up_e, List.getD_cons_zero]
    | succ i =>
      rw [List.length_cons] at hi
      have := ih (ab_up f k c) (k + 1) i (by omega)
      rw [cpw, List.getD_cons_succ, ← this]
      congr 1
      omega
/-- the lines of what is read, in the arrays of their places -/
def lnA (S f g : Nat → Int32) (n t : Nat) (ls : List (List Int32)) : Prop := ∀ i, i < ls.length → ∃ a, f (t + i) = nI a ∧ g (t + i) = nI (a + (ls.getD i []).length) ∧ rdl S a (ls.getD i []) ∧ a + (ls.getD i []).length ≤ n
/-- what is read lies in source, cut into lines -/
def twS (s : List Int32) (I : Nat → Int32) (A : Nat → Nat → Int32) : Prop := I 38 = nI s.length ∧ rdl (A 26) 0 s ∧ s.length ≤ 160 ∧ I 39 = nI (lnS [] s).length ∧ lnA (A 26) (A 27) (A 28) s.length 0 (lnS [] s)
theorem lnA_cons {S f g : Nat → Int32} {n t a : Nat} {l : List Int32} {ls : List (List Int32)} (h1 : f t = nI a) (h2 : g t = nI (a + l.length)) (h3 : rdl S a l) (h4 : a + l.length ≤ n) (h : lnA S f g n (t + 1) ls) : lnA S f g n t (l :: ls) := fun i hi => by
  cases i with
  | zero => exact ⟨a, h1, h2, h3, h4⟩
  | succ i =>
    rw [List.length_cons] at hi
    obtain ⟨a', q1, q2, q3, q4⟩ := h i (by omega)
    rw [show t + 1 + i = t + (i + 1) by omega] at q1 q2
    rw [List.getD_cons_succ]
    exact ⟨a', q1, q2, q3, q4⟩
theorem lnS_len : ∀ (s cur : List Int32), (lnS cur s).length ≤ s.length + 1 := by
  intro s
  induction s with
  | nil => intro cur; rw [lnS]; split <;> simp
  | cons c s ih =>
    intro cur
    rw [lnS]
    split
    · have := ih []
      simp only [List.length_cons]
      omega
    · have := ih (cur ++ [c])
      simp only [List.length_cons]
      omega
section
variable {B : ab_H} {b : Nat} {I : Nat → Int32} {P : Int64} {A : Nat → Nat → Int32} {N : Nat → Int64}
theorem cpc_lp (d : Nat) (hb : B.1.1 ≤ b) {n x : Nat} (hn : I 38 = nI n) (hn2 : n ≤ 160) (hx : I 42 = nI x) (hx2 : x < 13) (v1 : Int32) : ∀ (s : List Int32) (k : Nat) (f : Nat → Int32), k + s.length = n → rdl (A 6) (160 * x + k) s →
    ab_ev gG true (d + 1) 129 30 [some (.inr (.inr (some b))), some (.inl v1), some (.inl (nI k)), none, none] [] (TW B b I P (ab_up A 26 f) N) = ab_ev gG true (d + 1) 129 100 [some (.inr (.inr (some b))), some (.inl v1), some (.inl 0), some (.inl 0), none] [] (TW B b (ab_up I 39 0) P (ab_up A 26 (cpw f k s)) N) := by
  intro s
  induction s with
  | nil =>
    intro k f hk hr
    rw [List.length_nil] at hk
    rw [bl_129_30, tw_i38, Option.bind_some, hn, if_neg (nI_nlt (by omega) (by omega)), tw_w39 hb, Option.bind_some]
    rfl
  | cons c s ih =>
    intro k f hk hr
    rw [List.length_cons] at hk
    have e1 : (160 : Int32) * nI x + nI k = nI (160 * x + k) := by
      rw [show (160 : Int32) * nI x = nI (160 * x) from pk_mul 160 x, nI_add]
    rw [bl_129_30, tw_i38, Option.bind_some, hn, if_pos (nI_lt (by omega) (by omega)), tw_r37, Option.bind_some, tw_r8, Option.bind_some, tw_i42, Option.bind_some, Option.bind_some, hx, e1, tw_a6 (by omega), Option.bind_some, Option.bind_some, ab_up_n _ _ (by decide), hr.hd, tw_s26 hb (by omega), Option.bind_some, ab_up_e, ab_up_u, nI_1, ih (k + 1) (ab_up f k c) (by omega) (by have := hr.tl; rwa [Nat.add_assoc] at this), cpw]
theorem cpi_lp (d : Nat) (hb : B.1.1 ≤ b) {n x : Nat} (hn : I 38 = nI n) (hn2 : n ≤ 160) (hx2 : x < 10) (v1 : Int32) : ∀ (s : List Int32) (k : Nat) (f : Nat → Int32), k + s.length = n → rdl (A 23) (160 * x + k) s →
    ab_ev gG true (d + 1) 129 70 [some (.inr (.inr (some b))), some (.inl v1), some (.inl (nI x)), some (.inl (nI k)), none] [] (TW B b I P (ab_up A 26 f) N) = ab_ev gG true (d + 1) 129 100 [some (.inr (.inr (some b))), some (.inl v1), some (.inl 0), some (.inl 0), none] [] (TW B b (ab_up I 39 0) P (ab_up (ab_up A 26 (cpw f k s)) 24 (ab_up (A 24) x 0)) N) := by
  intro s
  induction s with
  | nil =>
    intro k f hk hr
    rw [List.length_nil] at hk
    rw [bl_129_70, tw_i38, Option.bind_some, hn, if_neg (nI_nlt (by omega) (by omega)), tw_r33, Option.bind_some, Option.bind_some, tw_s24 hb hx2, Option.bind_some, tw_w39 hb, Option.bind_some, ab_up_n _ _ (by decide)]
    rfl
  | cons c s ih =>
    intro k f hk hr
    rw [List.length_cons] at hk
    have e1 : (160 : Int32) * nI x + nI k = nI (160 * x + k) := by
      rw [show (160 : Int32) * nI x = nI (160 * x) from pk_mul 160 x, nI_add]
    rw [bl_129_70, tw_i38, Option.bind_some, hn, if_pos (nI_lt (by omega) (by omega)), tw_r37, Option.bind_some, tw_r32, Option.bind_some, Option.bind_some, e1, tw_a23 (by omega), Option.bind_some, Option.bind_some, ab_up_n _ _ (by decide), hr.hd, tw_s26 hb (by omega), Option.bind_some, ab_up_e, ab_up_u, nI_1, ih (k + 1) (ab_up f k c) (by omega) (by have := hr.tl; rwa [Nat.add_assoc] at this), cpw]
theorem lin_lp (d : Nat) (hb : B.1.1 ≤ b) {n : Nat} (hn : I 38 = nI n) (hn2 : n ≤ 160) (v1 : Int32) : ∀ (s cur : List Int32) (a k t : Nat) (f g : Nat → Int32) (u4 : Option ab_V), k + s.length = n → a + cur.length = k → rdl (A 26) a (cur ++ s) → t ≤ a →
    ∃ f' g', ab_ev gG true (d + 1) 129 100 [some (.inr (.inr (some b))), some (.inl v1), some (.inl (nI a)), some (.inl (nI k)), u4] [] (TW B b (ab_up I 39 (nI t)) P (ab_up (ab_up A 27 f) 28 g) N) = some (some (.inl 1), TW B b (ab_up I 39 (nI (t + (lnS cur s).length))) P (ab_up (ab_up A 27 f') 28 g') N) ∧ lnA (A 26) f' g' n t (lnS cur s) ∧ ∀ i, i < t → f' i = f i ∧ g' i = g i := by
  have r38 : ∀ t f g, ab_fI (TW B b (ab_up I 39 (nI t)) P (ab_up (ab_up A 27 f) 28 g) N) b 738 = some (nI n) := fun t f g => by
    rw [tw_i38, ab_up_n _ _ (by decide), hn]
  -- a line ends at k
  have put : ∀ (a k t : Nat) (f g : Nat → Int32), t < 161 → ab_ev gG true (d + 1) 129 125 [some (.inr (.inr (some b))), some (.inl v1), some (.inl (nI a)), some (.inl (nI k)), none] [.inl 1] (TW B b (ab_up I 39 (nI t)) P (ab_up (ab_up A 27 f) 28 g) N) = ab_ev gG true (d + 1) 129 100 [some (.inr (.inr (some b))), some (.inl v1), some (.inl (nI (k + 1))), some (.inl (nI (k + 1))), some (.inl 1)] [] (TW B b (ab_up I 39 (nI (t + 1))) P (ab_up (ab_up A 27 (ab_up f t (nI a))) 28 (ab_up g t (nI k))) N) := fun a k t f g ht => by
    have e9 : ab_up (ab_up (ab_up (ab_up A 27 f) 28 g) 27 (ab_up f t (nI a))) 28 (ab_up g t (nI k)) = ab_up (ab_up A 27 (ab_up f t (nI a))) 28 (ab_up g t (nI k)) := up4 _ (by decide) _ _ _ _
    rw [bl_129_125, if_neg (by decide)]
    simp (disch := omega) only [Option.bind_some, qb_c0s, qb_c1s, qb_c2s, qb_c3s, tw_isc, tw_P, ↓reduceIte, tw_i0, tw_i1, tw_i2, tw_i9, tw_i10, tw_i12, tw_i16, tw_i19, tw_i21, tw_i22, tw_i35, tw_i36, tw_i38, tw_i39, tw_i42, tw_i43, tw_i45, tw_i46, tw_i48, tw_r3, tw_r4, tw_r5, tw_r6, tw_r7, tw_r8, tw_r11, tw_r13, tw_r14, tw_r15, tw_r17, tw_r18, tw_r20, tw_r23, tw_r24, tw_r25, tw_r26, tw_r27, tw_r28, tw_r29, tw_r30, tw_r31, tw_r32, tw_r33, tw_r34, tw_r37, tw_r40, tw_r41, tw_r47, tw_s27 hb, tw_s28 hb, tw_w39 hb, ab_up_e, ab_up_n, ab_up_u, nI_1, e9]
  have fin : ∀ (a k t : Nat) (f g : Nat → Int32) (u4 : Option ab_V), n < k → k < 1000 → ab_ev gG true (d + 1) 129 100 [some (.inr (.inr (some b))), some (.inl v1), some (.inl (nI a)), some (.inl (nI k)), u4] [] (TW B b (ab_up I 39 (nI t)) P (ab_up (ab_up A 27 f) 28 g) N) = some (some (.inl 1), TW B b (ab_up I 39 (nI t)) P (ab_up (ab_up A 27 f) 28 g) N) := fun a k t f g u4 h h2 => by
    rw [bl_129_100, r38, Option.bind_some, if_pos (nI_lt h (by omega))]
  intro s
  induction s with
  | nil =>
    intro cur a k t f g u4 hk ha hr ht
    rw [List.length_nil] at hk
    rw [bl_129_100, r38, Option.bind_some, if_neg (nI_nlt (by omega) (by omega)), Option.bind_some, if_neg (nI_nlt (by omega) (by omega)), lnS]
    cases cur with
    | nil =>
      rw [List.length_nil] at ha
      rw [if_neg (nI_nlt (by omega) (by omega)), bl_129_125, if_pos rfl, nI_1, fin _ _ _ _ _ _ (by omega) (by omega), if_pos rfl]
      exact ⟨f, g, rfl, fun i hi => absurd hi (Nat.not_lt_zero _), fun i _ => ⟨rfl, rfl⟩⟩
    | cons c cur =>
      rw [List.length_cons] at ha
      rw [if_pos (nI_lt (by omega) (by omega)), put _ _ _ _ _ (by omega), fin _ _ _ _ _ _ (by omega) (by omega), if_neg (by simp)]
      refine ⟨_, _, rfl, ?_, fun i hi => ⟨ab_up_n _ _ (by omega), ab_up_n _ _ (by omega)⟩⟩
      rw [List.append_nil] at hr
      refine lnA_cons (ab_up_e _ _ _) ?_ hr (by rw [List.length_cons]; omega) (fun i hi => absurd hi (Nat.not_lt_zero _))
      rw [ab_up_e, List.length_cons, ha]
  | cons c s ih =>
    intro cur a k t f g u4 hk ha hr ht
    rw [List.length_cons] at hk
    have hc : A 26 k = c := by
      have := hr.dr cur.length
      rw [List.drop_left, ha] at this
      exact this.hd
    have e1 : ∀ t f g, ab_aI 0 (TW B b (ab_up I 39 (nI t)) P (ab_up (ab_up A 27 f) 28 g) N) (b + 26) (nI k) = some c := fun t f g => by
      rw [tw_a26 (by omega), ab_up_n _ _ (by decide), ab_up_n _ _ (by decide), hc]
    rw [bl_129_100, r38, Option.bind_some, if_neg (nI_nlt (by omega) (by omega)), Option.bind_some, if_pos (nI_lt (by omega) (by omega)), tw_r37, Option.bind_some, Option.bind_some, e1, Option.bind_some, lnS]
    by_cases h10 : c = 10
    · rw [if_pos h10, if_pos h10, put _ _ _ _ _ (by omega)]
      have hr2 := hr.dr (cur.length + 1)
      rw [show (cur ++ c :: s).drop (cur.length + 1) = s by rw [← List.drop_drop, List.drop_left]; rfl] at hr2
      obtain ⟨f', g', e2, e3, e4⟩ := ih [] (k + 1) (k + 1) (t + 1) (ab_up f t (nI a)) (ab_up g t (nI k)) (some (.inl 1)) (by omega) rfl (by rw [List.nil_append, ← ha, Nat.add_assoc]; exact hr2) (by omega)
      obtain ⟨q1, q2⟩ := e4 t (by omega)
      rw [ab_up_e] at q1 q2
      refine ⟨f', g', ?_, lnA_cons q1 (by rw [q2, ha]) hr.lf (by omega) e3, fun i hi => ?_⟩
      · rw [e2, List.length_cons, show t + 1 + (lnS [] s).length = t + ((lnS [] s).length + 1) by omega]
      · obtain ⟨p1, p2⟩ := e4 i (by omega)
        rw [ab_up_n _ _ (by omega)] at p1 p2
        exact ⟨p1, p2⟩
    · rw [if_neg h10, if_neg h10, bl_129_125, if_pos rfl, nI_1]
      exact ih (cur ++ [c]) a (k + 1) t f g _ (by omega) (by rw [List.length_append, List.length_singleton]; omega) (by rw [List.append_assoc]; exact hr) ht
/-- from the source's letters on: lines -/
theorem lin_all (d : Nat) (hb : B.1.1 ≤ b) {s : List Int32} (hn : I 38 = nI s.length) (hn2 : s.length ≤ 160) (hr : rdl (A 26) 0 s) (v1 : Int32) (u4 : Option ab_V) :
    ∃ I' A', ab_ev gG true (d + 1) 129 100 [some (.inr (.inr (some b))), some (.inl v1), some (.inl 0), some (.inl 0), u4] [] (TW B b (ab_up I 39 0) P A N) = some (some (.inl 1), TW B b I' P A' N) ∧ fr [39] I I' ∧ fr [27, 28] A A' ∧ twS s I' A' := by
  obtain ⟨f', g', e1, e2, -⟩ := lin_lp (B := B) (b := b) (I := I) (P := P) (N := N) d hb hn hn2 v1 s [] 0 0 0 (A 27) (A 28) u4 (by omega) rfl hr (Nat.le_refl _)
  rw [show ab_up (ab_up A 27 (A 27)) 28 (A 28) = A from by rw [ab_up_s, ab_up_s]] at e1
  refine ⟨_, _, e1, fr.up fr.rf _ rfl, fr.up (fr.up fr.rf _ rfl) _ rfl, ?_, ?_, hn2, ?_, ?_⟩
  · rw [ab_up_n _ _ (by decide)]; exact hn
  · rw [ab_up_n _ _ (by decide), ab_up_n _ _ (by decide)]; exact hr
  · rw [ab_up_e, Nat.zero_add]
  · rw [ab_up_n _ _ (by decide), ab_up_n _ _ (by decide), ab_up_n _ _ (by decide), ab_up_e, ab_up_e]
    exact e2
/-- an input: none, or the text s in buffer i -/
def twIn (o : Option Nat) (s : List Int32) (A : Nat → Nat → Int32) : Prop := match o with
  | none => s = []
  | some i => i < 10 ∧ A 24 i = nI s.length ∧ rdl (A 23) (160 * i) s ∧ s.length ≤ 160
/-- what is left of an input that was read -/
def twOut (o : Option Nat) (A A' : Nat → Nat → Int32) : Prop := match o with
  | none => A' 24 = A 24
  | some i => A' 24 = ab_up (A 24) i 0
/-- reads(w), w beyond the words: the input -/
theorem tw_reads_in (d : Nat) (hb : B.1.1 ≤ b) {w nw lv : Nat} (hw : nw ≤ w) (hw2 : w < 1000) (hI : I 16 = nI nw) (hl : I 21 = nI lv) (hl2 : lv < 5) {o : Option Nat} {s : List Int32} (hc : A 15 lv = oI o) (hin : twIn o s A) :
    ∃ I' A', ab_cl gG true (d + 1) 129 [.inr (.inr (some b)), .inl (nI w)] (TW B b I P A N) = some (some (.inl 1), TW B b I' P A' N) ∧ fr [38, 39] I I' ∧ fr [26, 24, 27, 28] A A' ∧ twS s I' A' ∧ twOut o A A' := by
  have e0 : ab_cl gG true (d + 1) 129 [.inr (.inr (some b)), .inl (nI w)] (TW B b I P A N) = (if oI o < 0 then ab_ev gG true (d + 1) 129 100 [some (.inr (.inr (some b))), some (.inl (nI w)), some (.inl 0), some (.inl 0), none] [] (TW B b (ab_up (ab_up I 38 0) 39 0) P A N)
      else (ab_aI 0 (TW B b (ab_up I 38 0) P A N) (b + 24) (oI o)).bind fun x25 => ab_ev gG true (d + 1) 129 70 [some (.inr (.inr (some b))), some (.inl (nI w)), some (.inl (oI o)), some (.inl 0), none] [] (TW B b (ab_up I 38 x25) P A N)) := by
    rw [ent_129, bl_129_0, tw_w38 hb, Option.bind_some, tw_i16, Option.bind_some, ab_up_n _ _ (by decide), hI, if_neg (nI_nlt hw (by omega))]
    simp (disch := omega) only [Option.bind_some, qb_c0s, qb_c1s, qb_c2s, qb_c3s, tw_isc, tw_P, ↓reduceIte, tw_i0, tw_i1, tw_i2, tw_i9, tw_i10, tw_i12, tw_i16, tw_i19, tw_i21, tw_i22, tw_i35, tw_i36, tw_i38, tw_i39, tw_i42, tw_i43, tw_i45, tw_i46, tw_i48, tw_r3, tw_r4, tw_r5, tw_r6, tw_r7, tw_r8, tw_r11, tw_r13, tw_r14, tw_r15, tw_r17, tw_r18, tw_r20, tw_r23, tw_r24, tw_r25, tw_r26, tw_r27, tw_r28, tw_r29, tw_r30, tw_r31, tw_r32, tw_r33, tw_r34, tw_r37, tw_r40, tw_r41, tw_r47, tw_a15, ab_up_e, ab_up_n, hl, hc, tw_w39 hb, tw_w38 hb, ab_up_u]
  cases o with
  | none =>
    have hs : s = [] := hin
    subst hs
    rw [show oI none = -1 from rfl, if_pos (by decide)] at e0
    obtain ⟨I', A', e1, f1, f2, t1⟩ := lin_all (B := B) (b := b) (I := ab_up I 38 0) (P := P) (A := A) (N := N) (s := []) d hb (ab_up_e _ _ _) (by decide) rdl.nil (nI w) none
    refine ⟨I', A', e0.trans e1, ?_, f2.mo rfl, t1, f2 _ rfl⟩
    exact (fr.up fr.rf _ rfl : fr [38, 39] I (ab_up I 38 0)).tr (f1.mo rfl)
  | some i =>
    obtain ⟨h1, h2, h3, h4⟩ := hin
    rw [show oI (some i) = nI i from rfl, if_neg (nI_pos (by omega)), tw_a24 h1, Option.bind_some, h2] at e0
    have e1 := cpi_lp (B := B) (b := b) (I := ab_up I 38 (nI s.length)) (P := P) (A := A) (N := N) d hb (n := s.length) (x := i) (ab_up_e _ _ _) h4 h1 (nI w) s 0 (A 26) (by omega) h3
    rw [ab_up_s] at e1
    obtain ⟨I', A', e2, f1, f2, t1⟩ := lin_all (B := B) (b := b) (I := ab_up I 38 (nI s.length)) (P := P) (A := ab_up (ab_up A 26 (cpw (A 26) 0 s)) 24 (ab_up (A 24) i 0)) (N := N) (s := s) d hb (ab_up_e _ _ _) h4 (by rw [ab_up_n _ _ (by decide), ab_up_e]; exact cpw_r _ _ _) (nI w) none
    refine ⟨I', A', e0.trans (e1.trans e2), ?_, ?_, t1, ?_⟩
    · exact (fr.up fr.rf _ rfl : fr [38, 39] I (ab_up I 38 (nI s.length))).tr (f1.mo rfl)
    · exact (fr.up (fr.up fr.rf _ rfl) _ rfl : fr [26, 24, 27, 28] A _).tr (f2.mo rfl)
    · show A' 24 = _
      rw [f2 _ rfl, ab_up_e]
/-- reads(w), w a word: the file -/
theorem tw_reads_f (d : Nat) (hb : B.1.1 ≤ b) {r : sT} (hr : okT r) (hW : twW r A N) (hx160 : ∀ x, x ≤ sN r → (sX r x).length ≤ 160) {here a w nw : Nat} {l : List Int32} (hh : here ≤ sN r) (hIh : I 9 = nI here) (hI : I 16 = nI nw) (hnw : nw < 66) (hw : w < nw) (h1 : A 11 w = nI a) (h2 : A 12 w = nI (a + l.length)) (hrd : rdl (A 13) a l) (ha : a + l.length ≤ 200) (hok : okl l) :
    ∃ I' P' A', ab_cl gG true (d + 3) 129 [.inr (.inr (some b)), .inl (nI w)] (TW B b I P A N) = some (some (.inl (match docS r here l with | none => 0 | some _ => 1)), TW B b I' P' A' N) ∧ fr [38, 39, 42, 43] I I' ∧ fr [26, 27, 28] A A' ∧ ∀ t, docS r here l = some t → twS t I' A' := by
  have hn := hr.n
  obtain ⟨I1, P1, e1, f1, t1, t2, t3⟩ := tw_follow (B := B) (b := b) (I := ab_up I 38 0) (P := P) (A := A) (N := N) d hb hr hW hh (by rw [ab_up_n _ _ (by decide)]; exact hIh) (w := w) (by omega) h1 h2 hrd ha hok
  have f0 : fr [38, 39, 42, 43] I I1 := (fr.up fr.rf _ rfl : fr [38, 39, 42, 43] I (ab_up I 38 0)).tr (f1.mo rfl)
  have e0 : ab_cl gG true (d + 3) 129 [.inr (.inr (some b)), .inl (nI w)] (TW B b I P A N) = (if oI (folS r here l).1 < 0 then some (some (.inl 0), TW B b I1 P1 A N) else (ab_aI 1 (TW B b I1 P1 A N) (b + 2) (oI (folS r here l).1)).bind fun x8 => if x8 = 0 then (ab_aI 0 (TW B b I1 P1 A N) (b + 5) (oI (folS r here l).1)).bind fun x12 => ab_ev gG true (d + 3) 129 30 [some (.inr (.inr (some b))), some (.inl (nI w)), some (.inl 0), none, none] [] (TW B b (ab_up I1 38 x12) P1 A N) else some (some (.inl 0), TW B b I1 P1 A N)) := by
    rw [ent_129, bl_129_0, tw_w38 hb, Option.bind_some, tw_i16, Option.bind_some, ab_up_n _ _ (by decide), hI, if_pos (nI_lt hw (by omega)), if_pos tw_isc, e1, qb_c0s, Option.bind_some]
    simp (disch := omega) only [Option.bind_some, qb_c0s, qb_c1s, qb_c2s, qb_c3s, tw_isc, tw_P, ↓reduceIte, tw_i0, tw_i1, tw_i2, tw_i9, tw_i10, tw_i12, tw_i16, tw_i19, tw_i21, tw_i22, tw_i35, tw_i36, tw_i38, tw_i39, tw_i42, tw_i43, tw_i45, tw_i46, tw_i48, tw_r3, tw_r4, tw_r5, tw_r6, tw_r7, tw_r8, tw_r11, tw_r13, tw_r14, tw_r15, tw_r17, tw_r18, tw_r20, tw_r23, tw_r24, tw_r25, tw_r26, tw_r27, tw_r28, tw_r29, tw_r30, tw_r31, tw_r32, tw_r33, tw_r34, tw_r37, tw_r40, tw_r41, tw_r47, t1, tw_w38 hb]
  unfold docS
  rcases hF : folS r here l with ⟨nd, vc⟩
  rw [hF] at e0
  dsimp only at e0 ⊢
  cases nd with
  | none =>
    rw [if_pos (by decide)] at e0
    exact ⟨I1, P1, A, e0, f0, fr.rf, fun t h => by cases h⟩
  | some x =>
    have hx : x ≤ sN r := (fol_ok hr hh l).1 x (by rw [hF])
    obtain ⟨k1, k2, k3, k4, k5⟩ := hW.2 x hx
    rw [show oI (some x) = nI x from rfl, if_neg (nI_pos (by omega)), tw_a2 (by omega), Option.bind_some, k1] at e0
    dsimp only
    cases hD : sD r x with
    | true =>
      rw [hD, if_neg (by decide)] at e0
      rw [if_pos rfl]
      exact ⟨I1, P1, A, e0, f0, fr.rf, fun t h => by cases h⟩
    | false =>
      rw [hD, if_pos (by decide), tw_a5 (by omega), Option.bind_some, k4] at e0
      rw [if_neg (by decide)]
      dsimp only
      have e2 := cpc_lp (B := B) (b := b) (I := ab_up I1 38 (nI (sX r x).length)) (P := P1) (A := A) (N := N) (d + 2) hb (n := (sX r x).length) (x := x) (ab_up_e _ _ _) (hx160 x hx) (by rw [ab_up_n _ _ (by decide), t1, hF]; rfl) (by omega) (nI w) (sX r x) 0 (A 26) (by omega) k5
      rw [ab_up_s] at e2
      obtain ⟨I', A', e3, g1, g2, g3⟩ := lin_all (B := B) (b := b) (I := ab_up I1 38 (nI (sX r x).length)) (P := P1) (A := ab_up A 26 (cpw (A 26) 0 (sX r x))) (N := N) (s := sX r x) (d + 2) hb (ab_up_e _ _ _) (hx160 x hx) (by rw [ab_up_e]; exact cpw_r _ _ _) (nI w) none
      refine ⟨I', P1, A', e0.trans (e2.trans e3), ?_, ?_, fun t h => by cases h; exact g3⟩
      · exact (f0.up _ rfl).tr (g1.mo rfl)
      · exact (fr.up fr.rf _ rfl : fr [26, 27, 28] A _).tr (g2.mo rfl)
end
