/-! ===== the twin cuts the line ===== -/
def tkA (f g h : Nat → Int32) (t : Nat) (ts : List (Int32 × Nat × Nat)) : Prop := ∀ j, j < ts.length → f (t + j) = (ts.getD j (0, 0, 0)).1 ∧ g (t + j) = nI (ts.getD j (0, 0, 0)).2.1 ∧ ((ts.getD j (0, 0, 0)).1 = 0 → h (t + j) = nI (ts.getD j (0, 0, 0)).2.2)
theorem op2_pln {c d : Int32} (h : pln c = true) : op2 c d = 0 ∧ c ≠ 32 := by
  simp only [pln, Bool.not_eq_true', Bool.or_eq_false_iff, decide_eq_false_iff_not] at h
  obtain ⟨⟨⟨⟨⟨⟨⟨⟨h1, h2⟩, h3⟩, h4⟩, h5⟩, h6⟩, h7⟩, h8⟩, h9⟩ := h
  refine ⟨?_, h1⟩
  unfold op2
  rw [if_neg h9, if_neg h3, if_neg h7, if_neg h8, if_neg h2, if_neg h5, if_neg h6, if_neg h4]
theorem op2_np {c d : Int32} (h : ¬ pln c = true) (h32 : c ≠ 32) : op2 c d ≠ 0 := by
  intro e
  apply h
  simp only [pln, Bool.not_eq_true', Bool.or_eq_false_iff, decide_eq_false_iff_not]
  unfold op2 at e
  refine ⟨⟨⟨⟨⟨⟨⟨⟨h32, ?_⟩, ?_⟩, ?_⟩, ?_⟩, ?_⟩, ?_⟩, ?_⟩, ?_⟩ <;> intro hc <;> subst hc <;> revert e
  · simp
  · by_cases hd : d = 38 <;> simp [hd]
  · by_cases hd : d = 124 <;> simp [hd]
  · simp
  · by_cases hd : d = 62 <;> simp [hd]
  · simp
  · simp
  · simp
theorem we_drop : ∀ (s : List Int32) (q : Bool) (k : Nat), we q s = some k → k ≤ s.length ∧ ∀ c r, s.drop k = c :: r → ¬ pln c = true
  | [], q, k, e => by
    unfold we at e
    split at e
    · cases e
    · cases e
      exact ⟨Nat.le_refl _, fun c r e => by cases e⟩
  | c :: r, q, k, e => by
    unfold we at e
    split at e
    · rename_i h
      obtain ⟨j, hj, rfl⟩ := Option.map_eq_some_iff.mp e
      obtain ⟨h1, h2⟩ := we_drop r _ j hj
      refine ⟨by rw [List.length_cons]; omega, fun c' r' e' => h2 c' r' ?_⟩
      rw [List.drop_succ_cons] at e'
      exact e'
    · rename_i h
      cases e
      refine ⟨Nat.zero_le _, fun c' r' e' => ?_⟩
      cases e'
      intro hp
      exact h (by rw [hp, Bool.or_true])
def twT (B : ab_H) (b : Nat) (I : Nat → Int32) (P : Int64) (A : Nat → Nat → Int32) (N : Nat → Int64) (t : Nat) (f g h : Nat → Int32) : ab_H := TW B b (ab_up I 12 (nI t)) P (ab_up (ab_up (ab_up A 8 f) 9 g) 10 h) N
section
variable {B : ab_H} {b : Nat} {I : Nat → Int32} {P : Int64} {A : Nat → Nat → Int32} {N : Nat → Int64} {L : List Int32}
theorem tT_7 {f g h : Nat → Int32} : ab_up (ab_up (ab_up A 8 f) 9 g) 10 h 7 = A 7 := by
  rw [ab_up_n _ _ (by decide), ab_up_n _ _ (by decide), ab_up_n _ _ (by decide)]
theorem tT_op (d : Nat) (hn : I 10 = nI L.length) (hl : rdl (A 7) 0 L) (hL : L.length ≤ 64) {t : Nat} {f g h : Nat → Int32} {i : Nat} (hi : i < 900) : ab_cl gG true (d + 1) 83 [.inr (.inr (some b)), .inl (nI i)] (twT B b I P A N t f g h) = some (some (.inl (op2 (L.getD i 0) (L.getD (i + 1) 0))), twT B b I P A N t f g h) :=
  tw_op d (by rw [ab_up_n _ _ (by decide)]; exact hn) (by rw [tT_7]; exact hl) hL hi
/-- to[tokens - 1] = e -/
theorem tT_to (hb : B.1.1 ≤ b) {t : Nat} (ht : t < 64) {f g h : Nat → Int32} {x : Int32} {K : ab_H → Option ab_R} : ((ab_fR (twT B b I P A N (t + 1) f g h) b 715).bind fun o1 => (ab_fI (twT B b I P A N (t + 1) f g h) b 712).bind fun x2 => o1.bind fun a3 => (ab_sI 0 (twT B b I P A N (t + 1) f g h) a3 (x2 - (1 : Int32)) x).bind K) = K (twT B b I P A N (t + 1) f g (ab_up h t x)) := by
  unfold twT
  rw [tw_r15, Option.bind_some, tw_i12, Option.bind_some, Option.bind_some, ab_up_e, nI_pred, tw_s10 hb ht, Option.bind_some, ab_up_e, ab_up_u]
theorem tT_tok (d : Nat) (hb : B.1.1 ≤ b) {t : Nat} (ht : t < 64) {f g h : Nat → Int32} (k i : Int32) : ab_cl gG true d 84 [.inr (.inr (some b)), .inl k, .inl i] (twT B b I P A N t f g h) = some (none, twT B b I P A N (t + 1) (ab_up f t k) (ab_up g t i) (ab_up h t i)) := by
  unfold twT
  rw [tw_token d hb (ab_up_e _ _ _) ht, ab_up_u]
  congr 3
  funext j
  unfold ab_up
  by_cases h1 : j = 10
  · simp [h1]
  · by_cases h2 : j = 9
    · simp [h2]
    · by_cases h3 : j = 8
      · simp [h3]
      · simp [h1, h2, h3]
theorem tT_rd (hn : I 10 = nI L.length) (hl : rdl (A 7) 0 L) (hL : L.length ≤ 64) {t : Nat} {f g h : Nat → Int32} {i : Nat} (hi : i < L.length) : ab_aI 0 (twT B b I P A N t f g h) (b + 7) (nI i) = some (L.getD i 0) := by
  unfold twT
  rw [tw_a7 (by omega), tT_7]
  have := hl i hi
  rw [Nat.zero_add] at this
  rw [this]
/-- one letter of the loop, up to place 26 -/
theorem cut_in (d : Nat) (hn : I 10 = nI L.length) (hl : rdl (A 7) 0 L) (hL : L.length ≤ 64) {t : Nat} {f g h : Nat → Int32} {i : Nat} (hi : i < L.length) (v1 : Int32) (q : Bool) (u4 u5 : Option ab_V) :
    ab_ev gG true (d + 2) 69 9 [some (.inr (.inr (some b))), some (.inl v1), some (.inl (b01 q)), some (.inl (nI i)), u4, u5] [] (twT B b I P A N t f g h) =
    ab_ev gG true (d + 2) 69 26 [some (.inr (.inr (some b))), some (.inl v1), some (.inl (b01 q)), some (.inl (nI i)), some (.inl (L.getD i 0)), none] [.inl (if q then 0 else op2 (L.getD i 0) (L.getD (i + 1) 0))] (twT B b I P A N t f g h) := by
  have e1 : ab_fI (twT B b I P A N t f g h) b 710 = some (nI L.length) := by
    unfold twT
    rw [tw_i10, ab_up_n _ _ (by decide), hn]
  have e2 : ab_fR (twT B b I P A N t f g h) b 711 = some (some (b + 7)) := tw_r11
  rw [bl_69_9, e1, Option.bind_some, if_pos (nI_lt hi (by omega)), e2, Option.bind_some, Option.bind_some, tT_rd hn hl hL hi, Option.bind_some]
  cases q with
  | true => rw [if_neg (by decide)]; rfl
  | false =>
    rw [if_pos (show b01 false = 0 from rfl), if_pos (show ab_isc (twT B b I P A N t f g h) b 7 = true from tw_isc), tT_op d hn hl hL (by omega), qb_c1s, Option.bind_some]
    rfl
theorem cutW (d : Nat) (hb : B.1.1 ≤ b) (hn : I 10 = nI L.length) (hl : rdl (A 7) 0 L) (hL : L.length ≤ 64) {t : Nat} (ht : t < 64) {f g : Nat → Int32} :
    ∀ (s : List Int32) (i : Nat) (q : Bool) (h : Nat → Int32) (u4 u5 : Option ab_V), i + s.length = L.length → (∀ j, j < s.length → L.getD (i + j) 0 = s.getD j 0) → h t = nI i →
    (we q s = none → ∃ h', ab_ev gG true (d + 2) 69 9 [some (.inr (.inr (some b))), some (.inl 1), some (.inl (b01 q)), some (.inl (nI i)), u4, u5] [] (twT B b I P A N (t + 1) f g h) = some (some (.inl 0), twT B b I P A N (t + 1) f g h')) ∧
    (∀ k, we q s = some k → ∃ u4' u5', ab_ev gG true (d + 2) 69 9 [some (.inr (.inr (some b))), some (.inl 1), some (.inl (b01 q)), some (.inl (nI i)), u4, u5] [] (twT B b I P A N (t + 1) f g h) = ab_ev gG true (d + 2) 69 9 [some (.inr (.inr (some b))), some (.inl 1), some (.inl 0), some (.inl (nI (i + k))), u4', u5'] [] (twT B b I P A N (t + 1) f g (ab_up h t (nI (i + k))))) := by
  intro s
  induction s with
  | nil =>
    intro i q h u4 u5 hi hs hh
    rw [List.length_nil, Nat.add_zero] at hi
    have e1 : ab_fI (twT B b I P A N (t + 1) f g h) b 710 = some (nI L.length) := by
      unfold twT
      rw [tw_i10, ab_up_n _ _ (by decide), hn]
    cases q with
    | true =>
      refine ⟨fun _ => ⟨h, ?_⟩, fun k e => by cases e⟩
      rw [bl_69_9, e1, Option.bind_some, if_neg (nI_nlt (by omega) (by omega)), if_neg (by decide)]
    | false =>
      refine ⟨fun e => (by cases e), fun k e => ?_⟩
      cases e
      refine ⟨u4, u5, ?_⟩
      rw [show i + 0 = i from rfl, ← hh, ab_up_s, hh]
      rfl
  | cons c r ih =>
    intro i q h u4 u5 hi hs hh
    rw [List.length_cons] at hi
    have hc : L.getD i 0 = c := by have := hs 0 (by rw [List.length_cons]; omega); rwa [Nat.add_zero, List.getD_cons_zero] at this
    have hs' : ∀ j, j < r.length → L.getD (i + 1 + j) 0 = r.getD j 0 := fun j hj => by
      have := hs (j + 1) (by rw [List.length_cons]; omega)
      rw [List.getD_cons_succ] at this
      rw [← this]
      congr 1
      omega
    by_cases hq : (q || pln c) = true
    · have hwe : we q (c :: r) = (we (if c = 39 then !q else q) r).map (· + 1) := by
        rw [we, if_pos hq]
      -- the letter belongs to the word
      have step : ∃ v4 v5, ab_ev gG true (d + 2) 69 9 [some (.inr (.inr (some b))), some (.inl 1), some (.inl (b01 q)), some (.inl (nI i)), u4, u5] [] (twT B b I P A N (t + 1) f g h) = ab_ev gG true (d + 2) 69 9 [some (.inr (.inr (some b))), some (.inl 1), some (.inl (b01 (if c = 39 then !q else q))), some (.inl (nI (i + 1))), v4, v5] [] (twT B b I P A N (t + 1) f g (ab_up h t (nI (i + 1)))) := by
        rw [cut_in d hn hl hL (by omega), hc]
        cases q with
        | true =>
          rw [if_pos rfl, bl_69_26, if_neg (by decide)]
          by_cases h39 : c = 39
          · rw [if_pos h39, if_pos h39, bl_69_36, tT_to hb ht, nI_1]
            exact ⟨_, _, rfl⟩
          · rw [if_neg h39, if_neg h39, bl_69_36, tT_to hb ht, nI_1]
            exact ⟨_, _, rfl⟩
        | false =>
          have hp : pln c = true := by simpa using hq
          obtain ⟨ho, h32⟩ := op2_pln (d := L.getD (i + 1) 0) hp
          rw [if_neg (by decide), ho, bl_69_26, if_pos (by decide), if_neg h32, if_neg (by decide), if_pos rfl, if_neg (by decide), bl_69_90]
          by_cases h39 : c = 39
          · rw [if_pos h39, if_pos h39, tT_to hb ht, nI_1]
            exact ⟨_, _, rfl⟩
          · rw [if_neg h39, if_neg h39, tT_to hb ht, nI_1]
            exact ⟨_, _, rfl⟩
      obtain ⟨v4, v5, e1⟩ := step
      obtain ⟨g1, g2⟩ := ih (i + 1) (if c = 39 then !q else q) (ab_up h t (nI (i + 1))) v4 v5 (by omega) hs' (ab_up_e _ _ _)
      rw [hwe, e1]
      refine ⟨fun e => ?_, fun k e => ?_⟩
      · exact g1 (Option.map_eq_none_iff.mp e)
      · obtain ⟨j, hj, rfl⟩ := Option.map_eq_some_iff.mp e
        obtain ⟨w4, w5, g3⟩ := g2 j hj
        refine ⟨w4, w5, ?_⟩
        rw [g3, ab_up_u, show i + 1 + j = i + (j + 1) by omega]
    · have hq0 : q = false := by cases q <;> simp_all
      subst hq0
      have hwe : we false (c :: r) = some 0 := by rw [we, if_neg hq]
      refine ⟨fun e => (by rw [hwe] at e; cases e), fun k e => ?_⟩
      rw [hwe] at e
      cases e
      refine ⟨u4, u5, ?_⟩
      rw [show i + 0 = i from rfl, ← hh, ab_up_s, hh]
      rfl
theorem cut_end (d : Nat) (hn : I 10 = nI L.length) (hL : L.length ≤ 64) {t : Nat} {f g h : Nat → Int32} (v1 : Int32) (u4 u5 : Option ab_V) : ab_ev gG true (d + 2) 69 9 [some (.inr (.inr (some b))), some (.inl v1), some (.inl 0), some (.inl (nI L.length)), u4, u5] [] (twT B b I P A N t f g h) = some (some (.inl 1), twT B b I P A N t f g h) := by
  have e1 : ab_fI (twT B b I P A N t f g h) b 710 = some (nI L.length) := by
    unfold twT
    rw [tw_i10, ab_up_n _ _ (by decide), hn]
  rw [bl_69_9, e1, Option.bind_some, if_neg (nI_nlt (by omega) (by omega)), if_pos rfl]
theorem tkA_cons {f g h : Nat → Int32} {t : Nat} {k : Int32} {a e : Nat} {ts : List (Int32 × Nat × Nat)} (h1 : f t = k) (h2 : g t = nI a) (h3 : k = 0 → h t = nI e) (hr : tkA f g h (t + 1) ts) : tkA f g h t ((k, a, e) :: ts) := by
  intro j hj
  cases j with
  | zero => exact ⟨h1, h2, h3⟩
  | succ j =>
    have := hr j (by rw [List.length_cons] at hj; omega)
    rw [show t + 1 + j = t + (j + 1) by omega] at this
    rw [List.getD_cons_succ]
    exact this
theorem cutM (d : Nat) (hb : B.1.1 ≤ b) (hn : I 10 = nI L.length) (hl : rdl (A 7) 0 L) (hL : L.length ≤ 64) :
    ∀ (n : Nat) (s : List Int32) (i t : Nat) (f g h : Nat → Int32) (v1 : Int32) (u4 u5 : Option ab_V), s.length ≤ n → i + s.length = L.length → (∀ j, j < s.length → L.getD (i + j) 0 = s.getD j 0) → t ≤ i → (v1 = 0 ∨ (v1 = 1 ∧ ∀ c r, s = c :: r → ¬ pln c = true)) →
    (tk n i s = none → ∃ t' f' g' h', ab_ev gG true (d + 2) 69 9 [some (.inr (.inr (some b))), some (.inl v1), some (.inl 0), some (.inl (nI i)), u4, u5] [] (twT B b I P A N t f g h) = some (some (.inl 0), twT B b I P A N t' f' g' h')) ∧
    (∀ ts, tk n i s = some ts → ∃ f' g' h', ab_ev gG true (d + 2) 69 9 [some (.inr (.inr (some b))), some (.inl v1), some (.inl 0), some (.inl (nI i)), u4, u5] [] (twT B b I P A N t f g h) = some (some (.inl 1), twT B b I P A N (t + ts.length) f' g' h') ∧ tkA f' g' h' t ts ∧ t + ts.length ≤ L.length ∧ ∀ j, j < t → f' j = f j ∧ g' j = g j ∧ h' j = h j) := by
  intro n
  induction n with
  | zero =>
    intro s i t f g h v1 u4 u5 hs hi hj hti hv
    obtain rfl : s = [] := List.length_eq_zero_iff.mp (by omega)
    refine ⟨fun e => (by cases e), fun ts e => ?_⟩
    cases e
    have : i = L.length := hi
    rw [this]
    exact ⟨f, g, h, cut_end d hn hL v1 u4 u5, fun j hj => absurd hj (Nat.not_lt_zero _), by rw [List.length_nil]; omega, fun j _ => ⟨rfl, rfl, rfl⟩⟩
  | succ n ih =>
    intro s i t f g h v1 u4 u5 hs hi hj hti hv
    cases s with
    | nil =>
      refine ⟨fun e => (by cases e), fun ts e => ?_⟩
      cases e
      have : i = L.length := hi
      rw [this]
      exact ⟨f, g, h, cut_end d hn hL v1 u4 u5, fun j hj => absurd hj (Nat.not_lt_zero _), by rw [List.length_nil]; omega, fun j _ => ⟨rfl, rfl, rfl⟩⟩
    | cons c r =>
      rw [List.length_cons] at hs hi
      have hc : L.getD i 0 = c := by have := hj 0 (by rw [List.length_cons]; omega); rwa [Nat.add_zero, List.getD_cons_zero] at this
      have hs' : ∀ j, j < r.length → L.getD (i + 1 + j) 0 = r.getD j 0 := fun j h9 => by
        have := hj (j + 1) (by rw [List.length_cons]; omega)
        rw [List.getD_cons_succ] at this
        rw [← this]
        congr 1
        omega
      have hd : L.getD (i + 1) 0 = r.getD 0 0 := by
        by_cases h0 : 0 < r.length
        · exact hs' 0 h0
        · rw [getD_out (by omega), getD_out (by omega)]
      have e0 := cut_in (N := N) (P := P) (b := b) (B := B) d hn hl hL (t := t) (f := f) (g := g) (h := h) (i := i) (by omega) v1 false u4 u5
      rw [hc, hd] at e0
      have e0 : ab_ev gG true (d + 2) 69 9 [some (.inr (.inr (some b))), some (.inl v1), some (.inl 0), some (.inl (nI i)), u4, u5] [] (twT B b I P A N t f g h) = ab_ev gG true (d + 2) 69 26 [some (.inr (.inr (some b))), some (.inl v1), some (.inl 0), some (.inl (nI i)), some (.inl c), none] [.inl (op2 c (r.getD 0 0))] (twT B b I P A N t f g h) := e0
      rw [e0, bl_69_26, if_pos rfl]
      by_cases h32 : c = 32
      · rw [if_pos h32, nI_1]
        have et : tk (n + 1) i (c :: r) = tk n (i + 1) r := by rw [tk, if_pos h32]
        rw [et]
        exact ih r (i + 1) t f g h 0 _ _ (by omega) (by omega) hs' (by omega) (Or.inl rfl)
      · rw [if_neg h32]
        by_cases hp : pln c = true
        · have hv0 : v1 = 0 := hv.resolve_right (fun h9 => h9.2 c r rfl hp)
          subst hv0
          obtain ⟨ho, -⟩ := op2_pln (d := r.getD 0 0) hp
          rw [ho, if_neg (by decide), if_pos rfl, if_pos rfl, if_pos (show ab_isc (twT B b I P A N t f g h) b 7 = true from tw_isc), tT_tok _ hb (by omega), qb_c0s, Option.bind_some, bl_69_90]
          have hwe : we false (c :: r) = (we (if c = 39 then true else false) r).map (· + 1) := by
            rw [we, if_pos (by rw [hp]; rfl)]
            rfl
          have et : tk (n + 1) i (c :: r) = match we false (c :: r) with
              | none => none
              | some k => (tk n (i + k) ((c :: r).drop k)).map ((0, i, i + k) :: ·) := by rw [tk, if_neg h32, if_pos hp]; rfl
          have step : ∃ w4 w5, (if c = 39 then (ab_fR (twT B b I P A N (t + 1) (ab_up f t 0) (ab_up g t (nI i)) (ab_up h t (nI i))) b 715).bind fun o1 => (ab_fI (twT B b I P A N (t + 1) (ab_up f t 0) (ab_up g t (nI i)) (ab_up h t (nI i))) b 712).bind fun x2 => o1.bind fun a3 => (ab_sI 0 (twT B b I P A N (t + 1) (ab_up f t 0) (ab_up g t (nI i)) (ab_up h t (nI i))) a3 (x2 - (1 : Int32)) (nI i + 1)).bind fun h4 => ab_ev gG true (d + 1 + 1) 69 9 [some (.inr (.inr (some b))), some (.inl 1), some (.inl 1), some (.inl (nI i + 1)), some (.inl c), some (.inl 0)] [] h4
            else (ab_fR (twT B b I P A N (t + 1) (ab_up f t 0) (ab_up g t (nI i)) (ab_up h t (nI i))) b 715).bind fun o1 => (ab_fI (twT B b I P A N (t + 1) (ab_up f t 0) (ab_up g t (nI i)) (ab_up h t (nI i))) b 712).bind fun x2 => o1.bind fun a3 => (ab_sI 0 (twT B b I P A N (t + 1) (ab_up f t 0) (ab_up g t (nI i)) (ab_up h t (nI i))) a3 (x2 - (1 : Int32)) (nI i + 1)).bind fun h4 => ab_ev gG true (d + 1 + 1) 69 9 [some (.inr (.inr (some b))), some (.inl 1), some (.inl 0), some (.inl (nI i + 1)), some (.inl c), some (.inl 0)] [] h4) = ab_ev gG true (d + 2) 69 9 [some (.inr (.inr (some b))), some (.inl 1), some (.inl (b01 (if c = 39 then true else false))), some (.inl (nI (i + 1))), w4, w5] [] (twT B b I P A N (t + 1) (ab_up f t 0) (ab_up g t (nI i)) (ab_up h t (nI (i + 1)))) := by
            by_cases h39 : c = 39
            · rw [if_pos h39, if_pos h39, tT_to hb (by omega), nI_1, ab_up_u]
              exact ⟨_, _, rfl⟩
            · rw [if_neg h39, if_neg h39, tT_to hb (by omega), nI_1, ab_up_u]
              exact ⟨_, _, rfl⟩
          obtain ⟨w4, w5, e1⟩ := step
          rw [e1]
          obtain ⟨g1, g2⟩ := cutW (N := N) (P := P) (t := t) (f := ab_up f t 0) (g := ab_up g t (nI i)) d hb hn hl hL (by omega) r (i + 1) (if c = 39 then true else false) (ab_up h t (nI (i + 1))) w4 w5 (by omega) hs' (ab_up_e _ _ _)
          rw [et, hwe]
          cases hw : we (if c = 39 then true else false) r with
          | none =>
            refine ⟨fun _ => ?_, fun ts e => by cases e⟩
            obtain ⟨h', e2⟩ := g1 hw
            exact ⟨_, _, _, _, e2⟩
          | some k =>
            obtain ⟨x4, x5, e2⟩ := g2 k hw
            obtain ⟨k1, k2⟩ := we_drop r _ k hw
            have hlen : (r.drop k).length = r.length - k := List.length_drop
            obtain ⟨m1, m2⟩ := ih (r.drop k) (i + 1 + k) (t + 1) (ab_up f t 0) (ab_up g t (nI i)) (ab_up (ab_up h t (nI (i + 1))) t (nI (i + 1 + k))) 1 x4 x5 (by omega) (by omega) (fun j h9 => by
              rw [getD_drop, ← hs' (k + j) (by omega)]
              congr 1
              omega) (by omega) (Or.inr ⟨rfl, k2⟩)
            rw [e2]
            show (((tk n (i + (k + 1)) ((c :: r).drop (k + 1))).map ((0, i, i + (k + 1)) :: ·)) = none → _) ∧ ∀ ts, ((tk n (i + (k + 1)) ((c :: r).drop (k + 1))).map ((0, i, i + (k + 1)) :: ·)) = some ts → _
            rw [List.drop_succ_cons, show i + (k + 1) = i + 1 + k by omega]
            refine ⟨fun e => m1 (Option.map_eq_none_iff.mp e), fun ts e => ?_⟩
            obtain ⟨ts', e3, rfl⟩ := Option.map_eq_some_iff.mp e
            obtain ⟨f', g', h', e4, e5, e6, e7⟩ := m2 ts' e3
            obtain ⟨q1, q2, q3⟩ := e7 t (by omega)
            rw [ab_up_e] at q1 q2 q3
            refine ⟨f', g', h', ?_, tkA_cons q1 q2 (fun _ => q3) e5, by rw [List.length_cons]; omega, fun j h9 => ?_⟩
            · rw [e4, List.length_cons, show t + 1 + ts'.length = t + (ts'.length + 1) by omega]
            · obtain ⟨p1, p2, p3⟩ := e7 j (by omega)
              rw [ab_up_n _ _ (by omega)] at p1 p2
              rw [ab_up_n _ _ (by omega), ab_up_n _ _ (by omega)] at p3
              exact ⟨p1, p2, p3⟩
        · have ho := op2_np (d := r.getD 0 0) hp h32
          by_cases hneg : op2 c (r.getD 0 0) < 0
          · have et : tk (n + 1) i (c :: r) = none := by rw [tk, if_neg h32, if_neg hp, if_pos hneg]
            rw [et, if_pos hneg]
            exact ⟨fun _ => ⟨_, _, _, _, rfl⟩, fun ts e => by cases e⟩
          · have et : tk (n + 1) i (c :: r) = (tk n (i + opl (op2 c (r.getD 0 0))) ((c :: r).drop (opl (op2 c (r.getD 0 0))))).map ((op2 c (r.getD 0 0), i, i) :: ·) := by rw [tk, if_neg h32, if_neg hp, if_neg hneg]
            rw [if_neg hneg, if_neg ho, if_pos (show ab_isc (twT B b I P A N t f g h) b 7 = true from tw_isc), tT_tok _ hb (by omega), qb_c0s, Option.bind_some, et]
            -- a double operator needs a second letter
            have fin : ∀ (o : Nat) (w4 w5 : Option ab_V), 1 ≤ o → o ≤ r.length + 1 →
                (((tk n (i + o) ((c :: r).drop o)).map ((op2 c (r.getD 0 0), i, i) :: ·)) = none → ∃ t' f' g' h', ab_ev gG true (d + 2) 69 9 [some (.inr (.inr (some b))), some (.inl 0), some (.inl 0), some (.inl (nI (i + o))), w4, w5] [] (twT B b I P A N (t + 1) (ab_up f t (op2 c (r.getD 0 0))) (ab_up g t (nI i)) (ab_up h t (nI i))) = some (some (.inl 0), twT B b I P A N t' f' g' h')) ∧
                (∀ ts, ((tk n (i + o) ((c :: r).drop o)).map ((op2 c (r.getD 0 0), i, i) :: ·)) = some ts → ∃ f' g' h', ab_ev gG true (d + 2) 69 9 [some (.inr (.inr (some b))), some (.inl 0), some (.inl 0), some (.inl (nI (i + o))), w4, w5] [] (twT B b I P A N (t + 1) (ab_up f t (op2 c (r.getD 0 0))) (ab_up g t (nI i)) (ab_up h t (nI i))) = some (some (.inl 1), twT B b I P A N (t + ts.length) f' g' h') ∧ tkA f' g' h' t ts ∧ t + ts.length ≤ L.length ∧ ∀ j, j < t → f' j = f j ∧ g' j = g j ∧ h' j = h j) := by
              intro o w4 w5 ho1 ho2
              have hlen : ((c :: r).drop o).length = r.length + 1 - o := by rw [List.length_drop, List.length_cons]
              obtain ⟨m1, m2⟩ := ih ((c :: r).drop o) (i + o) (t + 1) (ab_up f t (op2 c (r.getD 0 0))) (ab_up g t (nI i)) (ab_up h t (nI i)) 0 w4 w5 (by omega) (by omega) (fun j h9 => by
                rw [getD_drop, ← hj (o + j) (by rw [List.length_cons]; omega)]
                congr 1
                omega) (by omega) (Or.inl rfl)
              refine ⟨fun e => m1 (Option.map_eq_none_iff.mp e), fun ts e => ?_⟩
              obtain ⟨ts', e3, rfl⟩ := Option.map_eq_some_iff.mp e
              obtain ⟨f', g', h', e4, e5, e6, e7⟩ := m2 ts' e3
              obtain ⟨q1, q2, q3⟩ := e7 t (by omega)
              rw [ab_up_e] at q1 q2 q3
              refine ⟨f', g', h', ?_, tkA_cons q1 q2 (fun _ => q3) e5, by rw [List.length_cons]; omega, fun j h9 => ?_⟩
              · rw [e4, List.length_cons, show t + 1 + ts'.length = t + (ts'.length + 1) by omega]
              · obtain ⟨p1, p2, p3⟩ := e7 j (by omega)
                rw [ab_up_n _ _ (by omega)] at p1 p2 p3
                exact ⟨p1, p2, p3⟩
            have dbl : (op2 c (r.getD 0 0) = 2 ∨ op2 c (r.getD 0 0) = 3 ∨ op2 c (r.getD 0 0) = 6) → 1 ≤ r.length := fun h9 => by
              cases r with
              | nil =>
                exfalso
                revert h9
                show ¬ (op2 c 0 = 2 ∨ op2 c 0 = 3 ∨ op2 c 0 = 6)
                unfold op2
                simp only [show ¬ (0 : Int32) = 38 by decide, show ¬ (0 : Int32) = 62 by decide, show ¬ (0 : Int32) = 124 by decide, ↓reduceIte]
                (repeat' split) <;> decide
              | cons a r => rw [List.length_cons]; omega
            unfold opl
            by_cases d2 : op2 c (r.getD 0 0) = 2
            · rw [if_pos d2, if_pos (Or.inl d2), nI_1, nI_1]
              exact fin 2 _ _ (by omega) (by have := dbl (Or.inl d2); omega)
            · rw [if_neg d2]
              by_cases d3 : op2 c (r.getD 0 0) = 3
              · rw [if_pos d3, if_pos (Or.inr (Or.inl d3)), nI_1, nI_1]
                exact fin 2 _ _ (by omega) (by have := dbl (Or.inr (Or.inl d3)); omega)
              · rw [if_neg d3]
                by_cases d6 : op2 c (r.getD 0 0) = 6
                · rw [if_pos d6, if_pos (Or.inr (Or.inr d6)), nI_1, nI_1]
                  exact fin 2 _ _ (by omega) (by have := dbl (Or.inr (Or.inr d6)); omega)
                · rw [if_neg d6, if_neg (by rintro (h9 | h9 | h9) <;> contradiction), nI_1]
                  exact fin 1 _ _ (by omega) (by omega)
/-- cut() -/
theorem tw_cut (d : Nat) (hb : B.1.1 ≤ b) (hn : I 10 = nI L.length) (hl : rdl (A 7) 0 L) (hL : L.length ≤ 64) :
    (tk L.length 0 L = none → ∃ t' f' g' h', ab_cl gG true (d + 2) 69 [.inr (.inr (some b))] (TW B b I P A N) = some (some (.inl 0), twT B b I P A N t' f' g' h')) ∧
    (∀ ts, tk L.length 0 L = some ts → ∃ f' g' h', ab_cl gG true (d + 2) 69 [.inr (.inr (some b))] (TW B b I P A N) = some (some (.inl 1), twT B b I P A N ts.length f' g' h') ∧ tkA f' g' h' 0 ts ∧ ts.length ≤ L.length) := by
  have e0 : TW B b (ab_up I 12 0) P A N = twT B b I P A N 0 (A 8) (A 9) (A 10) := by
    unfold twT
    rw [show ab_up (ab_up (ab_up A 8 (A 8)) 9 (A 9)) 10 (A 10) = A from by rw [ab_up_s]; rw [ab_up_s]; rw [ab_up_s]]
    rfl
  obtain ⟨g1, g2⟩ := cutM (N := N) (P := P) d hb hn hl hL L.length L 0 0 (A 8) (A 9) (A 10) 0 none none (Nat.le_refl _) (by omega) (fun j _ => by rw [Nat.zero_add]) (Nat.le_refl _) (Or.inl rfl)
  rw [ent_69, bl_69_0, tw_w12 hb, Option.bind_some, e0]
  refine ⟨g1, fun ts e => ?_⟩
  obtain ⟨f', g', h', e1, e2, e3, -⟩ := g2 ts e
  rw [Nat.zero_add] at e1 e3
  exact ⟨f', g', h', e1, e2, e3⟩
end
