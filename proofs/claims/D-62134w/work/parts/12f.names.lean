/-! ===== names as numbers; the tree's order ===== -/
def okc (c : Int32) : Prop := 1 ≤ c.toInt ∧ c.toInt ≤ 126
def okl (l : List Int32) : Prop := ∀ c, c ∈ l → okc c
theorem okc_nI {c : Int32} (h : okc c) : ∃ k, 1 ≤ k ∧ k ≤ 126 ∧ c = nI k := by
  obtain ⟨h1, h2⟩ := h
  have h0 : ¬ c < 0 := fun h => by
    rw [Int32.lt_iff_toInt_lt] at h
    have : (0 : Int32).toInt = 0 := rfl
    omega
  obtain ⟨j, hj, rfl⟩ := nI_of h0
  rw [nI_toInt hj] at h1 h2
  exact ⟨j, by omega, by omega, rfl⟩
theorem okc_of {k : Nat} (h1 : 1 ≤ k) (h2 : k ≤ 126) : okc (nI k) := by
  unfold okc
  rw [nI_toInt (by omega)]
  omega
theorem okl.nil : okl [] := fun c h => absurd h (List.not_mem_nil)
theorem okl.cons {c : Int32} {l : List Int32} (h : okc c) (hl : okl l) : okl (c :: l) := fun a ha => by
  rcases List.mem_cons.mp ha with h1 | h1
  · rw [h1]; exact h
  · exact hl a h1
theorem okl.hd {c : Int32} {l : List Int32} (h : okl (c :: l)) : okc c := h c List.mem_cons_self
theorem okl.tl {c : Int32} {l : List Int32} (h : okl (c :: l)) : okl l := fun a ha => h a (List.mem_cons_of_mem _ ha)
theorem okl.ap {l m : List Int32} (h : okl l) (h' : okl m) : okl (l ++ m) := fun a ha => by
  rcases List.mem_append.mp ha with h1 | h1
  · exact h a h1
  · exact h' a h1
theorem okl.tk {l : List Int32} (h : okl l) (k : Nat) : okl (l.take k) := fun a ha => h a (List.mem_of_mem_take ha)
theorem okl.dr {l : List Int32} (h : okl l) (k : Nat) : okl (l.drop k) := fun a ha => h a (List.mem_of_mem_drop ha)
/-- letters of texts: bytes -/
def okb (l : List Int32) : Prop := ∀ c, c ∈ l → 0 ≤ c.toInt ∧ c.toInt < 256
theorem okl.b {l : List Int32} (h : okl l) : okb l := fun c hc => by
  obtain ⟨h1, h2⟩ := h c hc
  omega
theorem okb.nil : okb [] := fun c h => absurd h (List.not_mem_nil)
theorem okb.cons {c : Int32} {l : List Int32} (h : 0 ≤ c.toInt ∧ c.toInt < 256) (hl : okb l) : okb (c :: l) := fun a ha => by
  rcases List.mem_cons.mp ha with h1 | h1
  · rw [h1]; exact h
  · exact hl a h1
theorem okb.hd {c : Int32} {l : List Int32} (h : okb (c :: l)) : 0 ≤ c.toInt ∧ c.toInt < 256 := h c List.mem_cons_self
theorem okb.tl {c : Int32} {l : List Int32} (h : okb (c :: l)) : okb l := fun a ha => h a (List.mem_cons_of_mem _ ha)
theorem okb.ap {l m : List Int32} (h : okb l) (h' : okb m) : okb (l ++ m) := fun a ha => by
  rcases List.mem_append.mp ha with h1 | h1
  · exact h a h1
  · exact h' a h1
theorem okb.tk {l : List Int32} (h : okb l) (k : Nat) : okb (l.take k) := fun a ha => h a (List.mem_of_mem_take ha)
theorem okb.dr {l : List Int32} (h : okb l) (k : Nat) : okb (l.drop k) := fun a ha => h a (List.mem_of_mem_drop ha)
def pkN : Nat → List Int32 → Nat → Nat
  | 0, _, v => v
  | k + 1, [], v => pkN k [] (v * 256)
  | k + 1, c :: l, v => pkN k l (v * 256 + c.toNatClampNeg)
theorem pk_stp {v k : Nat} (hv : v < 281474976710656) (hk : k < 256) : lN v <<< 8 ||| (nI k).toInt64 = lN (v * 256 + k) := by
  rw [g_shl (a := v) (k := 8) (p := 256) (y := 8) (by decide) (by decide) (by decide) (by omega), nI_l (by omega)]
  exact g_or (k := 8) (p := 256) (by decide) hk (by omega)
theorem pk_stp0 {v : Nat} (hv : v < 281474976710656) : lN v <<< 8 ||| 0 = lN (v * 256) := by
  have := pk_stp (k := 0) hv (by decide)
  rw [Nat.add_zero] at this
  exact this
theorem okc_cl {c : Int32} (h : okc c) : c = nI c.toNatClampNeg ∧ 1 ≤ c.toNatClampNeg ∧ c.toNatClampNeg ≤ 126 := by
  obtain ⟨k, h1, h2, rfl⟩ := okc_nI h
  rw [nI_clamp (by omega)]
  exact ⟨rfl, h1, h2⟩
theorem pkF_N : ∀ (k : Nat) (l : List Int32) (v : Nat), okl l → k ≤ 7 → v < 256 ^ (7 - k) → pkF k l (lN v) = lN (pkN k l v) := by
  intro k
  induction k with
  | zero => intro l v _ _ _; cases l <;> rfl
  | succ k ih =>
    intro l v hl hk hv
    have hp : 256 ^ (7 - k) = 256 ^ (7 - (k + 1)) * 256 := by rw [← Nat.pow_succ]; congr 1; omega
    have hb : v < 281474976710656 := Nat.lt_of_lt_of_le hv (Nat.le_trans (Nat.pow_le_pow_right (by decide) (show 7 - (k + 1) ≤ 6 by omega)) (by decide))
    cases l with
    | nil =>
      rw [pkF, pkN, pk_stp0 hb]
      exact ih [] _ hl (by omega) (by rw [hp]; exact Nat.mul_lt_mul_of_pos_right hv (by decide))
    | cons c l =>
      obtain ⟨h1, h2, h3⟩ := okc_cl hl.hd
      rw [pkF, pkN]
      rw [show c.toInt64 = (nI c.toNatClampNeg).toInt64 from by rw [← h1], pk_stp hb (by omega)]
      exact ih l _ hl.tl (by omega) (by rw [hp]; omega)
theorem pkN_lin : ∀ (k : Nat) (l : List Int32) (v : Nat), pkN k l v = v * 256 ^ k + pkN k l 0 := by
  intro k
  induction k with
  | zero => intro l v; cases l <;> simp [pkN]
  | succ k ih =>
    intro l v
    cases l with
    | nil =>
      rw [pkN, pkN, ih [] (v * 256), Nat.zero_mul, Nat.pow_succ, Nat.mul_assoc, Nat.mul_comm 256]
    | cons c l =>
      rw [pkN, pkN, ih l (v * 256 + c.toNatClampNeg), ih l (0 * 256 + c.toNatClampNeg), Nat.add_mul, Nat.zero_mul, Nat.zero_add, Nat.pow_succ, Nat.mul_assoc, Nat.mul_comm 256, Nat.add_assoc]
theorem pkN_nil : ∀ k, pkN k [] 0 = 0 := by
  intro k
  induction k with
  | zero => rfl
  | succ k ih => rw [pkN, Nat.zero_mul]; exact ih
theorem pkN_cons (k : Nat) (c : Int32) (l : List Int32) : pkN (k + 1) (c :: l) 0 = c.toNatClampNeg * 256 ^ k + pkN k l 0 := by
  rw [pkN, pkN_lin k l, Nat.zero_mul, Nat.zero_add]
theorem pkN_lt : ∀ (k : Nat) (l : List Int32), okl l → l.length ≤ k → pkN k l 0 < 256 ^ k := by
  intro k
  induction k with
  | zero => intro l _ h; obtain rfl : l = [] := List.length_eq_zero_iff.mp (by omega); decide
  | succ k ih =>
    intro l hl h
    cases l with
    | nil => rw [pkN_nil]; exact Nat.pow_pos (by decide)
    | cons c l =>
      rw [List.length_cons] at h
      obtain ⟨-, h2, h3⟩ := okc_cl hl.hd
      have := ih l hl.tl (by omega)
      rw [pkN_cons, Nat.pow_succ]
      have h4 : c.toNatClampNeg * 256 ^ k ≤ 126 * 256 ^ k := Nat.mul_le_mul_right _ h3
      omega
theorem pkN_pos {k : Nat} {l : List Int32} (hl : okl l) (h : l.length ≤ k) (h0 : l ≠ []) : 0 < pkN k l 0 := by
  cases l with
  | nil => exact absurd rfl h0
  | cons c l =>
    cases k with
    | zero => rw [List.length_cons] at h; omega
    | succ k =>
      obtain ⟨-, h2, h3⟩ := okc_cl hl.hd
      rw [pkN_cons]
      have h4 : 1 * 256 ^ k ≤ c.toNatClampNeg * 256 ^ k := Nat.mul_le_mul_right _ h2
      have h5 : 0 < 256 ^ k := Nat.pow_pos (by decide)
      omega
theorem pkN_inj : ∀ (k : Nat) (l m : List Int32), okl l → okl m → l.length ≤ k → m.length ≤ k → pkN k l 0 = pkN k m 0 → l = m := by
  intro k
  induction k with
  | zero =>
    intro l m _ _ h h' _
    rw [List.length_eq_zero_iff.mp (show l.length = 0 by omega), List.length_eq_zero_iff.mp (show m.length = 0 by omega)]
  | succ k ih =>
    intro l m hl hm h h' e
    cases l with
    | nil =>
      cases m with
      | nil => rfl
      | cons c m =>
        have := pkN_pos hm h' (by simp)
        rw [pkN_nil] at e
        omega
    | cons c l =>
      cases m with
      | nil =>
        have := pkN_pos hl h (by simp)
        rw [pkN_nil] at e
        omega
      | cons c' m =>
        rw [List.length_cons] at h h'
        rw [pkN_cons, pkN_cons] at e
        have h1 := pkN_lt k l hl.tl (by omega)
        have h2 := pkN_lt k m hm.tl (by omega)
        have h0 : 0 < 256 ^ k := Nat.pow_pos (by decide)
        have e1 : c.toNatClampNeg = c'.toNatClampNeg := by
          have a1 : (c.toNatClampNeg * 256 ^ k + pkN k l 0) / 256 ^ k = c.toNatClampNeg := by
            rw [Nat.mul_comm, Nat.mul_add_div h0, Nat.div_eq_of_lt h1, Nat.add_zero]
          have a2 : (c'.toNatClampNeg * 256 ^ k + pkN k m 0) / 256 ^ k = c'.toNatClampNeg := by
            rw [Nat.mul_comm, Nat.mul_add_div h0, Nat.div_eq_of_lt h2, Nat.add_zero]
          rw [← a1, e, a2]
        have e2 : c = c' := by rw [(okc_cl hl.hd).1, (okc_cl hm.hd).1, e1]
        rw [e1] at e
        rw [e2, ih l m hl.tl hm.tl (by omega) (by omega) (by omega)]
theorem pk_N {l : List Int32} (hl : okl l) (h : l.length ≤ 7) : pk l = lN (pkN 7 l 0) := by
  unfold pk
  rw [if_neg (by omega)]
  exact pkF_N 7 l 0 hl (by omega) (by decide)
theorem pkN_l7 {l : List Int32} (hl : okl l) (h : l.length ≤ 7) : pkN 7 l 0 < 72057594037927936 := pkN_lt 7 l hl h
theorem pk_pos {l : List Int32} (hl : okl l) (h : l.length ≤ 7) (h0 : l ≠ []) : 0 < pk l := by
  have h1 := pkN_l7 hl h
  have h2 := pkN_pos hl h h0
  rw [pk_N hl h, Int64.lt_iff_toInt_lt, lN_ti (by omega), if_pos (by omega)]
  have : (0 : Int64).toInt = 0 := rfl
  omega
theorem pk_long {l : List Int32} (h : 7 < l.length) : pk l = -1 := by
  unfold pk
  rw [if_pos h]
theorem pk_inj {l m : List Int32} (hl : okl l) (hm : okl m) (h' : m.length ≤ 7) (h0 : m ≠ []) (e : pk l = pk m) : l = m := by
  by_cases h : 7 < l.length
  · have := pk_pos hm h' h0
    rw [← e, pk_long h] at this
    exact absurd this (by decide)
  · have h1 := pkN_l7 hl (by omega)
    have h2 := pkN_l7 hm h'
    rw [pk_N hl (by omega), pk_N hm h'] at e
    have e1 := congrArg (fun x : Int64 => x.toBitVec.toNat) e
    rw [wb_tn (by omega), wb_tn (by omega)] at e1
    exact pkN_inj 7 l m hl hm (by omega) h' e1
theorem gdc_ok {c : Int32} (h : gdc c = true) : okc c := by
  unfold gdc at h
  simp only [Bool.or_eq_true, Bool.and_eq_true, decide_eq_true_eq] at h
  unfold okc
  have e1 : (97 : Int32).toInt = 97 := rfl
  have e2 : (122 : Int32).toInt = 122 := rfl
  have e3 : (48 : Int32).toInt = 48 := rfl
  have e4 : (57 : Int32).toInt = 57 := rfl
  rcases h with ((h | h) | h) | h
  · rw [Int32.le_iff_toInt_le, Int32.le_iff_toInt_le] at h; omega
  · rw [Int32.le_iff_toInt_le, Int32.le_iff_toInt_le] at h; omega
  · rw [h]; decide
  · rw [h]; decide
theorem isNm_ok {l : List Int32} (h : isNm l = true) : okl l ∧ l.length ≤ 7 ∧ l ≠ [] := by
  unfold isNm at h
  simp only [Bool.and_eq_true, decide_eq_true_eq, List.all_eq_true] at h
  obtain ⟨⟨h1, h2⟩, h3⟩ := h
  exact ⟨fun c hc => gdc_ok (h3 c hc), h2, fun e => by rw [e] at h1; exact absurd h1 (by decide)⟩
/-- what always holds of the tree -/
def okT (r : sT) : Prop := sN r ≤ 12 ∧ sD r 0 = true ∧ sP r 0 = 0 ∧ (∀ x, 1 ≤ x → x ≤ sN r → sP r x < x ∧ sD r (sP r x) = true ∧ ∃ l, isNm l = true ∧ sM r x = pk l) ∧
  (∀ x y, 1 ≤ x → x ≤ sN r → 1 ≤ y → y ≤ sN r → sP r x = sP r y → sM r x = sM r y → x = y) ∧ (∀ x, x ≤ sN r → sD r x = true → sX r x = []) ∧ ∀ x, x ≤ sN r → okb (sX r x)
theorem okT.n {r : sT} (h : okT r) : sN r ≤ 12 := h.1
theorem okT.p {r : sT} (h : okT r) {x : Nat} (hx : x ≤ sN r) : sP r x ≤ sN r ∧ sD r (sP r x) = true := by
  rcases Nat.eq_zero_or_pos x with h0 | h0
  · subst h0
    rw [h.2.2.1]
    exact ⟨Nat.zero_le _, h.2.1⟩
  · obtain ⟨h1, h2, -⟩ := h.2.2.2.1 x h0 hx
    exact ⟨by omega, h2⟩
theorem okT.m {r : sT} (h : okT r) {x : Nat} (h0 : 1 ≤ x) (hx : x ≤ sN r) : ∃ l, isNm l = true ∧ sM r x = pk l := (h.2.2.2.1 x h0 hx).2.2
theorem okT.pos {r : sT} (h : okT r) {x : Nat} (h0 : 1 ≤ x) (hx : x ≤ sN r) : 0 < sM r x := by
  obtain ⟨l, h1, h2⟩ := h.m h0 hx
  obtain ⟨h3, h4, h5⟩ := isNm_ok h1
  rw [h2]
  exact pk_pos h3 h4 h5
theorem chF_some {r : sT} {d : Nat} {m : Int64} : ∀ (k x y : Nat), chF r d m k x = some y → x ≤ y ∧ y < x + k ∧ y ≤ sN r ∧ sP r y = d ∧ sM r y = m := by
  intro k
  induction k with
  | zero => intro x y e; cases e
  | succ k ih =>
    intro x y e
    rw [chF] at e
    split at e
    · rename_i h
      cases e
      exact ⟨Nat.le_refl _, by omega, h⟩
    · obtain ⟨h1, h2, h3⟩ := ih _ _ e
      exact ⟨by omega, by omega, h3⟩
theorem chF_none {r : sT} {d : Nat} {m : Int64} : ∀ (k x : Nat), chF r d m k x = none → ∀ y, x ≤ y → y < x + k → ¬ (y ≤ sN r ∧ sP r y = d ∧ sM r y = m) := by
  intro k
  induction k with
  | zero => intro x e y h1 h2; omega
  | succ k ih =>
    intro x e y h1 h2
    rw [chF] at e
    split at e
    · cases e
    · rename_i h
      by_cases hy : y = x
      · rw [hy]; exact h
      · exact ih _ e y (by omega) (by omega)
theorem chS_some {r : sT} {d y : Nat} {m : Int64} (e : chS r d m = some y) : 1 ≤ y ∧ y ≤ sN r ∧ sP r y = d ∧ sM r y = m := by
  obtain ⟨h1, -, h2⟩ := chF_some _ _ _ e
  exact ⟨h1, h2⟩
theorem chS_none {r : sT} (hr : okT r) {d : Nat} {m : Int64} (e : chS r d m = none) {y : Nat} (h1 : 1 ≤ y) (h2 : y ≤ sN r) (h3 : sP r y = d) : sM r y ≠ m := fun h4 =>
  chF_none _ _ e y h1 (by have := hr.n; omega) ⟨h2, h3, h4⟩
theorem chS_eq {r : sT} (hr : okT r) {d y : Nat} {m : Int64} (h1 : 1 ≤ y) (h2 : y ≤ sN r) (h3 : sP r y = d) (h4 : sM r y = m) : chS r d m = some y := by
  cases e : chS r d m with
  | none => exact absurd h4 (chS_none hr e h1 h2 h3)
  | some z =>
    obtain ⟨g1, g2, g3, g4⟩ := chS_some e
    rw [hr.2.2.2.2.1 z y g1 g2 h1 h2 (by rw [g3, h3]) (by rw [g4, h4])]
/-- what is no name is no child -/
theorem chS_bad {r : sT} (hr : okT r) {d : Nat} {l : List Int32} (hl : okl l) (h : isNm l = false) : chS r d (pk l) = none := by
  cases e : chS r d (pk l) with
  | none => rfl
  | some y =>
    obtain ⟨g1, g2, g3, g4⟩ := chS_some e
    obtain ⟨m, h1, h2⟩ := hr.m g1 g2
    obtain ⟨h3, h4, h5⟩ := isNm_ok h1
    rw [h2] at g4
    rw [pk_inj hl h3 h4 h5 g4.symm, h1] at h
    cases h
/-- the child of d with the least name above m -/
def isBe (r : sT) (d : Nat) (m : Int64) (b : Option Nat) : Prop := (b = none → ∀ y, 1 ≤ y → y ≤ sN r → sP r y = d → ¬ m < sM r y) ∧ ∀ x, b = some x → 1 ≤ x ∧ x ≤ sN r ∧ sP r x = d ∧ m < sM r x ∧ ∀ y, 1 ≤ y → y ≤ sN r → sP r y = d → m < sM r y → sM r x ≤ sM r y
theorem beF_is {r : sT} {d : Nat} {m : Int64} : ∀ (k x : Nat) (b : Option Nat), 1 ≤ x → (b = none → ∀ y, 1 ≤ y → y < x → y ≤ sN r → sP r y = d → ¬ m < sM r y) → (∀ z, b = some z → 1 ≤ z ∧ z ≤ sN r ∧ sP r z = d ∧ m < sM r z ∧ ∀ y, 1 ≤ y → y < x → y ≤ sN r → sP r y = d → m < sM r y → sM r z ≤ sM r y) →
    (beF r d m k x b = none → ∀ y, 1 ≤ y → y < x + k → y ≤ sN r → sP r y = d → ¬ m < sM r y) ∧ (∀ z, beF r d m k x b = some z → 1 ≤ z ∧ z ≤ sN r ∧ sP r z = d ∧ m < sM r z ∧ ∀ y, 1 ≤ y → y < x + k → y ≤ sN r → sP r y = d → m < sM r y → sM r z ≤ sM r y) := by
  intro k
  induction k with
  | zero => intro x b _ h1 h2; exact ⟨h1, h2⟩
  | succ k ih =>
    intro x b hx h1 h2
    rw [beF, show x + (k + 1) = x + 1 + k by omega]
    apply ih (x + 1) _ (by omega)
    · intro e y y1 y2 y3 y4 y5
      split at e
      · cases e
      · rename_i hc
        by_cases hy : y = x
        · apply hc
          subst hy
          refine ⟨y3, y4, y5, ?_⟩
          rw [e]
          rfl
        · exact h1 e y y1 (by omega) y3 y4 y5
    · intro z e
      split at e
      · rename_i hc
        cases e
        obtain ⟨c1, c2, c3, c4⟩ := hc
        refine ⟨hx, c1, c2, c3, fun y y1 y2 y3 y4 y5 => ?_⟩
        by_cases hy : y = x
        · rw [hy]; exact Int64.le_refl _
        · cases hb : b with
          | none => exact absurd y5 (h1 hb y y1 (by omega) y3 y4)
          | some w =>
            rw [hb] at c4
            exact Int64.le_of_lt (Int64.lt_of_lt_of_le (of_decide_eq_true c4) ((h2 w hb).2.2.2.2 y y1 (by omega) y3 y4 y5))
      · rename_i hc
        obtain ⟨g1, g2, g3, g4, g5⟩ := h2 z e
        refine ⟨g1, g2, g3, g4, fun y y1 y2 y3 y4 y5 => ?_⟩
        by_cases hy : y = x
        · subst hy
          rw [e] at hc
          have : ¬ sM r y < sM r z := fun h => hc ⟨y3, y4, y5, decide_eq_true h⟩
          exact Int64.not_lt.mp this
        · exact g5 y y1 (by omega) y3 y4 y5
theorem beS_is {r : sT} (hr : okT r) (d : Nat) (m : Int64) : isBe r d m (beS r d m) := by
  have hn := hr.n
  obtain ⟨h1, h2⟩ := beF_is (r := r) (d := d) (m := m) 12 1 none (by omega) (fun _ y y1 y2 => by omega) (fun z e => by cases e)
  refine ⟨fun e y y1 y2 y3 => h1 e y y1 (by omega) y2 y3, fun x e => ?_⟩
  obtain ⟨g1, g2, g3, g4, g5⟩ := h2 x e
  exact ⟨g1, g2, g3, g4, fun y y1 y2 y3 y4 => g5 y y1 (by omega) y2 y3 y4⟩
theorem isBe_uni {r : sT} (hr : okT r) {d : Nat} {m : Int64} {a b : Option Nat} (ha : isBe r d m a) (hb : isBe r d m b) : a = b := by
  cases a with
  | none =>
    cases b with
    | none => rfl
    | some y =>
      obtain ⟨g1, g2, g3, g4, -⟩ := hb.2 y rfl
      exact absurd g4 (ha.1 rfl y g1 g2 g3)
  | some x =>
    obtain ⟨k1, k2, k3, k4, k5⟩ := ha.2 x rfl
    cases b with
    | none => exact absurd k4 (hb.1 rfl x k1 k2 k3)
    | some y =>
      obtain ⟨g1, g2, g3, g4, g5⟩ := hb.2 y rfl
      have e : sM r x = sM r y := Int64.le_antisymm (k5 y g1 g2 g3 g4) (g5 x k1 k2 k3 k4)
      rw [hr.2.2.2.2.1 x y k1 k2 g1 g2 (by rw [k3, g3]) e]
theorem beS_eq {r : sT} (hr : okT r) {d : Nat} {m : Int64} {b : Option Nat} (h : isBe r d m b) : beS r d m = b := isBe_uni hr (beS_is hr d m) h
