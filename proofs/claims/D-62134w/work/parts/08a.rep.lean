/-! ===== MEANING: locals, cells, heaps of the abstract machine in the real one ===== -/
def sd_v : ab_V → Value
  | .inl x => .int x
  | .inr (.inl x) => .long x
  | .inr (.inr x) => va_rf x
theorem sd_cat (v : ab_V) : (sd_v v).category = ab_cat v := by
  match v with
  | .inl x => rfl
  | .inr (.inl x) => rfl
  | .inr (.inr none) => rfl
  | .inr (.inr (some a)) => rfl
theorem sd_cs : ∀ st : List ab_V, ((st.map sd_v).map fun v => v.category).sum = ab_cs st
  | [] => rfl
  | v :: l => by
    simp only [List.map_cons, List.sum_cons, ab_cs, sd_cat]
    rw [sd_cs l]
def sd_pr : Nat → List (Option ab_V) → List (Nat × Value)
  | _, [] => []
  | k, none :: l => sd_pr (k + 1) l
  | k, some v :: l => (k, sd_v v) :: sd_pr (k + 1) l
theorem sd_pr_mem : ∀ (L : List (Option ab_V)) (k : Nat) (q : Nat × Value), q ∈ sd_pr k L ↔ ∃ (j : Nat) (v : ab_V), ab_nth L j = some (some v) ∧ q = (k + j, sd_v v) := by
  intro L
  induction L with
  | nil => intro k q; simp [sd_pr, ab_nth]
  | cons a L ih =>
    intro k q
    cases a with
    | none =>
      rw [sd_pr, ih]
      constructor
      · rintro ⟨j, v, h1, h2⟩
        exact ⟨j + 1, v, h1, by rw [h2]; congr 1; omega⟩
      · rintro ⟨j, v, h1, h2⟩
        cases j with
        | zero => cases h1
        | succ j => exact ⟨j, v, h1, by rw [h2]; congr 1; omega⟩
    | some w =>
      rw [sd_pr, List.mem_cons, ih]
      constructor
      · rintro (h | ⟨j, v, h1, h2⟩)
        · exact ⟨0, w, rfl, h⟩
        · exact ⟨j + 1, v, h1, by rw [h2]; congr 1; omega⟩
      · rintro ⟨j, v, h1, h2⟩
        cases j with
        | zero => cases h1; exact Or.inl h2
        | succ j => exact Or.inr ⟨j, v, h1, by rw [h2]; congr 1; omega⟩
theorem sd_weak {ls : Array Slot} {n : Nat} {l l' : List (Nat × Value)} (h : lv_has ls n l) (hs : ∀ q ∈ l', q ∈ l) : lv_has ls n l' := ⟨h.1, h.2.1, fun q hq => h.2.2 q (hs q hq)⟩
theorem sd_get {ls : Array Slot} {n : Nat} {L : List (Option ab_V)} (h : lv_has ls n (sd_pr 0 L)) {k : Nat} {v : ab_V} (hk : ab_nth L k = some (some v)) : ls[k]? = some (.val (sd_v v)) :=
  h.2.2 (k, sd_v v) ((sd_pr_mem L 0 _).mpr ⟨k, v, hk, by rw [Nat.zero_add]⟩)
theorem ab_nth_set {α : Type} : ∀ (L : List α) (i j : Nat) (x : α), ab_nth (ab_set L i x) j = if j = i ∧ i < L.length then some x else ab_nth L j := by
  intro L
  induction L with
  | nil => intro i j x; simp [ab_set, ab_nth]
  | cons a L ih =>
    intro i j x
    cases i with
    | zero =>
      cases j with
      | zero => simp [ab_set, ab_nth]
      | succ j => simp [ab_set, ab_nth]
    | succ i =>
      cases j with
      | zero => simp [ab_set, ab_nth]
      | succ j => simp [ab_set, ab_nth, ih]
theorem ab_nth_some {α : Type} : ∀ (L : List α) (i : Nat) (x : α), ab_nth L i = some x → i < L.length := by
  intro L
  induction L with
  | nil => intro i x h; cases h
  | cons a L ih =>
    intro i x h
    cases i with
    | zero => exact Nat.succ_pos _
    | succ i => exact Nat.succ_lt_succ (ih i x h)
theorem sd_cut_nth (L : List (Option ab_V)) (i j : Nat) (w : ab_V) (h : ab_nth (ab_cut L i) j = some (some w)) : ab_nth L j = some (some w) ∧ ¬ (j + 1 = i ∧ ab_cat w = 2) := by
  unfold ab_cut at h
  cases i with
  | zero => exact ⟨h, fun q => by omega⟩
  | succ i =>
    dsimp only at h
    split at h
    · rw [ab_nth_set] at h
      by_cases hj : j = i ∧ i < L.length
      · rw [if_pos hj] at h; cases h
      · rw [if_neg hj] at h
        refine ⟨h, fun q => hj ⟨by omega, ?_⟩⟩
        have := ab_nth_some _ _ _ h
        omega
    · rename_i hl
      refine ⟨h, fun q => ?_⟩
      obtain ⟨q1, q2⟩ := q
      obtain rfl : j = i := by omega
      rw [h] at hl
      match w, q2, hl with
      | .inr (.inl x), _, hl => cases hl
theorem sd_st1 (L : List (Option ab_V)) (i : Nat) (v : ab_V) : ∀ q ∈ sd_pr 0 (ab_s1 L i v), q ∈ (i, sd_v v) :: (sd_pr 0 L).filter (fun q => !(q.1 == i) && !(q.1 + 1 == i && q.2.category == 2)) := by
  intro q hq
  obtain ⟨j, w, h1, rfl⟩ := (sd_pr_mem _ _ _).mp hq
  rw [Nat.zero_add]
  unfold ab_s1 at h1
  rw [ab_nth_set] at h1
  by_cases hj : j = i ∧ i < (ab_cut L i).length
  · rw [if_pos hj] at h1
    cases h1
    rw [hj.1]
    exact List.mem_cons_self
  · rw [if_neg hj] at h1
    obtain ⟨h2, h3⟩ := sd_cut_nth L i j w h1
    have hlt := ab_nth_some _ _ _ h1
    have hne : j ≠ i := fun e => hj ⟨e, by omega⟩
    refine List.mem_cons_of_mem _ (List.mem_filter.mpr ⟨(sd_pr_mem _ _ _).mpr ⟨j, w, h2, by rw [Nat.zero_add]⟩, ?_⟩)
    dsimp only
    rw [sd_cat]
    simp only [Bool.and_eq_true, Bool.not_eq_true', beq_eq_false_iff_ne, ne_eq, Bool.and_eq_false_iff]
    refine ⟨hne, ?_⟩
    by_cases e : j + 1 = i
    · exact Or.inr fun e2 => h3 ⟨e, e2⟩
    · exact Or.inl e
theorem sd_st2 (L : List (Option ab_V)) (i : Nat) (v : ab_V) : ∀ q ∈ sd_pr 0 (ab_s2 L i v), q ∈ (i, sd_v v) :: (sd_pr 0 L).filter (fun q => !(q.1 == i) && (!(q.1 == i + 1) && !(q.1 + 1 == i && q.2.category == 2))) := by
  intro q hq
  obtain ⟨j, w, h1, rfl⟩ := (sd_pr_mem _ _ _).mp hq
  rw [Nat.zero_add]
  unfold ab_s2 at h1
  rw [ab_nth_set] at h1
  by_cases hj : j = i + 1 ∧ i + 1 < (ab_set (ab_cut L i) i (some v)).length
  · rw [if_pos hj] at h1; cases h1
  · rw [if_neg hj] at h1
    have hne1 : j ≠ i + 1 := fun e => hj ⟨e, e ▸ ab_nth_some _ _ _ h1⟩
    rw [ab_nth_set] at h1
    by_cases hj2 : j = i ∧ i < (ab_cut L i).length
    · rw [if_pos hj2] at h1
      cases h1
      rw [hj2.1]
      exact List.mem_cons_self
    · rw [if_neg hj2] at h1
      obtain ⟨h2, h3⟩ := sd_cut_nth L i j w h1
      have hlt := ab_nth_some _ _ _ h1
      have hne : j ≠ i := fun e => hj2 ⟨e, by omega⟩
      refine List.mem_cons_of_mem _ (List.mem_filter.mpr ⟨(sd_pr_mem _ _ _).mpr ⟨j, w, h2, by rw [Nat.zero_add]⟩, ?_⟩)
      dsimp only
      rw [sd_cat]
      simp only [Bool.and_eq_true, Bool.not_eq_true', beq_eq_false_iff_ne, ne_eq, Bool.and_eq_false_iff]
      refine ⟨hne, hne1, ?_⟩
      by_cases e : j + 1 = i
      · exact Or.inr fun e2 => h3 ⟨e, e2⟩
      · exact Or.inl e
theorem sd_clr_nth : ∀ (L : List (Option ab_V)) (n j : Nat) (w : ab_V), ab_nth (ab_clr n L) j = some (some w) → ab_nth L j = some (some w) := by
  intro L
  induction L with
  | nil => intro n j w h; cases h
  | cons a L ih =>
    intro n j w h
    rw [ab_clr] at h
    cases j with
    | zero =>
      rw [ab_nth] at h
      split at h
      · exact h
      · cases h
    | succ j => exact ih _ j w h
theorem sd_clr (L : List (Option ab_V)) (n : Nat) : ∀ q ∈ sd_pr 0 (ab_clr n L), q ∈ sd_pr 0 L := by
  intro q hq
  obtain ⟨j, w, h1, h2⟩ := (sd_pr_mem _ _ _).mp hq
  exact (sd_pr_mem _ _ _).mpr ⟨j, w, sd_clr_nth L n j w h1, h2⟩
theorem sd_pad : ∀ (n : Nat) (L : List (Option ab_V)) (j : Nat) (w : ab_V), ab_nth (ab_pad n L) j = some (some w) → ab_nth L j = some (some w) := by
  intro n
  induction n with
  | zero => intro L j w h; exact h
  | succ n ih =>
    intro L j w h
    cases L with
    | nil =>
      rw [ab_pad] at h
      cases j with
      | zero => cases h
      | succ j => exact absurd (ih [] j w h) (by intro q; cases q)
    | cons a L =>
      rw [ab_pad] at h
      cases j with
      | zero => exact h
      | succ j => exact ih L j w h
theorem sd_args : ∀ (as : List ab_V) (k : Nat), ∀ q ∈ sd_pr k (ab_spread as), q ∈ lv_args k (as.map sd_v) := by
  intro as
  induction as with
  | nil => intro k q h; cases h
  | cons a as ih =>
    intro k q h
    match a with
    | .inl x =>
      have h : q ∈ (k, Value.int x) :: sd_pr (k + 1) (ab_spread as) := h
      show q ∈ (k, Value.int x) :: lv_args (k + 1) (as.map sd_v)
      rcases List.mem_cons.mp h with h | h
      · rw [h]; exact List.mem_cons_self
      · exact List.mem_cons_of_mem _ (ih _ q h)
    | .inr (.inr none) =>
      have h : q ∈ (k, Value.null) :: sd_pr (k + 1) (ab_spread as) := h
      show q ∈ (k, Value.null) :: lv_args (k + 1) (as.map sd_v)
      rcases List.mem_cons.mp h with h | h
      · rw [h]; exact List.mem_cons_self
      · exact List.mem_cons_of_mem _ (ih _ q h)
    | .inr (.inr (some x)) =>
      have h : q ∈ (k, Value.ref x) :: sd_pr (k + 1) (ab_spread as) := h
      show q ∈ (k, Value.ref x) :: lv_args (k + 1) (as.map sd_v)
      rcases List.mem_cons.mp h with h | h
      · rw [h]; exact List.mem_cons_self
      · exact List.mem_cons_of_mem _ (ih _ q h)
    | .inr (.inl x) =>
      have h : q ∈ (k, Value.long x) :: sd_pr (k + 1 + 1) (ab_spread as) := h
      show q ∈ (k, Value.long x) :: lv_args (k + 2) (as.map sd_v)
      rcases List.mem_cons.mp h with h | h
      · rw [h]; exact List.mem_cons_self
      · exact List.mem_cons_of_mem _ (ih _ q h)
theorem sd_ent {ls : Array Slot} {n : Nat} {as : List ab_V} (h : lv_has ls n (lv_args 0 (as.map sd_v))) (k : Nat) : lv_has ls n (sd_pr 0 (ab_pad k (ab_spread as))) := by
  refine sd_weak h fun q hq => ?_
  obtain ⟨j, w, h1, h2⟩ := (sd_pr_mem _ _ _).mp hq
  exact sd_args as 0 q ((sd_pr_mem _ _ _).mpr ⟨j, w, sd_pad k _ j w h1, h2⟩)
