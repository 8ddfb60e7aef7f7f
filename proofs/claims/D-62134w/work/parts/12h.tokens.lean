/-! ===== tokens of a line ===== -/
/-- the operator that letter c begins, d behind it; 0: none; -1: a single & -/
def op2 (c d : Int32) : Int32 := if c = 33 then 10 else if c = 38 then (if d = 38 then 2 else -1) else if c = 40 then 8 else if c = 41 then 9 else if c = 59 then 1 else if c = 60 then 5 else if c = 62 then (if d = 62 then 6 else 7) else if c = 124 then (if d = 124 then 3 else 4) else 0
def pln (c : Int32) : Bool := !(decide (c = 32) || decide (c = 59) || decide (c = 38) || decide (c = 124) || decide (c = 60) || decide (c = 62) || decide (c = 40) || decide (c = 41) || decide (c = 33))
/-- how far the word goes on; none: a quote does not end -/
def we : Bool → List Int32 → Option Nat
  | q, [] => if q then none else some 0
  | q, c :: r => if q || pln c then (we (if c = 39 then !q else q) r).map (· + 1) else some 0
def opl (o : Int32) : Nat := if o = 2 ∨ o = 3 ∨ o = 6 then 2 else 1
/-- the tokens of the rest s of the line, that begins at place i: (kind, from, to) -/
def tk : Nat → Nat → List Int32 → Option (List (Int32 × Nat × Nat))
  | 0, _, _ => some []
  | _ + 1, _, [] => some []
  | n + 1, i, c :: r => if c = 32 then tk n (i + 1) r else if pln c = true then match we false (c :: r) with
      | none => none
      | some k => (tk n (i + k) ((c :: r).drop k)).map ((0, i, i + k) :: ·)
    else if op2 c (r.getD 0 0) < 0 then none else (tk n (i + opl (op2 c (r.getD 0 0))) ((c :: r).drop (opl (op2 c (r.getD 0 0))))).map ((op2 c (r.getD 0 0), i, i) :: ·)
abbrev sK : Type := List (Int32 × Nat × Nat)
def tkAt (ts : sK) (t : Nat) : Int32 × Nat × Nat := ts.getD t (0, 0, 0)
/-- kinds, 11 behind the end -/
def tkK (ts : sK) (t : Nat) : Nat := if t < ts.length then (tkAt ts t).1.toNatClampNeg else 11
/-- letters -/
def tkW (L : List Int32) (ts : sK) (t : Nat) : List Int32 := (L.drop (tkAt ts t).2.1).take ((tkAt ts t).2.2 - (tkAt ts t).2.1)
/-- what is right of a line's tokens -/
def tkOk (i n : Nat) (ts : sK) : Prop := ∀ j, j < ts.length → (∃ k, k ≤ 10 ∧ (tkAt ts j).1 = nI k) ∧ i ≤ (tkAt ts j).2.1 ∧ ((tkAt ts j).1 = 0 → (tkAt ts j).2.1 ≤ (tkAt ts j).2.2 ∧ (tkAt ts j).2.2 ≤ n) ∧ ∀ j', j' < j → (tkAt ts j').1 = 0 → (tkAt ts j').2.2 ≤ (tkAt ts j).2.1
theorem tkOk.nil {i n : Nat} : tkOk i n [] := fun j hj => absurd hj (Nat.not_lt_zero _)
theorem tkAt_0 (x : Int32 × Nat × Nat) (ts : sK) : tkAt (x :: ts) 0 = x := rfl
theorem tkAt_s (x : Int32 × Nat × Nat) (ts : sK) (j : Nat) : tkAt (x :: ts) (j + 1) = tkAt ts j := by unfold tkAt; rw [List.getD_cons_succ]
theorem tkOk.cons {i i' n a e k : Nat} {ts : sK} {K : Int32} (hk : k ≤ 10) (hK : K = nI k) (ha : i ≤ a) (hi : a ≤ i') (he : K = 0 → a ≤ e ∧ e ≤ n ∧ e ≤ i') (h : tkOk i' n ts) : tkOk i n ((K, a, e) :: ts) := fun j hj => by
  cases j with
  | zero =>
    rw [tkAt_0]
    exact ⟨⟨k, hk, hK⟩, ha, fun h0 => ⟨(he h0).1, (he h0).2.1⟩, fun j' hj' => absurd hj' (Nat.not_lt_zero _)⟩
  | succ j =>
    rw [List.length_cons] at hj
    obtain ⟨h1, h2, h3, h4⟩ := h j (by omega)
    rw [tkAt_s]
    refine ⟨h1, by omega, h3, fun j' hj' h0 => ?_⟩
    cases j' with
    | zero =>
      rw [tkAt_0] at h0 ⊢
      have := (he h0).2.2
      show e ≤ _
      omega
    | succ j' =>
      rw [tkAt_s] at h0 ⊢
      exact h4 j' (by omega) h0
theorem we_le : ∀ (s : List Int32) (q : Bool) (k : Nat), we q s = some k → k ≤ s.length := by
  intro s
  induction s with
  | nil =>
    intro q k e
    rw [we] at e
    split at e
    · cases e
    · cases e; exact Nat.le_refl _
  | cons c r ih =>
    intro q k e
    rw [we] at e
    split at e
    · obtain ⟨j, hj, rfl⟩ := Option.map_eq_some_iff.mp e
      have := ih _ _ hj
      rw [List.length_cons]
      omega
    · cases e; exact Nat.zero_le _
theorem op2_k (c d : Int32) : op2 c d < 0 ∨ ∃ k, k ≤ 10 ∧ op2 c d = nI k := by
  unfold op2
  (repeat' split) <;> first
    | (left; decide)
    | exact Or.inr ⟨10, by decide, rfl⟩
    | exact Or.inr ⟨2, by decide, rfl⟩
    | exact Or.inr ⟨8, by decide, rfl⟩
    | exact Or.inr ⟨9, by decide, rfl⟩
    | exact Or.inr ⟨1, by decide, rfl⟩
    | exact Or.inr ⟨5, by decide, rfl⟩
    | exact Or.inr ⟨6, by decide, rfl⟩
    | exact Or.inr ⟨7, by decide, rfl⟩
    | exact Or.inr ⟨3, by decide, rfl⟩
    | exact Or.inr ⟨4, by decide, rfl⟩
    | exact Or.inr ⟨0, by decide, rfl⟩
theorem op2_nz {c d : Int32} (h : ¬ pln c = true) (h32 : c ≠ 32) : op2 c d ≠ 0 := by
  intro e
  apply h
  simp only [pln, Bool.not_eq_true', Bool.or_eq_false_iff, decide_eq_false_iff_not]
  unfold op2 at e
  refine ⟨⟨⟨⟨⟨⟨⟨⟨h32, ?_⟩, ?_⟩, ?_⟩, ?_⟩, ?_⟩, ?_⟩, ?_⟩, ?_⟩ <;> intro hc <;> subst hc <;> revert e
  · simp
  · by_cases hd : d = 38 <;> simp [hd]
  · by_cases hd : d = 124 <;> simp [hd]
  · simp
  · by_cases hd : d = 62 <;> simp [hd]
  · simp
  · simp
  · simp
theorem tk_ok : ∀ (n i : Nat) (s : List Int32) (ts : sK), tk n i s = some ts → tkOk i (i + s.length) ts := by
  intro n
  induction n with
  | zero => intro i s ts e; cases e; exact tkOk.nil
  | succ n ih =>
    intro i s ts e
    cases s with
    | nil => cases e; exact tkOk.nil
    | cons c r =>
      rw [tk] at e
      rw [List.length_cons]
      split at e
      · intro j hj
        obtain ⟨h1, h2, h3, h4⟩ := ih (i + 1) r ts e j hj
        exact ⟨h1, by omega, fun h0 => ⟨(h3 h0).1, by have := (h3 h0).2; omega⟩, h4⟩
      · rename_i h32
        split at e
        · cases hw : we false (c :: r) with
          | none => rw [hw] at e; cases e
          | some k =>
            rw [hw] at e
            obtain ⟨ts', e', rfl⟩ := Option.map_eq_some_iff.mp e
            have hk := we_le _ _ _ hw
            rw [List.length_cons] at hk
            have := ih (i + k) _ ts' e'
            rw [List.length_drop, List.length_cons, show i + k + (r.length + 1 - k) = i + (r.length + 1) by omega] at this
            exact tkOk.cons (k := 0) (by omega) rfl (Nat.le_refl _) (by omega) (fun _ => by omega) this
        · rename_i hp
          split at e
          · cases e
          · rename_i hn
            obtain ⟨ts', e', rfl⟩ := Option.map_eq_some_iff.mp e
            obtain ⟨k, hk1, hk2⟩ := (op2_k c (r.getD 0 0)).resolve_left hn
            have hz := op2_nz (d := r.getD 0 0) hp h32
            intro j hj
            have hlen : ((c :: r).drop (opl (op2 c (r.getD 0 0)))).length = r.length + 1 - opl (op2 c (r.getD 0 0)) := by rw [List.length_drop, List.length_cons]
            have h2 : 1 ≤ opl (op2 c (r.getD 0 0)) := by unfold opl; split <;> omega
            have := tkOk.cons (K := op2 c (r.getD 0 0)) (a := i) (e := i) (i := i) hk1 hk2 (Nat.le_refl _) (by omega) (fun h0 => absurd h0 hz) (ih _ _ ts' e') j hj
            obtain ⟨q1, q2, q3, q4⟩ := this
            refine ⟨q1, q2, fun h0 => ⟨(q3 h0).1, ?_⟩, q4⟩
            have q5 := (q3 h0).2
            rw [hlen] at q5
            cases j with
            | zero => rw [tkAt_0] at h0; exact absurd h0 hz
            | succ j =>
              rw [tkAt_s] at h0 q5 ⊢
              rw [List.length_cons] at hj
              by_cases hle : opl (op2 c (r.getD 0 0)) ≤ r.length + 1
              · omega
              · -- no letter is left: no token is left
                exfalso
                have hd : (c :: r).drop (opl (op2 c (r.getD 0 0))) = [] := List.drop_eq_nil_of_le (by rw [List.length_cons]; omega)
                rw [hd] at e'
                have : ts' = [] := by
                  cases n with
                  | zero => cases e'; rfl
                  | succ n => cases e'; rfl
                rw [this] at hj
                exact absurd hj (by simp)
/-- the tokens as kinds and letters: what the run needs -/
def tkR (n : Nat) (K : Nat → Nat) (W : Nat → List Int32) (fa : Nat → Nat) : Prop := okK K n ∧ n ≤ 64 ∧ (∀ t, okl (W t)) ∧ (∀ t, K t = 0 → fa t + (W t).length ≤ 64) ∧ ∀ t t', t < t' → K t = 0 → K t' = 0 → fa t + (W t).length ≤ fa t'
theorem tk_len : ∀ (n i : Nat) (s : List Int32) (ts : sK), tk n i s = some ts → ts.length ≤ n := by
  intro n
  induction n with
  | zero => intro i s ts e; cases e; exact Nat.le_refl _
  | succ n ih =>
    intro i s ts e
    cases s with
    | nil => cases e; exact Nat.zero_le _
    | cons c r =>
      rw [tk] at e
      split at e
      · have := ih _ _ _ e; omega
      · split at e
        · cases hw : we false (c :: r) with
          | none => rw [hw] at e; cases e
          | some k =>
            rw [hw] at e
            obtain ⟨ts', e', rfl⟩ := Option.map_eq_some_iff.mp e
            have := ih _ _ _ e'
            rw [List.length_cons]; omega
        · split at e
          · cases e
          · obtain ⟨ts', e', rfl⟩ := Option.map_eq_some_iff.mp e
            have := ih _ _ _ e'
            rw [List.length_cons]; omega
theorem tkR_of {L : List Int32} {ts : sK} (hL : L.length ≤ 64) (hok : okl L) (e : tk L.length 0 L = some ts) : tkR ts.length (tkK ts) (tkW L ts) (fun t => (tkAt ts t).2.1) := by
  have h := tk_ok _ _ _ _ e
  have hlen := tk_len _ _ _ _ e
  rw [Nat.zero_add] at h
  have hk0 : ∀ t, tkK ts t = 0 → t < ts.length ∧ (tkAt ts t).1 = 0 := fun t ht => by
    unfold tkK at ht
    split at ht
    · rename_i hlt
      obtain ⟨⟨k, h1, h2⟩, -⟩ := h t hlt
      rw [h2, nI_clamp (by omega)] at ht
      exact ⟨hlt, by rw [h2, ht]; rfl⟩
    · cases ht
  have hW : ∀ t, t < ts.length → (tkAt ts t).1 = 0 → (tkW L ts t).length = (tkAt ts t).2.2 - (tkAt ts t).2.1 := fun t ht h0 => by
    obtain ⟨-, -, h3, -⟩ := h t ht
    have := h3 h0
    unfold tkW
    rw [List.length_take, List.length_drop]
    omega
  refine ⟨fun t => ⟨fun ht => ?_, fun ht => ?_⟩, by omega, fun t => (hok.dr _).tk _, fun t ht => ?_, fun t t' htt ht ht' => ?_⟩
  · obtain ⟨⟨k, h1, h2⟩, -⟩ := h t ht
    unfold tkK
    rw [if_pos ht, h2, nI_clamp (by omega)]
    exact h1
  · unfold tkK
    rw [if_neg (by omega)]
  · obtain ⟨h1, h2⟩ := hk0 t ht
    obtain ⟨-, -, h3, -⟩ := h t h1
    have := h3 h2
    rw [hW t h1 h2]
    dsimp only
    omega
  · obtain ⟨h1, h2⟩ := hk0 t ht
    obtain ⟨h1', h2'⟩ := hk0 t' ht'
    obtain ⟨-, -, h3, h4⟩ := h t' h1'
    obtain ⟨-, -, h5, -⟩ := h t h1
    have := h5 h2
    rw [hW t h1 h2]
    have := h4 t htt h2
    show (tkAt ts t).2.1 + _ ≤ (tkAt ts t').2.1
    omega
