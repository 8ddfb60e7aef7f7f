/-! ===== where a path leads; counts ===== -/
theorem led_le {r : sT} (hr : okT r) {nd : Option Nat} (hnd : ∀ x, nd = some x → x ≤ sN r) (g : List Int32) : (∀ x, (ledS r nd g).1 = some x → x ≤ sN r) ∧ ∀ x m, (ledS r nd g).2 = some (x, m) → x ≤ sN r ∧ sD r x = true ∧ (ledS r nd g).1 = none ∧ m = pk g ∧ isNm g = true ∧ chS r x m = none := by
  unfold ledS
  cases nd with
  | none => exact ⟨fun x e => (by cases e), fun x m e => by cases e⟩
  | some y =>
    dsimp only
    by_cases hD : sD r y = true
    · rw [if_pos hD]
      by_cases h46 : g = [46, 46]
      · rw [if_pos h46]
        exact ⟨fun x e => by cases e; exact (hr.p (hnd y rfl)).1, fun x m e => by cases e⟩
      · rw [if_neg h46]
        by_cases hN : isNm g = true
        · rw [if_pos hN]
          cases hc : chS r y (pk g) with
          | none => exact ⟨fun x e => (by cases e), fun x m e => by cases e; exact ⟨hnd y rfl, hD, rfl, rfl, hN, hc⟩⟩
          | some z => exact ⟨fun x e => by cases e; exact (chS_some hc).2.1, fun x m e => by cases e⟩
        · rw [if_neg hN]
          exact ⟨fun x e => (by cases e), fun x m e => by cases e⟩
    · rw [if_neg hD]
      exact ⟨fun x e => (by cases e), fun x m e => by cases e⟩
/-- where a path may lead -/
def okF (r : sT) (s : Option Nat × Option (Nat × Int64)) : Prop := (∀ x, s.1 = some x → x ≤ sN r) ∧ ∀ x m, s.2 = some (x, m) → x ≤ sN r ∧ sD r x = true ∧ s.1 = none ∧ (∃ g, isNm g = true ∧ m = pk g) ∧ chS r x m = none
theorem folF_ok {r : sT} (hr : okT r) : ∀ (k : Nat) (l : List Int32) (s : Option Nat × Option (Nat × Int64)), okF r s → okF r (folF r k l s) := by
  intro k
  induction k with
  | zero => intro l s h; exact h
  | succ k ih =>
    intro l s h
    cases l with
    | nil => exact h
    | cons c l =>
      rw [folF]
      apply ih
      split
      · exact h
      · obtain ⟨h1, h2⟩ := led_le hr h.1 ((c :: l).takeWhile (fun a => decide (a ≠ 47)))
        refine ⟨h1, fun x m e => ?_⟩
        obtain ⟨q1, q2, q3, q4, q5, q6⟩ := h2 x m e
        exact ⟨q1, q2, q3, ⟨_, q5, q4⟩, q6⟩
theorem fol_ok {r : sT} (hr : okT r) {here : Nat} (hh : here ≤ sN r) (l : List Int32) : okF r (folS r here l) := by
  unfold folS
  apply folF_ok hr
  refine ⟨fun x e => ?_, fun x m e => (by cases e)⟩
  split at e
  · cases e; exact Nat.zero_le _
  · cases e; exact hh
theorem nls_le : ∀ l : List Int32, nls l ≤ l.length := by
  intro l
  induction l with
  | nil => exact Nat.le_refl _
  | cons c l ih => rw [nls, List.length_cons]; split <;> omega
theorem pcs_le : ∀ (l : List Int32) (i : Bool), pcs i l ≤ l.length := by
  intro l
  induction l with
  | nil => intro i; exact Nat.le_refl _
  | cons c l ih => intro i; have := ih (!gapc c); rw [pcs, List.length_cons]; split <;> omega
