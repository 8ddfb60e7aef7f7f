/-! ===== where a pipeline or a command ends, by one walk over the kinds ===== -/
def stp (b : Bool) (k : Nat) : Bool := k == 1 || k == 2 || k == 3 || k == 9 || (b && k == 4)
def pe (K : Nat → Nat) (b : Bool) : Nat → Nat → Nat → Nat
  | 0, _, t => t
  | m + 1, c, t => if c = 0 ∧ stp b (K t) = true then t else pe K b m (dpN (K t) c) (t + 1)
def peA (K : Nat → Nat) (n : Nat) (b : Bool) (c t : Nat) : Nat := pe K b (n - t) c t
section
variable {K : Nat → Nat} {n : Nat} {b : Bool}
theorem pe_st {c t : Nat} (ht : t < n) (h : ¬ (c = 0 ∧ stp b (K t) = true)) : peA K n b c t = peA K n b (dpN (K t) c) (t + 1) := by
  unfold peA
  rw [show n - t = (n - (t + 1)) + 1 by omega, pe, if_neg h]
theorem pe_stop {t : Nat} (h : stp b (K t) = true) : peA K n b 0 t = t := by
  unfold peA
  cases n - t with
  | zero => rfl
  | succ m => rw [pe, if_pos ⟨rfl, h⟩]
theorem pe_end {c t : Nat} (h : n ≤ t) : peA K n b c t = t := by
  unfold peA
  rw [show n - t = 0 by omega]
  rfl
theorem stp_iff (k : Nat) : stp b k = true ↔ k = 1 ∨ k = 2 ∨ k = 3 ∨ k = 9 ∨ (b = true ∧ k = 4) := by
  unfold stp
  simp [or_assoc]
/-- a token that is no stop and no bracket -/
theorem pe_w {c t : Nat} (ht : t < n) (h : c = 0 → ¬ (K t = 1 ∨ K t = 2 ∨ K t = 3 ∨ (b = true ∧ K t = 4))) (h8 : K t ≠ 8) (h9 : K t ≠ 9) : peA K n b c t = peA K n b c (t + 1) := by
  rw [pe_st ht, dp_op h8 h9]
  rintro ⟨h1, h2⟩
  rw [stp_iff] at h2
  have := h h1
  rcases h2 with h2 | h2 | h2 | h2 | h2
  · exact this (Or.inl h2)
  · exact this (Or.inr (Or.inl h2))
  · exact this (Or.inr (Or.inr (Or.inl h2)))
  · exact h9 h2
  · exact this (Or.inr (Or.inr (Or.inr h2)))
theorem pW_pe (hK : okK K n) (g : Bool) (c : Nat) : ∀ (f t w t' w' : Nat), pW K g f t w = some (t', w') → peA K n b c t = peA K n b c t' := by
  intro f
  induction f with
  | zero => intro t w t' w' e; cases e
  | succ f ih =>
    intro t w t' w' e
    rw [pW] at e
    split at e
    · rename_i h
      rw [pe_w (hK.lt (by omega)) (fun _ => by omega) (by omega) (by omega)]
      exact ih _ _ _ _ e
    · split at e
      · rename_i h
        have hk := (redK_iff _).mp h
        split at e
        · rename_i h0
          rw [pe_w (hK.lt (by omega)) (fun _ => by omega) (by omega) (by omega), pe_w (hK.lt (by omega)) (fun _ => by omega) (by omega) (by omega)]
          exact ih _ _ _ _ e
        · cases e
      · cases e
        rfl
def okE (K : Nat → Nat) (n : Nat) (b : Bool) (G : Nat → Option Nat) : Prop := ∀ t t', K t = 8 → G t = some t' → ∀ c, peA K n b c t = peA K n b c t'
theorem pC_pe (hK : okK K n) {F : Nat} {G : Nat → Option Nat} (hG : okE K n b G) {t t' : Nat} (e : pC K F G t = some t') (c : Nat) : peA K n b c t = peA K n b c t' := by
  unfold pC at e
  split at e
  · rename_i h8
    cases hg : G t with
    | none => rw [hg] at e; cases e
    | some t1 =>
      rw [hg] at e
      dsimp only at e
      cases hp : pW K true F t1 0 with
      | none => rw [hp] at e; cases e
      | some x =>
        obtain ⟨t2, w⟩ := x
        rw [hp] at e
        cases e
        rw [hG t t1 h8 hg c]
        exact pW_pe hK true c _ _ _ _ _ hp
  · cases hp : pW K false F t 0 with
    | none => rw [hp] at e; cases e
    | some x =>
      obtain ⟨t2, w⟩ := x
      rw [hp] at e
      dsimp only at e
      split at e
      · cases e
        exact pW_pe hK false c _ _ _ _ _ hp
      · cases e
theorem pB_pe (hK : okK K n) {F : Nat} {G : Nat → Option Nat} (hG : okE K n b G) {c : Nat} (hc : c = 0 → b = false) : ∀ (f t t' : Nat), pB K F G f t = some t' → peA K n b c t = peA K n b c t' := by
  intro f
  induction f with
  | zero => intro t t' e; cases e
  | succ f ih =>
    intro t t' e
    rw [pB] at e
    split at e
    · rename_i h4
      cases hp : pC K F G (t + 1) with
      | none => rw [hp] at e; cases e
      | some t1 =>
        rw [hp] at e
        rw [pe_w (hK.lt (by omega)) (fun h => by have := hc h; rintro (h1 | h1 | h1 | ⟨h1, _⟩); omega; omega; omega; rw [this] at h1; cases h1) (by omega) (by omega), pC_pe hK hG hp c]
        exact ih _ _ e
    · cases e
      rfl
theorem pP_pe (hK : okK K n) {F : Nat} {G : Nat → Option Nat} (hG : okE K n b G) {c : Nat} (hc : c = 0 → b = false) {t t' : Nat} (e : pP K F G t = some t') : peA K n b c t = peA K n b c t' := by
  unfold pP at e
  have e0 : peA K n b c t = peA K n b c (if K t = 10 then t + 1 else t) := by
    split
    · exact pe_w (hK.lt (by omega)) (fun _ => by omega) (by omega) (by omega)
    · rfl
  rw [e0]
  cases hp : pC K F G (if K t = 10 then t + 1 else t) with
  | none => rw [hp] at e; cases e
  | some t1 =>
    rw [hp] at e
    rw [pC_pe hK hG hp c]
    exact pB_pe hK hG hc _ _ _ e
theorem pO_pe (hK : okK K n) {F : Nat} {G : Nat → Option Nat} (hG : okE K n b G) {c : Nat} (hc : c ≠ 0) : ∀ (f t t' : Nat), pO K F G f t = some t' → peA K n b c t = peA K n b c t' := by
  intro f
  induction f with
  | zero => intro t t' e; cases e
  | succ f ih =>
    intro t t' e
    rw [pO] at e
    split at e
    · rename_i h4
      cases hp : pP K F G (t + 1) with
      | none => rw [hp] at e; cases e
      | some t1 =>
        rw [hp] at e
        rw [pe_w (hK.lt (by omega)) (fun h => absurd h hc) (by omega) (by omega), pP_pe hK hG (fun h => absurd h hc) hp]
        exact ih _ _ e
    · cases e
      rfl
theorem pL_pe (hK : okK K n) {F : Nat} {G : Nat → Option Nat} (hG : okE K n b G) {c : Nat} (hc : c ≠ 0) : ∀ (f t t' : Nat), pL K F G f t = some t' → peA K n b c t = peA K n b c t' := by
  intro f
  induction f with
  | zero => intro t t' e; cases e
  | succ f ih =>
    intro t t' e
    rw [pL] at e
    cases hp : pA K F G t with
    | none => rw [hp] at e; cases e
    | some t1 =>
      rw [hp] at e
      dsimp only at e
      have e1 : peA K n b c t = peA K n b c t1 := by
        unfold pA at hp
        cases hq : pP K F G t with
        | none => rw [hq] at hp; cases hp
        | some t2 =>
          rw [hq] at hp
          rw [pP_pe hK hG (fun h => absurd h hc) hq]
          exact pO_pe hK hG hc _ _ _ hp
      rw [e1]
      split at e
      · rename_i h1
        rw [pe_w (hK.lt (by omega)) (fun h => absurd h hc) (by omega) (by omega)]
        split at e
        · exact ih _ _ e
        · cases e
          rfl
      · cases e
        rfl
theorem pG_pe (hK : okK K n) {F : Nat} : ∀ r, okE K n b (pG K F r) := by
  intro r
  induction r with
  | zero => intro t t' h e; cases e
  | succ r ih =>
    intro t t' h e c
    rw [pG] at e
    cases hp : pL K F (pG K F r) F (t + 1) with
    | none => rw [hp] at e; cases e
    | some t1 =>
      rw [hp] at e
      dsimp only at e
      split at e
      · rename_i h9
        cases e
        have e1 : peA K n b c t = peA K n b (c + 1) (t + 1) := by
          rw [pe_st (hK.lt (by omega)) (by rw [h, stp_iff]; omega), h]
          rfl
        rw [e1, pL_pe hK ih (by omega) _ _ _ hp, pe_st (hK.lt (by omega)) (by omega), h9]
        rfl
      · cases e
/-- a command's end -/
theorem pC_end (hK : okK K n) {F r : Nat} {t t' : Nat} (e : pC K F (pG K F r) t = some t') (h : K t' = 1 ∨ K t' = 2 ∨ K t' = 3 ∨ K t' = 4 ∨ K t' = 9 ∨ K t' = 11) : peA K n true 0 t = t' := by
  rw [pC_pe hK (pG_pe hK r) e 0]
  by_cases h11 : K t' = 11
  · exact pe_end (Nat.le_of_not_lt fun h9 => by have := (hK t').1 h9; omega)
  · refine pe_stop ?_
    rw [stp_iff]
    rcases h with h | h | h | h | h | h
    · exact Or.inl h
    · exact Or.inr (Or.inl h)
    · exact Or.inr (Or.inr (Or.inl h))
    · exact Or.inr (Or.inr (Or.inr (Or.inr ⟨rfl, h⟩)))
    · exact Or.inr (Or.inr (Or.inr (Or.inl h)))
    · exact absurd h h11
theorem pP_end (hK : okK K n) {F r : Nat} {t t' : Nat} (e : pP K F (pG K F r) t = some t') (h : K t' = 1 ∨ K t' = 2 ∨ K t' = 3 ∨ K t' = 9 ∨ K t' = 11) : peA K n false 0 t = t' := by
  rw [pP_pe hK (pG_pe hK r) (fun _ => rfl) e]
  by_cases h11 : K t' = 11
  · exact pe_end (Nat.le_of_not_lt fun h9 => by have := (hK t').1 h9; omega)
  · refine pe_stop ?_
    rw [stp_iff]
    rcases h with h | h | h | h | h
    · exact Or.inl h
    · exact Or.inr (Or.inl h)
    · exact Or.inr (Or.inr (Or.inl h))
    · exact Or.inr (Or.inr (Or.inr (Or.inl h)))
    · exact absurd h h11
end
