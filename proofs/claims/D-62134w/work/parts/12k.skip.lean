/-! ===== passing goes on; what skips groups ===== -/
section
variable {K : Nat → Nat}
theorem pW_le {g : Bool} : ∀ (f t w t' w' : Nat), pW K g f t w = some (t', w') → t ≤ t' ∧ w ≤ w' := by
  intro f
  induction f with
  | zero => intro t w t' w' e; cases e
  | succ f ih =>
    intro t w t' w' e
    rw [pW] at e
    split at e
    · have := ih _ _ _ _ e; omega
    · split at e
      · split at e
        · have := ih _ _ _ _ e; omega
        · cases e
      · cases e; omega
def ltG (G : Nat → Option Nat) : Prop := ∀ t t', G t = some t' → t < t'
theorem pC_le {F : Nat} {G : Nat → Option Nat} (hG : ltG G) {t t' : Nat} (e : pC K F G t = some t') : t ≤ t' := by
  unfold pC at e
  split at e
  · cases hg : G t with
    | none => rw [hg] at e; cases e
    | some t1 =>
      rw [hg] at e
      dsimp only at e
      cases hp : pW K true F t1 0 with
      | none => rw [hp] at e; cases e
      | some x =>
        obtain ⟨t2, w⟩ := x
        rw [hp] at e
        cases e
        have := pW_le _ _ _ _ _ hp
        have := hG t t1 hg
        omega
  · cases hp : pW K false F t 0 with
    | none => rw [hp] at e; cases e
    | some x =>
      obtain ⟨t2, w⟩ := x
      rw [hp] at e
      dsimp only at e
      split at e
      · cases e
        exact (pW_le _ _ _ _ _ hp).1
      · cases e
theorem pB_le {F : Nat} {G : Nat → Option Nat} (hG : ltG G) : ∀ (f t t' : Nat), pB K F G f t = some t' → t ≤ t' := by
  intro f
  induction f with
  | zero => intro t t' e; cases e
  | succ f ih =>
    intro t t' e
    rw [pB] at e
    split at e
    · cases hp : pC K F G (t + 1) with
      | none => rw [hp] at e; cases e
      | some t1 =>
        rw [hp] at e
        have := pC_le hG hp
        have := ih _ _ e
        omega
    · cases e; exact Nat.le_refl _
theorem pP_le {F : Nat} {G : Nat → Option Nat} (hG : ltG G) {t t' : Nat} (e : pP K F G t = some t') : t ≤ t' := by
  unfold pP at e
  cases hp : pC K F G (if K t = 10 then t + 1 else t) with
  | none => rw [hp] at e; cases e
  | some t1 =>
    rw [hp] at e
    have h1 := pC_le hG hp
    have h2 := pB_le hG _ _ _ e
    split at h1 <;> omega
theorem pO_le {F : Nat} {G : Nat → Option Nat} (hG : ltG G) : ∀ (f t t' : Nat), pO K F G f t = some t' → t ≤ t' := by
  intro f
  induction f with
  | zero => intro t t' e; cases e
  | succ f ih =>
    intro t t' e
    rw [pO] at e
    split at e
    · cases hp : pP K F G (t + 1) with
      | none => rw [hp] at e; cases e
      | some t1 =>
        rw [hp] at e
        have := pP_le hG hp
        have := ih _ _ e
        omega
    · cases e; exact Nat.le_refl _
theorem pL_le {F : Nat} {G : Nat → Option Nat} (hG : ltG G) : ∀ (f t t' : Nat), pL K F G f t = some t' → t ≤ t' := by
  intro f
  induction f with
  | zero => intro t t' e; cases e
  | succ f ih =>
    intro t t' e
    rw [pL] at e
    cases hp : pA K F G t with
    | none => rw [hp] at e; cases e
    | some t1 =>
      rw [hp] at e
      dsimp only at e
      have e1 : t ≤ t1 := by
        unfold pA at hp
        cases hq : pP K F G t with
        | none => rw [hq] at hp; cases hp
        | some t2 =>
          rw [hq] at hp
          have := pP_le hG hq
          have := pO_le hG _ _ _ hp
          omega
      split at e
      · split at e
        · have := ih _ _ e; omega
        · cases e; omega
      · cases e; exact e1
theorem pG_lt {F : Nat} : ∀ r, ltG (pG K F r) := by
  intro r
  induction r with
  | zero => intro t t' e; cases e
  | succ r ih =>
    intro t t' e
    rw [pG] at e
    cases hp : pL K F (pG K F r) F (t + 1) with
    | none => rw [hp] at e; cases e
    | some t1 =>
      rw [hp] at e
      dsimp only at e
      split at e
      · cases e
        have := pL_le ih _ _ _ hp
        omega
      · cases e
/-- what a walk with a count of open groups skips -/
def skS {X : Type} (K : Nat → Nat) (E : Nat) (Φ : Nat → Nat → X) : Prop := (∀ c t, c + 1 ≤ t → t < E → K t ≠ 8 → K t ≠ 9 → Φ (c + 1) t = Φ (c + 1) (t + 1)) ∧ (∀ c t, c ≤ t → t < E → K t = 8 → Φ c t = Φ (c + 1) (t + 1)) ∧ ∀ c t, c + 1 ≤ t → t < E → K t = 9 → Φ (c + 1) t = Φ c (t + 1)
def skG {X : Type} (K : Nat → Nat) (E : Nat) (Φ : Nat → Nat → X) (G : Nat → Option Nat) : Prop := ∀ t t', K t = 8 → G t = some t' → t' ≤ E → ∀ c, c ≤ t → Φ c t = Φ c t'
section
variable {X : Type} {E : Nat} {Φ : Nat → Nat → X}
theorem pW_sk (h : skS K E Φ) {g : Bool} (c : Nat) : ∀ (f t w t' w' : Nat), pW K g f t w = some (t', w') → t' ≤ E → c + 1 ≤ t → Φ (c + 1) t = Φ (c + 1) t' := by
  intro f
  induction f with
  | zero => intro t w t' w' e; cases e
  | succ f ih =>
    intro t w t' w' e hE hc
    rw [pW] at e
    split at e
    · have := (pW_le _ _ _ _ _ e).1
      rw [h.1 c t (by omega) (by omega) (by omega) (by omega)]
      exact ih _ _ _ _ e hE (by omega)
    · split at e
      · rename_i hr
        have hk := (redK_iff _).mp hr
        split at e
        · have := (pW_le _ _ _ _ _ e).1
          rw [h.1 c t (by omega) (by omega) (by omega) (by omega), h.1 c (t + 1) (by omega) (by omega) (by omega) (by omega)]
          exact ih _ _ _ _ e hE (by omega)
        · cases e
      · cases e; rfl
theorem pC_sk (h : skS K E Φ) {F : Nat} {G : Nat → Option Nat} (hG : ltG G) (hg : skG K E Φ G) (c : Nat) {t t' : Nat} (e : pC K F G t = some t') (hE : t' ≤ E) (hc : c + 1 ≤ t) : Φ (c + 1) t = Φ (c + 1) t' := by
  unfold pC at e
  split at e
  · rename_i h8
    cases hg1 : G t with
    | none => rw [hg1] at e; cases e
    | some t1 =>
      rw [hg1] at e
      dsimp only at e
      cases hp : pW K true F t1 0 with
      | none => rw [hp] at e; cases e
      | some x =>
        obtain ⟨t2, w⟩ := x
        rw [hp] at e
        cases e
        have := (pW_le _ _ _ _ _ hp).1
        have := hG t t1 hg1
        rw [hg t t1 h8 hg1 (by omega) (c + 1) hc]
        exact pW_sk h c _ _ _ _ _ hp hE (by omega)
  · cases hp : pW K false F t 0 with
    | none => rw [hp] at e; cases e
    | some x =>
      obtain ⟨t2, w⟩ := x
      rw [hp] at e
      dsimp only at e
      split at e
      · cases e
        exact pW_sk h c _ _ _ _ _ hp hE hc
      · cases e
theorem pB_sk (h : skS K E Φ) {F : Nat} {G : Nat → Option Nat} (hG : ltG G) (hg : skG K E Φ G) (c : Nat) : ∀ (f t t' : Nat), pB K F G f t = some t' → t' ≤ E → c + 1 ≤ t → Φ (c + 1) t = Φ (c + 1) t' := by
  intro f
  induction f with
  | zero => intro t t' e; cases e
  | succ f ih =>
    intro t t' e hE hc
    rw [pB] at e
    split at e
    · cases hp : pC K F G (t + 1) with
      | none => rw [hp] at e; cases e
      | some t1 =>
        rw [hp] at e
        have h1 := pC_le hG hp
        have h2 := pB_le hG _ _ _ e
        rw [h.1 c t (by omega) (by omega) (by omega) (by omega), pC_sk h hG hg c hp (by omega) (by omega)]
        exact ih _ _ e hE (by omega)
    · cases e; rfl
theorem pP_sk (h : skS K E Φ) {F : Nat} {G : Nat → Option Nat} (hG : ltG G) (hg : skG K E Φ G) (c : Nat) {t t' : Nat} (e : pP K F G t = some t') (hE : t' ≤ E) (hc : c + 1 ≤ t) : Φ (c + 1) t = Φ (c + 1) t' := by
  unfold pP at e
  cases hp : pC K F G (if K t = 10 then t + 1 else t) with
  | none => rw [hp] at e; cases e
  | some t1 =>
    rw [hp] at e
    have h1 := pC_le hG hp
    have h2 := pB_le hG _ _ _ e
    have e0 : Φ (c + 1) t = Φ (c + 1) (if K t = 10 then t + 1 else t) := by
      split
      · rename_i h10
        rw [if_pos h10] at h1
        exact h.1 c t (by omega) (by omega) (by omega) (by omega)
      · rfl
    rw [e0, pC_sk h hG hg c hp (by omega) (by split <;> omega)]
    exact pB_sk h hG hg c _ _ _ e hE (by split at h1 <;> omega)
theorem pO_sk (h : skS K E Φ) {F : Nat} {G : Nat → Option Nat} (hG : ltG G) (hg : skG K E Φ G) (c : Nat) : ∀ (f t t' : Nat), pO K F G f t = some t' → t' ≤ E → c + 1 ≤ t → Φ (c + 1) t = Φ (c + 1) t' := by
  intro f
  induction f with
  | zero => intro t t' e; cases e
  | succ f ih =>
    intro t t' e hE hc
    rw [pO] at e
    split at e
    · cases hp : pP K F G (t + 1) with
      | none => rw [hp] at e; cases e
      | some t1 =>
        rw [hp] at e
        have h1 := pP_le hG hp
        have h2 := pO_le hG _ _ _ e
        rw [h.1 c t (by omega) (by omega) (by omega) (by omega), pP_sk h hG hg c hp (by omega) (by omega)]
        exact ih _ _ e hE (by omega)
    · cases e; rfl
theorem pL_sk (h : skS K E Φ) {F : Nat} {G : Nat → Option Nat} (hG : ltG G) (hg : skG K E Φ G) (c : Nat) : ∀ (f t t' : Nat), pL K F G f t = some t' → t' ≤ E → c + 1 ≤ t → Φ (c + 1) t = Φ (c + 1) t' := by
  intro f
  induction f with
  | zero => intro t t' e; cases e
  | succ f ih =>
    intro t t' e hE hc
    rw [pL] at e
    cases hp : pA K F G t with
    | none => rw [hp] at e; cases e
    | some t1 =>
      rw [hp] at e
      dsimp only at e
      have e0 : t ≤ t1 := by
        unfold pA at hp
        cases hq : pP K F G t with
        | none => rw [hq] at hp; cases hp
        | some t2 =>
          rw [hq] at hp
          have := pP_le hG hq
          have := pO_le hG _ _ _ hp
          omega
      have e1 : t1 ≤ E → Φ (c + 1) t = Φ (c + 1) t1 := fun hE1 => by
        unfold pA at hp
        cases hq : pP K F G t with
        | none => rw [hq] at hp; cases hp
        | some t2 =>
          rw [hq] at hp
          have := pO_le hG _ _ _ hp
          have := pP_le hG hq
          rw [pP_sk h hG hg c hq (by omega) hc]
          exact pO_sk h hG hg c _ _ _ hp hE1 (by omega)
      split at e
      · split at e
        · have := pL_le hG _ _ _ e
          rw [e1 (by omega), h.1 c t1 (by omega) (by omega) (by omega) (by omega)]
          exact ih _ _ e hE (by omega)
        · cases e
          rw [e1 (by omega)]
          exact h.1 c t1 (by omega) (by omega) (by omega) (by omega)
      · cases e
        exact e1 hE
theorem pG_sk (h : skS K E Φ) {F : Nat} : ∀ r, skG K E Φ (pG K F r) := by
  intro r
  induction r with
  | zero => intro t t' _ e; cases e
  | succ r ih =>
    intro t t' h8 e hE c hc
    rw [pG] at e
    cases hp : pL K F (pG K F r) F (t + 1) with
    | none => rw [hp] at e; cases e
    | some t1 =>
      rw [hp] at e
      dsimp only at e
      split at e
      · rename_i h9
        cases e
        have := pL_le (pG_lt r) _ _ _ hp
        rw [h.2.1 c t hc (by omega) h8, pL_sk h (pG_lt r) ih c _ _ _ hp (by omega) (by omega), h.2.2 c t1 (by omega) (by omega) h9]
      · cases e
end
end
/-! ===== one redirection ===== -/
def red1 (nl here : Nat) (l : List Int32) (op : Nat) (r : sT) (fd : Option (List Int32)) (tg : Option Nat) : Nat × sT × Option (List Int32) × Option Nat := match folS r here l with
  | (some x, _) => if sD r x = true then (1, r, fd, tg) else if op = 5 then (0, r, some (sX r x), tg) else (0, (if op = 7 then sSet r x [] else r), fd, some x)
  | (none, none) => (1, r, fd, tg)
  | (none, some (d, m)) => if op = 5 then (1, r, fd, tg) else if nl ≤ sN r then (2, r, fd, tg) else (0, sNew r false d m, fd, some (sN r + 1))
theorem redF_c (nl here : Nat) (W : Nat → List Int32) (op w : Nat) (l : List (Nat × Nat)) (r : sT) (fd : Option (List Int32)) (tg : Option Nat) : redF nl here W ((op, w) :: l) r fd tg = if (red1 nl here (W w) op r fd tg).1 = 0 then redF nl here W l (red1 nl here (W w) op r fd tg).2.1 (red1 nl here (W w) op r fd tg).2.2.1 (red1 nl here (W w) op r fd tg).2.2.2 else red1 nl here (W w) op r fd tg := by
  rw [redF]
  unfold red1
  rcases folS r here (W w) with ⟨nd, vc⟩
  match nd, vc with
  | some x, vc =>
    dsimp only
    split
    · rfl
    · split <;> rfl
  | none, none => rfl
  | none, some (d, m) =>
    dsimp only
    split
    · rfl
    · split <;> rfl
