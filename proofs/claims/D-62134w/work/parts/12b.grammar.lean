/-! ===== THE GRAMMAR, on kinds K of tokens (11 from the end n on): the walk by states, and the descent ===== -/
def redK (k : Nat) : Bool := k == 5 || k == 6 || k == 7
/-- the next state -/
def nxN (s k d : Nat) : Option Nat :=
  if s < 7 then (if redK k = true then (if s < 4 then some 7 else some (s + 3)) else if k = 0 then (if s = 6 then none else some 5) else if k = 8 then (if s < 4 ∧ d < 4 then some 0 else none) else if k = 10 then (if s < 3 then some 3 else none) else if k = 9 then (if 0 < d ∧ (s = 1 ∨ 5 ≤ s) then some 6 else none) else if s < 5 then none else if k = 1 then some 1 else if k = 4 then some 3 else some 2)
  else if k = 0 then some (s - 3) else none
def dpN (k d : Nat) : Nat := if k = 8 then d + 1 else if k = 9 then d - 1 else d
/-- the walk: m tokens are left, from t on -/
def smN (K : Nat → Nat) : Nat → Nat → Nat → Nat → Bool
  | 0, s, d, _ => decide (d = 0) && (decide (s = 1) || decide (s = 5) || decide (s = 6))
  | m + 1, s, d, t => match nxN s (K t) d with
    | none => false
    | some s' => smN K m s' (dpN (K t) d) (t + 1)
def pW (K : Nat → Nat) (g : Bool) : Nat → Nat → Nat → Option (Nat × Nat)
  | 0, _, _ => none
  | f + 1, t, w => if K t = 0 ∧ g = false then pW K g f (t + 1) (w + 1) else if redK (K t) = true then (if K (t + 1) = 0 then pW K g f (t + 2) w else none) else some (t, w)
def pC (K : Nat → Nat) (F : Nat) (G : Nat → Option Nat) (t : Nat) : Option Nat :=
  if K t = 8 then match G t with
    | none => none
    | some t1 => match pW K true F t1 0 with
      | none => none
      | some (t2, _) => some t2
  else match pW K false F t 0 with
    | none => none
    | some (t2, w) => if 0 < w then some t2 else none
def pB (K : Nat → Nat) (F : Nat) (G : Nat → Option Nat) : Nat → Nat → Option Nat
  | 0, _ => none
  | f + 1, t => if K t = 4 then match pC K F G (t + 1) with
      | none => none
      | some t1 => pB K F G f t1
    else some t
def pP (K : Nat → Nat) (F : Nat) (G : Nat → Option Nat) (t : Nat) : Option Nat := match pC K F G (if K t = 10 then t + 1 else t) with
  | none => none
  | some t1 => pB K F G F t1
def pO (K : Nat → Nat) (F : Nat) (G : Nat → Option Nat) : Nat → Nat → Option Nat
  | 0, _ => none
  | f + 1, t => if K t = 2 ∨ K t = 3 then match pP K F G (t + 1) with
      | none => none
      | some t1 => pO K F G f t1
    else some t
def pA (K : Nat → Nat) (F : Nat) (G : Nat → Option Nat) (t : Nat) : Option Nat := match pP K F G t with
  | none => none
  | some t1 => pO K F G F t1
def bgK (k : Nat) : Bool := k == 0 || k == 8 || k == 10 || redK k
def pL (K : Nat → Nat) (F : Nat) (G : Nat → Option Nat) : Nat → Nat → Option Nat
  | 0, _ => none
  | f + 1, t => match pA K F G t with
    | none => none
    | some t1 => if K t1 = 1 then (if bgK (K (t1 + 1)) = true then pL K F G f (t1 + 1) else some (t1 + 1)) else some t1
def pG (K : Nat → Nat) (F : Nat) : Nat → Nat → Option Nat
  | 0, _ => none
  | r + 1, t => match pL K F (pG K F r) F (t + 1) with
    | none => none
    | some t1 => if K t1 = 9 then some (t1 + 1) else none
/-- the kinds of n tokens -/
def okK (K : Nat → Nat) (n : Nat) : Prop := ∀ t, (t < n → K t ≤ 10) ∧ (n ≤ t → K t = 11)
section
variable {K : Nat → Nat} {n : Nat}
/-- acceptance from a place on -/
def acc (K : Nat → Nat) (n s d t : Nat) : Prop := smN K (n - t) s d t = true
theorem okK.lt (hK : okK K n) {t : Nat} (h : K t ≠ 11) : t < n := Nat.lt_of_not_le fun h9 => h ((hK t).2 h9)
theorem acc_st {s d t s' : Nat} (ht : t < n) (h : nxN s (K t) d = some s') : acc K n s d t ↔ acc K n s' (dpN (K t) d) (t + 1) := by
  unfold acc
  rw [show n - t = (n - (t + 1)) + 1 by omega, smN, h]
theorem acc_no {s d t : Nat} (ht : t < n) (h : nxN s (K t) d = none) : ¬ acc K n s d t := by
  unfold acc
  rw [show n - t = (n - (t + 1)) + 1 by omega, smN, h]
  exact Bool.false_ne_true
theorem acc_end {s d t : Nat} (ht : n ≤ t) : acc K n s d t ↔ d = 0 ∧ (s = 1 ∨ s = 5 ∨ s = 6) := by
  unfold acc
  rw [show n - t = 0 by omega, smN]
  simp [or_assoc]
theorem redK_iff (k : Nat) : redK k = true ↔ k = 5 ∨ k = 6 ∨ k = 7 := by simp [redK, or_assoc]
/-- what stands behind a command: s is 5 or 6 -/
def aft (K : Nat → Nat) (s t : Nat) : Prop := (s = 5 ∧ K t ≠ 0 ∧ redK (K t) = false) ∨ (s = 6 ∧ redK (K t) = false)
theorem pW_ok (hK : okK K n) (g : Bool) (d : Nat) : ∀ (f t w s : Nat), n < t + f → t ≤ n → (g = true → s = 6) → (g = false → (0 < w → s = 5) ∧ (w = 0 → s < 5)) →
    (pW K g f t w = none → ¬ acc K n s d t) ∧
    (∀ t' w', pW K g f t w = some (t', w') → t ≤ t' ∧ t' ≤ n ∧ w ≤ w' ∧ redK (K t') = false ∧ (g = false → K t' ≠ 0) ∧ (t' = t → w' = w) ∧ ∃ s', (acc K n s d t ↔ acc K n s' d t') ∧ (t' = t → s' = s) ∧ (g = true → s' = 6) ∧ (g = false → (0 < w' → s' = 5) ∧ (w' = 0 → s' < 5 ∧ (t < t' → s' = 4)))) := by
  intro f
  induction f with
  | zero => intro t w s h1 h2; omega
  | succ f ih =>
    intro t w s h1 h2 h3 h4
    by_cases hw : K t = 0 ∧ g = false
    · have ht : t < n := hK.lt (by omega)
      obtain ⟨hw1, rfl⟩ := hw
      have hs : s < 6 := by
        rcases Nat.eq_zero_or_pos w with h5 | h5
        · have := (h4 rfl).2 h5; omega
        · have := (h4 rfl).1 h5; omega
      have e1 : nxN s (K t) d = some 5 := by
        unfold nxN
        rw [hw1, if_pos (by omega), if_neg (by decide), if_pos rfl, if_neg (by omega)]
      have e2 : dpN (K t) d = d := by rw [hw1]; rfl
      have e3 := acc_st (K := K) ht e1
      rw [e2] at e3
      obtain ⟨g1, g2⟩ := ih (t + 1) (w + 1) 5 (by omega) (by omega) (fun h => by cases h) (fun _ => ⟨fun _ => rfl, fun h => by omega⟩)
      rw [pW, if_pos ⟨hw1, rfl⟩]
      refine ⟨fun e h => g1 e (e3.mp h), fun t' w' e => ?_⟩
      obtain ⟨k1, k2, k3, k4, k5, k6, s', k7, k8, k9, k10⟩ := g2 t' w' e
      refine ⟨by omega, k2, by omega, k4, k5, by omega, s', e3.trans k7, by omega, k9, fun _ => ⟨(k10 rfl).1, fun h => by omega⟩⟩
    · rw [pW, if_neg hw]
      by_cases hr : redK (K t) = true
      · have ht : t < n := hK.lt (fun h => by rw [h] at hr; cases hr)
        rw [if_pos hr]
        have hs7 : s < 7 := by
          cases g with
          | true => have := h3 rfl; omega
          | false =>
            rcases Nat.eq_zero_or_pos w with h5 | h5
            · have := (h4 rfl).2 h5; omega
            · have := (h4 rfl).1 h5; omega
        have e1 : nxN s (K t) d = some (if s < 4 then 7 else s + 3) := by
          unfold nxN
          rw [if_pos hs7, if_pos hr]
          split <;> rfl
        have hk : K t = 5 ∨ K t = 6 ∨ K t = 7 := (redK_iff _).mp hr
        have e2 : dpN (K t) d = d := by
          unfold dpN
          rw [if_neg (by omega), if_neg (by omega)]
        have e3 := acc_st (K := K) ht e1
        rw [e2] at e3
        have hge : ¬ (if s < 4 then 7 else s + 3) < 7 := by split <;> omega
        by_cases h0 : K (t + 1) = 0
        · have ht1 : t + 1 < n := hK.lt (by omega)
          have e4 : nxN (if s < 4 then 7 else s + 3) (K (t + 1)) d = some (if s < 4 then 4 else s) := by
            unfold nxN
            rw [if_neg hge, if_pos h0]
            split <;> simp
          have e5 : dpN (K (t + 1)) d = d := by rw [h0]; rfl
          have e6 := acc_st (K := K) ht1 e4
          rw [e5] at e6
          rw [if_pos h0]
          obtain ⟨g1, g2⟩ := ih (t + 2) w (if s < 4 then 4 else s) (by omega) (by omega) (fun h => by have := h3 h; rw [if_neg (by omega)]; exact this) (fun h => ⟨fun h5 => by have := (h4 h).1 h5; rw [if_neg (by omega)]; exact this, fun h5 => by have := (h4 h).2 h5; split <;> omega⟩)
          refine ⟨fun e h => g1 e (e6.mp (e3.mp h)), fun t' w' e => ?_⟩
          obtain ⟨k1, k2, k3, k4, k5, k6, s', k7, k8, k9, k10⟩ := g2 t' w' e
          refine ⟨by omega, k2, k3, k4, k5, by omega, s', (e3.trans e6).trans k7, by omega, k9, fun h => ⟨(k10 h).1, fun h5 => ⟨((k10 h).2 h5).1, fun _ => ?_⟩⟩⟩
          obtain ⟨q1, q2⟩ := (k10 h).2 h5
          by_cases h6 : t + 2 < t'
          · exact q2 h6
          · have h7 : t' = t + 2 := by omega
            rw [k8 h7]
            have hw0 : w = 0 := by omega
            have := (h4 h).2 hw0
            split <;> omega
        · rw [if_neg h0]
          refine ⟨fun _ h => ?_, fun t' w' e => by cases e⟩
          have h := e3.mp h
          by_cases ht1 : t + 1 < n
          · refine acc_no ht1 ?_ h
            unfold nxN
            rw [if_neg hge, if_neg h0]
          · have := (acc_end (K := K) (by omega)).mp h
            omega
      · rw [if_neg hr]
        refine ⟨fun e => (by cases e), fun t' w' e => ?_⟩
        cases e
        refine ⟨Nat.le_refl _, h2, Nat.le_refl _, by simpa using hr, fun h h0 => hw ⟨h0, h⟩, fun _ => rfl, s, Iff.rfl, fun _ => rfl, h3, fun h => ⟨(h4 h).1, fun h5 => ⟨(h4 h).2 h5, fun h6 => by omega⟩⟩⟩
/-- a group's passer at depth d: right -/
def okG (K : Nat → Nat) (n d : Nat) (G : Nat → Option Nat) : Prop := ∀ s t, s < 4 → K t = 8 → (G t = none → ¬ acc K n s d t) ∧ ∀ t', G t = some t' → t < t' ∧ t' ≤ n ∧ (acc K n s d t ↔ acc K n 6 d t')
theorem pC_ok (hK : okK K n) {d F : Nat} {G : Nat → Option Nat} (hF : n < F) (hG : okG K n d G) {s t : Nat} (hs : s < 4) (ht : t ≤ n) (h10 : s = 3 ∨ K t ≠ 10) (hb : s = 1 → bgK (K t) = true) :
    (pC K F G t = none → ¬ acc K n s d t) ∧ ∀ t', pC K F G t = some t' → t < t' ∧ t' ≤ n ∧ ∃ s', (acc K n s d t ↔ acc K n s' d t') ∧ aft K s' t' := by
  unfold pC
  by_cases h8 : K t = 8
  · rw [if_pos h8]
    obtain ⟨g1, g2⟩ := hG s t hs h8
    cases hg : G t with
    | none => exact ⟨fun _ => g1 hg, fun t' e => by cases e⟩
    | some t1 =>
      obtain ⟨a1, a2, a3⟩ := g2 t1 hg
      obtain ⟨b1, b2⟩ := pW_ok hK true d F t1 0 6 (by omega) a2 (fun _ => rfl) (fun h => by cases h)
      dsimp only
      cases hp : pW K true F t1 0 with
      | none => exact ⟨fun _ h => b1 hp (a3.mp h), fun t' e => by cases e⟩
      | some x =>
        obtain ⟨t2, w⟩ := x
        refine ⟨fun e => (by cases e), fun t' e => ?_⟩
        cases e
        obtain ⟨k1, k2, k3, k4, k5, k6, s', k7, k8, k9, k10⟩ := b2 t2 w hp
        refine ⟨by omega, k2, 6, ?_, Or.inr ⟨rfl, k4⟩⟩
        rw [a3, k7, k9 rfl]
  · rw [if_neg h8]
    obtain ⟨b1, b2⟩ := pW_ok hK false d F t 0 s (by omega) ht (fun h => by cases h) (fun _ => ⟨fun h => by omega, fun _ => by omega⟩)
    cases hp : pW K false F t 0 with
    | none => exact ⟨fun _ => b1 hp, fun t' e => by cases e⟩
    | some x =>
      obtain ⟨t2, w⟩ := x
      dsimp only
      obtain ⟨k1, k2, k3, k4, k5, k6, s', k7, k8, k9, k10⟩ := b2 t2 w hp
      by_cases hw : 0 < w
      · rw [if_pos hw]
        refine ⟨fun e => (by cases e), fun t' e => ?_⟩
        cases e
        have : t2 ≠ t := fun h => by have := k6 h; omega
        exact ⟨by omega, k2, s', k7, Or.inl ⟨(k10 rfl).1 hw, k5 rfl, k4⟩⟩
      · rw [if_neg hw]
        refine ⟨fun _ h => ?_, fun t' e => by cases e⟩
        have h := k7.mp h
        obtain ⟨q1, q2⟩ := (k10 rfl).2 (by omega)
        have hk0 := k5 rfl
        have hs1 : s' = 1 → bgK (K t2) = true := fun h1 => by
          have h3 : t2 = t := by
            rcases Nat.lt_or_ge t t2 with h3 | h3
            · have := q2 h3; omega
            · omega
          rw [h3]
          exact hb (by have := k8 h3; omega)
        by_cases h2 : t2 < n
        · refine acc_no h2 ?_ h
          have hne : ¬ (K t2 = 8 ∧ s' < 4) ∧ ¬ (K t2 = 10 ∧ s' < 3) := by
            by_cases h3 : t2 = t
            · rw [h3]
              refine ⟨fun h4 => h8 h4.1, fun h4 => ?_⟩
              have := k8 h3
              rcases h10 with h5 | h5
              · omega
              · exact h5 h4.1
            · have := q2 (by omega)
              constructor <;> omega
          unfold nxN
          rw [if_pos (by omega), if_neg (by rw [k4]; decide), if_neg hk0]
          by_cases c8 : K t2 = 8
          · rw [if_pos c8, if_neg (by omega)]
          · rw [if_neg c8]
            by_cases c10 : K t2 = 10
            · rw [if_pos c10, if_neg (by omega)]
            · rw [if_neg c10]
              by_cases c9 : K t2 = 9
              · rw [if_pos c9]
                by_cases c1 : s' = 1
                · have := hs1 c1
                  rw [c9] at this
                  exact absurd this (by decide)
                · rw [if_neg (by omega)]
              · rw [if_neg c9, if_pos (by omega)]
        · have h9 := (acc_end (K := K) (by omega)).mp h
          have := hs1 (by omega)
          rw [(hK t2).2 (by omega)] at this
          exact absurd this (by decide)
/-- behind a command: an operator of kinds 1 .. 4 -/
theorem nx_op {s k d : Nat} (hs : s = 5 ∨ s = 6) (h1 : 1 ≤ k) (h2 : k ≤ 4) : nxN s k d = some (if k = 1 then 1 else if k = 4 then 3 else 2) := by
  have hr : ¬ redK k = true := by rw [redK_iff]; omega
  unfold nxN
  rw [if_pos (by omega), if_neg hr, if_neg (by omega), if_neg (by omega), if_neg (by omega), if_neg (by omega), if_neg (by omega)]
  by_cases e1 : k = 1
  · rw [if_pos e1, if_pos e1]
  · rw [if_neg e1, if_neg e1]
    split <;> rfl
theorem dp_op {k d : Nat} (h2 : k ≠ 8) (h3 : k ≠ 9) : dpN k d = d := by
  unfold dpN
  rw [if_neg h2, if_neg h3]
theorem aft.s {s t : Nat} (h : aft K s t) : s = 5 ∨ s = 6 := by
  rcases h with h | h
  · exact Or.inl h.1
  · exact Or.inr h.1
theorem aft.r {s t : Nat} (h : aft K s t) : redK (K t) = false := by
  rcases h with h | h
  · exact h.2.2
  · exact h.2
theorem aft_nx {s t d : Nat} (h : aft K s t) (h1 : ¬ (1 ≤ K t ∧ K t ≤ 4)) (h9 : K t ≠ 9) (h10 : K t ≤ 10) : nxN s (K t) d = none := by
  have hs := h.s
  unfold nxN
  rw [if_pos (by omega), if_neg (by rw [h.r]; decide)]
  have hr := h.r
  have hr : ¬ (K t = 5 ∨ K t = 6 ∨ K t = 7) := fun h5 => by rw [(redK_iff _).mpr h5] at hr; cases hr
  by_cases h0 : K t = 0
  · rw [if_pos h0]
    rcases h with h | h
    · exact absurd h0 h.2.1
    · rw [if_pos h.1]
  · rw [if_neg h0]
    by_cases h8 : K t = 8
    · rw [if_pos h8, if_neg (by omega)]
    · rw [if_neg h8]
      by_cases hx : K t = 10
      · rw [if_pos hx, if_neg (by omega)]
      · exfalso; omega
theorem pB_ok (hK : okK K n) {d F : Nat} {G : Nat → Option Nat} (hF : n < F) (hG : okG K n d G) : ∀ (f s t : Nat), n < t + f → t ≤ n → aft K s t →
    (pB K F G f t = none → ¬ acc K n s d t) ∧ ∀ t', pB K F G f t = some t' → t ≤ t' ∧ t' ≤ n ∧ ∃ s', (acc K n s d t ↔ acc K n s' d t') ∧ aft K s' t' ∧ K t' ≠ 4 := by
  intro f
  induction f with
  | zero => intro s t h1 h2; omega
  | succ f ih =>
    intro s t h1 h2 ha
    rw [pB]
    by_cases h4 : K t = 4
    · rw [if_pos h4]
      have ht : t < n := hK.lt (by omega)
      have e3 := acc_st (K := K) (n := n) (d := d) ht (nx_op ha.s (by omega) (by omega))
      rw [dp_op (by omega) (by omega), if_neg (by omega), if_pos h4] at e3
      obtain ⟨g1, g2⟩ := pC_ok hK hF hG (s := 3) (t := t + 1) (by omega) (by omega) (Or.inl rfl) (fun h => by omega)
      cases hp : pC K F G (t + 1) with
      | none => exact ⟨fun _ h => g1 hp (e3.mp h), fun t' e => by cases e⟩
      | some t1 =>
        obtain ⟨k1, k2, s1, k3, k4⟩ := g2 t1 hp
        obtain ⟨m1, m2⟩ := ih s1 t1 (by omega) k2 k4
        dsimp only
        refine ⟨fun e h => m1 e (k3.mp (e3.mp h)), fun t' e => ?_⟩
        obtain ⟨q1, q2, s', q3, q4, q5⟩ := m2 t' e
        exact ⟨by omega, q2, s', (e3.trans k3).trans q3, q4, q5⟩
    · rw [if_neg h4]
      refine ⟨fun e => (by cases e), fun t' e => ?_⟩
      cases e
      exact ⟨Nat.le_refl _, h2, s, Iff.rfl, ha, h4⟩
theorem pP_ok (hK : okK K n) {d F : Nat} {G : Nat → Option Nat} (hF : n < F) (hG : okG K n d G) {s t : Nat} (hs : s < 3) (ht : t ≤ n) (hb : s = 1 → bgK (K t) = true) :
    (pP K F G t = none → ¬ acc K n s d t) ∧ ∀ t', pP K F G t = some t' → t < t' ∧ t' ≤ n ∧ ∃ s', (acc K n s d t ↔ acc K n s' d t') ∧ aft K s' t' ∧ K t' ≠ 4 := by
  unfold pP
  by_cases h10 : K t = 10
  · rw [if_pos h10]
    have htn : t < n := hK.lt (by omega)
    have e1 : nxN s (K t) d = some 3 := by
      unfold nxN
      rw [h10, if_pos (by omega), if_neg (by decide), if_neg (by decide), if_neg (by decide), if_pos rfl, if_pos hs]
    have e3 := acc_st (K := K) (n := n) htn e1
    rw [dp_op (by omega) (by omega)] at e3
    obtain ⟨g1, g2⟩ := pC_ok hK hF hG (s := 3) (t := t + 1) (by omega) (by omega) (Or.inl rfl) (fun h => by omega)
    cases hp : pC K F G (t + 1) with
    | none => exact ⟨fun _ h => g1 hp (e3.mp h), fun t' e => by cases e⟩
    | some t1 =>
      obtain ⟨k1, k2, s1, k3, k4⟩ := g2 t1 hp
      obtain ⟨m1, m2⟩ := pB_ok hK hF hG F s1 t1 (by omega) k2 k4
      dsimp only
      refine ⟨fun e h => m1 e (k3.mp (e3.mp h)), fun t' e => ?_⟩
      obtain ⟨q1, q2, s', q3, q4, q5⟩ := m2 t' e
      exact ⟨by omega, q2, s', (e3.trans k3).trans q3, q4, q5⟩
  · rw [if_neg h10]
    obtain ⟨g1, g2⟩ := pC_ok hK hF hG (s := s) (t := t) (by omega) ht (Or.inr h10) hb
    cases hp : pC K F G t with
    | none => exact ⟨fun _ h => g1 hp h, fun t' e => by cases e⟩
    | some t1 =>
      obtain ⟨k1, k2, s1, k3, k4⟩ := g2 t1 hp
      obtain ⟨m1, m2⟩ := pB_ok hK hF hG F s1 t1 (by omega) k2 k4
      dsimp only
      refine ⟨fun e h => m1 e (k3.mp h), fun t' e => ?_⟩
      obtain ⟨q1, q2, s', q3, q4, q5⟩ := m2 t' e
      exact ⟨by omega, q2, s', k3.trans q3, q4, q5⟩
theorem pO_ok (hK : okK K n) {d F : Nat} {G : Nat → Option Nat} (hF : n < F) (hG : okG K n d G) : ∀ (f s t : Nat), n < t + f → t ≤ n → aft K s t → K t ≠ 4 →
    (pO K F G f t = none → ¬ acc K n s d t) ∧ ∀ t', pO K F G f t = some t' → t ≤ t' ∧ t' ≤ n ∧ ∃ s', (acc K n s d t ↔ acc K n s' d t') ∧ aft K s' t' ∧ K t' ≠ 4 ∧ K t' ≠ 2 ∧ K t' ≠ 3 := by
  intro f
  induction f with
  | zero => intro s t h1 h2; omega
  | succ f ih =>
    intro s t h1 h2 ha hn4
    rw [pO]
    by_cases h4 : K t = 2 ∨ K t = 3
    · rw [if_pos h4]
      have ht : t < n := hK.lt (by omega)
      have e3 := acc_st (K := K) (n := n) (d := d) ht (nx_op ha.s (by omega) (by omega))
      rw [dp_op (by omega) (by omega), if_neg (by omega), if_neg (by omega)] at e3
      obtain ⟨g1, g2⟩ := pP_ok hK hF hG (s := 2) (t := t + 1) (by omega) (by omega) (fun h => by omega)
      cases hp : pP K F G (t + 1) with
      | none => exact ⟨fun _ h => g1 hp (e3.mp h), fun t' e => by cases e⟩
      | some t1 =>
        obtain ⟨k1, k2, s1, k3, k4, k5⟩ := g2 t1 hp
        obtain ⟨m1, m2⟩ := ih s1 t1 (by omega) k2 k4 k5
        dsimp only
        refine ⟨fun e h => m1 e (k3.mp (e3.mp h)), fun t' e => ?_⟩
        obtain ⟨q1, q2, s', q3, q4⟩ := m2 t' e
        exact ⟨by omega, q2, s', (e3.trans k3).trans q3, q4⟩
    · rw [if_neg h4]
      refine ⟨fun e => (by cases e), fun t' e => ?_⟩
      cases e
      exact ⟨Nat.le_refl _, h2, s, Iff.rfl, ha, hn4, fun h => h4 (Or.inl h), fun h => h4 (Or.inr h)⟩
theorem pA_ok (hK : okK K n) {d F : Nat} {G : Nat → Option Nat} (hF : n < F) (hG : okG K n d G) {s t : Nat} (hs : s < 3) (ht : t ≤ n) (hb : s = 1 → bgK (K t) = true) :
    (pA K F G t = none → ¬ acc K n s d t) ∧ ∀ t', pA K F G t = some t' → t < t' ∧ t' ≤ n ∧ ∃ s', (acc K n s d t ↔ acc K n s' d t') ∧ aft K s' t' ∧ K t' ≠ 4 ∧ K t' ≠ 2 ∧ K t' ≠ 3 := by
  unfold pA
  obtain ⟨g1, g2⟩ := pP_ok hK hF hG hs ht hb
  cases hp : pP K F G t with
  | none => exact ⟨fun _ => g1 hp, fun t' e => by cases e⟩
  | some t1 =>
    obtain ⟨k1, k2, s1, k3, k4, k5⟩ := g2 t1 hp
    obtain ⟨m1, m2⟩ := pO_ok hK hF hG F s1 t1 (by omega) k2 k4 k5
    dsimp only
    refine ⟨fun e h => m1 e (k3.mp h), fun t' e => ?_⟩
    obtain ⟨q1, q2, s', q3, q4⟩ := m2 t' e
    exact ⟨by omega, q2, s', k3.trans q3, q4⟩
/-- the end of a list -/
def lend (K : Nat → Nat) (s t : Nat) : Prop := (aft K s t ∧ ¬ (1 ≤ K t ∧ K t ≤ 4)) ∨ (s = 1 ∧ bgK (K t) = false)
theorem bgK_iff (k : Nat) : bgK k = true ↔ k = 0 ∨ k = 8 ∨ k = 10 ∨ k = 5 ∨ k = 6 ∨ k = 7 := by
  unfold bgK
  rw [Bool.or_eq_true, redK_iff]
  simp [or_assoc]
theorem lend_nx {s t d : Nat} (h : lend K s t) (h9 : K t ≠ 9) (h10 : K t ≤ 10) : nxN s (K t) d = none := by
  rcases h with ⟨h, h1⟩ | ⟨h, h1⟩
  · exact aft_nx h h1 h9 h10
  · have hb : ¬ (K t = 0 ∨ K t = 8 ∨ K t = 10 ∨ K t = 5 ∨ K t = 6 ∨ K t = 7) := fun h5 => by rw [(bgK_iff _).mpr h5] at h1; cases h1
    have hr : ¬ redK (K t) = true := by rw [redK_iff]; omega
    unfold nxN
    rw [if_pos (by omega), if_neg hr, if_neg (by omega), if_neg (by omega), if_neg (by omega), if_neg (by omega), if_pos (by omega)]
theorem lend_s {s t : Nat} (h : lend K s t) : s = 1 ∨ s = 5 ∨ s = 6 := by
  rcases h with ⟨h, h1⟩ | ⟨h, h1⟩
  · exact Or.inr h.s
  · exact Or.inl h
theorem lend_cl {s t d : Nat} (h : lend K s t) (h9 : K t = 9) : nxN s (K t) (d + 1) = some 6 := by
  have := lend_s h
  unfold nxN
  rw [h9, if_pos (by omega), if_neg (by decide), if_neg (by decide), if_neg (by decide), if_neg (by decide), if_pos rfl, if_pos ⟨by omega, by omega⟩]
theorem pL_ok (hK : okK K n) {d F : Nat} {G : Nat → Option Nat} (hF : n < F) (hG : okG K n d G) : ∀ (f s t : Nat), n < t + f → t ≤ n → s < 2 → (s = 1 → bgK (K t) = true) →
    (pL K F G f t = none → ¬ acc K n s d t) ∧ ∀ t', pL K F G f t = some t' → t < t' ∧ t' ≤ n ∧ ∃ s', (acc K n s d t ↔ acc K n s' d t') ∧ lend K s' t' := by
  intro f
  induction f with
  | zero => intro s t h1 h2; omega
  | succ f ih =>
    intro s t h1 h2 hs hb
    rw [pL]
    obtain ⟨g1, g2⟩ := pA_ok hK hF hG (s := s) (by omega) h2 hb
    cases hp : pA K F G t with
    | none => exact ⟨fun _ => g1 hp, fun t' e => by cases e⟩
    | some t1 =>
      obtain ⟨k1, k2, s1, k3, k4, k5, k6, k7⟩ := g2 t1 hp
      dsimp only
      by_cases hk : K t1 = 1
      · rw [if_pos hk]
        have ht : t1 < n := hK.lt (by omega)
        have e3 := acc_st (K := K) (n := n) (d := d) ht (nx_op k4.s (by omega) (by omega))
        rw [dp_op (by omega) (by omega), if_pos hk] at e3
        by_cases hb1 : bgK (K (t1 + 1)) = true
        · rw [if_pos hb1]
          obtain ⟨m1, m2⟩ := ih 1 (t1 + 1) (by omega) (by omega) (by omega) (fun _ => hb1)
          refine ⟨fun e h => m1 e (e3.mp (k3.mp h)), fun t' e => ?_⟩
          obtain ⟨q1, q2, s', q3, q4⟩ := m2 t' e
          exact ⟨by omega, q2, s', (k3.trans e3).trans q3, q4⟩
        · rw [if_neg hb1]
          refine ⟨fun e => (by cases e), fun t' e => ?_⟩
          cases e
          exact ⟨by omega, by omega, 1, k3.trans e3, Or.inr ⟨rfl, by simpa using hb1⟩⟩
      · rw [if_neg hk]
        refine ⟨fun e => (by cases e), fun t' e => ?_⟩
        cases e
        exact ⟨k1, k2, s1, k3, Or.inl ⟨k4, by omega⟩⟩
theorem pG_ok (hK : okK K n) {F : Nat} (hF : n < F) : ∀ (r d : Nat), r + d = 4 → okG K n d (pG K F r) := by
  intro r
  induction r with
  | zero =>
    intro d hd s t hs h8
    refine ⟨fun _ => ?_, fun t' e => by cases e⟩
    have ht : t < n := hK.lt (by omega)
    refine acc_no ht ?_
    unfold nxN
    rw [h8, if_pos (by omega), if_neg (by decide), if_neg (by decide), if_pos rfl, if_neg (by omega)]
  | succ r ih =>
    intro d hd s t hs h8
    have ht : t < n := hK.lt (by omega)
    have e1 : nxN s (K t) d = some 0 := by
      unfold nxN
      rw [h8, if_pos (by omega), if_neg (by decide), if_neg (by decide), if_pos rfl, if_pos ⟨hs, by omega⟩]
    have e3 := acc_st (K := K) (n := n) ht e1
    have ed : dpN (K t) d = d + 1 := by rw [h8]; rfl
    rw [ed] at e3
    obtain ⟨m1, m2⟩ := pL_ok hK hF (ih (d + 1) (by omega)) F 0 (t + 1) (by omega) (by omega) (by omega) (fun h => by omega)
    rw [pG]
    cases hp : pL K F (pG K F r) F (t + 1) with
    | none => exact ⟨fun _ h => m1 hp (e3.mp h), fun t' e => by cases e⟩
    | some t1 =>
      obtain ⟨q1, q2, s', q3, q4⟩ := m2 t1 hp
      dsimp only
      by_cases h9 : K t1 = 9
      · rw [if_pos h9]
        refine ⟨fun e => (by cases e), fun t' e => ?_⟩
        cases e
        have ht1 : t1 < n := hK.lt (by omega)
        have e4 := acc_st (K := K) (n := n) ht1 (lend_cl (d := d) q4 h9)
        have ed1 : dpN (K t1) (d + 1) = d := by rw [h9]; rfl
        rw [ed1] at e4
        exact ⟨by omega, by omega, (e3.trans q3).trans e4⟩
      · rw [if_neg h9]
        refine ⟨fun _ h => ?_, fun t' e => by cases e⟩
        have h := q3.mp (e3.mp h)
        by_cases ht1 : t1 < n
        · exact acc_no ht1 (lend_nx q4 h9 ((hK t1).1 ht1)) h
        · have := (acc_end (K := K) (by omega)).mp h
          omega
/-- the walk accepts what the descent passes over -/
theorem gr_iff (hK : okK K n) {F : Nat} (hF : n < F) : smN K n 0 0 0 = true ↔ ∃ t, pL K F (pG K F 4) F 0 = some t ∧ K t = 11 := by
  obtain ⟨m1, m2⟩ := pL_ok hK hF (pG_ok hK hF 4 0 rfl) F 0 0 (by omega) (by omega) (by omega) (fun h => by omega)
  have e0 : acc K n 0 0 0 ↔ smN K n 0 0 0 = true := by unfold acc; rw [Nat.sub_zero]
  rw [← e0]
  cases hp : pL K F (pG K F 4) F 0 with
  | none => exact ⟨fun h => absurd h (m1 hp), fun ⟨t, e, _⟩ => by cases e⟩
  | some t1 =>
    obtain ⟨q1, q2, s', q3, q4⟩ := m2 t1 hp
    rw [q3]
    by_cases h11 : K t1 = 11
    · have hn : n ≤ t1 := Nat.le_of_not_lt fun h => by have := (hK t1).1 h; omega
      exact ⟨fun _ => ⟨t1, rfl, h11⟩, fun _ => (acc_end (K := K) hn).mpr ⟨rfl, lend_s q4⟩⟩
    · refine ⟨fun h => ?_, fun ⟨t, e, h⟩ => by cases e; exact absurd h h11⟩
      exfalso
      have ht1 : t1 < n := hK.lt h11
      refine acc_no ht1 ?_ h
      by_cases h9 : K t1 = 9
      · have := lend_s q4
        unfold nxN
        rw [h9, if_pos (by omega), if_neg (by decide), if_neg (by decide), if_neg (by decide), if_neg (by decide), if_pos rfl, if_neg (by omega)]
      · exact lend_nx q4 h9 ((hK t1).1 ht1)
end
