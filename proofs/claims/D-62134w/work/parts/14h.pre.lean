/-! ===== for the twin's run: commands up to their store; places ===== -/
theorem pre_k {Z : sL} (hZ : okZ Z) {G : Nat → Option Nat} {H : sG} (hH : okH Z H) (t : Nat) {s : sS} {inp : List Int32} (hs : stI Z s) (hi : inI inp) : okU Z s (preS Z G H t s inp).1 ∧ ∀ x, (preS Z G H t s inp).2 = some x → x ≤ sN (preS Z G H t s inp).1.2.1.1 ∧ sD (preS Z G H t s inp).1.2.1.1 x = false := by
  unfold preS
  rcases rdW Z.2.1 (decide (Z.2.1 t = 8)) 100 (if Z.2.1 t = 8 then (G t).getD 0 else t) with ⟨ws, rs⟩
  dsimp only
  obtain ⟨h1, h2, h3, h4, h5⟩ := id hs
  obtain ⟨z1, z2, z3, z4⟩ := id hZ
  obtain ⟨k1, k2, k3, k4, k5⟩ := red_k (here := s.2.1) (W := wdS Z s) z1 rs s.1 none none h1 (by omega) h2 ⟨fun f e => (by cases e), fun x e => (by cases e)⟩
  generalize redF Z.1.1 s.2.1 (wdS Z s) rs s.1 none none = u at k1 k2 k3 k4 k5
  obtain ⟨c, r, fd, tg⟩ := u
  dsimp only at k1 k2 k3 k4 k5
  have hs1 : stI Z (r, s.2) := ⟨k1, Nat.le_trans h2 k2.1, by show sD r s.2.1 = true; rw [(k2.2 _ h2).1]; exact h3, by show sC r ≤ _; omega, h5⟩
  match c, k5 with
  | 0, _ =>
    cases fd with
    | none =>
      have hu := act_k hZ hH (decide (Z.2.1 t = 8)) t ws hs1 hi
      exact ⟨hu.ex k2, fun x hx => by
        obtain ⟨a1, a2⟩ := k4.2 x hx
        exact ⟨Nat.le_trans a1 hu.2.1.1, ((hu.2.1.2 x a1).1).trans a2⟩⟩
    | some f =>
      have hu := act_k hZ hH (decide (Z.2.1 t = 8)) t ws hs1 (k4.1 f rfl)
      have := hu.ex (s := s) k2
      exact ⟨this.fd hi, fun x hx => by
        obtain ⟨a1, a2⟩ := k4.2 x hx
        exact ⟨Nat.le_trans a1 hu.2.1.1, ((hu.2.1.2 x a1).1).trans a2⟩⟩
  | 1, _ => exact ⟨⟨hs1, k2, (by omega : (1 : Nat) ≤ 127), okb.nil, fun _ => Nat.zero_le _, hi⟩, fun x hx => k4.2 x hx⟩
  | 2, _ => exact ⟨⟨hs1, k2, (by omega : (1 : Nat) ≤ 127), okb.nil, fun _ => Nat.zero_le _, hi⟩, fun x hx => k4.2 x hx⟩
/-- a command in its place: here goes back if there are several -/
def cmA (Z : sL) (G : Nat → Option Nat) (H : sG) (mn : Bool) (t : Nat) (s : sS) (inp : List Int32) : sR := if mn = true then asiS Z G H t s inp else cmdS Z G H t s inp
/-- the same by its store, whose here does not matter -/
theorem cmA_eq {Z : sL} (hZ : okZ Z) {G : Nat → Option Nat} {H : sG} (mn : Bool) (t : Nat) {s : sS} (inp : List Int32) (hs : stI Z s) {u : sR} {tg : Option Nat} (hu : preS Z G H t s inp = (u, tg)) (hb : u.1 = false) : cmA Z G H mn t s inp = stoS Z tg (false, (u.2.1.1, (if mn = true then s.2.1 else u.2.1.2.1), u.2.1.2.2), u.2.2.1, u.2.2.2.1, u.2.2.2.2) := by
  obtain ⟨b, ⟨r1, h1, st1, rn1⟩, cd, x, ii⟩ := u
  dsimp only at hb
  subst hb
  have e1 : cmdS Z G H t s inp = stoS Z tg (false, (r1, h1, st1, rn1), cd, x, ii) := by rw [cmd_pre hZ t inp hs, hu]
  unfold cmA
  cases mn with
  | false => rw [if_neg (by decide), e1]; rfl
  | true =>
    rw [if_pos rfl]
    unfold asiS
    rw [e1]
    unfold stoS
    dsimp only
    rw [if_neg (by decide), if_neg (by decide)]
    cases tg with
    | none => rfl
    | some y =>
      dsimp only
      split <;> rfl
theorem cmA_brk {Z : sL} (hZ : okZ Z) {G : Nat → Option Nat} {H : sG} (mn : Bool) (t : Nat) {s : sS} (inp : List Int32) (hs : stI Z s) {u : sR} {tg : Option Nat} (hu : preS Z G H t s inp = (u, tg)) (hb : u.1 = true) : cmA Z G H mn t s inp = (true, (u.2.1.1, (if mn = true then s.2.1 else u.2.1.2.1), u.2.1.2.2), u.2.2.1, u.2.2.2.1, u.2.2.2.2) := by
  obtain ⟨b, ⟨r1, h1, st1, rn1⟩, cd, x, ii⟩ := u
  dsimp only at hb
  subst hb
  have e1 : cmdS Z G H t s inp = stoS Z tg (true, (r1, h1, st1, rn1), cd, x, ii) := by rw [cmd_pre hZ t inp hs, hu]
  have e2 : stoS Z tg (true, (r1, h1, st1, rn1), cd, x, ii) = (true, (r1, h1, st1, rn1), cd, x, ii) := by unfold stoS; rw [if_pos rfl]
  unfold cmA
  cases mn with
  | false => rw [if_neg (by decide), e1, e2]; rfl
  | true =>
    rw [if_pos rfl]
    unfold asiS
    rw [e1, e2]
    rfl
theorem cmA_k {Z : sL} (hZ : okZ Z) {G : Nat → Option Nat} {H : sG} (hH : okH Z H) (mn : Bool) (t : Nat) {s : sS} {inp : List Int32} (hs : stI Z s) (hi : inI inp) : okU Z s (cmA Z G H mn t s inp) := by
  unfold cmA
  split
  · exact asi_k hZ hH t hs hi
  · exact cmd_k hZ hH t hs hi
theorem pO_mono {K : Nat → Nat} {F : Nat} {G : Nat → Option Nat} : ∀ (f t t1 : Nat), pO K F G f t = some t1 → ∀ k, pO K F G (f + k) t = some t1 := by
  intro f
  induction f with
  | zero => intro t t1 e; cases e
  | succ f ih =>
    intro t t1 e k
    rw [show f + 1 + k = (f + k) + 1 by omega, pO]
    rw [pO] at e
    split at e
    · rename_i h
      rw [if_pos h]
      cases hp : pP K F G (t + 1) with
      | none => rw [hp] at e; cases e
      | some t2 =>
        rw [hp] at e
        exact ih _ _ e k
    · rename_i h
      rw [if_neg h]
      exact e
theorem pO_100 {K : Nat → Nat} {F : Nat} {G : Nat → Option Nat} {f t t1 : Nat} (hf : f ≤ 100) (e : pO K F G f t = some t1) : pO K F G 100 t = some t1 := by
  have := pO_mono f t t1 e (100 - f)
  rwa [show f + (100 - f) = 100 by omega] at this
theorem goS_mono {Z : sL} {G : Nat → Option Nat} {n : Nat} : ∀ (f t t1 st : Nat), pO Z.2.1 100 G f t = some t1 → ∀ k, goS Z G n (f + k) t st = goS Z G n f t st := by
  intro f
  induction f with
  | zero => intro t t1 st e; cases e
  | succ f ih =>
    intro t t1 st e k
    rw [show f + 1 + k = (f + k) + 1 by omega, goS, goS]
    rw [pO] at e
    by_cases hsk : (Z.2.1 t = 2 ∧ st ≠ 0) ∨ (Z.2.1 t = 3 ∧ st = 0)
    · rw [if_pos hsk, if_pos hsk]
      rw [if_pos (by omega)] at e
      cases hp : pP Z.2.1 100 G (t + 1) with
      | none => rw [hp] at e; cases e
      | some te =>
        rw [hp] at e
        have heP : endP Z G (t + 1) = te := by unfold endP; rw [hp]; rfl
        rw [heP]
        exact ih te t1 st e k
    · rw [if_neg hsk, if_neg hsk]
theorem goS_ge {Z : sL} {n r : Nat} (hK : okK Z.2.1 n) : ∀ (f t t1 st : Nat), t ≤ n → pO Z.2.1 100 (pG Z.2.1 100 r) f t = some t1 → t ≤ (goS Z (pG Z.2.1 100 r) n f t st).1 ∧ (goS Z (pG Z.2.1 100 r) n f t st).1 ≤ n := by
  intro f
  induction f with
  | zero => intro t t1 st _ e; cases e
  | succ f ih =>
    intro t t1 st ht e
    rw [goS]
    rw [pO] at e
    by_cases hsk : (Z.2.1 t = 2 ∧ st ≠ 0) ∨ (Z.2.1 t = 3 ∧ st = 0)
    · rw [if_pos hsk]
      rw [if_pos (by omega)] at e
      cases hp : pP Z.2.1 100 (pG Z.2.1 100 r) (t + 1) with
      | none => rw [hp] at e; cases e
      | some te =>
        rw [hp] at e
        have htn := hK.lt (t := t) (by omega)
        obtain ⟨tc, -, -, q1, q2, -, q3⟩ := pP_inv hK (by omega) hp
        have heP : endP Z (pG Z.2.1 100 r) (t + 1) = te := by unfold endP; rw [hp]; rfl
        rw [heP]
        have := ih te t1 st q2 e
        omega
    · rw [if_neg hsk]
      by_cases h23 : Z.2.1 t = 2 ∨ Z.2.1 t = 3
      · rw [if_pos h23]
        have htn := hK.lt (t := t) (by omega)
        exact ⟨by show t ≤ t + 1; omega, by show t + 1 ≤ n; omega⟩
      · rw [if_neg h23]
        by_cases h1 : Z.2.1 t = 1
        · rw [if_pos h1]
          have htn := hK.lt (t := t) (by omega)
          exact ⟨by show t ≤ t + 1; omega, by show t + 1 ≤ n; omega⟩
        · rw [if_neg h1]
          exact ⟨Nat.le_refl _, ht⟩
/-- levels below lv, and inputs below but for o, are left alone -/
def lvO (lv : Nat) (o : Option Nat) (A A' : Nat → Nat → Int32) : Prop := (∀ p, ([14, 15, 16, 17, 18, 19, 20, 22] : List Nat).contains p = true → ∀ j, j < lv → A' p j = A p j) ∧ (∀ k, k < 96 * lv → A' 21 k = A 21 k) ∧ (∀ k, k < 320 * lv → A' 23 k = A 23 k) ∧ ∀ i, i < 2 * lv → o ≠ some i → A' 24 i = A 24 i
theorem lvO.rf {lv : Nat} {o : Option Nat} {A : Nat → Nat → Int32} : lvO lv o A A := ⟨fun _ _ _ _ => rfl, fun _ _ => rfl, fun _ _ => rfl, fun _ _ _ => rfl⟩
theorem lvO.tr {lv : Nat} {o : Option Nat} {A A' A'' : Nat → Nat → Int32} (h : lvO lv o A A') (h' : lvO lv o A' A'') : lvO lv o A A'' := ⟨fun p hp j hj => (h'.1 p hp j hj).trans (h.1 p hp j hj), fun k hk => (h'.2.1 k hk).trans (h.2.1 k hk), fun k hk => (h'.2.2.1 k hk).trans (h.2.2.1 k hk), fun i hi ho => (h'.2.2.2 i hi ho).trans (h.2.2.2 i hi ho)⟩
/-- what stands at a level between commands -/
def XS (Z : sL) (n : Nat) (fa : Nat → Nat) (lv : Nat) (s : sS) (o : Option Nat) (inp out : List Int32) (I : Nat → Int32) (A : Nat → Nat → Int32) (N : Nat → Int64) : Prop := RT Z n fa lv s I A N ∧ A 14 lv = oI o ∧ twIn o inp A ∧ twO lv out A
/-- a command begins at t; its input is src in o2 -/
def SC (Z : sL) (n : Nat) (fa : Nat → Nat) (lv t : Nat) (s : sS) (o : Option Nat) (inp out : List Int32) (o2 : Option Nat) (src : List Int32) (nt mn : Bool) (I : Nat → Int32) (A : Nat → Nat → Int32) (N : Nat → Int64) : Prop := XS Z n fa lv s o inp out I A N ∧ I 22 = nI t ∧ A 16 lv = oI o2 ∧ twIn o2 src A ∧ A 20 lv = b01 nt ∧ A 19 lv = b01 mn
/-- behind a pipeline that ended at te -/
def AG (Z : sL) (n : Nat) (fa : Nat → Nat) (lv r f te : Nat) (s : sS) (o : Option Nat) (inp out : List Int32) (I : Nat → Int32) (A : Nat → Nat → Int32) (N : Nat → Int64) : Prop := XS Z n fa lv s o inp out I A N ∧ ((goS Z (pG Z.2.1 100 r) n f te s.2.2.1).2 = false → I 22 = nI (goS Z (pG Z.2.1 100 r) n f te s.2.2.1).1) ∧ ((goS Z (pG Z.2.1 100 r) n f te s.2.2.1).2 = true → (goS Z (pG Z.2.1 100 r) n f te s.2.2.1).1 < n ∧ I 22 = nI (if Z.2.1 (goS Z (pG Z.2.1 100 r) n f te s.2.2.1).1 = 10 then (goS Z (pG Z.2.1 100 r) n f te s.2.2.1).1 + 1 else (goS Z (pG Z.2.1 100 r) n f te s.2.2.1).1) ∧ A 20 lv = b01 (decide (Z.2.1 (goS Z (pG Z.2.1 100 r) n f te s.2.2.1).1 = 10)) ∧ A 19 lv = b01 (decide (Z.2.1 (peA Z.2.1 n true 0 (if Z.2.1 (goS Z (pG Z.2.1 100 r) n f te s.2.2.1).1 = 10 then (goS Z (pG Z.2.1 100 r) n f te s.2.2.1).1 + 1 else (goS Z (pG Z.2.1 100 r) n f te s.2.2.1).1)) = 4)) ∧ A 16 lv = oI o)
/-- no space: what is seen of it at level lv -/
def BK (Z : sL) (lv : Nat) (s : sS) (out : List Int32) (I : Nat → Int32) (A : Nat → Nat → Int32) (N : Nat → Int64) : Prop := twW s.1 A N ∧ I 48 = nI s.2.2.2 ∧ (I 0 = nI Z.1.1 ∧ I 10 = 0) ∧ I 1 = nI Z.1.2.1 ∧ I 2 = nI Z.1.2.2 ∧ twO lv out A ∧ ∃ lv', lv ≤ lv' ∧ lv' < 5 ∧ I 21 = nI lv' ∧ ((lv' = lv ∧ ((A 19 lv = b01 true ∧ A 18 lv = nI s.2.1) ∨ (A 19 lv = b01 false ∧ I 9 = nI s.2.1))) ∨ (lv < lv' ∧ A 18 lv = nI s.2.1))
