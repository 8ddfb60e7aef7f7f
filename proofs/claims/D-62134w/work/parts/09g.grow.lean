/-! ===== the heap only grows; switches; returns ===== -/
def sd_le (h h' : ab_H) : Prop := h.1 = h'.1 ∧ ab_sz h ≤ ab_sz h' ∧ ab_sl h ≤ ab_sl h'
theorem sd_le_rf (h : ab_H) : sd_le h h := ⟨rfl, Nat.le_refl _, Nat.le_refl _⟩
theorem sd_le_tr {a b c : ab_H} (h1 : sd_le a b) (h2 : sd_le b c) : sd_le a c := ⟨h1.1.trans h2.1, Nat.le_trans h1.2.1 h2.2.1, Nat.le_trans h1.2.2 h2.2.2⟩
theorem sd_le_mk (h : ab_H) (c : ab_C) (n : Nat) : sd_le h (ab_mk h c n) := ⟨rfl, Nat.le_succ _, Nat.le_add_right _ _⟩
theorem sd_le_put (h : ab_H) (a : Nat) (c : ab_C) : sd_le h (ab_put h a c) := ⟨rfl, Nat.le_refl _, Nat.le_refl _⟩
theorem sd_le_pf {h h' : ab_H} {a f : Nat} {v : ab_V} (e : ab_pf h a f v = some h') : sd_le h h' := by
  unfold ab_pf at e
  split at e
  · split at e
    · cases e; exact sd_le_put _ _ _
    · cases e
  · cases e
theorem sd_le_sI {q : Nat} {h h' : ab_H} {a : Nat} {i x : Int32} (e : ab_sI q h a i x = some h') : sd_le h h' := by
  unfold ab_sI at e
  split at e
  · split at e
    · cases e; exact sd_le_put _ _ _
    · cases e
  · cases e
theorem sd_le_sL {h h' : ab_H} {a : Nat} {i : Int32} {x : Int64} (e : ab_sL h a i x = some h') : sd_le h h' := by
  unfold ab_sL at e
  split at e
  · split at e
    · cases e; exact sd_le_put _ _ _
    · cases e
  · cases e
theorem sd_le_sR {h h' : ab_H} {a : Nat} {i : Int32} {x : Option Nat} (e : ab_sR h a i x = some h') : sd_le h h' := by
  unfold ab_sR at e
  split at e
  · split at e
    · cases e; exact sd_le_put _ _ _
    · cases e
  · cases e
def sd_oh : ab_O → ab_H
  | .inl (_, _, _, h) => h
  | .inr (.inl (_, _, _, _, _, _, h)) => h
  | .inr (.inr (_, h)) => h
theorem sd_sw_or {α : Type} {x : Int32} {d : Option α} {f : Int → Option α} {o : α} : ∀ {l : List (Int × Int)}, ab_sw x d l f = some o → d = some o ∨ ∃ t, f t = some o
  | [], e => Or.inl e
  | (k, t) :: l, e => by
    rw [ab_sw] at e
    split at e
    · exact Or.inr ⟨t, e⟩
    · exact sd_sw_or e
set_option maxHeartbeats 8000000 in
theorem sd_one_le {i : Instr} {nx : Nat} {L : List (Option ab_V)} {st : List ab_V} {h : ab_H} {o : ab_O} (e : ab_one i nx L st h = some o) : sd_le h (sd_oh o) := by
  unfold ab_one ab_st at e
  cases i <;> dsimp only at e <;> (repeat' split at e) <;> first
    | (cases e; done)
    | (cases e; exact sd_le_rf _)
    | (cases e; exact sd_le_mk _ _ _)
    | (simp only [Option.bind_eq_some_iff] at e; obtain ⟨a, -, x, -, e⟩ := e; cases e; exact sd_le_rf _)
    | (simp only [Option.bind_eq_some_iff] at e; obtain ⟨a, -, x, hx, e⟩ := e; cases e; exact sd_le_pf hx)
    | (simp only [Option.bind_eq_some_iff] at e; obtain ⟨a, -, x, hx, e⟩ := e; cases e; exact sd_le_sI hx)
    | (simp only [Option.bind_eq_some_iff] at e; obtain ⟨a, -, x, hx, e⟩ := e; cases e; exact sd_le_sL hx)
    | (simp only [Option.bind_eq_some_iff] at e; obtain ⟨a, -, x, hx, e⟩ := e; cases e; exact sd_le_sR hx)
    | (simp only [Option.bind_eq_some_iff] at e; obtain ⟨a, -, e⟩ := e; (repeat' split at e) <;> first | (cases e; done) | (cases e; exact sd_le_rf _))
    | (rcases sd_sw_or e with e | ⟨t, e⟩ <;> (cases e; exact sd_le_rf _))
    | (rename_i x _; cases x with
        | none => cases e; exact sd_le_rf _
        | some a =>
          simp only [ab_io] at e
          split at e <;> first | (cases e; done) | (cases e; exact sd_le_rf _))
theorem sd_prim_le {z : Bool} {y : Nat} {f : List ab_V → ab_H → Option ab_R} (hf : ab_prim z y = some f) {as : List ab_V} {h : ab_H} {r : ab_R} (e : f as h = some r) : sd_le h r.2 := by
  have grow : ∀ (h : ab_H) (a m n k : Nat) (t : Nat → Int32), sd_le h (ab_grow h a m n k t) := by
    intro h a m n k t
    unfold ab_grow
    split
    · exact sd_le_put _ _ _
    · exact ⟨rfl, Nat.le_succ _, Nat.le_add_right _ _⟩
  unfold ab_prim at hf
  split at hf <;> (try split at hf) <;> cases hf
  · unfold ab_b0 at e; split at e <;> cases e; exact sd_le_rf _
  · unfold ab_copy at e
    (repeat' split at e) <;> cases e
    exact sd_le_put _ _ _
  · unfold ab_clone at e
    (repeat' split at e) <;> cases e
    exact sd_le_mk _ _ _
  · unfold ab_b3 at e
    (repeat' split at e) <;> cases e
    exact ⟨rfl, Nat.le_succ _, Nat.le_add_right _ _⟩
  · unfold ab_b4 at e
    (repeat' split at e) <;> cases e
    exact grow _ _ _ _ _ _
  · unfold ab_b5 at e
    (repeat' split at e) <;> cases e
    exact grow _ _ _ _ _ _
  · unfold ab_b6 at e
    (repeat' split at e) <;> cases e
    exact sd_le_rf _
  · unfold ab_b7 at e
    (repeat' split at e) <;> cases e
    exact sd_le_rf _
  · unfold ab_b8 at e
    (repeat' split at e) <;> cases e
    exact sd_le_put _ _ _
  · unfold ab_min at e; split at e <;> cases e; exact sd_le_rf _
  · unfold ab_max at e; split at e <;> cases e; exact sd_le_rf _
theorem sd_run_le {G : Nat → List Instr × Nat} {z : Bool} : ∀ (n d m pc : Nat) (L : List (Option ab_V)) (st : List ab_V) (h : ab_H) (r : ab_R), ab_run G z n d m pc L st h = some r → sd_le h r.2 := by
  intro n
  induction n with
  | zero => intro d m pc L st h r e; cases e
  | succ n ih =>
    intro d m pc L st h r e
    rw [ab_run_eq] at e
    obtain ⟨i, o, -, ho, e⟩ := e
    have h1 := sd_one_le ho
    match o, h1, e with
    | .inl (nx, L1, st1, h9), h1, e => exact sd_le_tr h1 (ih _ _ _ _ _ _ _ e)
    | .inr (.inl (q, y, as, nx, L1, st1, h9)), h1, e =>
      obtain ⟨d', hd, e9⟩ := e
      obtain ⟨v, h', st', hc, hk, -, -⟩ := ab_bk_inv e9
      refine sd_le_tr h1 (sd_le_tr ?_ (ih _ _ _ _ _ _ _ hk))
      rcases ab_cr_inv hc with ⟨f, hf, e1⟩ | ⟨hf, hb9, e1⟩
      · exact sd_prim_le hf e1
      · exact ih _ _ _ _ _ _ _ e1
    | .inr (.inr x), h1, e => rw [e]; exact h1
