/-! ===== runs: calls, fuel, the function without fuel, unfolding ===== -/
abbrev ab_R : Type := Option ab_V × ab_H
/-- Object's constructor -/
def ab_b0 (as : List ab_V) (h : ab_H) : Option ab_R := match as with
  | [.inr (.inr (some _))] => some (none, h)
  | _ => none
/-- System.arraycopy, of bytes between two arrays -/
def ab_copy (as : List ab_V) (h : ab_H) : Option ab_R := match as with
  | [.inr (.inr (some a0)), .inl sp, .inr (.inr (some a1)), .inl dp, .inl n] => match ab_ce h a0, ab_ce h a1 with
    | some (.inl (1, n0, f)), some (.inl (1, n1, g)) => if a0 ≠ a1 ∧ 0 ≤ sp.toInt ∧ 0 ≤ dp.toInt ∧ 0 ≤ n.toInt ∧ sp.toInt + n.toInt ≤ n0 ∧ dp.toInt + n.toInt ≤ n1 ∧ ab_n0 h ≤ a1 ∧ ab_n0 h ≤ a0 then some (none, ab_put h a1 (ab_cI 1 n1 (va_cpy f g sp.toNatClampNeg dp.toNatClampNeg n.toNatClampNeg))) else none
    | _, _ => none
  | _ => none
/-- clone of an array of references -/
def ab_clone (as : List ab_V) (h : ab_H) : Option ab_R := match as with
  | [.inr (.inr (some a))] => match ab_ce h a with
    | some (.inr (.inr (.inl (10, n, f)))) => some (some (.inr (.inr (some (ab_sz h)))), ab_mk h (ab_cR 10 n f) n)
    | _ => none
  | _ => none
/-- StringBuilder's members (3 .. 8): new, append of a char and of an int, charAt, length, setLength -/
def ab_bcap (q m : Nat) : Nat := if q ≤ m then m else if q - m < m + 2 then m + (m + 2) else q
def ab_b3 (as : List ab_V) (h : ab_H) : Option ab_R := match as with
  | [.inr (.inr (some a))] => match ab_ce h a with
    | some (.inr (.inr (.inr (.inl (8, fs))))) => if ab_n0 h ≤ a ∧ fs 0 = ab_zr ∧ fs 1 = ab_z0 ∧ fs 2 = ab_z0 ∧ fs 3 = ab_z0 then some (none, (h.1, h.2.1 + 1, h.2.2.1 + 16, ab_up h.2.2.2 a (some (ab_cB 16 0 (fun _ => 0))))) else none
    | _ => none
  | _ => none
/-- the text grows by the letters w .. : new capacity, and room for the new array -/
def ab_grow (h : ab_H) (a m n k : Nat) (t : Nat → Int32) : ab_H := if k ≤ m then ab_put h a (ab_cB m n t) else (h.1, h.2.1 + 1, h.2.2.1 + ab_bcap k m, ab_up h.2.2.2 a (some (ab_cB (ab_bcap k m) n t)))
def ab_b4 (as : List ab_V) (h : ab_H) : Option ab_R := match as with
  | [.inr (.inr (some a)), .inl c] => match ab_ce h a with
    | some (.inr (.inr (.inr (.inr (m, n, t))))) => if ab_n0 h ≤ a ∧ 0 ≤ c.toInt ∧ c.toInt < 256 ∧ n < 30000 ∧ m ≤ 65536 then some (some (.inr (.inr (some a))), ab_grow h a m (n + 1) (n + 1) (ab_up t n c)) else none
    | _ => none
  | _ => none
/-- the letters of a number below 1000 -/
def ab_dig (v i : Nat) : Int32 := nI (48 + (if v < 10 then v else if v < 100 then (if i = 0 then v / 10 else v % 10) else if i = 0 then v / 100 else if i = 1 then v / 10 % 10 else v % 10))
def ab_nd (v : Nat) : Nat := if v < 10 then 1 else if v < 100 then 2 else 3
/-- Integer's two tables of digits lie at their places -/
def ab_dgt (h : ab_H) : Prop := match ab_ce h (ab_ga h 31), ab_ce h (ab_ga h 32) with
  | some (.inl (1, 100, o)), some (.inl (1, 100, t)) => ∀ i, i < 100 → o i = nI (48 + i % 10) ∧ t i = nI (48 + i / 10)
  | _, _ => False
noncomputable def ab_b5 (as : List ab_V) (h : ab_H) : Option ab_R := match as with
  | [.inr (.inr (some a)), .inl c] => match ab_ce h a with
    | some (.inr (.inr (.inr (.inr (m, n, t))))) => @ite _ (ab_n0 h ≤ a ∧ 0 ≤ c.toInt ∧ c.toInt < 1000 ∧ n < 30000 ∧ m ≤ 65536 ∧ ab_dgt h) (Classical.propDecidable _) (some (some (.inr (.inr (some a))), ab_grow h a m (n + ab_nd c.toNatClampNeg) (n + ab_nd c.toNatClampNeg) (fun j => if n ≤ j ∧ j < n + ab_nd c.toNatClampNeg then ab_dig c.toNatClampNeg (j - n) else t j))) none
    | _ => none
  | _ => none
def ab_b6 (as : List ab_V) (h : ab_H) : Option ab_R := match as with
  | [.inr (.inr (some a)), .inl i] => match ab_ce h a with
    | some (.inr (.inr (.inr (.inr (m, n, t))))) => if ab_in i n = true ∧ n < 65536 ∧ m ≤ 65536 then some (some (.inl (t i.toNatClampNeg)), h) else none
    | _ => none
  | _ => none
def ab_b7 (as : List ab_V) (h : ab_H) : Option ab_R := match as with
  | [.inr (.inr (some a))] => match ab_ce h a with
    | some (.inr (.inr (.inr (.inr (_, n, _))))) => if n < 65536 then some (some (.inl (nI n)), h) else none
    | _ => none
  | _ => none
/-- setLength(0) alone -/
def ab_b8 (as : List ab_V) (h : ab_H) : Option ab_R := match as with
  | [.inr (.inr (some a)), .inl i] => match ab_ce h a with
    | some (.inr (.inr (.inr (.inr (m, n, _))))) => if ab_n0 h ≤ a ∧ i = 0 ∧ n < 65536 ∧ m ≤ 65536 then some (none, ab_put h a (ab_cB m 0 (fun _ => 0))) else none
    | _ => none
  | _ => none
def ab_min (as : List ab_V) (h : ab_H) : Option ab_R := match as with
  | [.inl x, .inl y] => some (some (.inl (if y < x then y else x)), h)
  | _ => none
def ab_max (as : List ab_V) (h : ab_H) : Option ab_R := match as with
  | [.inl x, .inl y] => some (some (.inl (if x < y then y else x)), h)
  | _ => none
noncomputable def ab_prim (z : Bool) (y : Nat) : Option (List ab_V → ab_H → Option ab_R) := match y with
  | 0 => some ab_b0
  | 1 => some ab_copy
  | 2 => some ab_clone
  | 3 => if z then some ab_b3 else none
  | 4 => if z then some ab_b4 else none
  | 5 => if z then some ab_b5 else none
  | 6 => if z then some ab_b6 else none
  | 7 => if z then some ab_b7 else none
  | 8 => if z then some ab_b8 else none
  | 9 => some ab_min
  | 10 => some ab_max
  | _ => none
/-- the answer of a call, by its kind: 0 nothing, 1 int, 2 long, 3 a reference -/
def ab_c0 (r : Option ab_R) : Option ab_H := match r with
  | some (none, h) => some h
  | _ => none
def ab_c1 (r : Option ab_R) : Option (Int32 × ab_H) := match r with
  | some (some (.inl x), h) => some (x, h)
  | _ => none
def ab_c2 (r : Option ab_R) : Option (Int64 × ab_H) := match r with
  | some (some (.inr (.inl x)), h) => some (x, h)
  | _ => none
def ab_c3 (r : Option ab_R) : Option (Option Nat × ab_H) := match r with
  | some (some (.inr (.inr x)), h) => some (x, h)
  | _ => none
/-- behind a call -/
def ab_bk {α : Type} (kk : Nat → List (Option ab_V) → List ab_V → ab_H → Option α) (q : Nat) (r : Option ab_R) (nx : Nat) (ls : List (Option ab_V)) (st : List ab_V) : Option α := match q with
  | 0 => (ab_c0 r).bind fun h => kk nx ls st h
  | 1 => (ab_c1 r).bind fun x => kk nx ls (.inl x.1 :: st) x.2
  | 2 => (ab_c2 r).bind fun x => kk nx ls (.inr (.inl x.1) :: st) x.2
  | 3 => (ab_c3 r).bind fun x => kk nx ls (.inr (.inr x.1) :: st) x.2
  | _ => none
section Runs
variable (G : Nat → List Instr × Nat) (z : Bool)
/-- the arguments fit into the callee's locals -/
def ab_fit (y : Nat) (as : List ab_V) : Bool := Nat.ble (ab_spread as).length (G y).2
def ab_ent (y : Nat) (as : List ab_V) : List (Option ab_V) := ab_pad (G y).2 (ab_spread as)
noncomputable def ab_run : Nat → Nat → Nat → Nat → List (Option ab_V) → List ab_V → ab_H → Option ab_R
  | 0, _, _, _, _, _, _ => none
  | n + 1, d, m, pc, ls, st, h => match ab_nth (G m).1 pc with
    | none => none
    | some i => ab_st (fun q y as nx ls st h => match d with
        | 0 => none
        | d + 1 => ab_bk (fun nx ls st h => ab_run n (d + 1) m nx ls st h) q (match ab_prim z y with
          | some f => f as h
          | none => match ab_fit G y as with
            | true => ab_run n d y 0 (ab_ent G y as) [] h
            | false => none) nx ls st)
      (fun nx ls st h => ab_run n d m nx ls st h) (fun v h => some (v, h)) i (pc + 1) ls st h
end Runs
abbrev ab_O : Type := (Nat × List (Option ab_V) × List ab_V × ab_H) ⊕ ((Nat × Nat × List ab_V × Nat × List (Option ab_V) × List ab_V × ab_H) ⊕ (Option ab_V × ab_H))
/-- one instruction's outcome: on, a call, the end -/
def ab_one (i : Instr) (nx : Nat) (ls : List (Option ab_V)) (st : List ab_V) (h : ab_H) : Option ab_O :=
  ab_st (fun q y as nx ls st h => some (.inr (.inl (q, y, as, nx, ls, st, h)))) (fun nx ls st h => some (.inl (nx, ls, st, h))) (fun v h => some (.inr (.inr (v, h)))) i nx ls st h
def ab_k {α : Type} (cl : Nat → Nat → List ab_V → Nat → List (Option ab_V) → List ab_V → ab_H → Option α) (kk : Nat → List (Option ab_V) → List ab_V → ab_H → Option α) (rt : Option ab_V → ab_H → Option α) : ab_O → Option α
  | .inl (nx, ls, st, h) => kk nx ls st h
  | .inr (.inl (q, y, as, nx, ls, st, h)) => cl q y as nx ls st h
  | .inr (.inr (v, h)) => rt v h
theorem ab_sw_bind {α β : Type} (f : α → Option β) (x : Int32) (d : Option α) (l : List (Int × Int)) (g : Int → Option α) : (ab_sw x d l g).bind f = ab_sw x (d.bind f) l (fun t => (g t).bind f) := by
  induction l with
  | nil => rfl
  | cons a l ih =>
    obtain ⟨k, t⟩ := a
    simp only [ab_sw]
    split
    · rfl
    · exact ih
theorem ab_io_bind {α β : Type} (f : α → Option β) (o : Option Nat) (x : Option α) (g : Nat → Option α) : (ab_io o x g).bind f = ab_io o (x.bind f) (fun a => (g a).bind f) := by
  cases o <;> rfl
set_option maxHeartbeats 8000000 in
theorem ab_st_eq {α : Type} (cl : Nat → Nat → List ab_V → Nat → List (Option ab_V) → List ab_V → ab_H → Option α) (kk : Nat → List (Option ab_V) → List ab_V → ab_H → Option α) (rt : Option ab_V → ab_H → Option α) (i : Instr) (nx : Nat) (ls : List (Option ab_V)) (st : List ab_V) (h : ab_H) :
    ab_st cl kk rt i nx ls st h = (ab_one i nx ls st h).bind (ab_k cl kk rt) := by
  unfold ab_one ab_st
  cases i <;> dsimp only <;> (repeat' split) <;> first | rfl | (simp only [ab_k, ab_sw_bind, ab_io_bind, Option.bind_assoc, Option.bind_some, Option.bind_none, Option.bind_eq_bind]; done) | (rw [Option.bind_assoc]; congr 1; funext a; (repeat' split) <;> rfl) | (rw [ab_io_bind]; congr 1; funext a; (repeat' split) <;> rfl)
theorem ab_bk_inv {α : Type} {kk : Nat → List (Option ab_V) → List ab_V → ab_H → Option α} {q : Nat} {c : Option ab_R} {nx : Nat} {ls : List (Option ab_V)} {st : List ab_V} {r : α} (e : ab_bk kk q c nx ls st = some r) :
    ∃ v h' st', c = some (v, h') ∧ kk nx ls st' h' = some r ∧ st' = v.toList ++ st ∧ ∀ kk' : Nat → List (Option ab_V) → List ab_V → ab_H → Option α, kk' nx ls st' h' = some r → ab_bk kk' q (some (v, h')) nx ls st = some r := by
  unfold ab_bk at e
  split at e
  · cases c with
    | none => simp [ab_c0] at e
    | some x =>
      obtain ⟨v, h'⟩ := x
      cases v with
      | some v => simp [ab_c0] at e
      | none => exact ⟨none, h', st, rfl, by simpa [ab_c0] using e, rfl, fun kk' e' => by simpa [ab_bk, ab_c0] using e'⟩
  · cases c with
    | none => simp [ab_c1] at e
    | some x =>
      obtain ⟨v, h'⟩ := x
      match v with
      | none => simp [ab_c1] at e
      | some (.inr _) => simp [ab_c1] at e
      | some (.inl x) => exact ⟨some (.inl x), h', .inl x :: st, rfl, by simpa [ab_c1] using e, rfl, fun kk' e' => by simpa [ab_bk, ab_c1] using e'⟩
  · cases c with
    | none => simp [ab_c2] at e
    | some x =>
      obtain ⟨v, h'⟩ := x
      match v with
      | none => simp [ab_c2] at e
      | some (.inl _) => simp [ab_c2] at e
      | some (.inr (.inr _)) => simp [ab_c2] at e
      | some (.inr (.inl x)) => exact ⟨some (.inr (.inl x)), h', .inr (.inl x) :: st, rfl, by simpa [ab_c2] using e, rfl, fun kk' e' => by simpa [ab_bk, ab_c2] using e'⟩
  · cases c with
    | none => simp [ab_c3] at e
    | some x =>
      obtain ⟨v, h'⟩ := x
      match v with
      | none => simp [ab_c3] at e
      | some (.inl _) => simp [ab_c3] at e
      | some (.inr (.inl _)) => simp [ab_c3] at e
      | some (.inr (.inr x)) => exact ⟨some (.inr (.inr x)), h', .inr (.inr x) :: st, rfl, by simpa [ab_c3] using e, rfl, fun kk' e' => by simpa [ab_bk, ab_c3] using e'⟩
  · simp at e
section Runs2
variable {G : Nat → List Instr × Nat} {z : Bool}
/-- a callee, by a run with fuel n -/
noncomputable def ab_cr (G : Nat → List Instr × Nat) (z : Bool) (n d y : Nat) (as : List ab_V) (h : ab_H) : Option ab_R := match ab_prim z y with
  | some f => f as h
  | none => match ab_fit G y as with
    | true => ab_run G z n d y 0 (ab_ent G y as) [] h
    | false => none
theorem ab_cr_inv {G : Nat → List Instr × Nat} {z : Bool} {n d y : Nat} {as : List ab_V} {h : ab_H} {r : ab_R} (e : ab_cr G z n d y as h = some r) : (∃ f, ab_prim z y = some f ∧ f as h = some r) ∨ (ab_prim z y = none ∧ ab_fit G y as = true ∧ ab_run G z n d y 0 (ab_ent G y as) [] h = some r) := by
  unfold ab_cr at e
  split at e
  · rename_i f hf
    exact Or.inl ⟨f, hf, e⟩
  · rename_i hf
    split at e
    · rename_i hb
      exact Or.inr ⟨hf, hb, e⟩
    · cases e
theorem ab_cr_of1 {G : Nat → List Instr × Nat} {z : Bool} {n d y : Nat} {as : List ab_V} {h : ab_H} {r : ab_R} {f : List ab_V → ab_H → Option ab_R} (hf : ab_prim z y = some f) (e : f as h = some r) : ab_cr G z n d y as h = some r := by
  unfold ab_cr
  rw [hf]
  exact e
theorem ab_cr_of2 {G : Nat → List Instr × Nat} {z : Bool} {n d y : Nat} {as : List ab_V} {h : ab_H} {r : ab_R} (hf : ab_prim z y = none) (hb : ab_fit G y as = true) (e : ab_run G z n d y 0 (ab_ent G y as) [] h = some r) : ab_cr G z n d y as h = some r := by
  unfold ab_cr
  rw [hf]
  dsimp only
  rw [hb]
  exact e
/-- a run, seen by its first instruction's outcome -/
theorem ab_run_eq (n d m pc : Nat) (ls : List (Option ab_V)) (st : List ab_V) (h : ab_H) (r : ab_R) : ab_run G z (n + 1) d m pc ls st h = some r ↔
    ∃ i o, ab_nth (G m).1 pc = some i ∧ ab_one i (pc + 1) ls st h = some o ∧ match o with
      | .inl (nx, ls, st, h) => ab_run G z n d m nx ls st h = some r
      | .inr (.inl (q, y, as, nx, ls, st, h)) => ∃ d', d = d' + 1 ∧ ab_bk (fun nx ls st h => ab_run G z n (d' + 1) m nx ls st h) q (ab_cr G z n d' y as h) nx ls st = some r
      | .inr (.inr x) => r = x := by
  rw [ab_run]
  cases hi : ab_nth (G m).1 pc with
  | none => simp
  | some i =>
    dsimp only
    rw [ab_st_eq]
    cases ho : ab_one i (pc + 1) ls st h with
    | none => simp [ho]
    | some o =>
      rw [Option.bind_some]
      constructor
      · intro e
        refine ⟨i, o, rfl, ho, ?_⟩
        match o, e with
        | .inl (nx, ls, st, h), e => exact e
        | .inr (.inl (q, y, as, nx, ls, st, h)), e =>
          cases d with
          | zero => cases e
          | succ d => exact ⟨d, rfl, e⟩
        | .inr (.inr x), e => exact (Option.some.inj e).symm
      · rintro ⟨i', o', hi', ho', e⟩
        cases hi'
        rw [ho] at ho'
        cases ho'
        match o, e with
        | .inl (nx, ls, st, h), e => exact e
        | .inr (.inl (q, y, as, nx, ls, st, h)), e =>
          obtain ⟨d', hd, e9⟩ := e
          subst hd
          exact e9
        | .inr (.inr x), e => rw [e]; rfl
theorem ab_run_mono : ∀ (n d m pc : Nat) (ls : List (Option ab_V)) (st : List ab_V) (h : ab_H) (r : ab_R), ab_run G z n d m pc ls st h = some r → ∀ k, ab_run G z (n + k) d m pc ls st h = some r := by
  intro n
  induction n with
  | zero => intro d m pc ls st h r e; cases e
  | succ n ih =>
    intro d m pc ls st h r e k
    rw [show n + 1 + k = (n + k) + 1 by omega, ab_run_eq]
    rw [ab_run_eq] at e
    obtain ⟨i, o, hi, ho, e⟩ := e
    refine ⟨i, o, hi, ho, ?_⟩
    match o, e with
    | .inl (nx, ls, st, h), e => exact ih _ _ _ _ _ _ _ e k
    | .inr (.inl (q, y, as, nx, ls, st, h)), e =>
      obtain ⟨d', hd, e9⟩ := e
      subst hd
      obtain ⟨v, h', st', hc, hk, -, hb⟩ := ab_bk_inv e9
      refine ⟨d', rfl, ?_⟩
      have hc' : ab_cr G z (n + k) d' y as h = some (v, h') := by
        rcases ab_cr_inv hc with ⟨f, hf, e1⟩ | ⟨hf, hb9, e1⟩
        · exact ab_cr_of1 hf e1
        · exact ab_cr_of2 hf hb9 (ih _ _ _ _ _ _ _ e1 k)
      rw [hc']
      exact hb _ (ih _ _ _ _ _ _ _ hk k)
    | .inr (.inr x), e => exact e
end Runs2
/-- what a method's frame comes to, without fuel -/
noncomputable def ab_ev (G : Nat → List Instr × Nat) (z : Bool) (d m pc : Nat) (ls : List (Option ab_V)) (st : List ab_V) (h : ab_H) : Option ab_R :=
  @dite _ (∃ r, ∃ n, ab_run G z n d m pc ls st h = some r) (Classical.propDecidable _) (fun e => some (Classical.choose e)) (fun _ => none)
theorem ab_ev_iff {G : Nat → List Instr × Nat} {z : Bool} {d m pc : Nat} {ls : List (Option ab_V)} {st : List ab_V} {h : ab_H} {r : ab_R} : ab_ev G z d m pc ls st h = some r ↔ ∃ n, ab_run G z n d m pc ls st h = some r := by
  unfold ab_ev
  constructor
  · intro e
    split at e
    · rename_i hx
      cases e
      exact Classical.choose_spec hx
    · cases e
  · rintro ⟨n, e⟩
    have hx : ∃ r, ∃ n, ab_run G z n d m pc ls st h = some r := ⟨r, n, e⟩
    rw [dif_pos hx]
    obtain ⟨n', e'⟩ := Classical.choose_spec hx
    have e1 := ab_run_mono _ _ _ _ _ _ _ _ e n'
    have e2 := ab_run_mono _ _ _ _ _ _ _ _ e' n
    rw [Nat.add_comm] at e2
    rw [e1] at e2
    exact e2.symm
/-- a call -/
noncomputable def ab_cl (G : Nat → List Instr × Nat) (z : Bool) (d y : Nat) (as : List ab_V) (h : ab_H) : Option ab_R := match ab_prim z y with
  | some f => f as h
  | none => match ab_fit G y as with
    | true => ab_ev G z d y 0 (ab_ent G y as) [] h
    | false => none
theorem ab_cl_inv {G : Nat → List Instr × Nat} {z : Bool} {d y : Nat} {as : List ab_V} {h : ab_H} {r : ab_R} (e : ab_cl G z d y as h = some r) : (∃ f, ab_prim z y = some f ∧ f as h = some r) ∨ (ab_prim z y = none ∧ ab_fit G y as = true ∧ ab_ev G z d y 0 (ab_ent G y as) [] h = some r) := by
  unfold ab_cl at e
  split at e
  · rename_i f hf
    exact Or.inl ⟨f, hf, e⟩
  · rename_i hf
    split at e
    · rename_i hb
      exact Or.inr ⟨hf, hb, e⟩
    · cases e
noncomputable def ab_clk (G : Nat → List Instr × Nat) (z : Bool) (d : Nat) (kk : Nat → List (Option ab_V) → List ab_V → ab_H → Option ab_R) (q y : Nat) (as : List ab_V) (nx : Nat) (ls : List (Option ab_V)) (st : List ab_V) (h : ab_H) : Option ab_R := match d with
  | 0 => none
  | d + 1 => ab_bk kk q (ab_cl G z d y as h) nx ls st
theorem ab_ev_step (G : Nat → List Instr × Nat) (z : Bool) (d m pc : Nat) (ls : List (Option ab_V)) (st : List ab_V) (h : ab_H) : ab_ev G z d m pc ls st h = match ab_nth (G m).1 pc with
    | none => none
    | some i => ab_st (ab_clk G z d (ab_ev G z d m)) (ab_ev G z d m) (fun v h => some (v, h)) i (pc + 1) ls st h := by
  apply Option.ext
  intro r
  rw [ab_ev_iff]
  cases hi : ab_nth (G m).1 pc with
  | none =>
    constructor
    · rintro ⟨n, e⟩
      cases n with
      | zero => cases e
      | succ n =>
        rw [ab_run_eq] at e
        obtain ⟨i, o, hi', -⟩ := e
        rw [hi] at hi'
        cases hi'
    · intro e; cases e
  | some i =>
    dsimp only
    rw [ab_st_eq]
    constructor
    · rintro ⟨n, e⟩
      cases n with
      | zero => cases e
      | succ n =>
        rw [ab_run_eq] at e
        obtain ⟨i', o, hi', ho, e⟩ := e
        rw [hi] at hi'
        cases hi'
        rw [ho, Option.bind_some]
        match o, e with
        | .inl (nx, ls, st, h), e => exact ab_ev_iff.mpr ⟨n, e⟩
        | .inr (.inl (q, y, as, nx, ls, st, h)), e =>
          obtain ⟨d', hd, e9⟩ := e
          subst hd
          obtain ⟨v, h', st', hc, hk, -, hb⟩ := ab_bk_inv e9
          show ab_bk _ q (ab_cl G z d' y as h) nx ls st = some r
          have hc' : ab_cl G z d' y as h = some (v, h') := by
            unfold ab_cl
            rcases ab_cr_inv hc with ⟨f, hf, e1⟩ | ⟨hf, hb9, e1⟩
            · rw [hf]; exact e1
            · rw [hf]
              dsimp only
              rw [hb9]
              exact ab_ev_iff.mpr ⟨n, e1⟩
          rw [hc']
          exact hb _ (ab_ev_iff.mpr ⟨n, hk⟩)
        | .inr (.inr x), e => rw [e]; rfl
    · intro e
      cases ho : ab_one i (pc + 1) ls st h with
      | none => rw [ho] at e; cases e
      | some o =>
        rw [ho, Option.bind_some] at e
        match o, ho, e with
        | .inl (nx, ls1, st1, h1), ho, e =>
          obtain ⟨n, e⟩ := ab_ev_iff.mp e
          exact ⟨n + 1, (ab_run_eq _ _ _ _ _ _ _ _).mpr ⟨i, _, hi, ho, e⟩⟩
        | .inr (.inl (q, y, as, nx, ls1, st1, h1)), ho, e =>
          cases d with
          | zero => cases e
          | succ d =>
            obtain ⟨v, h', st', hc, hk, -, hb⟩ := ab_bk_inv (show ab_bk _ q (ab_cl G z d y as h1) nx ls1 st1 = some r from e)
            obtain ⟨n2, e2⟩ := ab_ev_iff.mp hk
            have hc' : ∃ n1, ∀ k, ab_cr G z (n1 + k) d y as h1 = some (v, h') := by
              rcases ab_cl_inv hc with ⟨f, hf, e1⟩ | ⟨hf, hb9, e1⟩
              · exact ⟨0, fun _ => ab_cr_of1 hf e1⟩
              · obtain ⟨n1, e2⟩ := ab_ev_iff.mp e1
                exact ⟨n1, fun k => ab_cr_of2 hf hb9 (ab_run_mono _ _ _ _ _ _ _ _ e2 k)⟩
            obtain ⟨n1, e1⟩ := hc'
            refine ⟨n1 + n2 + 1, (ab_run_eq _ _ _ _ _ _ _ _).mpr ⟨i, _, hi, ho, d, rfl, ?_⟩⟩
            rw [e1 n2]
            refine hb _ ?_
            have e3 := ab_run_mono _ _ _ _ _ _ _ _ e2 n1
            rw [Nat.add_comm] at e3
            exact e3
        | .inr (.inr x), ho, e => exact ⟨1, (ab_run_eq _ _ _ _ _ _ _ _).mpr ⟨i, _, hi, ho, (Option.some.inj e).symm⟩⟩
/-! ===== unfolding up to stops ===== -/
def ab_mem (n : Nat) : List Nat → Bool
  | [] => false
  | a :: l => match Nat.beq n a with
    | true => true
    | false => ab_mem n l
def ab_drop {α : Type} : Nat → List α → List α
  | 0, l => l
  | _ + 1, [] => []
  | n + 1, _ :: l => ab_drop n l
theorem ab_drop_nth {α : Type} : ∀ (n : Nat) (l : List α), ab_nth l n = (ab_drop n l).head? ∧ ∀ a r, ab_drop n l = a :: r → ab_drop (n + 1) l = r := by
  intro n
  induction n with
  | zero => intro l; cases l with
    | nil => exact ⟨rfl, fun _ _ e => by cases e⟩
    | cons a l => exact ⟨rfl, fun _ _ e => by cases e; rfl⟩
  | succ n ih => intro l; cases l with
    | nil => exact ⟨rfl, fun _ _ e => by cases e⟩
    | cons a l => exact ⟨(ih l).1, (ih l).2⟩
noncomputable def ab_ex (G : Nat → List Instr × Nat) (z : Bool) (S : List Nat) (m : Nat) : Nat → Nat → List Instr → Nat → List (Option ab_V) → List ab_V → ab_H → Option ab_R
  | 0, d, _, pc, ls, st, h => ab_ev G z d m pc ls st h
  | _ + 1, _, [], _, _, _, _ => none
  | k + 1, d, i :: cs, pc, ls, st, h =>
    ab_st (ab_clk G z d (fun nx ls st h => match ab_mem nx S with
      | true => ab_ev G z d m nx ls st h
      | false => match Nat.beq nx (pc + 1) with
        | true => ab_ex G z S m k d cs nx ls st h
        | false => ab_ex G z S m k d (ab_drop nx (G m).1) nx ls st h))
      (fun nx ls st h => match ab_mem nx S with
      | true => ab_ev G z d m nx ls st h
      | false => match Nat.beq nx (pc + 1) with
        | true => ab_ex G z S m k d cs nx ls st h
        | false => ab_ex G z S m k d (ab_drop nx (G m).1) nx ls st h) (fun v h => some (v, h)) i (pc + 1) ls st h
theorem ab_ex_eq (G : Nat → List Instr × Nat) (z : Bool) (S : List Nat) (m : Nat) : ∀ (k d : Nat) (cs : List Instr) (pc : Nat) (ls : List (Option ab_V)) (st : List ab_V) (h : ab_H), cs = ab_drop pc (G m).1 → ab_ev G z d m pc ls st h = ab_ex G z S m k d cs pc ls st h := by
  intro k
  induction k with
  | zero => intro d cs pc ls st h _; rfl
  | succ k ih =>
    intro d cs pc ls st h hcs
    obtain ⟨h1, h2⟩ := ab_drop_nth pc (G m).1
    rw [ab_ev_step, h1, ← hcs]
    cases cs with
    | nil => rfl
    | cons i cs =>
      have h3 := h2 i cs hcs.symm
      have hK : (fun (nx : Nat) (ls : List (Option ab_V)) (st : List ab_V) (h : ab_H) => match ab_mem nx S with
          | true => ab_ev G z d m nx ls st h
          | false => match Nat.beq nx (pc + 1) with
            | true => ab_ex G z S m k d cs nx ls st h
            | false => ab_ex G z S m k d (ab_drop nx (G m).1) nx ls st h) = ab_ev G z d m := by
        funext nx ls st h
        split
        · rfl
        · split
          · rename_i hb
            have hb := Nat.eq_of_beq_eq_true hb
            subst hb
            exact (ih d cs _ ls st h h3.symm).symm
          · exact (ih d _ _ ls st h rfl).symm
      show ab_st _ _ _ i (pc + 1) ls st h = ab_ex G z S m (k + 1) d (i :: cs) pc ls st h
      rw [ab_ex, hK]
theorem ab_ev_ex {G : Nat → List Instr × Nat} {z : Bool} {d m pc : Nat} {ls : List (Option ab_V)} {st : List ab_V} {h : ab_H} {X : Option ab_R} (S : List Nat) (k : Nat) (e : ab_ex G z S m k d (ab_drop pc (G m).1) pc ls st h = X) : ab_ev G z d m pc ls st h = X := (ab_ex_eq G z S m k d _ pc ls st h rfl).trans e
