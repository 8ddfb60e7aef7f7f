/-! ===== MEANING of heaps: D the classes' numbers, n0 the first address of ours, bf where a StringBuilder's bytes lie ===== -/
abbrev sd_G : Type := (Nat → ClassId) × (Nat → Nat → Nat) × (Nat → ClassId)
def sd_ty (dA : Nat → ClassId) : List (ClassId × FieldType) := [(dA 0, .int), (dA 1, .byte), (dA 2, .char), (dA 3, .boolean), (dA 4, .long), (dA 5, .object "TreeShell$Level"), (dA 6, .object "TreeShell$Mark"), (dA 7, .object "TreeShell$Tool")]
abbrev sd_K (D : sd_G) (U : State) : Prop := va_K (D.1, D.2.1) sd_cl (sd_ty D.2.2) U
def sd_rk (c : Nat) : Nat := match c with
  | 4 => 5
  | 9 => 6
  | _ => 7
def sd_A (n0 : Nat) : Nat → Prop := fun q => n0 ≤ q
def sd_sbv (q n : Nat) (x : Int32) : Nat → Value := vp_V [.ref q, .int 0, .int x, .int (nI n)]
def sd_cell (D : sd_G) (n0 : Nat) (bf : Nat → Nat) (U : State) (H : Heap) (a : Nat) : ab_C → Prop
  | .inl (k, n, f) => (a < n0 ∧ va_T (ab_ty k) a n (fun j => .int (f j)) (sd_A n0) U H) ∨ (n0 ≤ a ∧ k < 4 ∧ H[a]? = some (arrV (D.2.2 k) n (fun j => .int (f j))) ∧ ∀ i, fits (ab_ty k) (.int (f i)) = true)
  | .inr (.inl (n, f)) => n0 ≤ a ∧ H[a]? = some (arrV (D.2.2 4) n (fun j => .long (f j)))
  | .inr (.inr (.inl (k, n, f))) => (a < n0 ∧ k = 10 ∧ ∃ cell : Cell, H[a]? = some cell ∧ cell.cls = D.2.2 7 ∧ cell.vm ≠ .unknown ∧ (∀ q, cell.vm ≠ .statics q) ∧ cell.slots.size = n ∧ ∀ j, j < n → cell.slots[j]? = some (va_rf (f j))) ∨ (n0 ≤ a ∧ (k = 4 ∨ k = 9 ∨ k = 10) ∧ H[a]? = some (arrV (D.2.2 (sd_rk k)) n (fun j => va_rf (f j))))
  | .inr (.inr (.inr (.inl (k, fs)))) => (a < n0 ∧ 9 ≤ k ∧ k < 12 ∧ va_O (sd_nm k) a (sd_A n0) U H ∧ ∀ j, j < sd_nf k → va_OF (sd_fn k j).1 (sd_fn k j).2.1 (sd_fn k j).2.2 (sd_v (fs j)) a (sd_A n0) U H) ∨ (n0 ≤ a ∧ k < 9 ∧ t_OB a (D.1 k) (sd_nf k) (D.2.1 k) H (fun j => sd_v (fs j)))
  | .inr (.inr (.inr (.inr (m, n, t)))) => n0 ≤ a ∧ n0 ≤ bf a ∧ n ≤ m ∧ (∃ x : Int32, t_OB a (D.1 8) 4 (D.2.1 8) H (sd_sbv (bf a) n x)) ∧ ∃ f : Nat → Int32, H[bf a]? = some (arrV (D.2.2 1) m (fun j => .int (f j))) ∧ (∀ i, fits .byte (.int (f i)) = true) ∧ ∀ i, i < n → 0 ≤ (t i).toInt ∧ (t i).toInt < 256 ∧ f i = (t i).toInt8.toInt32
def sd_isB (h : ab_H) (a : Nat) : Prop := ∃ m n t, ab_ce h a = some (ab_cB m n t)
def sd_rep (D : sd_G) (n0 : Nat) (bf : Nat → Nat) (U : State) (h : ab_H) (H : Heap) : Prop :=
  ab_n0 h = n0 ∧ H.size = ab_sz h ∧ n0 ≤ H.size ∧ (∀ a c, ab_ce h a = some c → sd_cell D n0 bf U H a c) ∧ (∀ a, sd_isB h a → ab_ce h (bf a) = none) ∧ ∀ a b, sd_isB h a → sd_isB h b → bf a = bf b → a = b
/-- the cells that the heap speaks of -/
def sd_own (h : ab_H) (bf : Nat → Nat) (q : Nat) : Prop := (∃ c, ab_ce h q = some c) ∨ ∃ a, sd_isB h a ∧ bf a = q
theorem sd_cell.moved {D : sd_G} {n0 : Nat} {bf : Nat → Nat} {u U : State} {H : Heap} {a : Nat} {c : ab_C} (hvm : u.vm.Alike U.vm) (h : sd_cell D n0 bf u H a c) : sd_cell D n0 bf U H a c := by
  match c, h with
  | .inl (k, n, f), h => exact h.imp (fun ⟨h1, h2⟩ => ⟨h1, h2.moved hvm⟩) id
  | .inr (.inl (n, f)), h => exact h
  | .inr (.inr (.inl (k, n, f))), h => exact h
  | .inr (.inr (.inr (.inl (k, fs)))), h => exact h.imp (fun ⟨h1, h2, h3, h4, h5⟩ => ⟨h1, h2, h3, h4.moved hvm, fun j hj => (h5 j hj).moved hvm⟩) id
  | .inr (.inr (.inr (.inr (m, n, t)))), h => exact h
theorem sd_rep.moved {D : sd_G} {n0 : Nat} {bf : Nat → Nat} {u U : State} {h : ab_H} {H : Heap} (hvm : u.vm.Alike U.vm) (r : sd_rep D n0 bf u h H) : sd_rep D n0 bf U h H :=
  ⟨r.1, r.2.1, r.2.2.1, fun a c e => (r.2.2.2.1 a c e).moved hvm, r.2.2.2.2⟩
/-- a cell stays when its places stay -/
theorem sd_cell.kept {D : sd_G} {n0 : Nat} {bf bf' : Nat → Nat} {U : State} {H H1 : Heap} {a : Nat} {c : ab_C} (h : sd_cell D n0 bf U H a c) (hlow : ∀ q : Nat, q < n0 → H1[q]? = H[q]?) (ha : H1[a]? = H[a]?) (hb : (∃ m n t, c = ab_cB m n t) → bf' a = bf a ∧ H1[bf a]? = H[bf a]?) : sd_cell D n0 bf' U H1 a c := by
  have hA : ∀ q : Nat, q < H.size → ¬ sd_A n0 q → H1[q]? = H[q]? := fun q _ h2 => hlow q (Nat.lt_of_not_le h2)
  match c, h, hb with
  | .inl (k, n, f), h, _ =>
    rcases h with ⟨h1, h2⟩ | ⟨h1, h2, h3, h4⟩
    · exact Or.inl ⟨h1, h2.kept hA⟩
    · exact Or.inr ⟨h1, h2, ha.trans h3, h4⟩
  | .inr (.inl (n, f)), h, _ => exact ⟨h.1, ha.trans h.2⟩
  | .inr (.inr (.inl (k, n, f))), h, _ =>
    rcases h with ⟨h1, h2, cell, h3, h4⟩ | ⟨h1, h2, h3⟩
    · exact Or.inl ⟨h1, h2, cell, ha.trans h3, h4⟩
    · exact Or.inr ⟨h1, h2, ha.trans h3⟩
  | .inr (.inr (.inr (.inl (k, fs)))), h, _ =>
    rcases h with ⟨h1, h2, h3, h4, h5⟩ | ⟨h1, h2, h3⟩
    · exact Or.inl ⟨h1, h2, h3, h4.kept hA, fun j hj => (h5 j hj).kept hA⟩
    · exact Or.inr ⟨h1, h2, h3.kept ha⟩
  | .inr (.inr (.inr (.inr (m, n, t)))), h, hb =>
    obtain ⟨h1, h2, h3, ⟨x, h4⟩, f, h5, h6⟩ := h
    obtain ⟨e1, e2⟩ := hb ⟨m, n, t, rfl⟩
    refine ⟨h1, by rw [e1]; exact h2, h3, ⟨x, ?_⟩, f, by rw [e1]; exact e2.trans h5, h6⟩
    rw [e1]
    exact h4.kept ha
theorem sd_cell.lt {D : sd_G} {n0 : Nat} {bf : Nat → Nat} {U : State} {H : Heap} {a : Nat} {c : ab_C} (h : sd_cell D n0 bf U H a c) : a < H.size := by
  have lt : ∀ {cell : Cell}, H[a]? = some cell → a < H.size := fun e => (Array.getElem?_eq_some_iff.mp e).1
  match c, h with
  | .inl (k, n, f), h =>
    rcases h with ⟨h1, cell, h2, -⟩ | ⟨h1, h2, h3, h4⟩
    · exact lt h2
    · exact lt h3
  | .inr (.inl (n, f)), h => exact lt h.2
  | .inr (.inr (.inl (k, n, f))), h =>
    rcases h with ⟨h1, h2, cell, h3, h4⟩ | ⟨h1, h2, h3⟩
    · exact lt h3
    · exact lt h3
  | .inr (.inr (.inr (.inl (k, fs)))), h =>
    rcases h with ⟨h1, h2, h3, ⟨cell, h4, -⟩, h5⟩ | ⟨h1, h2, cell, h3, -⟩
    · exact lt h4
    · exact lt h3
  | .inr (.inr (.inr (.inr (m, n, t)))), h =>
    obtain ⟨h1, h2, h3, ⟨x, cell, h4, -⟩, -⟩ := h
    exact lt h4
theorem sd_rep.own_lt {D : sd_G} {n0 : Nat} {bf : Nat → Nat} {U : State} {h : ab_H} {H : Heap} (r : sd_rep D n0 bf U h H) {q : Nat} (o : sd_own h bf q) : q < H.size := by
  rcases o with ⟨c, e⟩ | ⟨a, ⟨m, n, t, e⟩, rfl⟩
  · exact (r.2.2.2.1 q c e).lt
  · obtain ⟨-, -, -, -, f, h5, -⟩ := r.2.2.2.1 a _ e
    exact (Array.getElem?_eq_some_iff.mp h5).1
theorem ab_ce_put (h : ab_H) (a : Nat) (c : ab_C) (q : Nat) : ab_ce (ab_put h a c) q = if q = a then some c else ab_ce h q := rfl
theorem ab_ce_mk (h : ab_H) (c : ab_C) (n q : Nat) : ab_ce (ab_mk h c n) q = if q = ab_sz h then some c else ab_ce h q := rfl
/-- a cell of ours, no StringBuilder, gets another content that is no StringBuilder -/
theorem sd_rep.put {D : sd_G} {n0 : Nat} {bf : Nat → Nat} {U : State} {h : ab_H} {H H1 : Heap} {a : Nat} {c c' : ab_C} (r : sd_rep D n0 bf U h H) (hc : ab_ce h a = some c) (hn : n0 ≤ a) (hB : ¬ ∃ m n t, c = ab_cB m n t) (hB' : ¬ ∃ m n t, c' = ab_cB m n t)
    (z : H1.size = H.size) (o : ∀ q : Nat, q ≠ a → H1[q]? = H[q]?) (k : sd_cell D n0 bf U H1 a c') : sd_rep D n0 bf U (ab_put h a c') H1 ∧ ∀ q, sd_own (ab_put h a c') bf q → sd_own h bf q := by
  obtain ⟨r1, r2, r3, r4, r5, r6⟩ := r
  have isB : ∀ p, sd_isB (ab_put h a c') p → p ≠ a ∧ sd_isB h p := by
    rintro p ⟨m, n, t, e⟩
    rw [ab_ce_put] at e
    by_cases hp : p = a
    · rw [if_pos hp] at e
      exact absurd ⟨m, n, t, Option.some.inj e⟩ hB'
    · rw [if_neg hp] at e
      exact ⟨hp, m, n, t, e⟩
  have hbf : ∀ p, sd_isB h p → bf p ≠ a := fun p hp e => by
    have := r5 p hp
    rw [e, hc] at this
    cases this
  refine ⟨⟨r1, z.trans r2, by rw [z]; exact r3, fun q d e => ?_, fun p hp => ?_, fun p q hp hq e => r6 p q (isB p hp).2 (isB q hq).2 e⟩, fun q hq => ?_⟩
  · rw [ab_ce_put] at e
    by_cases hq : q = a
    · rw [if_pos hq] at e
      cases e
      rw [hq]
      exact k
    · rw [if_neg hq] at e
      refine (r4 q d e).kept (fun x hx => o x (by omega)) (o q hq) (fun ⟨m, n, t, hd⟩ => ⟨rfl, o _ (hbf q ⟨m, n, t, by rw [← hd]; exact e⟩)⟩)
  · rw [ab_ce_put, if_neg (hbf p (isB p hp).2)]
    exact r5 p (isB p hp).2
  · rcases hq with ⟨d, e⟩ | ⟨p, hp, e⟩
    · rw [ab_ce_put] at e
      by_cases hq : q = a
      · exact Or.inl ⟨c, by rw [hq]; exact hc⟩
      · rw [if_neg hq] at e
        exact Or.inl ⟨d, e⟩
    · exact Or.inr ⟨p, (isB p hp).2, e⟩
/-- a new cell, no StringBuilder -/
theorem sd_rep.new {D : sd_G} {n0 : Nat} {bf : Nat → Nat} {U : State} {h : ab_H} {H H1 : Heap} {c : ab_C} {k : Nat} (r : sd_rep D n0 bf U h H) (hB : ¬ ∃ m n t, c = ab_cB m n t)
    (z : H1.size = H.size + 1) (o : ∀ q : Nat, q < H.size → H1[q]? = H[q]?) (kc : sd_cell D n0 bf U H1 H.size c) : sd_rep D n0 bf U (ab_mk h c k) H1 ∧ ∀ q, sd_own (ab_mk h c k) bf q → q < H.size → sd_own h bf q := by
  have hr := r
  obtain ⟨r1, r2, r3, r4, r5, r6⟩ := r
  have isB : ∀ p, sd_isB (ab_mk h c k) p → p ≠ ab_sz h ∧ sd_isB h p := by
    rintro p ⟨m, n, t, e⟩
    rw [ab_ce_mk] at e
    by_cases hp : p = ab_sz h
    · rw [if_pos hp] at e
      exact absurd ⟨m, n, t, Option.some.inj e⟩ hB
    · rw [if_neg hp] at e
      exact ⟨hp, m, n, t, e⟩
  refine ⟨⟨r1, by rw [z, r2]; rfl, by omega, fun q d e => ?_, fun p hp => ?_, fun p q hp hq e => r6 p q (isB p hp).2 (isB q hq).2 e⟩, fun q hq hlt => ?_⟩
  · rw [ab_ce_mk] at e
    by_cases hq : q = ab_sz h
    · rw [if_pos hq] at e
      cases e
      rw [hq, ← r2]
      exact kc
    · rw [if_neg hq] at e
      have hl := (r4 q d e).lt
      refine (r4 q d e).kept (fun x hx => o x (by omega)) (o q hl) (fun ⟨m, n, t, hd⟩ => ⟨rfl, o _ (hr.own_lt (Or.inr ⟨q, ⟨m, n, t, by rw [← hd]; exact e⟩, rfl⟩))⟩)
  · have hp2 := (isB p hp).2
    have hl := hr.own_lt (Or.inr ⟨p, hp2, rfl⟩)
    rw [ab_ce_mk, if_neg (by omega)]
    exact r5 p hp2
  · rcases hq with ⟨d, e⟩ | ⟨p, hp, e⟩
    · rw [ab_ce_mk, if_neg (by omega)] at e
      exact Or.inl ⟨d, e⟩
    · exact Or.inr ⟨p, (isB p hp).2, e⟩
/-- what the start gives of constants -/
def sd_con (n0 : Nat) (ga : Nat → Nat) (U : State) (H : Heap) : Prop :=
  (∀ k ∈ sd_sts, va_Z (sd_st k).1 (sd_st k).2.1 (sd_st k).2.2 (.ref (ga k)) (sd_A n0) U H) ∧ va_Z "java/lang/String" "COMPACT_STRINGS" "Z" (.int 1) (sd_A n0) U H ∧ (∀ k, 40 ≤ k → k < 43 → vk_R (sd_sr k).1 (sd_sr k).2.1 (sd_sr k).2.2 (ga k) U) ∧
  va_Z (sd_st 33).1 (sd_st 33).2.1 (sd_st 33).2.2 (va_rf (match ga 33 with
    | 0 => none
    | a + 1 => some a)) (sd_A n0) U H ∧ va_Nc "TreeShell$Dir" "TreeShell$Doc" U ∧ va_Nc "TreeShell$Doc" "TreeShell$Dir" U ∧ ∀ w ∈ lw_nl, va_Nw w U
theorem sd_nw : ∀ w ∈ lw_nl, ∀ {s U : State}, s.WarmedH U.vm → va_Nw w s → va_Nw w U := by
  intro w hw s U hW h
  simp only [lw_nl, List.mem_cons, List.not_mem_nil, or_false] at hw
  rcases hw with rfl | rfl | rfl | rfl | rfl | rfl | rfl | rfl | rfl | rfl | rfl | rfl | rfl | rfl | rfl <;> first
    | exact va_Nw.warmF hW h
    | exact va_Nw.warmM hW h
    | exact va_AO.moved hW.alike h
    | exact va_tabs rfl (rfl : (s.setVm U.vm).vm = U.vm) (Cond.before_shiftedFace (State.Shifted.of_warmed hW) _ rfl h)
theorem sd_nuse : ∀ w ∈ lw_nl, ∀ {s : State} {A : Array Value}, va_Nw w s → w.before A s = true := by
  intro w hw s A h
  simp only [lw_nl, List.mem_cons, List.not_mem_nil, or_false] at hw
  rcases hw with rfl | rfl | rfl | rfl | rfl | rfl | rfl | rfl | rfl | rfl | rfl | rfl | rfl | rfl | rfl <;> first
    | exact va_Nw.use rfl h
    | exact h
theorem sd_nof : ∀ w ∈ lw_nl, ∀ {s : State} {A : Array Value}, w.before A s = true → va_Nw w s := by
  intro w hw s A h
  simp only [lw_nl, List.mem_cons, List.not_mem_nil, or_false] at hw
  rcases hw with rfl | rfl | rfl | rfl | rfl | rfl | rfl | rfl | rfl | rfl | rfl | rfl | rfl | rfl | rfl <;> first
    | exact va_Nw.of rfl h
    | exact h
theorem sd_con.go {n0 : Nat} {ga : Nat → Nat} {u U : State} {H H1 : Heap} (hW : u.WarmedH U.vm) (h : sd_con n0 ga u H) (hn : n0 ≤ H.size) (hlow : ∀ q : Nat, q < n0 → H1[q]? = H[q]?) : sd_con n0 ga U H1 := by
  have hA : ∀ q : Nat, q < H.size → ¬ sd_A n0 q → H1[q]? = H[q]? := fun q _ h2 => hlow q (Nat.lt_of_not_le h2)
  exact ⟨fun k hk => ((h.1 k hk).moved hW.alike).kept hA, (h.2.1.moved hW.alike).kept hA, fun k h1 h2 => (h.2.2.1 k h1 h2).warm hW, (h.2.2.2.1.moved hW.alike).kept hA, h.2.2.2.2.1.moved hW.alike, h.2.2.2.2.2.1.moved hW.alike, fun w hw => sd_nw w hw hW (h.2.2.2.2.2.2 w hw)⟩
