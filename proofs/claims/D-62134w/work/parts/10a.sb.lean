/-! ===== StringBuilder's members as the JDK's code (z = false), over two cells: the object at p, its bytes at q ===== -/
theorem qb_c0s (h : ab_H) : ab_c0 (some (none, h)) = some h := rfl
theorem qb_c1s (x : Int32) (h : ab_H) : ab_c1 (some (some (.inl x), h)) = some (x, h) := rfl
theorem qb_c2s (x : Int64) (h : ab_H) : ab_c2 (some (some (.inr (.inl x)), h)) = some (x, h) := rfl
theorem qb_c3s (x : Option Nat) (h : ab_H) : ab_c3 (some (some (.inr (.inr x)), h)) = some (x, h) := rfl
def qb_f (q n : Nat) (x : Int32) : Nat → ab_V := fun j => match j with
  | 0 => .inr (.inr (some q))
  | 1 => .inl 0
  | 2 => .inl x
  | 3 => .inl (nI n)
  | _ => .inl 0
def qb_h (G : Nat × (Nat → Nat)) (sz sl : Nat) (B : Nat → Option ab_C) (p q m n : Nat) (x : Int32) (f : Nat → Int32) : ab_H := (G, sz, sl, fun a => if a = p then some (ab_cO 8 (qb_f q n x)) else if a = q then some (ab_cI 1 m f) else B a)
/-- what ensureCapacityInternal(k) makes of it -/
def qb_R (k : Nat) (B : Nat → Option ab_C) (q m : Nat) (f : Nat → Int32) (sz sl : Nat) (B' : Nat → Option ab_C) (q' m' : Nat) (f' : Nat → Int32) (sz' sl' : Nat) : Prop :=
  (k ≤ m ∧ B' = B ∧ q' = q ∧ m' = m ∧ f' = f ∧ sz' = sz ∧ sl' = sl) ∨ (m < k ∧ B' = ab_up B q (some (ab_cI 1 m f)) ∧ q' = sz ∧ m' = ab_bcap k m ∧ f' = va_cpy f (fun _ => 0) 0 0 m ∧ sz' = sz + 1 ∧ sl' = sl + ab_bcap k m)
section
variable {G : Nat × (Nat → Nat)} {sz sl : Nat} {B : Nat → Option ab_C} {p q m n : Nat} {x : Int32} {f : Nat → Int32}
theorem qb_cp : ab_ce (qb_h G sz sl B p q m n x f) p = some (ab_cO 8 (qb_f q n x)) := by unfold ab_ce qb_h; exact if_pos rfl
theorem qb_cq (hpq : q ≠ p) : ab_ce (qb_h G sz sl B p q m n x f) q = some (ab_cI 1 m f) := by unfold ab_ce qb_h; dsimp only; rw [if_neg hpq, if_pos rfl]
theorem qb_co {a : Nat} (h1 : a ≠ p) (h2 : a ≠ q) : ab_ce (qb_h G sz sl B p q m n x f) a = B a := by unfold ab_ce qb_h; dsimp only; rw [if_neg h1, if_neg h2]
theorem qb_fR : ab_fR (qb_h G sz sl B p q m n x f) p 800 = some (some q) := by unfold ab_fR ab_fd; rw [qb_cp]; rfl
theorem qb_fc : ab_fI (qb_h G sz sl B p q m n x f) p 801 = some 0 := by unfold ab_fI ab_fd; rw [qb_cp]; rfl
theorem qb_fn : ab_fI (qb_h G sz sl B p q m n x f) p 803 = some (nI n) := by unfold ab_fI ab_fd; rw [qb_cp]; rfl
theorem qb_isc : ab_isc (qb_h G sz sl B p q m n x f) p 8 = true := by unfold ab_isc ab_cls; rw [qb_cp]; rfl
theorem qb_len (hpq : q ≠ p) : ab_len (qb_h G sz sl B p q m n x f) q = some (nI m) := by unfold ab_len; rw [qb_cq hpq]; rfl
theorem qb_ext {h : ab_H} (h1 : h.1 = G) (h2 : h.2.1 = sz) (h3 : h.2.2.1 = sl) (h4 : ∀ a, h.2.2.2 a = if a = p then some (ab_cO 8 (qb_f q n x)) else if a = q then some (ab_cI 1 m f) else B a) : h = qb_h G sz sl B p q m n x f := by
  obtain ⟨a, b, c, d⟩ := h
  dsimp only at h1 h2 h3 h4
  subst h1 h2 h3
  unfold qb_h
  congr 3
  funext a
  exact h4 a
theorem qb_pn (hp : G.1 ≤ p) (k : Nat) : ab_pf (qb_h G sz sl B p q m n x f) p 803 (.inl (nI k)) = some (qb_h G sz sl B p q m k x f) := by
  have e : ab_up (qb_f q n x) 3 (.inl (nI k)) = qb_f q k x := by
    funext j
    match j with
    | 0 => rfl
    | 1 => rfl
    | 2 => rfl
    | 3 => rfl
    | j + 4 => rfl
  unfold ab_pf
  rw [qb_cp]
  dsimp only
  rw [if_pos ⟨rfl, hp, rfl⟩]
  congr 1
  refine qb_ext rfl rfl rfl (fun a => ?_)
  show ab_up _ p _ a = _
  unfold ab_up
  split
  · rw [← e]; rfl
  · rename_i h1
    unfold qb_h
    dsimp only
    rw [if_neg h1]
theorem qb_pm (hp : G.1 ≤ p) (y : Int32) : ab_pf (qb_h G sz sl B p q m n x f) p 802 (.inl y) = some (qb_h G sz sl B p q m n y f) := by
  have e : ab_up (qb_f q n x) 2 (.inl y) = qb_f q n y := by
    funext j
    match j with
    | 0 => rfl
    | 1 => rfl
    | 2 => rfl
    | 3 => rfl
    | j + 4 => rfl
  unfold ab_pf
  rw [qb_cp]
  dsimp only
  rw [if_pos ⟨rfl, hp, rfl⟩]
  congr 1
  refine qb_ext rfl rfl rfl (fun a => ?_)
  show ab_up _ p _ a = _
  unfold ab_up
  split
  · rw [← e]; rfl
  · rename_i h1
    unfold qb_h
    dsimp only
    rw [if_neg h1]
/-- the bytes' place is changed to that of a cell of B -/
theorem qb_pr (hp : G.1 ≤ p) (hpq : q ≠ p) {r k : Nat} {g : Nat → Int32} (hr : r ≠ p) (hr2 : r ≠ q) : ab_pf (qb_h G sz sl (ab_up B r (some (ab_cI 1 k g))) p q m n x f) p 800 (.inr (.inr (some r))) = some (qb_h G sz sl (ab_up B q (some (ab_cI 1 m f))) p r k n x g) := by
  have e : ab_up (qb_f q n x) 0 (.inr (.inr (some r))) = qb_f r n x := by
    funext j
    match j with
    | 0 => rfl
    | 1 => rfl
    | 2 => rfl
    | 3 => rfl
    | j + 4 => rfl
  unfold ab_pf
  rw [qb_cp]
  dsimp only
  rw [if_pos ⟨rfl, hp, rfl⟩]
  congr 1
  refine qb_ext rfl rfl rfl (fun a => ?_)
  show ab_up _ p _ a = _
  unfold ab_up
  by_cases h1 : a = p
  · rw [if_pos h1, if_pos h1, ← e]; rfl
  · rw [if_neg h1, if_neg h1]
    unfold qb_h
    dsimp only
    rw [if_neg h1]
    by_cases h2 : a = q
    · subst h2
      rw [if_pos rfl, if_neg (fun q => hr2 q.symm), if_pos rfl]
    · rw [if_neg h2]
      by_cases h3 : a = r
      · rw [if_pos h3, if_pos h3]
      · rw [if_neg h3, if_neg h3, if_neg h2]
theorem qb_ind {k N : Nat} (h : k < N) (hN : N < 2 ^ 31) : ab_in (nI k) N = true := by
  unfold ab_in
  rw [nI_toInt (by omega), Bool.and_eq_true, decide_eq_true_eq, decide_eq_true_eq]
  omega
theorem qb_st (hq : G.1 ≤ q) (hpq : q ≠ p) {k : Nat} (hk : k < m) (hm : m < 2 ^ 31) (c : Int32) : ab_sI 1 (qb_h G sz sl B p q m n x f) q (nI k) c = some (qb_h G sz sl B p q m n x (ab_up f k c.toInt8.toInt32)) := by
  unfold ab_sI
  rw [qb_cq hpq]
  dsimp only
  rw [if_pos ⟨rfl, qb_ind hk hm, hq⟩, nI_clamp (by omega)]
  congr 1
  refine qb_ext rfl rfl rfl (fun a => ?_)
  show ab_up _ q _ a = _
  unfold ab_up
  by_cases h1 : a = q
  · subst h1
    rw [if_pos rfl, if_neg hpq, if_pos rfl]
    rfl
  · rw [if_neg h1]
    unfold qb_h
    dsimp only
    rw [if_neg h1, if_neg h1]
theorem qb_mk (h1 : sz ≠ p) (h2 : sz ≠ q) (c : ab_C) (k : Nat) : ab_mk (qb_h G sz sl B p q m n x f) c k = qb_h G (sz + 1) (sl + k) (ab_up B sz (some c)) p q m n x f := by
  refine qb_ext rfl rfl rfl (fun a => ?_)
  show ab_up (qb_h G sz sl B p q m n x f).2.2.2 sz _ a = _
  unfold ab_up qb_h
  dsimp only
  by_cases h3 : a = sz
  · rw [if_pos h3, if_pos h3, if_neg (by omega), if_neg (by omega)]
  · rw [if_neg h3, if_neg h3]
theorem qb_put {r : Nat} (h1 : r ≠ p) (h2 : r ≠ q) (o : Option ab_C) (c : ab_C) : ab_put (qb_h G sz sl (ab_up B r o) p q m n x f) r c = qb_h G sz sl (ab_up B r (some c)) p q m n x f := by
  refine qb_ext rfl rfl rfl (fun a => ?_)
  show ab_up _ r _ a = _
  unfold ab_up qb_h
  dsimp only
  by_cases h3 : a = r
  · rw [if_pos h3, if_pos h3, if_neg (by omega), if_neg (by omega)]
  · rw [if_neg h3, if_neg h3, if_neg h3]
theorem qb_46 (d : Nat) : ab_cl gG false d 46 [.inr (.inr (some p))] (qb_h G sz sl B p q m n x f) = some (some (.inl 1), qb_h G sz sl B p q m n x f) := by
  rw [ent_46, bl_46_0, qb_fc]
  rfl
theorem qb_47 (d : Nat) (h : ab_H) {c : Int32} (hc : c.toInt < 256) : ab_cl gG false d 47 [.inl c] h = some (some (.inl 1), h) := by
  rw [ent_47, bl_47_0, if_neg]
  rw [Int32.lt_iff_toInt_lt]
  have : (255 : Int32).toInt = 255 := by decide
  omega
theorem qb_78 (d : Nat) {a b c : Nat} (ha : a ≤ 65536) (hb : b ≤ 65536) (hc : c ≤ 70000) (h0 : 0 < b) (h : ab_H) : ab_cl gG false (d + 1) 78 [.inl (nI a), .inl (nI b), .inl (nI c)] h = some (some (.inl (nI (a + (if b < c then c else b)))), h) := by
  rw [ent_78, bl_78_0]
  have e : ab_c1 (ab_cl gG false d 10 [.inl (nI b), .inl (nI c)] h) = some (nI (if b < c then c else b), h) := by
    show some ((if nI b < nI c then nI c else nI b), h) = _
    by_cases hbc : b < c
    · rw [if_pos hbc, if_pos (nI_lt hbc (by omega))]
    · rw [if_neg hbc, if_neg (nI_nlt (by omega) (by omega))]
  rw [e, Option.bind_some]
  dsimp only
  have h3 : (if b < c then c else b) ≤ 70000 := by split <;> omega
  have h4 : 0 < (if b < c then c else b) := by split <;> omega
  have h5 : (2147483639 : Int32).toInt = 2147483639 := by decide
  rw [nI_add, if_pos (show (0 : Int32) < _ from by rw [← nI_0]; exact nI_lt (by omega) (by omega)), if_neg]
  rw [Int32.lt_iff_toInt_lt, nI_toInt (by omega)]
  omega
theorem qb_63 (d : Nat) (hpq : q ≠ p) {k : Nat} (hk : k ≤ 30010) (hmk : m < k) : ab_cl gG false (d + 2) 63 [.inr (.inr (some p)), .inl (nI k)] (qb_h G sz sl B p q m n x f) = some (some (.inl (nI (ab_bcap k m))), qb_h G sz sl B p q m n x f) := by
  rw [ent_63, bl_63_0, qb_fR, Option.bind_some, Option.bind_some, qb_len hpq, Option.bind_some, qb_fc, Option.bind_some, Option.bind_some, sb_shl0, sb_shl0, pk_sub (by omega)]
  have e2 : nI m + 2 = nI (m + 2) := nI_add m 2
  rw [e2, qb_78 d (by omega) (by omega) (by omega) (by omega)]
  have e3 : m + (if k - m < m + 2 then m + 2 else k - m) = ab_bcap k m := by
    unfold ab_bcap
    rw [if_neg (show ¬ k ≤ m by omega)]
    by_cases hh : k - m < m + 2
    · simp only [if_pos hh]
    · simp only [if_neg hh]; omega
  rw [e3]
  show (if nI (ab_bcap k m) = 2147483647 then none else _) = _
  have h3 : ab_bcap k m ≤ 70000 := by rw [← e3]; split <;> omega
  have h5 : (2147483647 : Int32).toInt = 2147483647 := by decide
  rw [if_neg (fun q9 => by have := congrArg Int32.toInt q9; rw [nI_toInt (by omega), h5] at this; omega), qb_fc, Option.bind_some, sb_shr0]
theorem qb_c1 (d : Nat) (as : List ab_V) (h : ab_H) : ab_cl gG false d 1 as h = ab_copy as h := rfl
theorem qb_64 (d : Nat) (hq : G.1 ≤ q) (hs0 : G.1 ≤ sz) (hpq : q ≠ p) (h1 : sz ≠ p) (h2 : sz ≠ q) {k : Nat} (hmk : m < k) (hk : k ≤ 65536) : ab_cl gG false (d + 1) 64 [.inr (.inr (some q)), .inl (nI k)] (qb_h G sz sl B p q m n x f) = some (some (.inr (.inr (some sz))), qb_h G (sz + 1) (sl + k) (ab_up B sz (some (ab_cI 1 k (va_cpy f (fun _ => 0) 0 0 m)))) p q m n x f) := by
  rw [ent_64, bl_64_0, Option.bind_some, qb_len hpq, Option.bind_some, if_neg (fun e => by have := (nI_eq (by omega) (by omega)).mp e; omega)]
  have h6 : (65536 : Int32) = nI 65536 := rfl
  rw [if_neg (fun e => by
    rcases e with e | e
    · exact nI_pos (show k < 2 ^ 31 by omega) e
    · rw [h6] at e; exact nI_nlt (show k ≤ 65536 by omega) (by omega) e)]
  rw [Option.bind_some, nI_clamp (by omega), qb_mk h1 h2, qb_len hpq, Option.bind_some]
  have e1 : ab_c1 (ab_cl gG false d 9 [.inl (nI m), .inl (nI k)] (qb_h G (sz + 1) (sl + k) (ab_up B sz (some (ab_cI 1 k (fun _ => 0)))) p q m n x f)) = some (nI m, qb_h G (sz + 1) (sl + k) (ab_up B sz (some (ab_cI 1 k (fun _ => 0)))) p q m n x f) := by
    show some ((if nI k < nI m then nI k else nI m), _) = _
    rw [if_neg (nI_nlt (by omega) (by omega))]
  rw [e1, Option.bind_some]
  dsimp only
  have e2 : ab_cl gG false d 1 [.inr (.inr (some q)), .inl (0 : Int32), .inr (.inr (some sz)), .inl (0 : Int32), .inl (nI m)] (qb_h G (sz + 1) (sl + k) (ab_up B sz (some (ab_cI 1 k (fun _ => 0)))) p q m n x f) = some (none, qb_h G (sz + 1) (sl + k) (ab_up B sz (some (ab_cI 1 k (va_cpy f (fun _ => 0) 0 0 m)))) p q m n x f) := by
    rw [qb_c1]
    have e3 : ab_up B sz (some (ab_cI 1 k (fun _ => 0))) sz = some (ab_cI 1 k (fun _ => 0)) := if_pos rfl
    simp only [ab_copy, qb_cq hpq, qb_co h1 h2, e3]
    rw [nI_toInt (show m < 2 ^ 31 by omega), Int32.toInt_zero, sb_cl0, nI_clamp (by omega), if_pos ⟨fun e => h2 e.symm, by omega, by omega, by omega, by omega, by omega, hs0, hq⟩, qb_put h1 h2]
  show (ab_c0 (ab_cl gG false d 1 [.inr (.inr (some q)), .inl (0 : Int32), .inr (.inr (some sz)), .inl (0 : Int32), .inl (nI m)] _)).bind _ = _
  rw [e2]
  rfl
theorem qb_45 (d : Nat) (hp : G.1 ≤ p) (hq : G.1 ≤ q) (hpq : q ≠ p) (h1 : p < sz) (h2 : q < sz) {k : Nat} (hk : k ≤ 30010) (hm : m ≤ 65536) : ∃ B' q' m' f' sz' sl', qb_R k B q m f sz sl B' q' m' f' sz' sl' ∧ q' ≠ p ∧ G.1 ≤ q' ∧ k ≤ m' ∧ m' ≤ 65536 ∧ (∀ j, j < m → f' j = f j) ∧
    ab_cl gG false (d + 3) 45 [.inr (.inr (some p)), .inl (nI k)] (qb_h G sz sl B p q m n x f) = some (none, qb_h G sz' sl' B' p q' m' n x f') := by
  by_cases hkm : k ≤ m
  · refine ⟨B, q, m, f, sz, sl, Or.inl ⟨hkm, rfl, rfl, rfl, rfl, rfl, rfl⟩, hpq, hq, hkm, hm, fun _ _ => rfl, ?_⟩
    rw [ent_45, bl_45_0, qb_fR, Option.bind_some, Option.bind_some, qb_len hpq, Option.bind_some, qb_fc, Option.bind_some, sb_shr0, if_neg]
    rw [Int32.lt_iff_toInt_lt, pk_sub_toInt (by omega) (by omega), Int32.toInt_zero]
    omega
  · have hc : ab_bcap k m = m + (if k - m < m + 2 then m + 2 else k - m) := by
      unfold ab_bcap
      rw [if_neg (show ¬ k ≤ m by omega)]
      by_cases hh : k - m < m + 2
      · simp only [if_pos hh]
      · simp only [if_neg hh]; omega
    have hc1 : k ≤ ab_bcap k m ∧ ab_bcap k m ≤ 65536 ∧ m < ab_bcap k m := by rw [hc]; split <;> omega
    refine ⟨_, _, _, _, _, _, Or.inr ⟨by omega, rfl, rfl, rfl, rfl, rfl, rfl⟩, by omega, by omega, hc1.1, hc1.2.1, fun j hj => sb_cpy0 hj, ?_⟩
    rw [ent_45, bl_45_0, qb_fR, Option.bind_some, Option.bind_some, qb_len hpq, Option.bind_some, qb_fc, Option.bind_some, sb_shr0, if_pos (by
      rw [Int32.lt_iff_toInt_lt, pk_sub_toInt (by omega) (by omega), Int32.toInt_zero]
      omega), Option.bind_some, if_pos qb_isc, qb_63 d hpq hk (by omega)]
    show ((ab_fI _ p 801).bind _) = _
    rw [qb_fc, Option.bind_some, sb_shl0, qb_64 (d + 1) hq (by omega) hpq (by omega) (by omega) hc1.2.2 hc1.2.1]
    show ((ab_pf _ p 800 _).bind _) = _
    rw [qb_pr hp hpq (by omega) (by omega)]
    rfl
/-- append of a letter -/
theorem qb_4 (d : Nat) (hp : G.1 ≤ p) (hq : G.1 ≤ q) (hpq : q ≠ p) (h1 : p < sz) (h2 : q < sz) (hn : n < 30000) (hm : m ≤ 65536) {c : Int32} (hc : c.toInt < 256) : ∃ B' q' m' f' sz' sl', qb_R (n + 1) B q m f sz sl B' q' m' f' sz' sl' ∧ n + 1 ≤ m' ∧ (∀ j, j < m → f' j = f j) ∧
    ab_cl gG false (d + 5) 4 [.inr (.inr (some p)), .inl c] (qb_h G sz sl B p q m n x f) = some (some (.inr (.inr (some p))), qb_h G sz' sl' B' p q' m' (n + 1) x (ab_up f' n c.toInt8.toInt32)) := by
  obtain ⟨B', q', m', f', sz', sl', g1, g2, g3, g4, g5, g6, g7⟩ := qb_45 (n := n) (x := x) (B := B) (f := f) (sl := sl) d hp hq hpq h1 h2 (show n + 1 ≤ 30010 by omega) hm
  refine ⟨B', q', m', f', sz', sl', g1, g4, g6, ?_⟩
  rw [ent_4 _ _ _ _ _ rfl, bl_4_0, if_pos qb_isc, ent_13, bl_13_0, qb_fn, Option.bind_some, if_pos qb_isc, nI_1, g7]
  show ((if ab_isc _ p 8 = true then _ else none : Option ab_R) |> ab_c3 |>.bind _) = _
  rw [if_pos qb_isc, qb_46]
  show (((ab_c1 (ab_cl gG false (d + 3) 47 [.inl c] _)).bind _ : Option ab_R) |> ab_c3 |>.bind _) = _
  rw [qb_47 _ _ hc]
  show (((ab_fR _ p 800).bind _ : Option ab_R) |> ab_c3 |>.bind _) = _
  rw [qb_fR, Option.bind_some, qb_fn, Option.bind_some, nI_1, qb_pn hp, Option.bind_some, Option.bind_some, qb_st g3 g2 (by omega) (by omega), show c.toInt8.toInt32.toInt8.toInt32 = c.toInt8.toInt32 from pk_vb c]
  rfl
theorem qb_7 (d : Nat) : ab_cl gG false (d + 1) 7 [.inr (.inr (some p))] (qb_h G sz sl B p q m n x f) = some (some (.inl (nI n)), qb_h G sz sl B p q m n x f) := by
  rw [ent_7 _ _ _ _ rfl, bl_7_0, if_pos qb_isc, ent_16, bl_16_0, qb_fn]
  rfl
theorem qb_8 (d : Nat) (hp : G.1 ≤ p) (hpq : q ≠ p) (hn : n < 65536) (hm : m ≤ 65536) : ∃ x', ab_cl gG false (d + 4) 8 [.inr (.inr (some p)), .inl 0] (qb_h G sz sl B p q m n x f) = some (none, qb_h G sz sl B p q m 0 x' f) := by
  have e0 : ab_cl gG false (d + 2) 45 [.inr (.inr (some p)), .inl 0] (qb_h G sz sl B p q m n x f) = some (none, qb_h G sz sl B p q m n x f) := by
    rw [ent_45, bl_45_0, qb_fR, Option.bind_some, Option.bind_some, qb_len hpq, Option.bind_some, qb_fc, Option.bind_some, sb_shr0, if_neg]
    rw [show (0 : Int32) - nI m = nI 0 - nI m from rfl, Int32.lt_iff_toInt_lt, pk_sub_toInt (by omega) (by omega), Int32.toInt_zero]
    omega
  have e1 : ∀ y, ab_pf (qb_h G sz sl B p q m n y f) p 803 (.inl 0) = some (qb_h G sz sl B p q m 0 y f) := fun y => qb_pn hp 0
  have e2 : ¬ nI n < 0 := nI_pos (by omega)
  by_cases h0 : n = 0
  · refine ⟨x, ?_⟩
    rw [ent_8 _ _ _ _ _ rfl, bl_8_0, if_pos qb_isc, ent_17, bl_17_0, if_neg (by decide), if_pos qb_isc, e0]
    show (ab_c0 ((ab_fI _ p 803).bind _)).bind _ = _
    rw [qb_fn, Option.bind_some, if_neg e2, Option.bind_some, if_neg (by rw [h0]; decide), e1]
    rfl
  · refine ⟨1, ?_⟩
    have h00 : (0 : Int32) < nI n := nI_lt (a := 0) (by omega) (by omega)
    rw [ent_8 _ _ _ _ _ rfl, bl_8_0, if_pos qb_isc, ent_17, bl_17_0, if_neg (by decide), if_pos qb_isc, e0]
    show (ab_c0 ((ab_fI _ p 803).bind _)).bind _ = _
    rw [qb_fn, Option.bind_some, if_neg e2, Option.bind_some, if_pos h00, qb_pm hp, Option.bind_some, e1]
    rfl
theorem qb_char {k : Nat} (hk : k < 65536) : vp_nar .char (nI k) = nI k := by
  unfold vp_nar
  rw [(pk_charN hk).1]
theorem qb_6 (d : Nat) (hpq : q ≠ p) (hm : m ≤ 65536) (hnm : n ≤ m) {i k : Nat} (hi : i < n) (hk : k < 256) (hf : f i = (nI k).toInt8.toInt32) : ab_cl gG false (d + 3) 6 [.inr (.inr (some p)), .inl (nI i)] (qb_h G sz sl B p q m n x f) = some (some (.inl (nI k)), qb_h G sz sl B p q m n x f) := by
  have e9 : ∀ d, ab_c1 (ab_cl gG false d 9 [.inl (nI n), .inl (nI m)] (qb_h G sz sl B p q m n x f)) = some (nI n, qb_h G sz sl B p q m n x f) := fun d => by
    show some ((if nI m < nI n then nI m else nI n), _) = _
    rw [if_neg (nI_nlt (by omega) (by omega))]
  have e50 : ab_cl gG false (d + 1) 50 [.inl (nI i), .inl (nI n)] (qb_h G sz sl B p q m n x f) = some (none, qb_h G sz sl B p q m n x f) := by
    rw [ent_50, bl_50_0, ent_65, bl_65_0, if_neg (nI_pos (by omega)), if_pos (nI_lt hi (by omega))]
    rfl
  have eA : ab_aI 1 (qb_h G sz sl B p q m n x f) q (nI i) = some ((nI k).toInt8.toInt32) := by
    unfold ab_aI
    rw [qb_cq hpq]
    dsimp only
    rw [if_pos ⟨rfl, qb_ind (by omega) (by omega)⟩, nI_clamp (by omega), hf]
  rw [ent_6 _ _ _ _ _ rfl, bl_6_0, if_pos qb_isc, ent_15, bl_15_0, qb_fc, Option.bind_some, qb_fR, Option.bind_some, qb_fn, Option.bind_some, Option.bind_some, qb_len hpq, Option.bind_some, sb_shr0, e9, Option.bind_some]
  dsimp only
  rw [e50]
  rw [qb_c0s, Option.bind_some, if_pos rfl, Option.bind_some, eA, Option.bind_some, sc_k8 k hk, (sb_byte k hk).2.1, qb_char (by omega), if_pos rfl]
  rw [qb_c1s, Option.bind_some]
  dsimp only
  rw [qb_char (by omega), if_pos rfl]
theorem qb_48 (d : Nat) {v : Nat} (hv : v < 1000) (h : ab_H) : ab_cl gG false d 48 [.inl (nI v)] h = some (some (.inl (nI (ab_nd v))), h) := by
  have c1 : ∀ a : Nat, a < 2000 → ((-nI a < -nI v) ↔ v < a) := fun a ha => sb_nlt (by omega) (by omega)
  have k1 : (10 : Int32) * (-10) = -nI 100 := by decide
  have k2 : (10 : Int32) * (-nI 100) = -nI 1000 := by decide
  rw [ent_48, bl_48_0, if_neg (nI_pos (by omega)), bl_48_13, if_pos (by decide)]
  unfold ab_nd
  by_cases h1 : v < 10
  · have h00 : (-10 : Int32) < -nI v := (c1 10 (by omega)).mpr h1
    rw [if_pos h00, if_pos h1]
    rfl
  · have h00 : ¬ (-10 : Int32) < -nI v := fun q9 => h1 ((c1 10 (by omega)).mp q9)
    rw [if_neg h00, if_neg h1, k1, bl_48_13, if_pos (by decide)]
    by_cases h2 : v < 100
    · rw [if_pos ((c1 100 (by omega)).mpr h2), if_pos h2]
      rfl
    · rw [if_neg (fun q9 => h2 ((c1 100 (by omega)).mp q9)), if_neg h2, k2, bl_48_13, if_pos (by decide), if_pos ((c1 1000 (by omega)).mpr hv)]
      rfl
/-- the two tables -/
def qb_T (G : Nat × (Nat → Nat)) (B : Nat → Option ab_C) (p q : Nat) : Prop := ∃ o t, B (G.2 31) = some (ab_cI 1 100 o) ∧ B (G.2 32) = some (ab_cI 1 100 t) ∧ (∀ i, i < 100 → o i = nI (48 + i % 10) ∧ t i = nI (48 + i / 10)) ∧ G.2 31 ≠ p ∧ G.2 31 ≠ q ∧ G.2 32 ≠ p ∧ G.2 32 ≠ q
theorem qb_T1 (hT : qb_T G B p q) {w : Nat} (hw : w < 100) : ab_aI 1 (qb_h G sz sl B p q m n x f) (ab_ga (qb_h G sz sl B p q m n x f) 31) (nI w) = some (nI (48 + w % 10)) := by
  obtain ⟨o, t, h1, h2, h3, h4, h5, h6, h7⟩ := hT
  unfold ab_aI
  rw [show ab_ce (qb_h G sz sl B p q m n x f) (ab_ga (qb_h G sz sl B p q m n x f) 31) = _ from (qb_co h4 h5).trans h1]
  dsimp only
  rw [if_pos ⟨rfl, qb_ind hw (by omega)⟩, nI_clamp (by omega), (h3 w hw).1]
theorem qb_T2 (hT : qb_T G B p q) {w : Nat} (hw : w < 100) : ab_aI 1 (qb_h G sz sl B p q m n x f) (ab_ga (qb_h G sz sl B p q m n x f) 32) (nI w) = some (nI (48 + w / 10)) := by
  obtain ⟨o, t, h1, h2, h3, h4, h5, h6, h7⟩ := hT
  unfold ab_aI
  rw [show ab_ce (qb_h G sz sl B p q m n x f) (ab_ga (qb_h G sz sl B p q m n x f) 32) = _ from (qb_co h6 h7).trans h2]
  dsimp only
  rw [if_pos ⟨rfl, qb_ind hw (by omega)⟩, nI_clamp (by omega), (h3 w hw).2]
theorem qb_nn (x : Int32) : - -x = x := by rw [Int32.neg_neg]
theorem qb_49a (d : Nat) (hT : qb_T G B p q) (hq : G.1 ≤ q) (hpq : q ≠ p) (hm : m ≤ 65536) {w e : Nat} (hw : w < 100) (he : e ≤ m) (hn : ab_nd w ≤ e) (v1 : Int32) (u3 u4 : Option ab_V) : ∃ r f', ab_ev gG false d 49 13 [some (.inl (-nI w)), some (.inl v1), some (.inr (.inr (some q))), u3, u4, some (.inl (nI e)), some (.inl 0)] [] (qb_h G sz sl B p q m n x f) = some (some (.inl r), qb_h G sz sl B p q m n x f') ∧ (∀ j, j < e - ab_nd w → f' j = f j) ∧ (∀ j, e ≤ j → f' j = f j) ∧ ∀ i, i < ab_nd w → f' (e - ab_nd w + i) = (ab_dig w i).toInt8.toInt32 := by
  have hlt : (-100 : Int32) < -nI w := (show -nI 100 < -nI w from (sb_nlt (by omega) (by omega)).mpr hw)
  have hn1 : 1 ≤ ab_nd w := by unfold ab_nd; split <;> (try split) <;> omega
  by_cases h1 : w < 10
  · have e1 : ab_nd w = 1 := by unfold ab_nd; rw [if_pos h1]
    have h9 : ¬ -nI w < (-9 : Int32) := fun q9 => by have := (sb_nlt (a := w) (b := 9) (by omega) (by omega)).mp q9; omega
    refine ⟨nI (e - 1), ab_up f (e - 1) (nI (48 + w % 10)).toInt8.toInt32, ?_, ?_, ?_, ?_⟩
    · rw [bl_49_13, if_pos hlt, qb_nn, qb_T1 hT hw, Option.bind_some, Option.bind_some, sb_m1 (by omega), qb_st hq hpq (by omega) (by omega), Option.bind_some, if_neg h9, if_pos rfl]
    · intro j hj; exact if_neg (by omega)
    · intro j hj; exact if_neg (by omega)
    · intro i hi
      obtain rfl : i = 0 := by omega
      rw [e1]
      show ab_up _ _ _ _ = _
      rw [show e - 1 + 0 = e - 1 from rfl]
      unfold ab_up
      rw [if_pos rfl]
      unfold ab_dig
      rw [if_pos h1, show w % 10 = w by omega]
  · have e1 : ab_nd w = 2 := by unfold ab_nd; rw [if_neg h1, if_pos hw]
    have h9 : -nI w < (-9 : Int32) := (show -nI w < -nI 9 from (sb_nlt (by omega) (by omega)).mpr (by omega))
    refine ⟨nI (e - 1 - 1), ab_up (ab_up f (e - 1) (nI (48 + w % 10)).toInt8.toInt32) (e - 1 - 1) (nI (48 + w / 10)).toInt8.toInt32, ?_, ?_, ?_, ?_⟩
    · rw [bl_49_13, if_pos hlt, qb_nn, qb_T1 hT hw, Option.bind_some, Option.bind_some, sb_m1 (by omega), qb_st hq hpq (by omega) (by omega), Option.bind_some, if_pos h9, qb_T2 hT hw, Option.bind_some, Option.bind_some, sb_m1 (by omega), qb_st hq hpq (by omega) (by omega), Option.bind_some, if_pos rfl]
    · intro j hj
      unfold ab_up
      rw [if_neg (by omega), if_neg (by omega)]
    · intro j hj
      unfold ab_up
      rw [if_neg (by omega), if_neg (by omega)]
    · intro i hi
      unfold ab_up ab_dig
      rw [e1] at hi ⊢
      rw [if_neg h1, if_pos hw]
      by_cases h0 : i = 0
      · rw [if_pos (by omega), if_pos h0]
      · rw [if_neg (by omega), if_pos (by omega), if_neg h0]
theorem qb_49 (d : Nat) (hT : qb_T G B p q) (hq : G.1 ≤ q) (hpq : q ≠ p) (hm : m ≤ 65536) {v e : Nat} (hv : v < 1000) (he : e ≤ m) (hn : ab_nd v ≤ e) : ∃ r f', ab_cl gG false d 49 [.inl (nI v), .inl (nI e), .inr (.inr (some q))] (qb_h G sz sl B p q m n x f) = some (some (.inl r), qb_h G sz sl B p q m n x f') ∧ (∀ j, j < e - ab_nd v → f' j = f j) ∧ ∀ i, i < ab_nd v → f' (e - ab_nd v + i) = (ab_dig v i).toInt8.toInt32 := by
  by_cases h1 : v < 100
  · obtain ⟨r, f', g1, g2, g3, g4⟩ := qb_49a (sz := sz) (sl := sl) (n := n) (x := x) (f := f) d hT hq hpq hm h1 he hn (nI e) none none
    refine ⟨r, f', ?_, g2, g4⟩
    rw [ent_49, bl_49_0, if_neg (nI_pos (by omega)), if_pos rfl]
    exact g1
  · have e1 : ab_nd v = 3 := by unfold ab_nd; rw [if_neg (by omega), if_neg h1]
    have e2 : ab_nd (v / 100) = 1 := by unfold ab_nd; rw [if_pos (by omega)]
    have hlt : ¬ (-100 : Int32) < -nI v := fun q9 => by have := (sb_nlt (a := 100) (b := v) (by omega) (by omega)).mp q9; omega
    obtain ⟨r, f', g1, g2, g3, g4⟩ := qb_49a (sz := sz) (sl := sl) (n := n) (x := x) (f := ab_up (ab_up f (e - 1) (nI (48 + v % 100 % 10)).toInt8.toInt32) (e - 1 - 1) (nI (48 + v % 100 / 10)).toInt8.toInt32) (w := v / 100) (e := e - 1 - 1) d hT hq hpq hm (by omega) (by omega) (by omega) (nI e) (some (.inl (-nI (v / 100)))) (some (.inl (nI (v % 100))))
    refine ⟨r, f', ?_, ?_, ?_⟩
    · rw [ent_49, bl_49_0, if_neg (nI_pos (by omega)), if_pos rfl, bl_49_13, if_neg hlt, sb_ndiv (by omega), sb_nrem (by omega), qb_T1 hT (by omega), Option.bind_some, Option.bind_some, sb_m1 (by omega), qb_st hq hpq (by omega) (by omega), Option.bind_some, qb_T2 hT (by omega), Option.bind_some, Option.bind_some, sb_m1 (by omega), qb_st hq hpq (by omega) (by omega), Option.bind_some]
      exact g1
    · intro j hj
      rw [g2 j (by omega)]
      unfold ab_up
      rw [if_neg (by omega), if_neg (by omega)]
    · intro i hi
      rw [e1] at hi ⊢
      have hd : ab_dig v i = nI (48 + if i = 0 then v / 100 else if i = 1 then v / 10 % 10 else v % 10) := by
        unfold ab_dig
        rw [if_neg (by omega), if_neg h1]
      rw [hd]
      by_cases h0 : i = 0
      · have g5 := g4 0 (by omega)
        rw [e2] at g5
        rw [show e - 3 + i = e - 1 - 1 - 1 + 0 by omega, g5, if_pos h0]
        unfold ab_dig
        rw [if_pos (by omega)]
      · rw [g3 _ (by omega), if_neg h0]
        unfold ab_up
        by_cases h2 : i = 1
        · rw [if_pos (by omega), if_pos h2, show v % 100 / 10 = v / 10 % 10 by omega]
        · rw [if_neg (by omega), if_pos (by omega), if_neg h2, show v % 100 % 10 = v % 10 by omega]
theorem qb_nd_le (v : Nat) : ab_nd v ≤ 3 := by unfold ab_nd; split <;> (try split) <;> omega
/-- append of a number below 1000 -/
theorem qb_5 (d : Nat) (hT : qb_T G B p q) (hT2 : G.2 31 < sz ∧ G.2 32 < sz) (hp : G.1 ≤ p) (hq : G.1 ≤ q) (hpq : q ≠ p) (h1 : p < sz) (h2 : q < sz) (hn : n < 30000) (hm : m ≤ 65536) {v : Nat} (hv : v < 1000) : ∃ B' q' m' f' f'' sz' sl', qb_R (n + ab_nd v) B q m f sz sl B' q' m' f' sz' sl' ∧ n + ab_nd v ≤ m' ∧ (∀ j, j < m → f' j = f j) ∧ (∀ j, j < n → f'' j = f' j) ∧ (∀ i, i < ab_nd v → f'' (n + i) = (ab_dig v i).toInt8.toInt32) ∧
    ab_cl gG false (d + 5) 5 [.inr (.inr (some p)), .inl (nI v)] (qb_h G sz sl B p q m n x f) = some (some (.inr (.inr (some p))), qb_h G sz' sl' B' p q' m' (n + ab_nd v) x f'') := by
  have hnd := qb_nd_le v
  obtain ⟨B', q', m', f', sz', sl', g1, g2, g3, g4, g5, g6, g7⟩ := qb_45 (n := n) (x := x) (B := B) (f := f) (sl := sl) d hp hq hpq h1 h2 (show n + ab_nd v ≤ 30010 by omega) hm
  have hT' : qb_T G B' p q' := by
    obtain ⟨o, t, t1, t2, t3, t4, t5, t6, t7⟩ := hT
    rcases g1 with ⟨-, rfl, rfl, -⟩ | ⟨-, rfl, rfl, -⟩
    · exact ⟨o, t, t1, t2, t3, t4, t5, t6, t7⟩
    · refine ⟨o, t, ?_, ?_, t3, t4, by omega, t6, by omega⟩
      · rw [← t1]; exact if_neg t5
      · rw [← t2]; exact if_neg t7
  obtain ⟨r, f'', k1, k2, k3⟩ := qb_49 (sz := sz') (sl := sl') (n := n) (x := x) (f := f') (d + 3) hT' g3 g2 g5 hv g4 (show ab_nd v ≤ n + ab_nd v by omega)
  rw [Nat.add_sub_cancel] at k2 k3
  refine ⟨B', q', m', f', f'', sz', sl', g1, g4, g6, k2, k3, ?_⟩
  rw [ent_5 _ _ _ _ _ rfl, bl_5_0, if_pos qb_isc, ent_14, bl_14_0, qb_fn, Option.bind_some, qb_48 _ hv]
  show (ab_c3 (if ab_isc _ p 8 = true then _ else none)).bind _ = _
  rw [if_pos qb_isc]
  dsimp only
  rw [nI_add, g7]
  show (ab_c3 (if ab_isc _ p 8 = true then _ else none)).bind _ = _
  rw [if_pos qb_isc, qb_46]
  show (ab_c3 ((ab_fR _ p 800).bind _)).bind _ = _
  rw [qb_fR, Option.bind_some, k1]
  show (ab_c3 ((ab_pf _ p 803 _).bind _)).bind _ = _
  rw [qb_pn hp]
  rfl
/-- new: over any heap with a newborn object at p -/
theorem qb_3 (d : Nat) {h : ab_H} (hp : ab_n0 h ≤ p) (hc : ab_ce h p = some (ab_cO 8 (ab_birth 8))) (hs : p < ab_sz h) : ab_cl gG false (d + 2) 3 [.inr (.inr (some p))] h = some (none, qb_h h.1 (ab_sz h + 1) (ab_sl h + 16) (ab_ce h) p (ab_sz h) 16 0 0 (fun _ => 0)) := by
  rw [ent_3 _ _ _ _ rfl, bl_3_0, ent_12, bl_12_0]
  show (ab_c0 (if (1 : Int32) = 0 then none else _)).bind _ = _
  rw [if_neg (by decide), if_neg (by decide)]
  have e1 : ab_pf (ab_mk h (ab_cI 1 (16 : Int32).toNatClampNeg (fun _ => 0)) (16 : Int32).toNatClampNeg) p 800 (.inr (.inr (some (ab_sz h)))) = some (ab_put (ab_mk h (ab_cI 1 16 (fun _ => 0)) 16) p (ab_cO 8 (ab_up (ab_birth 8) 0 (.inr (.inr (some (ab_sz h))))))) := by
    unfold ab_pf
    rw [ab_ce_mk, if_neg (by omega), hc]
    dsimp only
    rw [if_pos ⟨rfl, hp, rfl⟩]
    rfl
  rw [e1, Option.bind_some]
  have e2 : ab_pf (ab_put (ab_mk h (ab_cI 1 16 (fun _ => 0)) 16) p (ab_cO 8 (ab_up (ab_birth 8) 0 (.inr (.inr (some (ab_sz h))))))) p 801 (.inl 0) = some (qb_h h.1 (ab_sz h + 1) (ab_sl h + 16) (ab_ce h) p (ab_sz h) 16 0 0 (fun _ => 0)) := by
    unfold ab_pf
    rw [ab_ce_put, if_pos rfl]
    dsimp only
    rw [if_pos ⟨rfl, hp, rfl⟩]
    congr 1
    refine qb_ext rfl rfl rfl (fun a => ?_)
    show ab_up (ab_up (ab_up _ _ _) p _) p _ a = _
    have e3 : ab_up (ab_up (ab_birth 8) 0 (.inr (.inr (some (ab_sz h))))) 1 (.inl 0) = qb_f (ab_sz h) 0 0 := by
      funext j
      match j with
      | 0 => rfl
      | 1 => rfl
      | 2 => rfl
      | 3 => rfl
      | j + 4 => rfl
    rw [e3]
    unfold ab_up
    by_cases h1 : a = p
    · rw [if_pos h1, if_pos h1]
    · rw [if_neg h1, if_neg h1, if_neg h1]
      rfl
  rw [e2]
  rfl
end
