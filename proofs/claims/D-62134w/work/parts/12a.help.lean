/-! ===== helpers for the twin's methods: frames, numbers ===== -/
/-- f' is f but for the places S -/
def fr {α : Type} (S : List Nat) (f f' : Nat → α) : Prop := ∀ k, S.contains k = false → f' k = f k
theorem fr.rf {α : Type} {S : List Nat} {f : Nat → α} : fr S f f := fun _ _ => rfl
theorem fr.up {α : Type} {S : List Nat} {f f' : Nat → α} (h : fr S f f') {k : Nat} (x : α) (hk : S.contains k = true) : fr S f (ab_up f' k x) := fun j hj => by
  rw [ab_up_n _ _ (fun e => by rw [e, hk] at hj; cases hj)]
  exact h j hj
theorem fr.tr {α : Type} {S : List Nat} {f f' f'' : Nat → α} (h : fr S f f') (h' : fr S f' f'') : fr S f f'' := fun k hk => (h' k hk).trans (h k hk)
theorem fr.mo {α : Type} {S S' : List Nat} {f f' : Nat → α} (h : fr S f f') (hs : S.all (fun k => S'.contains k) = true) : fr S' f f' := fun k hk => h k (by
  cases hc : S.contains k with
  | false => rfl
  | true =>
    rw [List.all_eq_true] at hs
    rw [hs k (List.contains_iff_mem.mp hc)] at hk
    cases hk)
theorem nlt_1 {k : Nat} (h : k < 2 ^ 31) : nI k < (1 : Int32) ↔ k < 1 := nI_ltI h (by decide)
theorem ngt_1 {k : Nat} (h : k < 2 ^ 31) : (1 : Int32) < nI k ↔ 1 < k := nI_ltI (by decide) h
theorem neq_1 {k : Nat} (h : k < 2 ^ 31) : nI k = (1 : Int32) ↔ k = 1 := nI_eq h (by decide)
theorem nlt_2 {k : Nat} (h : k < 2 ^ 31) : nI k < (2 : Int32) ↔ k < 2 := nI_ltI h (by decide)
theorem ngt_2 {k : Nat} (h : k < 2 ^ 31) : (2 : Int32) < nI k ↔ 2 < k := nI_ltI (by decide) h
theorem neq_2 {k : Nat} (h : k < 2 ^ 31) : nI k = (2 : Int32) ↔ k = 2 := nI_eq h (by decide)
theorem nlt_3 {k : Nat} (h : k < 2 ^ 31) : nI k < (3 : Int32) ↔ k < 3 := nI_ltI h (by decide)
theorem ngt_3 {k : Nat} (h : k < 2 ^ 31) : (3 : Int32) < nI k ↔ 3 < k := nI_ltI (by decide) h
theorem neq_3 {k : Nat} (h : k < 2 ^ 31) : nI k = (3 : Int32) ↔ k = 3 := nI_eq h (by decide)
theorem nlt_4 {k : Nat} (h : k < 2 ^ 31) : nI k < (4 : Int32) ↔ k < 4 := nI_ltI h (by decide)
theorem ngt_4 {k : Nat} (h : k < 2 ^ 31) : (4 : Int32) < nI k ↔ 4 < k := nI_ltI (by decide) h
theorem neq_4 {k : Nat} (h : k < 2 ^ 31) : nI k = (4 : Int32) ↔ k = 4 := nI_eq h (by decide)
theorem nlt_5 {k : Nat} (h : k < 2 ^ 31) : nI k < (5 : Int32) ↔ k < 5 := nI_ltI h (by decide)
theorem ngt_5 {k : Nat} (h : k < 2 ^ 31) : (5 : Int32) < nI k ↔ 5 < k := nI_ltI (by decide) h
theorem neq_5 {k : Nat} (h : k < 2 ^ 31) : nI k = (5 : Int32) ↔ k = 5 := nI_eq h (by decide)
theorem nlt_6 {k : Nat} (h : k < 2 ^ 31) : nI k < (6 : Int32) ↔ k < 6 := nI_ltI h (by decide)
theorem ngt_6 {k : Nat} (h : k < 2 ^ 31) : (6 : Int32) < nI k ↔ 6 < k := nI_ltI (by decide) h
theorem neq_6 {k : Nat} (h : k < 2 ^ 31) : nI k = (6 : Int32) ↔ k = 6 := nI_eq h (by decide)
theorem nlt_7 {k : Nat} (h : k < 2 ^ 31) : nI k < (7 : Int32) ↔ k < 7 := nI_ltI h (by decide)
theorem ngt_7 {k : Nat} (h : k < 2 ^ 31) : (7 : Int32) < nI k ↔ 7 < k := nI_ltI (by decide) h
theorem neq_7 {k : Nat} (h : k < 2 ^ 31) : nI k = (7 : Int32) ↔ k = 7 := nI_eq h (by decide)
theorem nlt_8 {k : Nat} (h : k < 2 ^ 31) : nI k < (8 : Int32) ↔ k < 8 := nI_ltI h (by decide)
theorem ngt_8 {k : Nat} (h : k < 2 ^ 31) : (8 : Int32) < nI k ↔ 8 < k := nI_ltI (by decide) h
theorem neq_8 {k : Nat} (h : k < 2 ^ 31) : nI k = (8 : Int32) ↔ k = 8 := nI_eq h (by decide)
theorem nlt_9 {k : Nat} (h : k < 2 ^ 31) : nI k < (9 : Int32) ↔ k < 9 := nI_ltI h (by decide)
theorem ngt_9 {k : Nat} (h : k < 2 ^ 31) : (9 : Int32) < nI k ↔ 9 < k := nI_ltI (by decide) h
theorem neq_9 {k : Nat} (h : k < 2 ^ 31) : nI k = (9 : Int32) ↔ k = 9 := nI_eq h (by decide)
theorem nlt_10 {k : Nat} (h : k < 2 ^ 31) : nI k < (10 : Int32) ↔ k < 10 := nI_ltI h (by decide)
theorem ngt_10 {k : Nat} (h : k < 2 ^ 31) : (10 : Int32) < nI k ↔ 10 < k := nI_ltI (by decide) h
theorem neq_10 {k : Nat} (h : k < 2 ^ 31) : nI k = (10 : Int32) ↔ k = 10 := nI_eq h (by decide)
theorem nlt_12 {k : Nat} (h : k < 2 ^ 31) : nI k < (12 : Int32) ↔ k < 12 := nI_ltI h (by decide)
theorem ngt_12 {k : Nat} (h : k < 2 ^ 31) : (12 : Int32) < nI k ↔ 12 < k := nI_ltI (by decide) h
theorem neq_12 {k : Nat} (h : k < 2 ^ 31) : nI k = (12 : Int32) ↔ k = 12 := nI_eq h (by decide)
theorem nlt_13 {k : Nat} (h : k < 2 ^ 31) : nI k < (13 : Int32) ↔ k < 13 := nI_ltI h (by decide)
theorem ngt_13 {k : Nat} (h : k < 2 ^ 31) : (13 : Int32) < nI k ↔ 13 < k := nI_ltI (by decide) h
theorem neq_13 {k : Nat} (h : k < 2 ^ 31) : nI k = (13 : Int32) ↔ k = 13 := nI_eq h (by decide)
theorem nlt_31 {k : Nat} (h : k < 2 ^ 31) : nI k < (31 : Int32) ↔ k < 31 := nI_ltI h (by decide)
theorem ngt_31 {k : Nat} (h : k < 2 ^ 31) : (31 : Int32) < nI k ↔ 31 < k := nI_ltI (by decide) h
theorem neq_31 {k : Nat} (h : k < 2 ^ 31) : nI k = (31 : Int32) ↔ k = 31 := nI_eq h (by decide)
theorem nlt_32 {k : Nat} (h : k < 2 ^ 31) : nI k < (32 : Int32) ↔ k < 32 := nI_ltI h (by decide)
theorem ngt_32 {k : Nat} (h : k < 2 ^ 31) : (32 : Int32) < nI k ↔ 32 < k := nI_ltI (by decide) h
theorem neq_32 {k : Nat} (h : k < 2 ^ 31) : nI k = (32 : Int32) ↔ k = 32 := nI_eq h (by decide)
theorem nlt_36 {k : Nat} (h : k < 2 ^ 31) : nI k < (36 : Int32) ↔ k < 36 := nI_ltI h (by decide)
theorem ngt_36 {k : Nat} (h : k < 2 ^ 31) : (36 : Int32) < nI k ↔ 36 < k := nI_ltI (by decide) h
theorem neq_36 {k : Nat} (h : k < 2 ^ 31) : nI k = (36 : Int32) ↔ k = 36 := nI_eq h (by decide)
theorem nlt_39 {k : Nat} (h : k < 2 ^ 31) : nI k < (39 : Int32) ↔ k < 39 := nI_ltI h (by decide)
theorem ngt_39 {k : Nat} (h : k < 2 ^ 31) : (39 : Int32) < nI k ↔ 39 < k := nI_ltI (by decide) h
theorem neq_39 {k : Nat} (h : k < 2 ^ 31) : nI k = (39 : Int32) ↔ k = 39 := nI_eq h (by decide)
theorem nlt_46 {k : Nat} (h : k < 2 ^ 31) : nI k < (46 : Int32) ↔ k < 46 := nI_ltI h (by decide)
theorem ngt_46 {k : Nat} (h : k < 2 ^ 31) : (46 : Int32) < nI k ↔ 46 < k := nI_ltI (by decide) h
theorem neq_46 {k : Nat} (h : k < 2 ^ 31) : nI k = (46 : Int32) ↔ k = 46 := nI_eq h (by decide)
theorem nlt_47 {k : Nat} (h : k < 2 ^ 31) : nI k < (47 : Int32) ↔ k < 47 := nI_ltI h (by decide)
theorem ngt_47 {k : Nat} (h : k < 2 ^ 31) : (47 : Int32) < nI k ↔ 47 < k := nI_ltI (by decide) h
theorem neq_47 {k : Nat} (h : k < 2 ^ 31) : nI k = (47 : Int32) ↔ k = 47 := nI_eq h (by decide)
theorem nlt_48 {k : Nat} (h : k < 2 ^ 31) : nI k < (48 : Int32) ↔ k < 48 := nI_ltI h (by decide)
theorem ngt_48 {k : Nat} (h : k < 2 ^ 31) : (48 : Int32) < nI k ↔ 48 < k := nI_ltI (by decide) h
theorem neq_48 {k : Nat} (h : k < 2 ^ 31) : nI k = (48 : Int32) ↔ k = 48 := nI_eq h (by decide)
theorem nlt_57 {k : Nat} (h : k < 2 ^ 31) : nI k < (57 : Int32) ↔ k < 57 := nI_ltI h (by decide)
theorem ngt_57 {k : Nat} (h : k < 2 ^ 31) : (57 : Int32) < nI k ↔ 57 < k := nI_ltI (by decide) h
theorem neq_57 {k : Nat} (h : k < 2 ^ 31) : nI k = (57 : Int32) ↔ k = 57 := nI_eq h (by decide)
theorem nlt_63 {k : Nat} (h : k < 2 ^ 31) : nI k < (63 : Int32) ↔ k < 63 := nI_ltI h (by decide)
theorem ngt_63 {k : Nat} (h : k < 2 ^ 31) : (63 : Int32) < nI k ↔ 63 < k := nI_ltI (by decide) h
theorem neq_63 {k : Nat} (h : k < 2 ^ 31) : nI k = (63 : Int32) ↔ k = 63 := nI_eq h (by decide)
theorem nlt_64 {k : Nat} (h : k < 2 ^ 31) : nI k < (64 : Int32) ↔ k < 64 := nI_ltI h (by decide)
theorem ngt_64 {k : Nat} (h : k < 2 ^ 31) : (64 : Int32) < nI k ↔ 64 < k := nI_ltI (by decide) h
theorem neq_64 {k : Nat} (h : k < 2 ^ 31) : nI k = (64 : Int32) ↔ k = 64 := nI_eq h (by decide)
theorem nlt_95 {k : Nat} (h : k < 2 ^ 31) : nI k < (95 : Int32) ↔ k < 95 := nI_ltI h (by decide)
theorem ngt_95 {k : Nat} (h : k < 2 ^ 31) : (95 : Int32) < nI k ↔ 95 < k := nI_ltI (by decide) h
theorem neq_95 {k : Nat} (h : k < 2 ^ 31) : nI k = (95 : Int32) ↔ k = 95 := nI_eq h (by decide)
theorem nlt_97 {k : Nat} (h : k < 2 ^ 31) : nI k < (97 : Int32) ↔ k < 97 := nI_ltI h (by decide)
theorem ngt_97 {k : Nat} (h : k < 2 ^ 31) : (97 : Int32) < nI k ↔ 97 < k := nI_ltI (by decide) h
theorem neq_97 {k : Nat} (h : k < 2 ^ 31) : nI k = (97 : Int32) ↔ k = 97 := nI_eq h (by decide)
theorem nlt_100 {k : Nat} (h : k < 2 ^ 31) : nI k < (100 : Int32) ↔ k < 100 := nI_ltI h (by decide)
theorem ngt_100 {k : Nat} (h : k < 2 ^ 31) : (100 : Int32) < nI k ↔ 100 < k := nI_ltI (by decide) h
theorem neq_100 {k : Nat} (h : k < 2 ^ 31) : nI k = (100 : Int32) ↔ k = 100 := nI_eq h (by decide)
theorem nlt_122 {k : Nat} (h : k < 2 ^ 31) : nI k < (122 : Int32) ↔ k < 122 := nI_ltI h (by decide)
theorem ngt_122 {k : Nat} (h : k < 2 ^ 31) : (122 : Int32) < nI k ↔ 122 < k := nI_ltI (by decide) h
theorem neq_122 {k : Nat} (h : k < 2 ^ 31) : nI k = (122 : Int32) ↔ k = 122 := nI_eq h (by decide)
theorem nlt_126 {k : Nat} (h : k < 2 ^ 31) : nI k < (126 : Int32) ↔ k < 126 := nI_ltI h (by decide)
theorem ngt_126 {k : Nat} (h : k < 2 ^ 31) : (126 : Int32) < nI k ↔ 126 < k := nI_ltI (by decide) h
theorem neq_126 {k : Nat} (h : k < 2 ^ 31) : nI k = (126 : Int32) ↔ k = 126 := nI_eq h (by decide)
theorem nlt_127 {k : Nat} (h : k < 2 ^ 31) : nI k < (127 : Int32) ↔ k < 127 := nI_ltI h (by decide)
theorem ngt_127 {k : Nat} (h : k < 2 ^ 31) : (127 : Int32) < nI k ↔ 127 < k := nI_ltI (by decide) h
theorem neq_127 {k : Nat} (h : k < 2 ^ 31) : nI k = (127 : Int32) ↔ k = 127 := nI_eq h (by decide)
theorem nlt_256 {k : Nat} (h : k < 2 ^ 31) : nI k < (256 : Int32) ↔ k < 256 := nI_ltI h (by decide)
theorem ngt_256 {k : Nat} (h : k < 2 ^ 31) : (256 : Int32) < nI k ↔ 256 < k := nI_ltI (by decide) h
theorem neq_256 {k : Nat} (h : k < 2 ^ 31) : nI k = (256 : Int32) ↔ k = 256 := nI_eq h (by decide)
theorem nlt_300 {k : Nat} (h : k < 2 ^ 31) : nI k < (300 : Int32) ↔ k < 300 := nI_ltI h (by decide)
theorem ngt_300 {k : Nat} (h : k < 2 ^ 31) : (300 : Int32) < nI k ↔ 300 < k := nI_ltI (by decide) h
theorem neq_300 {k : Nat} (h : k < 2 ^ 31) : nI k = (300 : Int32) ↔ k = 300 := nI_eq h (by decide)
theorem nlt_0 {k : Nat} (h : k < 2 ^ 31) : nI k < (0 : Int32) ↔ False := ⟨fun e => nI_pos h e, fun e => e.elim⟩
theorem ngt_0 {k : Nat} (h : k < 2 ^ 31) : (0 : Int32) < nI k ↔ 0 < k := nI_ltI (by decide) h
theorem neq_0 {k : Nat} (h : k < 2 ^ 31) : nI k = (0 : Int32) ↔ k = 0 := nI_eq h (by decide)
theorem nlit (n : Nat) : Int32.ofNat n = nI n := rfl
def b01 (q : Bool) : Int32 := if q then 1 else 0
theorem b01_0 (q : Bool) : b01 q = 0 ↔ q = false := by cases q <;> decide
theorem b01_t : b01 true = 1 := rfl
theorem b01_f : b01 false = 0 := rfl
theorem b01_nar (q : Bool) : vp_nar .boolean (b01 q) = b01 q := by cases q <;> decide
theorem b01_nar1 : vp_nar .boolean (1 : Int32) = 1 := by decide
theorem b01_nar0 : vp_nar .boolean (0 : Int32) = 0 := by decide
/-- the list l lies in f from o on -/
def rdl (f : Nat → Int32) (o : Nat) (l : List Int32) : Prop := ∀ i, i < l.length → f (o + i) = l.getD i 0
theorem rdl.nil {f : Nat → Int32} {o : Nat} : rdl f o [] := fun i h => absurd h (Nat.not_lt_zero _)
theorem rdl.at {f : Nat → Int32} {o : Nat} {l : List Int32} (h : rdl f o l) {k : Nat} (h1 : o ≤ k) (h2 : k < o + l.length) : f k = l.getD (k - o) 0 := by
  have := h (k - o) (by omega)
  rwa [show o + (k - o) = k by omega] at this
theorem rdl.hd {f : Nat → Int32} {o : Nat} {c : Int32} {l : List Int32} (h : rdl f o (c :: l)) : f o = c := by
  have := h 0 (by rw [List.length_cons]; omega)
  rwa [Nat.add_zero, List.getD_cons_zero] at this
theorem rdl.tl {f : Nat → Int32} {o : Nat} {c : Int32} {l : List Int32} (h : rdl f o (c :: l)) : rdl f (o + 1) l := fun i hi => by
  have := h (i + 1) (by rw [List.length_cons]; omega)
  rw [List.getD_cons_succ] at this
  rw [← this]
  congr 1
  omega
theorem rdl.sn {f : Nat → Int32} {o : Nat} {l : List Int32} (h : rdl f o l) (c : Int32) : rdl (ab_up f (o + l.length) c) o (l ++ [c]) := fun i hi => by
  rw [List.length_append, List.length_singleton] at hi
  by_cases e : i < l.length
  · rw [ab_up_n _ _ (by omega), h i e, List.getD_eq_getElem?_getD, List.getD_eq_getElem?_getD, List.getElem?_append_left e]
  · have e2 : i = l.length := by omega
    rw [e2, ab_up_e, List.getD_eq_getElem?_getD, List.getElem?_append_right (Nat.le_refl _), Nat.sub_self]
    rfl
theorem rdl.up {f : Nat → Int32} {o : Nat} {l : List Int32} (h : rdl f o l) {k : Nat} (c : Int32) (hk : k < o ∨ o + l.length ≤ k) : rdl (ab_up f k c) o l := fun i hi => by
  rw [ab_up_n _ _ (by omega)]
  exact h i hi
theorem rdl.dr {f : Nat → Int32} {o : Nat} {l : List Int32} (h : rdl f o l) (k : Nat) : rdl f (o + k) (l.drop k) := fun i hi => by
  rw [List.length_drop] at hi
  rw [Nat.add_assoc, h (k + i) (by omega), List.getD_eq_getElem?_getD, List.getD_eq_getElem?_getD, List.getElem?_drop]
theorem rdl.tk {f : Nat → Int32} {o : Nat} {l : List Int32} (h : rdl f o l) (k : Nat) : rdl f o (l.take k) := fun i hi => by
  rw [List.length_take] at hi
  rw [h i (by omega), List.getD_eq_getElem?_getD, List.getD_eq_getElem?_getD, List.getElem?_take_of_lt (by omega)]
theorem rdl.ap {f : Nat → Int32} {o : Nat} {l m : List Int32} (h : rdl f o l) (h' : rdl f (o + l.length) m) : rdl f o (l ++ m) := fun i hi => by
  rw [List.length_append] at hi
  by_cases e : i < l.length
  · rw [h i e, List.getD_eq_getElem?_getD, List.getD_eq_getElem?_getD, List.getElem?_append_left e]
  · have := h' (i - l.length) (by omega)
    rw [show o + l.length + (i - l.length) = o + i by omega] at this
    rw [this, List.getD_eq_getElem?_getD, List.getD_eq_getElem?_getD, List.getElem?_append_right (by omega)]
theorem rdl.cg {f g : Nat → Int32} {o : Nat} {l : List Int32} (h : rdl f o l) (hg : ∀ k, o ≤ k → k < o + l.length → g k = f k) : rdl g o l := fun i hi => by
  rw [hg (o + i) (by omega) (by omega)]
  exact h i hi
theorem getD_out {l : List Int32} {i : Nat} (h : l.length ≤ i) : l.getD i 0 = 0 := by
  rw [List.getD_eq_getElem?_getD, List.getElem?_eq_none h]
  rfl
theorem getD_drop (l : List Int32) (k j : Nat) : (l.drop k).getD j 0 = l.getD (k + j) 0 := by
  rw [List.getD_eq_getElem?_getD, List.getD_eq_getElem?_getD, List.getElem?_drop]
