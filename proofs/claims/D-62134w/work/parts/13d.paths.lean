/-! ===== the twin: names and paths ===== -/
def oI (o : Option Nat) : Int32 := match o with
  | none => -1
  | some x => nI x
theorem oI_neg {o : Option Nat} (h : ∀ x, o = some x → x < 2 ^ 31) : oI o < 0 ↔ o = none := by
  cases o with
  | none => exact ⟨fun _ => rfl, fun _ => by decide⟩
  | some x => exact ⟨fun e => absurd e (nI_pos (h x rfl)), fun e => by cases e⟩
/-- the tree lies in the twin's arrays -/
def twW (r : sT) (A : Nat → Nat → Int32) (N : Nat → Int64) : Prop := (∀ x, x < 13 → A 1 x = b01 (decide (x ≤ sN r))) ∧ ∀ x, x ≤ sN r → A 2 x = b01 (sD r x) ∧ A 3 x = nI (sP r x) ∧ N x = sM r x ∧ A 5 x = nI (sX r x).length ∧ rdl (A 6) (160 * x) (sX r x)
theorem twW.fr {r : sT} {A A' : Nat → Nat → Int32} {N : Nat → Int64} (h : twW r A N) {S : List Nat} (hf : fr S A A') (hs : S.all (fun k => !([1, 2, 3, 5, 6] : List Nat).contains k) = true) : twW r A' N := by
  have e : ∀ o, ([1, 2, 3, 5, 6] : List Nat).contains o = true → A' o = A o := fun o ho => hf o (by
    cases hc : S.contains o with
    | false => rfl
    | true =>
      rw [List.all_eq_true] at hs
      have := hs o (List.contains_iff_mem.mp hc)
      rw [ho] at this
      cases this)
  refine ⟨fun x hx => ?_, fun x hx => ?_⟩
  · rw [e _ rfl]; exact h.1 x hx
  · rw [e _ rfl, e _ rfl, e _ rfl, e _ rfl]; exact h.2 x hx
theorem e8_63 : ((8 : Int32)).toInt64 &&& 63 = 8 := by decide
theorem e0_64 : ((0 : Int32)).toInt64 = 0 := by decide
theorem lcmp0 (x y : Int64) : ((if x < y then (-1 : Int32) else if x = y then 0 else 1) = 0) ↔ x = y := by
  by_cases h : x < y
  · rw [if_pos h]
    exact ⟨fun e => absurd e (by decide), fun e => by rw [e] at h; exact (Int64.lt_irrefl h).elim⟩
  · rw [if_neg h]
    by_cases h2 : x = y
    · rw [if_pos h2]; exact ⟨fun _ => h2, fun _ => rfl⟩
    · rw [if_neg h2]; exact ⟨fun e => absurd e (by decide), fun e => absurd e h2⟩
theorem drop_cons {l : List Int32} {j : Nat} (h : j < l.length) : l.drop j = l.getD j 0 :: l.drop (j + 1) := by
  rw [List.getD_eq_getElem?_getD, List.getElem?_eq_getElem h]
  exact List.drop_eq_getElem_cons h
theorem gif {α : Type} {p q u v w x : Prop} [Decidable p] [Decidable q] [Decidable u] [Decidable v] [Decidable w] [Decidable x] (T F : α) : (if p then (if u then (if w then T else if x then T else F) else if v then (if w then T else if x then T else F) else T) else if q then (if u then (if w then T else if x then T else F) else if v then (if w then T else if x then T else F) else T) else T) = if ((¬ p ∧ ¬ q) ∨ (¬ u ∧ ¬ v) ∨ w ∨ x) then T else F := by
  by_cases h1 : p <;> by_cases h2 : q <;> by_cases h3 : u <;> by_cases h4 : v <;> by_cases h5 : w <;> by_cases h6 : x <;> simp [h1, h2, h3, h4, h5, h6]
theorem gdc_if {α : Type} (c : Int32) (T F : α) : (if c < 97 then (if c < 48 then (if c = 95 then T else if c = 46 then T else F) else if 57 < c then (if c = 95 then T else if c = 46 then T else F) else T) else if 122 < c then (if c < 48 then (if c = 95 then T else if c = 46 then T else F) else if 57 < c then (if c = 95 then T else if c = 46 then T else F) else T) else T) = if gdc c = true then T else F := by
  have e1 : (97 ≤ c) ↔ ¬ c < 97 := Int32.not_lt.symm
  have e2 : (c ≤ 122) ↔ ¬ 122 < c := Int32.not_lt.symm
  have e3 : (48 ≤ c) ↔ ¬ c < 48 := Int32.not_lt.symm
  have e4 : (c ≤ 57) ↔ ¬ 57 < c := Int32.not_lt.symm
  have e : (gdc c = true) ↔ ((¬ c < 97 ∧ ¬ 122 < c) ∨ (¬ c < 48 ∧ ¬ 57 < c) ∨ c = 95 ∨ c = 46) := by
    unfold gdc
    simp only [Bool.or_eq_true, Bool.and_eq_true, decide_eq_true_eq, e1, e2, e3, e4, or_assoc]
  rw [gif]
  simp only [e]
section
variable {B : ab_H} {b : Nat} {I : Nat → Int32} {P : Int64} {A : Nat → Nat → Int32} {N : Nat → Int64}
theorem pkd_lp (d : Nat) {a : Nat} {l : List Int32} (hr : rdl (A 13) a l) (ha : a + l.length ≤ 200) : ∀ (m j : Nat) (v : Int64), j + m = 7 →
    ab_ev gG true d 124 11 [some (.inr (.inr (some b))), some (.inl (nI a)), some (.inl (nI (a + l.length))), some (.inr (.inl v)), none, some (.inl (nI j))] [] (TW B b I P A N) = some (some (.inr (.inl (pkF m (l.drop j) v))), TW B b I P A N) := by
  intro m
  induction m with
  | zero =>
    intro j v hj
    rw [bl_124_11, if_neg (by rw [nlt_7 (by omega)]; omega), pkF]
  | succ m ih =>
    intro j v hj
    rw [bl_124_11, if_pos (by rw [nlt_7 (by omega)]; omega), nI_add]
    by_cases h : j < l.length
    · have := ih (j + 1) (v <<< 8 ||| (l.getD j 0).toInt64) (by omega)
      rw [if_pos (nI_lt (by omega) (by omega)), tw_r20, Option.bind_some, Option.bind_some, tw_a13 (by omega), Option.bind_some, hr j h, e8_63, nI_1, this, drop_cons h, pkF]
    · have := ih (j + 1) (v <<< 8 ||| 0) (by omega)
      rw [if_neg (nI_nlt (by omega) (by omega)), e8_63, e0_64, nI_1, this, List.drop_eq_nil_of_le (by omega), List.drop_eq_nil_of_le (by omega), pkF]
theorem tw_packed (d : Nat) {a : Nat} {l : List Int32} (hr : rdl (A 13) a l) (ha : a + l.length ≤ 200) : ab_cl gG true d 124 [.inr (.inr (some b)), .inl (nI a), .inl (nI (a + l.length))] (TW B b I P A N) = some (some (.inr (.inl (pk l))), TW B b I P A N) := by
  rw [ent_124, bl_124_0, pk_sub (by omega), show a + l.length - a = l.length by omega]
  unfold pk
  by_cases h : 7 < l.length
  · rw [if_pos h, if_pos ((ngt_7 (by omega)).mpr h)]
  · rw [if_neg h, if_neg (fun e => h ((ngt_7 (by omega)).mp e))]
    have := pkd_lp (I := I) (P := P) (N := N) (B := B) (b := b) d hr ha 7 0 0 rfl
    rw [List.drop_zero] at this
    exact this
theorem tw_wordAs (d : Nat) {a w : Nat} {l : List Int32} (hw : w < 65) (h1 : A 11 w = nI a) (h2 : A 12 w = nI (a + l.length)) (hr : rdl (A 13) a l) (ha : a + l.length ≤ 200) : ab_cl gG true (d + 1) 110 [.inr (.inr (some b)), .inl (nI w)] (TW B b I P A N) = some (some (.inr (.inl (pk l))), TW B b I P A N) := by
  rw [ent_110, bl_110_0, tw_r17, Option.bind_some, Option.bind_some, tw_a11 hw, Option.bind_some, tw_r18, Option.bind_some, Option.bind_some, tw_a12 hw, Option.bind_some, if_pos tw_isc, h1, h2, tw_packed d hr ha, qb_c2s, Option.bind_some]
theorem tw_isDots (d : Nat) {a : Nat} {l : List Int32} (hr : rdl (A 13) a l) (ha : a + l.length ≤ 200) : ab_cl gG true d 125 [.inr (.inr (some b)), .inl (nI a), .inl (nI (a + l.length))] (TW B b I P A N) = some (some (.inl (b01 (decide (l = [46] ∨ l = [46, 46])))), TW B b I P A N) := by
  have e2 : ab_ev gG true d 125 11 [some (.inr (.inr (some b))), some (.inl (nI a)), some (.inl (nI (a + l.length)))] [] (TW B b I P A N) = some (some (.inl (b01 (decide (l = [46, 46])))), TW B b I P A N) := by
    rw [bl_125_11, pk_sub (by omega), show a + l.length - a = l.length by omega]
    match l, hr, ha with
    | [], hr, ha => rw [if_neg (by decide)]; rfl
    | [c], hr, ha => rw [show [c].length = 1 from rfl, if_neg (by decide)]; simp [b01]
    | [c, c2], hr, ha =>
      have h1 := hr.hd
      have h2 := hr.tl.hd
      simp only [List.length_cons, List.length_nil] at ha
      rw [show [c, c2].length = 2 from rfl, if_pos (by decide), tw_r20, Option.bind_some, Option.bind_some, tw_a13 (by omega), Option.bind_some, h1]
      by_cases hc : c = 46
      · rw [if_pos hc, Option.bind_some, Option.bind_some, nI_1, tw_a13 (by omega), Option.bind_some, h2]
        by_cases hc2 : c2 = 46
        · rw [if_pos hc2]; simp [hc, hc2, b01]
        · rw [if_neg hc2]; simp [hc2, b01]
      · rw [if_neg hc]; simp [hc, b01]
    | c :: c2 :: c3 :: l, hr, ha =>
      simp only [List.length_cons] at ha
      rw [if_neg (by rw [neq_2 (by simp only [List.length_cons]; omega)]; simp only [List.length_cons]; omega)]
      simp [b01]
  rw [ent_125, bl_125_0, pk_sub (by omega), show a + l.length - a = l.length by omega, e2]
  match l, hr, ha with
  | [], hr, ha => rw [if_neg (by decide)]; rfl
  | [c], hr, ha =>
    have h1 := hr.hd
    simp only [List.length_cons, List.length_nil] at ha
    rw [show [c].length = 1 from rfl, if_pos (by decide), tw_r20, Option.bind_some, Option.bind_some, tw_a13 (by omega), Option.bind_some, h1]
    by_cases hc : c = 46
    · rw [if_pos hc]; simp [hc, b01]
    · rw [if_neg hc]; simp [hc, b01]
  | c :: c2 :: l, hr, ha =>
    simp only [List.length_cons] at ha
    rw [if_neg (by rw [neq_1 (by simp only [List.length_cons]; omega)]; simp only [List.length_cons]; omega)]
    simp [b01]
theorem isN_lp (d : Nat) {e : Nat} (he : e ≤ 200) (v1 : Int32) : ∀ (s : List Int32) (k : Nat) (u4 : Option ab_V), k + s.length = e → rdl (A 13) k s →
    ab_ev gG true (d + 1) 127 19 [some (.inr (.inr (some b))), some (.inl v1), some (.inl (nI e)), some (.inl (nI k)), u4] [] (TW B b I P A N) = some (some (.inl (b01 (s.all gdc))), TW B b I P A N) := by
  intro s
  induction s with
  | nil =>
    intro k u4 hk hr
    rw [List.length_nil] at hk
    rw [bl_127_19, if_neg (nI_nlt (by omega) (by omega))]
    rfl
  | cons c s ih =>
    intro k u4 hk hr
    rw [List.length_cons] at hk
    have hc := hr.hd
    rw [bl_127_19, if_pos (nI_lt (by omega) (by omega)), tw_r20, Option.bind_some, Option.bind_some, tw_a13 (by omega), Option.bind_some, hc, bl_127_34, nI_1, ih (k + 1) _ (by omega) hr.tl, gdc_if]
    rw [List.all_cons]
    cases gdc c with
    | true => rfl
    | false => rfl
theorem tw_isName (d : Nat) {a : Nat} {l : List Int32} (hr : rdl (A 13) a l) (ha : a + l.length ≤ 200) (h0 : l ≠ [46]) (h00 : l ≠ [46, 46]) : ab_cl gG true (d + 1) 127 [.inr (.inr (some b)), .inl (nI a), .inl (nI (a + l.length))] (TW B b I P A N) = some (some (.inl (b01 (isNm l))), TW B b I P A N) := by
  rw [ent_127, bl_127_0, pk_sub (by omega), show a + l.length - a = l.length by omega, tw_isDots d hr ha, qb_c1s]
  unfold isNm
  by_cases h1 : l.length < 1
  · rw [if_pos ((nlt_1 (by omega)).mpr h1)]
    rw [show decide (1 ≤ l.length) = false from decide_eq_false (by omega)]
    rfl
  · rw [if_neg (fun e => h1 ((nlt_1 (by omega)).mp e))]
    by_cases h2 : 7 < l.length
    · rw [if_pos ((ngt_7 (by omega)).mpr h2)]
      rw [show decide (l.length ≤ 7) = false from decide_eq_false (by omega), Bool.and_false, Bool.false_and]
      rfl
    · rw [if_neg (fun e => h2 ((ngt_7 (by omega)).mp e)), if_pos tw_isc, Option.bind_some]
      rw [show decide (l = [46] ∨ l = [46, 46]) = false from by simp [h0, h00]]
      dsimp only
      rw [if_pos b01_f, isN_lp d ha _ l a none rfl hr]
      rw [show decide (1 ≤ l.length) = true from decide_eq_true (by omega), show decide (l.length ≤ 7) = true from decide_eq_true (by omega), Bool.true_and, Bool.true_and]
theorem chd_lp (d : Nat) {r : sT} (hr : okT r) (hW : twW r A N) {dd : Nat} (hd : dd < 2 ^ 31) (m : Int64) : ∀ (k x : Nat), x + k = 13 →
    ab_ev gG true d 126 2 [some (.inr (.inr (some b))), some (.inl (nI dd)), some (.inr (.inl m)), none, some (.inl (nI x))] [] (TW B b I P A N) = some (some (.inl (oI (chF r dd m k x))), TW B b I P A N) := by
  intro k
  induction k with
  | zero =>
    intro x hx
    rw [bl_126_2, if_neg (by rw [nlt_13 (by omega)]; omega)]
    rfl
  | succ k ih =>
    intro x hx
    have hn := hr.n
    rw [bl_126_2, if_pos (by rw [nlt_13 (by omega)]; omega), tw_r3, Option.bind_some, Option.bind_some, tw_a1 (by omega), Option.bind_some, hW.1 x (by omega), chF, nI_1, ih (x + 1) (by omega)]
    by_cases h : x ≤ sN r
    · obtain ⟨h1, h2, h3, h4, h5⟩ := hW.2 x h
      have hp := hr.p h
      rw [show decide (x ≤ sN r) = true from by simp [h], if_neg (by decide), tw_r5, Option.bind_some, Option.bind_some, tw_a3 (by omega), Option.bind_some, h2]
      by_cases hd2 : sP r x = dd
      · rw [if_pos (by rw [hd2]), tw_r6, Option.bind_some, Option.bind_some, tw_aN (by omega), Option.bind_some, h3]
        by_cases hm : sM r x = m
        · rw [if_pos ((lcmp0 _ _).mpr hm), if_pos ⟨h, hd2, hm⟩]
          rfl
        · rw [if_neg (fun e => hm ((lcmp0 _ _).mp e)), if_neg (fun e => hm e.2.2)]
      · rw [if_neg (fun e => hd2 ((nI_eq (by omega) hd).mp e)), if_neg (fun e => hd2 e.2.1)]
    · rw [show decide (x ≤ sN r) = false from decide_eq_false (by omega), if_pos b01_f, if_neg (fun e => h e.1)]
theorem tw_child (d : Nat) {r : sT} (hr : okT r) (hW : twW r A N) {dd : Nat} (hd : dd < 2 ^ 31) (m : Int64) : ab_cl gG true d 126 [.inr (.inr (some b)), .inl (nI dd), .inr (.inl m)] (TW B b I P A N) = some (some (.inl (oI (chS r dd m))), TW B b I P A N) := by
  rw [ent_126, bl_126_0]
  exact chd_lp d hr hW hd m 12 1 rfl
/-! ===== follow ===== -/
/-- where a path leads, in the twin's fields -/
def twF (s : Option Nat × Option (Nat × Int64)) (I : Nat → Int32) (P : Int64) : Prop := I 42 = oI s.1 ∧ I 43 = oI (s.2.map Prod.fst) ∧ ∀ d m, s.2 = some (d, m) → P = m
/-- the state while a path is followed -/
def twV (B : ab_H) (b : Nat) (I : Nat → Int32) (A : Nat → Nat → Int32) (N : Nat → Int64) (s : Option Nat × Option Nat) (P : Int64) : ab_H := TW B b (ab_up (ab_up I 42 (oI s.1)) 43 (oI s.2)) P A N
theorem seg_lp (d : Nat) {e : Nat} (he : e ≤ 200) (v1 v3 : Int32) : ∀ (s : List Int32) (k : Nat), k + s.length = e → rdl (A 13) k s →
    ab_ev gG true (d + 1) 106 34 [some (.inr (.inr (some b))), some (.inl v1), some (.inl (nI e)), some (.inl v3), some (.inl (nI k)), none, none, none] [] (TW B b I P A N) =
    ab_ev gG true (d + 1) 106 46 [some (.inr (.inr (some b))), some (.inl v1), some (.inl (nI e)), some (.inl v3), some (.inl (nI (k + (s.takeWhile (fun a => decide (a ≠ 47))).length))), none, none, none] [] (TW B b I P A N) := by
  intro s
  induction s with
  | nil =>
    intro k hk hr
    rw [List.length_nil] at hk
    rw [bl_106_34, if_neg (nI_nlt (by omega) (by omega))]
    rfl
  | cons c s ih =>
    intro k hk hr
    rw [List.length_cons] at hk
    have hc := hr.hd
    rw [bl_106_34, if_pos (nI_lt (by omega) (by omega)), tw_r20, Option.bind_some, Option.bind_some, tw_a13 (by omega), Option.bind_some, hc, nI_1, ih (k + 1) (by omega) hr.tl]
    by_cases h : c = 47
    · rw [if_pos h, List.takeWhile_cons_of_neg (by simp [h])]
      rfl
    · rw [if_neg h, List.takeWhile_cons_of_pos (by simp [h]), List.length_cons, Nat.add_assoc k 1, Nat.add_comm 1]
theorem up4 {α : Type} (f : Nat → α) {i j : Nat} (hij : i ≠ j) (a c x y : α) : ab_up (ab_up (ab_up (ab_up f i a) j c) i x) j y = ab_up (ab_up f i x) j y := by
  funext k
  unfold ab_up
  (repeat' split) <;> first | rfl | contradiction
theorem rdl.lf {f : Nat → Int32} {o : Nat} {l m : List Int32} (h : rdl f o (l ++ m)) : rdl f o l := by
  have := h.tk l.length
  rwa [List.take_left] at this
/-- a step of the path: the segment g from k on -/
theorem fol_st (d : Nat) (hb : B.1.1 ≤ b) {r : sT} (hr : okT r) (hW : twW r A N) (v1 v2 : Int32) {k : Nat} {g : List Int32} (hg : rdl (A 13) k g) (hk : k + g.length ≤ 200) (hg0 : g ≠ []) (hg1 : g ≠ [46]) (hok : okl g) (nd vd : Option Nat) (hnd : ∀ x, nd = some x → x ≤ sN r) :
    ∃ P' u4 u5 u6 u7, ab_ev gG true (d + 1 + 1) 106 64 [some (.inr (.inr (some b))), some (.inl v1), some (.inl v2), some (.inl (nI k)), some (.inl (nI (k + g.length))), none, none, none] [.inl 0] (twV B b I A N (nd, vd) P) =
      ab_ev gG true (d + 1 + 1) 106 28 [some (.inr (.inr (some b))), some (.inl v1), some (.inl v2), some (.inl (nI (k + g.length + 1))), u4, u5, u6, u7] [] (twV B b I A N ((ledS r nd g).1, (ledS r nd g).2.map Prod.fst) P') ∧ ∀ dd m, (ledS r nd g).2 = some (dd, m) → P' = m := by
  have hn := hr.n
  have e1 : ∀ Q, ab_fI (twV B b I A N (nd, vd) Q) b 742 = some (oI nd) := fun Q => by
    unfold twV
    simp (disch := omega) only [tw_i42, ab_up_e, ab_up_n]
  have e2 : ∀ (Q : Int64) (x y z : Int32), ab_pf (TW B b (ab_up (ab_up I 42 x) 43 y) Q A N) b 742 (.inl z) = some (TW B b (ab_up (ab_up (ab_up I 42 x) 43 y) 42 z) Q A N) := fun Q x y z => tw_w42 hb z
  have hnone : (nd = none ∨ ∃ x, nd = some x ∧ sD r x = false) → ledS r nd g = (none, none) := fun h => by
    rcases h with h | ⟨x, h, h2⟩
    · rw [h]; rfl
    · rw [h]; unfold ledS; dsimp only; rw [h2]; rfl
  have out : ∀ v6 : Int32, ∃ u4 u5 u6 u7, ab_ev gG true (d + 1 + 1) 106 81 [some (.inr (.inr (some b))), some (.inl v1), some (.inl v2), some (.inl (nI k)), some (.inl (nI (k + g.length))), some (.inl 0), some (.inl v6), none] [.inl 0] (twV B b I A N (nd, vd) P) =
      ab_ev gG true (d + 1 + 1) 106 28 [some (.inr (.inr (some b))), some (.inl v1), some (.inl v2), some (.inl (nI (k + g.length + 1))), u4, u5, u6, u7] [] (twV B b I A N (none, none) (pk g)) := fun v6 => by
    unfold twV
    rw [bl_106_81, if_pos tw_isc, tw_packed _ hg hk, qb_c2s, Option.bind_some]
    dsimp only
    rw [tw_wP hb, Option.bind_some, if_pos rfl, bl_106_109, Option.bind_some, tw_w42 hb, Option.bind_some, if_pos rfl, tw_w43 hb, Option.bind_some, up4 _ (by decide), nI_1]
    exact ⟨_, _, _, _, rfl⟩
  cases nd with
  | none =>
    rw [bl_106_64, if_pos rfl, e1, Option.bind_some, if_pos (by decide), hnone (Or.inl rfl)]
    obtain ⟨u4, u5, u6, u7, e⟩ := out (oI none)
    exact ⟨_, u4, u5, u6, u7, e, fun _ _ h => by cases h⟩
  | some x =>
    have hx := hnd x rfl
    obtain ⟨h1, h2, h3, h4, h5⟩ := hW.2 x hx
    have e3 : ab_aI 1 (twV B b I A N (some x, vd) P) (b + 2) (nI x) = some (b01 (sD r x)) := by
      unfold twV
      rw [tw_a2 (by omega), h1]
    have e4 : ab_fR (twV B b I A N (some x, vd) P) b 704 = some (some (b + 2)) := tw_r4
    rw [bl_106_64, if_pos rfl, e1, Option.bind_some, if_neg (show ¬ oI (some x) < 0 from nI_pos (by omega)), e4, Option.bind_some, Option.bind_some, show oI (some x) = nI x from rfl, e3, Option.bind_some]
    cases hD : sD r x with
    | false =>
      rw [if_pos b01_f, hnone (Or.inr ⟨x, rfl, hD⟩)]
      obtain ⟨u4, u5, u6, u7, e⟩ := out (nI x)
      exact ⟨_, u4, u5, u6, u7, e, fun _ _ h => by cases h⟩
    | true =>
      rw [if_neg (by decide)]
      unfold twV
      rw [bl_106_81, if_pos tw_isc, tw_packed _ hg hk, qb_c2s, Option.bind_some]
      dsimp only
      rw [tw_wP hb, Option.bind_some, if_neg (by decide), if_pos tw_isc, tw_isDots _ hg hk, qb_c1s, Option.bind_some]
      dsimp only
      by_cases h46 : g = [46, 46]
      · have hl : ledS r (some x) g = (some (sP r x), none) := by
          unfold ledS
          dsimp only
          rw [hD, if_pos rfl, if_pos h46]
        have hp := hr.p hx
        rw [show decide (g = [46] ∨ g = [46, 46]) = true from by simp [h46], if_neg (by decide), tw_r5, Option.bind_some, Option.bind_some, tw_a3 (by omega), Option.bind_some, h2, bl_106_109, Option.bind_some, tw_w42 hb, Option.bind_some, if_neg (by decide), tw_i42, Option.bind_some, ab_up_e, if_neg (nI_pos (by omega)), tw_w43 hb, Option.bind_some, up4 _ (by decide), nI_1, hl]
        exact ⟨_, _, _, _, _, rfl, fun _ _ h => by cases h⟩
      · rw [show decide (g = [46] ∨ g = [46, 46]) = false from by simp [h46, hg1], if_pos b01_f, tw_P, Option.bind_some, if_pos tw_isc, tw_child _ hr hW (by omega), qb_c1s, Option.bind_some]
        dsimp only
        rw [bl_106_109, Option.bind_some, tw_w42 hb, Option.bind_some, if_neg (by decide), tw_i42, Option.bind_some, ab_up_e]
        cases hc : chS r x (pk g) with
        | none =>
          rw [if_pos (by decide), if_pos tw_isc, tw_isName d hg hk hg1 h46, qb_c1s, Option.bind_some]
          dsimp only
          cases hN : isNm g with
          | false =>
            have hl : ledS r (some x) g = (none, none) := by
              unfold ledS
              dsimp only
              rw [hD, if_pos rfl, if_neg h46, hN]
              rfl
            rw [if_pos b01_f, tw_w43 hb, Option.bind_some, up4 _ (by decide), nI_1, hl]
            exact ⟨_, _, _, _, _, rfl, fun _ _ h => by cases h⟩
          | true =>
            have hl : ledS r (some x) g = (none, some (x, pk g)) := by
              unfold ledS
              dsimp only
              rw [hD, if_pos rfl, if_neg h46, hN, if_pos rfl, hc]
            rw [if_neg (by decide), tw_w43 hb, Option.bind_some, up4 _ (by decide), nI_1, hl]
            exact ⟨_, _, _, _, _, rfl, fun _ _ h => by cases h; rfl⟩
        | some y =>
          have hy := chS_some hc
          have hN : isNm g = true := by
            cases hN : isNm g with
            | true => rfl
            | false => rw [chS_bad hr hok hN] at hc; cases hc
          have hl : ledS r (some x) g = (some y, none) := by
            unfold ledS
            dsimp only
            rw [hD, if_pos rfl, if_neg h46, hN, if_pos rfl, hc]
          rw [if_neg (show ¬ oI (some y) < 0 from nI_pos (by omega)), tw_w43 hb, Option.bind_some, up4 _ (by decide), nI_1, hl]
          exact ⟨_, _, _, _, _, rfl, fun _ _ h => by cases h⟩
theorem fol_lp (d : Nat) (hb : B.1.1 ≤ b) {r : sT} (hr : okT r) (hW : twW r A N) (v1 : Int32) {e : Nat} (he : e ≤ 200) :
    ∀ (m : Nat) (s : List Int32) (k : Nat) (nd : Option Nat) (vc : Option (Nat × Int64)) (P : Int64) (u4 u5 u6 u7 : Option ab_V), s.length ≤ m → (k + s.length = e ∨ (s = [] ∧ k = e + 1)) → rdl (A 13) k s → okl s → (∀ x, nd = some x → x ≤ sN r) → (∀ dd mm, vc = some (dd, mm) → P = mm) →
    ∃ P', ab_ev gG true (d + 1 + 1) 106 28 [some (.inr (.inr (some b))), some (.inl v1), some (.inl (nI e)), some (.inl (nI k)), u4, u5, u6, u7] [] (twV B b I A N (nd, vc.map Prod.fst) P) = some (none, twV B b I A N ((folF r m s (nd, vc)).1, (folF r m s (nd, vc)).2.map Prod.fst) P') ∧ ∀ dd mm, (folF r m s (nd, vc)).2 = some (dd, mm) → P' = mm := by
  intro m
  induction m with
  | zero =>
    intro s k nd vc P u4 u5 u6 u7 hs hk hrd hok hnd hP
    obtain rfl : s = [] := List.length_eq_zero_iff.mp (by omega)
    rw [List.length_nil] at hk
    refine ⟨P, ?_, hP⟩
    rw [bl_106_28, if_neg (nI_nlt (by omega) (by omega))]
    rfl
  | succ m ih =>
    intro s k nd vc P u4 u5 u6 u7 hs hk hrd hok hnd hP
    cases s with
    | nil =>
      rw [List.length_nil] at hk
      refine ⟨P, ?_, hP⟩
      rw [bl_106_28, if_neg (nI_nlt (by omega) (by omega))]
      rfl
    | cons c s =>
      have hk : k + (c :: s).length = e := hk.resolve_right (fun h => by cases h.1)
      rw [List.length_cons] at hs
      have hk' := hk
      rw [List.length_cons] at hk'
      rw [folF]
      have happ : (c :: s).takeWhile (fun a => decide (a ≠ 47)) ++ (c :: s).dropWhile (fun a => decide (a ≠ 47)) = c :: s := List.takeWhile_append_dropWhile
      have hrd2 := hrd
      have hok2 := hok
      rw [← happ] at hrd2 hok2
      have hg := hrd2.lf
      have hgo : okl ((c :: s).takeWhile (fun a => decide (a ≠ 47))) := fun a ha => hok2 a (List.mem_append_left _ ha)
      have hlen : ((c :: s).takeWhile (fun a => decide (a ≠ 47))).length ≤ s.length + 1 := by
        have := congrArg List.length happ
        rw [List.length_append, List.length_cons] at this
        omega
      have e0 : ab_ev gG true (d + 1 + 1) 106 28 [some (.inr (.inr (some b))), some (.inl v1), some (.inl (nI e)), some (.inl (nI k)), u4, u5, u6, u7] [] (twV B b I A N (nd, vc.map Prod.fst) P) = ab_ev gG true (d + 1 + 1) 106 46 [some (.inr (.inr (some b))), some (.inl v1), some (.inl (nI e)), some (.inl (nI k)), some (.inl (nI (k + ((c :: s).takeWhile (fun a => decide (a ≠ 47))).length))), none, none, none] [] (twV B b I A N (nd, vc.map Prod.fst) P) := by
        rw [bl_106_28, if_pos (nI_lt (by omega) (by omega))]
        unfold twV
        exact seg_lp (d + 1) he v1 _ (c :: s) k hk hrd
      rw [e0]
      clear e0
      have hdr := hrd.dr (((c :: s).takeWhile (fun a => decide (a ≠ 47))).length + 1)
      have hdo := hok.dr (((c :: s).takeWhile (fun a => decide (a ≠ 47))).length + 1)
      have hdl : ((c :: s).drop (((c :: s).takeWhile (fun a => decide (a ≠ 47))).length + 1)).length = s.length + 1 - (((c :: s).takeWhile (fun a => decide (a ≠ 47))).length + 1) := by
        rw [List.length_drop, List.length_cons]
      generalize (c :: s).drop (((c :: s).takeWhile (fun a => decide (a ≠ 47))).length + 1) = rest at hdr hdo hdl ⊢
      generalize (c :: s).takeWhile (fun a => decide (a ≠ 47)) = g at hg hgo hlen hdr hdl ⊢
      have hk2 : k + g.length + 1 + rest.length = e ∨ (rest = [] ∧ k + g.length + 1 = e + 1) := by
        by_cases h : g.length < s.length + 1
        · left; omega
        · right
          exact ⟨List.length_eq_zero_iff.mp (by omega), by omega⟩
      have hskip : ab_ev gG true (d + 1 + 1) 106 46 [some (.inr (.inr (some b))), some (.inl v1), some (.inl (nI e)), some (.inl (nI k)), some (.inl (nI (k + g.length))), none, none, none] [] (twV B b I A N (nd, vc.map Prod.fst) P) = ab_ev gG true (d + 1 + 1) 106 64 [some (.inr (.inr (some b))), some (.inl v1), some (.inl (nI e)), some (.inl (nI k)), some (.inl (nI (k + g.length))), none, none, none] [.inl (b01 (decide (g = [] ∨ g = [46])))] (twV B b I A N (nd, vc.map Prod.fst) P) := by
        have e1 : ab_fR (twV B b I A N (nd, vc.map Prod.fst) P) b 720 = some (some (b + 13)) := tw_r20
        have e2 : ∀ j, j < 200 → ab_aI 0 (twV B b I A N (nd, vc.map Prod.fst) P) (b + 13) (nI j) = some (A 13 j) := fun j hj => tw_a13 hj
        rw [bl_106_46]
        match g, hg with
        | [], _ => rw [if_pos (show nI (k + ([] : List Int32).length) = nI k from rfl)]; rfl
        | [a], hg =>
          simp only [List.length_cons, List.length_nil] at hlen hk2 ⊢
          rw [if_neg (by rw [nI_eq (by omega) (by omega)]; omega), pk_sub (by omega), if_pos (by rw [neq_1 (by omega)]; omega), e1, Option.bind_some, Option.bind_some, e2 k (by omega), Option.bind_some, hg.hd]
          by_cases h46 : a = 46
          · rw [if_pos h46]; simp [h46, b01]
          · rw [if_neg h46]; simp [h46, b01]
        | a :: a2 :: g, hg =>
          simp only [List.length_cons] at hlen hk2 ⊢
          rw [if_neg (by rw [nI_eq (by omega) (by omega)]; omega), pk_sub (by omega), if_neg (by rw [neq_1 (by omega)]; omega)]
          simp [b01]
      rw [hskip]
      by_cases hsk : g = [] ∨ g = [46]
      · rw [if_pos hsk, show decide (g = [] ∨ g = [46]) = true from by simp [hsk], bl_106_64, if_neg (by decide), nI_1]
        exact ih rest (k + g.length + 1) nd vc P _ _ _ _ (by omega) hk2 hdr hdo hnd hP
      · rw [if_neg hsk, show decide (g = [] ∨ g = [46]) = false from by simp [hsk]]
        obtain ⟨P1, w4, w5, w6, w7, e1, e2⟩ := fol_st (P := P) (I := I) d hb hr hW v1 (nI e) hg (by omega) (fun h => hsk (Or.inl h)) (fun h => hsk (Or.inr h)) hgo nd (vc.map Prod.fst) hnd
        obtain ⟨l1, -⟩ := led_le hr hnd g
        obtain ⟨P2, e3, e4⟩ := ih rest (k + g.length + 1) (ledS r nd g).1 (ledS r nd g).2 P1 w4 w5 w6 w7 (by omega) hk2 hdr hdo l1 e2
        exact ⟨P2, e1.trans e3, e4⟩
/-- follow(w) -/
theorem tw_follow (d : Nat) (hb : B.1.1 ≤ b) {r : sT} (hr : okT r) (hW : twW r A N) {here a w : Nat} {l : List Int32} (hh : here ≤ sN r) (hI : I 9 = nI here) (hw : w < 65) (h1 : A 11 w = nI a) (h2 : A 12 w = nI (a + l.length)) (hrd : rdl (A 13) a l) (ha : a + l.length ≤ 200) (hok : okl l) :
    ∃ I' P', ab_cl gG true (d + 2) 106 [.inr (.inr (some b)), .inl (nI w)] (TW B b I P A N) = some (none, TW B b I' P' A N) ∧ fr [42, 43] I I' ∧ twF (folS r here l) I' P' := by
  have hn := hr.n
  have e0 : ∃ k u4 u5 u6 u7, ab_cl gG true (d + 2) 106 [.inr (.inr (some b)), .inl (nI w)] (TW B b I P A N) = ab_ev gG true (d + 1 + 1) 106 28 [some (.inr (.inr (some b))), some (.inl (nI w)), some (.inl (nI (a + l.length))), some (.inl (nI a)), u4, u5, u6, u7] [] (twV B b I A N (some k, none) P) ∧ k = (if l.head? = some 47 then 0 else here) := by
    unfold twV
    rw [ent_106, bl_106_0, tw_r18, Option.bind_some, Option.bind_some, tw_a12 hw, Option.bind_some, tw_r17, Option.bind_some, Option.bind_some, tw_a11 hw, Option.bind_some, h1, h2]
    cases l with
    | nil =>
      rw [if_neg (nI_nlt (by rw [List.length_nil]; omega) (by omega)), tw_i9, Option.bind_some, tw_w42 hb, Option.bind_some, tw_w43 hb, Option.bind_some, hI]
      exact ⟨here, _, _, _, _, rfl, rfl⟩
    | cons c l =>
      rw [List.length_cons] at ha
      rw [if_pos (nI_lt (by rw [List.length_cons]; omega) (by rw [List.length_cons]; omega)), tw_r20, Option.bind_some, Option.bind_some, tw_a13 (by omega), Option.bind_some, hrd.hd]
      by_cases h47 : c = 47
      · rw [if_pos h47, tw_w42 hb, Option.bind_some, tw_w43 hb, Option.bind_some]
        exact ⟨0, _, _, _, _, rfl, by rw [h47]; rfl⟩
      · rw [if_neg h47, tw_i9, Option.bind_some, tw_w42 hb, Option.bind_some, tw_w43 hb, Option.bind_some, hI]
        exact ⟨here, _, _, _, _, rfl, by rw [if_neg]; intro h; exact h47 (Option.some.inj h)⟩
  obtain ⟨k, u4, u5, u6, u7, e1, ek⟩ := e0
  obtain ⟨P', e2, e3⟩ := fol_lp (I := I) (A := A) (N := N) (B := B) (b := b) d hb hr hW (nI w) ha l.length l a (some k) none P u4 u5 u6 u7 (Nat.le_refl _) (Or.inl rfl) hrd hok (fun x e => by cases e; rw [ek]; split <;> omega) (fun _ _ e => by cases e)
  have e4 : folF r l.length l (some k, none) = folS r here l := by
    unfold folS
    rw [ek]
    congr 2
    split <;> rfl
  rw [e4] at e2 e3
  refine ⟨_, P', e1.trans e2, fr.up (fr.up fr.rf _ rfl) _ rfl, ?_, ?_, e3⟩
  · rw [ab_up_n _ _ (by decide), ab_up_e]
  · rw [ab_up_e]
end
