/-! ===== the twin: wc, ls, mkdir, cd ===== -/
theorem lcmpn (x y : Int64) : ((if x < y then (-1 : Int32) else if x = y then 0 else 1) < 0) ↔ x < y := by
  by_cases h : x < y
  · rw [if_pos h]; exact ⟨fun _ => h, fun _ => by decide⟩
  · rw [if_neg h]
    refine ⟨fun e => ?_, fun e => absurd e h⟩
    exfalso
    revert e
    split <;> decide
theorem lcmpp (x y : Int64) : (0 < (if x < y then (-1 : Int32) else if x = y then 0 else 1)) ↔ y < x := by
  by_cases h : x < y
  · rw [if_pos h]
    exact ⟨fun e => absurd e (by decide), fun e => (Int64.lt_irrefl (Int64.lt_trans h e)).elim⟩
  · rw [if_neg h]
    by_cases h2 : x = y
    · rw [if_pos h2]
      exact ⟨fun e => absurd e (by decide), fun e => by rw [h2] at e; exact (Int64.lt_irrefl e).elim⟩
    · rw [if_neg h2]
      exact ⟨fun _ => Int64.lt_of_le_of_ne (Int64.not_lt.mp h) (fun e => h2 e.symm), fun _ => by decide⟩
section
variable {B : ab_H} {b : Nat} {I : Nat → Int32} {P : Int64} {A : Nat → Nat → Int32} {N : Nat → Int64}
theorem wc_lp (d : Nat) {n : Nat} (hn : n ≤ 160) (hI : I 38 = nI n) : ∀ (s : List Int32) (k : Nat) (i : Bool) (p q : Nat) (u4 : Option ab_V), k + s.length = n → rdl (A 26) k s → (k = 0 → i = false) → (∀ j, k = j + 1 → i = !gapc (A 26 j)) →
    ∃ u4', ab_ev gG true (d + 1) 113 18 [some (.inr (.inr (some b))), some (.inl (nI p)), some (.inl (nI q)), some (.inl (nI k)), u4] [] (TW B b I P A N) = ab_ev gG true (d + 1) 113 18 [some (.inr (.inr (some b))), some (.inl (nI (p + nls s))), some (.inl (nI (q + pcs i s))), some (.inl (nI n)), u4'] [] (TW B b I P A N) := by
  intro s
  induction s with
  | nil =>
    intro k i p q u4 hk hr h0 h1
    rw [List.length_nil] at hk
    rw [show k = n by omega]
    exact ⟨u4, rfl⟩
  | cons c s ih =>
    intro k i p q u4 hk hr h0 h1
    rw [List.length_cons] at hk
    have hc := hr.hd
    -- the letter
    have e1 : ab_ev gG true (d + 1) 113 18 [some (.inr (.inr (some b))), some (.inl (nI p)), some (.inl (nI q)), some (.inl (nI k)), u4] [] (TW B b I P A N) = ab_ev gG true (d + 1) 113 34 [some (.inr (.inr (some b))), some (.inl (nI p)), some (.inl (nI q)), some (.inl (nI k)), none] [.inl (nI (p + (if c = 10 then 1 else 0)))] (TW B b I P A N) := by
      rw [bl_113_18, tw_i38, Option.bind_some, hI, if_pos (nI_lt (by omega) (by omega)), tw_r37, Option.bind_some, Option.bind_some, tw_a26 (by omega), Option.bind_some, hc, nI_1]
      by_cases h10 : c = 10
      · rw [if_pos h10, if_pos h10]
      · rw [if_neg h10, if_neg h10]; rfl
    -- the one ahead
    have e2 : ∀ v : Int32, ab_ev gG true (d + 1) 113 34 [some (.inr (.inr (some b))), some (.inl (nI p)), some (.inl (nI q)), some (.inl (nI k)), none] [.inl v] (TW B b I P A N) = ab_ev gG true (d + 1) 113 57 [some (.inr (.inr (some b))), some (.inl v), some (.inl (nI q)), some (.inl (nI k)), none] [.inl (b01 (!i))] (TW B b I P A N) := fun v => by
      cases k with
      | zero => rw [h0 rfl, bl_113_34, if_pos (by decide)]; rfl
      | succ j =>
        rw [bl_113_34, if_neg (by rw [neq_0 (by omega)]; omega), tw_r37, Option.bind_some, Option.bind_some, nI_pred, tw_a26 (by omega), Option.bind_some, h1 j rfl, Bool.not_not]
        unfold gapc
        by_cases g1 : A 26 j = 10
        · rw [if_pos g1, show decide (A 26 j = 10) = true from decide_eq_true g1, Bool.true_or]; rfl
        · rw [if_neg g1, show decide (A 26 j = 10) = false from decide_eq_false g1, Bool.false_or, Option.bind_some, Option.bind_some, tw_a26 (by omega), Option.bind_some]
          by_cases g2 : A 26 j = 32
          · rw [if_pos g2, show decide (A 26 j = 32) = true from decide_eq_true g2]; rfl
          · rw [if_neg g2, show decide (A 26 j = 32) = false from decide_eq_false g2]; rfl
    have e3 : ∀ v : Int32, ∃ u, ab_ev gG true (d + 1) 113 57 [some (.inr (.inr (some b))), some (.inl v), some (.inl (nI q)), some (.inl (nI k)), none] [.inl (b01 (!i))] (TW B b I P A N) = ab_ev gG true (d + 1) 113 18 [some (.inr (.inr (some b))), some (.inl v), some (.inl (nI (q + (if gapc c = false ∧ i = false then 1 else 0)))), some (.inl (nI (k + 1))), u] [] (TW B b I P A N) := fun v => by
      rw [bl_113_57, tw_r37, Option.bind_some, Option.bind_some, tw_a26 (by omega), Option.bind_some, hc, nI_1, nI_1]
      cases i with
      | true => rw [if_pos (by decide), if_neg (fun h => by cases h.2)]; exact ⟨_, rfl⟩
      | false =>
        rw [if_neg (by decide)]
        unfold gapc
        by_cases g1 : c = 10
        · rw [if_pos g1, if_neg (fun h => by simp [g1] at h)]; exact ⟨_, rfl⟩
        · rw [if_neg g1, Option.bind_some, Option.bind_some, tw_a26 (by omega), Option.bind_some, hc]
          by_cases g2 : c = 32
          · rw [if_pos g2, if_neg (fun h => by simp [g2] at h)]; exact ⟨_, rfl⟩
          · rw [if_neg g2, if_pos (by simp [g1, g2])]; exact ⟨_, rfl⟩
    obtain ⟨u, e4⟩ := e3 (nI (p + (if c = 10 then 1 else 0)))
    obtain ⟨u', e5⟩ := ih (k + 1) (!gapc c) (p + (if c = 10 then 1 else 0)) (q + (if gapc c = false ∧ i = false then 1 else 0)) u (by omega) hr.tl (fun h => by omega) (fun j hj => by rw [show j = k by omega, hc])
    refine ⟨u', ?_⟩
    rw [e1, e2, e4, e5, nls, pcs, Nat.add_assoc, Nat.add_assoc]
/-- the three numbers -/
theorem wc_end (d : Nat) (hb : B.1.1 ≤ b) {pl : Nat} (hp : pl ≤ 96) {p q n : Nat} (h1 : p < 1000) (h2 : q < 1000) (h3 : n < 1000) (hn : I 38 = nI n) (hpl : I 2 = nI pl) (hE : twE pl [] I A) (u4 : Option ab_V) :
    ∃ I' A', ab_ev gG true (d + 2) 113 18 [some (.inr (.inr (some b))), some (.inl (nI p)), some (.inl (nI q)), some (.inl (nI n)), u4] [] (TW B b I P A N) = some (some (.inl 0), TW B b I' P A' N) ∧ fr [35, 36] I I' ∧ fr [25] A A' ∧ twE pl (dg p ++ 32 :: (dg q ++ 32 :: (dg n ++ [10]))) I' A' := by
  obtain ⟨I1, A1, a1, a2, a3, a4⟩ := tw_emitNumber (P := P) (N := N) d hb hpl hp h1 hE
  have p1 : I1 2 = nI pl := by rw [a2 _ rfl]; exact hpl
  obtain ⟨I2, A2, b1, b2, b3, b4⟩ := tw_emit (P := P) (N := N) (d + 1) hb p1 hp a4 32
  have p2 : I2 2 = nI pl := by rw [b2 _ rfl]; exact p1
  obtain ⟨I3, A3, c1, c2, c3, c4⟩ := tw_emitNumber (P := P) (N := N) d hb p2 hp h2 b4
  have p3 : I3 2 = nI pl := by rw [c2 _ rfl]; exact p2
  obtain ⟨I4, A4, d1, d2, d3, d4⟩ := tw_emit (P := P) (N := N) (d + 1) hb p3 hp c4 32
  have p4 : I4 2 = nI pl := by rw [d2 _ rfl]; exact p3
  have n4 : I4 38 = nI n := by rw [d2 _ rfl, c2 _ rfl, b2 _ rfl, a2 _ rfl]; exact hn
  obtain ⟨I5, A5, e1, e2, e3, e4⟩ := tw_emitNumber (P := P) (N := N) d hb p4 hp h3 d4
  have p5 : I5 2 = nI pl := by rw [e2 _ rfl]; exact p4
  obtain ⟨I6, A6, f1, f2, f3, f4⟩ := tw_emit (P := P) (N := N) (d + 1) hb p5 hp e4 10
  refine ⟨I6, A6, ?_, ((((a2.tr b2).tr c2).tr d2).tr e2).tr f2, ((((a3.tr b3).tr c3).tr d3).tr e3).tr f3, ?_⟩
  · rw [bl_113_18, tw_i38, Option.bind_some, hn, if_neg (nI_nlt (Nat.le_refl _) (by omega)), if_pos tw_isc, a1, qb_c0s, Option.bind_some, if_pos tw_isc, b1, qb_c0s, Option.bind_some, if_pos tw_isc, c1, qb_c0s, Option.bind_some, if_pos tw_isc, d1, qb_c0s, Option.bind_some, tw_i38, Option.bind_some, n4, if_pos tw_isc, e1, qb_c0s, Option.bind_some, if_pos tw_isc, f1, qb_c0s, Option.bind_some]
  · simpa only [List.append_assoc, List.cons_append, List.nil_append] using f4
theorem wc_go (d : Nat) (hb : B.1.1 ≤ b) {pl : Nat} (hp : pl ≤ 96) {t : List Int32} (hS : twS t I A) (hpl : I 2 = nI pl) (hE : twE pl [] I A) :
    ∃ I' A', ab_ev gG true (d + 2) 113 18 [some (.inr (.inr (some b))), some (.inl 0), some (.inl 0), some (.inl 0), none] [] (TW B b I P A N) = some (some (.inl 0), TW B b I' P A' N) ∧ fr [35, 36] I I' ∧ fr [25] A A' ∧ twE pl (wcS t) I' A' := by
  obtain ⟨s1, s2, s3, -, -⟩ := hS
  obtain ⟨u, e1⟩ := wc_lp (B := B) (b := b) (I := I) (P := P) (A := A) (N := N) (d + 1) s3 s1 t 0 false 0 0 none (by omega) s2 (fun _ => rfl) (fun j h => by omega)
  have h1 := nls_le t
  have h2 := pcs_le t false
  obtain ⟨I', A', e2, e3, e4, e5⟩ := wc_end (B := B) (b := b) (I := I) (P := P) (A := A) (N := N) d hb hp (p := 0 + nls t) (q := 0 + pcs false t) (n := t.length) (by omega) (by omega) (by omega) s1 hpl hE u
  refine ⟨I', A', e1.trans e2, e3, e4, ?_⟩
  rw [Nat.zero_add, Nat.zero_add] at e5
  exact e5
/-! ===== ls ===== -/
theorem be_lp (d : Nat) {r : sT} (hr : okT r) (hT : twW r A N) {dd : Nat} (hd : dd ≤ sN r) (hI : I 42 = nI dd) (m : Int64) (v3 : Int32) : ∀ (k x : Nat) (o : Option Nat) (u6 : Option ab_V), x + k = 13 → (∀ y, o = some y → y ≤ sN r) →
    ∃ u6', ab_ev gG true (d + 1) 115 52 [some (.inr (.inr (some b))), some (.inr (.inl m)), none, some (.inl v3), some (.inl (oI o)), some (.inl (nI x)), u6] [] (TW B b I P A N) = ab_ev gG true (d + 1) 115 52 [some (.inr (.inr (some b))), some (.inr (.inl m)), none, some (.inl v3), some (.inl (oI (beF r dd m k x o))), some (.inl (nI 13)), u6'] [] (TW B b I P A N) := by
  have hn := hr.n
  intro k
  induction k with
  | zero => intro x o u6 hx ho; rw [show x = 13 by omega]; exact ⟨u6, rfl⟩
  | succ k ih =>
    intro x o u6 hx ho
    have e1 : ab_ev gG true (d + 1) 115 52 [some (.inr (.inr (some b))), some (.inr (.inl m)), none, some (.inl v3), some (.inl (oI o)), some (.inl (nI x)), u6] [] (TW B b I P A N) = ab_ev gG true (d + 1) 115 78 [some (.inr (.inr (some b))), some (.inr (.inl m)), none, some (.inl v3), some (.inl (oI o)), some (.inl (nI x)), none] [.inl (b01 (decide (x ≤ sN r ∧ sP r x = dd ∧ m < sM r x)))] (TW B b I P A N) := by
      rw [bl_115_52, if_pos (by rw [nlt_13 (by omega)]; omega), tw_r3, Option.bind_some, Option.bind_some, tw_a1 (by omega), Option.bind_some, hT.1 x (by omega)]
      by_cases h : x ≤ sN r
      · obtain ⟨h1, h2, h3, h4, h5⟩ := hT.2 x h
        have hp := hr.p h
        rw [show decide (x ≤ sN r) = true from decide_eq_true h, if_neg (by decide), tw_r5, Option.bind_some, Option.bind_some, tw_a3 (by omega), Option.bind_some, h2, tw_i42, Option.bind_some, hI]
        by_cases hd2 : sP r x = dd
        · rw [if_pos (by rw [hd2]), tw_r6, Option.bind_some, Option.bind_some, tw_aN (by omega), Option.bind_some, h3]
          by_cases hm : m < sM r x
          · rw [if_pos ((lcmpp _ _).mpr hm), show decide (x ≤ sN r ∧ sP r x = dd ∧ m < sM r x) = true from decide_eq_true ⟨h, hd2, hm⟩]; rfl
          · rw [if_neg (fun e => hm ((lcmpp _ _).mp e)), show decide (x ≤ sN r ∧ sP r x = dd ∧ m < sM r x) = false from decide_eq_false (fun e => hm e.2.2)]; rfl
        · rw [if_neg (fun e => hd2 ((nI_eq (by omega) (by omega)).mp e)), show decide (x ≤ sN r ∧ sP r x = dd ∧ m < sM r x) = false from decide_eq_false (fun e => hd2 e.2.1)]; rfl
      · rw [show decide (x ≤ sN r) = false from decide_eq_false h, if_pos b01_f, show decide (x ≤ sN r ∧ sP r x = dd ∧ m < sM r x) = false from decide_eq_false (fun e => h e.1)]; rfl
    rw [e1, beF, bl_115_78, nI_1]
    by_cases hc : x ≤ sN r ∧ sP r x = dd ∧ m < sM r x
    · rw [show decide (x ≤ sN r ∧ sP r x = dd ∧ m < sM r x) = true from decide_eq_true hc, if_neg (by decide)]
      obtain ⟨c1, c2, c3⟩ := hc
      obtain ⟨h1, h2, h3, h4, h5⟩ := hT.2 x c1
      cases o with
      | none =>
        rw [if_pos (show oI none < 0 from by decide), if_pos ⟨c1, c2, c3, rfl⟩]
        exact ih (x + 1) (some x) _ (by omega) (fun y e => by cases e; exact c1)
      | some y =>
        have hy := ho y rfl
        obtain ⟨-, -, k3, -, -⟩ := hT.2 y hy
        rw [if_neg (show ¬ oI (some y) < 0 from nI_pos (by omega)), tw_r6, Option.bind_some, Option.bind_some, tw_aN (by omega), Option.bind_some, Option.bind_some, Option.bind_some, show oI (some y) = nI y from rfl, tw_aN (by omega), Option.bind_some, h3, k3]
        by_cases hl : sM r x < sM r y
        · rw [if_pos ((lcmpn _ _).mpr hl), if_pos ⟨c1, c2, c3, decide_eq_true hl⟩]
          exact ih (x + 1) (some x) _ (by omega) (fun y e => by cases e; exact c1)
        · rw [if_neg (fun e => hl ((lcmpn _ _).mp e)), if_neg (fun e => hl (of_decide_eq_true e.2.2.2))]
          exact ih (x + 1) (some y) _ (by omega) ho
    · rw [show decide (x ≤ sN r ∧ sP r x = dd ∧ m < sM r x) = false from decide_eq_false hc, if_pos b01_f, if_neg (fun e => hc ⟨e.1, e.2.1, e.2.2.1⟩)]
      exact ih (x + 1) o _ (by omega) ho
/-- an entry is put out -/
theorem ls_ent (d : Nat) (hb : B.1.1 ≤ b) {pl : Nat} (hp : pl ≤ 96) {r : sT} (hr : okT r) (hT : twW r A N) {x : Nat} (hx : x ≤ sN r) (hpl : I 2 = nI pl) {l : List Int32} (hE : twE pl l I A) (m : Int64) (v3 : Int32) (u6 : Option ab_V) :
    ∃ I' A' u4 u5, ab_ev gG true (d + 2) 115 52 [some (.inr (.inr (some b))), some (.inr (.inl m)), none, some (.inl v3), some (.inl (nI x)), some (.inl (nI 13)), u6] [] (TW B b I P A N) = ab_ev gG true (d + 2) 115 44 [some (.inr (.inr (some b))), some (.inr (.inl (sM r x))), none, some (.inl (v3 + 1)), u4, u5, none] [] (TW B b I' P A' N) ∧ fr [35, 36] I I' ∧ fr [25] A A' ∧ twE pl (l ++ entS r x) I' A' := by
  have hn := hr.n
  obtain ⟨h1, h2, h3, h4, h5⟩ := hT.2 x hx
  obtain ⟨I1, A1, a1, a2, a3, a4⟩ := tw_emitName (P := P) (N := N) d hb hpl hp (sM r x) hE
  have p1 : I1 2 = nI pl := by rw [a2 _ rfl]; exact hpl
  have d1 : A1 2 x = b01 (sD r x) := by rw [a3 _ rfl]; exact h1
  unfold entS
  cases hD : sD r x with
  | false =>
    obtain ⟨I2, A2, b1, b2, b3, b4⟩ := tw_emit (P := P) (N := N) (d + 1) hb p1 hp a4 10
    refine ⟨I2, A2, some (.inl (nI x)), some (.inl (nI 13)), ?_, a2.tr b2, a3.tr b3, by rw [List.append_assoc] at b4; exact b4⟩
    rw [bl_115_52, if_neg (by decide), if_neg (nI_pos (by omega)), tw_r6, Option.bind_some, Option.bind_some, tw_aN (by omega), Option.bind_some, if_pos tw_isc, h3, a1, qb_c0s, Option.bind_some, tw_r4, Option.bind_some, Option.bind_some, tw_a2 (by omega), Option.bind_some, d1, hD, if_pos b01_f, if_pos tw_isc, b1, qb_c0s, Option.bind_some]
  | true =>
    obtain ⟨I2, A2, b1, b2, b3, b4⟩ := tw_emit (P := P) (N := N) (d + 1) hb p1 hp a4 47
    have p2 : I2 2 = nI pl := by rw [b2 _ rfl]; exact p1
    obtain ⟨I3, A3, c1, c2, c3, c4⟩ := tw_emit (P := P) (N := N) (d + 1) hb p2 hp b4 10
    refine ⟨I3, A3, some (.inl (nI x)), some (.inl (nI 13)), ?_, (a2.tr b2).tr c2, (a3.tr b3).tr c3, by rw [List.append_assoc, List.append_assoc] at c4; exact c4⟩
    rw [bl_115_52, if_neg (by decide), if_neg (nI_pos (by omega)), tw_r6, Option.bind_some, Option.bind_some, tw_aN (by omega), Option.bind_some, if_pos tw_isc, h3, a1, qb_c0s, Option.bind_some, tw_r4, Option.bind_some, Option.bind_some, tw_a2 (by omega), Option.bind_some, d1, hD, if_neg (by decide), if_pos tw_isc, b1, qb_c0s, Option.bind_some, if_pos tw_isc, c1, qb_c0s, Option.bind_some]
theorem lsF_none {r : sT} {d : Nat} {m : Int64} (h : beS r d m = none) : ∀ k, lsF r d k m = [] := by
  intro k
  cases k with
  | zero => rfl
  | succ k => rw [lsF, h]
theorem ls_lp (d : Nat) (hb : B.1.1 ≤ b) {pl : Nat} (hp : pl ≤ 96) {r : sT} (hr : okT r) {dd : Nat} (hd : dd ≤ sN r) : ∀ (k t : Nat) (m : Int64) (I : Nat → Int32) (A : Nat → Nat → Int32) (l : List Int32) (u4 u5 : Option ab_V), t + k = 12 → twW r A N → I 42 = nI dd → I 2 = nI pl → twE pl l I A →
    ∃ I' A', ab_ev gG true (d + 2) 115 44 [some (.inr (.inr (some b))), some (.inr (.inl m)), none, some (.inl (nI t)), u4, u5, none] [] (TW B b I P A N) = some (some (.inl 0), TW B b I' P A' N) ∧ fr [35, 36] I I' ∧ fr [25] A A' ∧ twE pl (l ++ lsF r dd k m) I' A' := by
  intro k
  induction k with
  | zero =>
    intro t m I A l u4 u5 ht hT hI hpl hE
    refine ⟨I, A, ?_, fr.rf, fr.rf, by rw [lsF, List.append_nil]; exact hE⟩
    rw [bl_115_44, if_neg (by rw [nlt_12 (by omega)]; omega)]
  | succ k ih =>
    intro t m I A l u4 u5 ht hT hI hpl hE
    obtain ⟨u6, e1⟩ := be_lp (B := B) (b := b) (P := P) (d + 1) hr hT hd hI m (nI t) 12 1 none none rfl (fun y e => by cases e)
    have e0 : ab_ev gG true (d + 2) 115 44 [some (.inr (.inr (some b))), some (.inr (.inl m)), none, some (.inl (nI t)), u4, u5, none] [] (TW B b I P A N) = _ := (by rw [bl_115_44, if_pos (by rw [nlt_12 (by omega)]; omega)]; rfl : _ = _).trans e1
    rw [show beF r dd m 12 1 none = beS r dd m from rfl] at e0
    cases hbe : beS r dd m with
    | none =>
      rw [hbe] at e0
      rw [lsF_none hbe]
      obtain ⟨I', A', c1, c2, c3, c4⟩ := ih (t + 1) m I A l (some (.inl (-1))) (some (.inl (nI 13))) (by omega) hT hI hpl hE
      rw [lsF_none hbe] at c4
      refine ⟨I', A', ?_, c2, c3, c4⟩
      rw [e0, bl_115_52, if_neg (by decide), if_pos (by decide), nI_1]
      exact c1
    | some x =>
      rw [hbe] at e0
      have hx := ((beS_is hr dd m).2 x hbe).2.1
      obtain ⟨I1, A1, v4, v5, b1, b2, b3, b4⟩ := ls_ent (B := B) (b := b) (P := P) d hb hp hr hT hx hpl hE m (nI t) u6
      rw [nI_1] at b1
      obtain ⟨I2, A2, c1, c2, c3, c4⟩ := ih (t + 1) (sM r x) I1 A1 _ v4 v5 (by omega) (hT.fr b3 rfl) (by rw [b2 _ rfl]; exact hI) (by rw [b2 _ rfl]; exact hpl) b4
      refine ⟨I2, A2, e0.trans (b1.trans c1), b2.tr c2, b3.tr c3, ?_⟩
      rw [lsF, hbe]
      rw [List.append_assoc] at c4
      exact c4
/-- from pathNode on -/
theorem ls_go (d : Nat) (hb : B.1.1 ≤ b) {pl : Nat} (hp : pl ≤ 96) {r : sT} (hr : okT r) (hT : twW r A N) {x : Nat} (hx : x ≤ sN r) (hI : I 42 = nI x) (hpl : I 2 = nI pl) (hE : twE pl [] I A) :
    ∃ I' A', ab_ev gG true (d + 2) 115 17 [some (.inr (.inr (some b))), none, none, none, none, none, none] [] (TW B b I P A N) = some (some (.inl 0), TW B b I' P A' N) ∧ fr [35, 36] I I' ∧ fr [25] A A' ∧ twE pl (lsS r x) I' A' := by
  have hn := hr.n
  obtain ⟨h1, h2, h3, h4, h5⟩ := hT.2 x hx
  rw [bl_115_17, tw_i42, Option.bind_some, hI, if_neg (nI_pos (by omega)), tw_r4, Option.bind_some, Option.bind_some, Option.bind_some, tw_a2 (by omega), Option.bind_some, h1]
  unfold lsS
  cases hD : sD r x with
  | true =>
    rw [if_neg (by decide), if_pos rfl]
    exact ls_lp (B := B) (b := b) (P := P) d hb hp hr hx 12 0 0 I A [] none none rfl hT hI hpl hE
  | false =>
    obtain ⟨I1, A1, a1, a2, a3, a4⟩ := tw_emitName (P := P) (N := N) d hb hpl hp (sM r x) hE
    have p1 : I1 2 = nI pl := by rw [a2 _ rfl]; exact hpl
    obtain ⟨I2, A2, b1, b2, b3, b4⟩ := tw_emit (P := P) (N := N) (d + 1) hb p1 hp a4 10
    refine ⟨I2, A2, ?_, a2.tr b2, a3.tr b3, ?_⟩
    · rw [if_pos b01_f, tw_r6, Option.bind_some, Option.bind_some, Option.bind_some, tw_aN (by omega), Option.bind_some, if_pos tw_isc, h3, a1, qb_c0s, Option.bind_some, if_pos tw_isc, b1, qb_c0s, Option.bind_some]
    · unfold entS
      rw [hD]
      rw [List.append_assoc] at b4
      exact b4
end
