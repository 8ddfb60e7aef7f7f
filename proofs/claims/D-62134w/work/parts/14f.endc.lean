/-! ===== the twin: goOn, endCommand, closeGroup ===== -/
/-- behind a pipeline: the place, and whether a pipeline begins there -/
def goS (Z : sL) (G : Nat → Option Nat) (n : Nat) : Nat → Nat → Nat → Nat × Bool
  | 0, t, _ => (t, false)
  | f + 1, t, st => if (Z.2.1 t = 2 ∧ st ≠ 0) ∨ (Z.2.1 t = 3 ∧ st = 0) then goS Z G n f (endP Z G (t + 1)) st else if Z.2.1 t = 2 ∨ Z.2.1 t = 3 then (t + 1, true) else if Z.2.1 t = 1 then (t + 1, decide (t + 1 < n ∧ Z.2.1 (t + 1) ≠ 9)) else (t, false)
theorem pP_inv {K : Nat → Nat} {n : Nat} (hK : okK K n) {r t t' : Nat} (ht : t ≤ n) (e : pP K 100 (pG K 100 r) t = some t') : ∃ tc, pC K 100 (pG K 100 r) (if K t = 10 then t + 1 else t) = some tc ∧ pB K 100 (pG K 100 r) 100 tc = some t' ∧ t < n ∧ t' ≤ n ∧ (if K t = 10 then t + 1 else t) ≤ n ∧ t < t' := by
  unfold pP at e
  cases hp : pC K 100 (pG K 100 r) (if K t = 10 then t + 1 else t) with
  | none => rw [hp] at e; cases e
  | some tc =>
    rw [hp] at e
    have hi : (if K t = 10 then t + 1 else t) ≤ n := by
      split
      · rename_i h; have := hK.lt (t := t) (by omega); omega
      · exact ht
    obtain ⟨w', -, -, -, q4, q5⟩ := pC_inv hK hi hp
    have hb : ∀ (f t t' : Nat), t ≤ n → pB K 100 (pG K 100 r) f t = some t' → t' ≤ n := by
      intro f
      induction f with
      | zero => intro t t' _ e; cases e
      | succ f ih =>
        intro t t' ht e
        rw [pB] at e
        split at e
        · rename_i h4
          cases hq : pC K 100 (pG K 100 r) (t + 1) with
          | none => rw [hq] at e; cases e
          | some t2 =>
            rw [hq] at e
            have := hK.lt (t := t) (by omega)
            obtain ⟨w2, -, -, -, a4, a5⟩ := pC_inv hK (by omega) hq
            exact ih _ _ a5 e
        · cases e; exact ht
    have hle := pB_le (pG_lt r) _ _ _ e
    exact ⟨tc, rfl, e, by split at q4 <;> omega, hb _ _ _ q5 e, hi, by split at q4 <;> omega⟩
section
variable {B : ab_H} {b : Nat} {I : Nat → Int32} {P : Int64} {A : Nat → Nat → Int32} {N : Nat → Int64} {Z : sL} {n : Nat} {fa : Nat → Nat} {lv : Nat} {s : sS}
/-- what goOn leaves at the level -/
def twG (Z : sL) (n lv : Nat) (g : Nat × Bool) (A : Nat → Nat → Int32) (I' : Nat → Int32) (A' : Nat → Nat → Int32) : Prop := (g.2 = false → I' 22 = nI g.1 ∧ A' = A) ∧ (g.2 = true → g.1 < n ∧ I' 22 = nI (if Z.2.1 g.1 = 10 then g.1 + 1 else g.1) ∧ A' 20 lv = b01 (decide (Z.2.1 g.1 = 10)) ∧ A' 19 lv = b01 (decide (Z.2.1 (peA Z.2.1 n true 0 (if Z.2.1 g.1 = 10 then g.1 + 1 else g.1)) = 4)) ∧ A' 16 lv = A 14 lv) ∧ ∀ j, j ≠ lv → A' 20 j = A 20 j ∧ A' 19 j = A 19 j ∧ A' 16 j = A 16 j
theorem tw_goOn (d : Nat) (hb : B.1.1 ≤ b) (hk : tkR n Z.2.1 Z.2.2 fa) (hl2 : lv < 5) {r t1 : Nat} (h1 : Z.2.1 t1 = 1 ∨ Z.2.1 t1 = 9 ∨ Z.2.1 t1 = 11) (hst : s.2.2.1 < 1000) : ∀ (f t : Nat) (I : Nat → Int32), pO Z.2.1 100 (pG Z.2.1 100 r) f t = some t1 → t ≤ n → RT Z n fa lv s I A N → I 22 = nI t →
    ∃ I' A', ab_cl gG true (d + 2) 95 [.inr (.inr (some b))] (TW B b I P A N) = some (none, TW B b I' P A' N) ∧ fr [22] I I' ∧ fr [20, 19, 16] A A' ∧ twG Z n lv (goS Z (pG Z.2.1 100 r) n f t s.2.2.1) A I' A' := by
  have hn := hk.2.1
  have hK := hk.1
  intro f
  induction f with
  | zero => intro t I e; cases e
  | succ f ih =>
    intro t I e ht hR hp
    have ek : ∀ (I : Nat → Int32) (A : Nat → Nat → Int32) (t : Nat), twTk n Z.2.1 Z.2.2 fa I A → t < 1000 → ab_cl gG true (d + 1) 76 [.inr (.inr (some b)), .inl (nI t)] (TW B b I P A N) = some (some (.inl (kI Z.2.1 n t)), TW B b I P A N) := fun I A t hT ht => tw_kindAt (d + 1) hn hT ht
    have k2 : kI Z.2.1 n t = (2 : Int32) ↔ Z.2.1 t = 2 := kI_eq hK t (c := 2) (by omega)
    have k3 : kI Z.2.1 n t = (3 : Int32) ↔ Z.2.1 t = 3 := kI_eq hK t (c := 3) (by omega)
    have k1 : kI Z.2.1 n t = (1 : Int32) ↔ Z.2.1 t = 1 := kI_eq hK t (c := 1) (by omega)
    rw [pO] at e
    rw [goS]
    by_cases hsk : (Z.2.1 t = 2 ∧ s.2.2.1 ≠ 0) ∨ (Z.2.1 t = 3 ∧ s.2.2.1 = 0)
    · rw [if_pos hsk]
      rw [if_pos (by omega)] at e
      cases hp1 : pP Z.2.1 100 (pG Z.2.1 100 r) (t + 1) with
      | none => rw [hp1] at e; cases e
      | some te =>
        rw [hp1] at e
        dsimp only at e
        have htn : t < n := hK.lt (by omega)
        obtain ⟨tc, -, -, q1, q2, -, q3⟩ := pP_inv hK (by omega) hp1
        have hte : Z.2.1 te = 1 ∨ Z.2.1 te = 2 ∨ Z.2.1 te = 3 ∨ Z.2.1 te = 9 ∨ Z.2.1 te = 11 := by
          cases f with
          | zero => cases e
          | succ f =>
            rw [pO] at e
            split at e
            · omega
            · cases e; omega
        have hpe := pP_end hK hp1 hte
        have heP : endP Z (pG Z.2.1 100 r) (t + 1) = te := by unfold endP; rw [hp1]; rfl
        rw [heP]
        obtain ⟨I1, A1, g1, g2, g3, g4⟩ := ih te (ab_up I 22 (nI te)) e q2 (hR.kp (S := [22]) (T := []) (fr.up fr.rf _ rfl) fr.rf rfl rfl) (ab_up_e _ _ _)
        refine ⟨I1, A1, ?_, (fr.up fr.rf _ rfl : fr [22] I (ab_up I 22 (nI te))).tr g2, g3, g4⟩
        have epe := tw_pe (B := B) (b := b) (P := P) (N := N) (d + 1) hK hn hR.1 false (show t + 1 ≤ n by omega)
        rw [hpe] at epe
        have epe : ab_cl gG true (d + 1) 89 [.inr (.inr (some b)), .inl (nI (t + 1)), .inl (0 : Int32)] (TW B b I P A N) = some (some (.inl (nI te)), TW B b I P A N) := epe
        have e9 : Z.2.1 t = 3 → s.2.2.1 = 0 → ab_ev gG true (d + 1 + 1) 95 9 [some (.inr (.inr (some b))), none, none] [] (TW B b I P A N) = ab_ev gG true (d + 1 + 1) 95 0 [some (.inr (.inr (some b))), none, none] [] (TW B b (ab_up I 22 (nI te)) P A N) := fun h3 hs0 => by
          rw [bl_95_9, tw_i22, Option.bind_some, hp, if_pos tw_isc, ek I A t hR.1 (by omega), qb_c1s, Option.bind_some]
          dsimp only
          rw [if_pos (k3.mpr h3), tw_i45, Option.bind_some, hR.2.2.2.1, if_pos (by rw [hs0]; rfl), tw_i22, Option.bind_some, hp, if_pos tw_isc, nI_1, epe, qb_c1s, Option.bind_some]
          dsimp only
          rw [tw_w22 hb, Option.bind_some]
        rw [ent_95, ← g1, ent_95, bl_95_0, tw_i22, Option.bind_some, hp, if_pos tw_isc, ek I A t hR.1 (by omega), qb_c1s, Option.bind_some]
        dsimp only
        rcases hsk with ⟨h2, hs0⟩ | ⟨h3, hs0⟩
        · rw [if_pos (k2.mpr h2), tw_i45, Option.bind_some, hR.2.2.2.1, if_neg (fun e => hs0 ((neq_0 (by omega)).mp e)), tw_i22, Option.bind_some, hp, if_pos tw_isc, nI_1, epe, qb_c1s, Option.bind_some]
          dsimp only
          rw [tw_w22 hb, Option.bind_some]
        · rw [if_neg (fun e => by have := k2.mp e; omega)]
          exact e9 h3 hs0
    · rw [if_neg hsk]
      -- to the place 28
      have e28 : ab_cl gG true (d + 2) 95 [.inr (.inr (some b))] (TW B b I P A N) = ab_ev gG true (d + 1 + 1) 95 28 [some (.inr (.inr (some b))), none, none] [] (TW B b I P A N) := by
        have e9 : ab_ev gG true (d + 1 + 1) 95 9 [some (.inr (.inr (some b))), none, none] [] (TW B b I P A N) = ab_ev gG true (d + 1 + 1) 95 28 [some (.inr (.inr (some b))), none, none] [] (TW B b I P A N) := by
          rw [bl_95_9, tw_i22, Option.bind_some, hp, if_pos tw_isc, ek I A t hR.1 (by omega), qb_c1s, Option.bind_some]
          dsimp only
          by_cases h3 : Z.2.1 t = 3
          · rw [if_pos (k3.mpr h3), tw_i45, Option.bind_some, hR.2.2.2.1, if_neg (fun e => hsk (Or.inr ⟨h3, (neq_0 (by omega)).mp e⟩))]
          · rw [if_neg (fun e => h3 (k3.mp e))]
        rw [ent_95, bl_95_0, tw_i22, Option.bind_some, hp, if_pos tw_isc, ek I A t hR.1 (by omega), qb_c1s, Option.bind_some]
        dsimp only
        by_cases h2 : Z.2.1 t = 2
        · have hs0 : s.2.2.1 = 0 := Classical.byContradiction fun h => hsk (Or.inl ⟨h2, h⟩)
          rw [if_pos (k2.mpr h2), tw_i45, Option.bind_some, hR.2.2.2.1, if_pos (by rw [hs0]; rfl)]
          exact e9
        · rw [if_neg (fun e => h2 (k2.mp e))]
          exact e9
      -- a pipeline begins at t'
      have start : ∀ t', t' < n → ∃ I' A', ab_cl gG true (d + 1) 73 [.inr (.inr (some b))] (TW B b (ab_up I 22 (nI t')) P A N) = some (none, TW B b I' P A' N) ∧ fr [22] I I' ∧ fr [20, 19, 16] A A' ∧ twG Z n lv (t', true) A I' A' := fun t' ht' => by
        obtain ⟨I3, A3, e3, g1, g2, g3, g4, g5, g6, g7⟩ := tw_startP (B := B) (b := b) (P := P) (N := N) (I := ab_up I 22 (nI t')) d hb hK hn (hR.1.cg (ab_up_n _ _ (by decide)) rfl rfl rfl rfl) (lv := lv) (t := t') (by rw [ab_up_n _ _ (by decide)]; exact hR.2.2.2.2.2.1) hl2 (ab_up_e _ _ _) ht'
        exact ⟨I3, A3, e3, (fr.up fr.rf _ rfl : fr [22] I (ab_up I 22 (nI t'))).tr g1, g2, fun e => (by cases e), fun _ => ⟨ht', g3, g4, g5, g6⟩, g7⟩
      by_cases h23 : Z.2.1 t = 2 ∨ Z.2.1 t = 3
      · rw [if_pos h23]
        rw [if_pos h23] at e
        cases hp1 : pP Z.2.1 100 (pG Z.2.1 100 r) (t + 1) with
        | none => rw [hp1] at e; cases e
        | some te =>
          have htn : t < n := hK.lt (by omega)
          obtain ⟨tc, -, -, q1, q2, -, q3⟩ := pP_inv hK (by omega) hp1
          obtain ⟨I', A', s1, s2, s3, s4⟩ := start (t + 1) q1
          refine ⟨I', A', ?_, s2, s3, s4⟩
          rw [e28, bl_95_28, tw_i22, Option.bind_some, hp, if_pos tw_isc, ek I A t hR.1 (by omega), qb_c1s, Option.bind_some]
          dsimp only
          rw [if_neg (fun e => by have := k1.mp e; omega), bl_95_42]
          have e66 : ab_ev gG true (d + 1 + 1) 95 66 [some (.inr (.inr (some b))), some (.inl (kI Z.2.1 n t)), none] [.inl 1] (TW B b I P A N) = some (none, TW B b I' P A' N) := by
            rw [bl_95_66, if_neg (by decide), if_neg (fun e => by have := k1.mp e; omega), tw_i22, Option.bind_some, hp, nI_1, tw_w22 hb, Option.bind_some, if_pos tw_isc, s1, qb_c0s, Option.bind_some]
          rcases h23 with h2 | h3
          · rw [if_pos (k2.mpr h2)]; exact e66
          · rw [if_neg (fun e => by have := k2.mp e; omega), if_pos (k3.mpr h3)]; exact e66
      · rw [if_neg h23]
        have hn2 : ¬ kI Z.2.1 n t = (2 : Int32) := fun e => h23 (Or.inl (k2.mp e))
        have hn3 : ¬ kI Z.2.1 n t = (3 : Int32) := fun e => h23 (Or.inr (k3.mp e))
        by_cases h11 : Z.2.1 t = 1
        · rw [if_pos h11]
          have htn : t < n := hK.lt (by omega)
          have hk1 : kI Z.2.1 n t = 1 := k1.mpr h11
          have e42 : ab_cl gG true (d + 2) 95 [.inr (.inr (some b))] (TW B b I P A N) = ab_ev gG true (d + 1 + 1) 95 42 [some (.inr (.inr (some b))), some (.inl 1), none] [] (TW B b (ab_up I 22 (nI (t + 1))) P A N) := by
            rw [e28, bl_95_28, tw_i22, Option.bind_some, hp, if_pos tw_isc, ek I A t hR.1 (by omega), qb_c1s, Option.bind_some]
            dsimp only
            rw [if_pos hk1, tw_i22, Option.bind_some, hp, nI_1, tw_w22 hb, Option.bind_some, hk1]
          have hT1 : twTk n Z.2.1 Z.2.2 fa (ab_up I 22 (nI (t + 1))) A := hR.1.cg (ab_up_n _ _ (by decide)) rfl rfl rfl rfl
          rw [bl_95_42, if_neg (by decide), if_neg (by decide), if_pos rfl, tw_i22, Option.bind_some, ab_up_e, tw_i12, Option.bind_some, hT1.1] at e42
          by_cases hm : t + 1 < n ∧ Z.2.1 (t + 1) ≠ 9
          · rw [decide_eq_true hm]
            obtain ⟨I', A', s1, s2, s3, s4⟩ := start (t + 1) hm.1
            refine ⟨I', A', ?_, s2, s3, s4⟩
            have hk10 := (hK (t + 1)).1 hm.1
            rw [e42, if_pos (nI_lt hm.1 (by omega)), tw_r13, Option.bind_some, Option.bind_some, Option.bind_some, tw_a8 (by omega), Option.bind_some, (hT1.2 (t + 1) hm.1).1, if_neg (fun e => hm.2 ((neq_9 (by omega)).mp e)), bl_95_66, if_neg (by decide), if_pos rfl, tw_i22, Option.bind_some, ab_up_e, tw_w22 hb, Option.bind_some, ab_up_u, if_pos tw_isc, s1, qb_c0s, Option.bind_some]
          · rw [decide_eq_false hm]
            refine ⟨ab_up I 22 (nI (t + 1)), A, ?_, fr.up fr.rf _ rfl, fr.rf, fun _ => ⟨ab_up_e _ _ _, rfl⟩, fun e => (by cases e), fun j _ => ⟨rfl, rfl, rfl⟩⟩
            rw [e42]
            by_cases hlt : t + 1 < n
            · have h9 : Z.2.1 (t + 1) = 9 := Classical.byContradiction fun h => hm ⟨hlt, h⟩
              rw [if_pos (nI_lt hlt (by omega)), tw_r13, Option.bind_some, Option.bind_some, Option.bind_some, tw_a8 (by omega), Option.bind_some, (hT1.2 (t + 1) hlt).1, if_pos ((neq_9 (by omega)).mpr h9), bl_95_66, if_pos rfl]
            · rw [if_neg (nI_nlt (by omega) (by omega)), bl_95_66, if_pos rfl]
        · rw [if_neg h11]
          have hn1 : ¬ kI Z.2.1 n t = (1 : Int32) := fun e => h11 (k1.mp e)
          refine ⟨I, A, ?_, fr.rf, fr.rf, fun _ => ⟨hp, rfl⟩, fun e => (by cases e), fun j _ => ⟨rfl, rfl, rfl⟩⟩
          rw [e28, bl_95_28, tw_i22, Option.bind_some, hp, if_pos tw_isc, ek I A t hR.1 (by omega), qb_c1s, Option.bind_some]
          dsimp only
          rw [if_neg hn1, bl_95_42, if_neg hn2, if_neg hn3, if_neg hn1, bl_95_66, if_pos rfl]
/-- endCommand, up to the store -/
theorem ec_sto (d : Nat) (hb : B.1.1 ≤ b) (hZ : okZ Z) (hl2 : lv < 5) {r1 : sT} {h1 st1 rn1 : Nat} (hR : RT Z n fa lv (r1, h1, st1, rn1) I A N) (hr1 : okT r1) (hC1 : sC r1 ≤ Z.1.2.1) {x : List Int32} (hx : x.length ≤ Z.1.2.2) (h35 : I 35 = nI x.length) (hrx : rdl (A 25) 0 x) {tg : Option Nat} (htg : A 17 lv = oI tg) (htg2 : ∀ y, tg = some y → y ≤ sN r1) {bk : Nat} (hbk : A 18 lv = nI bk) {mn g : Bool} (hmn : A 19 lv = b01 mn) (code : Int32) (cd : Nat) (ii : List Int32) (h2 : Nat) (hh2 : h2 = if g = true ∨ mn = true then bk else h1) (v : sR) (hv : v = stoS Z tg (false, (r1, h2, st1, rn1), cd, x, ii)) :
    ∃ I' A', fr [9, 35] I I' ∧ fr [6, 5] A A' ∧ RT Z n fa lv v.2.1 I' A' N ∧ I' 9 = nI h2 ∧
      ((v.1 = true ∧ ab_cl gG true (d + 3) 75 [.inr (.inr (some b)), .inl code, .inl (b01 g)] (TW B b I P A N) = some (some (.inl 0), TW B b I' P A' N)) ∨
       (v.1 = false ∧ ab_cl gG true (d + 3) 75 [.inr (.inr (some b)), .inl code, .inl (b01 g)] (TW B b I P A N) = ab_ev gG true (d + 3) 75 34 [some (.inr (.inr (some b))), some (.inl code), some (.inl (b01 g)), none] [] (TW B b I' P A' N) ∧ I' 35 = nI v.2.2.2.1.length ∧ rdl (A' 25) 0 v.2.2.2.1)) := by
  obtain ⟨q1, q2, q3, q4, q5, q6, q7, q8, q9⟩ := id hR
  have hn := hr1.n
  -- here
  have e0 : ∃ I1, fr [9] I I1 ∧ I1 9 = nI h2 ∧ ab_cl gG true (d + 3) 75 [.inr (.inr (some b)), .inl code, .inl (b01 g)] (TW B b I P A N) = ab_ev gG true (d + 3) 75 15 [some (.inr (.inr (some b))), some (.inl code), some (.inl (b01 g)), none] [] (TW B b I1 P A N) := by
    rw [ent_75, bl_75_0]
    cases g with
    | true =>
      rw [if_neg (by decide), tw_r27, Option.bind_some, tw_i21, Option.bind_some, Option.bind_some, q6, tw_a18 hl2, Option.bind_some, hbk, tw_w9 hb, Option.bind_some]
      rw [if_pos (Or.inl rfl)] at hh2
      rw [hh2]
      exact ⟨_, fr.up fr.rf _ rfl, ab_up_e _ _ _, rfl⟩
    | false =>
      rw [if_pos b01_f, tw_r28, Option.bind_some, tw_i21, Option.bind_some, Option.bind_some, q6, tw_a19 hl2, Option.bind_some, hmn]
      cases mn with
      | true =>
        rw [if_neg (by decide), tw_r27, Option.bind_some, Option.bind_some, Option.bind_some, tw_a18 hl2, Option.bind_some, hbk, tw_w9 hb, Option.bind_some]
        rw [if_pos (Or.inr rfl)] at hh2
        rw [hh2]
        exact ⟨_, fr.up fr.rf _ rfl, ab_up_e _ _ _, rfl⟩
      | false =>
        rw [if_pos b01_f]
        rw [if_neg (by decide)] at hh2
        rw [hh2]
        exact ⟨I, fr.rf, q3, rfl⟩
  obtain ⟨I1, f1, p1, e1⟩ := e0
  have hR1 : RT Z n fa lv (r1, h2, st1, rn1) I1 A N := ⟨q1.cg (f1 _ rfl) rfl rfl rfl rfl, q2, p1, by rw [f1 _ rfl]; exact q4, by rw [f1 _ rfl]; exact q5, by rw [f1 _ rfl]; exact q6, ⟨by rw [f1 _ rfl]; exact q7.1, by rw [f1 _ rfl]; exact q7.2⟩, by rw [f1 _ rfl]; exact q8, by rw [f1 _ rfl]; exact q9⟩
  have h35' : I1 35 = nI x.length := by rw [f1 _ rfl]; exact h35
  have q6' : I1 21 = nI lv := by rw [f1 _ rfl]; exact q6
  have hz := hZ.2.1
  have hpl := hZ.2.2.1
  rw [bl_75_15, tw_r26, Option.bind_some, tw_i21, Option.bind_some, Option.bind_some, q6', tw_a17 hl2, Option.bind_some, htg] at e1
  unfold stoS at hv
  dsimp only at hv
  rw [if_neg (by decide)] at hv
  cases tg with
  | none =>
    rw [if_pos (by decide)] at e1
    rw [hv]
    exact ⟨I1, A, f1.mo rfl, fr.rf, hR1, p1, Or.inr ⟨rfl, e1, h35', hrx⟩⟩
  | some y =>
    have hy := htg2 y rfl
    rw [if_neg (show ¬ oI (some y) < 0 from nI_pos (by omega)), Option.bind_some, Option.bind_some, Option.bind_some, tw_a17 hl2, Option.bind_some, htg, if_pos tw_isc] at e1
    dsimp only at hv
    obtain ⟨a1, a2⟩ := tw_addTo (B := B) (b := b) (P := P) (N := N) (d + 1) hb hr1 q2 (cl := Z.1.2.1) (by rw [f1 _ rfl]; exact q8) hz hy h35' (by omega) hrx (by omega)
    by_cases hc : Z.1.2.1 < sC r1 + x.length
    · rw [show ab_cl gG true (d + 2) 93 [.inr (.inr (some b)), .inl (oI (some y))] (TW B b I1 P A N) = _ from a1 hc, qb_c1s, Option.bind_some] at e1
      dsimp only at e1
      rw [if_pos rfl] at e1
      rw [if_pos hc] at hv
      rw [hv]
      exact ⟨I1, A, f1.mo rfl, fr.rf, hR1, p1, Or.inl ⟨rfl, e1⟩⟩
    · obtain ⟨A2, b1, b2, b3⟩ := a2 (by omega)
      rw [show ab_cl gG true (d + 2) 93 [.inr (.inr (some b)), .inl (oI (some y))] (TW B b I1 P A N) = _ from b1, qb_c1s, Option.bind_some] at e1
      dsimp only at e1
      rw [if_neg (by decide), tw_w35 hb, Option.bind_some] at e1
      rw [if_neg hc] at hv
      rw [hv]
      refine ⟨_, A2, (f1.mo rfl).up _ rfl, b2, ?_, ?_, Or.inr ⟨rfl, e1, by rw [ab_up_e]; rfl, rdl.nil⟩⟩
      · have := hR1.tt (r := sSet r1 y (sX r1 y ++ x)) (S := [35]) (T := [6, 5]) (I' := ab_up I1 35 0) (A' := A2) (N' := N) (fr.up fr.rf _ rfl) b2 rfl rfl b3
        exact this
      · rw [ab_up_n _ _ (by decide)]; exact p1
end
