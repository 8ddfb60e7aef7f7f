/-! ===== the twin: the grammar, ends of pipelines ===== -/
def nxI (p1 p2 p3 : Int32) : Int32 := if p1 < 7 then
    (if (if p2 = 5 then (1 : Int32) else if p2 = 6 then 1 else if p2 = 7 then 1 else 0) = 0 then
      (if p2 = 0 then (if p1 = 6 then -1 else 5) else if p2 = 8 then (if p1 < 4 then (if p3 < 4 then 0 else -1) else -1) else if p2 = 10 then (if p1 < 3 then 3 else -1) else if p2 = 9 then (if 0 < p3 then (if p1 = 1 then 6 else if p1 < 5 then -1 else 6) else -1) else if p1 < 5 then -1 else if p2 = 1 then 1 else if p2 = 4 then 3 else 2)
    else if p1 < 4 then 7 else p1 + 3)
  else if p2 = 0 then p1 - 3 else -1
def nxV (o : Option Nat) : Int32 := match o with
  | none => -1
  | some s => nI s
theorem nx_tab : ∀ s, s < 10 → ∀ k, k < 11 → ∀ d, d < 5 → nxI (nI s) (nI k) (nI d) = nxV (nxN s k d) := by decide +kernel
theorem tw_redir0 (d : Nat) (p : Int32) (h : ab_H) : ab_cl gG true d 85 [.inl p] h = some (some (.inl (if p = 5 then (1 : Int32) else if p = 6 then 1 else if p = 7 then 1 else 0)), h) := by
  rw [ent_85, bl_85_0]
  (repeat' split) <;> rfl
theorem tw_redir (d : Nat) {k : Nat} (hk : k < 2 ^ 31) (h : ab_H) : ab_cl gG true d 85 [.inl (nI k)] h = some (some (.inl (b01 (redK k))), h) := by
  rw [tw_redir0]
  simp only [neq_5 hk, neq_6 hk, neq_7 hk]
  unfold redK
  by_cases h5 : k = 5
  · rw [if_pos h5, h5]; rfl
  · rw [if_neg h5]
    by_cases h6 : k = 6
    · rw [if_pos h6, h6]; rfl
    · rw [if_neg h6]
      by_cases h7 : k = 7
      · rw [if_pos h7, h7]; rfl
      · rw [if_neg h7]
        simp [h5, h6, h7, b01]
theorem tw_next (d : Nat) {s k dp : Nat} (hs : s < 10) (hk : k ≤ 10) (hd : dp < 5) (h : ab_H) : ab_cl gG true (d + 1) 70 [.inl (nI s), .inl (nI k), .inl (nI dp)] h = some (some (.inl (nxV (nxN s k dp))), h) := by
  rw [← nx_tab s hs k (by omega) dp hd, ent_70, bl_70_0, tw_redir0, qb_c1s, Option.bind_some]
  dsimp only
  unfold nxI
  generalize nI s = p1
  generalize nI k = p2
  generalize nI dp = p3
  by_cases h1 : p1 < 7
  · rw [if_pos h1, if_pos h1]
    by_cases h2 : (if p2 = 5 then (1 : Int32) else if p2 = 6 then 1 else if p2 = 7 then 1 else 0) = 0
    · rw [if_pos h2, if_pos h2]
      (repeat' split) <;> rfl
    · rw [if_neg h2, if_neg h2]
      split <;> rfl
  · rw [if_neg h1, if_neg h1]
    split <;> rfl
theorem nxN_lt {s k d s' : Nat} (hs : s < 10) (h : nxN s k d = some s') : s' < 10 ∧ (k = 8 → d < 4) ∧ (k = 9 → 0 < d) := by
  unfold nxN at h
  split at h
  · split at h
    · rename_i hr
      have := (redK_iff _).mp hr
      refine ⟨?_, by omega, by omega⟩
      split at h <;> cases h <;> omega
    · split at h
      · split at h
        · cases h
        · cases h; exact ⟨by omega, by omega, by omega⟩
      · split at h
        · split at h
          · rename_i hq
            cases h; exact ⟨by omega, fun _ => hq.2, by omega⟩
          · cases h
        · split at h
          · split at h
            · cases h; exact ⟨by omega, by omega, by omega⟩
            · cases h
          · split at h
            · split at h
              · rename_i hq
                cases h; exact ⟨by omega, by omega, fun _ => hq.1⟩
              · cases h
            · split at h
              · cases h
              · split at h
                · cases h; exact ⟨by omega, by omega, by omega⟩
                · split at h <;> cases h <;> exact ⟨by omega, by omega, by omega⟩
  · split at h
    · cases h; exact ⟨by omega, by omega, by omega⟩
    · cases h
/-- the tokens in the twin -/
def twTk (n : Nat) (K : Nat → Nat) (W : Nat → List Int32) (fa : Nat → Nat) (I : Nat → Int32) (A : Nat → Nat → Int32) : Prop := I 12 = nI n ∧ ∀ t, t < n → A 8 t = nI (K t) ∧ (K t = 0 → A 9 t = nI (fa t) ∧ A 10 t = nI (fa t + (W t).length) ∧ rdl (A 7) (fa t) (W t))
theorem twTk.cg {n : Nat} {K : Nat → Nat} {W : Nat → List Int32} {fa : Nat → Nat} {I I' : Nat → Int32} {A A' : Nat → Nat → Int32} (h : twTk n K W fa I A) (h1 : I' 12 = I 12) (h2 : A' 8 = A 8) (h3 : A' 9 = A 9) (h4 : A' 10 = A 10) (h5 : A' 7 = A 7) : twTk n K W fa I' A' := by
  unfold twTk
  rw [h1, h2, h3, h4, h5]
  exact h
def wdN (K : Nat → Nat) : Nat → Nat → Nat
  | 0, _ => 0
  | m + 1, t => (if K t = 0 then 1 else 0) + wdN K m (t + 1)
section
variable {B : ab_H} {b : Nat} {I : Nat → Int32} {P : Int64} {A : Nat → Nat → Int32} {N : Nat → Int64} {n : Nat} {K : Nat → Nat} {W : Nat → List Int32} {fa : Nat → Nat}
theorem gr_lp (d : Nat) (hK : okK K n) (hn : n ≤ 64) (hT : twTk n K W fa I A) : ∀ (m s dp t : Nat), t + m = n → s < 10 → dp < 5 → (n = 0 → s = 0) →
    ab_ev gG true (d + 2) 58 11 [some (.inr (.inr (some b))), some (.inl (nI s)), some (.inl (nI dp)), some (.inl (nI t))] [] (TW B b I P A N) = some (some (.inl (b01 (decide (n = 0) || smN K m s dp t))), TW B b I P A N) := by
  intro m
  induction m with
  | zero =>
    intro s dp t ht hs hd h0
    rw [bl_58_11, tw_i12, Option.bind_some, hT.1, if_neg (nI_nlt (by omega) (by omega)), Option.bind_some]
    simp (disch := omega) only [neq_0, neq_1, neq_5, neq_6]
    by_cases hn0 : n = 0
    · rw [if_pos hn0, decide_eq_true hn0]; rfl
    · rw [if_neg hn0, decide_eq_false hn0, Bool.false_or, smN]
      by_cases hd0 : dp = 0
      · rw [if_pos hd0, decide_eq_true hd0, Bool.true_and]
        by_cases s1 : s = 1
        · rw [if_pos s1, decide_eq_true s1]; rfl
        · rw [if_neg s1, decide_eq_false s1]
          by_cases s5 : s = 5
          · rw [if_pos s5, decide_eq_true s5]; rfl
          · rw [if_neg s5, decide_eq_false s5]
            by_cases s6 : s = 6
            · rw [if_pos s6, decide_eq_true s6]; rfl
            · rw [if_neg s6, decide_eq_false s6]; rfl
      · rw [if_neg hd0, decide_eq_false hd0]; rfl
  | succ m ih =>
    intro s dp t ht hs hd h0
    obtain ⟨hk, -⟩ := hT.2 t (by omega)
    have hk10 := (hK t).1 (by omega)
    rw [bl_58_11, tw_i12, Option.bind_some, hT.1, if_pos (nI_lt (by omega) (by omega)), tw_r13, Option.bind_some, Option.bind_some, tw_a8 (by omega), Option.bind_some, hk, tw_next d hs hk10 hd, qb_c1s, Option.bind_some, smN]
    dsimp only
    cases hx : nxN s (K t) dp with
    | none =>
      rw [if_pos (by decide), decide_eq_false (by omega)]
      rfl
    | some s' =>
      obtain ⟨l1, l2, l3⟩ := nxN_lt hs hx
      rw [if_neg (show ¬ nxV (some s') < 0 from nI_pos (by omega)), show nxV (some s') = nI s' from rfl]
      simp (disch := omega) only [tw_r13, Option.bind_some, tw_a8, hk, nI_1, neq_8, neq_9]
      have e1 : dpN (K t) dp = if K t = 8 then dp + 1 else if K t = 9 then dp - 1 else dp := rfl
      by_cases h8 : K t = 8
      · have := l2 h8
        rw [if_pos h8, ih s' (dp + 1) (t + 1) (by omega) l1 (by omega) (by omega), e1, if_pos h8]
      · rw [if_neg h8]
        by_cases h9 : K t = 9
        · have := l3 h9
          rw [if_pos h9, show nI dp - (1 : Int32) = nI (dp - 1) from by rw [show dp = dp - 1 + 1 by omega, nI_pred]; rfl, ih s' (dp - 1) (t + 1) (by omega) l1 (by omega) (by omega), e1, if_neg h8, if_pos h9]
        · rw [if_neg h9, ih s' dp (t + 1) (by omega) l1 (by omega) (by omega), e1, if_neg h8, if_neg h9]
theorem ck_lp (d : Nat) (hn : n ≤ 64) (hK : okK K n) (hT : twTk n K W fa I A) : ∀ (m t c : Nat), t + m = n →
    ab_ev gG true (d + 1) 28 9 [some (.inr (.inr (some b))), some (.inl (nI c)), some (.inl (nI t))] [] (TW B b I P A N) = some (some (.inl (nI (c + wdN K m t))), TW B b I P A N) := by
  intro m
  induction m with
  | zero =>
    intro t c ht
    rw [bl_28_9, tw_i12, Option.bind_some, hT.1, if_neg (nI_nlt (by omega) (by omega))]
    rfl
  | succ m ih =>
    intro t c ht
    obtain ⟨hk, -⟩ := hT.2 t (by omega)
    have hk10 := (hK t).1 (by omega)
    rw [bl_28_9, tw_i12, Option.bind_some, hT.1, if_pos (nI_lt (by omega) (by omega)), tw_r13, Option.bind_some, Option.bind_some, tw_a8 (by omega), Option.bind_some, hk, nI_1, nI_1, wdN]
    simp (disch := omega) only [neq_0]
    by_cases h0 : K t = 0
    · rw [if_pos h0, if_pos h0, ih (t + 1) (c + 1) (by omega), Nat.add_assoc]
    · rw [if_neg h0, if_neg h0, ih (t + 1) c (by omega), Nat.zero_add]
/-- kindAt -/
def kI (K : Nat → Nat) (n t : Nat) : Int32 := if t < n then nI (K t) else -1
theorem kI_eq (hK : okK K n) (t : Nat) {c : Nat} (hc : c ≤ 10) : kI K n t = nI c ↔ K t = c := by
  unfold kI
  split
  · rename_i h
    have := (hK t).1 h
    exact nI_eq (by omega) (by omega)
  · rename_i h
    have h11 := (hK t).2 (by omega)
    constructor
    · intro e
      have := nI_pos (n := c) (by omega)
      rw [← e] at this
      exact absurd (by decide) this
    · intro e; omega
theorem tw_kindAt (d : Nat) (hn : n ≤ 64) (hT : twTk n K W fa I A) {t : Nat} (ht : t < 1000) : ab_cl gG true d 76 [.inr (.inr (some b)), .inl (nI t)] (TW B b I P A N) = some (some (.inl (kI K n t)), TW B b I P A N) := by
  rw [ent_76, bl_76_0, tw_i12, Option.bind_some, hT.1]
  unfold kI
  by_cases h : t < n
  · rw [if_pos (nI_lt h (by omega)), tw_r13, Option.bind_some, Option.bind_some, tw_a8 (by omega), Option.bind_some, (hT.2 t h).1, if_pos h]
  · rw [if_neg (nI_nlt (by omega) (by omega)), if_neg h]
theorem pe_lp (d : Nat) (hK : okK K n) (hn : n ≤ 64) (hT : twTk n K W fa I A) (bars : Bool) (v1 : Int32) : ∀ (m c t : Nat) (u5 : Option ab_V), t + m = n → c ≤ t →
    ab_ev gG true d 89 4 [some (.inr (.inr (some b))), some (.inl v1), some (.inl (b01 bars)), some (.inl (nI c)), some (.inl (nI t)), u5] [] (TW B b I P A N) = some (some (.inl (nI (pe K bars m c t))), TW B b I P A N) := by
  intro m
  induction m with
  | zero =>
    intro c t u5 ht hc
    rw [bl_89_4, tw_i12, Option.bind_some, hT.1, if_neg (nI_nlt (by omega) (by omega)), Option.bind_some, pe, show t = n by omega]
  | succ m ih =>
    intro c t u5 ht hc
    obtain ⟨hk, -⟩ := hT.2 t (by omega)
    have hk10 := (hK t).1 (by omega)
    have e35 : (c = 0 → K t ≠ 9) → ab_ev gG true d 89 35 [some (.inr (.inr (some b))), some (.inl v1), some (.inl (b01 bars)), some (.inl (nI c)), some (.inl (nI t)), some (.inl (nI (K t)))] [] (TW B b I P A N) = some (some (.inl (nI (pe K bars m (dpN (K t) c) (t + 1)))), TW B b I P A N) := fun h9' => by
      rw [bl_89_35]
      simp (disch := omega) only [neq_8, neq_9, nI_1]
      unfold dpN
      by_cases h8 : K t = 8
      · rw [if_pos h8, if_pos h8, ih _ _ _ (by omega) (by omega)]
      · rw [if_neg h8, if_neg h8]
        by_cases h9 : K t = 9
        · have hc0 : c ≠ 0 := fun h => h9' h h9
          rw [if_pos h9, if_pos h9, show nI c - (1 : Int32) = nI (c - 1) from by rw [show c = c - 1 + 1 by omega, nI_pred]; rfl, ih _ _ _ (by omega) (by omega)]
        · rw [if_neg h9, if_neg h9, ih _ _ _ (by omega) (by omega)]
    rw [bl_89_4, tw_i12, Option.bind_some, hT.1, if_pos (nI_lt (by omega) (by omega)), tw_r13, Option.bind_some, Option.bind_some, tw_a8 (by omega), Option.bind_some, hk, pe]
    simp (disch := omega) only [neq_0, neq_1, neq_2, neq_3, neq_4, neq_9, b01_0]
    by_cases hc0 : c = 0
    · rw [if_pos hc0]
      by_cases h1 : K t = 1
      · rw [if_pos h1, if_pos ⟨hc0, by rw [stp_iff]; exact Or.inl h1⟩]
      · rw [if_neg h1]
        by_cases h2 : K t = 2
        · rw [if_pos h2, if_pos ⟨hc0, by rw [stp_iff]; exact Or.inr (Or.inl h2)⟩]
        · rw [if_neg h2]
          by_cases h3 : K t = 3
          · rw [if_pos h3, if_pos ⟨hc0, by rw [stp_iff]; exact Or.inr (Or.inr (Or.inl h3))⟩]
          · rw [if_neg h3]
            by_cases h9 : K t = 9
            · rw [if_pos h9, if_pos ⟨hc0, by rw [stp_iff]; exact Or.inr (Or.inr (Or.inr (Or.inl h9)))⟩]
            · rw [if_neg h9]
              by_cases hb : bars = false
              · rw [if_pos hb, if_neg (by rw [stp_iff, hb]; rintro ⟨-, h | h | h | h | h⟩; exact h1 h; exact h2 h; exact h3 h; exact h9 h; cases h.1), e35 (fun _ => h9)]
              · have hb : bars = true := by cases bars <;> first | rfl | exact absurd rfl hb
                rw [if_neg (by rw [hb]; decide)]
                by_cases h4 : K t = 4
                · rw [if_pos h4, if_pos ⟨hc0, by rw [stp_iff]; exact Or.inr (Or.inr (Or.inr (Or.inr ⟨hb, h4⟩)))⟩]
                · rw [if_neg h4, if_neg (by rw [stp_iff]; rintro ⟨-, h | h | h | h | h⟩; exact h1 h; exact h2 h; exact h3 h; exact h9 h; exact h4 h.2), e35 (fun _ => h9)]
    · rw [if_neg hc0, if_neg (fun h => hc0 h.1), e35 (fun h => absurd h hc0)]
theorem tw_pe (d : Nat) (hK : okK K n) (hn : n ≤ 64) (hT : twTk n K W fa I A) (bars : Bool) {t : Nat} (ht : t ≤ n) : ab_cl gG true d 89 [.inr (.inr (some b)), .inl (nI t), .inl (b01 bars)] (TW B b I P A N) = some (some (.inl (nI (peA K n bars 0 t))), TW B b I P A N) := by
  rw [ent_89, bl_89_0]
  exact pe_lp d hK hn hT bars (nI t) (n - t) 0 t none (by omega) (Nat.zero_le _)
theorem pe_le (K : Nat → Nat) (b : Bool) : ∀ (m c t : Nat), t ≤ pe K b m c t ∧ pe K b m c t ≤ t + m := by
  intro m
  induction m with
  | zero => intro c t; exact ⟨Nat.le_refl _, Nat.le_refl _⟩
  | succ m ih =>
    intro c t
    rw [pe]
    split
    · omega
    · have := ih (dpN (K t) c) (t + 1)
      omega
/-- startPipeline() -/
theorem tw_startP (d : Nat) (hb : B.1.1 ≤ b) (hK : okK K n) (hn : n ≤ 64) (hT : twTk n K W fa I A) {lv t : Nat} (hl : I 21 = nI lv) (hl2 : lv < 5) (ht : I 22 = nI t) (ht2 : t < n) :
    ∃ I' A', ab_cl gG true (d + 1) 73 [.inr (.inr (some b))] (TW B b I P A N) = some (none, TW B b I' P A' N) ∧ fr [22] I I' ∧ fr [20, 19, 16] A A' ∧ I' 22 = nI (if K t = 10 then t + 1 else t) ∧ A' 20 lv = b01 (decide (K t = 10)) ∧ A' 19 lv = b01 (decide (K (peA K n true 0 (if K t = 10 then t + 1 else t)) = 4)) ∧ A' 16 lv = A 14 lv ∧ (∀ j, j ≠ lv → A' 20 j = A 20 j ∧ A' 19 j = A 19 j ∧ A' 16 j = A 16 j) := by
  have k10 : kI K n t = (10 : Int32) ↔ K t = 10 := kI_eq hK t (c := 10) (by omega)
  -- up to the place 28
  have e1 : ab_cl gG true (d + 1) 73 [.inr (.inr (some b))] (TW B b I P A N) = ab_ev gG true (d + 1) 73 28 [some (.inr (.inr (some b)))] [.inl (nI (if K t = 10 then t + 1 else t)), .inr (.inr (some b))] (TW B b I P (ab_up A 20 (ab_up (A 20) lv (b01 (decide (K t = 10))))) N) := by
    rw [ent_73, bl_73_0]
    simp only [tw_r29, tw_i21, tw_i22, Option.bind_some, hl, ht, tw_isc, ↓reduceIte, tw_kindAt d hn hT (show t < 1000 by omega), qb_c1s]
    by_cases h : K t = 10
    · rw [if_pos (k10.mpr h), bl_73_13]
      simp (disch := omega) only [Option.bind_some, tw_s20 hb, tw_r29, tw_i21, tw_i22, hl, ht, tw_a20, ab_up_e, b01_nar1, nI_1, h, decide_true, ↓reduceIte, show ¬ ((1 : Int32) = 0) by decide]
      rfl
    · rw [if_neg (fun e => h (k10.mp e)), bl_73_13]
      simp (disch := omega) only [Option.bind_some, tw_s20 hb, tw_r29, tw_i21, tw_i22, hl, ht, tw_a20, ab_up_e, b01_nar0, h, decide_false, ↓reduceIte]
      rfl
  have htn : (if K t = 10 then t + 1 else t) ≤ n := by split <;> omega
  generalize (if K t = 10 then t + 1 else t) = t0 at e1 htn ⊢
  have hT1 : twTk n K W fa (ab_up I 22 (nI t0)) (ab_up A 20 (ab_up (A 20) lv (b01 (decide (K t = 10))))) := hT.cg (ab_up_n _ _ (by decide)) (ab_up_n _ _ (by decide)) (ab_up_n _ _ (by decide)) (ab_up_n _ _ (by decide)) (ab_up_n _ _ (by decide))
  have hpe := pe_le K true (n - t0) 0 t0
  have hpe2 : peA K n true 0 t0 < 1000 := by
    show pe K true (n - t0) 0 t0 < 1000
    omega
  have k4 : kI K n (peA K n true 0 t0) = (4 : Int32) ↔ K (peA K n true 0 t0) = 4 := kI_eq hK (peA K n true 0 t0) (c := 4) (by omega)
  have ep := tw_pe (B := B) (b := b) (P := P) (N := N) d hK hn hT1 true htn
  have ek := tw_kindAt (B := B) (b := b) (P := P) (N := N) d hn hT1 hpe2
  have e2 : ab_cl gG true (d + 1) 73 [.inr (.inr (some b))] (TW B b I P A N) = some (none, TW B b (ab_up I 22 (nI t0)) P (ab_up (ab_up (ab_up A 20 (ab_up (A 20) lv (b01 (decide (K t = 10))))) 19 (ab_up (A 19) lv (b01 (decide (K (peA K n true 0 t0) = 4))))) 16 (ab_up (A 16) lv (A 14 lv))) N) := by
    rw [e1, bl_73_28]
    simp only [Option.bind_some, tw_w22 hb, tw_r28, tw_i21, tw_i22, ab_up_e, tw_isc, ↓reduceIte]
    rw [show ab_cl gG true d 89 [.inr (.inr (some b)), .inl (nI t0), .inl (1 : Int32)] (TW B b (ab_up I 22 (nI t0)) P (ab_up A 20 (ab_up (A 20) lv (b01 (decide (K t = 10))))) N) = _ from ep, qb_c1s, Option.bind_some, if_pos tw_isc, ek, qb_c1s, Option.bind_some]
    dsimp only
    by_cases h : K (peA K n true 0 t0) = 4
    · rw [if_pos (k4.mpr h)]
      simp (disch := omega) only [ab_up_n, hl, tw_s19 hb, Option.bind_some, tw_r25, tw_i21, tw_r23, tw_a14, tw_s16 hb, b01_nar1, h, decide_true]
      rfl
    · rw [if_neg (fun e => h (k4.mp e))]
      simp (disch := omega) only [ab_up_n, hl, tw_s19 hb, Option.bind_some, tw_r25, tw_i21, tw_r23, tw_a14, tw_s16 hb, b01_nar0, h, decide_false]
      rfl
  refine ⟨_, _, e2, fr.up fr.rf _ rfl, fr.up (fr.up (fr.up fr.rf _ rfl) _ rfl) _ rfl, ab_up_e _ _ _, ?_, ?_, ?_, fun j hj => ?_⟩
  · simp (disch := omega) only [ab_up_e, ab_up_n]
  · simp (disch := omega) only [ab_up_e, ab_up_n]
  · simp (disch := omega) only [ab_up_e, ab_up_n]
  · simp (disch := omega) only [ab_up_e, ab_up_n]
    exact ⟨trivial, trivial, trivial⟩
end
