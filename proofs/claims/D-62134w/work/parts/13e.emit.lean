/-! ===== the twin: new nodes; what is put out; what is read ===== -/
/-- what a tool has put out so far: l, of which the limit's letters are kept -/
def twE (pl : Nat) (l : List Int32) (I : Nat → Int32) (A : Nat → Nat → Int32) : Prop := I 35 = nI (min pl l.length) ∧ I 36 = b01 (decide (pl < l.length)) ∧ rdl (A 25) 0 (l.take pl)
section
variable {B : ab_H} {b : Nat} {I : Nat → Int32} {P : Int64} {A : Nat → Nat → Int32} {N : Nat → Int64}
theorem mad_lp (d : Nat) {r : sT} (hr : okT r) (hW : twW r A N) (v1 : Int32) : ∀ k, k ≤ 12 →
    ab_ev gG true d 107 6 [some (.inr (.inr (some b))), some (.inl v1), some (.inl (nI (sN r - min (sN r) k))), some (.inl (nI (if max (sN r) k < 12 then max (sN r) k + 1 else 0))), some (.inl (nI k))] [] (TW B b I P A N) =
    ab_ev gG true d 107 6 [some (.inr (.inr (some b))), some (.inl v1), some (.inl (nI (sN r))), some (.inl (nI (if sN r < 12 then sN r + 1 else 0))), some (.inl (nI 0))] [] (TW B b I P A N) := by
  have hn := hr.n
  intro k
  induction k with
  | zero => intro _; rw [Nat.min_zero, Nat.sub_zero, Nat.max_zero]
  | succ k ih =>
    intro hk
    rw [← ih (by omega), bl_107_6, if_neg (by rw [nlt_1 (by omega)]; omega), tw_r3, Option.bind_some, Option.bind_some, tw_a1 (by omega), Option.bind_some, hW.1 (k + 1) (by omega)]
    by_cases h : k + 1 ≤ sN r
    · rw [show decide (k + 1 ≤ sN r) = true from by simp [h], if_neg (by decide), bl_107_19, tw_r3, Option.bind_some, Option.bind_some, tw_a1 (by omega), Option.bind_some, hW.1 (k + 1) (by omega), show decide (k + 1 ≤ sN r) = true from by simp [h], if_neg (by decide), nI_1, pk_m1]
      congr 4
      · congr 3; omega
      · congr 3
        congr 1
        rw [show max (sN r) (k + 1) = max (sN r) k by omega]
    · rw [show decide (k + 1 ≤ sN r) = false from decide_eq_false (by omega), if_pos b01_f, bl_107_19, tw_r3, Option.bind_some, Option.bind_some, tw_a1 (by omega), Option.bind_some, hW.1 (k + 1) (by omega), show decide (k + 1 ≤ sN r) = false from decide_eq_false (by omega), if_pos b01_f, pk_m1]
      rw [show sN r - min (sN r) (k + 1) = sN r - min (sN r) k by omega, show (if max (sN r) k < 12 then max (sN r) k + 1 else 0) = k + 1 by rw [if_pos (by omega)]; omega]
theorem tw_made (d : Nat) (hb : B.1.1 ≤ b) {r : sT} (hr : okT r) (hW : twW r A N) {nl : Nat} (hnl : I 0 = nI nl) (hnl2 : nl ≤ 12) (dir : Bool) {p : Nat} (hp : I 43 = nI p) :
    (nl ≤ sN r → ab_cl gG true d 107 [.inr (.inr (some b)), .inl (b01 dir)] (TW B b I P A N) = some (some (.inl (-1)), TW B b I P A N)) ∧
    (sN r < nl → ∃ A' N', ab_cl gG true d 107 [.inr (.inr (some b)), .inl (b01 dir)] (TW B b I P A N) = some (some (.inl (nI (sN r + 1))), TW B b I P A' N') ∧ fr [1, 2, 3, 5] A A' ∧ twW (sNew r dir p P) A' N') := by
  have hn := hr.n
  have e0 := mad_lp (B := B) (b := b) (I := I) (P := P) d hr hW (b01 dir) 12 (Nat.le_refl _)
  rw [show sN r - min (sN r) 12 = 0 by omega, if_neg (show ¬ max (sN r) 12 < 12 by omega)] at e0
  have e1 : ab_cl gG true d 107 [.inr (.inr (some b)), .inl (b01 dir)] (TW B b I P A N) = _ := (ent_107 true d b (b01 dir) _).trans ((bl_107_0 true d b (b01 dir) _).trans e0)
  rw [bl_107_6, if_pos (by decide), tw_i0, Option.bind_some, hnl] at e1
  constructor
  · intro h
    rw [e1, if_neg (nI_nlt h (by omega))]
  · intro h
    rw [if_pos (nI_lt h (by omega)), if_pos (show sN r < 12 by omega)] at e1
    simp (disch := omega) only [Option.bind_some, qb_c0s, qb_c1s, qb_c2s, qb_c3s, tw_isc, tw_P, ↓reduceIte, tw_i0, tw_i1, tw_i2, tw_i9, tw_i10, tw_i12, tw_i16, tw_i19, tw_i21, tw_i22, tw_i35, tw_i36, tw_i38, tw_i39, tw_i42, tw_i43, tw_i45, tw_i46, tw_i48, tw_r3, tw_r4, tw_r5, tw_r6, tw_r7, tw_r8, tw_r11, tw_r13, tw_r14, tw_r15, tw_r17, tw_r18, tw_r20, tw_r23, tw_r24, tw_r25, tw_r26, tw_r27, tw_r28, tw_r29, tw_r30, tw_r31, tw_r32, tw_r33, tw_r34, tw_r37, tw_r40, tw_r41, tw_r47, tw_w0 hb, tw_w1 hb, tw_w2 hb, tw_w9 hb, tw_w10 hb, tw_w12 hb, tw_w16 hb, tw_w19 hb, tw_w21 hb, tw_w22 hb, tw_w35 hb, tw_w36 hb, tw_w38 hb, tw_w39 hb, tw_w42 hb, tw_w43 hb, tw_w45 hb, tw_w46 hb, tw_w48 hb, tw_s1 hb, tw_s2 hb, tw_s3 hb, tw_s5 hb, tw_s6 hb, tw_s7 hb, tw_s8 hb, tw_s9 hb, tw_s10 hb, tw_s11 hb, tw_s12 hb, tw_s13 hb, tw_s14 hb, tw_s15 hb, tw_s16 hb, tw_s17 hb, tw_s18 hb, tw_s19 hb, tw_s20 hb, tw_s21 hb, tw_s22 hb, tw_s23 hb, tw_s24 hb, tw_s25 hb, tw_s26 hb, tw_s27 hb, tw_s28 hb, tw_s29 hb, tw_sN hb, tw_wP hb, ab_up_e, ab_up_n, hp, b01_nar1, b01_nar] at e1
    refine ⟨_, _, e1, fr.up (fr.up (fr.up (fr.up fr.rf _ rfl) _ rfl) _ rfl) _ rfl, ?_⟩
    unfold twW sNew
    refine ⟨fun x hx => ?_, fun x hx => ?_⟩
    · simp (disch := omega) only [ab_up_e, ab_up_n]
      show _ = b01 (decide (x ≤ sN r + 1))
      by_cases hx1 : x = sN r + 1
      · rw [hx1, ab_up_e, show decide (sN r + 1 ≤ sN r + 1) = true from by simp]
        rfl
      · rw [ab_up_n _ _ hx1, hW.1 x hx]
        congr 1
        simp only [decide_eq_decide]
        omega
    · have hx : x ≤ sN r + 1 := hx
      simp (disch := omega) only [ab_up_e, ab_up_n]
      unfold sD sP sM sX
      dsimp only
      by_cases hx1 : x = sN r + 1
      · rw [hx1]
        simp only [ab_up_e]
        exact ⟨trivial, trivial, trivial, rfl, rdl.nil⟩
      · simp (disch := exact hx1) only [ab_up_n]
        exact hW.2 x (by omega)
theorem tw_emit (d : Nat) (hb : B.1.1 ≤ b) {pl : Nat} (hpl : I 2 = nI pl) (hp : pl ≤ 96) {l : List Int32} (hE : twE pl l I A) (c : Int32) :
    ∃ I' A', ab_cl gG true d 128 [.inr (.inr (some b)), .inl c] (TW B b I P A N) = some (none, TW B b I' P A' N) ∧ fr [35, 36] I I' ∧ fr [25] A A' ∧ twE pl (l ++ [c]) I' A' := by
  obtain ⟨h1, h2, h3⟩ := hE
  by_cases h : l.length < pl
  · have hm : min pl l.length = l.length := by omega
    rw [hm] at h1
    have e : ab_cl gG true d 128 [.inr (.inr (some b)), .inl c] (TW B b I P A N) = some (none, TW B b (ab_up I 35 (nI (l.length + 1))) P (ab_up A 25 (ab_up (A 25) l.length c)) N) := by
      rw [ent_128, bl_128_0, tw_i35, Option.bind_some, tw_i2, Option.bind_some, h1, hpl, if_pos (nI_lt h (by omega)), tw_r34, Option.bind_some, Option.bind_some, Option.bind_some, tw_s25 hb (by omega), Option.bind_some, tw_i35, Option.bind_some, h1, nI_1, tw_w35 hb, Option.bind_some]
    refine ⟨_, _, e, fr.up fr.rf _ rfl, fr.up fr.rf _ rfl, ?_, ?_, ?_⟩
    · rw [ab_up_e, List.length_append, List.length_singleton, Nat.min_eq_right (by omega)]
    · rw [ab_up_n _ _ (by decide), h2, List.length_append, List.length_singleton]
      congr 1
      simp only [decide_eq_decide]
      omega
    · rw [ab_up_e, List.take_of_length_le (by rw [List.length_append, List.length_singleton]; omega)]
      rw [List.take_of_length_le (by omega)] at h3
      have := h3.sn c
      rwa [Nat.zero_add] at this
  · have hm : min pl l.length = pl := by omega
    rw [hm] at h1
    have e : ab_cl gG true d 128 [.inr (.inr (some b)), .inl c] (TW B b I P A N) = some (none, TW B b (ab_up I 36 1) P A N) := by
      rw [ent_128, bl_128_0, tw_i35, Option.bind_some, tw_i2, Option.bind_some, h1, hpl, if_neg (nI_nlt (by omega) (by omega)), tw_w36 hb, Option.bind_some]
    refine ⟨_, _, e, fr.up fr.rf _ rfl, fr.rf, ?_, ?_, ?_⟩
    · rw [ab_up_n _ _ (by decide), h1, List.length_append, List.length_singleton, Nat.min_eq_left (by omega)]
    · rw [ab_up_e, List.length_append, List.length_singleton, show decide (pl < l.length + 1) = true from decide_eq_true (by omega)]
      rfl
    · rw [List.take_append_of_le_length (by omega)]
      exact h3
/-- the state after put out l: what is put out next goes on -/
theorem twE.tr {pl : Nat} {l : List Int32} {I I' : Nat → Int32} {A A' : Nat → Nat → Int32} (h : twE pl l I A) (h1 : I' 35 = I 35) (h2 : I' 36 = I 36) (h3 : A' 25 = A 25) : twE pl l I' A' := by
  unfold twE
  rw [h1, h2, h3]
  exact h
/-- emitNumber -/
theorem emn_st (d : Nat) (hb : B.1.1 ≤ b) {pl : Nat} (hpl : I 2 = nI pl) (hp : pl ≤ 96) {v : Nat} (hv : v < 1000) {l : List Int32} (hE : twE pl l I A) {D : Nat} (hD : 0 < D) (hD2 : D < 1000) :
    ∃ I' A', ab_ev gG true (d + 1) 130 3 [some (.inr (.inr (some b))), some (.inl (nI v)), some (.inl (nI D))] [] (TW B b I P A N) = ab_ev gG true (d + 1) 130 3 [some (.inr (.inr (some b))), some (.inl (nI v)), some (.inl (nI (D / 10)))] [] (TW B b I' P A' N) ∧ fr [35, 36] I I' ∧ fr [25] A A' ∧ twE pl (l ++ [nI (48 + v / D % 10)]) I' A' := by
  have e3 : (48 : Int32) + (nI v / nI D - nI v / nI D / 10 * 10) = nI (48 + v / D % 10) := by
    rw [pk_div (by omega) hD (by omega)]
    have : nI (v / D) - nI (v / D) / nI 10 * nI 10 = nI (v / D % 10) := pk_rem (by have := Nat.div_le_self v D; omega) (by omega) (by omega)
    have h2 : nI (v / D) - nI (v / D) / 10 * 10 = nI (v / D % 10) := this
    rw [h2]
    exact nI_add 48 _
  have e4 : nI D / 10 = nI (D / 10) := pk_div (a := D) (d := 10) (by omega) (by omega) (by omega)
  obtain ⟨I', A', e, f1, f2, g⟩ := tw_emit (P := P) (N := N) d hb hpl hp hE (nI (48 + v / D % 10))
  refine ⟨I', A', ?_, f1, f2, g⟩
  rw [bl_130_3, if_pos ((ngt_0 (by omega)).mpr hD), if_neg (fun h => by rw [neq_0 (by omega)] at h; omega), if_pos tw_isc, e3, e4, e, qb_c0s, Option.bind_some]
theorem tw_emitNumber (d : Nat) (hb : B.1.1 ≤ b) {pl : Nat} (hpl : I 2 = nI pl) (hp : pl ≤ 96) {v : Nat} (hv : v < 1000) {l : List Int32} (hE : twE pl l I A) :
    ∃ I' A', ab_cl gG true (d + 1) 130 [.inr (.inr (some b)), .inl (nI v)] (TW B b I P A N) = some (none, TW B b I' P A' N) ∧ fr [35, 36] I I' ∧ fr [25] A A' ∧ twE pl (l ++ dg v) I' A' := by
  have ex : ∀ (I : Nat → Int32) (A : Nat → Nat → Int32), ab_ev gG true (d + 1) 130 3 [some (.inr (.inr (some b))), some (.inl (nI v)), some (.inl (nI 0))] [] (TW B b I P A N) = some (none, TW B b I P A N) := fun I A => by
    rw [bl_130_3, if_neg (by decide)]
  have e0 : ab_cl gG true (d + 1) 130 [.inr (.inr (some b)), .inl (nI v)] (TW B b I P A N) = ab_ev gG true (d + 1) 130 3 [some (.inr (.inr (some b))), some (.inl (nI v)), some (.inl (nI (scN v)))] [] (TW B b I P A N) := by
    rw [ent_130, bl_130_0, tw_scale d hv, qb_c1s, Option.bind_some]
  rw [e0]
  unfold scN dg
  by_cases h1 : v < 10
  · rw [if_pos (by omega), if_pos h1, if_pos h1]
    obtain ⟨I1, A1, a1, a2, a3, a4⟩ := emn_st (P := P) (N := N) d hb hpl hp hv hE (D := 1) (by omega) (by omega)
    refine ⟨I1, A1, a1.trans (ex _ _), a2, a3, ?_⟩
    rw [Nat.div_one, Nat.mod_eq_of_lt h1] at a4
    exact a4
  · by_cases h2 : v < 100
    · rw [if_pos h2, if_neg h1, if_neg h1, if_pos h2]
      obtain ⟨I1, A1, a1, a2, a3, a4⟩ := emn_st (P := P) (N := N) d hb hpl hp hv hE (D := 10) (by omega) (by omega)
      obtain ⟨I2, A2, b1, b2, b3, b4⟩ := emn_st (P := P) (N := N) d hb (by rw [a2 _ rfl]; exact hpl) hp hv a4 (D := 1) (by omega) (by omega)
      refine ⟨I2, A2, a1.trans (b1.trans (ex _ _)), a2.tr b2, a3.tr b3, ?_⟩
      rw [Nat.div_one, Nat.mod_eq_of_lt (show v / 10 < 10 by omega), List.append_assoc] at b4
      exact b4
    · rw [if_neg h2, if_neg h1, if_neg h2]
      obtain ⟨I1, A1, a1, a2, a3, a4⟩ := emn_st (P := P) (N := N) d hb hpl hp hv hE (D := 100) (by omega) (by omega)
      obtain ⟨I2, A2, b1, b2, b3, b4⟩ := emn_st (P := P) (N := N) d hb (by rw [a2 _ rfl]; exact hpl) hp hv a4 (D := 10) (by omega) (by omega)
      obtain ⟨I3, A3, c1, c2, c3, c4⟩ := emn_st (P := P) (N := N) d hb (by rw [b2 _ rfl, a2 _ rfl]; exact hpl) hp hv b4 (D := 1) (by omega) (by omega)
      refine ⟨I3, A3, a1.trans (b1.trans (c1.trans (ex _ _))), (a2.tr b2).tr c2, (a3.tr b3).tr c3, ?_⟩
      rw [Nat.div_one, Nat.mod_eq_of_lt (show v / 100 < 10 by omega), List.append_assoc, List.append_assoc] at c4
      exact c4
/-- emitName -/
theorem emm_lp (d : Nat) (hb : B.1.1 ≤ b) {pl : Nat} (hp : pl ≤ 96) (m : Int64) : ∀ (k : Nat) (I : Nat → Int32) (A : Nat → Nat → Int32) (l : List Int32) (v : Int32) (u4 : Option ab_V), k ≤ 7 → v = nI k + (-1) → I 2 = nI pl → twE pl l I A →
    ∃ I' A', ab_ev gG true (d + 1) 133 2 [some (.inr (.inr (some b))), some (.inr (.inl m)), none, some (.inl v), u4] [] (TW B b I P A N) = some (none, TW B b I' P A' N) ∧ fr [35, 36] I I' ∧ fr [25] A A' ∧ twE pl (l ++ splF m k) I' A' := by
  intro k
  induction k with
  | zero =>
    intro I A l v u4 hk hv hpl hE
    refine ⟨I, A, ?_, fr.rf, fr.rf, ?_⟩
    · rw [bl_133_2, hv, if_pos (by decide)]
    · rw [splF, List.append_nil]
      exact hE
  | succ k ih =>
    intro I A l v u4 hk hv hpl hE
    rw [pk_m1] at hv
    subst hv
    have e8 : (8 : Int32) * nI k = nI (8 * k) := pk_mul 8 k
    rw [bl_133_2, if_neg (nI_pos (by omega)), e8]
    show ∃ I' A', (if splL m k = 0 then _ else _) = _ ∧ _
    rw [splF]
    by_cases h : splL m k = 0
    · rw [if_pos h, if_pos h, List.nil_append]
      exact ih I A l _ _ (by omega) rfl hpl hE
    · rw [if_neg h, if_neg h, if_pos tw_isc]
      obtain ⟨I1, A1, a1, a2, a3, a4⟩ := tw_emit (P := P) (N := N) d hb hpl hp hE (splL m k)
      obtain ⟨I2, A2, b1, b2, b3, b4⟩ := ih I1 A1 _ (nI k + (-1)) (some (.inl (splL m k))) (by omega) rfl (by rw [a2 _ rfl]; exact hpl) a4
      refine ⟨I2, A2, ?_, a2.tr b2, a3.tr b3, ?_⟩
      · show (ab_c0 (ab_cl gG true d 128 [.inr (.inr (some b)), .inl (splL m k)] (TW B b I P A N))).bind _ = _
        rw [a1, qb_c0s, Option.bind_some]
        exact b1
      · rw [List.append_assoc] at b4
        exact b4
theorem tw_emitName (d : Nat) (hb : B.1.1 ≤ b) {pl : Nat} (hpl : I 2 = nI pl) (hp : pl ≤ 96) (m : Int64) {l : List Int32} (hE : twE pl l I A) :
    ∃ I' A', ab_cl gG true (d + 1) 133 [.inr (.inr (some b)), .inr (.inl m)] (TW B b I P A N) = some (none, TW B b I' P A' N) ∧ fr [35, 36] I I' ∧ fr [25] A A' ∧ twE pl (l ++ splS m) I' A' := by
  rw [ent_133, bl_133_0]
  exact emm_lp d hb hp m 7 I A l 6 none (Nat.le_refl _) (by decide) hpl hE
/-- emitLine -/
theorem eml_lp (d : Nat) (hb : B.1.1 ≤ b) {pl : Nat} (hp : pl ≤ 96) {t e : Nat} (ht : t < 161) (he : e ≤ 160) : ∀ (g : List Int32) (k : Nat) (I : Nat → Int32) (A : Nat → Nat → Int32) (l : List Int32), k + g.length = e → A 28 t = nI e → rdl (A 26) k g → I 2 = nI pl → twE pl l I A →
    ∃ I' A', ab_ev gG true (d + 1) 132 5 [some (.inr (.inr (some b))), some (.inl (nI t)), some (.inl (nI k))] [] (TW B b I P A N) = some (none, TW B b I' P A' N) ∧ fr [35, 36] I I' ∧ fr [25] A A' ∧ twE pl (l ++ (g ++ [10])) I' A' := by
  intro g
  induction g with
  | nil =>
    intro k I A l hk hto hr hpl hE
    rw [List.length_nil] at hk
    obtain ⟨I1, A1, a1, a2, a3, a4⟩ := tw_emit (P := P) (N := N) d hb hpl hp hE 10
    refine ⟨I1, A1, ?_, a2, a3, a4⟩
    rw [bl_132_5, tw_r41, Option.bind_some, Option.bind_some, tw_a28 ht, Option.bind_some, hto, if_neg (nI_nlt (by omega) (by omega)), if_pos tw_isc, a1, qb_c0s, Option.bind_some]
  | cons c g ih =>
    intro k I A l hk hto hr hpl hE
    rw [List.length_cons] at hk
    obtain ⟨I1, A1, a1, a2, a3, a4⟩ := tw_emit (P := P) (N := N) d hb hpl hp hE c
    obtain ⟨I2, A2, b1, b2, b3, b4⟩ := ih (k + 1) I1 A1 _ (by omega) (by rw [a3 _ rfl]; exact hto) (by rw [a3 _ rfl]; exact hr.tl) (by rw [a2 _ rfl]; exact hpl) a4
    refine ⟨I2, A2, ?_, a2.tr b2, a3.tr b3, ?_⟩
    · rw [bl_132_5, tw_r41, Option.bind_some, Option.bind_some, tw_a28 ht, Option.bind_some, hto, if_pos (nI_lt (by omega) (by omega)), tw_r37, Option.bind_some, Option.bind_some, tw_a26 (by omega), Option.bind_some, if_pos tw_isc, hr.hd, a1, qb_c0s, Option.bind_some, nI_1]
      exact b1
    · rw [List.append_assoc] at b4
      exact b4
theorem tw_emitLine (d : Nat) (hb : B.1.1 ≤ b) {pl : Nat} (hpl : I 2 = nI pl) (hp : pl ≤ 96) {t a : Nat} (ht : t < 161) {g : List Int32} (h1 : A 27 t = nI a) (h2 : A 28 t = nI (a + g.length)) (he : a + g.length ≤ 160) (hr : rdl (A 26) a g) {l : List Int32} (hE : twE pl l I A) :
    ∃ I' A', ab_cl gG true (d + 1) 132 [.inr (.inr (some b)), .inl (nI t)] (TW B b I P A N) = some (none, TW B b I' P A' N) ∧ fr [35, 36] I I' ∧ fr [25] A A' ∧ twE pl (l ++ (g ++ [10])) I' A' := by
  rw [ent_132, bl_132_0, tw_r40, Option.bind_some, Option.bind_some, tw_a27 ht, Option.bind_some, h1]
  exact eml_lp d hb hp ht he g a I A l rfl h2 hr hpl hE
end
