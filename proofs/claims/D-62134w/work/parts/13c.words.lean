/-! ===== the twin: words ===== -/
def scN (v : Nat) : Nat := if v < 100 then (if v < 10 then 1 else 10) else 100
theorem wx_39 (e : List Int32) (q : Bool) (r : List Int32) : wx e q (39 :: r) = wx e (!q) r := by
  cases r with
  | nil => rfl
  | cons d l => rw [wx, if_pos rfl]
theorem wx_ask (e : List Int32) (l : List Int32) : wx e false (36 :: 63 :: l) = e ++ wx e false l := by
  rw [wx, if_neg (by decide), if_pos ⟨rfl, rfl, rfl⟩]
theorem wx_c (e : List Int32) {q : Bool} {c : Int32} {r : List Int32} (h : c ≠ 39) (h' : ¬ (q = false ∧ c = 36 ∧ r.head? = some 63)) : wx e q (c :: r) = c :: wx e q r := by
  cases r with
  | nil =>
    show (if c = 39 then [] else [c]) = [c]
    rw [if_neg h]
  | cons d l =>
    rw [wx, if_neg h, if_neg]
    rintro ⟨h1, h2, h3⟩
    exact h' ⟨h1, h2, by rw [h3]; rfl⟩
section
variable {B : ab_H} {b : Nat} {I : Nat → Int32} {P : Int64} {A : Nat → Nat → Int32} {N : Nat → Int64}
theorem tw_scale (d : Nat) {v : Nat} (hv : v < 1000) (h : ab_H) : ab_cl gG true d 109 [.inl (nI v)] h = some (some (.inl (nI (scN v))), h) := by
  rw [ent_109, bl_109_0]
  simp (disch := omega) only [nlt_100, nlt_10]
  unfold scN
  split
  · split <;> rfl
  · rfl
/-- the state while words are worked out -/
def twX (B : ab_H) (b : Nat) (I : Nat → Int32) (P : Int64) (A : Nat → Nat → Int32) (N : Nat → Int64) (n : Nat) (f : Nat → Int32) : ab_H := TW B b (ab_up I 19 (nI n)) P (ab_up A 13 f) N
theorem tX_let (d : Nat) (hb : B.1.1 ≤ b) {n : Nat} (hn : n < 200) {f : Nat → Int32} (c : Int32) : ab_cl gG true d 108 [.inr (.inr (some b)), .inl c] (twX B b I P A N n f) = some (none, twX B b I P A N (n + 1) (ab_up f n c)) := by
  unfold twX
  rw [ent_108, bl_108_0]
  simp (disch := omega) only [Option.bind_some, qb_c0s, qb_c1s, qb_c2s, qb_c3s, tw_isc, tw_P, ↓reduceIte, tw_i0, tw_i1, tw_i2, tw_i9, tw_i10, tw_i12, tw_i16, tw_i19, tw_i21, tw_i22, tw_i35, tw_i36, tw_i38, tw_i39, tw_i42, tw_i43, tw_i45, tw_i46, tw_i48, tw_r3, tw_r4, tw_r5, tw_r6, tw_r7, tw_r8, tw_r11, tw_r13, tw_r14, tw_r15, tw_r17, tw_r18, tw_r20, tw_r23, tw_r24, tw_r25, tw_r26, tw_r27, tw_r28, tw_r29, tw_r30, tw_r31, tw_r32, tw_r33, tw_r34, tw_r37, tw_r40, tw_r41, tw_r47, tw_w0 hb, tw_w1 hb, tw_w2 hb, tw_w9 hb, tw_w10 hb, tw_w12 hb, tw_w16 hb, tw_w19 hb, tw_w21 hb, tw_w22 hb, tw_w35 hb, tw_w36 hb, tw_w38 hb, tw_w39 hb, tw_w42 hb, tw_w43 hb, tw_w45 hb, tw_w46 hb, tw_w48 hb, tw_s1 hb, tw_s2 hb, tw_s3 hb, tw_s5 hb, tw_s6 hb, tw_s7 hb, tw_s8 hb, tw_s9 hb, tw_s10 hb, tw_s11 hb, tw_s12 hb, tw_s13 hb, tw_s14 hb, tw_s15 hb, tw_s16 hb, tw_s17 hb, tw_s18 hb, tw_s19 hb, tw_s20 hb, tw_s21 hb, tw_s22 hb, tw_s23 hb, tw_s24 hb, tw_s25 hb, tw_s26 hb, tw_s27 hb, tw_s28 hb, tw_s29 hb, tw_sN hb, tw_wP hb, ab_up_e, ab_up_n, nI_1, ab_up_u]
theorem dig_st (d : Nat) (hb : B.1.1 ≤ b) {v : Nat} (hv : v < 1000) (hI : I 45 = nI v) {n : Nat} (hn : n < 200) {f : Nat → Int32} (v1 v2 v3 v4 : Int32) {D : Nat} (hD : 0 < D) (hD2 : D < 1000) : ab_ev gG true (d + 1) 91 76 [some (.inr (.inr (some b))), some (.inl v1), some (.inl v2), some (.inl v3), some (.inl v4), some (.inl (nI D))] [] (twX B b I P A N n f) =
    ab_ev gG true (d + 1) 91 76 [some (.inr (.inr (some b))), some (.inl v1), some (.inl v2), some (.inl v3), some (.inl v4), some (.inl (nI (D / 10)))] [] (twX B b I P A N (n + 1) (ab_up f n (nI (48 + v / D % 10)))) := by
  have e1 : ab_fI (twX B b I P A N n f) b 745 = some (nI v) := by
    unfold twX
    simp (disch := omega) only [tw_i45, ab_up_e, ab_up_n, hI]
  have e2 : ab_isc (twX B b I P A N n f) b 7 = true := tw_isc
  have e3 : (48 : Int32) + (nI v / nI D - nI v / nI D / 10 * 10) = nI (48 + v / D % 10) := by
    rw [pk_div (by omega) hD (by omega)]
    have : nI (v / D) - nI (v / D) / nI 10 * nI 10 = nI (v / D % 10) := pk_rem (by have := Nat.div_le_self v D; omega) (by omega) (by omega)
    have h2 : nI (v / D) - nI (v / D) / 10 * 10 = nI (v / D % 10) := this
    rw [h2]
    exact nI_add 48 _
  have e4 : nI D / 10 = nI (D / 10) := pk_div (a := D) (d := 10) (by omega) (by omega) (by omega)
  rw [bl_91_76, e1, Option.bind_some, if_pos ((ngt_0 (by omega)).mpr hD), if_neg (fun h => by rw [neq_0 (by omega)] at h; omega), if_pos e2, e3, e4, tX_let d hb hn, qb_c0s, Option.bind_some]
theorem dig_all (d : Nat) (hb : B.1.1 ≤ b) {v : Nat} (hv : v < 1000) (hI : I 45 = nI v) {n : Nat} (hn : n + 3 ≤ 200) {f : Nat → Int32} (hf : ∀ (o : Nat), o ≤ n → True) (v1 v2 v3 v4 : Int32) : ∃ f' u5, ab_ev gG true (d + 1) 91 76 [some (.inr (.inr (some b))), some (.inl v1), some (.inl v2), some (.inl v3), some (.inl v4), some (.inl (nI (scN v)))] [] (twX B b I P A N n f) =
    ab_ev gG true (d + 1) 91 14 [some (.inr (.inr (some b))), some (.inl v1), some (.inl v2), some (.inl (v3 + 1 + 1)), some (.inl v4), u5] [] (twX B b I P A N (n + (dg v).length) f') ∧ rdl f' n (dg v) ∧ ∀ j, j < n → f' j = f j := by
  have ex : ∀ (m : Nat) (g : Nat → Int32), ab_ev gG true (d + 1) 91 76 [some (.inr (.inr (some b))), some (.inl v1), some (.inl v2), some (.inl v3), some (.inl v4), some (.inl (nI 0))] [] (twX B b I P A N m g) =
      ab_ev gG true (d + 1) 91 14 [some (.inr (.inr (some b))), some (.inl v1), some (.inl v2), some (.inl (v3 + 1 + 1)), some (.inl v4), some (.inl (nI 0))] [] (twX B b I P A N m g) := fun m g => by
    rw [bl_91_76, if_neg (by decide)]
  unfold scN dg
  by_cases h1 : v < 10
  · rw [if_pos (by omega), if_pos h1, if_pos h1, dig_st d hb hv hI (by omega) _ _ _ _ (by omega) (by omega), ex]
    refine ⟨_, _, rfl, ?_, fun j hj => by rw [ab_up_n _ _ (by omega)]⟩
    rw [Nat.div_one, Nat.mod_eq_of_lt h1]
    exact rdl.sn rdl.nil _
  · by_cases h2 : v < 100
    · rw [if_pos h2, if_neg h1, if_neg h1, if_pos h2, dig_st d hb hv hI (by omega) _ _ _ _ (by omega) (by omega), dig_st d hb hv hI (by omega) _ _ _ _ (by omega) (by omega), ex]
      refine ⟨_, _, rfl, ?_, fun j hj => by rw [ab_up_n _ _ (by omega), ab_up_n _ _ (by omega)]⟩
      rw [show 10 / 10 = 1 from rfl, Nat.div_one, Nat.mod_eq_of_lt (show v / 10 < 10 by omega)]
      exact (rdl.nil.sn _).sn _
    · rw [if_neg h2, if_neg h1, if_neg h2, dig_st d hb hv hI (by omega) _ _ _ _ (by omega) (by omega), dig_st d hb hv hI (by omega) _ _ _ _ (by omega) (by omega), dig_st d hb hv hI (by omega) _ _ _ _ (by omega) (by omega), ex]
      refine ⟨_, _, rfl, ?_, fun j hj => by rw [ab_up_n _ _ (by omega), ab_up_n _ _ (by omega), ab_up_n _ _ (by omega)]⟩
      rw [show 100 / 10 = 10 from rfl, show 10 / 10 = 1 from rfl, Nat.div_one, Nat.mod_eq_of_lt (show v / 100 < 10 by omega)]
      exact ((rdl.nil.sn _).sn _).sn _
theorem dg_len (v : Nat) : 1 ≤ (dg v).length ∧ (dg v).length ≤ 3 := by
  unfold dg
  split
  · simp
  · split <;> simp
theorem wx_len (e : List Int32) (he : e.length ≤ 3) : ∀ (m : Nat) (q : Bool) (s : List Int32), s.length ≤ m → (wx e q s).length ≤ 3 * s.length := by
  intro m
  induction m with
  | zero => intro q s h; obtain rfl : s = [] := List.length_eq_zero_iff.mp (by omega); exact Nat.le_refl _
  | succ m ih =>
    intro q s h
    match s with
    | [] => exact Nat.le_refl _
    | [c] => rw [wx]; split <;> simp
    | c :: d :: l =>
      simp only [List.length_cons] at h
      rw [wx]
      split
      · have := ih (!q) (d :: l) (by simp only [List.length_cons]; omega)
        simp only [List.length_cons] at this ⊢
        omega
      · split
        · have := ih q l (by omega)
          rw [List.length_append]
          simp only [List.length_cons]
          omega
        · have := ih q (d :: l) (by simp only [List.length_cons]; omega)
          simp only [List.length_cons] at this ⊢
          omega
theorem exp_lp (d : Nat) (hb : B.1.1 ≤ b) {t e v w : Nat} (ht : t < 64) (hto : A 10 t = nI e) (he : e ≤ 64) (hv : v < 1000) (hI : I 45 = nI v) (hw : I 16 = nI w) (hw2 : w < 65) :
    ∀ (m : Nat) (s : List Int32) (k n : Nat) (q : Bool) (f : Nat → Int32) (u4 u5 : Option ab_V), s.length ≤ m → k + s.length = e → rdl (A 7) k s → n + 3 * s.length < 200 →
    ∃ f', ab_ev gG true (d + 2) 91 14 [some (.inr (.inr (some b))), some (.inl (nI t)), some (.inl (b01 q)), some (.inl (nI k)), u4, u5] [] (twX B b I P A N n f) =
      some (none, TW B b (ab_up (ab_up I 19 (nI (n + (wx (dg v) q s).length))) 16 (nI (w + 1))) P (ab_up (ab_up A 13 f') 12 (ab_up (A 12) w (nI (n + (wx (dg v) q s).length)))) N) ∧ rdl f' n (wx (dg v) q s) ∧ ∀ j, j < n → f' j = f j := by
  intro m
  induction m with
  | zero =>
    intro s k n q f u4 u5 hs hk hr hn
    obtain rfl : s = [] := List.length_eq_zero_iff.mp (by omega)
    rw [List.length_nil, Nat.add_zero] at hk
    refine ⟨f, ?_, rdl.nil, fun _ _ => rfl⟩
    unfold twX
    rw [bl_91_14]
    simp (disch := omega) only [Option.bind_some, qb_c0s, qb_c1s, qb_c2s, qb_c3s, tw_isc, tw_P, ↓reduceIte, tw_i0, tw_i1, tw_i2, tw_i9, tw_i10, tw_i12, tw_i16, tw_i19, tw_i21, tw_i22, tw_i35, tw_i36, tw_i38, tw_i39, tw_i42, tw_i43, tw_i45, tw_i46, tw_i48, tw_r3, tw_r4, tw_r5, tw_r6, tw_r7, tw_r8, tw_r11, tw_r13, tw_r14, tw_r15, tw_r17, tw_r18, tw_r20, tw_r23, tw_r24, tw_r25, tw_r26, tw_r27, tw_r28, tw_r29, tw_r30, tw_r31, tw_r32, tw_r33, tw_r34, tw_r37, tw_r40, tw_r41, tw_r47, tw_a1, tw_a2, tw_a3, tw_a5, tw_a6, tw_a7, tw_a8, tw_a9, tw_a10, tw_a11, tw_a12, tw_a13, tw_a14, tw_a15, tw_a16, tw_a17, tw_a18, tw_a19, tw_a20, tw_a21, tw_a22, tw_a23, tw_a24, tw_a25, tw_a26, tw_a27, tw_a28, tw_a29, tw_aN, tw_w0 hb, tw_w1 hb, tw_w2 hb, tw_w9 hb, tw_w10 hb, tw_w12 hb, tw_w16 hb, tw_w19 hb, tw_w21 hb, tw_w22 hb, tw_w35 hb, tw_w36 hb, tw_w38 hb, tw_w39 hb, tw_w42 hb, tw_w43 hb, tw_w45 hb, tw_w46 hb, tw_w48 hb, tw_s1 hb, tw_s2 hb, tw_s3 hb, tw_s5 hb, tw_s6 hb, tw_s7 hb, tw_s8 hb, tw_s9 hb, tw_s10 hb, tw_s11 hb, tw_s12 hb, tw_s13 hb, tw_s14 hb, tw_s15 hb, tw_s16 hb, tw_s17 hb, tw_s18 hb, tw_s19 hb, tw_s20 hb, tw_s21 hb, tw_s22 hb, tw_s23 hb, tw_s24 hb, tw_s25 hb, tw_s26 hb, tw_s27 hb, tw_s28 hb, tw_s29 hb, tw_sN hb, tw_wP hb, ab_up_e, ab_up_n, hto, hw, hI, nI_ltI, hk, Nat.lt_irrefl, wx, List.length_nil, Nat.add_zero, nI_1]
  | succ m ih =>
    intro s k n q f u4 u5 hs hk hr hn
    cases s with
    | nil =>
      rw [List.length_nil, Nat.add_zero] at hk
      refine ⟨f, ?_, rdl.nil, fun _ _ => rfl⟩
      unfold twX
      rw [bl_91_14]
      simp (disch := omega) only [Option.bind_some, qb_c0s, qb_c1s, qb_c2s, qb_c3s, tw_isc, tw_P, ↓reduceIte, tw_i0, tw_i1, tw_i2, tw_i9, tw_i10, tw_i12, tw_i16, tw_i19, tw_i21, tw_i22, tw_i35, tw_i36, tw_i38, tw_i39, tw_i42, tw_i43, tw_i45, tw_i46, tw_i48, tw_r3, tw_r4, tw_r5, tw_r6, tw_r7, tw_r8, tw_r11, tw_r13, tw_r14, tw_r15, tw_r17, tw_r18, tw_r20, tw_r23, tw_r24, tw_r25, tw_r26, tw_r27, tw_r28, tw_r29, tw_r30, tw_r31, tw_r32, tw_r33, tw_r34, tw_r37, tw_r40, tw_r41, tw_r47, tw_a1, tw_a2, tw_a3, tw_a5, tw_a6, tw_a7, tw_a8, tw_a9, tw_a10, tw_a11, tw_a12, tw_a13, tw_a14, tw_a15, tw_a16, tw_a17, tw_a18, tw_a19, tw_a20, tw_a21, tw_a22, tw_a23, tw_a24, tw_a25, tw_a26, tw_a27, tw_a28, tw_a29, tw_aN, tw_w0 hb, tw_w1 hb, tw_w2 hb, tw_w9 hb, tw_w10 hb, tw_w12 hb, tw_w16 hb, tw_w19 hb, tw_w21 hb, tw_w22 hb, tw_w35 hb, tw_w36 hb, tw_w38 hb, tw_w39 hb, tw_w42 hb, tw_w43 hb, tw_w45 hb, tw_w46 hb, tw_w48 hb, tw_s1 hb, tw_s2 hb, tw_s3 hb, tw_s5 hb, tw_s6 hb, tw_s7 hb, tw_s8 hb, tw_s9 hb, tw_s10 hb, tw_s11 hb, tw_s12 hb, tw_s13 hb, tw_s14 hb, tw_s15 hb, tw_s16 hb, tw_s17 hb, tw_s18 hb, tw_s19 hb, tw_s20 hb, tw_s21 hb, tw_s22 hb, tw_s23 hb, tw_s24 hb, tw_s25 hb, tw_s26 hb, tw_s27 hb, tw_s28 hb, tw_s29 hb, tw_sN hb, tw_wP hb, ab_up_e, ab_up_n, hto, hw, hI, nI_ltI, hk, Nat.lt_irrefl, wx, List.length_nil, Nat.add_zero, nI_1]
    | cons c r =>
      rw [List.length_cons] at hs hk hn
      have hc : A 7 k = c := hr.hd
      have hr' := hr.tl
      -- the letter behind
      have hd1 : k + 1 < e → A 7 (k + 1) = r.getD 0 0 := fun h => by
        have := hr' 0 (by omega)
        rwa [Nat.add_zero] at this
      have hin : ∀ s0 : Int32, ab_ev gG true (d + 1 + 1) 91 48 [some (.inr (.inr (some b))), some (.inl (nI t)), some (.inl (b01 q)), some (.inl (nI k)), none, none] [.inl s0] (twX B b I P A N n f) =
          (if c = 39 then (if q = false then ab_ev gG true (d + 1 + 1) 91 14 [some (.inr (.inr (some b))), some (.inl (nI t)), some (.inl 1), some (.inl (nI (k + 1))), some (.inl s0), none] [] (twX B b I P A N n f) else ab_ev gG true (d + 1 + 1) 91 14 [some (.inr (.inr (some b))), some (.inl (nI t)), some (.inl 0), some (.inl (nI (k + 1))), some (.inl s0), none] [] (twX B b I P A N n f))
          else if s0 = 0 then ab_ev gG true (d + 1 + 1) 91 14 [some (.inr (.inr (some b))), some (.inl (nI t)), some (.inl (b01 q)), some (.inl (nI (k + 1))), some (.inl s0), none] [] (twX B b I P A N (n + 1) (ab_up f n c))
          else ab_ev gG true (d + 1 + 1) 91 76 [some (.inr (.inr (some b))), some (.inl (nI t)), some (.inl (b01 q)), some (.inl (nI k)), some (.inl s0), some (.inl (nI (scN v)))] [] (twX B b I P A N n f)) := fun s0 => by
        have e1 : ab_fR (twX B b I P A N n f) b 711 = some (some (b + 7)) := tw_r11
        have e2 : ab_aI 0 (twX B b I P A N n f) (b + 7) (nI k) = some c := by
          unfold twX
          simp (disch := omega) only [tw_a7, ab_up_e, ab_up_n, hc]
        have e3 : ab_fI (twX B b I P A N n f) b 745 = some (nI v) := by
          unfold twX
          simp (disch := omega) only [tw_i45, ab_up_e, ab_up_n, hI]
        have e4 : ab_isc (twX B b I P A N n f) b 7 = true := tw_isc
        rw [bl_91_48]
        simp only [e1, e2, e3, e4, Option.bind_some, ↓reduceIte, b01_0, nI_1, tw_scale d hv, qb_c1s, tX_let (d + 1) hb (show n < 200 by omega) c, qb_c0s]
        rw [tw_scale _ hv, qb_c1s, Option.bind_some]
      -- whether it asks
      have hst : ∃ s0 : Int32, ab_ev gG true (d + 2) 91 14 [some (.inr (.inr (some b))), some (.inl (nI t)), some (.inl (b01 q)), some (.inl (nI k)), u4, u5] [] (twX B b I P A N n f) = ab_ev gG true (d + 1 + 1) 91 48 [some (.inr (.inr (some b))), some (.inl (nI t)), some (.inl (b01 q)), some (.inl (nI k)), none, none] [.inl s0] (twX B b I P A N n f) ∧ (s0 = 0 ↔ ¬ (q = false ∧ c = 36 ∧ r.head? = some 63)) := by
        have e1 : ab_fR (twX B b I P A N n f) b 711 = some (some (b + 7)) := tw_r11
        have e2 : ab_aI 0 (twX B b I P A N n f) (b + 7) (nI k) = some c := by
          unfold twX
          simp (disch := omega) only [tw_a7, ab_up_e, ab_up_n, hc]
        have e3 : ab_fR (twX B b I P A N n f) b 715 = some (some (b + 10)) := tw_r15
        have e5 : ab_aI 0 (twX B b I P A N n f) (b + 10) (nI t) = some (nI e) := by
          unfold twX
          simp (disch := omega) only [tw_a10, ab_up_e, ab_up_n, hto]
        rw [bl_91_14]
        simp (disch := omega) only [e1, e2, e3, e5, Option.bind_some, nI_1, nI_ltI, b01_0]
        rw [if_pos (show k < e by omega)]
        by_cases h36 : c = 36
        · rw [if_pos h36]
          cases q with
          | true => rw [if_neg (by decide)]; exact ⟨0, rfl, ⟨fun _ h => (by cases h.1), fun _ => rfl⟩⟩
          | false =>
            rw [if_pos rfl]
            by_cases h1 : k + 1 < e
            · rw [if_pos h1]
              have e6 : ab_aI 0 (twX B b I P A N n f) (b + 7) (nI (k + 1)) = some (r.getD 0 0) := by
                unfold twX
                simp (disch := omega) only [tw_a7, ab_up_e, ab_up_n, hd1 h1]
              rw [e6, Option.bind_some]
              cases r with
              | nil => rw [List.length_nil] at hk; omega
              | cons a l =>
                rw [List.getD_cons_zero]
                by_cases h63 : a = 63
                · rw [if_pos h63]
                  exact ⟨1, rfl, ⟨fun h => absurd h (by decide), fun h => absurd ⟨rfl, h36, by rw [h63]; rfl⟩ h⟩⟩
                · rw [if_neg h63]
                  exact ⟨0, rfl, ⟨fun _ h => h63 (Option.some.inj h.2.2), fun _ => rfl⟩⟩
            · rw [if_neg h1]
              refine ⟨0, rfl, ⟨fun _ h => ?_, fun _ => rfl⟩⟩
              cases r with
              | nil => cases h.2.2
              | cons a l => rw [List.length_cons] at hk; omega
        · rw [if_neg h36]
          exact ⟨0, rfl, ⟨fun _ h => h36 h.2.1, fun _ => rfl⟩⟩
      obtain ⟨s0, hs0, hask⟩ := hst
      rw [hs0, hin s0]
      by_cases h39 : c = 39
      · rw [if_pos h39]
        subst h39
        rw [wx_39]
        cases q with
        | false => rw [if_pos rfl]; exact ih r (k + 1) n true f _ _ (by omega) (by omega) hr' (by omega)
        | true => rw [if_neg (by decide)]; exact ih r (k + 1) n false f _ _ (by omega) (by omega) hr' (by omega)
      · rw [if_neg h39]
        by_cases ha : q = false ∧ c = 36 ∧ r.head? = some 63
        · rw [if_neg (fun h => hask.mp h ha)]
          obtain ⟨rfl, rfl, h63⟩ := ha
          cases r with
          | nil => cases h63
          | cons a l =>
            obtain rfl : a = 63 := Option.some.inj h63
            rw [List.length_cons] at hs hk hn
            obtain ⟨f1, w5, e1, e2, e3⟩ := dig_all (N := N) (P := P) (A := A) (f := f) (n := n) (d + 1) hb hv hI (by omega) (fun _ _ => trivial) (nI t) (b01 false) (nI k) s0
            have hd3 := dg_len v
            obtain ⟨f', g1, g2, g3⟩ := ih l (k + 2) (n + (dg v).length) false f1 (some (.inl s0)) w5 (by omega) (by omega) hr'.tl (by omega)
            rw [nI_1, nI_1] at e1
            rw [wx_ask, List.length_append, ← Nat.add_assoc]
            refine ⟨f', e1.trans g1, ?_, fun j hj => by rw [g3 j (by omega), e3 j hj]⟩
            exact rdl.ap (e2.cg fun k h1 h2 => g3 k (by omega)) g2
        · rw [if_pos (hask.mpr ha), wx_c _ h39 ha]
          obtain ⟨f', g1, g2, g3⟩ := ih r (k + 1) (n + 1) q (ab_up f n c) (some (.inl s0)) none (by omega) (by omega) hr' (by omega)
          rw [List.length_cons, show n + ((wx (dg v) q r).length + 1) = n + 1 + (wx (dg v) q r).length by omega]
          refine ⟨f', g1, ?_, fun j hj => by rw [g3 j (by omega), ab_up_n _ _ (by omega)]⟩
          have h1 : rdl f' n [c] := fun i hi => by
            obtain rfl : i = 0 := by simpa using hi
            rw [Nat.add_zero, g3 n (by omega), ab_up_e]
            rfl
          exact rdl.ap h1 g2
/-- expand(t): one more word -/
theorem tw_expand (d : Nat) (hb : B.1.1 ≤ b) {t a e v w n : Nat} {s : List Int32} (ht : t < 64) (hfrom : A 9 t = nI a) (hto : A 10 t = nI e) (he : e ≤ 64) (hs : a + s.length = e) (hr : rdl (A 7) a s) (hv : v < 1000) (hI : I 45 = nI v) (hw : I 16 = nI w) (hw2 : w < 65) (hn : I 19 = nI n) (hn2 : n + 3 * s.length < 200) :
    ∃ I' A', ab_cl gG true (d + 2) 91 [.inr (.inr (some b)), .inl (nI t)] (TW B b I P A N) = some (none, TW B b I' P A' N) ∧ fr [19, 16] I I' ∧ fr [13, 12, 11] A A' ∧ I' 16 = nI (w + 1) ∧ I' 19 = nI (n + (wx (dg v) false s).length) ∧
      A' 11 w = nI n ∧ A' 12 w = nI (n + (wx (dg v) false s).length) ∧ rdl (A' 13) n (wx (dg v) false s) ∧ (∀ j, j < n → A' 13 j = A 13 j) ∧ ∀ j, j ≠ w → A' 11 j = A 11 j ∧ A' 12 j = A 12 j := by
  have e0 : TW B b I P (ab_up A 11 (ab_up (A 11) w (nI n))) N = twX B b I P (ab_up A 11 (ab_up (A 11) w (nI n))) N n (A 13) := by
    unfold twX
    have e1 : ab_up I 19 (nI n) = I := by rw [← hn, ab_up_s]
    have e2 : ab_up (ab_up A 11 (ab_up (A 11) w (nI n))) 13 (A 13) = ab_up A 11 (ab_up (A 11) w (nI n)) := by
      have : A 13 = (ab_up A 11 (ab_up (A 11) w (nI n))) 13 := by rw [ab_up_n _ _ (by decide)]
      rw [this, ab_up_s]
    rw [e1, e2]
  obtain ⟨f', g1, g2, g3⟩ := exp_lp (N := N) (P := P) (A := ab_up A 11 (ab_up (A 11) w (nI n))) (t := t) (e := e) d hb ht (by rw [ab_up_n _ _ (by decide)]; exact hto) he hv hI hw hw2 s.length s a n false (A 13) none none (Nat.le_refl _) hs (by rw [ab_up_n _ _ (by decide)]; exact hr) hn2
  have e5 : ab_cl gG true (d + 2) 91 [.inr (.inr (some b)), .inl (nI t)] (TW B b I P A N) = ab_ev gG true (d + 1 + 1) 91 14 [some (.inr (.inr (some b))), some (.inl (nI t)), some (.inl 0), some (.inl (nI a)), none, none] [] (TW B b I P (ab_up A 11 (ab_up (A 11) w (nI n))) N) := by
    rw [ent_91, bl_91_0]
    simp (disch := omega) only [Option.bind_some, qb_c0s, qb_c1s, qb_c2s, qb_c3s, tw_isc, tw_P, ↓reduceIte, tw_i0, tw_i1, tw_i2, tw_i9, tw_i10, tw_i12, tw_i16, tw_i19, tw_i21, tw_i22, tw_i35, tw_i36, tw_i38, tw_i39, tw_i42, tw_i43, tw_i45, tw_i46, tw_i48, tw_r3, tw_r4, tw_r5, tw_r6, tw_r7, tw_r8, tw_r11, tw_r13, tw_r14, tw_r15, tw_r17, tw_r18, tw_r20, tw_r23, tw_r24, tw_r25, tw_r26, tw_r27, tw_r28, tw_r29, tw_r30, tw_r31, tw_r32, tw_r33, tw_r34, tw_r37, tw_r40, tw_r41, tw_r47, tw_a1, tw_a2, tw_a3, tw_a5, tw_a6, tw_a7, tw_a8, tw_a9, tw_a10, tw_a11, tw_a12, tw_a13, tw_a14, tw_a15, tw_a16, tw_a17, tw_a18, tw_a19, tw_a20, tw_a21, tw_a22, tw_a23, tw_a24, tw_a25, tw_a26, tw_a27, tw_a28, tw_a29, tw_aN, tw_w0 hb, tw_w1 hb, tw_w2 hb, tw_w9 hb, tw_w10 hb, tw_w12 hb, tw_w16 hb, tw_w19 hb, tw_w21 hb, tw_w22 hb, tw_w35 hb, tw_w36 hb, tw_w38 hb, tw_w39 hb, tw_w42 hb, tw_w43 hb, tw_w45 hb, tw_w46 hb, tw_w48 hb, tw_s1 hb, tw_s2 hb, tw_s3 hb, tw_s5 hb, tw_s6 hb, tw_s7 hb, tw_s8 hb, tw_s9 hb, tw_s10 hb, tw_s11 hb, tw_s12 hb, tw_s13 hb, tw_s14 hb, tw_s15 hb, tw_s16 hb, tw_s17 hb, tw_s18 hb, tw_s19 hb, tw_s20 hb, tw_s21 hb, tw_s22 hb, tw_s23 hb, tw_s24 hb, tw_s25 hb, tw_s26 hb, tw_s27 hb, tw_s28 hb, tw_s29 hb, tw_sN hb, tw_wP hb, ab_up_e, ab_up_n, hw, hn, hfrom]
  rw [e0] at e5
  refine ⟨_, _, e5.trans g1, fr.up (fr.up fr.rf _ rfl) _ rfl, fr.up (fr.up (fr.up fr.rf _ rfl) _ rfl) _ rfl, ?_, ?_, ?_, ?_, ?_, ?_, ?_⟩
  all_goals simp (disch := omega) only [ab_up_e, ab_up_n]
  · exact g2
  · exact g3
  · intro j hj
    exact ⟨ab_up_n _ _ hj, ab_up_n _ _ hj⟩
end
