/-! ===== the twin: endCommand's ends; closeGroup ===== -/
/-- what a list has put out at a level -/
def twO (lv : Nat) (out : List Int32) (A : Nat → Nat → Int32) : Prop := A 22 lv = nI out.length ∧ rdl (A 21) (96 * lv) out
section
variable {B : ab_H} {b : Nat} {I : Nat → Int32} {P : Int64} {A : Nat → Nat → Int32} {N : Nat → Int64} {Z : sL} {n : Nat} {fa : Nat → Nat} {lv : Nat} {s : sS}
/-- a | comes -/
theorem ec_bar (d : Nat) (hb : B.1.1 ≤ b) (hk : tkR n Z.2.1 Z.2.2 fa) (hl2 : lv < 5) (hR : RT Z n fa lv s I A N) {tc : Nat} (hp : I 22 = nI tc) (h4 : Z.2.1 tc = 4) {x : List Int32} (hx : x.length ≤ 96) (h35 : I 35 = nI x.length) (hrx : rdl (A 25) 0 x) (code g : Int32) :
    ∃ I' A', ab_ev gG true (d + 1) 75 34 [some (.inr (.inr (some b))), some (.inl code), some (.inl g), none] [] (TW B b I P A N) = some (some (.inl 1), TW B b I' P A' N) ∧ fr [22] I I' ∧ fr [23, 24, 16] A A' ∧ I' 22 = nI (tc + 1) ∧ A' 16 lv = nI (2 * lv) ∧ twIn (some (2 * lv)) x A' ∧ (∀ j, j ≠ lv → A' 16 j = A 16 j) ∧ (∀ i, i ≠ 2 * lv → A' 24 i = A 24 i) ∧ ∀ k, (k < 160 * (2 * lv) ∨ 160 * (2 * lv) + 160 ≤ k) → A' 23 k = A 23 k := by
  have htn : tc < n := hk.1.lt (by omega)
  have hn := hk.2.1
  have k4 : kI Z.2.1 n tc = (4 : Int32) := (kI_eq hk.1 tc (c := 4) (by omega)).mpr h4
  have e2 : (2 : Int32) * nI lv = nI (2 * lv) := pk_mul 2 lv
  have hlv := hR.2.2.2.2.2.1
  obtain ⟨A1, e1, f1, t1, i1, i2⟩ := tw_fill (B := B) (b := b) (P := P) (N := N) d hb (x := 2 * lv) (by omega) h35 hx hrx
  have e0 : ab_ev gG true (d + 1) 75 34 [some (.inr (.inr (some b))), some (.inl code), some (.inl g), none] [] (TW B b I P A N) = some (some (.inl 1), TW B b (ab_up I 22 (nI (tc + 1))) P (ab_up A1 16 (ab_up (A1 16) lv (nI (2 * lv)))) N) := by
    rw [bl_75_34, tw_i22, Option.bind_some, hp, if_pos tw_isc, tw_kindAt d hn hR.1 (by omega), qb_c1s, Option.bind_some]
    dsimp only
    rw [if_pos k4, tw_i21, Option.bind_some, hlv, if_pos tw_isc, e2, e1, qb_c0s, Option.bind_some, tw_r25, Option.bind_some, tw_i21, Option.bind_some, Option.bind_some, Option.bind_some, hlv, e2, tw_s16 hb hl2, Option.bind_some, tw_i22, Option.bind_some, hp, nI_1, tw_w22 hb, Option.bind_some]
  refine ⟨_, _, e0, fr.up fr.rf _ rfl, (f1.mo rfl).up _ rfl, ab_up_e _ _ _, ?_, t1.cg (fun i _ => by rw [ab_up_n _ _ (by decide)]) (fun i _ k _ _ => by rw [ab_up_n _ _ (by decide)]), fun j hj => ?_, fun i hi => ?_, fun k hk2 => ?_⟩
  · rw [ab_up_e, ab_up_e]
  · rw [ab_up_e, ab_up_n _ _ hj, f1 _ rfl]
  · rw [ab_up_n _ _ (by decide)]; exact i1 i hi
  · rw [ab_up_n _ _ (by decide)]; exact i2 k hk2
theorem put_lp (d : Nat) (hb : B.1.1 ≤ b) (hl2 : lv < 5) {m l : Nat} (hm : A 22 lv = nI m) (hlv : I 21 = nI lv) (hl : I 35 = nI l) (hml : m + l ≤ 96) (v1 v2 : Int32) : ∀ (s : List Int32) (k : Nat) (f : Nat → Int32), k + s.length = l → rdl (A 25) k s →
    ab_ev gG true (d + 1) 75 78 [some (.inr (.inr (some b))), some (.inl v1), some (.inl v2), some (.inl (nI k))] [] (TW B b I P (ab_up A 21 f) N) = ab_ev gG true (d + 1) 75 78 [some (.inr (.inr (some b))), some (.inl v1), some (.inl v2), some (.inl (nI l))] [] (TW B b I P (ab_up A 21 (cpw f (96 * lv + m + k) s)) N) := by
  intro s
  induction s with
  | nil =>
    intro k f hk hr
    rw [List.length_nil] at hk
    rw [show k = l by omega]
    rfl
  | cons c s ih =>
    intro k f hk hr
    rw [List.length_cons] at hk
    have e1 : (96 : Int32) * nI lv + nI m + nI k = nI (96 * lv + m + k) := by
      rw [show (96 : Int32) * nI lv = nI (96 * lv) from pk_mul 96 lv, nI_add, nI_add]
    rw [bl_75_78]
    simp (disch := omega) only [Option.bind_some, qb_c0s, qb_c1s, qb_c2s, qb_c3s, tw_isc, tw_P, ↓reduceIte, tw_i0, tw_i1, tw_i2, tw_i9, tw_i10, tw_i12, tw_i16, tw_i19, tw_i21, tw_i22, tw_i35, tw_i36, tw_i38, tw_i39, tw_i42, tw_i43, tw_i45, tw_i46, tw_i48, tw_r3, tw_r4, tw_r5, tw_r6, tw_r7, tw_r8, tw_r11, tw_r13, tw_r14, tw_r15, tw_r17, tw_r18, tw_r20, tw_r23, tw_r24, tw_r25, tw_r26, tw_r27, tw_r28, tw_r29, tw_r30, tw_r31, tw_r32, tw_r33, tw_r34, tw_r37, tw_r40, tw_r41, tw_r47, tw_a22, tw_a25, ab_up_e, ab_up_n, hl, hm, hlv, nI_ltI, e1, tw_s21 hb, ab_up_u, nI_1]
    rw [if_pos (by omega), hr.hd, ih (k + 1) _ (by omega) hr.tl, cpw, Nat.add_assoc (96 * lv + m) k 1]
/-- no | comes: the text is put out -/
theorem ec_out (d : Nat) (hb : B.1.1 ≤ b) (hZ : okZ Z) (hk : tkR n Z.2.1 Z.2.2 fa) (hl2 : lv < 5) {r1 : sT} {h1 st1 rn1 : Nat} (hR : RT Z n fa lv (r1, h1, st1, rn1) I A N) {tc r t1 : Nat} (hp : I 22 = nI tc) (htc : tc ≤ n) (h4 : Z.2.1 tc ≠ 4) {x : List Int32} (hx : x.length ≤ 96) (h35 : I 35 = nI x.length) (hrx : rdl (A 25) 0 x) {nt : Bool} (hnt : A 20 lv = b01 nt) {out : List Int32} (hO : twO lv out A) (hout : out.length ≤ Z.1.2.2) {cd : Nat} (hcd : cd ≤ 127) (g : Int32) (hpo : pO Z.2.1 100 (pG Z.2.1 100 r) 100 tc = some t1) (ht1 : Z.2.1 t1 = 1 ∨ Z.2.1 t1 = 9 ∨ Z.2.1 t1 = 11) (st2 : Nat) (hst2 : st2 = if nt = true then (if cd = 0 then 1 else 0) else cd) :
    (Z.1.2.2 < out.length + x.length → ab_ev gG true (d + 3) 75 34 [some (.inr (.inr (some b))), some (.inl (nI cd)), some (.inl g), none] [] (TW B b I P A N) = some (some (.inl 0), TW B b I P A N)) ∧
    (out.length + x.length ≤ Z.1.2.2 → ∃ I' A', ab_ev gG true (d + 3) 75 34 [some (.inr (.inr (some b))), some (.inl (nI cd)), some (.inl g), none] [] (TW B b I P A N) = some (some (.inl 1), TW B b I' P A' N) ∧ fr [45, 22] I I' ∧ fr [21, 22, 20, 19, 16] A A' ∧ RT Z n fa lv (r1, h1, st2, rn1) I' A' N ∧ twO lv (out ++ x) A' ∧ (∀ j, j ≠ lv → A' 22 j = A 22 j ∧ A' 20 j = A 20 j ∧ A' 19 j = A 19 j ∧ A' 16 j = A 16 j) ∧ (∀ k, (k < 96 * lv ∨ 96 * lv + 96 ≤ k) → A' 21 k = A 21 k) ∧
      ((goS Z (pG Z.2.1 100 r) n 100 tc st2).2 = false → I' 22 = nI (goS Z (pG Z.2.1 100 r) n 100 tc st2).1) ∧ ((goS Z (pG Z.2.1 100 r) n 100 tc st2).2 = true → (goS Z (pG Z.2.1 100 r) n 100 tc st2).1 < n ∧ I' 22 = nI (if Z.2.1 (goS Z (pG Z.2.1 100 r) n 100 tc st2).1 = 10 then (goS Z (pG Z.2.1 100 r) n 100 tc st2).1 + 1 else (goS Z (pG Z.2.1 100 r) n 100 tc st2).1) ∧ A' 20 lv = b01 (decide (Z.2.1 (goS Z (pG Z.2.1 100 r) n 100 tc st2).1 = 10)) ∧ A' 19 lv = b01 (decide (Z.2.1 (peA Z.2.1 n true 0 (if Z.2.1 (goS Z (pG Z.2.1 100 r) n 100 tc st2).1 = 10 then (goS Z (pG Z.2.1 100 r) n 100 tc st2).1 + 1 else (goS Z (pG Z.2.1 100 r) n 100 tc st2).1)) = 4)) ∧ A' 16 lv = A 14 lv)) := by
  have hn := hk.2.1
  obtain ⟨q1, q2, q3, q4, q5, q6, q7, q8, q9⟩ := id hR
  have hpl := hZ.2.2.1
  have k4 : ¬ kI Z.2.1 n tc = (4 : Int32) := fun e => h4 ((kI_eq hk.1 tc (c := 4) (by omega)).mp e)
  have e0 : ab_ev gG true (d + 3) 75 34 [some (.inr (.inr (some b))), some (.inl (nI cd)), some (.inl g), none] [] (TW B b I P A N) = (if nI Z.1.2.2 < nI (out.length + x.length) then some (some (.inl 0), TW B b I P A N) else ab_ev gG true (d + 3) 75 78 [some (.inr (.inr (some b))), some (.inl (nI cd)), some (.inl g), some (.inl (nI 0))] [] (TW B b I P A N)) := by
    rw [bl_75_34, tw_i22, Option.bind_some, hp, if_pos tw_isc, tw_kindAt (d + 2) hn hR.1 (by omega), qb_c1s, Option.bind_some]
    dsimp only
    rw [if_neg k4, tw_r31, Option.bind_some, tw_i21, Option.bind_some, Option.bind_some, q6, tw_a22 hl2, Option.bind_some, hO.1, tw_i35, Option.bind_some, h35, tw_i2, Option.bind_some, q9, nI_add]
    rfl
  refine ⟨fun h => by rw [e0, if_pos (nI_lt h (by omega))], fun h => ?_⟩
  rw [if_neg (nI_nlt h (by omega))] at e0
  have e1 := put_lp (B := B) (b := b) (I := I) (P := P) (A := A) (N := N) (d + 2) hb hl2 (m := out.length) (l := x.length) hO.1 q6 h35 (by omega) (nI cd) g x 0 (A 21) (by omega) hrx
  rw [ab_up_s] at e1
  -- behind the loop
  have fA : fr [21, 22] A (ab_up (ab_up A 21 (cpw (A 21) (96 * lv + out.length + 0) x)) 22 (ab_up (A 22) lv (nI (out.length + x.length)))) := (fr.up fr.rf _ rfl).up _ rfl
  have e2 : ab_ev gG true (d + 3) 75 78 [some (.inr (.inr (some b))), some (.inl (nI cd)), some (.inl g), some (.inl (nI x.length))] [] (TW B b I P (ab_up A 21 (cpw (A 21) (96 * lv + out.length + 0) x)) N) = (ab_c0 (ab_cl gG true (d + 2) 95 [.inr (.inr (some b))] (TW B b (ab_up I 45 (nI st2)) P (ab_up (ab_up A 21 (cpw (A 21) (96 * lv + out.length + 0) x)) 22 (ab_up (A 22) lv (nI (out.length + x.length)))) N))).bind fun h25 => some (some (.inl 1), h25) := by
    rw [bl_75_78, tw_i35, Option.bind_some, h35, if_neg (nI_nlt (Nat.le_refl _) (by omega))]
    simp (disch := omega) only [Option.bind_some, qb_c0s, qb_c1s, qb_c2s, qb_c3s, tw_isc, tw_P, ↓reduceIte, tw_i0, tw_i1, tw_i2, tw_i9, tw_i10, tw_i12, tw_i16, tw_i19, tw_i21, tw_i22, tw_i35, tw_i36, tw_i38, tw_i39, tw_i42, tw_i43, tw_i45, tw_i46, tw_i48, tw_r3, tw_r4, tw_r5, tw_r6, tw_r7, tw_r8, tw_r11, tw_r13, tw_r14, tw_r15, tw_r17, tw_r18, tw_r20, tw_r23, tw_r24, tw_r25, tw_r26, tw_r27, tw_r28, tw_r29, tw_r30, tw_r31, tw_r32, tw_r33, tw_r34, tw_r37, tw_r40, tw_r41, tw_r47, tw_a22, tw_a20, ab_up_e, ab_up_n, h35, hO.1, q6, nI_add, tw_s22 hb, hnt]
    cases nt with
    | false =>
      rw [if_pos b01_f, tw_w45 hb, Option.bind_some, if_pos tw_isc, hst2, if_neg (by decide)]
    | true =>
      rw [if_neg (by decide)]
      by_cases hc : cd = 0
      · rw [if_pos ((neq_0 (by omega)).mpr hc), tw_w45 hb, Option.bind_some, if_pos tw_isc, hst2, if_pos rfl, if_pos hc]
        rfl
      · rw [if_neg (fun e => hc ((neq_0 (by omega)).mp e)), tw_w45 hb, Option.bind_some, if_pos tw_isc, hst2, if_pos rfl, if_neg hc]
        rfl
  have hst : st2 < 1000 := by
    rw [hst2]
    split
    · split <;> omega
    · omega
  have a21 : (ab_up (ab_up A 21 (cpw (A 21) (96 * lv + out.length + 0) x)) 22 (ab_up (A 22) lv (nI (out.length + x.length)))) 21 = cpw (A 21) (96 * lv + out.length + 0) x := by simp (disch := omega) only [ab_up_e, ab_up_n]
  have a22 : (ab_up (ab_up A 21 (cpw (A 21) (96 * lv + out.length + 0) x)) 22 (ab_up (A 22) lv (nI (out.length + x.length)))) 22 = ab_up (A 22) lv (nI (out.length + x.length)) := ab_up_e _ _ _
  generalize ab_up (ab_up A 21 (cpw (A 21) (96 * lv + out.length + 0) x)) 22 (ab_up (A 22) lv (nI (out.length + x.length))) = A2 at fA e2 a21 a22
  have hR2 : RT Z n fa lv (r1, h1, st2, rn1) (ab_up I 45 (nI st2)) A2 N := ⟨q1.cg (ab_up_n _ _ (by decide)) (fA _ rfl) (fA _ rfl) (fA _ rfl) (fA _ rfl), q2.fr fA rfl, by rw [ab_up_n _ _ (by decide)]; exact q3, ab_up_e _ _ _, by rw [ab_up_n _ _ (by decide)]; exact q5, by rw [ab_up_n _ _ (by decide)]; exact q6, ⟨by rw [ab_up_n _ _ (by decide)]; exact q7.1, by rw [ab_up_n _ _ (by decide)]; exact q7.2⟩, by rw [ab_up_n _ _ (by decide)]; exact q8, by rw [ab_up_n _ _ (by decide)]; exact q9⟩
  obtain ⟨I3, A3, e3, g1, g2, g3, g4, g5⟩ := tw_goOn (B := B) (b := b) (P := P) (s := (r1, h1, st2, rn1)) d hb hk hl2 (r := r) ht1 hst 100 tc (ab_up I 45 (nI st2)) hpo htc hR2 (by rw [ab_up_n _ _ (by decide)]; exact hp)
  rw [e3, qb_c0s, Option.bind_some] at e2
  have e9 := e0.trans (e1.trans e2)
  have hA : ∀ k, k ≠ 20 → k ≠ 19 → k ≠ 16 → A3 k = A2 k := fun k h1 h2 h3 => g2 k (by simp [h1, h2, h3])
  refine ⟨I3, A3, e9, (fr.up fr.rf _ rfl : fr [45, 22] I (ab_up I 45 (nI st2))).tr (g1.mo rfl), (fA.mo rfl).tr (g2.mo rfl), hR2.kp g1 g2 rfl rfl, ?_, fun j hj => ?_, fun k hk2 => ?_, fun e => (g3 e).1, fun e => ?_⟩
  · refine ⟨by rw [hA _ (by decide) (by decide) (by decide), a22, ab_up_e, List.length_append], ?_⟩
    rw [hA _ (by decide) (by decide) (by decide), a21]
    refine rdl.ap (hO.2.cg (fun k h1 h2 => cpw_o _ _ _ _ (by omega))) ?_
    exact cpw_r _ _ _
  · obtain ⟨a1, a2, a3⟩ := g5 j hj
    exact ⟨by rw [hA _ (by decide) (by decide) (by decide), a22, ab_up_n _ _ hj], by rw [a1, fA _ rfl], by rw [a2, fA _ rfl], by rw [a3, fA _ rfl]⟩
  · rw [hA _ (by decide) (by decide) (by decide), a21]
    exact cpw_o _ _ _ _ (by omega)
  · obtain ⟨a1, a2, a3, a4, a5⟩ := g4 e
    exact ⟨a1, a2, a3, a4, by rw [a5, fA _ rfl]⟩
theorem cls_lp (d : Nat) (hb : B.1.1 ≤ b) {l : Nat} (hl2 : lv < 5) (hlv : I 21 = nI lv) (hl : I 35 = nI l) (hl3 : l ≤ 96) : ∀ (s : List Int32) (k : Nat) (f : Nat → Int32), k + s.length = l → rdl (A 21) (96 * lv + k) s →
    ab_ev gG true (d + 1) 77 9 [some (.inr (.inr (some b))), some (.inl (nI k))] [] (TW B b I P (ab_up A 25 f) N) = ab_ev gG true (d + 1) 77 9 [some (.inr (.inr (some b))), some (.inl (nI l))] [] (TW B b I P (ab_up A 25 (cpw f k s)) N) := by
  intro s
  induction s with
  | nil =>
    intro k f hk hr
    rw [List.length_nil] at hk
    rw [show k = l by omega]
    rfl
  | cons c s ih =>
    intro k f hk hr
    rw [List.length_cons] at hk
    have e1 : (96 : Int32) * nI lv + nI k = nI (96 * lv + k) := by
      rw [show (96 : Int32) * nI lv = nI (96 * lv) from pk_mul 96 lv, nI_add]
    rw [bl_77_9]
    simp (disch := omega) only [Option.bind_some, qb_c0s, qb_c1s, qb_c2s, qb_c3s, tw_isc, tw_P, ↓reduceIte, tw_i0, tw_i1, tw_i2, tw_i9, tw_i10, tw_i12, tw_i16, tw_i19, tw_i21, tw_i22, tw_i35, tw_i36, tw_i38, tw_i39, tw_i42, tw_i43, tw_i45, tw_i46, tw_i48, tw_r3, tw_r4, tw_r5, tw_r6, tw_r7, tw_r8, tw_r11, tw_r13, tw_r14, tw_r15, tw_r17, tw_r18, tw_r20, tw_r23, tw_r24, tw_r25, tw_r26, tw_r27, tw_r28, tw_r29, tw_r30, tw_r31, tw_r32, tw_r33, tw_r34, tw_r37, tw_r40, tw_r41, tw_r47, tw_a21, ab_up_e, ab_up_n, hl, hlv, nI_ltI, e1, tw_s25 hb, ab_up_u, nI_1]
    rw [if_pos (by omega), hr.hd, ih (k + 1) _ (by omega) (by have := hr.tl; rwa [Nat.add_assoc] at this), cpw]
/-- closeGroup(), up to the end of the command -/
theorem tw_close (d : Nat) (hb : B.1.1 ≤ b) (hk : tkR n Z.2.1 Z.2.2 fa) (hl2 : lv < 4) (hR : RT Z n fa (lv + 1) s I A N) {te tc w' : Nat} (hp : I 22 = nI te) (hte : te < n) (hpw : pW Z.2.1 true 100 (te + 1) 0 = some (tc, w')) (hend : Z.2.1 tc = 1 ∨ Z.2.1 tc = 2 ∨ Z.2.1 tc = 3 ∨ Z.2.1 tc = 4 ∨ Z.2.1 tc = 9 ∨ Z.2.1 tc = 11) {out : List Int32} (hO : twO (lv + 1) out A) (hout : out.length ≤ 96) :
    ∃ I' A', ab_cl gG true (d + 1) 77 [.inr (.inr (some b))] (TW B b I P A N) = ((ab_c1 (ab_cl gG true d 75 [.inr (.inr (some b)), .inl (nI s.2.2.1), .inl (b01 true)] (TW B b I' P A' N))).bind fun r15 => if r15.1 = 0 ∨ r15.1 = 1 then some (some (.inl r15.1), r15.2) else none) ∧ fr [35, 21, 22] I I' ∧ fr [25] A A' ∧ RT Z n fa lv s I' A' N ∧ I' 22 = nI tc ∧ I' 35 = nI out.length ∧ rdl (A' 25) 0 out := by
  have hn := hk.2.1
  obtain ⟨q1, q2, q3, q4, q5, q6, q7, q8, q9⟩ := id hR
  have hpe : peA Z.2.1 n true 0 (te + 1) = tc := by
    rw [pW_pe hk.1 true 0 _ _ _ _ _ hpw]
    by_cases h11 : Z.2.1 tc = 11
    · exact pe_end (Nat.le_of_not_lt fun h9 => by have := (hk.1 tc).1 h9; omega)
    · refine pe_stop ?_
      rw [stp_iff]
      rcases hend with h | h | h | h | h | h
      · exact Or.inl h
      · exact Or.inr (Or.inl h)
      · exact Or.inr (Or.inr (Or.inl h))
      · exact Or.inr (Or.inr (Or.inr (Or.inr ⟨rfl, h⟩)))
      · exact Or.inr (Or.inr (Or.inr (Or.inl h)))
      · exact absurd h h11
  have e1 := cls_lp (B := B) (b := b) (I := ab_up I 35 (nI out.length)) (P := P) (A := A) (N := N) (lv := lv + 1) d hb (l := out.length) (by omega) (by rw [ab_up_n _ _ (by decide)]; exact q6) (ab_up_e _ _ _) hout out 0 (A 25) (by omega) hO.2
  rw [ab_up_s] at e1
  have hT : twTk n Z.2.1 Z.2.2 fa (ab_up (ab_up I 35 (nI out.length)) 21 (nI lv)) (ab_up A 25 (cpw (A 25) 0 out)) := q1.cg (by simp (disch := omega) only [ab_up_e, ab_up_n]) (ab_up_n _ _ (by decide)) (ab_up_n _ _ (by decide)) (ab_up_n _ _ (by decide)) (ab_up_n _ _ (by decide))
  have ep := tw_pe (B := B) (b := b) (P := P) (N := N) d hk.1 hn hT true (show te + 1 ≤ n by omega)
  rw [hpe] at ep
  have ep : ab_cl gG true d 89 [.inr (.inr (some b)), .inl (nI (te + 1)), .inl (1 : Int32)] (TW B b (ab_up (ab_up I 35 (nI out.length)) 21 (nI lv)) P (ab_up A 25 (cpw (A 25) 0 out)) N) = some (some (.inl (nI tc)), TW B b (ab_up (ab_up I 35 (nI out.length)) 21 (nI lv)) P (ab_up A 25 (cpw (A 25) 0 out)) N) := ep
  have e0 : ab_cl gG true (d + 1) 77 [.inr (.inr (some b))] (TW B b I P A N) = ((ab_c1 (ab_cl gG true d 75 [.inr (.inr (some b)), .inl (nI s.2.2.1), .inl (b01 true)] (TW B b (ab_up (ab_up (ab_up I 35 (nI out.length)) 21 (nI lv)) 22 (nI tc)) P (ab_up A 25 (cpw (A 25) 0 out)) N))).bind fun r15 => if r15.1 = 0 ∨ r15.1 = 1 then some (some (.inl r15.1), r15.2) else none) := by
    rw [ent_77, bl_77_0, tw_r31, Option.bind_some, tw_i21, Option.bind_some, Option.bind_some, q6, tw_a22 (by omega), Option.bind_some, hO.1, tw_w35 hb, Option.bind_some]
    refine e1.trans ?_
    rw [bl_77_9, tw_i35, Option.bind_some, ab_up_e, if_neg (nI_nlt (Nat.le_refl _) (by omega)), tw_i21, Option.bind_some, ab_up_n _ _ (by decide), q6, nI_pred, tw_w21 hb, Option.bind_some, tw_i22, Option.bind_some, ab_up_n _ _ (by decide), ab_up_n _ _ (by decide), hp, nI_1, if_pos tw_isc, ep, qb_c1s, Option.bind_some]
    dsimp only
    rw [tw_w22 hb, Option.bind_some, tw_i45, Option.bind_some, ab_up_n _ _ (by decide), ab_up_n _ _ (by decide), ab_up_n _ _ (by decide), q4, if_pos tw_isc]
    rfl
  refine ⟨_, _, e0, ((fr.up fr.rf _ rfl).up _ rfl).up _ rfl, fr.up fr.rf _ rfl, ?_, ab_up_e _ _ _, ?_, ?_⟩
  · refine ⟨q1.cg (by simp (disch := omega) only [ab_up_e, ab_up_n]) (ab_up_n _ _ (by decide)) (ab_up_n _ _ (by decide)) (ab_up_n _ _ (by decide)) (ab_up_n _ _ (by decide)), q2.fr (S := [25]) (fr.up fr.rf _ rfl) rfl, ?_, ?_, ?_, ?_, ?_, ?_, ?_⟩
    · simp (disch := omega) only [ab_up_e, ab_up_n]; exact q3
    · simp (disch := omega) only [ab_up_e, ab_up_n]; exact q4
    · simp (disch := omega) only [ab_up_e, ab_up_n]; exact q5
    · simp (disch := omega) only [ab_up_e, ab_up_n]
    · simp (disch := omega) only [ab_up_e, ab_up_n]; exact q7
    · simp (disch := omega) only [ab_up_e, ab_up_n]; exact q8
    · simp (disch := omega) only [ab_up_e, ab_up_n]; exact q9
  · simp (disch := omega) only [ab_up_e, ab_up_n]
  · rw [ab_up_e]; exact cpw_r _ _ _
end
