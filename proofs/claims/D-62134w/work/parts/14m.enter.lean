/-! ===== the twin: grammar(), check(), execute(), enter() ===== -/
/-- is the line in the grammar? -/
def lnG (ts : sK) : Bool := decide (ts.length = 0) || smN (tkK ts) ts.length 0 0 0
/-- the twin between calls -/
def twI (nl cl pl : Nat) (L : List Int32) (s : sS) (shown : List Int32) (I : Nat → Int32) (A : Nat → Nat → Int32) (N : Nat → Int64) : Prop := I 10 = nI L.length ∧ rdl (A 7) 0 L ∧ twW s.1 A N ∧ I 9 = nI s.2.1 ∧ I 45 = nI s.2.2.1 ∧ I 48 = nI s.2.2.2 ∧ I 46 = nI shown.length ∧ rdl (A 29) 0 shown ∧ I 0 = nI nl ∧ I 1 = nI cl ∧ I 2 = nI pl
/-- check() -/
def chkS (L : List Int32) : Int32 := match tk L.length 0 L with
  | none => -1
  | some ts => if lnG ts = true then nI (wdN (tkK ts) ts.length 0) else -1
/-- enter(): answer, state, what is shown -/
def entS2 (nl cl pl : Nat) (L : List Int32) (s : sS) : Int32 × sS × List Int32 := match tk L.length 0 L with
  | none => (-1, (s.1, s.2.1, s.2.2.1, 0), [])
  | some ts => if ts.length = 0 then (nI s.2.2.1, (s.1, s.2.1, s.2.2.1, 0), []) else if smN (tkK ts) ts.length 0 0 0 = true then (nI (runS ((nl, cl, pl), tkK ts, tkW L ts) s).2.1.2.2.1, (runS ((nl, cl, pl), tkK ts, tkW L ts) s).2.1, (runS ((nl, cl, pl), tkK ts, tkW L ts) s).2.2) else (-1, (s.1, s.2.1, s.2.2.1, 0), [])
theorem runS_w (Z : sL) (s : sS) (w : Bool × sS × List Int32 × List Int32) (hw : w = lstS Z (pG Z.2.1 100 4) (grpS Z 4) 100 0 (s.1, s.2.1, s.2.2.1, 0) [] []) : runS Z s = (w.1, (w.2.1.1, w.2.1.2.1, (if w.1 = true then 100 else w.2.1.2.2.1), w.2.1.2.2.2), w.2.2.2) := by
  unfold runS
  rw [← hw]
section
variable {B : ab_H} {b : Nat} {I : Nat → Int32} {P : Int64} {A : Nat → Nat → Int32} {N : Nat → Int64}
theorem twTk_of {L : List Int32} {ts : sK} {f g h : Nat → Int32} (hok : tkOk 0 L.length ts) (hl : rdl (A 7) 0 L) (ht : tkA f g h 0 ts) {I' : Nat → Int32} {A' : Nat → Nat → Int32} (h1 : I' 12 = nI ts.length) (h2 : A' 8 = f) (h3 : A' 9 = g) (h4 : A' 10 = h) (h5 : A' 7 = A 7) : twTk ts.length (tkK ts) (tkW L ts) (fun t => (tkAt ts t).2.1) I' A' := by
  refine ⟨h1, fun t htn => ?_⟩
  obtain ⟨q1, q2, q3⟩ := ht t htn
  rw [Nat.zero_add] at q1 q2 q3
  obtain ⟨⟨k, k1, k2⟩, -, k4, -⟩ := hok t htn
  have q1 : f t = (tkAt ts t).1 := q1
  have q2 : g t = nI (tkAt ts t).2.1 := q2
  have q3 : (tkAt ts t).1 = 0 → h t = nI (tkAt ts t).2.2 := q3
  have hK : tkK ts t = k := by unfold tkK; rw [if_pos htn, k2, nI_clamp (by omega)]
  refine ⟨by rw [h2, q1, k2, hK], fun h0 => ?_⟩
  rw [hK] at h0
  have h00 : (tkAt ts t).1 = 0 := by rw [k2, h0]; rfl
  obtain ⟨m1, m2⟩ := k4 h00
  have hW : (tkW L ts t).length = (tkAt ts t).2.2 - (tkAt ts t).2.1 := by
    unfold tkW
    rw [List.length_take, List.length_drop]
    omega
  refine ⟨by rw [h3, q2], ?_, ?_⟩
  · rw [h4, q3 h00, hW]
    congr 1
    show (tkAt ts t).2.2 = (tkAt ts t).2.1 + _
    omega
  · rw [h5]
    unfold tkW
    have := (hl.dr (tkAt ts t).2.1).tk ((tkAt ts t).2.2 - (tkAt ts t).2.1)
    rw [Nat.zero_add] at this
    exact this
/-- grammar() -/
theorem tw_grammar (d : Nat) (hb : B.1.1 ≤ b) {L : List Int32} (hn : I 10 = nI L.length) (hl : rdl (A 7) 0 L) (hL : L.length ≤ 64) (hok : okl L) :
    ∃ I' A', fr [12] I I' ∧ fr [8, 9, 10] A A' ∧ ab_cl gG true (d + 3) 58 [.inr (.inr (some b))] (TW B b I P A N) = some (some (.inl (b01 (match tk L.length 0 L with | none => false | some ts => lnG ts))), TW B b I' P A' N) ∧ ∀ ts, tk L.length 0 L = some ts → twTk ts.length (tkK ts) (tkW L ts) (fun t => (tkAt ts t).2.1) I' A' := by
  obtain ⟨c1, c2⟩ := tw_cut (B := B) (b := b) (I := I) (P := P) (A := A) (N := N) d hb hn hl hL
  have fI : ∀ t, fr [12] I (ab_up I 12 (nI t)) := fun t => fr.up fr.rf _ rfl
  have fA : ∀ f g h, fr [8, 9, 10] A (ab_up (ab_up (ab_up A 8 f) 9 g) 10 h) := fun f g h => ((fr.up fr.rf _ rfl).up _ rfl).up _ rfl
  cases ht : tk L.length 0 L with
  | none =>
    obtain ⟨t, f, g, h, e1⟩ := c1 ht
    refine ⟨_, _, fI t, fA f g h, ?_, fun ts e => by cases e⟩
    rw [ent_58, bl_58_0, if_pos tw_isc, e1, qb_c1s, Option.bind_some]
    dsimp only
    rw [if_pos rfl]
    rfl
  | some ts =>
    obtain ⟨f, g, h, e1, e2, e3⟩ := c2 ts ht
    have hR := tkR_of hL hok ht
    have hO := tk_ok _ _ _ _ ht
    rw [Nat.zero_add] at hO
    have hT := twTk_of (A := A) (I' := ab_up I 12 (nI ts.length)) (A' := ab_up (ab_up (ab_up A 8 f) 9 g) 10 h) hO hl e2 (ab_up_e _ _ _) (by simp (disch := omega) only [ab_up_e, ab_up_n]) (by simp (disch := omega) only [ab_up_e, ab_up_n]) (ab_up_e _ _ _) (by simp (disch := omega) only [ab_up_e, ab_up_n])
    refine ⟨_, _, fI ts.length, fA f g h, ?_, fun ts' e => by cases e; exact hT⟩
    rw [ent_58, bl_58_0, if_pos tw_isc, e1, qb_c1s, Option.bind_some]
    dsimp only
    rw [if_neg (by decide)]
    exact gr_lp (B := B) (b := b) (P := P) (N := N) (d + 1) hR.1 hR.2.1 hT ts.length 0 0 0 (by omega) (by omega) (by omega) (fun _ => rfl)
/-- check() -/
theorem tw_check (d : Nat) (hb : B.1.1 ≤ b) {nl cl pl : Nat} {L : List Int32} {s : sS} {shown : List Int32} (hI : twI nl cl pl L s shown I A N) (hL : L.length ≤ 64) (hok : okl L) :
    ∃ I' A', ab_cl gG true (d + 4) 28 [.inr (.inr (some b))] (TW B b I P A N) = some (some (.inl (chkS L)), TW B b I' P A' N) ∧ twI nl cl pl L s shown I' A' N := by
  obtain ⟨h1, h2, h3, h4, h5, h6, h7, h8, h9, h10, h11⟩ := hI
  obtain ⟨I', A', f1, f2, e1, e2⟩ := tw_grammar (B := B) (b := b) (P := P) (N := N) d hb h1 h2 hL hok
  refine ⟨I', A', ?_, by rw [f1 _ rfl]; exact h1, by rw [f2 _ rfl]; exact h2, h3.fr f2 rfl, by rw [f1 _ rfl]; exact h4, by rw [f1 _ rfl]; exact h5, by rw [f1 _ rfl]; exact h6, by rw [f1 _ rfl]; exact h7, by rw [f2 _ rfl]; exact h8, by rw [f1 _ rfl]; exact h9, by rw [f1 _ rfl]; exact h10, by rw [f1 _ rfl]; exact h11⟩
  rw [ent_28, bl_28_0, if_pos tw_isc, e1, qb_c1s, Option.bind_some]
  unfold chkS
  cases ht : tk L.length 0 L with
  | none =>
    dsimp only
    rw [if_pos b01_f]
  | some ts =>
    dsimp only
    have hR := tkR_of hL hok ht
    by_cases hg : lnG ts = true
    · rw [if_neg (show ¬ b01 (lnG ts) = 0 by rw [hg]; decide), if_pos hg]
      have := ck_lp (B := B) (b := b) (P := P) (N := N) (d + 3) hR.2.1 hR.1 (e2 ts ht) ts.length 0 0 (by omega)
      rw [Nat.zero_add] at this
      exact this
    · have hg2 : lnG ts = false := by simpa using hg
      rw [if_pos (show b01 (lnG ts) = 0 by rw [hg2]; rfl), if_neg hg]
/-- giveUp() -/
theorem gu_lp (d : Nat) (hb : B.1.1 ≤ b) {lv' : Nat} (hl5 : lv' < 5) : ∀ (l : Nat) (I : Nat → Int32), l < lv' → I 21 = nI lv' →
    ∃ I', ab_ev gG true d 62 3 [some (.inr (.inr (some b))), some (.inl (nI l))] [] (TW B b I P A N) = some (none, TW B b I' P A N) ∧ fr [9, 45] I I' ∧ I' 9 = A 18 0 ∧ I' 45 = 100 := by
  intro l
  induction l with
  | zero =>
    intro I hl hlv
    refine ⟨ab_up (ab_up I 9 (A 18 0)) 45 100, ?_, (fr.up fr.rf _ rfl).up _ rfl, by rw [ab_up_n _ _ (by decide), ab_up_e], ab_up_e _ _ _⟩
    rw [bl_62_3, if_neg (nI_pos (by omega)), tw_i21, Option.bind_some, hlv, if_pos (nI_lt hl (by omega)), tw_r27, Option.bind_some, Option.bind_some, tw_a18 (by omega), Option.bind_some, tw_w9 hb, Option.bind_some, bl_62_3, if_pos (by decide), tw_w45 hb, Option.bind_some]
  | succ l ih =>
    intro I hl hlv
    obtain ⟨I', e1, f1, p1, p2⟩ := ih (ab_up I 9 (A 18 (l + 1))) (by omega) (by rw [ab_up_n _ _ (by decide)]; exact hlv)
    refine ⟨I', ?_, (fr.up fr.rf _ rfl : fr [9, 45] I (ab_up I 9 (A 18 (l + 1)))).tr f1, p1, p2⟩
    rw [bl_62_3, if_neg (nI_pos (by omega)), tw_i21, Option.bind_some, hlv, if_pos (nI_lt hl (by omega)), tw_r27, Option.bind_some, Option.bind_some, tw_a18 (by omega), Option.bind_some, tw_w9 hb, Option.bind_some, pk_m1]
    exact e1
theorem tw_giveUp (d : Nat) (hb : B.1.1 ≤ b) {Z : sL} {s : sS} {out : List Int32} (hB : BK Z 0 s out I A N) :
    ∃ I', ab_cl gG true d 62 [.inr (.inr (some b))] (TW B b I P A N) = some (none, TW B b I' P A N) ∧ fr [9, 45] I I' ∧ I' 9 = nI s.2.1 ∧ I' 45 = nI 100 := by
  obtain ⟨-, -, -, -, -, -, lv', h0, h5, hlv, hcase⟩ := hB
  rw [ent_62, bl_62_0, tw_i21, Option.bind_some, hlv]
  have last : ∀ (I1 : Nat → Int32) (l : Nat), l < lv' → I1 21 = nI lv' → I1 = I → A 18 0 = nI s.2.1 → True := fun _ _ _ _ _ _ => trivial
  rcases hcase with ⟨e0, hm⟩ | ⟨hlt, hbk⟩
  · subst e0
    have e1 : ab_ev gG true d 62 3 [some (.inr (.inr (some b))), some (.inl (nI 0))] [] (TW B b I P A N) = (if A 19 0 = 0 then ab_ev gG true d 62 3 [some (.inr (.inr (some b))), some (.inl (-1))] [] (TW B b I P A N) else ab_ev gG true d 62 3 [some (.inr (.inr (some b))), some (.inl (-1))] [] (TW B b (ab_up I 9 (A 18 0)) P A N)) := by
      rw [bl_62_3, if_neg (by decide), tw_i21, Option.bind_some, hlv, if_neg (by decide), tw_r28, Option.bind_some, Option.bind_some, tw_a19 (by omega), Option.bind_some, tw_r27, Option.bind_some, Option.bind_some, tw_a18 (by omega), Option.bind_some, tw_w9 hb, Option.bind_some]
      rfl
    rw [e1]
    rcases hm with ⟨m1, m2⟩ | ⟨m1, m2⟩
    · rw [m1, if_neg (by decide), bl_62_3, if_pos (by decide), tw_w45 hb, Option.bind_some]
      exact ⟨_, rfl, (fr.up fr.rf _ rfl).up _ rfl, by rw [ab_up_n _ _ (by decide), ab_up_e]; exact m2, by rw [ab_up_e]; rfl⟩
    · rw [m1, if_pos b01_f, bl_62_3, if_pos (by decide), tw_w45 hb, Option.bind_some]
      exact ⟨_, rfl, fr.up fr.rf _ rfl, by rw [ab_up_n _ _ (by decide)]; exact m2, by rw [ab_up_e]; rfl⟩
  · obtain ⟨l, rfl⟩ : ∃ l, lv' = l + 1 := ⟨lv' - 1, by omega⟩
    -- the open group itself
    have e1 : ∃ I1, fr [9, 45] I I1 ∧ ab_ev gG true d 62 3 [some (.inr (.inr (some b))), some (.inl (nI (l + 1)))] [] (TW B b I P A N) = ab_ev gG true d 62 3 [some (.inr (.inr (some b))), some (.inl (nI l))] [] (TW B b I1 P A N) := by
      rw [bl_62_3, if_neg (nI_pos (by omega)), tw_i21, Option.bind_some, hlv, if_neg (nI_nlt (Nat.le_refl _) (by omega)), tw_r28, Option.bind_some, Option.bind_some, tw_a19 (by omega), Option.bind_some, tw_r27, Option.bind_some, Option.bind_some, tw_a18 (by omega), Option.bind_some, tw_w9 hb, Option.bind_some, pk_m1]
      by_cases hz : A 19 (l + 1) = 0
      · rw [if_pos hz]; exact ⟨I, fr.rf, rfl⟩
      · rw [if_neg hz]; exact ⟨_, fr.up fr.rf _ rfl, rfl⟩
    obtain ⟨I1, f1, e1⟩ := e1
    obtain ⟨I2, e2, f2, p1, p2⟩ := gu_lp (B := B) (b := b) (P := P) (A := A) (N := N) d hb (lv' := l + 1) h5 l I1 (by omega) (by rw [f1 _ rfl]; exact hlv)
    exact ⟨I2, e1.trans e2, f1.tr f2, by rw [p1]; exact hbk, by rw [p2]; rfl⟩
/-- execute() -/
theorem tw_execute (d : Nat) (hb : B.1.1 ≤ b) {Z : sL} {n : Nat} {fa : Nat → Nat} (hZ : okZ Z) (hk : tkR n Z.2.1 Z.2.2 fa) (h0 : 0 < n) {s : sS} (hR : RT Z n fa 0 s I A N) (hs : stI Z s) (hp : I 22 = nI 0) (hli : A 14 0 = -1) (hpl : A 22 0 = 0) (hgr : smN Z.2.1 n 0 0 0 = true) (w : Bool × sS × List Int32 × List Int32) (hw : w = lstS Z (pG Z.2.1 100 4) (grpS Z 4) 100 0 s [] []) :
    (w.1 = true → ∃ I' P' A' N', ab_cl gG true (d + 7) 61 [.inr (.inr (some b))] (TW B b I P A N) = some (some (.inl 0), TW B b I' P' A' N') ∧ BK Z 0 w.2.1 w.2.2.2 I' A' N') ∧
    (w.1 = false → ∃ I' P' A' N', ab_cl gG true (d + 7) 61 [.inr (.inr (some b))] (TW B b I P A N) = some (some (.inl 1), TW B b I' P' A' N') ∧ RT Z n fa 0 w.2.1 I' A' N' ∧ twO 0 w.2.2.2 A') := by
  have hn := hk.2.1
  obtain ⟨tend, g1, g2⟩ := (gr_iff hk.1 (F := 100) (by omega)).mp hgr
  obtain ⟨tc, te, t1, a1, a2, a3, a4, a5, a6, a7⟩ := pL_inv hk.1 (Nat.zero_le _) g1
  have hk1 := tlE_kind a5 (Or.inr g2)
  have hend := pB_kind a2 (pO_kind a4 hk1)
  have hpe := pC_end hk.1 a1 hend
  obtain ⟨I1, A1, e1, f1, f2, p1, p2, p3, p4, p5⟩ := tw_startP (B := B) (b := b) (P := P) (N := N) (d + 5) hb hk.1 hn hR.1 (lv := 0) hR.2.2.2.2.2.1 (by omega) hp h0
  rw [hpe] at p3
  have hR1 := hR.kp f1 f2 rfl rfl
  have ht0 : (if Z.2.1 0 = 10 then 0 + 1 else 0) ≤ n := (pP_inv hk.1 (Nat.zero_le _) a3).choose_spec.2.2.2.2.1
  have hLC := lst_all (B := B) (b := b) (Z := Z) (n := n) (fa := fa) d hb hZ hk 4 0 rfl 99 (if Z.2.1 0 = 10 then 0 + 1 else 0) (decide (Z.2.1 0 = 10)) s none [] [] tc te t1 tend 0 none I1 P A1 N hs ⟨okb.nil, by decide⟩ okb.nil (Nat.zero_le _) (fun i e => by cases e) ht0 (Nat.zero_le _) a1 a2 a4 a5 (Or.inr g2) ⟨⟨hR1, by rw [f2 _ rfl]; exact hli, rfl, by rw [f2 _ rfl]; exact hpl, rdl.nil⟩, p1, by rw [p4]; exact hli, rfl, p2, p3⟩
  have hww : w = lsT Z (pG Z.2.1 100 4) (grpS Z 4) 99 (if Z.2.1 0 = 10 then 0 + 1 else 0) (decide (Z.2.1 0 = 10)) te s [] [] := by
    have heP : endP Z (pG Z.2.1 100 4) 0 = te := by unfold endP; rw [a3]; rfl
    rw [hw, ← heP]
    exact lstS_T Z (pG Z.2.1 100 4) (grpS Z 4) 99 0 s [] []
  rw [← hww] at hLC
  have e0 : ab_cl gG true (d + 7) 61 [.inr (.inr (some b))] (TW B b I P A N) = ab_ev gG true (d + 7) 61 4 [some (.inr (.inr (some b))), some (.inl (nI 0)), none] [] (TW B b I1 P A1 N) := by
    rw [ent_61, bl_61_0, if_pos tw_isc, e1, qb_c0s, Option.bind_some]
    rfl
  rw [e0]
  refine ⟨fun h => ?_, fun h => ?_⟩
  · obtain ⟨I', P', A', N', x1, x2, -⟩ := hLC.1 h
    exact ⟨I', P', A', N', x1, x2⟩
  · obtain ⟨τ, v, I', P', A', N', x1, x2, x3, x4, x5, -⟩ := hLC.2 h
    refine ⟨I', P', A', N', ?_, x4.1, x4.2.2.2⟩
    have htn : n ≤ tend := Nat.le_of_not_lt fun h9 => by have := (hk.1 tend).1 h9; omega
    have hten : tend ≤ 1000 := by
      obtain ⟨-, l2⟩ := pL_ok (n := n) (K := Z.2.1) hk.1 (d := 0) (F := 100) (by omega) (pG_ok (n := n) (F := 100) hk.1 (by omega) 4 0 rfl) 100 0 0 (by omega) (by omega) (by omega) (fun e => by omega)
      obtain ⟨-, l3, -⟩ := l2 tend g1
      omega
    have k9 : ¬ kI Z.2.1 n tend = (9 : Int32) := fun e => by have := (kI_eq hk.1 tend (c := 9) (by omega)).mp e; omega
    rw [x1, bl_61_25, if_neg (nI_pos (by omega)), tw_i22, Option.bind_some, x5, if_pos tw_isc, tw_kindAt (d + 6) hn x4.1.1 (by
      have : tend ≤ n := by
        obtain ⟨-, l2⟩ := pL_ok (n := n) (K := Z.2.1) hk.1 (d := 0) (F := 100) (by omega) (pG_ok (n := n) (F := 100) hk.1 (by omega) 4 0 rfl) 100 0 0 (by omega) (by omega) (by omega) (fun e => by omega)
        obtain ⟨-, l3, -⟩ := l2 tend g1
        exact l3
      omega), qb_c1s, Option.bind_some]
    dsimp only
    rw [if_neg k9, bl_61_38, if_neg (nI_pos (by omega)), tw_i22, Option.bind_some, x5, tw_i12, Option.bind_some, x4.1.1.1, if_neg (nI_nlt htn (by omega))]
theorem out_lp (d : Nat) (hb : B.1.1 ≤ b) {l : Nat} (hl : I 46 = nI l) (hl2 : l ≤ 96) (v1 : Int32) : ∀ (s : List Int32) (k : Nat) (f : Nat → Int32), k + s.length = l → rdl (A 21) k s →
    ab_ev gG true (d + 1) 30 48 [some (.inr (.inr (some b))), some (.inl v1), some (.inl (nI k))] [] (TW B b I P (ab_up A 29 f) N) = some (some (.inl (I 45)), TW B b I P (ab_up A 29 (cpw f k s)) N) := by
  intro s
  induction s with
  | nil =>
    intro k f hk hr
    rw [List.length_nil] at hk
    rw [bl_30_48, tw_i46, Option.bind_some, hl, if_neg (nI_nlt (by omega) (by omega)), tw_i45, Option.bind_some]
    rfl
  | cons c s ih =>
    intro k f hk hr
    rw [List.length_cons] at hk
    rw [bl_30_48]
    simp (disch := omega) only [Option.bind_some, qb_c0s, qb_c1s, qb_c2s, qb_c3s, tw_isc, tw_P, ↓reduceIte, tw_i0, tw_i1, tw_i2, tw_i9, tw_i10, tw_i12, tw_i16, tw_i19, tw_i21, tw_i22, tw_i35, tw_i36, tw_i38, tw_i39, tw_i42, tw_i43, tw_i45, tw_i46, tw_i48, tw_r3, tw_r4, tw_r5, tw_r6, tw_r7, tw_r8, tw_r11, tw_r13, tw_r14, tw_r15, tw_r17, tw_r18, tw_r20, tw_r23, tw_r24, tw_r25, tw_r26, tw_r27, tw_r28, tw_r29, tw_r30, tw_r31, tw_r32, tw_r33, tw_r34, tw_r37, tw_r40, tw_r41, tw_r47, tw_a21, ab_up_e, ab_up_n, hl, nI_ltI, tw_s29 hb, ab_up_u, nI_1]
    rw [if_pos (by omega), hr.hd, ih (k + 1) _ (by omega) hr.tl, cpw]
/-- enter() -/
theorem tw_enter (d : Nat) (hb : B.1.1 ≤ b) {nl cl pl : Nat} (hnl : nl ≤ 12) (hcl : cl ≤ 160) (hpl : pl ≤ 96) {L : List Int32} {s : sS} {shown : List Int32} (hI : twI nl cl pl L s shown I A N) (hL : L.length ≤ 64) (hok : okl L) (hs : okT s.1 ∧ s.2.1 ≤ sN s.1 ∧ sD s.1 s.2.1 = true ∧ sC s.1 ≤ cl ∧ s.2.2.1 ≤ 127) :
    ∃ I' P' A' N', ab_cl gG true (d + 8) 30 [.inr (.inr (some b))] (TW B b I P A N) = some (some (.inl (entS2 nl cl pl L s).1), TW B b I' P' A' N') ∧ twI nl cl pl [] (entS2 nl cl pl L s).2.1 (entS2 nl cl pl L s).2.2 I' A' N' := by
  obtain ⟨h1, h2, h3, h4, h5, h6, h7, h8, h9, h10, h11⟩ := hI
  obtain ⟨I1, A1, f1, f2, e1, e2⟩ := tw_grammar (B := B) (b := b) (P := P) (N := N) (d + 4) hb h1 h2 hL hok
  -- the first rows
  have fI2 : fr [10, 46, 48] I1 (ab_up (ab_up (ab_up I1 10 0) 46 0) 48 0) := ((fr.up fr.rf _ rfl).up _ rfl).up _ rfl
  have q10 : (ab_up (ab_up (ab_up I1 10 0) 46 0) 48 0) 10 = 0 := by simp (disch := omega) only [ab_up_e, ab_up_n]
  have q46 : (ab_up (ab_up (ab_up I1 10 0) 46 0) 48 0) 46 = 0 := by simp (disch := omega) only [ab_up_e, ab_up_n]
  have q48 : (ab_up (ab_up (ab_up I1 10 0) 46 0) 48 0) 48 = 0 := ab_up_e _ _ _
  generalize hI2 : ab_up (ab_up (ab_up I1 10 0) 46 0) 48 0 = I2 at fI2 q10 q46 q48
  -- nothing is run
  have bad : ∀ (I3 : Nat → Int32) (A3 : Nat → Nat → Int32), fr [21, 22] I2 I3 → fr [14, 22] A1 A3 → twI nl cl pl [] (s.1, s.2.1, s.2.2.1, 0) [] I3 A3 N := fun I3 A3 g1 g2 => ⟨by rw [g1 _ rfl]; exact q10, rdl.nil, (h3.fr f2 rfl).fr g2 rfl, by rw [g1 _ rfl, fI2 _ rfl, f1 _ rfl]; exact h4, by rw [g1 _ rfl, fI2 _ rfl, f1 _ rfl]; exact h5, by rw [g1 _ rfl]; exact q48, by rw [g1 _ rfl]; exact q46, rdl.nil, by rw [g1 _ rfl, fI2 _ rfl, f1 _ rfl]; exact h9, by rw [g1 _ rfl, fI2 _ rfl, f1 _ rfl]; exact h10, by rw [g1 _ rfl, fI2 _ rfl, f1 _ rfl]; exact h11⟩
  have e0 : ∀ g : Bool, ab_cl gG true (d + 7) 58 [.inr (.inr (some b))] (TW B b I P A N) = some (some (.inl (b01 g)), TW B b I1 P A1 N) → ab_cl gG true (d + 8) 30 [.inr (.inr (some b))] (TW B b I P A N) = (if b01 g = 0 then some (some (.inl (-1)), TW B b I2 P A1 N) else
      if 0 < I1 12 then (ab_c1 (ab_cl gG true (d + 7) 61 [.inr (.inr (some b))] (TW B b (ab_up (ab_up I2 21 0) 22 0) P (ab_up (ab_up A1 14 (ab_up (A1 14) 0 (-1))) 22 (ab_up (A1 22) 0 0)) N))).bind fun r14 => if r14.1 = 0 then (if ab_isc r14.2 b 7 = true then (ab_c0 (ab_cl gG true (d + 7) 62 [.inr (.inr (some b))] r14.2)).bind fun h15 => (ab_fR h15 b 731).bind fun o16 => o16.bind fun a17 => (ab_aI 0 h15 a17 0).bind fun x18 => (ab_pf h15 b 746 (.inl x18)).bind fun h19 => ab_ev gG true (d + 8) 30 48 [some (.inr (.inr (some b))), some (.inl (b01 g)), some (.inl 0)] [] h19 else none) else (ab_fR r14.2 b 731).bind fun o20 => o20.bind fun a21 => (ab_aI 0 r14.2 a21 0).bind fun x22 => (ab_pf r14.2 b 746 (.inl x22)).bind fun h23 => ab_ev gG true (d + 8) 30 48 [some (.inr (.inr (some b))), some (.inl (b01 g)), some (.inl 0)] [] h23
      else ab_ev gG true (d + 8) 30 48 [some (.inr (.inr (some b))), some (.inl (b01 g)), some (.inl 0)] [] (TW B b (ab_up (ab_up (ab_up I2 21 0) 22 0) 46 0) P (ab_up (ab_up A1 14 (ab_up (A1 14) 0 (-1))) 22 (ab_up (A1 22) 0 0)) N)) := fun g hg => by
    have s14 : ∀ (I : Nat → Int32) (A : Nat → Nat → Int32) (x : Int32), ab_sI 0 (TW B b I P A N) (b + 14) 0 x = some (TW B b I P (ab_up A 14 (ab_up (A 14) 0 x)) N) := fun I A x => tw_s14 (i := 0) hb (by omega) x
    have s22 : ∀ (I : Nat → Int32) (A : Nat → Nat → Int32) (x : Int32), ab_sI 0 (TW B b I P A N) (b + 22) 0 x = some (TW B b I P (ab_up A 22 (ab_up (A 22) 0 x)) N) := fun I A x => tw_s22 (i := 0) hb (by omega) x
    have a22 : ∀ (I : Nat → Int32) (A : Nat → Nat → Int32), ab_aI 0 (TW B b I P A N) (b + 22) 0 = some (A 22 0) := fun I A => tw_a22 (i := 0) (by omega)
    rw [ent_30, bl_30_0, if_pos tw_isc, hg, qb_c1s, Option.bind_some]
    dsimp only
    rw [tw_w10 hb, Option.bind_some, tw_w46 hb, Option.bind_some, tw_w48 hb, Option.bind_some, hI2]
    have t12 : I2 12 = I1 12 := by rw [← hI2]; simp (disch := omega) only [ab_up_e, ab_up_n]
    simp (disch := omega) only [Option.bind_some, qb_c0s, qb_c1s, qb_c2s, qb_c3s, tw_isc, tw_P, ↓reduceIte, tw_i0, tw_i1, tw_i2, tw_i9, tw_i10, tw_i12, tw_i16, tw_i19, tw_i21, tw_i22, tw_i35, tw_i36, tw_i38, tw_i39, tw_i42, tw_i43, tw_i45, tw_i46, tw_i48, tw_r3, tw_r4, tw_r5, tw_r6, tw_r7, tw_r8, tw_r11, tw_r13, tw_r14, tw_r15, tw_r17, tw_r18, tw_r20, tw_r23, tw_r24, tw_r25, tw_r26, tw_r27, tw_r28, tw_r29, tw_r30, tw_r31, tw_r32, tw_r33, tw_r34, tw_r37, tw_r40, tw_r41, tw_r47, tw_w21 hb, tw_w22 hb, s14, s22, a22, tw_w46 hb, ab_up_e, ab_up_n, t12]
  cases ht : tk L.length 0 L with
  | none =>
    rw [ht] at e1
    have := e0 false e1
    rw [if_pos b01_f] at this
    refine ⟨I2, P, A1, N, ?_, ?_⟩
    · rw [this]; unfold entS2; rw [ht]
    · unfold entS2; rw [ht]; exact bad I2 A1 fr.rf fr.rf
  | some ts =>
    rw [ht] at e1
    dsimp only at e1
    have hR := tkR_of hL hok ht
    have hT := e2 ts ht
    have hn64 := hR.2.1
    have fI3 : fr [21, 22] I2 (ab_up (ab_up I2 21 0) 22 0) := (fr.up fr.rf _ rfl).up _ rfl
    have fA3 : fr [14, 22] A1 (ab_up (ab_up A1 14 (ab_up (A1 14) 0 (-1))) 22 (ab_up (A1 22) 0 0)) := (fr.up fr.rf _ rfl).up _ rfl
    by_cases h0 : ts.length = 0
    · -- no tokens
      have hg : lnG ts = true := by unfold lnG; rw [decide_eq_true h0]; rfl
      rw [hg] at e1
      have e3 := e0 true e1
      rw [if_neg (by decide), hT.1, if_neg (by rw [h0]; decide)] at e3
      have e4 := out_lp (B := B) (b := b) (I := ab_up (ab_up (ab_up I2 21 0) 22 0) 46 0) (P := P) (A := ab_up (ab_up A1 14 (ab_up (A1 14) 0 (-1))) 22 (ab_up (A1 22) 0 0)) (N := N) (d + 7) hb (l := 0) (ab_up_e _ _ _) (by omega) (b01 true) [] 0 ((ab_up (ab_up A1 14 (ab_up (A1 14) 0 (-1))) 22 (ab_up (A1 22) 0 0)) 29) rfl rdl.nil
      rw [ab_up_s] at e4
      have e5 := e3.trans e4
      rw [cpw, ab_up_s] at e5
      have hent : entS2 nl cl pl L s = (nI s.2.2.1, (s.1, s.2.1, s.2.2.1, 0), []) := by unfold entS2; rw [ht]; dsimp only; rw [if_pos h0]
      rw [hent]
      have hval : (ab_up (ab_up (ab_up I2 21 0) 22 0) 46 0) 45 = nI s.2.2.1 := by
        simp (disch := omega) only [ab_up_e, ab_up_n]
        rw [fI2 _ rfl, f1 _ rfl, h5]
      rw [hval] at e5
      refine ⟨_, P, _, N, e5, ?_⟩
      · have := bad _ _ fI3 fA3
        obtain ⟨w1, w2, w3, w4, w5, w6, w7, w8, w9, w10, w11⟩ := this
        refine ⟨?_, w2, w3, ?_, ?_, ?_, ab_up_e _ _ _, rdl.nil, ?_, ?_, ?_⟩
        · rw [ab_up_n _ _ (by decide)]; exact w1
        · rw [ab_up_n _ _ (by decide)]; exact w4
        · rw [ab_up_n _ _ (by decide)]; exact w5
        · rw [ab_up_n _ _ (by decide)]; exact w6
        · rw [ab_up_n _ _ (by decide)]; exact w9
        · rw [ab_up_n _ _ (by decide)]; exact w10
        · rw [ab_up_n _ _ (by decide)]; exact w11
    · by_cases hgr : smN (tkK ts) ts.length 0 0 0 = true
      · -- it is run
        have hg : lnG ts = true := by unfold lnG; rw [hgr, Bool.or_true]
        rw [hg] at e1
        have e3 := e0 true e1
        rw [if_neg (by decide), hT.1, if_pos ((ngt_0 (by omega)).mpr (by omega))] at e3
        have hZ : okZ ((nl, cl, pl), tkK ts, tkW L ts) := ⟨hnl, hcl, hpl, hR.2.2.1⟩
        have i4 : ∀ k, k ≠ 21 → k ≠ 22 → (ab_up (ab_up I2 21 0) 22 0) k = I2 k := fun k a1 a2 => by rw [ab_up_n _ _ a2, ab_up_n _ _ a1]
        have hRT : RT ((nl, cl, pl), tkK ts, tkW L ts) ts.length (fun t => (tkAt ts t).2.1) 0 (s.1, s.2.1, s.2.2.1, 0) (ab_up (ab_up I2 21 0) 22 0) (ab_up (ab_up A1 14 (ab_up (A1 14) 0 (-1))) 22 (ab_up (A1 22) 0 0)) N := ⟨hT.cg (by rw [i4 _ (by decide) (by decide), fI2 _ rfl]) (fA3 _ rfl) (fA3 _ rfl) (fA3 _ rfl) (fA3 _ rfl), (h3.fr f2 rfl).fr fA3 rfl, by rw [i4 _ (by decide) (by decide), fI2 _ rfl, f1 _ rfl]; exact h4, by rw [i4 _ (by decide) (by decide), fI2 _ rfl, f1 _ rfl]; exact h5, by rw [i4 _ (by decide) (by decide)]; exact q48, by rw [ab_up_n _ _ (by decide), ab_up_e]; rfl, ⟨by rw [i4 _ (by decide) (by decide), fI2 _ rfl, f1 _ rfl]; exact h9, by rw [i4 _ (by decide) (by decide)]; exact q10⟩, by rw [i4 _ (by decide) (by decide), fI2 _ rfl, f1 _ rfl]; exact h10, by rw [i4 _ (by decide) (by decide), fI2 _ rfl, f1 _ rfl]; exact h11⟩
        have hst : stI ((nl, cl, pl), tkK ts, tkW L ts) (s.1, s.2.1, s.2.2.1, 0) := hs
        obtain ⟨w, hw⟩ : ∃ w, w = lstS ((nl, cl, pl), tkK ts, tkW L ts) (pG (tkK ts) 100 4) (grpS ((nl, cl, pl), tkK ts, tkW L ts) 4) 100 0 (s.1, s.2.1, s.2.2.1, 0) [] [] := ⟨_, rfl⟩
        obtain ⟨x1, x2⟩ := tw_execute (B := B) (b := b) (P := P) d hb hZ hR (by omega) hRT hst (ab_up_e _ _ _) (by simp (disch := omega) only [ab_up_e, ab_up_n]) (by simp (disch := omega) only [ab_up_e, ab_up_n]) hgr w hw
        have hk2 := lst_k (Z := ((nl, cl, pl), tkK ts, tkW L ts)) (G := pG (tkK ts) 100 4) hZ (grp_k hZ 4) 100 0 (s.1, s.2.1, s.2.2.1, 0) [] [] hst ⟨okb.nil, by decide⟩ okb.nil (Nat.zero_le _)
        rw [← hw] at hk2
        have hent : entS2 nl cl pl L s = (nI (runS ((nl, cl, pl), tkK ts, tkW L ts) s).2.1.2.2.1, (runS ((nl, cl, pl), tkK ts, tkW L ts) s).2.1, (runS ((nl, cl, pl), tkK ts, tkW L ts) s).2.2) := by unfold entS2; rw [ht]; dsimp only; rw [if_neg h0, if_pos hgr]
        rw [hent, runS_w ((nl, cl, pl), tkK ts, tkW L ts) s w hw]
        clear hent hw
        obtain ⟨wb, s2, i2, o2⟩ := w
        obtain ⟨-, -, -, -, hol⟩ := hk2
        dsimp only at x1 x2 hol ⊢
        have a22 : ∀ (I : Nat → Int32) (P : Int64) (A : Nat → Nat → Int32) (N : Nat → Int64), ab_aI 0 (TW B b I P A N) (b + 22) 0 = some (A 22 0) := fun I P A N => tw_a22 (i := 0) (by omega)
        -- what is shown
        have fin : ∀ (I5 : Nat → Int32) (P5 : Int64) (A5 : Nat → Nat → Int32) (N5 : Nat → Int64) (st : Nat), twO 0 o2 A5 → twW s2.1 A5 N5 → I5 9 = nI s2.2.1 → I5 45 = nI st → I5 48 = nI s2.2.2.2 → I5 0 = nI nl → I5 1 = nI cl → I5 2 = nI pl → I5 10 = 0 →
            ∃ I' P' A' N', ((ab_fR (TW B b I5 P5 A5 N5) b 731).bind fun o16 => o16.bind fun a17 => (ab_aI 0 (TW B b I5 P5 A5 N5) a17 0).bind fun x18 => (ab_pf (TW B b I5 P5 A5 N5) b 746 (.inl x18)).bind fun h19 => ab_ev gG true (d + 8) 30 48 [some (.inr (.inr (some b))), some (.inl (b01 true)), some (.inl 0)] [] h19) = some (some (.inl (nI st)), TW B b I' P' A' N') ∧ twI nl cl pl [] (s2.1, s2.2.1, st, s2.2.2.2) o2 I' A' N' := by
          intro I5 P5 A5 N5 st hO hW hh hr hc hl0 hl1 hl2 hll
          rw [tw_r31, Option.bind_some, Option.bind_some, a22, Option.bind_some, tw_w46 hb, Option.bind_some, hO.1]
          have hO2 := hO.2
          rw [Nat.mul_zero] at hO2
          have e4 := out_lp (B := B) (b := b) (I := ab_up I5 46 (nI o2.length)) (P := P5) (A := A5) (N := N5) (d + 7) hb (l := o2.length) (ab_up_e _ _ _) (by omega) (b01 true) o2 0 (A5 29) (by omega) hO2
          rw [ab_up_s, ab_up_n _ _ (by decide), hr] at e4
          refine ⟨_, P5, _, N5, e4, ?_, rdl.nil, hW.fr (S := [29]) (fr.up fr.rf _ rfl) rfl, ?_, ?_, ?_, ab_up_e _ _ _, by rw [ab_up_e]; exact cpw_r _ _ _, ?_, ?_, ?_⟩
          · rw [ab_up_n _ _ (by decide)]; exact hll
          · rw [ab_up_n _ _ (by decide)]; exact hh
          · rw [ab_up_n _ _ (by decide)]; exact hr
          · rw [ab_up_n _ _ (by decide)]; exact hc
          · rw [ab_up_n _ _ (by decide)]; exact hl0
          · rw [ab_up_n _ _ (by decide)]; exact hl1
          · rw [ab_up_n _ _ (by decide)]; exact hl2
        cases wb with
        | true =>
          obtain ⟨I4, P4, A4, N4, y1, y2⟩ := x1 rfl
          rw [y1, qb_c1s, Option.bind_some] at e3
          dsimp only at e3
          obtain ⟨I5, z1, z2, z3, z4⟩ := tw_giveUp (B := B) (b := b) (P := P4) (d + 7) hb y2
          rw [if_pos rfl, if_pos tw_isc, z1, qb_c0s, Option.bind_some] at e3
          obtain ⟨v1, v2, v3, v4, v5, v6, -⟩ := y2
          obtain ⟨I', P', A', N', w1, w2⟩ := fin I5 P4 A4 N4 100 v6 v1 z3 z4 (by rw [z2 _ rfl]; exact v2) (by rw [z2 _ rfl]; exact v3.1) (by rw [z2 _ rfl]; exact v4) (by rw [z2 _ rfl]; exact v5) (by rw [z2 _ rfl]; exact v3.2)
          exact ⟨I', P', A', N', e3.trans w1, w2⟩
        | false =>
          obtain ⟨I4, P4, A4, N4, y1, y2, y3⟩ := x2 rfl
          rw [y1, qb_c1s, Option.bind_some] at e3
          dsimp only at e3
          rw [if_neg (by decide)] at e3
          obtain ⟨r1, r2, r3, r4, r5, r6, r7, r8, r9⟩ := y2
          obtain ⟨I', P', A', N', w1, w2⟩ := fin I4 P4 A4 N4 s2.2.2.1 y3 r2 r3 r4 r5 r7.1 r8 r9 r7.2
          exact ⟨I', P', A', N', e3.trans w1, w2⟩
      · have hg : lnG ts = false := by unfold lnG; rw [decide_eq_false h0, Bool.false_or]; simpa using hgr
        rw [hg] at e1
        have e3 := e0 false e1
        rw [if_pos b01_f] at e3
        have hent : entS2 nl cl pl L s = (-1, (s.1, s.2.1, s.2.2.1, 0), []) := by unfold entS2; rw [ht]; dsimp only; rw [if_neg h0, if_neg hgr]
        rw [hent]
        exact ⟨I2, P, A1, N, e3, bad I2 A1 fr.rf fr.rf⟩
end
