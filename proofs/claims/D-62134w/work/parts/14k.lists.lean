/-! ===== the twin's run: pipelines and lists ===== -/
theorem pC_k {K : Nat → Nat} {F : Nat} {G : Nat → Option Nat} {t t' : Nat} (e : pC K (F + 1) G t = some t') : K t ≠ 9 ∧ K t ≠ 11 := by
  unfold pC at e
  by_cases h8 : K t = 8
  · omega
  · rw [if_neg h8] at e
    rw [pW] at e
    by_cases h0 : K t = 0 ∧ false = false
    · omega
    · rw [if_neg h0] at e
      by_cases hr : redK (K t) = true
      · have := (redK_iff _).mp hr; omega
      · rw [if_neg hr] at e
        dsimp only at e
        rw [if_neg (by omega)] at e
        cases e
/-- behind a command that has a | behind it -/
def brS (Z : sL) (G : Nat → Option Nat) (H : sG) (f tc : Nat) (u : sR) : Bool × sS × Nat × List Int32 := match u with
  | (true, s2, c2, x2, _) => (true, s2, c2, x2)
  | (false, s2, c2, x2, _) => barS Z G H f tc s2 c2 x2
theorem barS_4 {Z : sL} {G : Nat → Option Nat} {H : sG} {f t tc : Nat} {s : sS} {c : Nat} {x : List Int32} (h4 : Z.2.1 t = 4) (hpc : pC Z.2.1 100 G (t + 1) = some tc) : barS Z G H (f + 1) t s c x = brS Z G H f tc (asiS Z G H (t + 1) s x) := by
  have : endC Z G (t + 1) = tc := by unfold endC; rw [hpc]; rfl
  rw [barS, if_pos h4, this]
  unfold brS
  rcases asiS Z G H (t + 1) s x with ⟨b, s2, c2, x2, i2⟩
  cases b <;> rfl
theorem barS_n {Z : sL} {G : Nat → Option Nat} {H : sG} {f t : Nat} {s : sS} {c : Nat} {x : List Int32} (h4 : Z.2.1 t ≠ 4) : barS Z G H (f + 1) t s c x = (false, s, c, x) := by
  rw [barS, if_neg h4]
section
variable {B : ab_H} {b : Nat} {I : Nat → Int32} {P : Int64} {A : Nat → Nat → Int32} {N : Nat → Int64} {Z : sL} {n : Nat} {fa : Nat → Nat} {lv : Nat} {s : sS}
/-- a command comes next -/
theorem x_go (d : Nat) (hk : tkR n Z.2.1 Z.2.2 fa) (hT : twTk n Z.2.1 Z.2.2 fa I A) {t : Nat} (hp : I 22 = nI t) (ht : t < n) (h9 : Z.2.1 t ≠ 9) {τ v : Nat} (hv : v < 1000) : ab_ev gG true (d + 7) 61 25 [some (.inr (.inr (some b))), some (.inl (nI τ)), some (.inl (nI v))] [] (TW B b I P A N) = ab_ev gG true (d + 7) 61 4 [some (.inr (.inr (some b))), some (.inl (nI (τ + 1))), some (.inl (nI v))] [] (TW B b I P A N) := by
  have hn := hk.2.1
  have k9 : ¬ kI Z.2.1 n t = (9 : Int32) := fun e => h9 ((kI_eq hk.1 t (c := 9) (by omega)).mp e)
  rw [bl_61_25, if_neg (nI_pos (by omega)), tw_i22, Option.bind_some, hp, if_pos tw_isc, tw_kindAt (d + 6) hn hT (by omega), qb_c1s, Option.bind_some]
  dsimp only
  rw [if_neg k9, bl_61_38, if_neg (nI_pos (by omega)), tw_i22, Option.bind_some, hp, tw_i12, Option.bind_some, hT.1, if_pos (nI_lt ht (by omega)), nI_1]
/-- any command -/
theorem cmd_all (d : Nat) (hb : B.1.1 ≤ b) (hZ : okZ Z) (hk : tkR n Z.2.1 Z.2.2 fa) {t tc t1 r τ : Nat} (hrl : r + lv = 4) (hL : ∀ r', r = r' + 1 → LST B b Z n fa d r' (lv + 1)) {o o2 : Option Nat} {inp out src : List Int32} {nt mn : Bool} (hS : SC Z n fa lv t s o inp out o2 src nt mn I A N) (ho : ∀ i, o = some i → i < 2 * lv) (ho2 : (o2 = o ∧ src = inp) ∨ o2 = some (2 * lv)) (hs : stI Z s) (hi : inI src) (hout : out.length ≤ Z.1.2.2) (ht : t ≤ n) (hτ : τ ≤ t) (hpc : pC Z.2.1 100 (pG Z.2.1 100 r) t = some tc) (hend : Z.2.1 tc = 1 ∨ Z.2.1 tc = 2 ∨ Z.2.1 tc = 3 ∨ Z.2.1 tc = 4 ∨ Z.2.1 tc = 9 ∨ Z.2.1 tc = 11) (hpo : Z.2.1 tc ≠ 4 → pO Z.2.1 100 (pG Z.2.1 100 r) 100 tc = some t1 ∧ (Z.2.1 t1 = 1 ∨ Z.2.1 t1 = 9 ∨ Z.2.1 t1 = 11)) (u2 : Option ab_V) (inp' : List Int32) (hinp : inp' = if o2 = o then (cmA Z (pG Z.2.1 100 r) (grpS Z r) mn t s src).2.2.2.2 else inp) :
    CC B b Z n fa d r lv o inp' out nt mn tc (cmA Z (pG Z.2.1 100 r) (grpS Z r) mn t s src) A (ab_ev gG true (d + 7) 61 4 [some (.inr (.inr (some b))), some (.inl (nI τ)), u2] [] (TW B b I P A N)) := by
  have hH := grp_k hZ r
  by_cases h8 : Z.2.1 t = 8
  · rcases hu : redF Z.1.1 s.2.1 (wdS Z s) (rdW Z.2.1 (decide (Z.2.1 t = 8)) 100 (if Z.2.1 t = 8 then (pG Z.2.1 100 r t).getD 0 else t)).2 s.1 none none with ⟨c, r1, fd, tg⟩
    by_cases hc : c = 0
    · subst hc
      obtain ⟨w', -, -, q3, -, -⟩ := pC_inv hk.1 ht hpc
      have hg := q3 h8
      cases r with
      | zero => cases hg
      | succ r => exact cmd_grp d hb hZ hk (by omega) (hL r rfl) hS ho ho2 hs hi hout ht hτ hpc hend hpo u2 h8 hu inp' hinp
    · exact cmd_sim d hb hZ hk (by omega) hH hS ho ho2 hs hi hout ht hτ hpc hend hpo u2 (Or.inr (by rw [hu]; exact hc)) inp' hinp
  · exact cmd_sim d hb hZ hk (by omega) hH hS ho ho2 hs hi hout ht hτ hpc hend hpo u2 (Or.inl h8) inp' hinp
/-- what the run of a pipeline comes to -/
def PCc (B : ab_H) (b : Nat) (Z : sL) (n : Nat) (fa : Nat → Nat) (d r lv : Nat) (o : Option Nat) (te : Nat) (F : Bool × sS × List Int32 × List Int32) (A : Nat → Nat → Int32) (E : Option ab_R) : Prop :=
  (F.1 = true → ∃ I' P' A' N', E = some (some (.inl 0), TW B b I' P' A' N') ∧ BK Z lv F.2.1 F.2.2.2 I' A' N' ∧ lvO lv o A A') ∧
  (F.1 = false → ∃ τ v I' P' A' N', E = ab_ev gG true (d + 7) 61 25 [some (.inr (.inr (some b))), some (.inl (nI τ)), some (.inl (nI v))] [] (TW B b I' P' A' N') ∧ τ + 1 ≤ te ∧ v < 1000 ∧ AG Z n fa lv r 100 te F.2.1 o F.2.2.1 F.2.2.2 I' A' N' ∧ lvO lv o A A')
theorem PCc.lO {d r : Nat} {o : Option Nat} {te : Nat} {F : Bool × sS × List Int32 × List Int32} {A A1 : Nat → Nat → Int32} {E : Option ab_R} (h : PCc B b Z n fa d r lv o te F A1 E) (hl : lvO lv o A A1) : PCc B b Z n fa d r lv o te F A E := ⟨fun hf => by
  obtain ⟨I', P', A', N', e1, e2, e3⟩ := h.1 hf
  exact ⟨I', P', A', N', e1, e2, hl.tr e3⟩, fun hf => by
  obtain ⟨τ, v, I', P', A', N', e1, e2, e3, e4, e5⟩ := h.2 hf
  exact ⟨τ, v, I', P', A', N', e1, e2, e3, e4, hl.tr e5⟩⟩
/-- one command without a | behind it ends the pipeline -/
theorem cc_end {d r : Nat} {o : Option Nat} {inp out : List Int32} {nt mn : Bool} {tc : Nat} {c : sR} {E : Option ab_R} (h : CC B b Z n fa d r lv o inp out nt mn tc c A E) (h4 : Z.2.1 tc ≠ 4) : PCc B b Z n fa d r lv o tc (finS Z nt inp out (c.1, c.2.1, c.2.2.1, c.2.2.2.1)) A E := by
  obtain ⟨h1, h2, h3⟩ := h
  unfold finS
  dsimp only
  by_cases hb : c.1 = true
  · rw [if_pos hb]
    exact ⟨fun _ => h1 (Or.inl hb), fun e => (by cases e)⟩
  · have hb : c.1 = false := by simpa using hb
    rw [if_neg (by rw [hb]; decide)]
    by_cases hf : Z.1.2.2 < out.length + c.2.2.2.1.length
    · rw [if_pos hf]
      exact ⟨fun _ => h1 (Or.inr ⟨hb, h4, hf⟩), fun e => (by cases e)⟩
    · rw [if_neg hf]
      exact ⟨fun e => (by cases e), fun _ => h3 hb h4 (by omega)⟩
/-- the commands behind the first -/
theorem bar_run (d : Nat) (hb : B.1.1 ≤ b) (hZ : okZ Z) (hk : tkR n Z.2.1 Z.2.2 fa) {r t1 te : Nat} (hrl : r + lv = 4) (hL : ∀ r', r = r' + 1 → LST B b Z n fa d r' (lv + 1)) {o : Option Nat} {inp out : List Int32} {nt : Bool} (ho : ∀ i, o = some i → i < 2 * lv) (hout : out.length ≤ Z.1.2.2) (hpo : pO Z.2.1 100 (pG Z.2.1 100 r) 100 te = some t1) (ht1 : Z.2.1 t1 = 1 ∨ Z.2.1 t1 = 9 ∨ Z.2.1 t1 = 11) :
    ∀ (f t tc τ : Nat) (s : sS) (src : List Int32) (u2 : Option ab_V) (I : Nat → Int32) (P : Int64) (A : Nat → Nat → Int32) (N : Nat → Int64), SC Z n fa lv t s o inp out (some (2 * lv)) src nt true I A N → stI Z s → inI src → t ≤ n → τ ≤ t → pC Z.2.1 100 (pG Z.2.1 100 r) t = some tc → pB Z.2.1 100 (pG Z.2.1 100 r) f tc = some te →
    PCc B b Z n fa d r lv o te (finS Z nt inp out (brS Z (pG Z.2.1 100 r) (grpS Z r) f tc (asiS Z (pG Z.2.1 100 r) (grpS Z r) t s src))) A (ab_ev gG true (d + 7) 61 4 [some (.inr (.inr (some b))), some (.inl (nI τ)), u2] [] (TW B b I P A N)) := by
  have hkte := pO_kind hpo ht1
  intro f
  induction f with
  | zero => intro t tc τ s src u2 I P A N _ _ _ _ _ _ e; cases e
  | succ f ih =>
    intro t tc τ s src u2 I P A N hS hs hi ht hτ hpc hpb
    have hend := pB_kind hpb hkte
    have hne : ¬ (some (2 * lv) : Option Nat) = o := fun e => by have := ho _ e.symm; omega
    have hCC := cmd_all (B := B) (b := b) (P := P) d hb hZ hk (t1 := t1) hrl hL hS ho (Or.inr rfl) hs hi hout ht hτ hpc hend (fun h4 => by
      rw [pB, if_neg h4] at hpb
      cases hpb
      exact ⟨hpo, ht1⟩) u2 inp (by rw [if_neg hne])
    have hk2 := cmA_k (G := pG Z.2.1 100 r) hZ (grp_k hZ r) true t hs hi
    have ecm : cmA Z (pG Z.2.1 100 r) (grpS Z r) true t s src = asiS Z (pG Z.2.1 100 r) (grpS Z r) t s src := by
      unfold cmA
      rw [if_pos rfl]
    rw [ecm] at hCC hk2
    generalize asiS Z (pG Z.2.1 100 r) (grpS Z r) t s src = c at hCC hk2
    obtain ⟨bb, s2, c2, x2, i2⟩ := c
    obtain ⟨y1, y2, y3, y4, y5, y6⟩ := hk2
    dsimp only at y1 y2 y3 y4 y5 y6
    by_cases h4 : Z.2.1 tc = 4
    · rw [pB, if_pos h4] at hpb
      cases hpc2 : pC Z.2.1 100 (pG Z.2.1 100 r) (tc + 1) with
      | none => rw [hpc2] at hpb; cases hpb
      | some tc2 =>
        rw [hpc2] at hpb
        dsimp only at hpb
        obtain ⟨h1, h2, h3⟩ := hCC
        cases bb with
        | true => exact ⟨fun _ => h1 (Or.inl rfl), fun e => (by cases e)⟩
        | false =>
          obtain ⟨τ1, v1, I1, P1, A1, N1, e1, e2, e3, e4, e5⟩ := h2 rfl h4
          have htc := hk.1.lt (t := tc) (by omega)
          obtain ⟨w2, -, -, -, a4, a5⟩ := pC_inv hk.1 (show tc + 1 ≤ n by omega) hpc2
          have hx := x_go (B := B) (b := b) (P := P1) (N := N1) d hk e4.1.1.1 e4.2.1 (by omega) (pC_k (F := 99) hpc2).1 (τ := τ1) (v := v1) e3
          have := ih (tc + 1) tc2 (τ1 + 1) s2 x2 (some (.inl (nI v1))) I1 P1 A1 N1 e4 y1 (inI_of hZ y4 (y5 rfl)) (by omega) (by omega) hpc2 hpb
          rw [← hx, ← e1] at this
          show PCc _ _ _ _ _ _ _ _ _ _ (finS Z nt inp out (barS Z (pG Z.2.1 100 r) (grpS Z r) (f + 1) tc s2 c2 x2)) _ _
          rw [barS_4 h4 hpc2]
          exact this.lO e5
    · rw [pB, if_neg h4] at hpb
      cases hpb
      have := cc_end hCC h4
      cases bb with
      | true => exact this
      | false =>
        show PCc _ _ _ _ _ _ _ _ _ _ (finS Z nt inp out (barS Z (pG Z.2.1 100 r) (grpS Z r) (f + 1) _ s2 c2 x2)) _ _
        rw [barS_n h4]
        exact this
/-- a pipeline -/
theorem pip_run (d : Nat) (hb : B.1.1 ≤ b) (hZ : okZ Z) (hk : tkR n Z.2.1 Z.2.2 fa) {r t1 te t0 tc τ : Nat} (hrl : r + lv = 4) (hL : ∀ r', r = r' + 1 → LST B b Z n fa d r' (lv + 1)) {o : Option Nat} {inp out : List Int32} {nt : Bool} (ho : ∀ i, o = some i → i < 2 * lv) (hout : out.length ≤ Z.1.2.2) (hpo : pO Z.2.1 100 (pG Z.2.1 100 r) 100 te = some t1) (ht1 : Z.2.1 t1 = 1 ∨ Z.2.1 t1 = 9 ∨ Z.2.1 t1 = 11) (u2 : Option ab_V) (hS : SC Z n fa lv t0 s o inp out o inp nt (decide (Z.2.1 tc = 4)) I A N) (hs : stI Z s) (hi : inI inp) (ht : t0 ≤ n) (hτ : τ ≤ t0) (hpc : pC Z.2.1 100 (pG Z.2.1 100 r) t0 = some tc) (hpb : pB Z.2.1 100 (pG Z.2.1 100 r) 100 tc = some te) :
    PCc B b Z n fa d r lv o te (pipS Z (pG Z.2.1 100 r) (grpS Z r) t0 nt s inp out) A (ab_ev gG true (d + 7) 61 4 [some (.inr (.inr (some b))), some (.inl (nI τ)), u2] [] (TW B b I P A N)) := by
  have hkte := pO_kind hpo ht1
  have hend := pB_kind hpb hkte
  have hCC := cmd_all (B := B) (b := b) (P := P) d hb hZ hk (t1 := t1) hrl hL hS ho (Or.inl ⟨rfl, rfl⟩) hs hi hout ht hτ hpc hend (fun h4 => by
    rw [show (100 : Nat) = 99 + 1 from rfl, pB, if_neg h4] at hpb
    cases hpb
    exact ⟨hpo, ht1⟩) u2 _ (by rw [if_pos rfl])
  have hk2 := cmA_k (G := pG Z.2.1 100 r) hZ (grp_k hZ r) (decide (Z.2.1 tc = 4)) t0 hs hi
  have eC : endC Z (pG Z.2.1 100 r) t0 = tc := by unfold endC; rw [hpc]; rfl
  have ecm : cmA Z (pG Z.2.1 100 r) (grpS Z r) (decide (Z.2.1 tc = 4)) t0 s inp = (if Z.2.1 (endC Z (pG Z.2.1 100 r) t0) = 4 then asiS Z (pG Z.2.1 100 r) (grpS Z r) t0 s inp else cmdS Z (pG Z.2.1 100 r) (grpS Z r) t0 s inp) := by
    unfold cmA
    rw [eC]
    by_cases h4 : Z.2.1 tc = 4
    · rw [if_pos h4, decide_eq_true h4, if_pos rfl]
    · rw [if_neg h4, decide_eq_false h4, if_neg (by decide)]
  unfold pipS
  rw [← ecm, eC]
  generalize cmA Z (pG Z.2.1 100 r) (grpS Z r) (decide (Z.2.1 tc = 4)) t0 s inp = c at hCC hk2
  obtain ⟨bb, s2, c2, x2, i2⟩ := c
  obtain ⟨y1, y2, y3, y4, y5, y6⟩ := hk2
  dsimp only at y1 y2 y3 y4 y5 y6 hCC
  by_cases h4 : Z.2.1 tc = 4
  · rw [show (100 : Nat) = 99 + 1 from rfl, pB, if_pos h4] at hpb
    cases hpc2 : pC Z.2.1 (99 + 1) (pG Z.2.1 (99 + 1) r) (tc + 1) with
    | none => rw [hpc2] at hpb; cases hpb
    | some tc2 =>
      rw [hpc2] at hpb
      dsimp only at hpb
      obtain ⟨h1, h2, h3⟩ := hCC
      cases bb with
      | true => exact ⟨fun _ => h1 (Or.inl rfl), fun e => (by cases e)⟩
      | false =>
        dsimp only
        obtain ⟨τ1, v1, I1, P1, A1, N1, e1, e2, e3, e4, e5⟩ := h2 rfl h4
        rw [decide_eq_true h4] at e4
        have htc := hk.1.lt (t := tc) (by omega)
        obtain ⟨w2, -, -, -, a4, a5⟩ := pC_inv hk.1 (show tc + 1 ≤ n by omega) hpc2
        have hx := x_go (B := B) (b := b) (P := P1) (N := N1) d hk e4.1.1.1 e4.2.1 (by omega) (pC_k (F := 99) hpc2).1 (τ := τ1) (v := v1) e3
        have := bar_run (B := B) (b := b) d hb hZ hk hrl hL ho hout hpo ht1 99 (tc + 1) tc2 (τ1 + 1) s2 x2 (some (.inl (nI v1))) I1 P1 A1 N1 e4 y1 (inI_of hZ y4 (y5 rfl)) (by omega) (by omega) hpc2 hpb
        rw [← hx, ← e1] at this
        rw [show barS Z (pG Z.2.1 100 r) (grpS Z r) 100 tc s2 c2 x2 = brS Z (pG Z.2.1 100 r) (grpS Z r) 99 tc2 (asiS Z (pG Z.2.1 100 r) (grpS Z r) (tc + 1) s2 x2) from barS_4 (f := 99) h4 hpc2]
        exact this.lO e5
  · rw [show (100 : Nat) = 99 + 1 from rfl, pB, if_neg h4] at hpb
    cases hpb
    have := cc_end hCC h4
    cases bb with
    | true =>
      dsimp only at this ⊢
      unfold finS at this
      rw [if_pos rfl] at this
      exact this
    | false =>
      dsimp only
      rw [show barS Z (pG Z.2.1 100 r) (grpS Z r) 100 te s2 c2 x2 = (false, s2, c2, x2) from barS_n (f := 99) h4]
      exact this
end
