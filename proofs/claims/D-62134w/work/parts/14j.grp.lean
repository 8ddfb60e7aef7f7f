/-! ===== the twin's run: groups ===== -/
/-- the end of a list whose last and-or ends at t1 -/
def tlE (K : Nat → Nat) (r f t1 : Nat) : Option Nat := if K t1 = 1 then (if bgK (K (t1 + 1)) = true then pL K 100 (pG K 100 r) f (t1 + 1) else some (t1 + 1)) else some t1
def rsS (Z : sL) (G : Nat → Option Nat) (H : sG) (f fa te : Nat) (s : sS) (i o : List Int32) : Bool × sS × List Int32 × List Int32 := match andS Z G H fa te s i o with
  | (true, s2, i2, o2, _) => (true, s2, i2, o2)
  | (false, s2, i2, o2, t2) => if Z.2.1 t2 = 1 ∧ bgK (Z.2.1 (t2 + 1)) = true then lstS Z G H f (t2 + 1) s2 i2 o2 else (false, s2, i2, o2)
def lsT (Z : sL) (G : Nat → Option Nat) (H : sG) (f t0 : Nat) (nt : Bool) (te : Nat) (s : sS) (i o : List Int32) : Bool × sS × List Int32 × List Int32 := match pipS Z G H t0 nt s i o with
  | (true, s1, i1, o1) => (true, s1, i1, o1)
  | (false, s1, i1, o1) => rsS Z G H f 100 te s1 i1 o1
theorem lstS_T (Z : sL) (G : Nat → Option Nat) (H : sG) (f t : Nat) (s : sS) (i o : List Int32) : lstS Z G H (f + 1) t s i o = lsT Z G H f (if Z.2.1 t = 10 then t + 1 else t) (decide (Z.2.1 t = 10)) (endP Z G t) s i o := by
  rw [lstS]
  rfl
/-- a list that passes -/
theorem pL_inv {K : Nat → Nat} {n : Nat} (hK : okK K n) {r f t tend : Nat} (ht : t ≤ n) (e : pL K 100 (pG K 100 r) (f + 1) t = some tend) : ∃ tc te t1, pC K 100 (pG K 100 r) (if K t = 10 then t + 1 else t) = some tc ∧ pB K 100 (pG K 100 r) 100 tc = some te ∧ pP K 100 (pG K 100 r) t = some te ∧ pO K 100 (pG K 100 r) 100 te = some t1 ∧ tlE K r f t1 = some tend ∧ t < n ∧ te ≤ n := by
  rw [pL] at e
  unfold pA at e
  cases hp : pP K 100 (pG K 100 r) t with
  | none => rw [hp] at e; cases e
  | some te =>
    rw [hp] at e
    dsimp only at e
    obtain ⟨tc, q1, q2, q3, q4, -⟩ := pP_inv hK ht hp
    cases ho : pO K 100 (pG K 100 r) 100 te with
    | none => rw [ho] at e; cases e
    | some t1 =>
      rw [ho] at e
      exact ⟨tc, te, t1, q1, q2, rfl, ho, e, q3, q4⟩
/-- the tokens behind a pipeline -/
theorem pO_kind {K : Nat → Nat} {F : Nat} {G : Nat → Option Nat} {f t t1 : Nat} (e : pO K F G f t = some t1) (h : K t1 = 1 ∨ K t1 = 9 ∨ K t1 = 11) : K t = 2 ∨ K t = 3 ∨ K t = 1 ∨ K t = 9 ∨ K t = 11 := by
  cases f with
  | zero => cases e
  | succ f =>
    rw [pO] at e
    split at e
    · omega
    · cases e; omega
theorem pB_kind {K : Nat → Nat} {F : Nat} {G : Nat → Option Nat} {f t t1 : Nat} (e : pB K F G f t = some t1) (h : K t1 = 2 ∨ K t1 = 3 ∨ K t1 = 1 ∨ K t1 = 9 ∨ K t1 = 11) : K t = 1 ∨ K t = 2 ∨ K t = 3 ∨ K t = 4 ∨ K t = 9 ∨ K t = 11 := by
  cases f with
  | zero => cases e
  | succ f =>
    rw [pB] at e
    split at e
    · omega
    · cases e; omega
theorem tlE_kind {K : Nat → Nat} {r f t1 tend : Nat} (e : tlE K r f t1 = some tend) (h : K tend = 9 ∨ K tend = 11) : K t1 = 1 ∨ K t1 = 9 ∨ K t1 = 11 := by
  unfold tlE at e
  split at e
  · rename_i h1; exact Or.inl h1
  · cases e; exact Or.inr h
/-- what the run of a list comes to -/
def LC (B : ab_H) (b : Nat) (Z : sL) (n : Nat) (fa : Nat → Nat) (d lv : Nat) (o : Option Nat) (tend : Nat) (w : Bool × sS × List Int32 × List Int32) (A : Nat → Nat → Int32) (E : Option ab_R) : Prop :=
  (w.1 = true → ∃ I' P' A' N', E = some (some (.inl 0), TW B b I' P' A' N') ∧ BK Z lv w.2.1 w.2.2.2 I' A' N' ∧ lvO lv o A A') ∧
  (w.1 = false → ∃ τ v I' P' A' N', E = ab_ev gG true (d + 7) 61 25 [some (.inr (.inr (some b))), some (.inl (nI τ)), some (.inl (nI v))] [] (TW B b I' P' A' N') ∧ τ + 1 ≤ tend ∧ v < 1000 ∧ XS Z n fa lv w.2.1 o w.2.2.1 w.2.2.2 I' A' N' ∧ I' 22 = nI tend ∧ lvO lv o A A')
/-- lists at level lv are run right -/
def LST (B : ab_H) (b : Nat) (Z : sL) (n : Nat) (fa : Nat → Nat) (d r lv : Nat) : Prop := ∀ (f t0 : Nat) (nt : Bool) (s : sS) (o : Option Nat) (inp out : List Int32) (tc te t1 tend τ : Nat) (u2 : Option ab_V) (I : Nat → Int32) (P : Int64) (A : Nat → Nat → Int32) (N : Nat → Int64),
  stI Z s → inI inp → okb out → out.length ≤ Z.1.2.2 → (∀ i, o = some i → i < 2 * lv) → t0 ≤ n → τ ≤ t0 → pC Z.2.1 100 (pG Z.2.1 100 r) t0 = some tc → pB Z.2.1 100 (pG Z.2.1 100 r) 100 tc = some te → pO Z.2.1 100 (pG Z.2.1 100 r) 100 te = some t1 → tlE Z.2.1 r f t1 = some tend → (Z.2.1 tend = 9 ∨ Z.2.1 tend = 11) → SC Z n fa lv t0 s o inp out o inp nt (decide (Z.2.1 tc = 4)) I A N →
  LC B b Z n fa d lv o tend (lsT Z (pG Z.2.1 100 r) (grpS Z r) f t0 nt te s inp out) A (ab_ev gG true (d + 7) 61 4 [some (.inr (.inr (some b))), some (.inl (nI τ)), u2] [] (TW B b I P A N))
theorem preS_0 {Z : sL} {G : Nat → Option Nat} {H : sG} {t : Nat} {s : sS} {inp : List Int32} {r1 : sT} {fd : Option (List Int32)} {tg : Option Nat} (hu : redF Z.1.1 s.2.1 (wdS Z s) (rdW Z.2.1 (decide (Z.2.1 t = 8)) 100 (if Z.2.1 t = 8 then (G t).getD 0 else t)).2 s.1 none none = (0, r1, fd, tg)) (a : sR) (ha : a = actS Z H (decide (Z.2.1 t = 8)) t (rdW Z.2.1 (decide (Z.2.1 t = 8)) 100 (if Z.2.1 t = 8 then (G t).getD 0 else t)).1 (r1, s.2) (fd.getD inp)) : preS Z G H t s inp = ((a.1, a.2.1, a.2.2.1, a.2.2.2.1, (if fd = none then a.2.2.2.2 else inp)), tg) := by
  unfold preS
  rw [hu]
  subst ha
  cases fd with
  | none => rw [if_pos (show (none : Option (List Int32)) = none from rfl)]; rfl
  | some f => rw [if_neg (show ¬ (some f : Option (List Int32)) = none from fun e => by cases e)]; rfl
section
variable {B : ab_H} {b : Nat} {I : Nat → Int32} {P : Int64} {A : Nat → Nat → Int32} {N : Nat → Int64} {Z : sL} {n : Nat} {fa : Nat → Nat} {lv : Nat} {s : sS}
/-- a group -/
theorem cmd_grp (d : Nat) (hb : B.1.1 ≤ b) (hZ : okZ Z) (hk : tkR n Z.2.1 Z.2.2 fa) (hl2 : lv < 4) {t tc t1 r τ : Nat} (hL : LST B b Z n fa d r (lv + 1)) {o o2 : Option Nat} {inp out src : List Int32} {nt mn : Bool} (hS : SC Z n fa lv t s o inp out o2 src nt mn I A N) (ho : ∀ i, o = some i → i < 2 * lv) (ho2 : (o2 = o ∧ src = inp) ∨ o2 = some (2 * lv)) (hs : stI Z s) (hi : inI src) (hout : out.length ≤ Z.1.2.2) (ht : t ≤ n) (hτ : τ ≤ t) (hpc : pC Z.2.1 100 (pG Z.2.1 100 (r + 1)) t = some tc) (hend : Z.2.1 tc = 1 ∨ Z.2.1 tc = 2 ∨ Z.2.1 tc = 3 ∨ Z.2.1 tc = 4 ∨ Z.2.1 tc = 9 ∨ Z.2.1 tc = 11) (hpo : Z.2.1 tc ≠ 4 → pO Z.2.1 100 (pG Z.2.1 100 (r + 1)) 100 tc = some t1 ∧ (Z.2.1 t1 = 1 ∨ Z.2.1 t1 = 9 ∨ Z.2.1 t1 = 11)) (u2 : Option ab_V) (h8 : Z.2.1 t = 8) {r1 : sT} {fd : Option (List Int32)} {tg : Option Nat}
    (hu : redF Z.1.1 s.2.1 (wdS Z s) (rdW Z.2.1 (decide (Z.2.1 t = 8)) 100 (if Z.2.1 t = 8 then (pG Z.2.1 100 (r + 1) t).getD 0 else t)).2 s.1 none none = (0, r1, fd, tg)) (inp' : List Int32) (hinp : inp' = if o2 = o then (cmA Z (pG Z.2.1 100 (r + 1)) (grpS Z (r + 1)) mn t s src).2.2.2.2 else inp) :
    CC B b Z n fa d (r + 1) lv o inp' out nt mn tc (cmA Z (pG Z.2.1 100 (r + 1)) (grpS Z (r + 1)) mn t s src) A (ab_ev gG true (d + 7) 61 4 [some (.inr (.inr (some b))), some (.inl (nI τ)), u2] [] (TW B b I P A N)) := by
  obtain ⟨⟨hR, hli, hin, hO⟩, hp, hnx, hin2, hnt, hmn⟩ := hS
  have hn := hk.2.1
  obtain ⟨w', q1, q2, q3, q4, q5⟩ := pC_inv hk.1 ht hpc
  rw [if_pos h8, decide_eq_true h8] at q1
  have hg1 := q3 h8
  have ho21 : o2 ≠ some (2 * lv + 1) := by
    rcases ho2 with ⟨e, -⟩ | e
    · rw [e]; intro h; have := ho _ h; omega
    · rw [e]; intro h; have := Option.some.inj h; omega
  -- the inner list
  have hpg : ∃ tend, pL Z.2.1 100 (pG Z.2.1 100 r) 100 (t + 1) = some tend ∧ Z.2.1 tend = 9 ∧ (pG Z.2.1 100 (r + 1) t).getD 0 = tend + 1 := by
    rw [pG] at hg1 ⊢
    cases hp9 : pL Z.2.1 100 (pG Z.2.1 100 r) 100 (t + 1) with
    | none => rw [hp9] at hg1; cases hg1
    | some tend =>
      rw [hp9] at hg1
      dsimp only at hg1 ⊢
      by_cases h9 : Z.2.1 tend = 9
      · rw [if_pos h9]; exact ⟨tend, rfl, h9, rfl⟩
      · rw [if_neg h9] at hg1; cases hg1
  obtain ⟨tend, hpl, h9, hgd⟩ := hpg
  rw [hgd] at q1
  have htend : tend < n := hk.1.lt (by omega)
  have htn : t < n := hk.1.lt (by omega)
  obtain ⟨tc', te', t1', a1, a2, a3, a4, a5, a6, a7⟩ := pL_inv hk.1 (show t + 1 ≤ n by omega) hpl
  have hk1' := tlE_kind a5 (Or.inl h9)
  have hkte := pO_kind a4 hk1'
  have hktc := pB_kind a2 hkte
  have hendP : endP Z (pG Z.2.1 100 r) (t + 1) = te' := by unfold endP; rw [a3]; rfl
  have hpe' := pC_end hk.1 a1 hktc
  have ht0' : (if Z.2.1 (t + 1) = 10 then t + 1 + 1 else t + 1) ≤ n := (pP_inv hk.1 (by omega) a3).choose_spec.2.2.2.2.1
  -- the group is opened
  obtain ⟨I1, P1, A1, N1, e1, R1, p1, C1, b1, x1, x2, x3, x4, x5, f1, f2, l1, l2⟩ := tw_startG (B := B) (b := b) (P := P) (d + 1) hb hZ hk hR hs hl2 hp ht hpc hend hnx hin2 ho21 h8 a6 hu
  rw [hpe'] at x5
  have h1 := hs.2.2.2.1
  have hz := hZ.2.1
  obtain ⟨k1, k2, k3, k4, k5⟩ := red_k (here := s.2.1) (W := wdS Z s) hZ.1 (rdW Z.2.1 (decide (Z.2.1 t = 8)) 100 (if Z.2.1 t = 8 then (pG Z.2.1 100 (r + 1) t).getD 0 else t)).2 s.1 none none hs.1 (by omega) hs.2.1 ⟨fun f e => (by cases e), fun x e => (by cases e)⟩
  rw [hu] at k1 k2 k3 k4 k5
  dsimp only at k1 k2 k3 k4 k5
  have hs1 : stI Z (r1, s.2) := ⟨k1, Nat.le_trans hs.2.1 k2.1, by show sD r1 s.2.1 = true; rw [(k2.2 _ hs.2.1).1]; exact hs.2.2.1, by show sC r1 ≤ _; omega, hs.2.2.2.2⟩
  have e0 : ab_ev gG true (d + 7) 61 4 [some (.inr (.inr (some b))), some (.inl (nI τ)), u2] [] (TW B b I P A N) = ab_ev gG true (d + 7) 61 4 [some (.inr (.inr (some b))), some (.inl (nI (τ + 1))), some (.inl (-1))] [] (TW B b I1 P1 A1 N1) := by
    rw [bl_61_4, if_pos (by rw [nlt_300 (by omega)]; omega), if_pos tw_isc, e1, qb_c1s, Option.bind_some]
    dsimp only
    rw [if_neg (by decide), if_pos (by decide), bl_61_25, if_pos (by decide), bl_61_38, if_pos (by decide), nI_1]
  rw [e0]
  clear e0
  obtain ⟨c1, c2, c3, c4⟩ := C1
  obtain ⟨oc, hoc1, hoc2, hoc3, hoc4⟩ : ∃ oc, A1 15 lv = oI oc ∧ twIn oc (fd.getD src) A1 ∧ (fd = none → oc = o2) ∧ (fd ≠ none → oc = some (2 * lv + 1)) := by
    cases fd with
    | none => exact ⟨o2, c3 rfl, c2, fun _ => rfl, fun e => absurd rfl e⟩
    | some f =>
      obtain ⟨c5, c6⟩ := c4 f rfl
      exact ⟨some (2 * lv + 1), c5, c6, fun e => (by cases e), fun _ => rfl⟩
  have hsg : inI (fd.getD src) := by
    cases fd with
    | none => exact hi
    | some f => exact k4.1 f rfl
  have hoc5 : ∀ i, oc = some i → i < 2 * (lv + 1) := fun i h => by
    cases fd with
    | none =>
      rw [hoc3 rfl] at h
      rcases ho2 with ⟨e, -⟩ | e
      · rw [e] at h; have := ho i h; omega
      · rw [e] at h; have := Option.some.inj h; omega
    | some f => rw [hoc4 (by simp)] at h; have := Option.some.inj h; omega
  have hLi := hL 99 (if Z.2.1 (t + 1) = 10 then t + 1 + 1 else t + 1) (decide (Z.2.1 (t + 1) = 10)) (r1, s.2) oc (fd.getD src) [] tc' te' t1' tend (τ + 1) (some (.inl (-1))) I1 P1 A1 N1 hs1 hsg okb.nil (Nat.zero_le _) hoc5 ht0' (by split <;> omega) a1 a2 a4 a5 (Or.inl h9) ⟨⟨R1, by rw [x1]; exact hoc1, hoc2, by rw [x3]; rfl, rdl.nil⟩, p1, by rw [x2]; exact hoc1, hoc2, x4, x5⟩
  -- what the group comes to
  have hgrp : grpS Z (r + 1) (t + 1) (r1, s.2) (fd.getD src) = lsT Z (pG Z.2.1 100 r) (grpS Z r) 99 (if Z.2.1 (t + 1) = 10 then t + 1 + 1 else t + 1) (decide (Z.2.1 (t + 1) = 10)) te' (r1, s.2) (fd.getD src) [] := by
    show lstS Z (pG Z.2.1 100 r) (grpS Z r) (99 + 1) (t + 1) (r1, s.2) (fd.getD src) [] = _
    rw [lstS_T, hendP]
  rw [← hgrp] at hLi
  have hgk := grp_k hZ (r + 1) (t + 1) (r1, s.2) (fd.getD src) hs1 hsg
  have hact : actS Z (grpS Z (r + 1)) (decide (Z.2.1 t = 8)) t (rdW Z.2.1 (decide (Z.2.1 t = 8)) 100 (if Z.2.1 t = 8 then (pG Z.2.1 100 (r + 1) t).getD 0 else t)).1 (r1, s.2) (fd.getD src) = ((grpS Z (r + 1) (t + 1) (r1, s.2) (fd.getD src)).1, ((grpS Z (r + 1) (t + 1) (r1, s.2) (fd.getD src)).2.1.1, s.2.1, (grpS Z (r + 1) (t + 1) (r1, s.2) (fd.getD src)).2.1.2.2), (grpS Z (r + 1) (t + 1) (r1, s.2) (fd.getD src)).2.1.2.2.1, (grpS Z (r + 1) (t + 1) (r1, s.2) (fd.getD src)).2.2.2, (grpS Z (r + 1) (t + 1) (r1, s.2) (fd.getD src)).2.2.1) := by
    generalize grpS Z (r + 1) = HH
    rw [decide_eq_true h8]
    unfold actS
    rw [if_pos rfl]
  have hpre := preS_0 (Z := Z) (G := pG Z.2.1 100 (r + 1)) (H := grpS Z (r + 1)) (t := t) (s := s) (inp := src) hu _ rfl
  rw [hact] at hpre
  generalize grpS Z (r + 1) (t + 1) (r1, s.2) (fd.getD src) = w at hLi hgk hpre
  obtain ⟨wb, ⟨r2, h2, st2, rn2⟩, i2, o'⟩ := w
  dsimp only at hgk hpre
  obtain ⟨y1, y2, y3, y4, y5⟩ := hgk
  -- the outer level is left alone
  have up : ∀ A2, lvO (lv + 1) oc A1 A2 → lvO lv o A A2 ∧ twO lv out A2 ∧ A2 14 lv = oI o ∧ A2 17 lv = oI tg ∧ A2 18 lv = nI s.2.1 ∧ A2 19 lv = b01 mn ∧ A2 20 lv = b01 nt ∧ (oc ≠ o → twIn o inp A2) := fun A2 hA2 => by
    obtain ⟨m1, m2, m3, m4⟩ := hA2
    obtain ⟨z1, z2, z3, z4, z5⟩ := l2 lv (by omega)
    refine ⟨⟨fun p hp j hj => ?_, fun k hk2 => ?_, fun k hk2 => ?_, fun i hi hoi => ?_⟩, ⟨?_, ?_⟩, ?_, ?_, ?_, ?_, ?_, fun hne => ?_⟩
    · rw [m1 p hp j (by omega)]
      obtain ⟨v1, v2, v3⟩ := l1.1 j (by omega)
      obtain ⟨w1, w2, w3, w4, w5⟩ := l2 j (by omega)
      simp only [List.contains_cons, List.contains_nil, Bool.or_false, Bool.or_eq_true, beq_iff_eq] at hp
      rcases hp with h | h | h | h | h | h | h | h <;> subst h
      · exact w1
      · exact v2
      · exact w5
      · exact v1
      · exact v3
      · exact w4
      · exact w3
      · exact w2
    · rw [m2 k (by omega), f2 _ rfl]
    · rw [m3 k (by omega)]; exact l1.2.2 k (by omega)
    · rw [m4 i (by omega) (fun h => ?_)]
      · exact l1.2.1 i (by omega) (by simp)
      · cases fd with
        | none =>
          rw [hoc3 rfl] at h
          rcases ho2 with ⟨e, -⟩ | e
          · exact hoi (by rw [← e]; exact h)
          · rw [e] at h; have := Option.some.inj h; omega
        | some f => rw [hoc4 (by simp)] at h; have := Option.some.inj h; omega
    · rw [m1 _ rfl lv (by omega), z2]; exact hO.1
    · exact hO.2.cg (fun k _ _ => by have := m2 k (by have := hO.1; have := hZ.2.2.1; omega); rw [this, f2 _ rfl])
    · rw [m1 _ rfl lv (by omega), z1]; exact hli
    · rw [m1 _ rfl lv (by omega)]; exact c1
    · rw [m1 _ rfl lv (by omega)]; exact b1
    · rw [m1 _ rfl lv (by omega), z4]; exact hmn
    · rw [m1 _ rfl lv (by omega), z3]; exact hnt
    · refine hin.cg (fun i hi => ?_) (fun i hi k k1 k2 => ?_)
      · have := ho i hi
        rw [m4 i (by omega) (fun h => hne (by rw [h, hi]))]
        exact l1.2.1 i (by omega) (by simp)
      · have := ho i hi
        rw [m3 k (by omega)]
        exact l1.2.2 k (by omega)
  cases wb with
  | true =>
    have hc := cmA_brk hZ (G := pG Z.2.1 100 (r + 1)) (H := grpS Z (r + 1)) mn t src hs hpre rfl
    dsimp only at hc
    rw [hc]
    refine ⟨fun _ => ?_, fun e => (by cases e), fun e => (by cases e)⟩
    obtain ⟨I2, P2, A2, N2, E2, B2, O2⟩ := hLi.1 rfl
    obtain ⟨u1, u2', u3, u4, u5, u6, u7, u8⟩ := up A2 O2
    obtain ⟨v1, v2, v3, v4, v5, v6, lv', v7, v8, v9, v10⟩ := B2
    refine ⟨I2, P2, A2, N2, E2, ⟨v1, v2, v3, v4, v5, u2', lv', by omega, v8, v9, Or.inr ⟨by omega, ?_⟩⟩, u1⟩
    rw [u5, ite_self]
  | false =>
    obtain ⟨τ', v', I2, P2, A2, N2, E2, T1, T2, X2, pos2, O2⟩ := hLi.2 rfl
    obtain ⟨u1, u2', u3, u4, u5, u6, u7, u8⟩ := up A2 O2
    obtain ⟨XR, -, Xin, XO⟩ := X2
    dsimp only at XR Xin XO
    have hc := cmA_eq hZ (G := pG Z.2.1 100 (r + 1)) (H := grpS Z (r + 1)) mn t src hs hpre rfl
    dsimp only at hc
    rw [ite_self] at hc
    obtain ⟨I3, A3, E3, f3, f4, R3, pos3, h35, hrx⟩ := tw_close (B := B) (b := b) (P := P2) (d + 5) hb hk hl2 XR pos2 htend q1 hend XO (by have := hZ.2.2.1; omega)
    have hcd : st2 ≤ 127 := y1.2.2.2.2
    have hii : ∀ h9, (stoS Z tg (false, (r2, h9, st2, rn2), st2, o', (if fd = none then i2 else src))).2.2.2.2 = (if fd = none then i2 else src) ∧ (stoS Z tg (false, (r2, h9, st2, rn2), st2, o', (if fd = none then i2 else src))).2.2.1 = st2 ∧ (stoS Z tg (false, (r2, h9, st2, rn2), st2, o', (if fd = none then i2 else src))).2.1.2 = (h9, st2, rn2) := fun h9 => by
      unfold stoS
      rw [if_neg (show ¬ (false = true) by decide)]
      cases tg with
      | none => exact ⟨rfl, rfl, rfl⟩
      | some y =>
        dsimp only
        split <;> exact ⟨rfl, rfl, rfl⟩
    have hin3 : twIn o inp' A3 := by
      have : twIn o inp' A2 := by
        rw [hinp, hc, (hii _).1]
        by_cases e : o2 = o
        · rw [if_pos e]
          cases fd with
          | none =>
            rw [if_pos rfl]
            rw [hoc3 rfl, e] at Xin
            exact Xin
          | some f =>
            rw [if_neg (by simp)]
            have hne : oc ≠ o := fun h => by rw [hoc4 (by simp)] at h; rw [← h] at e; exact ho21 e
            have := u8 hne
            rcases ho2 with ⟨-, e2⟩ | e2
            · rw [e2]; exact this
            · rw [e2] at e; have := ho _ e.symm; omega
        · rw [if_neg e]
          refine u8 (fun h => ?_)
          cases fd with
          | none => rw [hoc3 rfl] at h; exact e h
          | some f => rw [hoc4 (by simp)] at h; have := ho _ h.symm; omega
      exact this.cg (fun i _ => by rw [f4 _ rfl]) (fun i _ k _ _ => by rw [f4 _ rfl])
    have hX3 : XS Z n fa lv (r2, h2, st2, rn2) o inp' out I3 A3 N2 := ⟨R3, by rw [f4 _ rfl]; exact u3, hin3, ⟨by rw [f4 _ rfl]; exact u2'.1, by rw [f4 _ rfl]; exact u2'.2⟩⟩
    have htg2 : ∀ y, tg = some y → y ≤ sN r2 := fun y hy => by
      have := (k4.2 y hy).1
      exact Nat.le_trans this y2.1
    obtain ⟨cc1, cc2, cc3⟩ := ec_all (B := B) (b := b) (P := P2) (d + 2) hb hZ hk (by omega) hX3 ho y1.1 y1.2.2.2.1 pos3 q5 y5 h35 hrx (by rw [f4 _ rfl]; exact u4) htg2 (bk := s.2.1) (by rw [f4 _ rfl]; exact u5) (g := true) (mn := mn) (by rw [f4 _ rfl]; exact u6) (nt := nt) (by rw [f4 _ rfl]; exact u7) hout hcd (if fd = none then i2 else src) s.2.1 (by rw [if_pos (Or.inl rfl)]) _ rfl hpo _ rfl
    rw [← hc] at cc1 cc2 cc3
    have hcode : (cmA Z (pG Z.2.1 100 (r + 1)) (grpS Z (r + 1)) mn t s src).2.2.1 = st2 := by rw [hc]; exact (hii _).2.1
    have hrest : (cmA Z (pG Z.2.1 100 (r + 1)) (grpS Z (r + 1)) mn t s src).2.1.2 = (s.2.1, st2, rn2) := by rw [hc]; exact (hii _).2.2
    have k9 : kI Z.2.1 n tend = (9 : Int32) := (kI_eq hk.1 tend (c := 9) (by omega)).mpr h9
    have lO : lvO lv o A2 A3 := ⟨fun p hp j _ => by rw [f4 p (by simp only [List.contains_cons, List.contains_nil, Bool.or_false, Bool.or_eq_true, beq_iff_eq] at hp; simp only [List.contains_cons, List.contains_nil, Bool.or_false, beq_eq_false_iff_ne]; omega)], fun k _ => by rw [f4 _ rfl], fun k _ => by rw [f4 _ rfl], fun i _ _ => by rw [f4 _ rfl]⟩
    have e5 : ∀ (a : Int32) (I4 : Nat → Int32) (A4 : Nat → Nat → Int32), (a = 0 ∨ a = 1) → ab_cl gG true (d + 5) 75 [.inr (.inr (some b)), .inl (nI st2), .inl (b01 true)] (TW B b I3 P2 A3 N2) = some (some (.inl a), TW B b I4 P2 A4 N2) → ab_ev gG true (d + 7) 61 4 [some (.inr (.inr (some b))), some (.inl (nI (τ + 1))), some (.inl (-1))] [] (TW B b I1 P1 A1 N1) = (if a = 0 then some (some (.inl 0), TW B b I4 P2 A4 N2) else ab_ev gG true (d + 7) 61 25 [some (.inr (.inr (some b))), some (.inl (nI τ')), some (.inl (nI v'))] [] (TW B b I4 P2 A4 N2)) := fun a I4 A4 ha h75 => by
      rw [E2, bl_61_25, if_neg (nI_pos (by omega)), tw_i22, Option.bind_some, pos2, if_pos tw_isc, tw_kindAt (d + 6) hn XR.1 (by omega), qb_c1s, Option.bind_some]
      dsimp only
      rw [if_pos k9, if_pos tw_isc, E3]
      rw [h75, qb_c1s, Option.bind_some]
      dsimp only
      rw [if_pos ha, qb_c1s, Option.bind_some]
    refine ⟨fun h => ?_, fun h h4 => ?_, fun h h4 hf => ?_⟩
    · obtain ⟨I4, A4, g1, g2, g3, g4, g5⟩ := cc1 h
      obtain ⟨x1', x2', x3', x4', x5', x6', x7', x8', x9'⟩ := g2
      refine ⟨I4, P2, A4, N2, by rw [e5 0 I4 A4 (Or.inl rfl) g1, if_pos rfl], ⟨x2', x5', x7', x8', x9', ⟨by rw [g4 _ rfl, f4 _ rfl]; exact u2'.1, by rw [g4 _ rfl, f4 _ rfl]; exact u2'.2⟩, lv, Nat.le_refl _, by omega, x6', Or.inl ⟨rfl, ?_⟩⟩, (u1.tr lO).tr ?_⟩
      · have hm : A4 19 lv = b01 mn := by rw [g4 _ rfl, f4 _ rfl]; exact u6
        cases mn with
        | true => exact Or.inl ⟨hm, by rw [g4 _ rfl, f4 _ rfl, u5, hrest]⟩
        | false => exact Or.inr ⟨hm, x3'⟩
      · exact ⟨fun p hp j _ => by rw [g4 p (by simp only [List.contains_cons, List.contains_nil, Bool.or_false, Bool.or_eq_true, beq_iff_eq] at hp; simp only [List.contains_cons, List.contains_nil, Bool.or_false, Bool.or_eq_false_iff, beq_eq_false_iff_ne]; omega)], fun k _ => by rw [g4 _ rfl], fun k _ => by rw [g4 _ rfl], fun i _ _ => by rw [g4 _ rfl]⟩
    · obtain ⟨I4, A4, g1, g2, g3⟩ := cc2 h h4
      have hle := (pW_le _ _ _ _ _ q1).1
      exact ⟨τ', v', I4, P2, A4, N2, by rw [e5 1 I4 A4 (Or.inr rfl) g1, if_neg (by decide)], by omega, T2, g2, (u1.tr lO).tr g3⟩
    · obtain ⟨I4, A4, g1, g2, g3⟩ := cc3 h h4 hf
      have hle := (pW_le _ _ _ _ _ q1).1
      refine ⟨τ', v', I4, P2, A4, N2, by rw [e5 1 I4 A4 (Or.inr rfl) g1, if_neg (by decide)], by omega, T2, ?_, (u1.tr lO).tr g3⟩
      rw [hcode]
      exact g2
end
