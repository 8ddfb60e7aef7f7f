/-! ===== what runs keep ===== -/
def stI (Z : sL) (s : sS) : Prop := okT s.1 ∧ s.2.1 ≤ sN s.1 ∧ sD s.1 s.2.1 = true ∧ sC s.1 ≤ Z.1.2.1 ∧ s.2.2.1 ≤ 127
def inI (l : List Int32) : Prop := okb l ∧ l.length ≤ 160
def okZ (Z : sL) : Prop := Z.1.1 ≤ 12 ∧ Z.1.2.1 ≤ 160 ∧ Z.1.2.2 ≤ 96 ∧ ∀ t, okl (Z.2.2 t)
def rdI (r : sT) (fd : Option (List Int32)) (tg : Option Nat) : Prop := (∀ f, fd = some f → inI f) ∧ ∀ x, tg = some x → x ≤ sN r ∧ sD r x = false
theorem rdI.ex {r r' : sT} {fd : Option (List Int32)} {tg : Option Nat} (h : rdI r fd tg) (he : ext r r') : rdI r' fd tg := ⟨h.1, fun x hx => by
  obtain ⟨h1, h2⟩ := h.2 x hx
  exact ⟨Nat.le_trans h1 he.1, by rw [(he.2 x h1).1]; exact h2⟩⟩
def rdO (r : sT) (u : Nat × sT × Option (List Int32) × Option Nat) : Prop := okT u.2.1 ∧ ext r u.2.1 ∧ sC u.2.1 ≤ sC r ∧ rdI u.2.1 u.2.2.1 u.2.2.2 ∧ u.1 ≤ 2
theorem red_k {nl here : Nat} {W : Nat → List Int32} (hnl : nl ≤ 12) : ∀ (rs : List (Nat × Nat)) (r : sT) (fd : Option (List Int32)) (tg : Option Nat), okT r → sC r ≤ 160 → here ≤ sN r → rdI r fd tg → rdO r (redF nl here W rs r fd tg) := by
  intro rs
  induction rs with
  | nil => intro r fd tg hr hC hh hd; exact ⟨hr, ext.rf r, Nat.le_refl _, hd, Nat.zero_le _⟩
  | cons p rs ih =>
    intro r fd tg hr hC hh hd
    obtain ⟨op, w⟩ := p
    have stop : ∀ c, c ≤ 2 → rdO r (c, r, fd, tg) := fun c hc => ⟨hr, ext.rf r, Nat.le_refl _, hd, hc⟩
    have go : ∀ (r1 : sT) (fd1 : Option (List Int32)) (tg1 : Option Nat), okT r1 → ext r r1 → sC r1 ≤ sC r → rdI r1 fd1 tg1 → rdO r (redF nl here W rs r1 fd1 tg1) := fun r1 fd1 tg1 a1 a2 a3 a4 => by
      obtain ⟨q1, q2, q3, q4, q5⟩ := ih r1 fd1 tg1 a1 (by omega) (Nat.le_trans hh a2.1) a4
      exact ⟨q1, a2.tr q2, by omega, q4, q5⟩
    obtain ⟨f1, f2⟩ := fol_ok hr hh (W w)
    rw [redF]
    rcases hF : folS r here (W w) with ⟨nd, vc⟩
    rw [hF] at f1 f2
    match nd, vc, f1, f2 with
    | some x, vc, f1, f2 =>
      dsimp only
      have hx := f1 x rfl
      by_cases hD : sD r x = true
      · rw [if_pos hD]; exact stop 1 (by omega)
      · rw [if_neg hD]
        have hD : sD r x = false := by simpa using hD
        split
        · have := sX_len hx
          exact go r _ tg hr (ext.rf r) (Nat.le_refl _) ⟨fun f e => by cases e; exact ⟨hr.2.2.2.2.2.2 x hx, by omega⟩, hd.2⟩
        · split
          · have hc := sSet_C (l := []) hx
            rw [List.length_nil] at hc
            exact go _ fd _ (okT_set hr hx hD okb.nil) (ext_set _ _ _) (by omega) ⟨hd.1, fun y e => by cases e; exact ⟨hx, hD⟩⟩
          · exact go r fd _ hr (ext.rf r) (Nat.le_refl _) ⟨hd.1, fun y e => by cases e; exact ⟨hx, hD⟩⟩
    | none, none, f1, f2 => exact stop 1 (by omega)
    | none, some (dd, m), f1, f2 =>
      dsimp only
      split
      · exact stop 1 (by omega)
      · split
        · exact stop 2 (by omega)
        · rename_i hn
          obtain ⟨q1, q2, q3, q4, q5⟩ := f2 dd m rfl
          have he := ext_new r false dd m
          exact go _ fd _ (okT_new hr (by omega) q1 q2 q4 q5) he (by rw [sNew_C]; exact Nat.le_refl _) ⟨hd.1, fun y e => by
            cases e
            exact ⟨Nat.le_refl _, ab_up_e _ _ _⟩⟩
/-- a group's runner keeps it -/
def okH (Z : sL) (H : sG) : Prop := ∀ t s inp, stI Z s → inI inp → stI Z (H t s inp).2.1 ∧ ext s.1 (H t s inp).2.1.1 ∧ inI (H t s inp).2.2.1 ∧ okb (H t s inp).2.2.2 ∧ (H t s inp).2.2.2.length ≤ Z.1.2.2
/-- a command's outcome -/
def okU (Z : sL) (s : sS) (u : sR) : Prop := stI Z u.2.1 ∧ ext s.1 u.2.1.1 ∧ u.2.2.1 ≤ 127 ∧ okb u.2.2.2.1 ∧ (u.1 = false → u.2.2.2.1.length ≤ Z.1.2.2) ∧ inI u.2.2.2.2
theorem stI.bk {Z : sL} {s s' : sS} (h : stI Z s) (h' : stI Z s') (he : ext s.1 s'.1) : stI Z (s'.1, s.2.1, s'.2.2) := ⟨h'.1, Nat.le_trans h.2.1 he.1, by rw [(he.2 _ h.2.1).1]; exact h.2.2.1, h'.2.2.2.1, h'.2.2.2.2⟩
theorem act_k {Z : sL} (hZ : okZ Z) {H : sG} (hH : okH Z H) (g : Bool) (t : Nat) (ws : List Nat) {s : sS} {src : List Int32} (hs : stI Z s) (hi : inI src) : okU Z s (actS Z H g t ws s src) := by
  unfold actS
  split
  · obtain ⟨q1, q2, q3, q4, q5⟩ := hH (t + 1) s src hs hi
    exact ⟨hs.bk q1 q2, q2, q1.2.2.2.2, q4, fun _ => q5, q3⟩
  · obtain ⟨h1, h2, h3, h4, h5⟩ := hs
    obtain ⟨z1, z2, z3, z4⟩ := hZ
    have ha : ∀ w, w ∈ (ws.map fun w => wx (dg s.2.2.1) false (Z.2.2 w)) → okl w := fun w hw => by
      obtain ⟨x, -, rfl⟩ := List.mem_map.mp hw
      exact wx_l (dg_l (by omega)) _ _ _ (Nat.le_refl _) (z4 x)
    obtain ⟨k1, k2, k3, k4, k5, k6, k7, k8⟩ := tool_k h1 h2 h3 hi.1 hi.2 (by omega) z1 ha
    refine ⟨⟨k1, k3, k4, by rw [k5]; exact h4, h5⟩, k2, k6, ?_, fun hb => ?_, ?_⟩
    · dsimp only
      split
      · exact k7
      · exact okb.nil
    · dsimp only at hb ⊢
      rw [Bool.or_eq_false_iff, decide_eq_false_iff_not] at hb
      split
      · rename_i hc
        have := hb.2
        exact Nat.le_of_not_lt (fun h => this ⟨hc, h⟩)
      · exact Nat.zero_le _
    · rcases k8 with e | e
      · dsimp only; rw [e]; exact hi
      · dsimp only; rw [e]; exact ⟨okb.nil, by decide⟩
theorem sto_k {Z : sL} {s : sS} {u : sR} (hu : okU Z s u) {tg : Option Nat} (ht : ∀ x, tg = some x → x ≤ sN u.2.1.1 ∧ sD u.2.1.1 x = false) : okU Z s (stoS Z tg u) := by
  unfold stoS
  split
  · exact hu
  · rename_i hb
    cases tg with
    | none => exact hu
    | some x =>
      dsimp only
      obtain ⟨q1, q2, q3, q4, q5, q6⟩ := hu
      obtain ⟨t1, t2⟩ := ht x rfl
      split
      · exact ⟨q1, q2, q3, q4, fun e => (by cases e), q6⟩
      · rename_i hc
        have hC := sSet_C (l := sX u.2.1.1 x ++ u.2.2.2.1) t1
        rw [List.length_append] at hC
        exact ⟨⟨okT_set q1.1 t1 t2 (okb.ap (q1.1.2.2.2.2.2.2 x t1) q4), q1.2.1, q1.2.2.1, by show sC (sSet u.2.1.1 x (sX u.2.1.1 x ++ u.2.2.2.1)) ≤ _; omega, q1.2.2.2.2⟩, q2.tr (ext_set _ _ _), q3, okb.nil, fun _ => Nat.zero_le _, q6⟩
theorem okU.fd {Z : sL} {s : sS} {u : sR} (h : okU Z s u) {i : List Int32} (hi : inI i) : okU Z s (u.1, u.2.1, u.2.2.1, u.2.2.2.1, i) := ⟨h.1, h.2.1, h.2.2.1, h.2.2.2.1, h.2.2.2.2.1, hi⟩
theorem okU.ex {Z : sL} {s s' : sS} {u : sR} (h : okU Z s' u) (he : ext s.1 s'.1) : okU Z s u := ⟨h.1, he.tr h.2.1, h.2.2⟩
theorem cmd_k {Z : sL} (hZ : okZ Z) {G : Nat → Option Nat} {H : sG} (hH : okH Z H) (t : Nat) {s : sS} {inp : List Int32} (hs : stI Z s) (hi : inI inp) : okU Z s (cmdS Z G H t s inp) := by
  unfold cmdS
  rcases rdW Z.2.1 (decide (Z.2.1 t = 8)) 100 (if Z.2.1 t = 8 then (G t).getD 0 else t) with ⟨ws, rs⟩
  dsimp only
  obtain ⟨h1, h2, h3, h4, h5⟩ := id hs
  obtain ⟨z1, z2, z3, z4⟩ := id hZ
  obtain ⟨k1, k2, k3, k4, k5⟩ := red_k (here := s.2.1) (W := fun w => wx (dg s.2.2.1) false (Z.2.2 w)) z1 rs s.1 none none h1 (by omega) h2 ⟨fun f e => (by cases e), fun x e => (by cases e)⟩
  generalize redF Z.1.1 s.2.1 (fun w => wx (dg s.2.2.1) false (Z.2.2 w)) rs s.1 none none = u at k1 k2 k3 k4 k5
  obtain ⟨c, r, fd, tg⟩ := u
  dsimp only at k1 k2 k3 k4 k5
  have hs1 : stI Z (r, s.2) := ⟨k1, Nat.le_trans h2 k2.1, by show sD r s.2.1 = true; rw [(k2.2 _ h2).1]; exact h3, by show sC r ≤ _; omega, h5⟩
  match c, k5 with
  | 0, _ =>
    cases fd with
    | none =>
      have hu := act_k hZ hH (decide (Z.2.1 t = 8)) t ws hs1 hi
      exact (sto_k hu (fun x hx => by
        obtain ⟨a1, a2⟩ := k4.2 x hx
        exact ⟨Nat.le_trans a1 hu.2.1.1, by rw [(hu.2.1.2 x a1).1]; exact a2⟩)).ex k2
    | some f =>
      have hu := act_k hZ hH (decide (Z.2.1 t = 8)) t ws hs1 (k4.1 f rfl)
      have := (sto_k hu (fun x hx => by
        obtain ⟨a1, a2⟩ := k4.2 x hx
        exact ⟨Nat.le_trans a1 hu.2.1.1, by rw [(hu.2.1.2 x a1).1]; exact a2⟩)).ex (s := s) k2
      exact this.fd hi
  | 1, _ => exact ⟨hs1, k2, (by omega : (1 : Nat) ≤ 127), okb.nil, fun _ => Nat.zero_le _, hi⟩
  | 2, _ => exact ⟨hs1, k2, (by omega : (1 : Nat) ≤ 127), okb.nil, fun _ => Nat.zero_le _, hi⟩
theorem asi_k {Z : sL} (hZ : okZ Z) {G : Nat → Option Nat} {H : sG} (hH : okH Z H) (t : Nat) {s : sS} {inp : List Int32} (hs : stI Z s) (hi : inI inp) : okU Z s (asiS Z G H t s inp) := by
  unfold asiS
  have h := cmd_k (G := G) hZ hH t hs hi
  exact ⟨hs.bk h.1 h.2.1, h.2⟩
theorem inI_of {Z : sL} (hZ : okZ Z) {x : List Int32} (h : okb x) (hl : x.length ≤ Z.1.2.2) : inI x := ⟨h, by have := hZ.2.2.1; omega⟩
/-- the rest of a pipeline -/
def okV (Z : sL) (s : sS) (u : Bool × sS × Nat × List Int32) : Prop := stI Z u.2.1 ∧ ext s.1 u.2.1.1 ∧ u.2.2.1 ≤ 127 ∧ okb u.2.2.2 ∧ (u.1 = false → u.2.2.2.length ≤ Z.1.2.2)
theorem bar_k {Z : sL} (hZ : okZ Z) {G : Nat → Option Nat} {H : sG} (hH : okH Z H) : ∀ (f t : Nat) (s : sS) (c : Nat) (x : List Int32), stI Z s → c ≤ 127 → okb x → x.length ≤ Z.1.2.2 → okV Z s (barS Z G H f t s c x) := by
  intro f
  induction f with
  | zero => intro t s c x hs hc hx hl; exact ⟨hs, ext.rf _, hc, hx, fun _ => hl⟩
  | succ f ih =>
    intro t s c x hs hc hx hl
    rw [barS]
    split
    · have h := asi_k (G := G) hZ hH (t + 1) hs (inI_of hZ hx hl)
      generalize asiS Z G H (t + 1) s x = u at h
      obtain ⟨b, s2, c2, x2, i2⟩ := u
      obtain ⟨q1, q2, q3, q4, q5, q6⟩ := h
      cases b with
      | true => exact ⟨q1, q2, q3, q4, fun e => (by cases e)⟩
      | false =>
        obtain ⟨r1, r2, r3⟩ := ih (endC Z G (t + 1)) s2 c2 x2 q1 q3 q4 (q5 rfl)
        exact ⟨r1, q2.tr r2, r3⟩
    · exact ⟨hs, ext.rf _, hc, hx, fun _ => hl⟩
/-- a list's outcome -/
def okQ (Z : sL) (s : sS) (u : Bool × sS × List Int32 × List Int32) : Prop := stI Z u.2.1 ∧ ext s.1 u.2.1.1 ∧ inI u.2.2.1 ∧ okb u.2.2.2 ∧ u.2.2.2.length ≤ Z.1.2.2
theorem fin_k {Z : sL} {s : sS} {nt : Bool} {inp out : List Int32} (hi : inI inp) (ho : okb out) (hl : out.length ≤ Z.1.2.2) {u : Bool × sS × Nat × List Int32} (hu : okV Z s u) : okQ Z s (finS Z nt inp out u) := by
  obtain ⟨q1, q2, q3, q4, q5⟩ := hu
  unfold finS
  split
  · exact ⟨q1, q2, hi, ho, hl⟩
  · split
    · exact ⟨q1, q2, hi, ho, hl⟩
    · rename_i hc
      refine ⟨⟨q1.1, q1.2.1, q1.2.2.1, q1.2.2.2.1, ?_⟩, q2, hi, okb.ap ho q4, ?_⟩
      · show (if nt = true then (if u.2.2.1 = 0 then 1 else 0) else u.2.2.1) ≤ 127
        split
        · split <;> omega
        · exact q3
      · show (out ++ u.2.2.2).length ≤ _
        rw [List.length_append]
        omega
theorem pip_k {Z : sL} (hZ : okZ Z) {G : Nat → Option Nat} {H : sG} (hH : okH Z H) (t0 : Nat) (nt : Bool) {s : sS} {inp out : List Int32} (hs : stI Z s) (hi : inI inp) (ho : okb out) (hl : out.length ≤ Z.1.2.2) : okQ Z s (pipS Z G H t0 nt s inp out) := by
  unfold pipS
  have h : okU Z s (if Z.2.1 (endC Z G t0) = 4 then asiS Z G H t0 s inp else cmdS Z G H t0 s inp) := by
    split
    · exact asi_k hZ hH t0 hs hi
    · exact cmd_k hZ hH t0 hs hi
  generalize (if Z.2.1 (endC Z G t0) = 4 then asiS Z G H t0 s inp else cmdS Z G H t0 s inp) = u at h
  obtain ⟨b, s1, c, x, i1⟩ := u
  obtain ⟨q1, q2, q3, q4, q5, q6⟩ := h
  cases b with
  | true => exact ⟨q1, q2, q6, ho, hl⟩
  | false =>
    obtain ⟨r1, r2, r3⟩ := fin_k (nt := nt) q6 ho hl (bar_k (G := G) hZ hH 100 (endC Z G t0) s1 c x q1 q3 q4 (q5 rfl))
    exact ⟨r1, q2.tr r2, r3⟩
theorem and_k {Z : sL} (hZ : okZ Z) {G : Nat → Option Nat} {H : sG} (hH : okH Z H) : ∀ (f t : Nat) (s : sS) (inp out : List Int32), stI Z s → inI inp → okb out → out.length ≤ Z.1.2.2 → okQ Z s ((andS Z G H f t s inp out).1, (andS Z G H f t s inp out).2.1, (andS Z G H f t s inp out).2.2.1, (andS Z G H f t s inp out).2.2.2.1) := by
  intro f
  induction f with
  | zero => intro t s inp out hs hi ho hl; exact ⟨hs, ext.rf _, hi, ho, hl⟩
  | succ f ih =>
    intro t s inp out hs hi ho hl
    rw [andS]
    split
    · split
      · have h := pip_k (G := G) hZ hH (if Z.2.1 (t + 1) = 10 then t + 1 + 1 else t + 1) (decide (Z.2.1 (t + 1) = 10)) hs hi ho hl
        unfold plnS
        generalize pipS Z G H (if Z.2.1 (t + 1) = 10 then t + 1 + 1 else t + 1) (decide (Z.2.1 (t + 1) = 10)) s inp out = u at h
        obtain ⟨b, s1, i1, o1⟩ := u
        obtain ⟨q1, q2, q3, q4, q5⟩ := h
        cases b with
        | true => exact ⟨q1, q2, q3, q4, q5⟩
        | false =>
          obtain ⟨r1, r2, r3⟩ := ih (endP Z G (t + 1)) s1 i1 o1 q1 q3 q4 q5
          exact ⟨r1, q2.tr r2, r3⟩
      · exact ih (endP Z G (t + 1)) s inp out hs hi ho hl
    · exact ⟨hs, ext.rf _, hi, ho, hl⟩
theorem lst_k {Z : sL} (hZ : okZ Z) {G : Nat → Option Nat} {H : sG} (hH : okH Z H) : ∀ (f t : Nat) (s : sS) (inp out : List Int32), stI Z s → inI inp → okb out → out.length ≤ Z.1.2.2 → okQ Z s (lstS Z G H f t s inp out) := by
  intro f
  induction f with
  | zero => intro t s inp out hs hi ho hl; exact ⟨hs, ext.rf _, hi, ho, hl⟩
  | succ f ih =>
    intro t s inp out hs hi ho hl
    rw [lstS]
    have h := pip_k (G := G) hZ hH (if Z.2.1 t = 10 then t + 1 else t) (decide (Z.2.1 t = 10)) hs hi ho hl
    unfold plnS
    generalize pipS Z G H (if Z.2.1 t = 10 then t + 1 else t) (decide (Z.2.1 t = 10)) s inp out = u at h
    obtain ⟨b, s1, i1, o1⟩ := u
    obtain ⟨q1, q2, q3, q4, q5⟩ := h
    cases b with
    | true => exact ⟨q1, q2, q3, q4, q5⟩
    | false =>
      dsimp only
      have h2 := and_k (G := G) hZ hH 100 (endP Z G t) s1 i1 o1 q1 q3 q4 q5
      generalize andS Z G H 100 (endP Z G t) s1 i1 o1 = v at h2
      obtain ⟨b2, s2, i2, o2, t2⟩ := v
      obtain ⟨p1, p2, p3, p4, p5⟩ := h2
      cases b2 with
      | true => exact ⟨p1, q2.tr p2, p3, p4, p5⟩
      | false =>
        dsimp only
        split
        · obtain ⟨r1, r2, r3⟩ := ih (t2 + 1) s2 i2 o2 p1 p3 p4 p5
          exact ⟨r1, (q2.tr p2).tr r2, r3⟩
        · exact ⟨p1, q2.tr p2, p3, p4, p5⟩
theorem grp_k {Z : sL} (hZ : okZ Z) : ∀ r, okH Z (grpS Z r) := by
  intro r
  induction r with
  | zero => intro t s inp hs hi; exact ⟨hs, ext.rf _, hi, okb.nil, Nat.zero_le _⟩
  | succ r ih =>
    intro t s inp hs hi
    exact lst_k hZ ih 100 t s inp [] hs hi okb.nil (Nat.zero_le _)
