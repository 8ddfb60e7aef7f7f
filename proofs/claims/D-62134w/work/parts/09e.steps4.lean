/-! ===== arrays, new cells, casts ===== -/
section Step
variable {p : Program} {l : Launch} {e : Env} {R : Room} {s : State} {m : MethodId} {args : Array Value} {below : List Frame} {meth : Method} {c : Code} {Q : State → Prop} {D : sd_G} {n0 y : Nat} {h0 hf : ab_H} {bf0 : Nat → Nat}
theorem sd_in9 {i : Int32} {n : Nat} (h : ab_in i n = true) : ¬ i < 0 ∧ i.toNatClampNeg < n := by
  unfold ab_in at h
  simp only [Bool.and_eq_true, decide_eq_true_eq] at h
  refine ⟨fun q => ?_, ?_⟩
  · rw [Int32.lt_iff_toInt_lt, Int32.toInt_zero] at q
    omega
  · show i.toInt.toNat < n
    omega
theorem sd_ty_at (dA : Nat → ClassId) : ∀ k, k < 4 → (sd_ty dA)[k]? = some (dA k, ab_ty k)
  | 0, _ => rfl
  | 1, _ => rfl
  | 2, _ => rfl
  | 3, _ => rfl
  | k + 4, h => by omega
/-- the element type of an array of references -/
def sd_rt (k : Nat) : FieldType := .object (sd_nm k)
theorem sd_ty_rt (dA : Nat → ClassId) {k : Nat} (h : k = 4 ∨ k = 9 ∨ k = 10) : (sd_ty dA)[sd_rk k]? = some (dA (sd_rk k), sd_rt k) := by
  rcases h with rfl | rfl | rfl <;> rfl
theorem sd_arrI (hK : sd_K D s) {bf : Nat → Nat} {h : ab_H} {H : Heap} (r : sd_rep D n0 bf s h H) {a k n : Nat} {f : Nat → Int32} (hc : ab_ce h a = some (ab_cI k n f)) :
    ∃ cell : Cell, H[a]? = some cell ∧ s.isArrayOf cell (ab_ty k) ∧ cell.vm ≠ .unknown ∧ n ≤ cell.slots.size ∧ cell.slots.size.toInt32 = Int32.ofNat n ∧ ∀ j : Nat, j < n → cell.slots[j]? = some (.int (f j)) := by
  rcases r.2.2.2.1 a _ hc with ⟨h1, cell, g1, g2, g3, g4, g5, g6, -⟩ | ⟨h1, h2, h3, h4⟩
  · exact ⟨cell, g1, g2, g3, g4, g5, g6⟩
  · refine ⟨_, h3, (hK.2 k _ (sd_ty_at D.2.2 k h2)).1 n _, (fun q => by cases q), Nat.le_of_eq (arrV_size _ _ _).symm, by rw [arrV_size], fun j hj => arrV_read _ _ hj⟩
theorem sd_arrR (hK : sd_K D s) {bf : Nat → Nat} {h : ab_H} {H : Heap} (r : sd_rep D n0 bf s h H) {a k n : Nat} {f : Nat → Option Nat} (hc : ab_ce h a = some (ab_cR k n f)) :
    (k = 4 ∨ k = 9 ∨ k = 10) ∧ ∃ cell : Cell, H[a]? = some cell ∧ s.isArrayOf cell (sd_rt k) ∧ cell.vm ≠ .unknown ∧ cell.cls = D.2.2 (sd_rk k) ∧ cell.slots.size = n ∧ ∀ j : Nat, j < n → cell.slots[j]? = some (va_rf (f j)) := by
  rcases r.2.2.2.1 a _ hc with ⟨h1, rfl, cell, g1, g2, g3, g4, g5, g6⟩ | ⟨h1, h2, h3⟩
  · refine ⟨Or.inr (Or.inr rfl), cell, g1, ?_, g3, g2, g5, g6⟩
    have h9 := (hK.2 7 _ rfl).1 0 (fun _ => .null)
    refine ⟨g4, ?_⟩
    rw [g2]
    exact h9.2
  · exact ⟨h2, _, h3, (hK.2 _ _ (sd_ty_rt D.2.2 h2)).1 n _, (fun q => by cases q), rfl, arrV_size _ _ _, fun j hj => arrV_read _ _ hj⟩
theorem sd_arrL (hK : sd_K D s) {bf : Nat → Nat} {h : ab_H} {H : Heap} (r : sd_rep D n0 bf s h H) {a n : Nat} {f : Nat → Int64} (hc : ab_ce h a = some (ab_cL n f)) :
    n0 ≤ a ∧ H[a]? = some (arrV (D.2.2 4) n (fun j => .long (f j))) ∧ s.isArrayOf (arrV (D.2.2 4) n (fun j => .long (f j))) .long :=
  ⟨(r.2.2.2.1 a _ hc).1, (r.2.2.2.1 a _ hc).2, (hK.2 4 _ rfl).1 n _⟩
theorem sd_nar_fit (k : Nat) (x : Int32) : narrow (ab_ty k) (.int x) = .int (vp_nar (ab_ty k) x) ∧ fits (ab_ty k) (.int (vp_nar (ab_ty k) x)) = true := by
  match k with
  | 0 => exact ⟨rfl, rfl⟩
  | 1 => exact ⟨rfl, pk_fb x⟩
  | 2 => exact ⟨rfl, fits_narrow_char x⟩
  | k + 3 => exact ⟨rfl, fits_narrow_boolean x⟩
theorem sd_upI (f : Nat → Int32) (j : Nat) (x : Int32) : updV (fun j => Value.int (f j)) j (.int x) = fun i => .int (ab_up f j x i) := by
  funext i
  unfold updV ab_up
  split <;> rfl
theorem sd_upL (f : Nat → Int64) (j : Nat) (x : Int64) : updV (fun j => Value.long (f j)) j (.long x) = fun i => .long (ab_up f j x i) := by
  funext i
  unfold updV ab_up
  split <;> rfl
theorem sd_upR (f : Nat → Option Nat) (j b : Nat) : updV (fun j => va_rf (f j)) j (.ref b) = fun i => va_rf (ab_up f j (some b) i) := by
  funext i
  unfold updV ab_up
  split <;> rfl
theorem sd_S.putI {bf : Nat → Nat} {h : ab_H} {H H1 : Heap} {locs : List Loc} {a i k n j : Nat} {f : Nat → Int32} {x : Int32} (S : sd_S s D n0 h0 bf0 bf h H locs) (hc : ab_ce h a = some (ab_cI k n f)) (hn : n0 ≤ a)
    (e1 : H1[a]? = some ((arrV (D.2.2 k) n (fun j => .int (f j))).setSlot j (narrow (ab_ty k) (.int x)))) (z : H1.size = H.size) (o : ∀ q : Nat, q ≠ a → H1[q]? = H[q]?) : sd_S s D n0 h0 bf0 bf (ab_put h a (ab_cI k n (ab_up f j (vp_nar (ab_ty k) x)))) H1 (locs ++ [⟨a, i⟩]) := by
  rcases S.1.2.2.2.1 a _ hc with ⟨h1, -⟩ | ⟨-, h2, h3, h4⟩
  · omega
  refine S.put hc hn (by rintro ⟨_, _, _, q⟩; cases q) (by rintro ⟨_, _, _, q⟩; cases q) z o (Or.inr ⟨hn, h2, ?_, fun i => ?_⟩)
  · rw [e1, (sd_nar_fit k x).1, arrV_store, sd_upI]
  · unfold ab_up
    split
    · exact (sd_nar_fit k x).2
    · exact h4 i
/-- the class of an object -/
theorem sd_recv (hK : sd_K D s) {bf : Nat → Nat} {h : ab_H} {H : Heap} (r : sd_rep D n0 bf s h H) {a k : Nat} (hc : ab_isc h a k = true) (hk : k < 12) : ∃ cell : Cell, H[a]? = some cell ∧ cell.vm.isStatics = false ∧ s.vm.findClass (sd_nm k) = some cell.cls := by
  have hcl : ab_cls h a = some k := by
    unfold ab_isc at hc
    split at hc
    · rename_i k' hk'
      rw [hk', Nat.eq_of_beq_eq_true hc]
    · cases hc
  unfold ab_cls at hcl
  split at hcl
  · rename_i k' fs hce
    cases hcl
    rcases r.2.2.2.1 a _ hce with ⟨h1, h2, h3, ⟨cell, g1, g2, g3, -⟩, h5⟩ | ⟨h1, h2, cell, q1, q2, q3, q4⟩
    · exact ⟨cell, g1, g2, g3⟩
    · obtain ⟨T, t1, -⟩ := sd_cls k h2
      obtain ⟨-, hfc, -⟩ := hK.1 k _ t1
      exact ⟨cell, q1, by rw [q3]; rfl, by rw [q2]; exact hfc⟩
  · rename_i z hce
    cases hcl
    obtain ⟨mm, nn, tt⟩ := z
    obtain ⟨h1, h2, h3, ⟨x, cell, q1, q2, q3, q4⟩, -⟩ := r.2.2.2.1 a _ hce
    obtain ⟨T, t1, -⟩ := sd_cls 8 (by decide)
    obtain ⟨-, hfc, -⟩ := hK.1 8 _ t1
    exact ⟨cell, q1, by rw [q3]; rfl, by rw [q2]; exact hfc⟩
  · rename_i k' z hce
    have := Option.some.inj hcl
    omega
  · cases hcl
def sk_arrl : Instr → Bool
  | .iaload => true
  | .caload => true
  | .baload => true
  | .laload => true
  | .aaload => true
  | .arraylength => true
  | _ => false
set_option maxHeartbeats 4000000 in
theorem sg_arrl (C : sd_cx p R s m args meth c D n0 y h0 hf) {k pc len nx : Nat} {o i : Instr} {L L' : List (Option ab_V)} {st st' : List ab_V} {h h' : ab_H} {bf : Nat → Nat} {H : Heap} {locs : List Loc} {ls : Array Slot} (hi : sk_arrl i = true)
    (hd : decode (gB y) pc = .ok (o, len)) (hck : ck1 (gW y) (gG y).2 (gR y) (gN y) (gP y) pc o len i = true) (hnx : ck_end i = true ∨ ab_nth (gP y) (k + 1) = some (pc + len)) (S : sd_S s D n0 h0 bf0 bf h H locs) (hl : lv_has ls (gG y).2 (sd_pr 0 L))
    (he : ab_one i (k + 1) L st h = some (.inl (nx, L', st', h'))) (hz : ab_sz h' ≤ ab_sz hf ∧ ab_sl h' ≤ ab_sl hf) (G : sd_Good p l e R s m args below meth c Q D n0 y h0 bf0 nx L' st' h') : sd_W p l e R s m args below meth c Q h0 h H locs pc ls st := by
  obtain ⟨hx, hb, hml, hr, hown, hts, hlocks, hin, hK, hcon, hn0, hRc, hRs, hsz⟩ := C
  cases i with
  | iaload =>
    simp only [ab_one, ab_st] at he
    replace hnx := hnx.resolve_left (fun q => Bool.false_ne_true q)
    obtain ⟨ho, hlen⟩ : o = .iaload ∧ len = 1 := by
      have h9 := hck
      simp only [ck1, Bool.and_eq_true, decide_eq_true_eq] at h9
      exact ⟨h9.1, Nat.eq_of_beq_eq_true h9.2⟩
    subst ho hlen
    split at he
    · rename_i j x st1
      cases x with
      | none => cases he
      | some a =>
        rw [Option.bind_some] at he
        cases hv : ab_aI 0 h a j with
        | none => rw [hv] at he; cases he
        | some v =>
          rw [hv, Option.bind_some] at he
          cases he
          unfold ab_aI at hv
          split at hv
          · rename_i k n f hc
            split at hv
            · rename_i hcond
              cases hv
              obtain ⟨cell, g1, g2, g3, g4, g5, g6⟩ := sd_arrI hK S.1 hc
              obtain ⟨hi1, hi2⟩ := sd_in9 hcond.2
              have hin9 : ¬ (j < 0 ∨ cell.slots.size ≤ j.toNatClampNeg) := fun w => w.elim hi1 (fun w => by omega)
              obtain rfl : k = 0 := Nat.eq_of_beq_eq_true hcond.1
              exact W.iald hx hb g1 g2 g3 hin9 (g6 _ hi2) rfl rfl hd (G _ _ _ _ _ S hl hnx)
            · cases hv
          · cases hv
    · cases he
  | caload =>
    simp only [ab_one, ab_st] at he
    replace hnx := hnx.resolve_left (fun q => Bool.false_ne_true q)
    obtain ⟨ho, hlen⟩ : o = .caload ∧ len = 1 := by
      have h9 := hck
      simp only [ck1, Bool.and_eq_true, decide_eq_true_eq] at h9
      exact ⟨h9.1, Nat.eq_of_beq_eq_true h9.2⟩
    subst ho hlen
    split at he
    · rename_i j x st1
      cases x with
      | none => cases he
      | some a =>
        rw [Option.bind_some] at he
        cases hv : ab_aI 2 h a j with
        | none => rw [hv] at he; cases he
        | some v =>
          rw [hv, Option.bind_some] at he
          cases he
          unfold ab_aI at hv
          split at hv
          · rename_i k n f hc
            split at hv
            · rename_i hcond
              cases hv
              obtain ⟨cell, g1, g2, g3, g4, g5, g6⟩ := sd_arrI hK S.1 hc
              obtain ⟨hi1, hi2⟩ := sd_in9 hcond.2
              have hin9 : ¬ (j < 0 ∨ cell.slots.size ≤ j.toNatClampNeg) := fun w => w.elim hi1 (fun w => by omega)
              obtain rfl : k = 2 := Nat.eq_of_beq_eq_true hcond.1
              exact W.cald hx hb g1 g2 g3 hin9 (g6 _ hi2) rfl rfl hd (G _ _ _ _ _ S hl hnx)
            · cases hv
          · cases hv
    · cases he
  | baload =>
    simp only [ab_one, ab_st] at he
    replace hnx := hnx.resolve_left (fun q => Bool.false_ne_true q)
    obtain ⟨ho, hlen⟩ : o = .baload ∧ len = 1 := by
      have h9 := hck
      simp only [ck1, Bool.and_eq_true, decide_eq_true_eq] at h9
      exact ⟨h9.1, Nat.eq_of_beq_eq_true h9.2⟩
    subst ho hlen
    split at he
    · rename_i j x st1
      cases x with
      | none => cases he
      | some a =>
        rw [Option.bind_some] at he
        cases hv : ab_aI 1 h a j with
        | none => rw [hv] at he; cases he
        | some v =>
          rw [hv, Option.bind_some] at he
          cases he
          unfold ab_aI at hv
          split at hv
          · rename_i k n f hc
            split at hv
            · rename_i hcond
              cases hv
              obtain ⟨cell, g1, g2, g3, g4, g5, g6⟩ := sd_arrI hK S.1 hc
              obtain ⟨hi1, hi2⟩ := sd_in9 hcond.2
              have hin9 : ¬ (j < 0 ∨ cell.slots.size ≤ j.toNatClampNeg) := fun w => w.elim hi1 (fun w => by omega)
              have hk : k = 1 ∨ k = 3 := by
                have h9 : (Nat.beq k 1 || Nat.beq k 3) = true := hcond.1
                rw [Bool.or_eq_true] at h9
                exact h9.imp Nat.eq_of_beq_eq_true Nat.eq_of_beq_eq_true
              rcases hk with rfl | rfl
              · exact W.bald hx hb g1 g2 g3 hin9 (g6 _ hi2) rfl rfl hd (G _ _ _ _ _ S hl hnx)
              · exact W.zald hx hb g1 g2 g3 hin9 (g6 _ hi2) rfl rfl hd (G _ _ _ _ _ S hl hnx)
            · cases hv
          · cases hv
    · cases he
  | laload =>
    simp only [ab_one, ab_st] at he
    replace hnx := hnx.resolve_left (fun q => Bool.false_ne_true q)
    obtain ⟨ho, hlen⟩ : o = .laload ∧ len = 1 := by
      have h9 := hck
      simp only [ck1, Bool.and_eq_true, decide_eq_true_eq] at h9
      exact ⟨h9.1, Nat.eq_of_beq_eq_true h9.2⟩
    subst ho hlen
    split at he
    · rename_i j x st1
      cases x with
      | none => cases he
      | some a =>
        rw [Option.bind_some] at he
        cases hv : ab_aL h a j with
        | none => rw [hv] at he; cases he
        | some v =>
          rw [hv, Option.bind_some] at he
          cases he
          unfold ab_aL at hv
          split at hv
          · rename_i n f hc
            split at hv
            · rename_i hcond
              cases hv
              obtain ⟨g0, g1, g2⟩ := sd_arrL hK S.1 hc
              obtain ⟨hi1, hi2⟩ := sd_in9 hcond
              exact W.lald hx hb g1 g2 (fun q => by cases q) (by rw [arrV_size]; exact fun w => w.elim hi1 (fun w => by omega)) (arrV_read _ _ hi2) rfl rfl hd (G _ _ _ _ _ S hl hnx)
            · cases hv
          · cases hv
    · cases he
  | aaload =>
    simp only [ab_one, ab_st] at he
    replace hnx := hnx.resolve_left (fun q => Bool.false_ne_true q)
    obtain ⟨ho, hlen⟩ : o = .aaload ∧ len = 1 := by
      have h9 := hck
      simp only [ck1, Bool.and_eq_true, decide_eq_true_eq] at h9
      exact ⟨h9.1, Nat.eq_of_beq_eq_true h9.2⟩
    subst ho hlen
    split at he
    · rename_i j x st1
      cases x with
      | none => cases he
      | some a =>
        rw [Option.bind_some] at he
        cases hv : ab_aR h a j with
        | none => rw [hv] at he; cases he
        | some v =>
          rw [hv, Option.bind_some] at he
          cases he
          unfold ab_aR at hv
          split at hv
          · rename_i k n f hc
            split at hv
            · rename_i hcond
              cases hv
              obtain ⟨g0, cell, g1, g2, g3, g4, g5, g6⟩ := sd_arrR hK S.1 hc
              obtain ⟨hi1, hi2⟩ := sd_in9 hcond
              exact W.aald hx hb g1 g2 rfl g3 (by rw [g5]; exact fun w => w.elim hi1 (fun w => by omega)) (g6 _ hi2) rfl rfl hd (G _ _ _ _ _ S hl hnx)
            · cases hv
          · cases hv
    · cases he
  | arraylength =>
    simp only [ab_one, ab_st] at he
    replace hnx := hnx.resolve_left (fun q => Bool.false_ne_true q)
    obtain ⟨ho, hlen⟩ : o = .arraylength ∧ len = 1 := by
      have h9 := hck
      simp only [ck1, Bool.and_eq_true, decide_eq_true_eq] at h9
      exact ⟨h9.1, Nat.eq_of_beq_eq_true h9.2⟩
    subst ho hlen
    split at he
    · rename_i x st1
      cases x with
      | none => cases he
      | some a =>
        rw [Option.bind_some] at he
        cases hv : ab_len h a with
        | none => rw [hv] at he; cases he
        | some v =>
          rw [hv, Option.bind_some] at he
          cases he
          unfold ab_len at hv
          split at hv
          · rename_i k n f hc
            cases hv
            obtain ⟨cell, g1, g2, g3, g4, g5, g6⟩ := sd_arrI hK S.1 hc
            exact W.alen hx hb g1 g2 g5 rfl rfl hd (G _ _ _ _ _ S hl hnx)
          · rename_i n f hc
            cases hv
            obtain ⟨g0, g1, g2⟩ := sd_arrL hK S.1 hc
            exact W.alen hx hb g1 g2 (by rw [arrV_size]) rfl rfl hd (G _ _ _ _ _ S hl hnx)
          · rename_i k n f hc
            cases hv
            obtain ⟨g0, cell, g1, g2, g3, g4, g5, g6⟩ := sd_arrR hK S.1 hc
            exact W.alen hx hb g1 g2 (by rw [g5]) rfl rfl hd (G _ _ _ _ _ S hl hnx)
          · cases hv
    · cases he
  | _ => cases hi
def sk_arrs : Instr → Bool
  | .iastore => true
  | .castore => true
  | .bastore => true
  | .lastore => true
  | .aastore => true
  | _ => false
set_option maxHeartbeats 4000000 in
theorem sg_arrs (C : sd_cx p R s m args meth c D n0 y h0 hf) {k pc len nx : Nat} {o i : Instr} {L L' : List (Option ab_V)} {st st' : List ab_V} {h h' : ab_H} {bf : Nat → Nat} {H : Heap} {locs : List Loc} {ls : Array Slot} (hi : sk_arrs i = true)
    (hd : decode (gB y) pc = .ok (o, len)) (hck : ck1 (gW y) (gG y).2 (gR y) (gN y) (gP y) pc o len i = true) (hnx : ck_end i = true ∨ ab_nth (gP y) (k + 1) = some (pc + len)) (S : sd_S s D n0 h0 bf0 bf h H locs) (hl : lv_has ls (gG y).2 (sd_pr 0 L))
    (he : ab_one i (k + 1) L st h = some (.inl (nx, L', st', h'))) (hz : ab_sz h' ≤ ab_sz hf ∧ ab_sl h' ≤ ab_sl hf) (G : sd_Good p l e R s m args below meth c Q D n0 y h0 bf0 nx L' st' h') : sd_W p l e R s m args below meth c Q h0 h H locs pc ls st := by
  obtain ⟨hx, hb, hml, hr, hown, hts, hlocks, hin, hK, hcon, hn0, hRc, hRs, hsz⟩ := C
  cases i with
  | iastore =>
    simp only [ab_one, ab_st] at he
    replace hnx := hnx.resolve_left (fun q => Bool.false_ne_true q)
    obtain ⟨ho, hlen⟩ : o = .iastore ∧ len = 1 := by
      have h9 := hck
      simp only [ck1, Bool.and_eq_true, decide_eq_true_eq] at h9
      exact ⟨h9.1, Nat.eq_of_beq_eq_true h9.2⟩
    subst ho hlen
    split at he
    · rename_i x9 j x st1
      cases x with
      | none => cases he
      | some a =>
        rw [Option.bind_some] at he
        cases hv : ab_sI 0 h a j x9 with
        | none => rw [hv] at he; cases he
        | some v =>
          rw [hv, Option.bind_some] at he
          cases he
          unfold ab_sI at hv
          split at hv
          · rename_i k n f hc
            split at hv
            · rename_i hcond
              cases hv
              obtain ⟨hi1, hi2⟩ := sd_in9 hcond.2.1
              have hna := hcond.2.2
              rw [S.1.1] at hna
              have harr : H[a]? = some (arrV (D.2.2 k) n (fun j => .int (f j))) ∧ k < 4 := by
                rcases S.1.2.2.2.1 a _ hc with ⟨h1, -⟩ | ⟨-, h2, h3, h4⟩
                · omega
                · exact ⟨h3, h2⟩
              have hin9 : ¬ (j < 0 ∨ (arrV (D.2.2 k) n (fun j => .int (f j))).slots.size ≤ j.toNatClampNeg) := by rw [arrV_size]; exact fun w => w.elim hi1 (fun w => by omega)
              have hof := (hK.2 k _ (sd_ty_at D.2.2 k harr.2)).1 n (fun j => .int (f j))
              obtain rfl : k = 0 := Nat.eq_of_beq_eq_true hcond.1
              exact W.iast hx hb harr.1 hof (fun q => by cases q) hin9 rfl rfl hd (fun H1 e1 e2 e3 => G _ _ _ _ _ (S.putI hc hna e1 e2 e3) hl hnx)
            · cases hv
          · cases hv
    · cases he
  | castore =>
    simp only [ab_one, ab_st] at he
    replace hnx := hnx.resolve_left (fun q => Bool.false_ne_true q)
    obtain ⟨ho, hlen⟩ : o = .castore ∧ len = 1 := by
      have h9 := hck
      simp only [ck1, Bool.and_eq_true, decide_eq_true_eq] at h9
      exact ⟨h9.1, Nat.eq_of_beq_eq_true h9.2⟩
    subst ho hlen
    split at he
    · rename_i x9 j x st1
      cases x with
      | none => cases he
      | some a =>
        rw [Option.bind_some] at he
        cases hv : ab_sI 2 h a j x9 with
        | none => rw [hv] at he; cases he
        | some v =>
          rw [hv, Option.bind_some] at he
          cases he
          unfold ab_sI at hv
          split at hv
          · rename_i k n f hc
            split at hv
            · rename_i hcond
              cases hv
              obtain ⟨hi1, hi2⟩ := sd_in9 hcond.2.1
              have hna := hcond.2.2
              rw [S.1.1] at hna
              have harr : H[a]? = some (arrV (D.2.2 k) n (fun j => .int (f j))) ∧ k < 4 := by
                rcases S.1.2.2.2.1 a _ hc with ⟨h1, -⟩ | ⟨-, h2, h3, h4⟩
                · omega
                · exact ⟨h3, h2⟩
              have hin9 : ¬ (j < 0 ∨ (arrV (D.2.2 k) n (fun j => .int (f j))).slots.size ≤ j.toNatClampNeg) := by rw [arrV_size]; exact fun w => w.elim hi1 (fun w => by omega)
              have hof := (hK.2 k _ (sd_ty_at D.2.2 k harr.2)).1 n (fun j => .int (f j))
              obtain rfl : k = 2 := Nat.eq_of_beq_eq_true hcond.1
              exact W.cast hx hb harr.1 hof (fun q => by cases q) hin9 rfl rfl hd (fun H1 e1 e2 e3 => G _ _ _ _ _ (S.putI hc hna e1 e2 e3) hl hnx)
            · cases hv
          · cases hv
    · cases he
  | bastore =>
    simp only [ab_one, ab_st] at he
    replace hnx := hnx.resolve_left (fun q => Bool.false_ne_true q)
    obtain ⟨ho, hlen⟩ : o = .bastore ∧ len = 1 := by
      have h9 := hck
      simp only [ck1, Bool.and_eq_true, decide_eq_true_eq] at h9
      exact ⟨h9.1, Nat.eq_of_beq_eq_true h9.2⟩
    subst ho hlen
    split at he
    · rename_i x9 j x st1
      cases x with
      | none => cases he
      | some a =>
        rw [Option.bind_some] at he
        cases hv : ab_sI 1 h a j x9 with
        | none => rw [hv] at he; cases he
        | some v =>
          rw [hv, Option.bind_some] at he
          cases he
          unfold ab_sI at hv
          split at hv
          · rename_i k n f hc
            split at hv
            · rename_i hcond
              cases hv
              obtain ⟨hi1, hi2⟩ := sd_in9 hcond.2.1
              have hna := hcond.2.2
              rw [S.1.1] at hna
              have harr : H[a]? = some (arrV (D.2.2 k) n (fun j => .int (f j))) ∧ k < 4 := by
                rcases S.1.2.2.2.1 a _ hc with ⟨h1, -⟩ | ⟨-, h2, h3, h4⟩
                · omega
                · exact ⟨h3, h2⟩
              have hin9 : ¬ (j < 0 ∨ (arrV (D.2.2 k) n (fun j => .int (f j))).slots.size ≤ j.toNatClampNeg) := by rw [arrV_size]; exact fun w => w.elim hi1 (fun w => by omega)
              have hof := (hK.2 k _ (sd_ty_at D.2.2 k harr.2)).1 n (fun j => .int (f j))
              have hk : k = 1 ∨ k = 3 := by
                have h9 : (Nat.beq k 1 || Nat.beq k 3) = true := hcond.1
                rw [Bool.or_eq_true] at h9
                exact h9.imp Nat.eq_of_beq_eq_true Nat.eq_of_beq_eq_true
              rcases hk with rfl | rfl
              · exact W.bast hx hb harr.1 hof (fun q => by cases q) hin9 rfl rfl hd (fun H1 e1 e2 e3 => G _ _ _ _ _ (S.putI hc hna e1 e2 e3) hl hnx)
              · exact W.zast hx hb harr.1 hof (fun q => by cases q) hin9 rfl rfl hd (fun H1 e1 e2 e3 => G _ _ _ _ _ (S.putI hc hna e1 e2 e3) hl hnx)
            · cases hv
          · cases hv
    · cases he
  | lastore =>
    simp only [ab_one, ab_st] at he
    replace hnx := hnx.resolve_left (fun q => Bool.false_ne_true q)
    obtain ⟨ho, hlen⟩ : o = .lastore ∧ len = 1 := by
      have h9 := hck
      simp only [ck1, Bool.and_eq_true, decide_eq_true_eq] at h9
      exact ⟨h9.1, Nat.eq_of_beq_eq_true h9.2⟩
    subst ho hlen
    split at he
    · rename_i x9 j x st1
      cases x with
      | none => cases he
      | some a =>
        rw [Option.bind_some] at he
        cases hv : ab_sL h a j x9 with
        | none => rw [hv] at he; cases he
        | some v =>
          rw [hv, Option.bind_some] at he
          cases he
          unfold ab_sL at hv
          split at hv
          · rename_i n f hc
            split at hv
            · rename_i hcond
              cases hv
              obtain ⟨hi1, hi2⟩ := sd_in9 hcond.1
              obtain ⟨g0, g1, g2⟩ := sd_arrL hK S.1 hc
              refine W.last hx hb g1 g2 (fun q => by cases q) (by rw [arrV_size]; exact fun w => w.elim hi1 (fun w => by omega)) rfl rfl hd (fun H1 e1 e2 e3 => G _ _ _ _ _ (S.put hc g0 (by rintro ⟨_, _, _, q⟩; cases q) (by rintro ⟨_, _, _, q⟩; cases q) e2 e3 ⟨g0, ?_⟩) hl hnx)
              rw [e1, arrV_store, sd_upL]
            · cases hv
          · cases hv
    · cases he
  | aastore =>
    simp only [ab_one, ab_st] at he
    replace hnx := hnx.resolve_left (fun q => Bool.false_ne_true q)
    obtain ⟨ho, hlen⟩ : o = .aastore ∧ len = 1 := by
      have h9 := hck
      simp only [ck1, Bool.and_eq_true, decide_eq_true_eq] at h9
      exact ⟨h9.1, Nat.eq_of_beq_eq_true h9.2⟩
    subst ho hlen
    split at he
    · rename_i x9 j x st1
      cases x with
      | none => cases he
      | some a =>
        rw [Option.bind_some] at he
        cases hv : ab_sR h a j x9 with
        | none => rw [hv] at he; cases he
        | some v =>
          rw [hv, Option.bind_some] at he
          cases he
          unfold ab_sR at hv
          split at hv
          · rename_i k n f b hc
            split at hv
            · rename_i hcond
              cases hv
              obtain ⟨hi1, hi2⟩ := sd_in9 hcond.1
              have hna := hcond.2.1
              rw [S.1.1] at hna
              rcases S.1.2.2.2.1 a _ hc with ⟨h1, -⟩ | ⟨-, h2, h3⟩
              · omega
              obtain ⟨cv, v1, v2, v3⟩ := sd_recv hK S.1 hcond.2.2 (by rcases h2 with rfl | rfl | rfl <;> decide)
              obtain ⟨kA, comp, r1, r2, r3, r4⟩ := (hK.2 _ _ (sd_ty_rt D.2.2 h2)).2
              cases r3.symm.trans v3
              obtain ⟨kv, hkv, -⟩ := Vm.findClass_spec v3
              refine W.aast (p := p) (l := l) (e := e) (k := kA) hx hb h3 (fun q => by intro w; cases w) (fun q => by cases q) r1 r2 rfl hkv ⟨hi1, by rw [arrV_size]; exact hi2⟩ v1 (fun q w => by rw [w] at v2; cases v2) hkv (va_asg _ _) rfl rfl hd (fun H1 e1 e2 e3 => G _ _ _ _ _ (S.put hc hna (by rintro ⟨_, _, _, q⟩; cases q) (by rintro ⟨_, _, _, q⟩; cases q) e2 e3 (Or.inr ⟨hna, h2, ?_⟩)) hl hnx)
              rw [e1, arrV_store, sd_upR]
            · cases hv
          · cases hv
    · cases he
  | _ => cases hi
end Step
