/-! ===== ONE INSTRUCTION of mine is the machine's ===== -/
/-- what stays while a method y runs: h0, hf the heaps at its start and at its end -/
def sd_cx (p : Program) (R : Room) (s : State) (m : MethodId) (args : Array Value) (meth : Method) (c : Code) (D : sd_G) (n0 y : Nat) (h0 hf : ab_H) : Prop :=
  p.tables.exec = Jvm.exec ∧ c.code = gB y ∧ c.maxLocals = (gG y).2 ∧ meth.sig.returnType = gR y ∧ s.vm.findClass (sd_nm (gW y)) = some m.cls ∧ (∀ w ∈ lw_tg, w.before args s = true) ∧ meth.locks = false ∧ (gN y = true → meth.name = "<init>") ∧
  sd_K D s ∧ sd_con n0 h0.1.2 s s.heap ∧ n0 ≤ s.heap.size ∧ ab_sz hf - ab_sz h0 ≤ R.cells ∧ ab_sl hf - ab_sl h0 ≤ R.slots ∧ s.heap.size = ab_sz h0
/-- what holds between two instructions -/
def sd_S (s : State) (D : sd_G) (n0 : Nat) (h0 : ab_H) (bf0 bf : Nat → Nat) (h : ab_H) (H : Heap) (locs : List Loc) : Prop :=
  sd_rep D n0 bf s h H ∧ (∀ q : Nat, q < n0 → H[q]? = s.heap[q]?) ∧ (∀ q : Nat, q < s.heap.size → sd_own h bf q → sd_own h0 bf0 q) ∧ (∀ q : Nat, q < s.heap.size → ¬ sd_own h0 bf0 q → H[q]? = s.heap[q]?) ∧
  (∀ l ∈ locs, n0 ≤ l.base ∧ (sd_own h0 bf0 l.base ∨ s.heap.size ≤ l.base)) ∧ s.heap.size ≤ H.size ∧ ab_sl h0 ≤ ab_sl h ∧ h.1 = h0.1
theorem sd_S.va {s : State} {D : sd_G} {n0 : Nat} {h0 h : ab_H} {bf0 bf : Nat → Nat} {H : Heap} {locs : List Loc} (S : sd_S s D n0 h0 bf0 bf h H locs) : va_S (sd_A n0) s.heap H locs :=
  ⟨S.2.2.2.2.2.1, fun q _ h2 => S.2.1 q (Nat.lt_of_not_le h2), fun l hl => (S.2.2.2.2.1 l hl).1⟩
section Step
variable {p : Program} {l : Launch} {e : Env} {R : Room} {s : State} {m : MethodId} {args : Array Value} {below : List Frame} {meth : Method} {c : Code} {Q : State → Prop} {D : sd_G} {n0 y : Nat} {h0 hf : ab_H} {bf0 : Nat → Nat}
abbrev sd_W (p : Program) (l : Launch) (e : Env) (R : Room) (s : State) (m : MethodId) (args : Array Value) (below : List Frame) (meth : Method) (c : Code) (Q : State → Prop) (h0 h : ab_H) (H : Heap) (locs : List Loc) (pc : Nat) (ls : Array Slot) (st : List ab_V) : Prop :=
  W p l e R s m args below meth c H locs (ab_sz h - ab_sz h0) (ab_sl h - ab_sl h0) Q (F0 m pc ls (st.map sd_v))
/-- the machine goes on well from place nx of y's code -/
def sd_Good (p : Program) (l : Launch) (e : Env) (R : Room) (s : State) (m : MethodId) (args : Array Value) (below : List Frame) (meth : Method) (c : Code) (Q : State → Prop) (D : sd_G) (n0 y : Nat) (h0 : ab_H) (bf0 : Nat → Nat) (nx : Nat) (L : List (Option ab_V)) (st : List ab_V) (h : ab_H) : Prop :=
  ∀ (bf : Nat → Nat) (H : Heap) (locs : List Loc) (ls : Array Slot) (pc : Nat), sd_S s D n0 h0 bf0 bf h H locs → lv_has ls (gG y).2 (sd_pr 0 L) → ab_nth (gP y) nx = some pc → sd_W p l e R s m args below meth c Q h0 h H locs pc ls st
theorem sd_t {P : List Nat} {pc : Nat} {off t : Int} (h : ck_t P pc off t = true) : ∃ b, ab_nth P t.toNat = some b ∧ (pc : Int) + off = (b : Int) := by
  unfold ck_t at h
  split at h
  · rename_i b hb
    exact ⟨b, hb, of_decide_eq_true h⟩
  · cases h
/-- ldc_w of a String constant -/
theorem sd_ldcwS {cc : ByteArray} {H : Heap} {locs : List Loc} {cells slots pc : Nat} {ls : Array Slot} {rest : List Value} (hexec : p.tables.exec = Jvm.exec) (hb : c.code = cc) {own tx : String} {index q : Nat} (hown : s.vm.findClass own = some m.cls) (hZ : vk_R own index tx q s) (hdg : decode cc pc = .ok (.ldc_w index, 3))
    (k : W p l e R s m args below meth c H locs cells slots Q (F0 m (pc + 3) ls (.ref q :: rest))) : W p l e R s m args below meth c H locs cells slots Q (F0 m pc ls rest) := by
  intro T hT X
  obtain ⟨t, a1, b1⟩ := k T hT X
  exact ⟨t, X.ldcStringW hexec hown (text := tx) (a := q) hZ.1 hZ.2 (g := F0 m pc ls rest) rfl (by rw [hb]; exact hdg) t a1, b1⟩
theorem sd_lcmp (x y : Int64) : lg_cmp x y = (if x < y then -1 else if x = y then 0 else 1 : Int32) := by
  unfold lg_cmp
  by_cases h1 : x < y
  · rw [if_pos h1, if_neg, if_neg]
    · intro e; subst e; exact absurd h1 (by rw [Int64.lt_iff_toInt_lt]; omega)
    · rw [gt_iff_lt, Int64.lt_iff_toInt_lt]
      rw [Int64.lt_iff_toInt_lt] at h1
      omega
  · rw [if_neg h1]
    by_cases h2 : x = y
    · rw [if_pos h2, if_neg, if_pos h2]
      subst h2
      exact h1
    · have h4 : x > y := by
        rw [gt_iff_lt, Int64.lt_iff_toInt_lt]
        rw [Int64.lt_iff_toInt_lt] at h1
        have h3 : ¬ x.toInt = y.toInt := fun q => h2 (Int64.toInt_inj.mp q)
        omega
      rw [if_pos h4, if_neg h2]
theorem sd_rc (x : Option Nat) : (sd_v (.inr (.inr x))).category = 1 := by cases x <;> rfl
def sk_stack : Instr → Bool
  | .iadd => true
  | .isub => true
  | .imul => true
  | .iand => true
  | .ior => true
  | .ineg => true
  | .ishl => true
  | .ishr => true
  | .land => true
  | .lor => true
  | .i2l => true
  | .l2i => true
  | .i2b => true
  | .i2c => true
  | .lshl => true
  | .lshr => true
  | .lushr => true
  | .lcmp => true
  | .dup_x1 => true
  | .dup2 => true
  | .dup => true
  | .pop => true
  | .idiv => true
  | .irem => true
  | .aconst_null => true
  | _ => false
set_option maxHeartbeats 4000000 in
theorem sg_stack (C : sd_cx p R s m args meth c D n0 y h0 hf) {k pc len nx : Nat} {o i : Instr} {L L' : List (Option ab_V)} {st st' : List ab_V} {h h' : ab_H} {bf : Nat → Nat} {H : Heap} {locs : List Loc} {ls : Array Slot} (hi : sk_stack i = true)
    (hd : decode (gB y) pc = .ok (o, len)) (hck : ck1 (gW y) (gG y).2 (gR y) (gN y) (gP y) pc o len i = true) (hnx : ck_end i = true ∨ ab_nth (gP y) (k + 1) = some (pc + len)) (S : sd_S s D n0 h0 bf0 bf h H locs) (hl : lv_has ls (gG y).2 (sd_pr 0 L))
    (he : ab_one i (k + 1) L st h = some (.inl (nx, L', st', h'))) (hz : ab_sz h' ≤ ab_sz hf ∧ ab_sl h' ≤ ab_sl hf) (G : sd_Good p l e R s m args below meth c Q D n0 y h0 bf0 nx L' st' h') : sd_W p l e R s m args below meth c Q h0 h H locs pc ls st := by
  obtain ⟨hx, hb, hml, hr, hown, hts, hlocks, hin, hK, hcon, hn0, hRc, hRs, hsz⟩ := C
  cases i with
  | iadd =>
    obtain ⟨ho, hlen⟩ : o = .iadd ∧ len = 1 := by
      have h9 := hck
      simp only [ck1, Bool.and_eq_true, decide_eq_true_eq] at h9
      exact ⟨h9.1, Nat.eq_of_beq_eq_true h9.2⟩
    subst ho hlen
    replace hnx := hnx.resolve_left (fun q => Bool.false_ne_true q)
    simp only [ab_one, ab_st] at he
    split at he
    · cases he
      exact lv_iadd hx hb hd (G _ _ _ _ _ S hl hnx)
    · cases he
  | isub =>
    obtain ⟨ho, hlen⟩ : o = .isub ∧ len = 1 := by
      have h9 := hck
      simp only [ck1, Bool.and_eq_true, decide_eq_true_eq] at h9
      exact ⟨h9.1, Nat.eq_of_beq_eq_true h9.2⟩
    subst ho hlen
    replace hnx := hnx.resolve_left (fun q => Bool.false_ne_true q)
    simp only [ab_one, ab_st] at he
    split at he
    · cases he
      exact lv_isub hx hb hd (G _ _ _ _ _ S hl hnx)
    · cases he
  | imul =>
    obtain ⟨ho, hlen⟩ : o = .imul ∧ len = 1 := by
      have h9 := hck
      simp only [ck1, Bool.and_eq_true, decide_eq_true_eq] at h9
      exact ⟨h9.1, Nat.eq_of_beq_eq_true h9.2⟩
    subst ho hlen
    replace hnx := hnx.resolve_left (fun q => Bool.false_ne_true q)
    simp only [ab_one, ab_st] at he
    split at he
    · cases he
      exact lv_imul hx hb hd (G _ _ _ _ _ S hl hnx)
    · cases he
  | iand =>
    obtain ⟨ho, hlen⟩ : o = .iand ∧ len = 1 := by
      have h9 := hck
      simp only [ck1, Bool.and_eq_true, decide_eq_true_eq] at h9
      exact ⟨h9.1, Nat.eq_of_beq_eq_true h9.2⟩
    subst ho hlen
    replace hnx := hnx.resolve_left (fun q => Bool.false_ne_true q)
    simp only [ab_one, ab_st] at he
    split at he
    · cases he
      exact lv_iand hx hb hd (G _ _ _ _ _ S hl hnx)
    · cases he
  | ior =>
    obtain ⟨ho, hlen⟩ : o = .ior ∧ len = 1 := by
      have h9 := hck
      simp only [ck1, Bool.and_eq_true, decide_eq_true_eq] at h9
      exact ⟨h9.1, Nat.eq_of_beq_eq_true h9.2⟩
    subst ho hlen
    replace hnx := hnx.resolve_left (fun q => Bool.false_ne_true q)
    simp only [ab_one, ab_st] at he
    split at he
    · cases he
      exact lv_ior hx hb hd (G _ _ _ _ _ S hl hnx)
    · cases he
  | ineg =>
    obtain ⟨ho, hlen⟩ : o = .ineg ∧ len = 1 := by
      have h9 := hck
      simp only [ck1, Bool.and_eq_true, decide_eq_true_eq] at h9
      exact ⟨h9.1, Nat.eq_of_beq_eq_true h9.2⟩
    subst ho hlen
    replace hnx := hnx.resolve_left (fun q => Bool.false_ne_true q)
    simp only [ab_one, ab_st] at he
    split at he
    · cases he
      exact lv_ineg hx hb hd (G _ _ _ _ _ S hl hnx)
    · cases he
  | ishl =>
    obtain ⟨ho, hlen⟩ : o = .ishl ∧ len = 1 := by
      have h9 := hck
      simp only [ck1, Bool.and_eq_true, decide_eq_true_eq] at h9
      exact ⟨h9.1, Nat.eq_of_beq_eq_true h9.2⟩
    subst ho hlen
    replace hnx := hnx.resolve_left (fun q => Bool.false_ne_true q)
    simp only [ab_one, ab_st] at he
    split at he
    · cases he
      exact lv_ishl hx hb hd (G _ _ _ _ _ S hl hnx)
    · cases he
  | ishr =>
    obtain ⟨ho, hlen⟩ : o = .ishr ∧ len = 1 := by
      have h9 := hck
      simp only [ck1, Bool.and_eq_true, decide_eq_true_eq] at h9
      exact ⟨h9.1, Nat.eq_of_beq_eq_true h9.2⟩
    subst ho hlen
    replace hnx := hnx.resolve_left (fun q => Bool.false_ne_true q)
    simp only [ab_one, ab_st] at he
    split at he
    · cases he
      exact lv_ishr hx hb hd (G _ _ _ _ _ S hl hnx)
    · cases he
  | land =>
    obtain ⟨ho, hlen⟩ : o = .land ∧ len = 1 := by
      have h9 := hck
      simp only [ck1, Bool.and_eq_true, decide_eq_true_eq] at h9
      exact ⟨h9.1, Nat.eq_of_beq_eq_true h9.2⟩
    subst ho hlen
    replace hnx := hnx.resolve_left (fun q => Bool.false_ne_true q)
    simp only [ab_one, ab_st] at he
    split at he
    · cases he
      exact lv_land hx hb hd (G _ _ _ _ _ S hl hnx)
    · cases he
  | lor =>
    obtain ⟨ho, hlen⟩ : o = .lor ∧ len = 1 := by
      have h9 := hck
      simp only [ck1, Bool.and_eq_true, decide_eq_true_eq] at h9
      exact ⟨h9.1, Nat.eq_of_beq_eq_true h9.2⟩
    subst ho hlen
    replace hnx := hnx.resolve_left (fun q => Bool.false_ne_true q)
    simp only [ab_one, ab_st] at he
    split at he
    · cases he
      exact lv_lor hx hb hd (G _ _ _ _ _ S hl hnx)
    · cases he
  | i2l =>
    obtain ⟨ho, hlen⟩ : o = .i2l ∧ len = 1 := by
      have h9 := hck
      simp only [ck1, Bool.and_eq_true, decide_eq_true_eq] at h9
      exact ⟨h9.1, Nat.eq_of_beq_eq_true h9.2⟩
    subst ho hlen
    replace hnx := hnx.resolve_left (fun q => Bool.false_ne_true q)
    simp only [ab_one, ab_st] at he
    split at he
    · cases he
      exact lv_i2l hx hb hd rfl (G _ _ _ _ _ S hl hnx)
    · cases he
  | l2i =>
    obtain ⟨ho, hlen⟩ : o = .l2i ∧ len = 1 := by
      have h9 := hck
      simp only [ck1, Bool.and_eq_true, decide_eq_true_eq] at h9
      exact ⟨h9.1, Nat.eq_of_beq_eq_true h9.2⟩
    subst ho hlen
    replace hnx := hnx.resolve_left (fun q => Bool.false_ne_true q)
    simp only [ab_one, ab_st] at he
    split at he
    · cases he
      exact lv_l2i hx hb hd rfl (G _ _ _ _ _ S hl hnx)
    · cases he
  | i2b =>
    obtain ⟨ho, hlen⟩ : o = .i2b ∧ len = 1 := by
      have h9 := hck
      simp only [ck1, Bool.and_eq_true, decide_eq_true_eq] at h9
      exact ⟨h9.1, Nat.eq_of_beq_eq_true h9.2⟩
    subst ho hlen
    replace hnx := hnx.resolve_left (fun q => Bool.false_ne_true q)
    simp only [ab_one, ab_st] at he
    split at he
    · cases he
      exact lv_i2b hx hb hd rfl (G _ _ _ _ _ S hl hnx)
    · cases he
  | i2c =>
    obtain ⟨ho, hlen⟩ : o = .i2c ∧ len = 1 := by
      have h9 := hck
      simp only [ck1, Bool.and_eq_true, decide_eq_true_eq] at h9
      exact ⟨h9.1, Nat.eq_of_beq_eq_true h9.2⟩
    subst ho hlen
    replace hnx := hnx.resolve_left (fun q => Bool.false_ne_true q)
    simp only [ab_one, ab_st] at he
    split at he
    · cases he
      exact lv_i2c hx hb hd rfl (G _ _ _ _ _ S hl hnx)
    · cases he
  | lshl =>
    obtain ⟨ho, hlen⟩ : o = .lshl ∧ len = 1 := by
      have h9 := hck
      simp only [ck1, Bool.and_eq_true, decide_eq_true_eq] at h9
      exact ⟨h9.1, Nat.eq_of_beq_eq_true h9.2⟩
    subst ho hlen
    replace hnx := hnx.resolve_left (fun q => Bool.false_ne_true q)
    simp only [ab_one, ab_st] at he
    split at he
    · cases he
      exact lv_lshl hx hb hd rfl (G _ _ _ _ _ S hl hnx)
    · cases he
  | lshr =>
    obtain ⟨ho, hlen⟩ : o = .lshr ∧ len = 1 := by
      have h9 := hck
      simp only [ck1, Bool.and_eq_true, decide_eq_true_eq] at h9
      exact ⟨h9.1, Nat.eq_of_beq_eq_true h9.2⟩
    subst ho hlen
    replace hnx := hnx.resolve_left (fun q => Bool.false_ne_true q)
    simp only [ab_one, ab_st] at he
    split at he
    · cases he
      exact lv_lshr hx hb hd rfl (G _ _ _ _ _ S hl hnx)
    · cases he
  | lushr =>
    obtain ⟨ho, hlen⟩ : o = .lushr ∧ len = 1 := by
      have h9 := hck
      simp only [ck1, Bool.and_eq_true, decide_eq_true_eq] at h9
      exact ⟨h9.1, Nat.eq_of_beq_eq_true h9.2⟩
    subst ho hlen
    replace hnx := hnx.resolve_left (fun q => Bool.false_ne_true q)
    simp only [ab_one, ab_st] at he
    split at he
    · cases he
      exact lv_lushr hx hb hd rfl (G _ _ _ _ _ S hl hnx)
    · cases he
  | lcmp =>
    obtain ⟨ho, hlen⟩ : o = .lcmp ∧ len = 1 := by
      have h9 := hck
      simp only [ck1, Bool.and_eq_true, decide_eq_true_eq] at h9
      exact ⟨h9.1, Nat.eq_of_beq_eq_true h9.2⟩
    subst ho hlen
    replace hnx := hnx.resolve_left (fun q => Bool.false_ne_true q)
    simp only [ab_one, ab_st] at he
    split at he
    · cases he
      exact W.lcmp hx hb hd (by rw [sd_lcmp]; exact (G _ _ _ _ _ S hl hnx))
    · cases he
  | dup_x1 =>
    obtain ⟨ho, hlen⟩ : o = .dup_x1 ∧ len = 1 := by
      have h9 := hck
      simp only [ck1, Bool.and_eq_true, decide_eq_true_eq] at h9
      exact ⟨h9.1, Nat.eq_of_beq_eq_true h9.2⟩
    subst ho hlen
    replace hnx := hnx.resolve_left (fun q => Bool.false_ne_true q)
    simp only [ab_one, ab_st] at he
    split at he
    · cases he
      exact lv_dup_x1 hx hb hd rfl (sd_rc _) (G _ _ _ _ _ S hl hnx)
    · cases he
  | dup2 =>
    obtain ⟨ho, hlen⟩ : o = .dup2 ∧ len = 1 := by
      have h9 := hck
      simp only [ck1, Bool.and_eq_true, decide_eq_true_eq] at h9
      exact ⟨h9.1, Nat.eq_of_beq_eq_true h9.2⟩
    subst ho hlen
    replace hnx := hnx.resolve_left (fun q => Bool.false_ne_true q)
    simp only [ab_one, ab_st] at he
    split at he
    · cases he
      exact lv_dup2_11 hx hb hd rfl (sd_rc _) (G _ _ _ _ _ S hl hnx)
    · cases he
  | dup =>
    obtain ⟨ho, hlen⟩ : o = .dup ∧ len = 1 := by
      have h9 := hck
      simp only [ck1, Bool.and_eq_true, decide_eq_true_eq] at h9
      exact ⟨h9.1, Nat.eq_of_beq_eq_true h9.2⟩
    subst ho hlen
    replace hnx := hnx.resolve_left (fun q => Bool.false_ne_true q)
    simp only [ab_one, ab_st] at he
    split at he
    · cases he
      exact lv_dup hx hb hd rfl (G _ _ _ _ _ S hl hnx)
    · cases he
      exact lv_dup hx hb hd (sd_rc _) (G _ _ _ _ _ S hl hnx)
    · cases he
  | pop =>
    obtain ⟨ho, hlen⟩ : o = .pop ∧ len = 1 := by
      have h9 := hck
      simp only [ck1, Bool.and_eq_true, decide_eq_true_eq] at h9
      exact ⟨h9.1, Nat.eq_of_beq_eq_true h9.2⟩
    subst ho hlen
    replace hnx := hnx.resolve_left (fun q => Bool.false_ne_true q)
    simp only [ab_one, ab_st] at he
    split at he
    · cases he
      exact lv_pop hx hb hd rfl (G _ _ _ _ _ S hl hnx)
    · cases he
      exact lv_pop hx hb hd (sd_rc _) (G _ _ _ _ _ S hl hnx)
    · cases he
  | idiv =>
    obtain ⟨ho, hlen⟩ : o = .idiv ∧ len = 1 := by
      have h9 := hck
      simp only [ck1, Bool.and_eq_true, decide_eq_true_eq] at h9
      exact ⟨h9.1, Nat.eq_of_beq_eq_true h9.2⟩
    subst ho hlen
    replace hnx := hnx.resolve_left (fun q => Bool.false_ne_true q)
    simp only [ab_one, ab_st] at he
    split at he
    · split at he
      · cases he
      · rename_i hne
        cases he
        exact lv_idiv hx hb hd hne (G _ _ _ _ _ S hl hnx)
    · cases he
  | irem =>
    obtain ⟨ho, hlen⟩ : o = .irem ∧ len = 1 := by
      have h9 := hck
      simp only [ck1, Bool.and_eq_true, decide_eq_true_eq] at h9
      exact ⟨h9.1, Nat.eq_of_beq_eq_true h9.2⟩
    subst ho hlen
    replace hnx := hnx.resolve_left (fun q => Bool.false_ne_true q)
    simp only [ab_one, ab_st] at he
    split at he
    · split at he
      · cases he
      · rename_i hne
        cases he
        exact lv_irem hx hb hd hne (G _ _ _ _ _ S hl hnx)
    · cases he
  | aconst_null =>
    obtain ⟨ho, hlen⟩ : o = .aconst_null ∧ len = 1 := by
      have h9 := hck
      simp only [ck1, Bool.and_eq_true, decide_eq_true_eq] at h9
      exact ⟨h9.1, Nat.eq_of_beq_eq_true h9.2⟩
    subst ho hlen
    replace hnx := hnx.resolve_left (fun q => Bool.false_ne_true q)
    cases he
    exact lv_null hx hb hd (G _ _ _ _ _ S hl hnx)
  | _ => cases hi
def sk_locals : Instr → Bool
  | .iload _ => true
  | .lload _ => true
  | .aload _ => true
  | .istore _ => true
  | .lstore _ => true
  | .astore _ => true
  | .iinc _ _ => true
  | .iconst _ => true
  | .goto_w _ => true
  | .getstatic _ => true
  | .ldc _ => true
  | _ => false
set_option maxHeartbeats 4000000 in
theorem sg_locals (C : sd_cx p R s m args meth c D n0 y h0 hf) {k pc len nx : Nat} {o i : Instr} {L L' : List (Option ab_V)} {st st' : List ab_V} {h h' : ab_H} {bf : Nat → Nat} {H : Heap} {locs : List Loc} {ls : Array Slot} (hi : sk_locals i = true)
    (hd : decode (gB y) pc = .ok (o, len)) (hck : ck1 (gW y) (gG y).2 (gR y) (gN y) (gP y) pc o len i = true) (hnx : ck_end i = true ∨ ab_nth (gP y) (k + 1) = some (pc + len)) (S : sd_S s D n0 h0 bf0 bf h H locs) (hl : lv_has ls (gG y).2 (sd_pr 0 L))
    (he : ab_one i (k + 1) L st h = some (.inl (nx, L', st', h'))) (hz : ab_sz h' ≤ ab_sz hf ∧ ab_sl h' ≤ ab_sl hf) (G : sd_Good p l e R s m args below meth c Q D n0 y h0 bf0 nx L' st' h') : sd_W p l e R s m args below meth c Q h0 h H locs pc ls st := by
  obtain ⟨hx, hb, hml, hr, hown, hts, hlocks, hin, hK, hcon, hn0, hRc, hRs, hsz⟩ := C
  cases i with
  | iload a =>
    simp only [ab_one, ab_st] at he
    replace hnx := hnx.resolve_left (fun q => Bool.false_ne_true q)
    split at he
    · rename_i x hx9
      cases he
      have hv := sd_get hl hx9
      simp only [ck1, Bool.or_eq_true, Bool.and_eq_true, decide_eq_true_eq] at hck
      rcases hck with ⟨ho, hlen⟩ | hck
      · have hlen := Nat.eq_of_beq_eq_true hlen
        subst ho hlen
        exact lv_iload hx hb hd hv (G _ _ _ _ _ S hl hnx)
      · obtain ⟨n, hn, ho, hlen⟩ := ck_n_spec hck
        subst ho hlen
        exact lv_iload_n hx hb hd hn hv (G _ _ _ _ _ S hl hnx)
    · cases he
  | lload a =>
    simp only [ab_one, ab_st] at he
    replace hnx := hnx.resolve_left (fun q => Bool.false_ne_true q)
    split at he
    · rename_i x hx9
      cases he
      have hv := sd_get hl hx9
      simp only [ck1, Bool.or_eq_true, Bool.and_eq_true, decide_eq_true_eq] at hck
      rcases hck with ⟨ho, hlen⟩ | hck
      · have hlen := Nat.eq_of_beq_eq_true hlen
        subst ho hlen
        exact lv_lload hx hb hd hv (G _ _ _ _ _ S hl hnx)
      · obtain ⟨n, hn, ho, hlen⟩ := ck_n_spec hck
        subst ho hlen
        exact lv_lload_n hx hb hd hn hv (G _ _ _ _ _ S hl hnx)
    · cases he
  | aload a =>
    simp only [ab_one, ab_st] at he
    replace hnx := hnx.resolve_left (fun q => Bool.false_ne_true q)
    split at he
    · rename_i x hx9
      cases he
      have hv := sd_get hl hx9
      simp only [ck1, Bool.or_eq_true, Bool.and_eq_true, decide_eq_true_eq] at hck
      rcases hck with ⟨ho, hlen⟩ | hck
      · have hlen := Nat.eq_of_beq_eq_true hlen
        subst ho hlen
        cases x with
        | none => exact lv_aloadN hx hb hd hv (G _ _ _ _ _ S hl hnx)
        | some x => exact lv_aload hx hb hd hv (G _ _ _ _ _ S hl hnx)
      · obtain ⟨n, hn, ho, hlen⟩ := ck_n_spec hck
        subst ho hlen
        cases x with
        | none => exact lv_aload_nN hx hb hd hn hv (G _ _ _ _ _ S hl hnx)
        | some x => exact lv_aload_n hx hb hd hn hv (G _ _ _ _ _ S hl hnx)
    · cases he
  | istore a =>
    simp only [ab_one, ab_st] at he
    replace hnx := hnx.resolve_left (fun q => Bool.false_ne_true q)
    split at he
    · rename_i x st1
      cases he
      simp only [ck1, Bool.or_eq_true, Bool.and_eq_true, decide_eq_true_eq] at hck
      have hlt := Nat.le_of_ble_eq_true hck.2
      rcases hck.1 with ⟨ho, hlen⟩ | hck
      · have hlen := Nat.eq_of_beq_eq_true hlen
        subst ho hlen
        exact lv_istore hx hb hd hl hlt rfl (fun ls hl => G _ _ _ _ _ S (sd_weak hl (sd_st1 L a _)) hnx)
      · obtain ⟨n, hn, ho, hlen⟩ := ck_n_spec hck
        subst ho hlen
        exact lv_istore_n hx hb hd hn hl hlt rfl (fun ls hl => G _ _ _ _ _ S (sd_weak hl (sd_st1 L a _)) hnx)
    · cases he
  | lstore a =>
    simp only [ab_one, ab_st] at he
    replace hnx := hnx.resolve_left (fun q => Bool.false_ne_true q)
    split at he
    · rename_i x st1
      cases he
      simp only [ck1, Bool.or_eq_true, Bool.and_eq_true, decide_eq_true_eq] at hck
      have hlt := Nat.le_of_ble_eq_true hck.2
      rcases hck.1 with ⟨ho, hlen⟩ | hck
      · have hlen := Nat.eq_of_beq_eq_true hlen
        subst ho hlen
        exact lv_lstore hx hb hd hl hlt rfl (fun ls hl => G _ _ _ _ _ S (sd_weak hl (sd_st2 L a _)) hnx)
      · obtain ⟨n, hn, ho, hlen⟩ := ck_n_spec hck
        subst ho hlen
        exact lv_lstore_n hx hb hd hn hl hlt rfl (fun ls hl => G _ _ _ _ _ S (sd_weak hl (sd_st2 L a _)) hnx)
    · cases he
  | astore a =>
    simp only [ab_one, ab_st] at he
    replace hnx := hnx.resolve_left (fun q => Bool.false_ne_true q)
    split at he
    · rename_i x st1
      cases he
      simp only [ck1, Bool.or_eq_true, Bool.and_eq_true, decide_eq_true_eq] at hck
      have hlt := Nat.le_of_ble_eq_true hck.2
      rcases hck.1 with ⟨ho, hlen⟩ | hck
      · have hlen := Nat.eq_of_beq_eq_true hlen
        subst ho hlen
        cases x with
        | none => exact lv_astoreN hx hb hd hl hlt rfl (fun ls hl => G _ _ _ _ _ S (sd_weak hl (sd_st1 L a _)) hnx)
        | some x => exact lv_astore hx hb hd hl hlt rfl (fun ls hl => G _ _ _ _ _ S (sd_weak hl (sd_st1 L a _)) hnx)
      · obtain ⟨n, hn, ho, hlen⟩ := ck_n_spec hck
        subst ho hlen
        cases x with
        | none => exact lv_astore_nN hx hb hd hn hl hlt rfl (fun ls hl => G _ _ _ _ _ S (sd_weak hl (sd_st1 L a _)) hnx)
        | some x => exact lv_astore_n hx hb hd hn hl hlt rfl (fun ls hl => G _ _ _ _ _ S (sd_weak hl (sd_st1 L a _)) hnx)
    · cases he
  | iinc a n =>
    simp only [ab_one, ab_st] at he
    replace hnx := hnx.resolve_left (fun q => Bool.false_ne_true q)
    split at he
    · rename_i x hx9
      cases he
      simp only [ck1, Bool.and_eq_true, decide_eq_true_eq] at hck
      have hlt := Nat.le_of_ble_eq_true hck.2
      have hlen := Nat.eq_of_beq_eq_true hck.1.2
      have ho := hck.1.1
      subst ho hlen
      have hm : (a, Value.int x) ∈ sd_pr 0 L := (sd_pr_mem L 0 _).mpr ⟨a, _, hx9, by rw [Nat.zero_add]; rfl⟩
      obtain ⟨j, hj⟩ := List.getElem?_of_mem hm
      exact lv_iinc hx hb hd hl hj rfl hlt rfl (fun ls hl => G _ _ _ _ _ S (sd_weak hl (sd_st1 L a _)) hnx)
    · cases he
  | iconst n =>
    cases he
    replace hnx := hnx.resolve_left (fun q => Bool.false_ne_true q)
    simp only [ck1] at hck
    split at hck
    · simp only [Bool.and_eq_true, decide_eq_true_eq] at hck
      obtain ⟨h8, h9⟩ := hck
      have h9 := Nat.eq_of_beq_eq_true h9
      subst h8 h9
      exact lv_iconst hx hb hd rfl (G _ _ _ _ _ S hl hnx)
    · simp only [Bool.and_eq_true, decide_eq_true_eq] at hck
      obtain ⟨h8, h9⟩ := hck
      have h9 := Nat.eq_of_beq_eq_true h9
      subst h9
      exact lv_bipush hx hb hd h8 (G _ _ _ _ _ S hl hnx)
    · simp only [Bool.and_eq_true, decide_eq_true_eq] at hck
      obtain ⟨h8, h9⟩ := hck
      have h9 := Nat.eq_of_beq_eq_true h9
      subst h9
      exact lv_sipush hx hb hd h8 (G _ _ _ _ _ S hl hnx)
    · rw [Bool.and_eq_true] at hck
      obtain ⟨h8, h9⟩ := hck
      have h9 := Nat.eq_of_beq_eq_true h9
      subst h9
      exact W.ldc hx hb hown (hts _ (ln_KI_ok _ (ck_inI_mem h8))) (g := F0 m pc ls (st.map sd_v)) rfl hd (G _ _ _ _ _ S hl hnx)
    · rw [Bool.and_eq_true] at hck
      obtain ⟨h8, h9⟩ := hck
      have h9 := Nat.eq_of_beq_eq_true h9
      subst h9
      exact lv_ldcw hx hb hown (hts _ (ln_KI_ok _ (ck_inI_mem h8))) hd (G _ _ _ _ _ S hl hnx)
    · simp only [Bool.and_eq_true, decide_eq_true_eq] at hck
      obtain ⟨⟨h8, h7⟩, h9⟩ := hck
      have h9 := Nat.eq_of_beq_eq_true h9
      subst h7 h9
      exact va_gets hx hb hcon.2.1 S.va hown (hts _ (ln_Z_ok _ h8)) (fun _ q => q) hd (G _ _ _ _ _ S hl hnx)
    · cases hck
  | goto_w n =>
    cases he
    replace hnx := hnx.resolve_left (fun q => Bool.false_ne_true q)
    simp only [ck1] at hck
    split at hck
    · simp only [Bool.and_eq_true, decide_eq_true_eq] at hck
      obtain ⟨h8, h9⟩ := hck
      have h9 := Nat.eq_of_beq_eq_true h9
      subst h9
      exact lv_lconst hx hb hd h8 (G _ _ _ _ _ S hl hnx)
    · rw [Bool.and_eq_true] at hck
      obtain ⟨h8, h9⟩ := hck
      have h9 := Nat.eq_of_beq_eq_true h9
      subst h9
      exact lv_ldc2 hx hb hown (hts _ (ln_KL_ok _ (ck_inI_mem h8))) hd (G _ _ _ _ _ S hl hnx)
    · cases hck
  | getstatic a =>
    cases he
    replace hnx := hnx.resolve_left (fun q => Bool.false_ne_true q)
    simp only [ck1] at hck
    split at hck
    · simp only [Bool.and_eq_true, decide_eq_true_eq] at hck
      obtain ⟨⟨h8, h7⟩, h9⟩ := hck
      have h9 := Nat.eq_of_beq_eq_true h9
      subst h9
      refine va_gets hx hb (hcon.1 a h7) S.va hown (hts _ (ln_G_ok _ (ck_in3_mem h8))) (fun _ q => q) hd ?_
      have G9 := G _ _ _ _ _ S hl hnx
      unfold ab_ga at G9
      rw [S.2.2.2.2.2.2.2] at G9
      exact G9
    · rw [Bool.and_eq_true] at hck
      obtain ⟨h8, h9⟩ := hck
      have h9 := Nat.eq_of_beq_eq_true h9
      subst h9
      obtain ⟨q1, q2, q3⟩ := ln_R_ok _ (ck_in3_mem h8)
      dsimp only at q1 q2 q3
      have hR := hcon.2.2.1 a q1.1 q1.2
      rw [q2, q3] at hR
      refine va_ldcS hx hb hown hR hd ?_
      have G9 := G _ _ _ _ _ S hl hnx
      unfold ab_ga at G9
      rw [S.2.2.2.2.2.2.2] at G9
      exact G9
    · rw [Bool.and_eq_true] at hck
      obtain ⟨h8, h9⟩ := hck
      have h9 := Nat.eq_of_beq_eq_true h9
      subst h9
      obtain ⟨q1, q2, q3⟩ := ln_R_ok _ (ck_in3_mem h8)
      dsimp only at q1 q2 q3
      have hR := hcon.2.2.1 a q1.1 q1.2
      rw [q2, q3] at hR
      refine sd_ldcwS hx hb hown hR hd ?_
      have G9 := G _ _ _ _ _ S hl hnx
      unfold ab_ga at G9
      rw [S.2.2.2.2.2.2.2] at G9
      exact G9
    · cases hck
  | ldc a =>
    cases he
    replace hnx := hnx.resolve_left (fun q => Bool.false_ne_true q)
    simp only [ck1] at hck
    split at hck
    · simp only [Bool.and_eq_true] at hck
      obtain ⟨⟨h8, h7⟩, h9⟩ := hck
      have h9 := Nat.eq_of_beq_eq_true h9
      have h7 := Nat.eq_of_beq_eq_true h7
      subst h7 h9
      refine va_gets hx hb hcon.2.2.2.1 S.va hown (hts _ (ln_G_ok _ (ck_in3_mem h8))) (fun _ q => q) hd ?_
      have G9 := G _ _ _ _ _ S hl hnx
      unfold ab_go at G9
      rw [S.2.2.2.2.2.2.2] at G9
      exact G9
    · cases hck
  | _ => cases hi
def sk_branch : Instr → Bool
  | .ifCond _ _ => true
  | .if_icmp _ _ => true
  | .if_acmp _ _ => true
  | .ifnull _ => true
  | .ifnonnull _ => true
  | .goto _ => true
  | _ => false
set_option maxHeartbeats 4000000 in
theorem sg_branch (C : sd_cx p R s m args meth c D n0 y h0 hf) {k pc len nx : Nat} {o i : Instr} {L L' : List (Option ab_V)} {st st' : List ab_V} {h h' : ab_H} {bf : Nat → Nat} {H : Heap} {locs : List Loc} {ls : Array Slot} (hi : sk_branch i = true)
    (hd : decode (gB y) pc = .ok (o, len)) (hck : ck1 (gW y) (gG y).2 (gR y) (gN y) (gP y) pc o len i = true) (hnx : ck_end i = true ∨ ab_nth (gP y) (k + 1) = some (pc + len)) (S : sd_S s D n0 h0 bf0 bf h H locs) (hl : lv_has ls (gG y).2 (sd_pr 0 L))
    (he : ab_one i (k + 1) L st h = some (.inl (nx, L', st', h'))) (hz : ab_sz h' ≤ ab_sz hf ∧ ab_sl h' ≤ ab_sl hf) (G : sd_Good p l e R s m args below meth c Q D n0 y h0 bf0 nx L' st' h') : sd_W p l e R s m args below meth c Q h0 h H locs pc ls st := by
  obtain ⟨hx, hb, hml, hr, hown, hts, hlocks, hin, hK, hcon, hn0, hRc, hRs, hsz⟩ := C
  cases i with
  | ifCond cc t =>
    simp only [ab_one, ab_st] at he
    replace hnx := hnx.resolve_left (fun q => Bool.false_ne_true q)
    simp only [ck1] at hck
    split at hck
    · rename_i c1 off
      simp only [Bool.and_eq_true, decide_eq_true_eq] at hck
      obtain ⟨⟨h8, h7⟩, h9⟩ := hck
      have h9 := Nat.eq_of_beq_eq_true h9
      subst h8 h9
      obtain ⟨b, hb1, hb2⟩ := sd_t h7
      split at he
      · rename_i x st1
        cases c1 with
        | eq =>
          simp only at he
          refine lv_if_eq hx hb hd hb2 (fun q => ?_) (fun q => ?_)
          · rw [if_pos q] at he
            cases he
            exact G _ _ _ _ _ S hl hb1
          · rw [if_neg q] at he
            cases he
            exact G _ _ _ _ _ S hl hnx
        | ne =>
          simp only at he
          refine lv_if_ne hx hb hd hb2 (fun q => ?_) (fun q => ?_)
          · rw [if_neg q] at he
            cases he
            exact G _ _ _ _ _ S hl hb1
          · rw [if_pos q] at he
            cases he
            exact G _ _ _ _ _ S hl hnx
        | lt =>
          simp only at he
          refine lv_if_lt hx hb hd hb2 (fun q => ?_) (fun q => ?_)
          · rw [if_pos q] at he
            cases he
            exact G _ _ _ _ _ S hl hb1
          · rw [if_neg q] at he
            cases he
            exact G _ _ _ _ _ S hl hnx
        | ge =>
          simp only at he
          refine lv_if_ge hx hb hd hb2 (fun q => ?_) (fun q => ?_)
          · rw [if_neg (Int32.not_lt.mpr q)] at he
            cases he
            exact G _ _ _ _ _ S hl hb1
          · rw [if_pos (Int32.not_le.mp q)] at he
            cases he
            exact G _ _ _ _ _ S hl hnx
        | gt =>
          simp only at he
          refine lv_if_gt hx hb hd hb2 (fun q => ?_) (fun q => ?_)
          · rw [if_pos q] at he
            cases he
            exact G _ _ _ _ _ S hl hb1
          · rw [if_neg q] at he
            cases he
            exact G _ _ _ _ _ S hl hnx
        | le =>
          simp only at he
          refine lv_if_le hx hb hd hb2 (fun q => ?_) (fun q => ?_)
          · rw [if_neg (Int32.not_lt.mpr q)] at he
            cases he
            exact G _ _ _ _ _ S hl hb1
          · rw [if_pos (Int32.not_le.mp q)] at he
            cases he
            exact G _ _ _ _ _ S hl hnx
      · cases he
    · cases hck
  | if_icmp cc t =>
    simp only [ab_one, ab_st] at he
    replace hnx := hnx.resolve_left (fun q => Bool.false_ne_true q)
    simp only [ck1] at hck
    split at hck
    · rename_i c1 off
      simp only [Bool.and_eq_true, decide_eq_true_eq] at hck
      obtain ⟨⟨h8, h7⟩, h9⟩ := hck
      have h9 := Nat.eq_of_beq_eq_true h9
      subst h8 h9
      obtain ⟨b, hb1, hb2⟩ := sd_t h7
      split at he
      · rename_i x y1 st1
        cases c1 with
        | eq =>
          simp only at he
          refine lv_icmp_eq hx hb hd hb2 (fun q => ?_) (fun q => ?_)
          · rw [if_pos q] at he
            cases he
            exact G _ _ _ _ _ S hl hb1
          · rw [if_neg q] at he
            cases he
            exact G _ _ _ _ _ S hl hnx
        | ne =>
          simp only at he
          refine lv_icmp_ne hx hb hd hb2 (fun q => ?_) (fun q => ?_)
          · rw [if_neg q] at he
            cases he
            exact G _ _ _ _ _ S hl hb1
          · rw [if_pos q] at he
            cases he
            exact G _ _ _ _ _ S hl hnx
        | lt =>
          simp only at he
          refine lv_icmp_lt hx hb hd hb2 (fun q => ?_) (fun q => ?_)
          · rw [if_pos q] at he
            cases he
            exact G _ _ _ _ _ S hl hb1
          · rw [if_neg q] at he
            cases he
            exact G _ _ _ _ _ S hl hnx
        | ge =>
          simp only at he
          refine lv_icmp_ge hx hb hd hb2 (fun q => ?_) (fun q => ?_)
          · rw [if_neg (Int32.not_lt.mpr q)] at he
            cases he
            exact G _ _ _ _ _ S hl hb1
          · rw [if_pos (Int32.not_le.mp q)] at he
            cases he
            exact G _ _ _ _ _ S hl hnx
        | gt =>
          simp only at he
          refine lv_icmp_gt hx hb hd hb2 (fun q => ?_) (fun q => ?_)
          · rw [if_pos q] at he
            cases he
            exact G _ _ _ _ _ S hl hb1
          · rw [if_neg q] at he
            cases he
            exact G _ _ _ _ _ S hl hnx
        | le =>
          simp only at he
          refine lv_icmp_le hx hb hd hb2 (fun q => ?_) (fun q => ?_)
          · rw [if_neg (Int32.not_lt.mpr q)] at he
            cases he
            exact G _ _ _ _ _ S hl hb1
          · rw [if_pos (Int32.not_le.mp q)] at he
            cases he
            exact G _ _ _ _ _ S hl hnx
      · cases he
    · cases hck
  | if_acmp cc t =>
    simp only [ab_one, ab_st] at he
    replace hnx := hnx.resolve_left (fun q => Bool.false_ne_true q)
    simp only [ck1] at hck
    split at hck
    · rename_i c1 off
      simp only [Bool.and_eq_true, decide_eq_true_eq] at hck
      obtain ⟨⟨h8, h7⟩, h9⟩ := hck
      have h9 := Nat.eq_of_beq_eq_true h9
      subst h8 h9
      obtain ⟨b, hb1, hb2⟩ := sd_t h7
      split at he
      · rename_i x y1 st1
        cases c1 with
        | eq =>
          simp only at he
          refine lv_acmp_eq hx hb hd hb2 (fun q => ?_) (fun q => ?_)
          · rw [if_pos q] at he
            cases he
            exact G _ _ _ _ _ S hl hb1
          · rw [if_neg q] at he
            cases he
            exact G _ _ _ _ _ S hl hnx
        | ne =>
          simp only at he
          refine lv_acmp_ne hx hb hd hb2 (fun q => ?_) (fun q => ?_)
          · rw [if_neg q] at he
            cases he
            exact G _ _ _ _ _ S hl hb1
          · rw [if_pos q] at he
            cases he
            exact G _ _ _ _ _ S hl hnx
      · cases he
    · cases hck
  | ifnull t =>
    simp only [ab_one, ab_st] at he
    replace hnx := hnx.resolve_left (fun q => Bool.false_ne_true q)
    simp only [ck1] at hck
    split at hck
    · rename_i off
      rw [Bool.and_eq_true] at hck
      obtain ⟨h7, h9⟩ := hck
      have h9 := Nat.eq_of_beq_eq_true h9
      subst h9
      obtain ⟨b, hb1, hb2⟩ := sd_t h7
      split at he
      · rename_i x st1
        cases x with
        | none =>
          simp only [if_true, reduceCtorEq, if_false] at he
          cases he
          exact lv_ifnullN hx hb hd hb2 (G _ _ _ _ _ S hl hb1)
        | some x =>
          simp only [if_true, reduceCtorEq, if_false] at he
          cases he
          exact lv_ifnull hx hb hd (G _ _ _ _ _ S hl hnx)
      · cases he
    · cases hck
  | ifnonnull t =>
    simp only [ab_one, ab_st] at he
    replace hnx := hnx.resolve_left (fun q => Bool.false_ne_true q)
    simp only [ck1] at hck
    split at hck
    · rename_i off
      rw [Bool.and_eq_true] at hck
      obtain ⟨h7, h9⟩ := hck
      have h9 := Nat.eq_of_beq_eq_true h9
      subst h9
      obtain ⟨b, hb1, hb2⟩ := sd_t h7
      split at he
      · rename_i x st1
        cases x with
        | none =>
          simp only [if_true, reduceCtorEq, if_false] at he
          cases he
          exact lv_ifnonnullN hx hb hd (G _ _ _ _ _ S hl hnx)
        | some x =>
          simp only [if_true, reduceCtorEq, if_false] at he
          cases he
          exact lv_ifnonnull hx hb hd hb2 (G _ _ _ _ _ S hl hb1)
      · cases he
    · cases hck
  | goto t =>
    cases he
    simp only [ck1] at hck
    split at hck
    · rename_i off
      rw [Bool.and_eq_true] at hck
      obtain ⟨h7, h9⟩ := hck
      have h9 := Nat.eq_of_beq_eq_true h9
      subst h9
      obtain ⟨b, hb1, hb2⟩ := sd_t h7
      exact lv_goto hx hb hd hb2 (G _ _ _ _ _ S hl hb1)
    · cases hck
  | _ => cases hi
end Step
