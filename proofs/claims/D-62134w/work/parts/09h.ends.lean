/-! ===== switches, the clearing of locals; the end of a method ===== -/
/-- which instructions end a method -/
def sk_ret : Instr → Bool
  | .ireturn => true
  | .freturn => true
  | .dreturn => true
  | .monitorenter => true
  | .lreturn => true
  | .areturn => true
  | .return_ => true
  | _ => false
set_option maxHeartbeats 8000000 in
theorem sd_noret {i : Instr} {nx : Nat} {L : List (Option ab_V)} {st : List ab_V} {h : ab_H} {x : Option ab_V × ab_H} {G : Prop} (e : ab_one i nx L st h = some (.inr (.inr x))) (hi : sk_ret i = false) : G := by
  exfalso
  unfold ab_one ab_st at e
  cases i <;> first | (cases hi; done) | skip
  all_goals dsimp only at e
  all_goals (repeat' split at e)
  all_goals first
    | (cases e; done)
    | (simp only [Option.bind_eq_some_iff] at e; obtain ⟨a, -, x, -, e⟩ := e; cases e; done)
    | (simp only [Option.bind_eq_some_iff] at e; obtain ⟨a, -, e⟩ := e; (repeat' split at e) <;> (cases e; done))
    | (rcases sd_sw_or e with e | ⟨t, e⟩ <;> (cases e; done))
    | (rename_i x _; cases x with
        | none => cases e
        | some a =>
          simp only [ab_io] at e
          split at e <;> (cases e; done))
section Step
variable {p : Program} {l : Launch} {e : Env} {R : Room} {s : State} {m : MethodId} {args : Array Value} {below : List Frame} {meth : Method} {c : Code} {Q : State → Prop} {D : sd_G} {n0 y : Nat} {h0 hf : ab_H} {bf0 : Nat → Nat}
theorem sd_key {x : Int32} {a : Int} (h1 : -2147483648 ≤ a) (h2 : a < 2147483648) : x = Int32.ofInt a ↔ x.toInt = a := by
  have h3 : (Int32.ofInt a).toInt = a := Int32.toInt_ofInt_of_le h1 h2
  constructor
  · intro e; rw [e, h3]
  · intro e; exact Int32.toInt_inj.mp (by rw [e, h3])
theorem sd_swl {P : List Nat} {pc : Nat} {x : Int32} {dd : Int} {D9 : Option ab_O} {f : Int → Option ab_O} : ∀ {a b : List (Int × Int)}, ck_ps P pc a b = true →
    (Op.lookupswitch.offset a dd x.toInt = dd ∧ ab_sw x D9 b f = D9) ∨ ∃ off t, ck_t P pc off t = true ∧ Op.lookupswitch.offset a dd x.toInt = off ∧ ab_sw x D9 b f = f t
  | [], [], _ => Or.inl ⟨rfl, rfl⟩
  | (k, off) :: a, (k2, t) :: b, h => by
    simp only [ck_ps, Bool.and_eq_true, decide_eq_true_eq] at h
    obtain ⟨⟨⟨⟨h1, h2⟩, h3⟩, h4⟩, h5⟩ := h
    subst h1
    rw [ab_sw]
    by_cases hx : x.toInt = k
    · rw [if_pos ((sd_key h2 h3).mpr hx)]
      refine Or.inr ⟨off, t, h4, ?_, rfl⟩
      simp [Op.lookupswitch.offset, hx]
    · rw [if_neg (fun q => hx ((sd_key h2 h3).mp q))]
      have ih := sd_swl (x := x) (dd := dd) (D9 := D9) (f := f) h5
      have e9 : Op.lookupswitch.offset ((k, off) :: a) dd x.toInt = Op.lookupswitch.offset a dd x.toInt := if_neg (fun q => hx q.symm)
      rw [e9]
      exact ih
theorem sd_swt {P : List Nat} {pc : Nat} {x : Int32} {D9 : Option ab_O} {f : Int → Option ab_O} : ∀ {lo : Int} {a : List Int} {b : List (Int × Int)}, ck_ts P pc lo a b = true →
    ((x.toInt < lo ∨ lo + a.length ≤ x.toInt) ∧ ab_sw x D9 b f = D9) ∨ ∃ (j : Nat) (off t : Int), x.toInt = lo + j ∧ a[j]? = some off ∧ ck_t P pc off t = true ∧ ab_sw x D9 b f = f t
  | lo, [], [], _ => Or.inl ⟨by rw [List.length_nil]; omega, rfl⟩
  | lo, off :: a, (k2, t) :: b, h => by
    simp only [ck_ts, Bool.and_eq_true, decide_eq_true_eq] at h
    obtain ⟨⟨⟨⟨h1, h2⟩, h3⟩, h4⟩, h5⟩ := h
    subst h1
    rw [ab_sw]
    by_cases hx : x.toInt = lo
    · rw [if_pos ((sd_key h2 h3).mpr hx)]
      exact Or.inr ⟨0, off, t, by omega, rfl, h4, rfl⟩
    · rw [if_neg (fun q => hx ((sd_key h2 h3).mp q))]
      rcases sd_swt (x := x) (D9 := D9) (f := f) h5 with ⟨g1, g2⟩ | ⟨j, o9, t9, g1, g2, g3, g4⟩
      · exact Or.inl ⟨by rw [List.length_cons]; omega, g2⟩
      · exact Or.inr ⟨j + 1, o9, t9, by omega, g2, g3, g4⟩
def sk_switch : Instr → Bool
  | .lookupswitch _ _ => true
  | _ => false
set_option maxHeartbeats 4000000 in
theorem sg_switch (C : sd_cx p R s m args meth c D n0 y h0 hf) {k pc len nx : Nat} {o i : Instr} {L L' : List (Option ab_V)} {st st' : List ab_V} {h h' : ab_H} {bf : Nat → Nat} {H : Heap} {locs : List Loc} {ls : Array Slot} (hi : sk_switch i = true)
    (hd : decode (gB y) pc = .ok (o, len)) (hck : ck1 (gW y) (gG y).2 (gR y) (gN y) (gP y) pc o len i = true) (hnx : ck_end i = true ∨ ab_nth (gP y) (k + 1) = some (pc + len)) (S : sd_S s D n0 h0 bf0 bf h H locs) (hl : lv_has ls (gG y).2 (sd_pr 0 L))
    (he : ab_one i (k + 1) L st h = some (.inl (nx, L', st', h'))) (hz : ab_sz h' ≤ ab_sz hf ∧ ab_sl h' ≤ ab_sl hf) (G : sd_Good p l e R s m args below meth c Q D n0 y h0 bf0 nx L' st' h') : sd_W p l e R s m args below meth c Q h0 h H locs pc ls st := by
  obtain ⟨hx, hb, hml, hr, hown, hts, hlocks, hin, hK, hcon, hn0, hRc, hRs, hsz⟩ := C
  cases i with
  | lookupswitch d ps =>
    simp only [ab_one, ab_st] at he
    simp only [ck1] at hck
    split at he
    · rename_i x st1
      split at hck
      · rename_i d1 ps1
        simp only [Bool.and_eq_true] at hck
        obtain ⟨⟨h7, h8⟩, h9⟩ := hck
        rcases sd_swl (x := x) (dd := d1) h8 with ⟨g1, g2⟩ | ⟨off, t, g0, g1, g2⟩
        · rw [g2] at he
          cases he
          obtain ⟨b, hb1, hb2⟩ := sd_t h7
          exact lv_lookup hx hb hd h9 g1 hb2 (G _ _ _ _ _ S hl hb1)
        · rw [g2] at he
          cases he
          obtain ⟨b, hb1, hb2⟩ := sd_t g0
          exact lv_lookup hx hb hd h9 g1 hb2 (G _ _ _ _ _ S hl hb1)
      · rename_i d1 lo hi9 offs
        simp only [Bool.and_eq_true, decide_eq_true_eq] at hck
        obtain ⟨⟨h7, h8⟩, h9⟩ := hck
        rcases sd_swt (x := x) h8 with ⟨g1, g2⟩ | ⟨j, off, t, g0, g1, g3, g2⟩
        · rw [g2] at he
          cases he
          obtain ⟨b, hb1, hb2⟩ := sd_t h7
          refine lv_tableOut hx hb hd ?_ hb2 (G _ _ _ _ _ S hl hb1)
          rw [Array.length_toList] at g1
          omega
        · rw [g2] at he
          cases he
          obtain ⟨b, hb1, hb2⟩ := sd_t g3
          have hjl : j < offs.toList.length := (List.getElem?_eq_some_iff.mp g1).1
          rw [Array.length_toList] at hjl
          refine lv_tableIn (off := off) hx hb hd (by omega) (by omega) ?_ hb2 (G _ _ _ _ _ S hl hb1)
          rw [show (x.toInt - lo).toNat = j by omega, ← Array.getElem?_toList]
          exact g1
      · cases hck
    · cases he
  | _ => cases hi
/-- the contract of a method of mine: on heap h, with arguments as, it answers v and leaves heap hf -/
def sd_Pc (D : sd_G) (n0 : Nat) (bf : Nat → Nat) (h : ab_H) (as : List ab_V) : Array Value → State → Prop := fun v U => v = (as.map sd_v).toArray ∧ sd_rep D n0 bf U h U.heap ∧ sd_K D U ∧ sd_con n0 h.1.2 U U.heap
def sd_Qc (D : sd_G) (n0 : Nat) (bf : Nat → Nat) (h : ab_H) (v : Option ab_V) (hf : ab_H) : Array Value → State → Outcome → State → Prop := fun _ st o t =>
  o = .returned (v.map sd_v) ∧ (∃ bf', sd_rep D n0 bf' t hf t.heap ∧ ∀ q : Nat, q < st.heap.size → sd_own hf bf' q → sd_own h bf q) ∧ (∀ q : Nat, q < n0 → t.heap[q]? = st.heap[q]?) ∧ (∀ q : Nat, q < st.heap.size → ¬ sd_own h bf q → t.heap[q]? = st.heap[q]?) ∧ st.heap.size ≤ t.heap.size
def sd_fr (n0 : Nat) (h : ab_H) (bf : Nat → Nat) : Addr → Prop := fun q => n0 ≤ q ∧ (sd_own h bf q ∨ ab_sz h ≤ q)
abbrev sd_MQ (below : List Frame) (args : Array Value) (s : State) (D : sd_G) (n0 : Nat) (bf0 : Nat → Nat) (h0 : ab_H) (v : Option ab_V) (hf : ab_H) : State → Prop := MQ below (sd_Qc D n0 bf0 h0 v hf) args s (ab_sz hf - ab_sz h0) (ab_sl hf - ab_sl h0) (sd_fr n0 h0 bf0)
theorem sd_S.fin {bf : Nat → Nat} {H : Heap} {locs : List Loc} {v : Option ab_V} (S : sd_S s D n0 h0 bf0 bf hf H locs) : ∀ t : State, t.heap = H → s.WarmedH t.vm → sd_Qc D n0 bf0 h0 v hf args s (.returned (v.map sd_v)) t := by
  intro t ht hW
  obtain ⟨r, S2, S3, S4, S5, S6, S7, S8⟩ := S
  rw [← ht] at r S2 S4 S6
  exact ⟨rfl, ⟨bf, r.moved hW.alike, S3⟩, S2, S4, S6⟩
theorem sd_S.fre {bf : Nat → Nat} {h : ab_H} {H : Heap} {locs : List Loc} (S : sd_S s D n0 h0 bf0 bf h H locs) (hsz : s.heap.size = ab_sz h0) : ∀ q ∈ locs, sd_fr n0 h0 bf0 q.base := by
  intro q hq
  obtain ⟨h1, h2⟩ := S.2.2.2.2.1 q hq
  exact ⟨h1, by rw [← hsz]; exact h2⟩
set_option maxHeartbeats 4000000 in
/-- a return -/
theorem sg_ret (C : sd_cx p R s m args meth c D n0 y h0 hf) {k pc len : Nat} {o i : Instr} {L : List (Option ab_V)} {st : List ab_V} {h h' : ab_H} {v : Option ab_V} {bf : Nat → Nat} {H : Heap} {locs : List Loc} {ls : Array Slot}
    (hd : decode (gB y) pc = .ok (o, len)) (hck : ck1 (gW y) (gG y).2 (gR y) (gN y) (gP y) pc o len i = true) (S : sd_S s D n0 h0 bf0 bf h H locs)
    (he : ab_one i (k + 1) L st h = some (.inr (.inr (v, h')))) (hh : h' = hf) : sd_W p l e R s m args below meth c (sd_MQ below args s D n0 bf0 h0 v hf) h0 h H locs pc ls st := by
  obtain ⟨hx, hb, hml, hr, hown, hts, hlocks, hin, hK, hcon, hn0, hRc, hRs, hsz⟩ := C
  have hret : ∀ (h9 : ab_H), h9 = hf → h = h9 → h = hf := fun _ a b => b.trans a
  cases i with
  | ireturn =>
    simp only [ab_one, ab_st] at he
    simp only [ck1, Bool.and_eq_true, decide_eq_true_eq] at hck
    obtain ⟨⟨h7, h8⟩, h9⟩ := hck
    have h8 := Nat.eq_of_beq_eq_true h8
    subst h7 h8
    split at he
    · rename_i x
      cases he
      subst hh
      exact W.iret (Qc := sd_Qc D n0 bf0 h0 (some (.inl x)) h) hx hb (hr.trans h9) (S.fin (v := some (.inl x))) (S.fre hsz) hd
    · cases he
  | freturn =>
    simp only [ab_one, ab_st] at he
    simp only [ck1, Bool.and_eq_true, decide_eq_true_eq] at hck
    obtain ⟨⟨h7, h8⟩, h9⟩ := hck
    have h8 := Nat.eq_of_beq_eq_true h8
    subst h7 h8
    split at he
    · rename_i x
      split at he
      · rename_i hcnd
        cases he
        subst hh
        exact W.zret (Qc := sd_Qc D n0 bf0 h0 (some (.inl x)) h) hx hb (hr.trans h9) (by rcases hcnd with rfl | rfl <;> rfl) (S.fin (v := some (.inl x))) (S.fre hsz) hd
      · cases he
    · cases he
  | dreturn =>
    simp only [ab_one, ab_st] at he
    simp only [ck1, Bool.and_eq_true, decide_eq_true_eq] at hck
    obtain ⟨⟨h7, h8⟩, h9⟩ := hck
    have h8 := Nat.eq_of_beq_eq_true h8
    subst h7 h8
    split at he
    · rename_i x
      split at he
      · rename_i hcnd
        cases he
        subst hh
        exact W.zret (Qc := sd_Qc D n0 bf0 h0 (some (.inl x)) h) hx hb (hr.trans h9) (by show narrow (ab_ty 2) (.int x) = _; rw [(sd_nar_fit 2 x).1]; exact congrArg _ hcnd) (S.fin (v := some (.inl x))) (S.fre hsz) hd
      · cases he
    · cases he
  | monitorenter =>
    simp only [ab_one, ab_st] at he
    simp only [ck1, Bool.and_eq_true, decide_eq_true_eq] at hck
    obtain ⟨⟨h7, h8⟩, h9⟩ := hck
    have h8 := Nat.eq_of_beq_eq_true h8
    subst h7 h8
    split at he
    · rename_i x
      split at he
      · rename_i hcnd
        cases he
        subst hh
        exact W.zret (Qc := sd_Qc D n0 bf0 h0 (some (.inl x)) h) hx hb (hr.trans h9) (by show narrow (ab_ty 1) (.int x) = _; rw [(sd_nar_fit 1 x).1]; exact congrArg _ hcnd) (S.fin (v := some (.inl x))) (S.fre hsz) hd
      · cases he
    · cases he
  | lreturn =>
    simp only [ab_one, ab_st] at he
    simp only [ck1, Bool.and_eq_true, decide_eq_true_eq] at hck
    obtain ⟨⟨h7, h8⟩, h9⟩ := hck
    have h8 := Nat.eq_of_beq_eq_true h8
    subst h7 h8
    split at he
    · rename_i x
      cases he
      subst hh
      exact W.lret (Qc := sd_Qc D n0 bf0 h0 (some (.inr (.inl x))) h) hx hb (hr.trans h9) (S.fin (v := some (.inr (.inl x)))) (S.fre hsz) hd
    · cases he
  | areturn =>
    simp only [ab_one, ab_st] at he
    simp only [ck1, Bool.and_eq_true, decide_eq_true_eq] at hck
    obtain ⟨⟨h7, h8⟩, h9⟩ := hck
    have h8 := Nat.eq_of_beq_eq_true h8
    subst h7 h8
    split at he
    · rename_i x
      cases he
      subst hh
      obtain ⟨rt9, hrt, hrk⟩ : ∃ rt9, gR y = some rt9 ∧ ((∃ n, rt9 = .object n) ∨ ∃ t, rt9 = .array t) := by
        unfold ck_rr at h9
        split at h9
        · rename_i t9 ht9
          refine ⟨t9, ht9, ?_⟩
          cases t9 <;> first | exact Or.inl ⟨_, rfl⟩ | exact Or.inr ⟨_, rfl⟩ | cases h9
        · cases h9
      exact W.aret (Qc := sd_Qc D n0 bf0 h0 (some (.inr (.inr x))) h) hx hb (hr.trans hrt) hrk (va_rf_or x) (S.fin (v := some (.inr (.inr x)))) (S.fre hsz) hd
    · cases he
  | return_ =>
    simp only [ab_one, ab_st] at he
    simp only [ck1, Bool.and_eq_true, decide_eq_true_eq] at hck
    obtain ⟨⟨h7, h8⟩, h9⟩ := hck
    have h8 := Nat.eq_of_beq_eq_true h8
    subst h7 h8
    split at he
    · cases he
      subst hh
      exact W.vret (Qc := sd_Qc D n0 bf0 h0 none h) hx hb (hr.trans h9) (S.fin (v := none)) (S.fre hsz) hd
    · cases he
  | _ => exact sd_noret he (by rfl)
end Step
