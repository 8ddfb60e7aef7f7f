/-! ===== writes, arrays, new cells, casts ===== -/
section Step
variable {p : Program} {l : Launch} {e : Env} {R : Room} {s : State} {m : MethodId} {args : Array Value} {below : List Frame} {meth : Method} {c : Code} {Q : State → Prop} {D : sd_G} {n0 y : Nat} {h0 hf : ab_H} {bf0 : Nat → Nat}
theorem sd_S.put {bf : Nat → Nat} {h : ab_H} {H H1 : Heap} {locs : List Loc} {a i : Nat} {cl cl' : ab_C} (S : sd_S s D n0 h0 bf0 bf h H locs) (hc : ab_ce h a = some cl) (hn : n0 ≤ a) (hB : ¬ ∃ m n t, cl = ab_cB m n t) (hB' : ¬ ∃ m n t, cl' = ab_cB m n t)
    (z : H1.size = H.size) (o : ∀ q : Nat, q ≠ a → H1[q]? = H[q]?) (k : sd_cell D n0 bf s H1 a cl') : sd_S s D n0 h0 bf0 bf (ab_put h a cl') H1 (locs ++ [⟨a, i⟩]) := by
  obtain ⟨r, S2, S3, S4, S5, S6, S7, S8⟩ := S
  obtain ⟨r', ow⟩ := r.put hc hn hB hB' z o k
  have oa : a < s.heap.size → sd_own h0 bf0 a := fun hl => S3 a hl (Or.inl ⟨cl, hc⟩)
  refine ⟨r', fun q hq => (o q (by omega)).trans (S2 q hq), fun q hl hq => S3 q hl (ow q hq), fun q hl hq => ?_, fun lc hlc => ?_, by rw [z]; exact S6, S7, S8⟩
  · rw [o q (fun e9 => hq (e9 ▸ oa (e9 ▸ hl)))]
    exact S4 q hl hq
  · rcases List.mem_append.mp hlc with h1 | h1
    · exact S5 lc h1
    · rw [List.mem_singleton] at h1
      subst h1
      refine ⟨hn, ?_⟩
      rcases Nat.lt_or_ge a s.heap.size with h2 | h2
      · exact Or.inl (oa h2)
      · exact Or.inr h2
theorem sd_S.new {bf : Nat → Nat} {h : ab_H} {H H1 : Heap} {locs : List Loc} {cl : ab_C} {k : Nat} (S : sd_S s D n0 h0 bf0 bf h H locs) (hB : ¬ ∃ m n t, cl = ab_cB m n t)
    (z : H1.size = H.size + 1) (o : ∀ q : Nat, q < H.size → H1[q]? = H[q]?) (kc : sd_cell D n0 bf s H1 H.size cl) : sd_S s D n0 h0 bf0 bf (ab_mk h cl k) H1 locs := by
  obtain ⟨r, S2, S3, S4, S5, S6, S7, S8⟩ := S
  obtain ⟨r', ow⟩ := r.new (k := k) hB z o kc
  have r3 := r.2.2.1
  refine ⟨r', fun q hq => (o q (by omega)).trans (S2 q hq), fun q hl hq => S3 q hl (ow q hq (by omega)), fun q hl hq => (o q (by omega)).trans (S4 q hl hq), S5, by omega, Nat.le_trans S7 (Nat.le_add_right _ _), S8⟩
theorem sd_mono {bf : Nat → Nat} {h : ab_H} {H : Heap} {locs : List Loc} (S : sd_S s D n0 h0 bf0 bf h H locs) (hz : s.heap.size = ab_sz h0) : ab_sz h0 ≤ ab_sz h := by
  obtain ⟨r, S2, S3, S4, S5, S6, S7, S8⟩ := S
  have := r.2.1
  omega
/-- the one nest link of a field is none of a class's own links -/
theorem sd_no8 : ∀ f, sd_ff f = true → f / 100 ≠ 8 := by
  intro f h q
  unfold sd_ff at h
  rw [q] at h
  have h9 : ∀ j, (sd_T8 j).2.2.2 = false := by
    intro j
    match j with
    | 0 => rfl
    | 1 => rfl
    | 2 => rfl
    | j + 3 => rfl
  rw [h9] at h
  cases h
theorem sd_fn_last : ∀ k, k < 9 → ∀ j, 49 ≤ j → (sd_fn k j).2.1 = (sd_fn k 49).2.1 := by
  intro k hk j hj
  match k, hk with
  | 0, _ =>
    obtain ⟨i, rfl⟩ : ∃ i, j = i + 20 := ⟨j - 20, by omega⟩
    rfl
  | 1, _ =>
    obtain ⟨i, rfl⟩ : ∃ i, j = i + 3 := ⟨j - 3, by omega⟩
    rfl
  | 2, _ =>
    obtain ⟨i, rfl⟩ : ∃ i, j = i + 3 := ⟨j - 3, by omega⟩
    rfl
  | 3, _ =>
    obtain ⟨i, rfl⟩ : ∃ i, j = i + 5 := ⟨j - 5, by omega⟩
    rfl
  | 4, _ =>
    obtain ⟨i, rfl⟩ : ∃ i, j = i + 6 := ⟨j - 6, by omega⟩
    rfl
  | 5, _ =>
    obtain ⟨i, rfl⟩ : ∃ i, j = i + 5 := ⟨j - 5, by omega⟩
    rfl
  | 6, _ =>
    obtain ⟨i, rfl⟩ : ∃ i, j = i + 4 := ⟨j - 4, by omega⟩
    rfl
  | 7, _ =>
    obtain ⟨i, rfl⟩ : ∃ i, j = i + 48 := ⟨j - 48, by omega⟩
    rfl
  | 8, _ =>
    obtain ⟨i, rfl⟩ : ∃ i, j = i + 3 := ⟨j - 3, by omega⟩
    rfl
  | k + 9, h => omega
theorem sd_noNest (C : String) (idx : Nat) (ref nm ds host : String) (k : Nat) (hk : k < 9) (j : Nat) (g : (sd_fn k j).2 = (nm, ds)) : ¬ Cond.fieldLinkNest C idx ref nm ds host ∈ lw_nl := by
  intro h
  simp only [lw_nl, List.mem_cons, List.not_mem_nil, or_false, reduceCtorEq, false_or] at h
  injection h with a1 a2 a3 a4 a5 a6
  subst a4
  have h9 : ∀ k, k < 9 → ∀ j, (sd_fn k j).2.1 ≠ "word" := by
    have hj : ∀ k, k < 9 → ∀ j, j < 50 → (sd_fn k j).2.1 ≠ "word" := by decide +kernel
    intro k hk j
    by_cases hj9 : j < 50
    · exact hj k hk j hj9
    · have : (sd_fn k j).2.1 = (sd_fn k 49).2.1 := sd_fn_last k hk j (by omega)
      rw [this]
      exact hj k hk 49 (by decide)
  exact h9 k hk j (congrArg Prod.fst g)
/-- a field is written -/
theorem sd_putf (hx : p.tables.exec = Jvm.exec) (hb : c.code = gB y) (hown : s.vm.findClass (sd_nm (gW y)) = some m.cls) (hts : ∀ w ∈ lw_tg, w.before args s = true) (hin : gN y = true → meth.name = "<init>") (hK : sd_K D s) {bf : Nat → Nat} {h h' : ab_H} {H : Heap} {locs : List Loc} {cells slots pc : Nat} {ls : Array Slot} {rest : List Value} (S : sd_S s D n0 h0 bf0 bf h H locs) {a f idx : Nat} {v : ab_V}
    (e9 : ab_pf h a f v = some h') (hf : sd_FL (gW y) idx f) (hfin : ck_f (gW y) (gN y) f = true) (hnr : narrow (sd_fty f) (sd_v v) = sd_v v) (hfit : fits (sd_fty f) (sd_v v) = true) (hd : decode (gB y) pc = .ok (.putfield idx, 3))
    (kk : ∀ (H1 : Heap) (locs1 : List Loc), sd_S s D n0 h0 bf0 bf h' H1 locs1 → W p l e R s m args below meth c H1 locs1 cells slots Q (F0 m (pc + 3) ls rest)) : W p l e R s m args below meth c H locs cells slots Q (F0 m pc ls (sd_v v :: .ref a :: rest)) := by
  unfold ab_pf at e9
  split at e9
  · rename_i k fs hc
    split at e9
    · rename_i hcond
      obtain ⟨hsub, hna, hlike⟩ := hcond
      cases e9
      rw [S.1.1] at hna
      obtain ⟨ref, nm, ds, hlk, hall⟩ := hf
      rcases S.1.2.2.2.1 a _ hc with ⟨h1, -⟩ | ⟨-, hk9, cell, q1, q2, q3, q4⟩
      · omega
      obtain ⟨g1, g2, g3, g4⟩ := hall k (by omega) hsub
      obtain ⟨g5, g6, g7⟩ := g4 hk9
      obtain ⟨T, t1, t2, t3, t4, t5, t6, t7, t8⟩ := sd_cls k hk9
      obtain ⟨hSl, hfc, kC, hkC, hkind⟩ := hK.1 k _ t1
      obtain ⟨cf, kf, fi, fd, hi, hsl⟩ := hSl _ g1
      have hap := va_apart (D := (D.1, D.2.1)) (own := "") hts t2 (sd_ft k) t3 t5 hK t1
      have hfld : s.fieldFound? ref nm ds = some (cf, kf, fi, fd) := by
        have f1 : s.fieldFound? (sd_fn k (f % 100)).1 (sd_fn k (f % 100)).2.1 (sd_fn k (f % 100)).2.2 = some (cf, kf, fi, fd) := by rw [t6]; exact hi
        rw [show (sd_fn k (f % 100)).2.1 = nm from congrArg Prod.fst g2, show (sd_fn k (f % 100)).2.2 = ds from congrArg Prod.snd g2] at f1
        rcases g3 with g3 | g3
        · rw [g3]; exact f1
        · exact u_same (hts _ g3) _ f1
      have hst := (u_facts hfc hkC (u_lays hts t2 g1) hi).1
      have hlay := hts _ (t2 _ (u_in_lay g1))
      have hd9 : parseFieldDescriptor (T (f % 100)).2.2.1 = some (sd_fty f) := by rw [t3 _ g1, g5]
      have fin : ∀ H1 : Heap, H1[a]? = some (cell.setSlot fd.slot (sd_v v)) → H1.size = H.size → (∀ q, q ≠ a → H1[q]? = H[q]?) → sd_S s D n0 h0 bf0 bf (ab_put h a (ab_cO k (ab_up fs (f % 100) v))) H1 (locs ++ [⟨a, fd.slot⟩]) := by
        intro H1 e1 e2 e3
        refine S.put hc hna (by rintro ⟨_, _, _, q⟩; cases q) (by rintro ⟨_, _, _, q⟩; cases q) e2 e3 (Or.inr ⟨hna, hk9, ?_⟩)
        rw [hsl] at e1
        refine t_OB.to (V := updV (fun j => sd_v (fs j)) (f % 100) (sd_v v)) ⟨_, e1, q2, q3, t_set q4 hap g1 (sd_v v)⟩ (fun j _ => ?_)
        unfold updV ab_up
        split <;> rfl
      have hlk : Cond.fieldLink (sd_nm (gW y)) idx ref nm ds ∈ lw_tg := hlk.resolve_right (fun ⟨host, q⟩ => sd_noNest _ _ _ _ _ _ k hk9 (f % 100) g2 q)
      by_cases hfi : sd_ff f = true
      · have hini : gN y = true ∧ Nat.beq (gW y) (f / 100) = true := by
          unfold ck_f at hfin
          rw [hfi] at hfin
          simpa using hfin
        have hcls : sd_nm (gW y) = (T (f % 100)).1 := by
          have := g7 (sd_no8 f hfi)
          rw [t6] at this
          rw [this, Nat.eq_of_beq_eq_true hini.2]
        unfold u_lay at hlay
        rw [← t7, g6, if_pos hfi] at hlay
        have hcf : m.cls = cf := by
          obtain ⟨_, _, c', _, _, _, -, -, hf', -, -, -, hown2, -⟩ := Cond.laysFinal_spec hlay
          have e1 : c' = cf := by have := hi.symm.trans hf'; simp at this; exact this.1.symm
          rw [← hcls] at hown2
          rw [← e1]; exact Option.some.inj (hown.symm.trans hown2)
        have h6 := u_fits hfc hkC hkind (Or.inr hlay) hi hd9 hnr hfit
        exact W.putFinK hx hb hown (hts _ hlk) hfld hst hcf (hin hini.1) (by rw [q2]; exact h6) q1 q3 (by rw [hsl]; exact k2_hasslot (q4 _ g1)) rfl rfl hd fun H' e1 e2 e3 => kk H' _ (fin H' e1 e2 e3)
      · unfold u_lay at hlay
        rw [← t7, g6, if_neg hfi] at hlay
        have h6 := u_store hfc hkC hkind hlay hi hd9 hnr hfit
        exact W.putK hx hb (f := fd) ⟨hown, hts _ hlk, ⟨_, _, _, hfld⟩, hst⟩ (by rw [q2]; exact h6) q1 q3 (by rw [hsl]; exact k2_hasslot (q4 _ g1)) rfl rfl hd fun H' e1 e2 e3 => kk H' _ (fin H' e1 e2 e3)
    · cases e9
  · cases e9
theorem sd_pf_sz {h h' : ab_H} {a f : Nat} {v : ab_V} (e9 : ab_pf h a f v = some h') : ab_sz h' = ab_sz h ∧ ab_sl h' = ab_sl h := by
  unfold ab_pf at e9
  split at e9
  · split at e9
    · cases e9; exact ⟨rfl, rfl⟩
    · cases e9
  · cases e9
theorem sd_ref_fit {ty : FieldType} (h : ck_ref ty = true) (x : Option Nat) : narrow ty (va_rf x) = va_rf x ∧ fits ty (va_rf x) = true := by
  cases ty <;> first | (cases x <;> exact ⟨rfl, rfl⟩) | cases h
theorem sd_z_fit {ty : FieldType} (h : ty = .boolean ∨ ty = .byte) {x : Int32} (hx : x = 0 ∨ x = 1) : narrow ty (.int x) = .int x ∧ fits ty (.int x) = true := by
  rcases h with rfl | rfl <;> rcases hx with rfl | rfl <;> exact ⟨rfl, rfl⟩
def sk_putf : Instr → Bool
  | .putfield _ => true
  | .dstore _ => true
  | .fstore _ => true
  | .ret _ => true
  | _ => false
set_option maxHeartbeats 4000000 in
theorem sg_putf (C : sd_cx p R s m args meth c D n0 y h0 hf) {k pc len nx : Nat} {o i : Instr} {L L' : List (Option ab_V)} {st st' : List ab_V} {h h' : ab_H} {bf : Nat → Nat} {H : Heap} {locs : List Loc} {ls : Array Slot} (hi : sk_putf i = true)
    (hd : decode (gB y) pc = .ok (o, len)) (hck : ck1 (gW y) (gG y).2 (gR y) (gN y) (gP y) pc o len i = true) (hnx : ck_end i = true ∨ ab_nth (gP y) (k + 1) = some (pc + len)) (S : sd_S s D n0 h0 bf0 bf h H locs) (hl : lv_has ls (gG y).2 (sd_pr 0 L))
    (he : ab_one i (k + 1) L st h = some (.inl (nx, L', st', h'))) (hz : ab_sz h' ≤ ab_sz hf ∧ ab_sl h' ≤ ab_sl hf) (G : sd_Good p l e R s m args below meth c Q D n0 y h0 bf0 nx L' st' h') : sd_W p l e R s m args below meth c Q h0 h H locs pc ls st := by
  obtain ⟨hx, hb, hml, hr, hown, hts, hlocks, hin, hK, hcon, hn0, hRc, hRs, hsz⟩ := C
  cases i with
  | putfield f =>
    simp only [ab_one, ab_st] at he
    replace hnx := hnx.resolve_left (fun q => Bool.false_ne_true q)
    simp only [ck1] at hck
    split at hck
    · rename_i idx
      simp only [Bool.and_eq_true, decide_eq_true_eq] at hck
      obtain ⟨⟨⟨h7, h6⟩, h5⟩, h9⟩ := hck
      have h9 := Nat.eq_of_beq_eq_true h9
      subst h9
      have hF := ln_F_ok _ (ck_in3_mem h7)
      split at he
      · rename_i v x st1
        cases x with
        | none => cases he
        | some a =>
          rw [Option.bind_some] at he
          cases hv : ab_pf h a f (.inl v) with
          | none => rw [hv] at he; cases he
          | some h9 =>
            rw [hv, Option.bind_some] at he
            cases he
            exact sd_putf hx hb hown hts hin hK S hv hF h6 (by rw [h5]; rfl) (by rw [h5]; rfl) hd (fun H1 locs1 S1 => by
              have e1 := sd_pf_sz hv
              have G9 := G _ _ _ _ _ S1 hl hnx
              unfold sd_W at G9
              rw [e1.1, e1.2] at G9
              exact G9)
      · cases he
    · cases hck
  | dstore f =>
    simp only [ab_one, ab_st] at he
    replace hnx := hnx.resolve_left (fun q => Bool.false_ne_true q)
    simp only [ck1] at hck
    split at hck
    · rename_i idx
      simp only [Bool.and_eq_true, decide_eq_true_eq] at hck
      obtain ⟨⟨⟨h7, h6⟩, h5⟩, h9⟩ := hck
      have h9 := Nat.eq_of_beq_eq_true h9
      subst h9
      have hF := ln_F_ok _ (ck_in3_mem h7)
      split at he
      · rename_i v x st1
        cases x with
        | none => cases he
        | some a =>
          rw [Option.bind_some] at he
          cases hv : ab_pf h a f (.inr (.inl v)) with
          | none => rw [hv] at he; cases he
          | some h9 =>
            rw [hv, Option.bind_some] at he
            cases he
            exact sd_putf hx hb hown hts hin hK S hv hF h6 (by rw [h5]; rfl) (by rw [h5]; rfl) hd (fun H1 locs1 S1 => by
              have e1 := sd_pf_sz hv
              have G9 := G _ _ _ _ _ S1 hl hnx
              unfold sd_W at G9
              rw [e1.1, e1.2] at G9
              exact G9)
      · cases he
    · cases hck
  | fstore f =>
    simp only [ab_one, ab_st] at he
    replace hnx := hnx.resolve_left (fun q => Bool.false_ne_true q)
    simp only [ck1] at hck
    split at hck
    · rename_i idx
      simp only [Bool.and_eq_true] at hck
      obtain ⟨⟨⟨h7, h6⟩, h5⟩, h9⟩ := hck
      have h9 := Nat.eq_of_beq_eq_true h9
      subst h9
      have hF := ln_F_ok _ (ck_in3_mem h7)
      split at he
      · rename_i v x st1
        cases x with
        | none => cases he
        | some a =>
          rw [Option.bind_some] at he
          cases hv : ab_pf h a f (.inr (.inr v)) with
          | none => rw [hv] at he; cases he
          | some h9 =>
            rw [hv, Option.bind_some] at he
            cases he
            exact sd_putf hx hb hown hts hin hK S hv hF h6 (sd_ref_fit h5 v).1 (sd_ref_fit h5 v).2 hd (fun H1 locs1 S1 => by
              have e1 := sd_pf_sz hv
              have G9 := G _ _ _ _ _ S1 hl hnx
              unfold sd_W at G9
              rw [e1.1, e1.2] at G9
              exact G9)
      · cases he
    · cases hck
  | ret f =>
    simp only [ab_one, ab_st] at he
    replace hnx := hnx.resolve_left (fun q => Bool.false_ne_true q)
    simp only [ck1] at hck
    split at hck
    · rename_i idx
      simp only [Bool.and_eq_true, Bool.or_eq_true, decide_eq_true_eq] at hck
      obtain ⟨⟨⟨h7, h6⟩, h5⟩, h9⟩ := hck
      have h9 := Nat.eq_of_beq_eq_true h9
      subst h9
      have hF := ln_F_ok _ (ck_in3_mem h7)
      split at he
      · rename_i v x st1
        split at he
        · rename_i hv01
          cases x with
          | none => cases he
          | some a =>
            rw [Option.bind_some] at he
            cases hv : ab_pf h a f (.inl v) with
            | none => rw [hv] at he; cases he
            | some h9 =>
              rw [hv, Option.bind_some] at he
              cases he
              exact sd_putf hx hb hown hts hin hK S hv hF h6 (sd_z_fit h5 hv01).1 (sd_z_fit h5 hv01).2 hd (fun H1 locs1 S1 => by
                have e1 := sd_pf_sz hv
                have G9 := G _ _ _ _ _ S1 hl hnx
                unfold sd_W at G9
                rw [e1.1, e1.2] at G9
                exact G9)
        · cases he
      · cases he
    · cases hck
  | _ => cases hi
end Step
