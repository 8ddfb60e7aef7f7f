/-! ===== instructions that read and write the heap ===== -/
section Step
variable {p : Program} {l : Launch} {e : Env} {R : Room} {s : State} {m : MethodId} {args : Array Value} {below : List Frame} {meth : Method} {c : Code} {Q : State → Prop} {D : sd_G} {n0 y : Nat} {h0 hf : ab_H} {bf0 : Nat → Nat}
/-- the class that a number names, with its fields -/
theorem sd_cls : ∀ k, k < 9 → ∃ T : u_T, sd_cl[k]? = some (sd_nm k, T, sd_nf k) ∧ (∀ w ∈ u_ws (sd_nm k) T (sd_nf k), w ∈ lw_tg) ∧ (∀ j, j < sd_nf k → parseFieldDescriptor (T j).2.2.1 = some (sd_ft k j)) ∧ (∀ j, j < sd_nf k → defaultValue (sd_ft k j) = sd_v (ab_birth k j)) ∧ (∀ a, a < sd_nf k → ∀ b, b < sd_nf k → a ≠ b → (T a).2.1 ≠ (T b).2.1) ∧ (∀ j, sd_fn k j = ((T j).1, (T j).2.1, (T j).2.2.1)) ∧ (∀ j, sd_fi k j = (T j).2.2.2) ∧ (ab_bl k).length = sd_nf k := by
  have good : ∀ (C : String) (T : u_T) (N : Nat), (∀ w ∈ u_ws C T N, w ∈ lw_tbl) → ∀ w ∈ u_ws C T N, w ∈ lw_tg := by
    intro C T N h w hw
    refine sd_tb (h w hw) ?_
    obtain ⟨j, -, rfl⟩ := List.mem_map.mp hw
    unfold u_lay
    split <;> rfl
  intro k hk
  match k, hk with
  | 0, _ => exact ⟨sd_T0, rfl, good _ _ _ sd_i0, sd_k0, by decide +kernel, sd_n0, fun _ => rfl, fun _ => rfl, rfl⟩
  | 1, _ => exact ⟨sd_T1, rfl, good _ _ _ sd_i1, sd_k1, by decide +kernel, sd_n1, fun _ => rfl, fun _ => rfl, rfl⟩
  | 2, _ => exact ⟨sd_T2, rfl, good _ _ _ sd_i2, sd_k2, by decide +kernel, sd_n2, fun _ => rfl, fun _ => rfl, rfl⟩
  | 3, _ => exact ⟨sd_T3, rfl, good _ _ _ sd_i3, sd_k3, by decide +kernel, sd_n3, fun _ => rfl, fun _ => rfl, rfl⟩
  | 4, _ => exact ⟨sd_T4, rfl, good _ _ _ sd_i4, sd_k4, by decide +kernel, sd_n4, fun _ => rfl, fun _ => rfl, rfl⟩
  | 5, _ => exact ⟨sd_T5, rfl, good _ _ _ sd_i5, sd_k5, by decide +kernel, sd_n5, fun _ => rfl, fun _ => rfl, rfl⟩
  | 6, _ => exact ⟨sd_T6, rfl, good _ _ _ sd_i6, sd_k6, by decide +kernel, sd_n6, fun _ => rfl, fun _ => rfl, rfl⟩
  | 7, _ => exact ⟨sd_T7, rfl, good _ _ _ sd_i7, sd_k7, by decide +kernel, sd_n7, fun _ => rfl, fun _ => rfl, rfl⟩
  | 8, _ => exact ⟨sd_T8, rfl, good _ _ _ sd_i8, sd_k8, by decide +kernel, sd_n8, fun _ => rfl, fun _ => rfl, rfl⟩
  | k + 9, h => omega
/-- what the heap holds of a field, and where -/
theorem sd_fld (hts : ∀ w ∈ lw_tg, w.before args s = true) (hK : sd_K D s) {bf : Nat → Nat} {h : ab_H} {H : Heap} (r : sd_rep D n0 bf s h H) {a f : Nat} {v : ab_V} (e : ab_fd h a f = some v) :
    ∃ k fs, ab_ce h a = some (ab_cO k fs) ∧ ab_sub (f / 100) k = true ∧ v = fs (f % 100) ∧ k < 12 ∧ (f % 100 < sd_nf k → ∃ (cf : ClassId) (kf : Class) (fi : Nat) (fd : Field) (cell : Cell), s.fieldFound? (sd_fn k (f % 100)).1 (sd_fn k (f % 100)).2.1 (sd_fn k (f % 100)).2.2 = some (cf, kf, fi, fd) ∧ fd.isStatic = false ∧ H[a]? = some cell ∧ cell.vm ≠ .unknown ∧ cell.slots[fd.slot]? = some (sd_v v)) := by
  unfold ab_fd at e
  split at e
  · rename_i k fs hc
    split at e
    · rename_i hsub
      cases e
      refine ⟨k, fs, hc, hsub, rfl, ?_⟩
      rcases r.2.2.2.1 a _ hc with ⟨h1, h2, h3, h4, h5⟩ | ⟨h1, h2, cell, q1, q2, q3, q4⟩
      · refine ⟨h3, fun hj => ?_⟩
        obtain ⟨cf, kf, fi, fd, cell, g1, g2, g3, g4, g5, -⟩ := h5 _ hj
        exact ⟨cf, kf, fi, fd, cell, g1, g2, g3, g4, g5⟩
      · refine ⟨by omega, fun hj => ?_⟩
        obtain ⟨T, t1, t2, t3, t4, t5, t6, t7, t8⟩ := sd_cls k h2
        obtain ⟨hSl, hfc, kC, hkC, hkind⟩ := hK.1 k _ t1
        obtain ⟨cf, kf, fi, fd, hi, hsl⟩ := hSl _ hj
        refine ⟨cf, kf, fi, fd, cell, by rw [t6]; exact hi, (u_facts hfc hkC (u_lays hts t2 hj) hi).1, q1, by rw [q3]; exact (fun h => by cases h), ?_⟩
        rw [hsl]
        exact q4 _ hj
    · cases e
  · cases e
/-- a field is read -/
theorem sd_getf (hx : p.tables.exec = Jvm.exec) (hb : c.code = gB y) (hown : s.vm.findClass (sd_nm (gW y)) = some m.cls) (hts : ∀ w ∈ lw_tg, w.before args s = true) (hK : sd_K D s) (hnl : ∀ w ∈ lw_nl, va_Nw w s) {bf : Nat → Nat} {h : ab_H} {H : Heap} {locs : List Loc} {cells slots pc : Nat} {ls : Array Slot} {rest : List Value} (r : sd_rep D n0 bf s h H) {a f idx : Nat} {v : ab_V} (e9 : ab_fd h a f = some v) (hf : sd_FL (gW y) idx f) (hd : decode (gB y) pc = .ok (.getfield idx, 3))
    (k : W p l e R s m args below meth c H locs cells slots Q (F0 m (pc + 3) ls (sd_v v :: rest))) : W p l e R s m args below meth c H locs cells slots Q (F0 m pc ls (.ref a :: rest)) := by
  obtain ⟨kc, fs, g1, g2, g3, g4, g5⟩ := sd_fld hts hK r e9
  obtain ⟨ref, nm, ds, hlk, hall⟩ := hf
  obtain ⟨q1, q2, q3, -⟩ := hall kc g4 g2
  obtain ⟨cf, kf, fi, fd, cell, f1, f2, f3, f4, f5⟩ := g5 q1
  have hi : s.fieldFound? ref nm ds = some (cf, kf, fi, fd) := by
    rw [show (sd_fn kc (f % 100)).2.1 = nm from congrArg Prod.fst q2, show (sd_fn kc (f % 100)).2.2 = ds from congrArg Prod.snd q2] at f1
    rcases q3 with q3 | q3
    · rw [q3]; exact f1
    · exact u_same (hts _ q3) _ f1
  rcases hlk with hlk | ⟨host, hlk⟩
  · exact W.getf hx hb hown (hts _ hlk) hi f2 f3 f4 f5 rfl rfl hd k
  · exact va_Wgetf hx hb hown (sd_nuse _ hlk (hnl _ hlk)) hi f2 f3 f4 f5 rfl rfl hd k
theorem sd_ab_fI {h : ab_H} {a f : Nat} {x : Int32} (e : ab_fI h a f = some x) : ab_fd h a f = some (.inl x) := by
  unfold ab_fI at e
  split at e
  · rename_i z hz; cases e; exact hz
  · cases e
theorem sd_ab_fL {h : ab_H} {a f : Nat} {x : Int64} (e : ab_fL h a f = some x) : ab_fd h a f = some (.inr (.inl x)) := by
  unfold ab_fL at e
  split at e
  · rename_i z hz; cases e; exact hz
  · cases e
theorem sd_ab_fR {h : ab_H} {a f : Nat} {x : Option Nat} (e : ab_fR h a f = some x) : ab_fd h a f = some (.inr (.inr x)) := by
  unfold ab_fR at e
  split at e
  · rename_i z hz; cases e; exact hz
  · cases e
def sk_getf : Instr → Bool
  | .getfield _ => true
  | .dload _ => true
  | .fload _ => true
  | _ => false
set_option maxHeartbeats 4000000 in
theorem sg_getf (C : sd_cx p R s m args meth c D n0 y h0 hf) {k pc len nx : Nat} {o i : Instr} {L L' : List (Option ab_V)} {st st' : List ab_V} {h h' : ab_H} {bf : Nat → Nat} {H : Heap} {locs : List Loc} {ls : Array Slot} (hi : sk_getf i = true)
    (hd : decode (gB y) pc = .ok (o, len)) (hck : ck1 (gW y) (gG y).2 (gR y) (gN y) (gP y) pc o len i = true) (hnx : ck_end i = true ∨ ab_nth (gP y) (k + 1) = some (pc + len)) (S : sd_S s D n0 h0 bf0 bf h H locs) (hl : lv_has ls (gG y).2 (sd_pr 0 L))
    (he : ab_one i (k + 1) L st h = some (.inl (nx, L', st', h'))) (hz : ab_sz h' ≤ ab_sz hf ∧ ab_sl h' ≤ ab_sl hf) (G : sd_Good p l e R s m args below meth c Q D n0 y h0 bf0 nx L' st' h') : sd_W p l e R s m args below meth c Q h0 h H locs pc ls st := by
  obtain ⟨hx, hb, hml, hr, hown, hts, hlocks, hin, hK, hcon, hn0, hRc, hRs, hsz⟩ := C
  cases i with
  | getfield f =>
    simp only [ab_one, ab_st] at he
    replace hnx := hnx.resolve_left (fun q => Bool.false_ne_true q)
    simp only [ck1] at hck
    split at hck
    · rename_i idx
      rw [Bool.and_eq_true] at hck
      obtain ⟨h7, h9⟩ := hck
      have h9 := Nat.eq_of_beq_eq_true h9
      subst h9
      have hF := ln_F_ok _ (ck_in3_mem h7)
      split at he
      · rename_i x st1
        cases x with
        | none => cases he
        | some a =>
          rw [Option.bind_some] at he
          cases hv : ab_fI h a f with
          | none => rw [hv] at he; cases he
          | some v =>
            rw [hv, Option.bind_some] at he
            cases he
            exact sd_getf hx hb hown hts hK hcon.2.2.2.2.2.2 S.1 (sd_ab_fI hv) hF hd (G _ _ _ _ _ S hl hnx)
      · cases he
    · cases hck
  | dload f =>
    simp only [ab_one, ab_st] at he
    replace hnx := hnx.resolve_left (fun q => Bool.false_ne_true q)
    simp only [ck1] at hck
    split at hck
    · rename_i idx
      rw [Bool.and_eq_true] at hck
      obtain ⟨h7, h9⟩ := hck
      have h9 := Nat.eq_of_beq_eq_true h9
      subst h9
      have hF := ln_F_ok _ (ck_in3_mem h7)
      split at he
      · rename_i x st1
        cases x with
        | none => cases he
        | some a =>
          rw [Option.bind_some] at he
          cases hv : ab_fL h a f with
          | none => rw [hv] at he; cases he
          | some v =>
            rw [hv, Option.bind_some] at he
            cases he
            exact sd_getf hx hb hown hts hK hcon.2.2.2.2.2.2 S.1 (sd_ab_fL hv) hF hd (G _ _ _ _ _ S hl hnx)
      · cases he
    · cases hck
  | fload f =>
    simp only [ab_one, ab_st] at he
    replace hnx := hnx.resolve_left (fun q => Bool.false_ne_true q)
    simp only [ck1] at hck
    split at hck
    · rename_i idx
      rw [Bool.and_eq_true] at hck
      obtain ⟨h7, h9⟩ := hck
      have h9 := Nat.eq_of_beq_eq_true h9
      subst h9
      have hF := ln_F_ok _ (ck_in3_mem h7)
      split at he
      · rename_i x st1
        cases x with
        | none => cases he
        | some a =>
          rw [Option.bind_some] at he
          cases hv : ab_fR h a f with
          | none => rw [hv] at he; cases he
          | some v =>
            rw [hv, Option.bind_some] at he
            cases he
            exact sd_getf hx hb hown hts hK hcon.2.2.2.2.2.2 S.1 (sd_ab_fR hv) hF hd (G _ _ _ _ _ S hl hnx)
      · cases he
    · cases hck
  | _ => cases hi
end Step
