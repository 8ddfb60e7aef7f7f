/-! ===== new cells, casts, switches ===== -/
section Step
variable {p : Program} {l : Launch} {e : Env} {R : Room} {s : State} {m : MethodId} {args : Array Value} {below : List Frame} {meth : Method} {c : Code} {Q : State → Prop} {D : sd_G} {n0 y : Nat} {h0 hf : ab_H} {bf0 : Nat → Nat}
theorem sd_room {bf : Nat → Nat} {h : ab_H} {H : Heap} {locs : List Loc} {cl : ab_C} {k : Nat} (S : sd_S s D n0 h0 bf0 bf h H locs) (hsz : s.heap.size = ab_sz h0) (hRc : ab_sz hf - ab_sz h0 ≤ R.cells) (hRs : ab_sl hf - ab_sl h0 ≤ R.slots) (hz : ab_sz (ab_mk h cl k) ≤ ab_sz hf ∧ ab_sl (ab_mk h cl k) ≤ ab_sl hf) :
    ab_sz h - ab_sz h0 + 1 ≤ R.cells ∧ ab_sl h - ab_sl h0 + k ≤ R.slots ∧ ab_sz h - ab_sz h0 + 1 = ab_sz (ab_mk h cl k) - ab_sz h0 ∧ ab_sl h - ab_sl h0 + k = ab_sl (ab_mk h cl k) - ab_sl h0 := by
  have h1 := sd_mono S hsz
  have h2 := S.2.2.2.2.2.2.1
  have e1 : ab_sz (ab_mk h cl k) = ab_sz h + 1 := rfl
  have e2 : ab_sl (ab_mk h cl k) = ab_sl h + k := rfl
  rw [e1, e2] at hz ⊢
  omega
theorem sd_S.lo {bf : Nat → Nat} {h : ab_H} {H : Heap} {locs : List Loc} (S : sd_S s D n0 h0 bf0 bf h H locs) : n0 ≤ H.size := S.1.2.2.1
/-- a new array of a kind of numbers -/
theorem sd_newa (hx : p.tables.exec = Jvm.exec) (hb : c.code = gB y) (hK : sd_K D s) {bf : Nat → Nat} {h : ab_H} {H : Heap} {locs : List Loc} {pc k : Nat} {ls : Array Slot} {rest : List Value} (S : sd_S s D n0 h0 bf0 bf h H locs) (hsz : s.heap.size = ab_sz h0) (hRc : ab_sz hf - ab_sz h0 ≤ R.cells) (hRs : ab_sl hf - ab_sl h0 ≤ R.slots) {ty : ArrayType} {n : Int32} (hk : k < 4) (hty : newarray.typeOf ty = ab_ty k) (hac : (Cond.arrayClass (newarray.typeOf ty)).before args s = true) (hn : ¬ (n < 0 ∨ 65536 < n)) (hd : decode (gB y) pc = .ok (.newarray ty, 2))
    (hz : ab_sz (ab_mk h (ab_cI k n.toNatClampNeg (fun _ => 0)) n.toNatClampNeg) ≤ ab_sz hf ∧ ab_sl (ab_mk h (ab_cI k n.toNatClampNeg (fun _ => 0)) n.toNatClampNeg) ≤ ab_sl hf)
    (kk : ∀ H1 : Heap, sd_S s D n0 h0 bf0 bf (ab_mk h (ab_cI k n.toNatClampNeg (fun _ => 0)) n.toNatClampNeg) H1 locs → W p l e R s m args below meth c H1 locs (ab_sz (ab_mk h (ab_cI k n.toNatClampNeg (fun _ => 0)) n.toNatClampNeg) - ab_sz h0) (ab_sl (ab_mk h (ab_cI k n.toNatClampNeg (fun _ => 0)) n.toNatClampNeg) - ab_sl h0) Q (F0 m (pc + 2) ls (.ref (ab_sz h) :: rest))) : W p l e R s m args below meth c H locs (ab_sz h - ab_sz h0) (ab_sl h - ab_sl h0) Q (F0 m pc ls (.int n :: rest)) := by
  obtain ⟨b1, b2, b3, b4⟩ := sd_room S hsz hRc hRs hz
  have hb9 : n.toNatClampNeg ≤ 65536 := by
    have h9 : ¬ (65536 : Int32) < n := fun q => hn (Or.inr q)
    rw [Int32.lt_iff_toInt_lt] at h9
    have h8 : (65536 : Int32).toInt = 65536 := by decide
    show n.toInt.toNat ≤ 65536
    omega
  have hcb : n.toNatClampNeg * componentBytes (newarray.typeOf ty) ≤ 536870912 := by
    have : componentBytes (newarray.typeOf ty) ≤ 8 := by
      cases ty <;> decide
    exact Nat.le_trans (Nat.mul_le_mul hb9 this) (by decide)
  refine W.newa hx hb hac rfl hd rfl (fun q => hn (Or.inl q)) hcb b1 b2 fun cA kA comp h1 h2 h3 => ?_
  have hra := (hK.2 k _ (sd_ty_at D.2.2 k hk)).2
  have hcA : cA = D.2.2 k := by
    have : s.vm.findClass ("[" ++ (ab_ty k).toString) = some (D.2.2 k) := by
      match k, hk, hra with
      | 0, _, hra => exact hra
      | 1, _, hra => exact hra
      | 2, _, hra => exact hra
      | 3, _, hra => exact hra
      | k + 4, h, _ => omega
    rw [hty] at h1
    exact Option.some.inj (h1.symm.trans this)
  subst hcA
  rw [b3, b4]
  have hsz9 : H.size = ab_sz h := S.1.2.1
  rw [show (F0 m pc ls (Value.int n :: rest)).pc = pc from rfl]
  have G9 := kk (H.push { cls := D.2.2 k, slots := Array.replicate n.toNatClampNeg (defaultValue (newarray.typeOf ty)), vm := .none }) (S.new (by rintro ⟨_, _, _, q⟩; cases q) (by simp) (fun q hq => by rw [Array.getElem?_push, if_neg (Nat.ne_of_lt hq)]) (Or.inr ⟨S.lo, hk, ?_, fun _ => ?_⟩))
  · rw [← hsz9] at G9
    exact G9
  · rw [arrV_new, Array.getElem?_push_size, hty]
    congr 2
    match k, hk with
    | 0, _ => rfl
    | 1, _ => rfl
    | 2, _ => rfl
    | 3, _ => rfl
    | k + 4, h => omega
  · match k, hk with
    | 0, _ => rfl
    | 1, _ => rfl
    | 2, _ => rfl
    | 3, _ => rfl
    | k + 4, h => omega
/-- a new array of longs -/
theorem sd_newl (hx : p.tables.exec = Jvm.exec) (hb : c.code = gB y) (hK : sd_K D s) {bf : Nat → Nat} {h : ab_H} {H : Heap} {locs : List Loc} {pc : Nat} {ls : Array Slot} {rest : List Value} (S : sd_S s D n0 h0 bf0 bf h H locs) (hsz : s.heap.size = ab_sz h0) (hRc : ab_sz hf - ab_sz h0 ≤ R.cells) (hRs : ab_sl hf - ab_sl h0 ≤ R.slots) {n : Int32} (hac : (Cond.arrayClass .long).before args s = true) (hn : ¬ (n < 0 ∨ 65536 < n)) (hd : decode (gB y) pc = .ok (.newarray .long, 2))
    (hz : ab_sz (ab_mk h (ab_cL n.toNatClampNeg (fun _ => 0)) n.toNatClampNeg) ≤ ab_sz hf ∧ ab_sl (ab_mk h (ab_cL n.toNatClampNeg (fun _ => 0)) n.toNatClampNeg) ≤ ab_sl hf)
    (kk : ∀ H1 : Heap, sd_S s D n0 h0 bf0 bf (ab_mk h (ab_cL n.toNatClampNeg (fun _ => 0)) n.toNatClampNeg) H1 locs → W p l e R s m args below meth c H1 locs (ab_sz (ab_mk h (ab_cL n.toNatClampNeg (fun _ => 0)) n.toNatClampNeg) - ab_sz h0) (ab_sl (ab_mk h (ab_cL n.toNatClampNeg (fun _ => 0)) n.toNatClampNeg) - ab_sl h0) Q (F0 m (pc + 2) ls (.ref (ab_sz h) :: rest))) : W p l e R s m args below meth c H locs (ab_sz h - ab_sz h0) (ab_sl h - ab_sl h0) Q (F0 m pc ls (.int n :: rest)) := by
  obtain ⟨b1, b2, b3, b4⟩ := sd_room S hsz hRc hRs hz
  have hb9 : n.toNatClampNeg ≤ 65536 := by
    have h9 : ¬ (65536 : Int32) < n := fun q => hn (Or.inr q)
    rw [Int32.lt_iff_toInt_lt] at h9
    have h8 : (65536 : Int32).toInt = 65536 := by decide
    show n.toInt.toNat ≤ 65536
    omega
  refine W.newa (atype := .long) hx hb hac rfl hd rfl (fun q => hn (Or.inl q)) (Nat.le_trans (Nat.mul_le_mul hb9 (show componentBytes (newarray.typeOf .long) ≤ 8 by decide)) (by decide)) b1 b2 fun cA kA comp h1 h2 h3 => ?_
  have hra : s.vm.findClass ("[" ++ FieldType.long.toString) = some (D.2.2 4) := (hK.2 4 _ rfl).2
  obtain rfl : cA = D.2.2 4 := Option.some.inj (h1.symm.trans hra)
  rw [b3, b4]
  have hsz9 : H.size = ab_sz h := S.1.2.1
  have G9 := kk (H.push { cls := D.2.2 4, slots := Array.replicate n.toNatClampNeg (.long 0), vm := .none }) (S.new (by rintro ⟨_, _, _, q⟩; cases q) (by simp) (fun q hq => by rw [Array.getElem?_push, if_neg (Nat.ne_of_lt hq)]) ⟨S.lo, by rw [arrV_new, Array.getElem?_push_size]⟩)
  rw [← hsz9] at G9
  exact G9
theorem sd_recvA (hK : sd_K D s) {bf : Nat → Nat} {h : ab_H} {H : Heap} (r : sd_rep D n0 bf s h H) {a : Nat} (hc : ab_isc h a 99 = true) : ∃ cell : Cell, H[a]? = some cell ∧ cell.vm.isStatics = false ∧ s.vm.findClass "[LTreeShell$Tool;" = some cell.cls := by
  have hcl : ab_cls h a = some 99 := by
    unfold ab_isc at hc
    split at hc
    · rename_i k' hk'
      rw [hk', Nat.eq_of_beq_eq_true hc]
    · cases hc
  unfold ab_cls at hcl
  split at hcl
  · rename_i k' fs hce
    cases hcl
    rcases r.2.2.2.1 a _ hce with ⟨h1, h2, h3, -⟩ | ⟨h1, h2, -⟩
    · omega
    · omega
  · cases hcl
  · rename_i k' z hce
    have hk : k' = 10 := by have := Option.some.inj hcl; omega
    subst hk
    obtain ⟨nn, ff⟩ := z
    obtain ⟨-, cell, g1, g2, g3, g4, g5, g6⟩ := sd_arrR hK r hce
    obtain ⟨kA, comp, r1, r2, r3, r4⟩ := (hK.2 7 _ rfl).2
    refine ⟨cell, g1, ?_, by rw [g4]; exact r4⟩
    cases hv : cell.vm with
    | statics q => exact absurd hv (g2.1 q)
    | _ => rfl
  · cases hcl
def sk_new : Instr → Bool
  | .new _ => true
  | .newarray _ => true
  | .anewarray _ => true
  | .checkcast _ => true
  | .instanceof _ => true
  | _ => false
set_option maxHeartbeats 4000000 in
theorem sg_new (C : sd_cx p R s m args meth c D n0 y h0 hf) {k pc len nx : Nat} {o i : Instr} {L L' : List (Option ab_V)} {st st' : List ab_V} {h h' : ab_H} {bf : Nat → Nat} {H : Heap} {locs : List Loc} {ls : Array Slot} (hi : sk_new i = true)
    (hd : decode (gB y) pc = .ok (o, len)) (hck : ck1 (gW y) (gG y).2 (gR y) (gN y) (gP y) pc o len i = true) (hnx : ck_end i = true ∨ ab_nth (gP y) (k + 1) = some (pc + len)) (S : sd_S s D n0 h0 bf0 bf h H locs) (hl : lv_has ls (gG y).2 (sd_pr 0 L))
    (he : ab_one i (k + 1) L st h = some (.inl (nx, L', st', h'))) (hz : ab_sz h' ≤ ab_sz hf ∧ ab_sl h' ≤ ab_sl hf) (G : sd_Good p l e R s m args below meth c Q D n0 y h0 bf0 nx L' st' h') : sd_W p l e R s m args below meth c Q h0 h H locs pc ls st := by
  obtain ⟨hx, hb, hml, hr, hown, hts, hlocks, hin, hK, hcon, hn0, hRc, hRs, hsz⟩ := C
  cases i with
  | new c9 =>
    cases he
    replace hnx := hnx.resolve_left (fun q => Bool.false_ne_true q)
    simp only [ck1] at hck
    split at hck
    · rename_i idx
      rw [Bool.and_eq_true] at hck
      obtain ⟨h7, h9⟩ := hck
      have h9 := Nat.eq_of_beq_eq_true h9
      subst h9
      obtain ⟨q1, q2, q3, q4⟩ := ln_N_ok _ (ck_in3_mem h7)
      dsimp only at q1 q2 q3 q4
      obtain ⟨b1, b2, b3, b4⟩ := sd_room S hsz hRc hRs hz
      obtain ⟨T, t1, t2, t3, t4, t5, t6, t7, t8⟩ := sd_cls c9 q1
      have hKn := hK.1 c9 _ t1
      have hfc := hKn.2.1
      refine W.newcK hx hb hown (hts _ q2) (hts _ q3) (hts _ q4) rfl hd b1 b2 hfc S.1.2.1 fun H1 kC g1 g2 g3 g4 => ?_
      rw [b3, b4]
      have g2' : H1[H.size]? = some (blank (D.1 c9) kC) := by rw [S.1.2.1]; exact g2
      refine G _ _ _ _ _ (S.new (by rintro ⟨_, _, _, q⟩; cases q) (by rw [g3, S.1.2.1]) (fun q hq => g4 q (by rw [← S.1.2.1]; exact hq)) (Or.inr ⟨S.lo, q1, ?_⟩)) hl hnx
      exact (u_born (sd_ft c9) hts t2 hKn g1 g2' t3).to (fun j hj => t4 j hj)
    · cases hck
  | newarray ty =>
    simp only [ab_one, ab_st] at he
    replace hnx := hnx.resolve_left (fun q => Bool.false_ne_true q)
    simp only [ck1, Bool.and_eq_true, decide_eq_true_eq] at hck
    obtain ⟨h7, h9⟩ := hck
    have h9 := Nat.eq_of_beq_eq_true h9
    subst h7 h9
    split at he
    · rename_i n st1
      split at he
      · cases he
      · rename_i hn9
        cases ty with
        | int =>
          cases he
          exact sd_newa hx hb hK S hsz hRc hRs (ty := .int) (k := 0) (by decide) rfl (hts _ mt_ac.1) hn9 hd hz (fun H1 S1 => G _ _ _ _ _ S1 hl hnx)
        | byte =>
          cases he
          exact sd_newa hx hb hK S hsz hRc hRs (ty := .byte) (k := 1) (by decide) rfl (hts _ mt_ac.2.1) hn9 hd hz (fun H1 S1 => G _ _ _ _ _ S1 hl hnx)
        | char =>
          cases he
          exact sd_newa hx hb hK S hsz hRc hRs (ty := .char) (k := 2) (by decide) rfl (hts _ mt_ac.2.2.1) hn9 hd hz (fun H1 S1 => G _ _ _ _ _ S1 hl hnx)
        | boolean =>
          cases he
          exact sd_newa hx hb hK S hsz hRc hRs (ty := .boolean) (k := 3) (by decide) rfl (hts _ mt_ac.2.2.2.1) hn9 hd hz (fun H1 S1 => G _ _ _ _ _ S1 hl hnx)
        | long =>
          cases he
          exact sd_newl hx hb hK S hsz hRc hRs (hts _ mt_ac.2.2.2.2) hn9 hd hz (fun H1 S1 => G _ _ _ _ _ S1 hl hnx)
        | _ => cases he
    · cases he
  | anewarray c9 =>
    simp only [ab_one, ab_st] at he
    replace hnx := hnx.resolve_left (fun q => Bool.false_ne_true q)
    simp only [ck1] at hck
    split at hck
    · rename_i idx
      rw [Bool.and_eq_true] at hck
      obtain ⟨h7, h9⟩ := hck
      have h9 := Nat.eq_of_beq_eq_true h9
      subst h9
      obtain ⟨q1, q2, q3⟩ := ln_A_ok _ (ck_in3_mem h7)
      dsimp only at q1 q2 q3
      split at he
      · rename_i n st1
        split at he
        · cases he
        · rename_i hn9
          cases he
          obtain ⟨b1, b2, b3, b4⟩ := sd_room S hsz hRc hRs hz
          have h2 : c9 = 4 ∨ c9 = 9 ∨ c9 = 10 := q1.imp id Or.inl
          obtain ⟨kA9, comp9, r1, r2, r3, r4⟩ := (hK.2 _ _ (sd_ty_rt D.2.2 h2)).2
          refine W.anew hx hb hown (hts _ q2) (sd_nuse _ q3 (hcon.2.2.2.2.2.2 _ q3)) rfl hd rfl (fun q => hn9 (Or.inl q)) ?_ b1 b2 fun cA kA comp g1 g2 g3 g4 => ?_
          · have h9 : ¬ (65536 : Int32) < n := fun q => hn9 (Or.inr q)
            rw [Int32.lt_iff_toInt_lt] at h9
            have h8 : (65536 : Int32).toInt = 65536 := by decide
            show n.toInt.toNat * 4 ≤ 536870912
            omega
          · obtain rfl : cA = D.2.2 (sd_rk c9) := Option.some.inj (g1.symm.trans r4)
            rw [b3, b4]
            have hsz9 : H.size = ab_sz h := S.1.2.1
            have G9 := G bf (H.push { cls := D.2.2 (sd_rk c9), slots := Array.replicate n.toNatClampNeg .null, vm := .none }) locs ls _ (S.new (by rintro ⟨_, _, _, q⟩; cases q) (by simp) (fun q hq => by rw [Array.getElem?_push, if_neg (Nat.ne_of_lt hq)]) (Or.inr ⟨S.lo, h2, by rw [arrV_new, Array.getElem?_push_size]; rfl⟩)) hl hnx
            unfold sd_W at G9
            rw [← hsz9] at G9
            exact G9
      · cases he
    · cases hck
  | checkcast c9 =>
    simp only [ab_one, ab_st] at he
    replace hnx := hnx.resolve_left (fun q => Bool.false_ne_true q)
    simp only [ck1] at hck
    split at hck
    · rename_i idx
      simp only [Bool.and_eq_true, Bool.or_eq_true] at hck
      obtain ⟨h7, h9⟩ := hck
      have h9 := Nat.eq_of_beq_eq_true h9
      subst h9
      split at he
      · rename_i x st1
        cases x with
        | none => cases he
        | some a =>
          rw [Option.bind_some] at he
          split at he
          · rename_i hisc
            cases he
            rcases h7 with h7 | ⟨⟨h5, h6⟩, h7⟩
            · obtain ⟨q1, q2, q3⟩ := ln_C_ok _ (ck_in3_mem h7)
              dsimp only at q1 q2 q3
              exact va_castE hx hb hown (hts _ q2) (sd_recv hK S.1 hisc (by rcases q1 with rfl | rfl <;> decide)) hd (G _ _ _ _ _ S hl hnx)
            · have h5 := Nat.eq_of_beq_eq_true h5
              have h6 := Nat.eq_of_beq_eq_true h6
              have h7 := Nat.eq_of_beq_eq_true h7
              subst h5 h7
              refine va_castE (nm := "[LTreeShell$Tool;") hx hb hown ?_ (sd_recvA hK S.1 hisc) hd (G _ _ _ _ _ S hl hnx)
              rw [h6]
              exact hts _ mt_castA
          · cases he
      · cases he
    · cases hck
  | instanceof c9 =>
    simp only [ab_one, ab_st] at he
    replace hnx := hnx.resolve_left (fun q => Bool.false_ne_true q)
    simp only [ck1] at hck
    split at hck
    · rename_i idx
      rw [Bool.and_eq_true] at hck
      obtain ⟨h7, h9⟩ := hck
      have h9 := Nat.eq_of_beq_eq_true h9
      subst h9
      obtain ⟨q1, q2, q3⟩ := ln_C_ok _ (ck_in3_mem h7)
      dsimp only at q1 q2 q3
      split at he
      · rename_i x st1
        cases x with
        | none =>
          cases he
          exact lv_instN hx hb hd (G _ _ _ _ _ S hl hnx)
        | some a =>
          simp only [ab_io] at he
          split at he
          · rename_i hor
            cases he
            by_cases hisc : ab_isc h a c9 = true
            · have G9 := G _ _ _ _ _ S hl hnx
              rw [if_pos hisc] at G9
              exact va_instE hx hb hown (hts _ q2) (sd_recv hK S.1 hisc (by rcases q1 with rfl | rfl <;> decide)) hd G9
            · have G9 := G _ _ _ _ _ S hl hnx
              rw [if_neg hisc] at G9
              rcases q1 with rfl | rfl
              · have h2 := hor.resolve_left hisc
                exact va_instNo (C := "TreeShell$Doc") hx hb hown (hts _ q2) hcon.2.2.2.2.2.1 (sd_recv hK S.1 h2 (by decide)) hd G9
              · have h2 := hor.resolve_right hisc
                exact va_instNo (C := "TreeShell$Dir") hx hb hown (hts _ q2) hcon.2.2.2.2.1 (sd_recv hK S.1 h2 (by decide)) hd G9
          · cases he
      · cases he
    · cases hck
  | _ => cases hi
end Step
