/-! ===== calls ===== -/
theorem sd_nsame : ∀ w ∈ lw_nl, ∀ {u U : State}, u.vm = U.vm → va_Nw w u → va_Nw w U := by
  intro w hw u U h hz
  simp only [lw_nl, List.mem_cons, List.not_mem_nil, or_false] at hw
  rcases hw with rfl | rfl | rfl | rfl | rfl | rfl | rfl | rfl | rfl | rfl | rfl | rfl | rfl | rfl | rfl <;> first
    | exact va_Nw.same rfl h hz
    | exact va_AO.moved (by rw [h]; exact Vm.Alike.refl _) hz
theorem sd_con.same {n0 : Nat} {ga : Nat → Nat} {u U : State} {H : Heap} (hv : u.vm = U.vm) (h : sd_con n0 ga u H) : sd_con n0 ga U H := by
  have ha : u.vm.Alike U.vm := by rw [hv]; exact Vm.Alike.refl _
  exact ⟨fun k hk => (h.1 k hk).moved ha, h.2.1.moved ha, fun k h1 h2 => (h.2.2.1 k h1 h2).same hv.symm, h.2.2.2.1.moved ha, h.2.2.2.2.1.moved ha, h.2.2.2.2.2.1.moved ha, fun w hw => sd_nsame w hw hv (h.2.2.2.2.2.2 w hw)⟩
theorem sd_blind (D : sd_G) (n0 : Nat) (bf : Nat → Nat) (h : ab_H) (as : List ab_V) : FrameBlind (sd_Pc D n0 bf h as) := by
  intro a U g mk q
  obtain ⟨q0, q1, q2, q3⟩ := q
  exact ⟨q0, q1.moved (U := U.calling g mk a) (Vm.Alike.refl U.vm), va_K.moved (u := U) (U := U.calling g mk a) (Vm.Alike.refl U.vm) q2, sd_con.same (u := U) (U := U.calling g mk a) rfl q3⟩
def sd_ws (y : Nat) : List Cond := Cond.code (gY y) (gB y) (gG y).2 (gR y) :: lw_tg
theorem sd_good {y : Nat} (hm : sd_mf y) : GoodIn lw_tg (sd_ws y) := by
  intro w hw
  rcases List.mem_cons.mp hw with rfl | hw
  · exact ⟨hm.1, good_of_word (List.mem_filter.mp hm.1).2⟩
  · exact ⟨hw, good_of_word (List.mem_filter.mp hw).2⟩
def sd_rm (M d : Nat) (h hf : ab_H) : Room := { frames := d + M, cells := ab_sz hf - ab_sz h, slots := ab_sl hf - ab_sl h, locals := 40 * (d + M) }
/-- the contract -/
def sd_Met (l : Launch) (D : sd_G) (n0 M d y : Nat) (as : List ab_V) (h : ab_H) (v : Option ab_V) (hf : ab_H) : Prop :=
  ∀ bf, Met l (gY y) (sd_ws y) (sd_rm M d h hf) (sd_Pc D n0 bf h as) (sd_Qc D n0 bf h v hf) (ab_sz hf - ab_sz h) (ab_sl hf - ab_sl h) (sd_fr n0 h bf)
theorem sd_pop : ∀ {n : Nat} {acc st as rest : List ab_V}, ab_pop n acc st = some (as, rest) → ∃ xs : List ab_V, xs.length = n ∧ st = xs ++ rest ∧ as = xs.reverse ++ acc
  | 0, acc, st, as, rest, e => by cases e; exact ⟨[], rfl, rfl, rfl⟩
  | n + 1, acc, [], as, rest, e => by cases e
  | n + 1, acc, v :: st, as, rest, e => by
    obtain ⟨xs, h1, h2, h3⟩ := sd_pop (show ab_pop n (v :: acc) st = some (as, rest) from e)
    exact ⟨v :: xs, by rw [List.length_cons, h1], by rw [h2]; rfl, by rw [h3, List.reverse_cons, List.append_assoc]; rfl⟩
theorem sd_pop0 {n : Nat} {st as rest : List ab_V} (e : ab_pop n [] st = some (as, rest)) : as.length = n ∧ st = as.reverse ++ rest := by
  obtain ⟨xs, h1, h2, h3⟩ := sd_pop e
  rw [List.append_nil] at h3
  subst h3
  exact ⟨by rw [List.length_reverse, h1], by rw [List.reverse_reverse, h2]⟩
section Step
variable {p : Program} {l : Launch} {e : Env} {R : Room} {s : State} {m : MethodId} {args : Array Value} {below : List Frame} {meth : Method} {c : Code} {Q : State → Prop} {D : sd_G} {n0 y : Nat} {h0 hf : ab_H} {bf0 : Nat → Nat}
/-- behind a call -/
theorem sd_cont {bf : Nat → Nat} {h h2 : ab_H} {H : Heap} {locs : List Loc} {pc : Nat} {ls : Array Slot} {st0 rest : List Value} {v : Option ab_V} {a : Array Value}
    (hr : va_Run p l e R s m args below meth c H locs (ab_sz h - ab_sz h0) (ab_sl h - ab_sl h0) (ab_sz h2 - ab_sz h) (ab_sl h2 - ab_sl h) (F0 m pc ls st0) rest (sd_Qc D n0 bf h v h2 a) (sd_fr n0 h bf)) (S : sd_S s D n0 h0 bf0 bf h H locs) (hsz : s.heap.size = ab_sz h0) (hle : sd_le h h2)
    (kk : ∀ (bf' : Nat → Nat) (H1 : Heap) (locs1 : List Loc), sd_S s D n0 h0 bf0 bf' h2 H1 locs1 → W p l e R s m args below meth c H1 locs1 (ab_sz h2 - ab_sz h0) (ab_sl h2 - ab_sl h0) Q (F0 m (pc + 3) ls ((v.map sd_v).toList ++ rest))) : W p l e R s m args below meth c H locs (ab_sz h - ab_sz h0) (ab_sl h - ab_sl h0) Q (F0 m pc ls st0) := by
  have hmo := sd_mono S hsz
  obtain ⟨r, S2, S3, S4, S5, S6, S7, S8⟩ := S
  intro T hT X
  obtain ⟨v', st₀, t, T', L, h0', X', hL, e1, e2, ⟨hv, ⟨bf', q1, q2⟩, q3, q4, q5⟩, st⟩ := hr T hT X
  have hv := Outcome.returned.inj hv
  subst hv
  rw [h0'] at q2 q3 q4 q5
  have hal : t.vm.Alike s.vm := by rw [← e2]; exact X'.warmed.alike.symm
  rw [← e1] at q1 q3 q4 q5
  have hHs := r.2.1
  have S' : sd_S s D n0 h0 bf0 bf' h2 T'.heap (locs ++ L) := by
    refine ⟨q1.moved hal, fun q hq => (q3 q hq).trans (S2 q hq), fun q hq hw => S3 q hq (q2 q (by omega) hw), fun q hq hw => (q4 q (by omega) (fun o => hw (S3 q hq o))).trans (S4 q hq hw), fun lc hlc => ?_, by omega, Nat.le_trans S7 hle.2.2, hle.1.symm.trans S8⟩
    rcases List.mem_append.mp hlc with h1 | h1
    · exact S5 lc h1
    · obtain ⟨g1, g2⟩ := hL lc h1
      refine ⟨g1, ?_⟩
      rcases Nat.lt_or_ge lc.base s.heap.size with g3 | g3
      · rcases g2 with g2 | g2
        · exact Or.inl (S3 _ g3 g2)
        · omega
      · exact Or.inr g3
  have ec : ab_sz h - ab_sz h0 + (ab_sz h2 - ab_sz h) = ab_sz h2 - ab_sz h0 := by have := hle.2.1; omega
  have es : ab_sl h - ab_sl h0 + (ab_sl h2 - ab_sl h) = ab_sl h2 - ab_sl h0 := by have := hle.2.2; omega
  rw [ec, es] at X'
  obtain ⟨t2, a1, b1⟩ := kk bf' T'.heap (locs ++ L) S' T' rfl X'
  exact ⟨t2, st t2 a1, b1⟩
theorem sd_pre {bf : Nat → Nat} {h : ab_H} {H : Heap} {locs : List Loc} (hK : sd_K D s) (hcon : sd_con n0 h0.1.2 s s.heap) (hn0 : n0 ≤ s.heap.size) (S : sd_S s D n0 h0 bf0 bf h H locs) (as : List ab_V) : ∀ U : State, U.heap = H → s.WarmedH U.vm → sd_Pc D n0 bf h as (as.map sd_v).toArray U := by
  intro U hU hW
  refine ⟨rfl, by rw [hU]; exact S.1.moved hW.alike, va_K.moved hW.alike hK, ?_⟩
  rw [S.2.2.2.2.2.2.2, hU]
  exact hcon.go hW hn0 S.2.1
/-- what every call asks -/
theorem sd_callB (hts : ∀ w ∈ lw_tg, w.before args s = true) {M d y2 w9 idx n : Nat} {h h2 : ab_H} (hm : sd_mf y2) (hl : Cond.methodLink (sd_nm w9) idx (gY y2) ∈ lw_tg) (hn : sd_np (gY y2) n) (hR1 : d + M + 1 ≤ R.frames) (hR2 : 40 * (d + M) + 40 ≤ R.locals) :
    CallB R s args (sd_nm w9) idx (gY y2) (gB y2) (gG y2).2 (gR y2) (sd_ws y2) (sd_rm M d h h2) (ab_sz h2 - ab_sz h) (ab_sl h2 - ab_sl h) n := by
  refine callB_of n hts (sd_good hm) rfl rfl rfl (hts _ hm.2.1) (hts _ hl) ⟨hm.2.2.2.1, hm.2.2.2.2.1, hn⟩ ⟨hR1, ?_⟩
  have := hm.2.2.2.2.2.2.2
  show 8 + ((gG y2).2 + 11) + 40 * (d + M) ≤ R.locals
  omega
theorem sd_rest {st : List ab_V} (h : Nat.ble (ab_cs st) 8 = true) (F : JFrame) (hF : F.monitorRoom = 0) : 2 * F.monitorRoom + ((st.map sd_v).map fun v => v.category).sum ≤ 8 := by
  rw [hF, sd_cs]
  have := Nat.le_of_ble_eq_true h
  omega
end Step
