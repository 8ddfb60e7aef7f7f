/-! ===== a StringBuilder as ONE cell: the contracts of its members ===== -/
theorem sd_met_run {l : Launch} {D : sd_G} {n0 M : Nat} {z : Bool} (hM2 : 2 ≤ M) (hP : ∀ y as h v hf f, 3 ≤ y → y ≤ 8 → ab_prim z y = some f → f as h = some (v, hf) → sd_Met l D n0 M 0 y as h v hf)
    {n d y : Nat} {as : List ab_V} {h hf : ab_H} {v : Option ab_V} (hy : y ∈ ml) (hmf : sd_mf y) (hb9 : ab_fit gG y as = true) (hc : ab_run gG z n d y 0 (ab_ent gG y as) [] h = some (v, hf)) : sd_Met l D n0 M d y as h v hf := by
  intro bf
  refine Met.ofW (cc := gB y) (maxL := (gG y).2) (ret := gR y) hmf.2.2.1 rfl ?_
  intro p e s m args below meth c s₁ B hml hv
  obtain ⟨rfl, hrep, hK, hcon⟩ := hv
  have hts := atoms_spec (ws := sd_ws y) B.pre
  have hown : s.vm.findClass (gY y).cls = some m.cls := findClass_of_methodNamed B.named
  rw [hmf.2.2.2.2.2.1] at hown
  have hsz : s.heap.size = ab_sz h := hrep.2.1
  have C2 : sd_cx p (headSpec (sd_ws y) (sd_rm M d h hf)).room s m (as.map sd_v).toArray meth c D n0 y h hf := by
    refine ⟨B.exec, B.bytes, hml, B.returns, hown, fun w hw => hts w (List.mem_cons_of_mem _ hw), B.notSynchronized, fun hn => ?_, hK, hcon, hrep.2.2.1, Nat.le_refl _, Nat.le_refl _, hsz⟩
    rw [← hmf.2.2.2.2.2.2.1 hn]
    exact (name_of_methodNamed B.named B.method).1
  have S0 : sd_S s D n0 h bf bf h s.heap [] := ⟨hrep, fun _ _ => rfl, fun _ _ o => o, fun _ _ _ => rfl, fun _ q => (by cases q), Nat.le_refl _, Nat.le_refl _, rfl⟩
  have hlen : (lg_sl (as.map sd_v)).length ≤ (gG y).2 := by
    rw [sd_sl_len]
    exact Nat.le_of_ble_eq_true hb9
  have hl0 := lv_entry (as.map sd_v) hlen
  rw [lg_entry_eq]
  have W0 := sd_main l D n0 M z hM2 hP n d y hy (below := below) (e := e) C2 (show d + M ≤ d + M from Nat.le_refl _) (show 40 * (d + M) ≤ 40 * (d + M) from Nat.le_refl _) (fun g1 g2 g3 g4 => sg_ret C2 g1 g2 g3 g4 rfl) hc S0 (sd_ent hl0 _) (sd_ml_p0 y hy)
  unfold sd_W at W0
  rw [Nat.sub_self, Nat.sub_self] at W0
  exact W0
theorem qb_np {y : Nat} (h1 : 3 ≤ y) (h2 : y ≤ 8) : ab_prim false y = none := by
  obtain rfl | rfl | rfl | rfl | rfl | rfl : y = 3 ∨ y = 4 ∨ y = 5 ∨ y = 6 ∨ y = 7 ∨ y = 8 := by omega
  all_goals rfl
theorem qb_ml {y : Nat} (h1 : 3 ≤ y) (h2 : y ≤ 8) : y ∈ ml ∧ sd_mf y := by
  obtain rfl | rfl | rfl | rfl | rfl | rfl : y = 3 ∨ y = 4 ∨ y = 5 ∨ y = 6 ∨ y = 7 ∨ y = 8 := by omega
  · exact ⟨by decide, mf_3⟩
  · exact ⟨by decide, mf_4⟩
  · exact ⟨by decide, mf_5⟩
  · exact ⟨by decide, mf_6⟩
  · exact ⟨by decide, mf_7⟩
  · exact ⟨by decide, mf_8⟩
theorem qb_met {l : Launch} {D : sd_G} {n0 y : Nat} (h1 : 3 ≤ y) (h2 : y ≤ 8) {as : List ab_V} {h hf : ab_H} {v : Option ab_V} (e : ab_cl gG false 20 y as h = some (v, hf)) : sd_Met l D n0 22 0 y as h v hf := by
  rcases ab_cl_inv e with ⟨f, hf', -⟩ | ⟨-, hb, e1⟩
  · rw [qb_np h1 h2] at hf'; cases hf'
  · obtain ⟨n, e2⟩ := ab_ev_iff.mp e1
    obtain ⟨hy, hmf⟩ := qb_ml h1 h2
    exact sd_met_run (M := 2) (d := 20) (Nat.le_refl _) (fun y as h v hf f g1 g2 g3 _ => by rw [qb_np g1 g2] at g3; cases g3) hy hmf hb e2
/-- from a contract over other heaps -/
theorem qb_conv {l : Launch} {D : sd_G} {n0 y : Nat} {as : List ab_V} {h hf : ab_H} {v : Option ab_V} {bf : Nat → Nat} {I : Type} (h' hf' : I → ab_H) (C : I → Prop)
    (z : ∀ i, C i → (h' i).1 = h.1 ∧ ab_sz (h' i) = ab_sz h ∧ ab_sl (h' i) = ab_sl h ∧ ab_sz (hf' i) = ab_sz hf ∧ ab_sl (hf' i) = ab_sl hf)
    (HM : ∀ i, C i → sd_Met l D n0 22 0 y as (h' i) v (hf' i))
    (hA : ∀ U H, sd_rep D n0 bf U h H → ∃ i, C i ∧ sd_rep D n0 bf U (h' i) H)
    (hO : ∀ i, C i → ∀ q, sd_own h bf q ↔ sd_own (h' i) bf q)
    (hB : ∀ i, C i → ∀ (s t : State) (H0 H : Heap) (bf' : Nat → Nat), sd_rep D n0 bf s h H0 → sd_rep D n0 bf' t (hf' i) H → ∃ bf'', sd_rep D n0 bf'' t hf H ∧ ∀ q, sd_own hf bf'' q → sd_own (hf' i) bf' q) :
    Met l (gY y) (sd_ws y) (sd_rm 22 0 h hf) (sd_Pc D n0 bf h as) (sd_Qc D n0 bf h v hf) (ab_sz hf - ab_sz h) (ab_sl hf - ab_sl h) (sd_fr n0 h bf) := by
  have M1 : ∀ i : { i : I // C i }, MetFree l (gY y) (headSpec (sd_ws y) (sd_rm 22 0 h hf)) (sd_Pc D n0 bf (h' i.1) as) (fun _ _ _ _ _ => True) (fun a st o t => sd_Qc D n0 bf (h' i.1) v (hf' i.1) a st o t ∧ ∃ L, FrameEnd st o t L (ab_sz hf - ab_sz h) (ab_sl hf - ab_sl h) ∧ ∀ q ∈ L, sd_fr n0 (h' i.1) bf q.base) := by
    intro i
    obtain ⟨z1, z2, z3, z4, z5⟩ := z i.1 i.2
    have := HM i.1 i.2 bf
    unfold sd_rm at this
    rw [z2, z3, z4, z5] at this
    exact this
  refine MetFree.mono (MetFree.ex M1) ?_ (fun _ _ _ _ _ _ => trivial) ?_
  · rintro a s ⟨q0, q1, q2, q3⟩
    obtain ⟨i, hi, r⟩ := hA s s.heap q1
    refine ⟨⟨i, hi⟩, q0, r, q2, ?_⟩
    rw [(z i hi).1]
    exact q3
  · rintro a s o t ⟨q0, q1, q2, q3⟩ ⟨⟨i, hi⟩, -, ⟨o1, ⟨bf', o2, o3⟩, o4, o5, o6⟩, L, o7, o8⟩
    obtain ⟨bf'', g1, g2⟩ := hB i hi s t s.heap t.heap bf' q1 o2
    refine ⟨⟨o1, ⟨bf'', g1, fun q hq ho => (hO i hi q).mpr (o3 q hq (g2 q ho))⟩, o4, fun q hq ho => o5 q hq (fun h9 => ho ((hO i hi q).mpr h9)), o6⟩, L, o7, fun q hq => ?_⟩
    obtain ⟨u1, u2⟩ := o8 q hq
    refine ⟨u1, u2.imp (fun h9 => (hO i hi _).mpr h9) (fun h9 => ?_)⟩
    rw [← (z i hi).2.1]
    exact h9
theorem qb_v {q n : Nat} {x : Int32} : ∀ k, k < 4 → sd_sbv q n x k = sd_v (qb_f q n x k) := by
  intro k hk
  match k, hk with
  | 0, _ => rfl
  | 1, _ => rfl
  | 2, _ => rfl
  | 3, _ => rfl
def qb_txt (n : Nat) (t f : Nat → Int32) : Prop := ∀ i, i < n → 0 ≤ (t i).toInt ∧ (t i).toInt < 256 ∧ f i = (t i).toInt8.toInt32
/-- into two cells -/
theorem qb_A {D : sd_G} {n0 : Nat} {bf : Nat → Nat} {h : ab_H} {p m n : Nat} {t : Nat → Int32} (hc : ab_ce h p = some (ab_cB m n t)) {U : State} {H : Heap} (r : sd_rep D n0 bf U h H) :
    (n0 ≤ p ∧ n0 ≤ bf p ∧ n ≤ m ∧ p < ab_sz h ∧ bf p < ab_sz h ∧ bf p ≠ p ∧ ab_ce h (bf p) = none ∧ h.1.1 = n0) ∧ ∃ x f, qb_txt n t f ∧ sd_rep D n0 bf U (qb_h h.1 (ab_sz h) (ab_sl h) (ab_ce h) p (bf p) m n x f) H := by
  have hr := r
  obtain ⟨r1, r2, r3, r4, r5, r6⟩ := r
  obtain ⟨h1, h2, h3, ⟨x, h4⟩, f, h5, h6, h7⟩ := r4 p _ hc
  have hB : sd_isB h p := ⟨m, n, t, hc⟩
  have hn := r5 p hB
  have hne : bf p ≠ p := fun e => by rw [e, hc] at hn; cases hn
  refine ⟨⟨h1, h2, h3, by rw [← r2]; exact (r4 p _ hc).lt, by rw [← r2]; exact (Array.getElem?_eq_some_iff.mp h5).1, hne, hn, r1⟩, x, f, h7, r1, r2, r3, ?_, ?_, ?_⟩
  · intro a c e
    by_cases ha : a = p
    · subst ha
      rw [qb_cp] at e
      cases e
      exact Or.inr ⟨h1, by decide, h4.to qb_v⟩
    · by_cases ha2 : a = bf p
      · subst ha2
        rw [qb_cq hne] at e
        cases e
        exact Or.inr ⟨h2, by decide, h5, h6⟩
      · rw [qb_co ha ha2] at e
        exact r4 a c e
  · rintro a ⟨m1, n1, t1, e⟩
    have ha : a ≠ p := fun ha => by subst ha; rw [qb_cp] at e; cases e
    have ha2 : a ≠ bf p := fun ha2 => by subst ha2; rw [qb_cq hne] at e; cases e
    rw [qb_co ha ha2] at e
    have hBa : sd_isB h a := ⟨m1, n1, t1, e⟩
    have hna := r5 a hBa
    rw [qb_co (fun e9 => by rw [e9, hc] at hna; cases hna) (fun e9 => ha (r6 a p hBa hB e9))]
    exact hna
  · rintro a b ⟨m1, n1, t1, e⟩ ⟨m2, n2, t2, e2⟩ e3
    have ha : a ≠ p := fun ha => by subst ha; rw [qb_cp] at e; cases e
    have ha2 : a ≠ bf p := fun ha2 => by subst ha2; rw [qb_cq hne] at e; cases e
    have hb : b ≠ p := fun ha => by subst ha; rw [qb_cp] at e2; cases e2
    have hb2 : b ≠ bf p := fun ha2 => by subst ha2; rw [qb_cq hne] at e2; cases e2
    rw [qb_co ha ha2] at e
    rw [qb_co hb hb2] at e2
    exact r6 a b ⟨m1, n1, t1, e⟩ ⟨m2, n2, t2, e2⟩ e3
theorem qb_own {h : ab_H} {bf : Nat → Nat} {p m n : Nat} {t : Nat → Int32} (hc : ab_ce h p = some (ab_cB m n t)) (hne : bf p ≠ p) (hn : ab_ce h (bf p) = none) {x : Int32} {f : Nat → Int32} (q : Nat) : sd_own h bf q ↔ sd_own (qb_h h.1 (ab_sz h) (ab_sl h) (ab_ce h) p (bf p) m n x f) bf q := by
  constructor
  · rintro (⟨c, e⟩ | ⟨a, ⟨m1, n1, t1, e⟩, rfl⟩)
    · by_cases h1 : q = p
      · rw [h1]; exact Or.inl ⟨_, qb_cp⟩
      · exact Or.inl ⟨c, by rw [qb_co h1 (fun e9 => by rw [e9, hn] at e; cases e)]; exact e⟩
    · by_cases h1 : a = p
      · rw [h1]; exact Or.inl ⟨_, qb_cq hne⟩
      · exact Or.inr ⟨a, ⟨m1, n1, t1, by rw [qb_co h1 (fun e9 => by rw [e9, hn] at e; cases e)]; exact e⟩, rfl⟩
  · rintro (⟨c, e⟩ | ⟨a, ⟨m1, n1, t1, e⟩, rfl⟩)
    · by_cases h1 : q = p
      · rw [h1]; exact Or.inl ⟨_, hc⟩
      · by_cases h2 : q = bf p
        · exact Or.inr ⟨p, ⟨m, n, t, hc⟩, h2.symm⟩
        · rw [qb_co h1 h2] at e
          exact Or.inl ⟨c, e⟩
    · have ha : a ≠ p := fun ha => by subst ha; rw [qb_cp] at e; cases e
      have ha2 : a ≠ bf p := fun ha2 => by subst ha2; rw [qb_cq hne] at e; cases e
      rw [qb_co ha ha2] at e
      exact Or.inr ⟨a, ⟨m1, n1, t1, e⟩, rfl⟩
/-- back into one -/
theorem qb_B {D : sd_G} {n0 : Nat} {bf' : Nat → Nat} {h hf : ab_H} {p q' m' n' : Nat} {t' f' : Nat → Int32} {x' : Int32} {sz' sl' : Nat} {B' : Nat → Option ab_C} {U : State} {H : Heap} (r : sd_rep D n0 bf' U (qb_h h.1 sz' sl' B' p q' m' n' x' f') H)
    (hce : ∀ a, ab_ce hf a = if a = p then some (ab_cB m' n' t') else ab_ce h a) (h1 : hf.1 = h.1) (hsz : ab_sz hf = sz') (hB : ∀ a c, a ≠ p → ab_ce h a = some c → B' a = some c) (hq : ab_ce h q' = none) (hq0 : n0 ≤ q') (hqp : q' ≠ p) (hnm : n' ≤ m') (ht : qb_txt n' t' f') :
    ∃ bf'', sd_rep D n0 bf'' U hf H ∧ ∀ q, sd_own hf bf'' q → sd_own (qb_h h.1 sz' sl' B' p q' m' n' x' f') bf' q := by
  obtain ⟨r1, r2, r3, r4, r5, r6⟩ := r
  have hk : ∀ a c, a ≠ p → ab_ce h a = some c → ab_ce (qb_h h.1 sz' sl' B' p q' m' n' x' f') a = some c := fun a c ha e => by
    rw [qb_co ha (fun e9 => by rw [e9, hq] at e; cases e)]
    exact hB a c ha e
  have hnb : ∀ a, ab_ce (qb_h h.1 sz' sl' B' p q' m' n' x' f') a = none → ab_ce hf a = none := fun a e => by
    rw [hce]
    by_cases ha : a = p
    · rw [ha, qb_cp] at e; cases e
    · rw [if_neg ha]
      cases e9 : ab_ce h a with
      | none => rfl
      | some c => rw [hk a c ha e9] at e; cases e
  have hisB : ∀ a, sd_isB hf a → a = p ∨ a ≠ p ∧ sd_isB (qb_h h.1 sz' sl' B' p q' m' n' x' f') a := by
    rintro a ⟨m1, n1, t1, e⟩
    rw [hce] at e
    by_cases ha : a = p
    · exact Or.inl ha
    · rw [if_neg ha] at e
      exact Or.inr ⟨ha, m1, n1, t1, hk a _ ha e⟩
  have hup : ∀ a, a ≠ p → ab_up bf' p q' a = bf' a := fun a ha => if_neg ha
  have hup0 : ab_up bf' p q' p = q' := if_pos rfl
  refine ⟨ab_up bf' p q', ⟨?_, ?_, r3, ?_, ?_, ?_⟩, ?_⟩
  · rw [← r1]; unfold ab_n0; rw [h1]; rfl
  · rw [hsz]; exact r2
  · intro a c e
    rw [hce] at e
    by_cases ha : a = p
    · subst ha
      rw [if_pos rfl] at e
      cases e
      rcases r4 a _ qb_cp with ⟨-, g1, -⟩ | ⟨g1, -, g2⟩
      · omega
      · rcases r4 q' _ (qb_cq hqp) with ⟨g3, -⟩ | ⟨-, -, g4, g5⟩
        · omega
        · refine ⟨g1, by rw [hup0]; exact hq0, hnm, ⟨x', ?_⟩, f', ?_, g5, ht⟩
          · rw [hup0]
            exact g2.to (fun k hk => (qb_v k hk).symm)
          · rw [hup0]
            exact g4
    · rw [if_neg ha] at e
      exact (r4 a c (hk a c ha e)).kept (fun _ _ => rfl) rfl (fun _ => ⟨hup a ha, rfl⟩)
  · intro a ha
    rcases hisB a ha with rfl | ⟨h2, h3⟩
    · rw [hup0, hce, if_neg hqp]; exact hq
    · rw [hup a h2]
      exact hnb _ (r5 a h3)
  · intro a b ha hb e
    rcases hisB a ha with rfl | ⟨h2, h3⟩
    · rcases hisB b hb with rfl | ⟨h4, h5⟩
      · rfl
      · rw [hup0, hup b h4] at e
        have := r5 b h5
        rw [← e, qb_cq hqp] at this
        cases this
    · rcases hisB b hb with rfl | ⟨h4, h5⟩
      · rw [hup0, hup a h2] at e
        have := r5 a h3
        rw [e, qb_cq hqp] at this
        cases this
      · rw [hup a h2, hup b h4] at e
        exact r6 a b h3 h5 e
  · rintro q (⟨c, e⟩ | ⟨a, ha, rfl⟩)
    · rw [hce] at e
      by_cases hqp' : q = p
      · rw [hqp']; exact Or.inl ⟨_, qb_cp⟩
      · rw [if_neg hqp'] at e
        exact Or.inl ⟨c, hk q c hqp' e⟩
    · rcases hisB a ha with rfl | ⟨h2, h3⟩
      · rw [hup0]; exact Or.inl ⟨_, qb_cq hqp⟩
      · rw [hup a h2]; exact Or.inr ⟨a, h3, rfl⟩
/-- what is known of a StringBuilder's two cells -/
def qb_F (h : ab_H) (n0 p q m n : Nat) : Prop := n0 ≤ p ∧ n0 ≤ q ∧ n ≤ m ∧ p < ab_sz h ∧ q < ab_sz h ∧ q ≠ p ∧ ab_ce h q = none ∧ h.1.1 = n0 ∧ ∀ a c, ab_ce h a = some c → a < ab_sz h
def qb_E (h hf : ab_H) (n0 y : Nat) (as : List ab_V) (v : Option ab_V) (p q m n m' n' : Nat) (t' : Nat → Int32) (x : Int32) (f : Nat → Int32) (x' : Int32) (f' : Nat → Int32) (B' : Nat → Option ab_C) (q' : Nat) : Prop :=
  ab_cl gG false 20 y as (qb_h h.1 (ab_sz h) (ab_sl h) (ab_ce h) p q m n x f) = some (v, qb_h h.1 (ab_sz hf) (ab_sl hf) B' p q' m' n' x' f') ∧ (∀ a c, a ≠ p → ab_ce h a = some c → B' a = some c) ∧ ab_ce h q' = none ∧ n0 ≤ q' ∧ q' ≠ p ∧ n' ≤ m' ∧ qb_txt n' t' f'
theorem qb_all {l : Launch} {D : sd_G} {n0 y : Nat} (y1 : 3 ≤ y) (y2 : y ≤ 8) {as : List ab_V} {h hf : ab_H} {v : Option ab_V} {p m n m' n' : Nat} {t t' : Nat → Int32} (hc : ab_ce h p = some (ab_cB m n t))
    (hce : ∀ a, ab_ce hf a = if a = p then some (ab_cB m' n' t') else ab_ce h a) (h1 : hf.1 = h.1)
    (key : ∀ q x f, qb_F h n0 p q m n → qb_txt n t f → ∃ x' f' B' q', qb_E h hf n0 y as v p q m n m' n' t' x f x' f' B' q') : sd_Met l D n0 22 0 y as h v hf := by
  intro bf
  refine qb_conv (I := Int32 × (Nat → Int32) × Int32 × (Nat → Int32) × (Nat → Option ab_C) × Nat) (fun i => qb_h h.1 (ab_sz h) (ab_sl h) (ab_ce h) p (bf p) m n i.1 i.2.1) (fun i => qb_h h.1 (ab_sz hf) (ab_sl hf) i.2.2.2.2.1 p i.2.2.2.2.2 m' n' i.2.2.1 i.2.2.2.1)
    (fun i => (bf p ≠ p ∧ ab_ce h (bf p) = none) ∧ qb_E h hf n0 y as v p (bf p) m n m' n' t' i.1 i.2.1 i.2.2.1 i.2.2.2.1 i.2.2.2.2.1 i.2.2.2.2.2) (fun i _ => ⟨rfl, rfl, rfl, rfl, rfl⟩) (fun i hi => qb_met y1 y2 hi.2.1) ?_ (fun i hi q => qb_own hc hi.1.1 hi.1.2 q) ?_
  · intro U H r
    obtain ⟨⟨g1, g2, g3, g4, g5, g6, g7, g8⟩, x, f, ht, r'⟩ := qb_A hc r
    obtain ⟨x', f', B', q', hE⟩ := key (bf p) x f ⟨g1, g2, g3, g4, g5, g6, g7, g8, fun a c e => by rw [← r.2.1]; exact (r.2.2.2.1 a c e).lt⟩ ht
    exact ⟨(x, f, x', f', B', q'), ⟨⟨g6, g7⟩, hE⟩, r'⟩
  · rintro ⟨x, f, x', f', B', q'⟩ ⟨-, -, e2, e3, e4, e5, e6, e7⟩ s t9 H0 H bf' r0 r
    exact qb_B r hce h1 rfl e2 e3 e4 e5 e6 e7
theorem qb_grow {l : Launch} {D : sd_G} {n0 y : Nat} (y1 : 3 ≤ y) (y2 : y ≤ 8) {as : List ab_V} {h : ab_H} {v : Option ab_V} {p m n k : Nat} {t t' : Nat → Int32} (hc : ab_ce h p = some (ab_cB m n t))
    (key : ∀ q x f, qb_F h n0 p q m n → qb_txt n t f → ∃ B' q' m' f' f'' sz' sl', qb_R k (ab_ce h) q m f (ab_sz h) (ab_sl h) B' q' m' f' sz' sl' ∧ k ≤ m' ∧ qb_txt k t' f'' ∧ ab_cl gG false 20 y as (qb_h h.1 (ab_sz h) (ab_sl h) (ab_ce h) p q m n x f) = some (v, qb_h h.1 sz' sl' B' p q' m' k x f'')) :
    sd_Met l D n0 22 0 y as h v (ab_grow h p m k k t') := by
  by_cases hk : k ≤ m
  · have e : ab_grow h p m k k t' = ab_put h p (ab_cB m k t') := if_pos hk
    rw [e]
    refine qb_all y1 y2 hc (m' := m) (n' := k) (t' := t') (fun a => ab_ce_put _ _ _ _) rfl (fun q x f hF ht => ?_)
    obtain ⟨B', q', m', f', f'', sz', sl', g1, g2, g3, g4⟩ := key q x f hF ht
    obtain ⟨f1, f2, f3, f4, f5, f6, f7, f8, f9⟩ := hF
    rcases g1 with ⟨-, rfl, rfl, rfl, rfl, rfl, rfl⟩ | ⟨g9, -⟩
    · exact ⟨x, f'', _, _, g4, fun a c _ e => e, f7, f2, f6, hk, g3⟩
    · omega
  · have e : ab_grow h p m k k t' = (h.1, h.2.1 + 1, h.2.2.1 + ab_bcap k m, ab_up h.2.2.2 p (some (ab_cB (ab_bcap k m) k t'))) := if_neg hk
    rw [e]
    refine qb_all y1 y2 hc (m' := ab_bcap k m) (n' := k) (t' := t') (fun a => rfl) rfl (fun q x f hF ht => ?_)
    obtain ⟨B', q', m', f', f'', sz', sl', g1, g2, g3, g4⟩ := key q x f hF ht
    obtain ⟨f1, f2, f3, f4, f5, f6, f7, f8, f9⟩ := hF
    rcases g1 with ⟨g9, -⟩ | ⟨-, rfl, rfl, rfl, rfl, rfl, rfl⟩
    · omega
    · refine ⟨x, f'', _, _, g4, fun a c _ e => ?_, ?_, by omega, by omega, g2, g3⟩
      · rw [← e]; exact if_neg (fun e9 => by rw [e9, f7] at e; cases e)
      · cases e9 : ab_ce h (ab_sz h) with
        | none => rfl
        | some c => have := f9 _ _ e9; omega
theorem qb_dig {v i : Nat} (hv : v < 1000) (hi : i < ab_nd v) : 0 ≤ (ab_dig v i).toInt ∧ (ab_dig v i).toInt < 256 := by
  have h : ∃ k, k < 10 ∧ ab_dig v i = nI (48 + k) := by
    unfold ab_dig
    refine ⟨_, ?_, rfl⟩
    split
    · omega
    · split
      · split <;> omega
      · split
        · omega
        · split <;> omega
  obtain ⟨k, hk, e⟩ := h
  rw [e, nI_toInt (by omega)]
  omega
theorem qb_tv {c : Int32} (h0 : 0 ≤ c.toInt) : c = nI c.toNatClampNeg := by
  obtain ⟨j, hj, e⟩ := nI_of (x := c) (fun q => by rw [Int32.lt_iff_toInt_lt, Int32.toInt_zero] at q; omega)
  rw [e, nI_clamp hj]
/-- the six members' contracts -/
theorem qb_P {l : Launch} {D : sd_G} {n0 : Nat} : ∀ y as h v hf f, 3 ≤ y → y ≤ 8 → ab_prim true y = some f → f as h = some (v, hf) → sd_Met l D n0 22 0 y as h v hf := by
  intro y as h v hf f y1 y2 hf9 e
  obtain rfl | rfl | rfl | rfl | rfl | rfl : y = 3 ∨ y = 4 ∨ y = 5 ∨ y = 6 ∨ y = 7 ∨ y = 8 := by omega
  · cases hf9
    unfold ab_b3 at e
    split at e
    · rename_i p
      split at e
      · rename_i fs hc
        split at e
        · rename_i hcond
          obtain ⟨c1, c2, c3, c4, c5⟩ := hcond
          cases e
          intro bf
          have hup : ∀ a, ab_ce ((h.1, h.2.1, h.2.2.1, ab_up h.2.2.2 p (some (ab_cO 8 (ab_birth 8)))) : ab_H) a = if a = p then some (ab_cO 8 (ab_birth 8)) else ab_ce h a := fun a => rfl
          have hv : ∀ j, j < 4 → sd_v (fs j) = sd_v (ab_birth 8 j) := by
            intro j hj
            match j, hj with
            | 0, _ => rw [c2]; rfl
            | 1, _ => rw [c3]; rfl
            | 2, _ => rw [c4]; rfl
            | 3, _ => rw [c5]; rfl
          have hisB : ∀ a, sd_isB ((h.1, h.2.1, h.2.2.1, ab_up h.2.2.2 p (some (ab_cO 8 (ab_birth 8)))) : ab_H) a → a ≠ p ∧ sd_isB h a := by
            rintro a ⟨m1, n1, t1, e⟩
            rw [hup] at e
            by_cases ha : a = p
            · rw [if_pos ha] at e; cases e
            · rw [if_neg ha] at e; exact ⟨ha, m1, n1, t1, e⟩
          refine qb_conv (I := Unit) (fun _ => (h.1, h.2.1, h.2.2.1, ab_up h.2.2.2 p (some (ab_cO 8 (ab_birth 8))))) (fun _ => qb_h h.1 (ab_sz h + 1) (ab_sl h + 16) (ab_up h.2.2.2 p (some (ab_cO 8 (ab_birth 8)))) p (ab_sz h) 16 0 0 (fun _ => 0)) (fun _ => p < ab_sz h ∧ n0 ≤ ab_sz h) (fun _ _ => ⟨rfl, rfl, rfl, rfl, rfl⟩) (fun _ hi => qb_met (by omega) (by omega) (qb_3 18 (h := (h.1, h.2.1, h.2.2.1, ab_up h.2.2.2 p (some (ab_cO 8 (ab_birth 8))))) c1 ((hup p).trans (if_pos rfl)) hi.1)) ?_ ?_ ?_
          · intro U H r
            have hr := r
            obtain ⟨r1, r2, r3, r4, r5, r6⟩ := r
            refine ⟨(), ⟨by rw [← r2]; exact (r4 p _ hc).lt, by rw [← r2]; exact r3⟩, r1, r2, r3, ?_, ?_, ?_⟩
            · intro a c e
              rw [hup] at e
              by_cases ha : a = p
              · rw [if_pos ha] at e
                cases e
                rw [ha]
                rcases r4 p _ hc with ⟨-, g1, -⟩ | ⟨g1, -, g2⟩
                · omega
                · exact Or.inr ⟨g1, by decide, g2.to hv⟩
              · rw [if_neg ha] at e
                exact r4 a c e
            · intro a ha
              obtain ⟨h2, h3⟩ := hisB a ha
              have := r5 a h3
              rw [hup, if_neg (fun e9 => by rw [e9, hc] at this; cases this)]
              exact this
            · intro a b ha hb e
              exact r6 a b (hisB a ha).2 (hisB b hb).2 e
          · intro _ _ q
            constructor
            · rintro (⟨c, e⟩ | ⟨a, ⟨m1, n1, t1, e⟩, rfl⟩)
              · refine Or.inl ?_
                rw [hup]
                by_cases hq : q = p
                · rw [if_pos hq]; exact ⟨_, rfl⟩
                · rw [if_neg hq]; exact ⟨c, e⟩
              · exact Or.inr ⟨a, ⟨m1, n1, t1, by rw [hup, if_neg (fun e9 => by rw [e9, hc] at e; cases e)]; exact e⟩, rfl⟩
            · rintro (⟨c, e⟩ | ⟨a, ha, rfl⟩)
              · rw [hup] at e
                by_cases hq : q = p
                · rw [hq]; exact Or.inl ⟨_, hc⟩
                · rw [if_neg hq] at e; exact Or.inl ⟨c, e⟩
              · exact Or.inr ⟨a, (hisB a ha).2, rfl⟩
          · rintro _ ⟨i1, i2⟩ s t H0 H bf' r0 r
            refine qb_B (h := h) (t' := fun _ => 0) r (fun a => rfl) rfl rfl (fun a c ha e => ?_) ?_ i2 (by omega) (by omega) (fun i hi => by omega)
            · rw [← e]; exact if_neg ha
            · cases e9 : ab_ce h (ab_sz h) with
              | none => rfl
              | some c => have := (r0.2.2.2.1 _ _ e9).lt; have := r0.2.1; omega
        · cases e
      · cases e
    · cases e
  · cases hf9
    unfold ab_b4 at e
    split at e
    · rename_i p c
      split at e
      · rename_i m n t hc
        split at e
        · rename_i hcond
          obtain ⟨c1, c2, c3, c4, c5⟩ := hcond
          cases e
          refine qb_grow y1 y2 hc (fun q x f hF ht => ?_)
          obtain ⟨f1, f2, f3, f4, f5, f6, f7, f8, f9⟩ := hF
          obtain ⟨B', q', m', f', sz', sl', g1, g2, g3, g4⟩ := qb_4 (G := h.1) (sl := ab_sl h) (B := ab_ce h) (x := x) (f := f) 15 (by omega) (by omega) f6 f4 f5 c4 c5 c3
          refine ⟨B', q', m', f', _, sz', sl', g1, g2, fun i hi => ?_, g4⟩
          unfold ab_up
          by_cases h1 : i = n
          · rw [if_pos h1, if_pos h1]
            exact ⟨c2, c3, rfl⟩
          · rw [if_neg h1, if_neg h1, g3 i (by omega)]
            exact ht i (by omega)
        · cases e
      · cases e
    · cases e
  · cases hf9
    unfold ab_b5 at e
    split at e
    · rename_i p c
      split at e
      · rename_i m n t hc
        split at e
        · rename_i hcond
          obtain ⟨c1, c2, c3, c4, c5, c6⟩ := hcond
          cases e
          have hcv := qb_tv c2
          have hc3 : c.toNatClampNeg < 1000 := by
            have := congrArg Int32.toInt hcv
            rw [nI_toInt (by have := Int32.toInt_lt c; have := Int32.toNatClampNeg_lt c; omega)] at this
            omega
          refine qb_grow y1 y2 hc (fun q x f hF ht => ?_)
          obtain ⟨f1, f2, f3, f4, f5, f6, f7, f8, f9⟩ := hF
          have hT : qb_T h.1 (ab_ce h) p q ∧ h.1.2 31 < ab_sz h ∧ h.1.2 32 < ab_sz h := by
            unfold ab_dgt ab_ga at c6
            split at c6
            · rename_i o t9 e1 e2
              refine ⟨⟨o, t9, e1, e2, c6, fun e9 => ?_, fun e9 => ?_, fun e9 => ?_, fun e9 => ?_⟩, f9 _ _ e1, f9 _ _ e2⟩
              · rw [e9, hc] at e1; cases e1
              · rw [e9, f7] at e1; cases e1
              · rw [e9, hc] at e2; cases e2
              · rw [e9, f7] at e2; cases e2
            · cases c6
          obtain ⟨B', q', m', f', f'', sz', sl', g1, g2, g3, g4, g5, g6⟩ := qb_5 (G := h.1) (sl := ab_sl h) (x := x) (f := f) 15 hT.1 hT.2 (by omega) (by omega) f6 f4 f5 c4 c5 hc3
          rw [← hcv] at g6
          refine ⟨B', q', m', f', f'', sz', sl', g1, g2, fun i hi => ?_, g6⟩
          dsimp only
          by_cases h1 : n ≤ i
          · rw [if_pos ⟨h1, hi⟩]
            have g7 := g5 (i - n) (by omega)
            rw [show n + (i - n) = i by omega] at g7
            obtain ⟨d1, d2⟩ := qb_dig hc3 (show i - n < ab_nd c.toNatClampNeg by omega)
            exact ⟨d1, d2, g7⟩
          · rw [if_neg (fun q9 => h1 q9.1), g4 i (by omega), g3 i (by omega)]
            exact ht i (by omega)
        · cases e
      · cases e
    · cases e
  · cases hf9
    unfold ab_b6 at e
    split at e
    · rename_i p i
      split at e
      · rename_i m n t hc
        split at e
        · rename_i hcond
          obtain ⟨c1, c2, c3⟩ := hcond
          cases e
          unfold ab_in at c1
          rw [Bool.and_eq_true, decide_eq_true_eq, decide_eq_true_eq] at c1
          have hcv := qb_tv c1.1
          have hin : i.toNatClampNeg < n := by
            have := congrArg Int32.toInt hcv
            have h9 : i.toNatClampNeg < 2 ^ 31 := Int32.toNatClampNeg_lt i
            rw [nI_toInt h9] at this
            omega
          refine qb_all y1 y2 hc (m' := m) (n' := n) (t' := t) (fun a => by split; · rename_i e9; rw [e9]; exact hc
                                                                            · rfl) rfl (fun q x f hF ht => ?_)
          obtain ⟨f1, f2, f3, f4, f5, f6, f7, f8, f9⟩ := hF
          obtain ⟨t1, t2, t3⟩ := ht _ hin
          have htv := qb_tv t1
          have hk : (t i.toNatClampNeg).toNatClampNeg < 256 := by
            have := congrArg Int32.toInt htv
            rw [nI_toInt (Int32.toNatClampNeg_lt _)] at this
            omega
          have g := qb_6 (G := h.1) (sz := ab_sz h) (sl := ab_sl h) (B := ab_ce h) (x := x) 17 f6 c3 f3 hin hk (by rw [← htv]; exact t3)
          rw [← hcv, ← htv] at g
          exact ⟨x, f, _, _, g, fun a c _ e => e, f7, f2, f6, f3, ht⟩
        · cases e
      · cases e
    · cases e
  · cases hf9
    unfold ab_b7 at e
    split at e
    · rename_i p
      split at e
      · rename_i m n t hc
        split at e
        · rename_i hcond
          cases e
          refine qb_all y1 y2 hc (m' := m) (n' := n) (t' := t) (fun a => by split; · rename_i e9; rw [e9]; exact hc
                                                                            · rfl) rfl (fun q x f hF ht => ?_)
          obtain ⟨f1, f2, f3, f4, f5, f6, f7, f8, f9⟩ := hF
          exact ⟨x, f, _, _, qb_7 19, fun a c _ e => e, f7, f2, f6, f3, ht⟩
        · cases e
      · cases e
    · cases e
  · cases hf9
    unfold ab_b8 at e
    split at e
    · rename_i p i
      split at e
      · rename_i m n t hc
        split at e
        · rename_i hcond
          obtain ⟨c1, c2, c3, c4⟩ := hcond
          subst c2
          cases e
          refine qb_all y1 y2 hc (m' := m) (n' := 0) (t' := fun _ => 0) (fun a => ab_ce_put _ _ _ _) rfl (fun q x f hF ht => ?_)
          obtain ⟨f1, f2, f3, f4, f5, f6, f7, f8, f9⟩ := hF
          obtain ⟨x', g⟩ := qb_8 (G := h.1) (sz := ab_sz h) (sl := ab_sl h) (B := ab_ce h) (x := x) (f := f) 16 (by omega) f6 c3 c4
          exact ⟨x', f, _, _, g, fun a c _ e => e, f7, f2, f6, by omega, fun i hi => by omega⟩
        · cases e
      · cases e
    · cases e
