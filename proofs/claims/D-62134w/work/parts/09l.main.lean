/-! ===== THE MACHINE FOLLOWS A RUN ===== -/
theorem ck_i_spec {b : ByteArray} {w nl : Nat} {rt : Option FieldType} {ini : Bool} {P : List Nat} {pc : Nat} {ps : List Nat} {i : Instr} (h : ck_i b w nl rt ini P pc ps i = true) : (∃ a, i = .jsr a ∧ ck_hd ps pc = true) ∨ ∃ o len, decode b pc = .ok (o, len) ∧ ck1 w nl rt ini P pc o len i = true ∧ (ck_end i = true ∨ ck_hd ps (pc + len) = true) := by
  unfold ck_i at h
  split at h
  · exact Or.inl ⟨_, rfl, h⟩
  · split at h
    · rename_i o len hd
      rw [Bool.and_eq_true, Bool.or_eq_true] at h
      exact Or.inr ⟨o, len, hd, h.1, h.2⟩
    · cases h
def sk_call : Instr → Bool
  | .invokestatic _ => true
  | .invokespecial _ => true
  | .invokevirtual _ => true
  | .invokedynamic _ => true
  | .invokeinterface _ _ => true
  | .multianewarray _ _ => true
  | _ => false
set_option maxHeartbeats 8000000 in
/-- which instructions go on within the method -/
theorem sd_kinds {i : Instr} {nx : Nat} {L : List (Option ab_V)} {st : List ab_V} {h : ab_H} {x : Nat × List (Option ab_V) × List ab_V × ab_H} (e : ab_one i nx L st h = some (.inl x)) :
    (∃ a, i = .jsr a) ∨ sk_stack i = true ∨ sk_locals i = true ∨ sk_branch i = true ∨ sk_getf i = true ∨ sk_putf i = true ∨ sk_arrl i = true ∨ sk_arrs i = true ∨ sk_new i = true ∨ sk_switch i = true := by
  unfold ab_one ab_st at e
  cases i <;> first
    | exact Or.inl ⟨_, rfl⟩
    | exact Or.inr (Or.inl rfl)
    | exact Or.inr (Or.inr (Or.inl rfl))
    | exact Or.inr (Or.inr (Or.inr (Or.inl rfl)))
    | exact Or.inr (Or.inr (Or.inr (Or.inr (Or.inl rfl))))
    | exact Or.inr (Or.inr (Or.inr (Or.inr (Or.inr (Or.inl rfl)))))
    | exact Or.inr (Or.inr (Or.inr (Or.inr (Or.inr (Or.inr (Or.inl rfl))))))
    | exact Or.inr (Or.inr (Or.inr (Or.inr (Or.inr (Or.inr (Or.inr (Or.inl rfl)))))))
    | exact Or.inr (Or.inr (Or.inr (Or.inr (Or.inr (Or.inr (Or.inr (Or.inr (Or.inl rfl))))))))
    | exact Or.inr (Or.inr (Or.inr (Or.inr (Or.inr (Or.inr (Or.inr (Or.inr (Or.inr rfl))))))))
    | skip
  all_goals exfalso
  all_goals dsimp only at e
  all_goals (repeat' split at e)
  all_goals first
    | (cases e; done)
    | (simp only [Option.bind_eq_some_iff] at e; obtain ⟨a, -, e⟩ := e; (repeat' split at e) <;> (cases e; done))
theorem sd_callk {i : Instr} {nx : Nat} {L : List (Option ab_V)} {st : List ab_V} {h : ab_H} {x : Nat × Nat × List ab_V × Nat × List (Option ab_V) × List ab_V × ab_H} (e : ab_one i nx L st h = some (.inr (.inl x))) : sk_call i = true := by
  unfold ab_one ab_st at e
  cases i <;> first
    | rfl
    | skip
  all_goals exfalso
  all_goals dsimp only at e
  all_goals (repeat' split at e)
  all_goals first
    | (cases e; done)
    | (simp only [Option.bind_eq_some_iff] at e; obtain ⟨a, -, x, -, e⟩ := e; cases e; done)
    | (simp only [Option.bind_eq_some_iff] at e; obtain ⟨a, -, e⟩ := e; (repeat' split at e) <;> (cases e; done))
    | (rcases sd_sw_or e with e | ⟨t, e⟩ <;> (cases e; done))
    | (rename_i x _; cases x with
        | none => cases e
        | some a =>
          simp only [ab_io] at e
          split at e <;> (cases e; done))
theorem sd_ml_prim {z : Bool} {y : Nat} {f : List ab_V → ab_H → Option ab_R} (hf : ab_prim z y = some f) (hy : y ∈ ml) : 3 ≤ y ∧ y ≤ 8 := by
  unfold ab_prim at hf
  split at hf <;> first
    | (exfalso; revert hy; decide +kernel)
    | decide
    | cases hf
set_option maxRecDepth 100000 in
theorem sd_ml_p0 : ∀ y ∈ ml, ab_nth (gP y) 0 = some 0 := by decide +kernel
theorem sd_sl_len : ∀ as : List ab_V, (lg_sl (as.map sd_v)).length = (ab_spread as).length
  | [] => rfl
  | .inl x :: as => by
    have ih := sd_sl_len as
    show (lg_sl (as.map sd_v)).length + 1 = (ab_spread as).length + 1
    rw [ih]
  | .inr (.inr none) :: as => by
    have ih := sd_sl_len as
    show (lg_sl (as.map sd_v)).length + 1 = (ab_spread as).length + 1
    rw [ih]
  | .inr (.inr (some x)) :: as => by
    have ih := sd_sl_len as
    show (lg_sl (as.map sd_v)).length + 1 = (ab_spread as).length + 1
    rw [ih]
  | .inr (.inl x) :: as => by
    have ih := sd_sl_len as
    show (lg_sl (as.map sd_v)).length + 1 + 1 = (ab_spread as).length + 1 + 1
    rw [ih]
theorem sd_S.putL {s : State} {D : sd_G} {n0 : Nat} {h0 : ab_H} {bf0 bf : Nat → Nat} {h : ab_H} {H H1 : Heap} {locs L : List Loc} {a : Nat} {cl cl' : ab_C} (S : sd_S s D n0 h0 bf0 bf h H locs) (hc : ab_ce h a = some cl) (hn : n0 ≤ a) (hB : ¬ ∃ m n t, cl = ab_cB m n t) (hB' : ¬ ∃ m n t, cl' = ab_cB m n t)
    (z : H1.size = H.size) (o : ∀ q : Nat, q ≠ a → H1[q]? = H[q]?) (k : sd_cell D n0 bf s H1 a cl') (hL : ∀ q ∈ L, q.base = a) : sd_S s D n0 h0 bf0 bf (ab_put h a cl') H1 (locs ++ L) := by
  obtain ⟨r, S2, S3, S4, S5, S6, S7, S8⟩ := S.put (i := 0) hc hn hB hB' z o k
  refine ⟨r, S2, S3, S4, fun lc hlc => ?_, S6, S7, S8⟩
  rcases List.mem_append.mp hlc with h1 | h1
  · exact S5 lc (List.mem_append_left _ h1)
  · have h9 := S5 ⟨a, 0⟩ (List.mem_append_right _ (List.mem_singleton.mpr rfl))
    rw [hL lc h1]
    exact h9
section
set_option maxRecDepth 100000
theorem ml_S9 : ∀ e ∈ ln_S_l, e.2.2 / 100 ≠ 11 := by decide +kernel
theorem ml_I9 : ∀ e ∈ ln_I_l, e.2.2 / 100 ≠ 11 := by decide +kernel
theorem ml_V9 : ∀ e ∈ ln_V_l, e.2.2 / 10000 ≠ 11 ∧ e.2.2 / 100 % 100 < 12 := by decide +kernel
theorem ml_U9 : ∀ e ∈ ln_U_l, e.2.2 / 10000 ≠ 11 ∧ e.2.2 / 100 % 100 < 12 := by decide +kernel
theorem ml_P9 : ∀ e ∈ ln_P_l, e.2.2 / 10000 ≠ 11 := by decide +kernel
theorem ml_D9 : ∀ e ∈ ln_D_l, e.2.2.1 / 100 ≠ 11 ∧ e.2.2.2 / 100 ≠ 11 := by decide +kernel
end
theorem sd_toL (v : Option ab_V) (st : List ab_V) : (v.toList ++ st).map sd_v = (v.map sd_v).toList ++ st.map sd_v := by
  cases v <;> simp
set_option maxHeartbeats 8000000 in
theorem sd_main (l : Launch) (D : sd_G) (n0 M : Nat) (z : Bool) (hM2 : 2 ≤ M) (hP : ∀ y as h v hf f, 3 ≤ y → y ≤ 8 → ab_prim z y = some f → f as h = some (v, hf) → sd_Met l D n0 M 0 y as h v hf) :
    ∀ (n d y : Nat), y ∈ ml → ∀ {p : Program} {e : Env} {R : Room} {s : State} {m : MethodId} {args : Array Value} {below : List Frame} {meth : Method} {c : Code} {h0 : ab_H} {bf0 : Nat → Nat} {v : Option ab_V} {hf : ab_H} {Q : State → Prop}, sd_cx p R s m args meth c D n0 y h0 hf → d + M ≤ R.frames → 40 * (d + M) ≤ R.locals →
    (∀ {k bpc len : Nat} {o i : Instr} {L : List (Option ab_V)} {st : List ab_V} {h : ab_H} {bf : Nat → Nat} {H : Heap} {locs : List Loc} {ls : Array Slot}, decode (gB y) bpc = .ok (o, len) → ck1 (gW y) (gG y).2 (gR y) (gN y) (gP y) bpc o len i = true → sd_S s D n0 h0 bf0 bf h H locs → ab_one i (k + 1) L st h = some (.inr (.inr (v, hf))) → sd_W p l e R s m args below meth c Q h0 h H locs bpc ls st) →
    ∀ {pc bpc : Nat} {L : List (Option ab_V)} {st : List ab_V} {h : ab_H} {bf : Nat → Nat} {H : Heap} {locs : List Loc} {ls : Array Slot}, ab_run gG z n d y pc L st h = some (v, hf) → sd_S s D n0 h0 bf0 bf h H locs → lv_has ls (gG y).2 (sd_pr 0 L) → ab_nth (gP y) pc = some bpc → sd_W p l e R s m args below meth c Q h0 h H locs bpc ls st := by
  intro n
  induction n with
  | zero => intro d y hy p e R s m args below meth c h0 bf0 v hf Q C hR1 hR2 hret pc bpc L st h bf H locs ls e9; cases e9
  | succ n ih =>
    -- a callee's contract
    have hcal : ∀ (d' y2 : Nat) (as : List ab_V) (h : ab_H) (v1 : Option ab_V) (h2 : ab_H), y2 ∈ ml → y2 ≠ 11 → sd_mf y2 → ab_cr gG z n d' y2 as h = some (v1, h2) → ∃ d'', d'' ≤ d' ∧ sd_Met l D n0 M d'' y2 as h v1 h2 := by
      intro d' y2 as h v1 h2 hy2 hne hmf hc
      rcases ab_cr_inv hc with ⟨f, hf, hc⟩ | ⟨hf, hb9, hc⟩
      · obtain ⟨g1, g2⟩ := sd_ml_prim hf hy2
        exact ⟨0, Nat.zero_le _, hP y2 as h v1 h2 f g1 g2 hf hc⟩
      · refine ⟨d', Nat.le_refl _, fun bf => ?_⟩
        refine Met.ofW (cc := gB y2) (maxL := (gG y2).2) (ret := gR y2) hmf.2.2.1 rfl ?_
        intro p e s m args below meth c s₁ B hml hv
        obtain ⟨rfl, hrep, hK, hcon⟩ := hv
        have hts := atoms_spec (ws := sd_ws y2) B.pre
        have hown : s.vm.findClass (gY y2).cls = some m.cls := findClass_of_methodNamed B.named
        rw [hmf.2.2.2.2.2.1] at hown
        have hsz : s.heap.size = ab_sz h := hrep.2.1
        have hle := sd_run_le _ _ _ _ _ _ _ _ hc
        have C2 : sd_cx p (headSpec (sd_ws y2) (sd_rm M d' h h2)).room s m (as.map sd_v).toArray meth c D n0 y2 h h2 := by
          refine ⟨B.exec, B.bytes, hml, B.returns, hown, fun w hw => hts w (List.mem_cons_of_mem _ hw), B.notSynchronized, fun hn => ?_, hK, hcon, hrep.2.2.1, Nat.le_refl _, Nat.le_refl _, hsz⟩
          rw [← hmf.2.2.2.2.2.2.1 hn]
          exact (name_of_methodNamed B.named B.method).1
        have S0 : sd_S s D n0 h bf bf h s.heap [] := ⟨hrep, fun _ _ => rfl, fun _ _ o => o, fun _ _ _ => rfl, fun _ q => (by cases q), Nat.le_refl _, Nat.le_refl _, rfl⟩
        have hlen : (lg_sl (as.map sd_v)).length ≤ (gG y2).2 := by
          rw [sd_sl_len]
          exact Nat.le_of_ble_eq_true hb9
        have hl0 := lv_entry (as.map sd_v) hlen
        rw [lg_entry_eq]
        have W0 := ih d' y2 hy2 (below := below) (e := e) C2 (show d' + M ≤ d' + M from Nat.le_refl _) (show 40 * (d' + M) ≤ 40 * (d' + M) from Nat.le_refl _) (fun g1 g2 g3 g4 => sg_ret C2 g1 g2 g3 g4 rfl) hc S0 (sd_ent hl0 _) (sd_ml_p0 y2 hy2)
        unfold sd_W at W0
        rw [Nat.sub_self, Nat.sub_self] at W0
        exact W0
    intro d y hy p e R s m args below meth c h0 bf0 v hf Q C hR1 hR2 hret pc bpc L st h bf H locs ls e9 S hl hpc
    have hfl := sd_run_le _ _ _ _ _ _ _ _ e9
    rw [ab_run_eq] at e9
    obtain ⟨i, o, hi, ho, e9⟩ := e9
    obtain ⟨bpc', hb', hcki⟩ := ck_go_at (ck_all y hy) pc i hi
    obtain rfl : bpc = bpc' := Option.some.inj (hpc.symm.trans hb')
    rcases ck_i_spec hcki with ⟨a, rfl, hhd⟩ | ⟨o9, len, hd, hck, hnx0⟩
    · cases ho
      exact ih d y hy C hR1 hR2 hret e9 S (sd_weak hl (sd_clr L _)) (ck_hd_drop hhd)
    · have hnx : ck_end i = true ∨ ab_nth (gP y) (pc + 1) = some (bpc + len) := hnx0.imp id ck_hd_drop
      clear hnx0 hcki
      match o, ho, e9 with
      | .inl (nx, L1, st1, h1), ho, e9 =>
        have hz := (sd_run_le _ _ _ _ _ _ _ _ e9).2
        have G : sd_Good p l e R s m args below meth c Q D n0 y h0 bf0 nx L1 st1 h1 := fun bf' H' locs' ls' pc' S' hl' hpc' => ih d y hy C hR1 hR2 hret e9 S' hl' hpc'
        rcases sd_kinds ho with ⟨a, rfl⟩ | k | k | k | k | k | k | k | k | k
        · cases ho
          simp [ck1] at hck
        · exact sg_stack C k hd hck hnx S hl ho hz G
        · exact sg_locals C k hd hck hnx S hl ho hz G
        · exact sg_branch C k hd hck hnx S hl ho hz G
        · exact sg_getf C k hd hck hnx S hl ho hz G
        · exact sg_putf C k hd hck hnx S hl ho hz G
        · exact sg_arrl C k hd hck hnx S hl ho hz G
        · exact sg_arrs C k hd hck hnx S hl ho hz G
        · exact sg_new C k hd hck hnx S hl ho hz G
        · exact sg_switch C k hd hck hnx S hl ho hz G
      | .inr (.inr (v1, h1)), ho, e9 =>
        cases e9
        exact hret hd hck S ho
      | .inr (.inl (q, y2, as, nx, L1, st1, h1)), ho, e9 =>
        obtain ⟨d', hd', e8⟩ := e9
        subst hd'
        obtain ⟨v1, h2, st2, hc, hk, hst2, -⟩ := ab_bk_inv e8
        have hle2 := sd_run_le _ _ _ _ _ _ _ _ hk
        have hle1 : sd_le h1 h2 := by
          rcases ab_cr_inv hc with ⟨f, hf, e1⟩ | ⟨hf, hb9, e1⟩
          · exact sd_prim_le hf e1
          · exact sd_run_le _ _ _ _ _ _ _ _ e1
        have hR9 : ∀ d'', d'' ≤ d' → d'' + M + 1 ≤ R.frames ∧ 40 * (d'' + M) + 40 ≤ R.locals := fun d'' h9 => by omega
        have hke := sd_callk ho
        have kk9 : ∀ len9, ab_nth (gP y) nx = some (bpc + len9) → L1 = L → ∀ (bf' : Nat → Nat) (H1 : Heap) (locs1 : List Loc), sd_S s D n0 h0 bf0 bf' h2 H1 locs1 → W p l e R s m args below meth c H1 locs1 (ab_sz h2 - ab_sz h0) (ab_sl h2 - ab_sl h0) Q (F0 m (bpc + len9) ls ((v1.map sd_v).toList ++ st1.map sd_v)) := by
          intro len9 hn9 hL bf' H1 locs1 S'
          have W1 := ih (d' + 1) y hy (below := below) C hR1 hR2 hret hk S' (by rw [hL]; exact hl) hn9
          unfold sd_W at W1
          rw [hst2, sd_toL] at W1
          exact W1
        cases i with
        | invokestatic q9 =>
          simp only [ab_one, ab_st] at ho
          replace hnx := hnx.resolve_left (fun q => Bool.false_ne_true q)
          simp only [ck1] at hck
          split at hck
          · rename_i idx
            rw [Bool.and_eq_true] at hck
            obtain ⟨h7, h9⟩ := hck
            obtain rfl := Nat.eq_of_beq_eq_true h9
            have hmem := ck_in3_mem h7
            obtain ⟨s1, s2, s3, s4⟩ := ln_S_ok _ hmem
            split at ho
            · rename_i as9 st9 hpop
              split at ho
              · rename_i hcs
                cases ho
                obtain ⟨p1, p2⟩ := sd_pop0 hpop
                obtain ⟨d'', hd'', hMt⟩ := hcal d' _ as h v1 h2 (ml_S _ hmem) (ml_S9 _ hmem) s4 hc
                obtain ⟨r1, r2⟩ := hR9 d'' hd''
                have W1 := sg_callS C hle1 hle2 r1 r2 S hl.1 hcs s4 s1 s2 (by rw [p1]; exact s3) hd hMt (kk9 3 hnx rfl)
                unfold sd_W
                rw [p2, List.map_append, List.map_reverse]
                exact W1
              · cases ho
            · cases ho
          · cases hck
        | invokespecial q9 =>
          simp only [ab_one, ab_st] at ho
          replace hnx := hnx.resolve_left (fun q => Bool.false_ne_true q)
          simp only [ck1] at hck
          split at hck
          · rename_i idx
            rw [Bool.and_eq_true, Bool.or_eq_true] at hck
            obtain ⟨h7, h9⟩ := hck
            obtain rfl := Nat.eq_of_beq_eq_true h9
            split at ho
            · rename_i o8 as9 st9 hpop
              split at ho
              · rename_i hcs
                cases o8 with
                | none => cases ho
                | some b =>
                  cases ho
                  obtain ⟨p1, p2⟩ := sd_pop0 hpop
                  rcases h7 with h7 | h7
                  · have hmem := ck_in3_mem h7
                    obtain ⟨s1, s2, s3, ⟨n9, s4, s5⟩, s6, s7⟩ := ln_I_ok _ hmem
                    dsimp only at s4
                    rw [s4, List.length_cons] at p1
                    obtain ⟨d'', hd'', hMt⟩ := hcal d' _ _ h v1 h2 (ml_I _ hmem) (ml_I9 _ hmem) s7 hc
                    obtain ⟨r1, r2⟩ := hR9 d'' hd''
                    have W1 := sg_callI C hle1 hle2 r1 r2 S hl.1 hcs s7 s1 s2 s3 s6 (by rw [show as9.length = n9 by omega]; exact s5) hd hMt (kk9 3 hnx rfl)
                    unfold sd_W
                    rw [p2, List.map_append, List.map_reverse, List.map_cons, List.reverse_cons, List.append_assoc]
                    exact W1
                  · obtain ⟨s1, s2⟩ := ln_X_ok _ (ck_in3_mem h7)
                    dsimp only at s1 s2
                    subst s2
                    obtain ⟨hx, hb, hml, hr, hown, hts, hlocks, hin, hK, hcon, hn0, hRc, hRs, hsz⟩ := C
                    have hc9 : ab_b0 (.inr (.inr (some b)) :: as9) h = some (v1, h2) := hc
                    have : as9 = [] := by
                      have : as9.length + 1 = 1 := p1
                      exact List.length_eq_zero_iff.mp (by omega)
                    subst this
                    cases hc9
                    have W1 := kk9 3 hnx rfl bf H locs S
                    unfold sd_W
                    rw [p2]
                    exact W.objInit hx hb hown (hts _ s1) (hts _ mt_obj.1) (hts _ mt_obj.2) rfl (by rw [hml]; exact hl.1) rfl hd (by omega) (Nat.le_trans (Nat.add_le_add_right (sd_rest hcs _ rfl) 12) (by omega)) W1
              · cases ho
            · cases ho
          · cases hck
        | invokevirtual q9 =>
          simp only [ab_one, ab_st] at ho
          replace hnx := hnx.resolve_left (fun q => Bool.false_ne_true q)
          simp only [ck1] at hck
          split at hck
          · rename_i idx
            rw [Bool.and_eq_true, Bool.or_eq_true] at hck
            obtain ⟨h7, h9⟩ := hck
            obtain rfl := Nat.eq_of_beq_eq_true h9
            split at ho
            · rename_i o8 as9 st9 hpop
              split at ho
              · rename_i hcs
                cases o8 with
                | none => cases ho
                | some b =>
                  rw [Option.bind_some] at ho
                  split at ho
                  · rename_i hisc
                    cases ho
                    obtain ⟨p1, p2⟩ := sd_pop0 hpop
                    rcases h7 with h7 | h7
                    · have hmem := ck_in3_mem h7
                      obtain ⟨s1, s2, s3, ⟨n9, s4, s5⟩, s7⟩ := ln_V_ok _ hmem
                      dsimp only at s4
                      rw [s4, List.length_cons] at p1
                      obtain ⟨d'', hd'', hMt⟩ := hcal d' _ _ h v1 h2 (ml_V _ hmem) (ml_V9 _ hmem).1 s7 hc
                      obtain ⟨r1, r2⟩ := hR9 d'' hd''
                      have W1 := sg_callV C hle1 hle2 r1 r2 S hl.1 hcs s7 s1 s2 s3 (by rw [show as9.length = n9 by omega]; exact s5) hisc (ml_V9 _ hmem).2 hd hMt (kk9 3 hnx rfl)
                      unfold sd_W
                      rw [p2, List.map_append, List.map_reverse, List.map_cons, List.reverse_cons, List.append_assoc]
                      exact W1
                    · have hmem := ck_in3_mem h7
                      have hU := ln_U_ok _ hmem
                      unfold sd_UQ at hU
                      dsimp only at hU
                      rw [← p1, List.length_cons] at hU
                      obtain ⟨d'', hd'', hMt⟩ := hcal d' _ _ h v1 h2 (ml_U _ hmem) (ml_U9 _ hmem).1 hU.choose_spec.choose_spec.2.2.2.2.2.2.2 hc
                      obtain ⟨r1, r2⟩ := hR9 d'' hd''
                      have W1 := sg_callU C hle1 hle2 r1 r2 S hl.1 hcs hU hisc (ml_U9 _ hmem).2 hd hMt (kk9 3 hnx rfl)
                      unfold sd_W
                      rw [p2, List.map_append, List.map_reverse, List.map_cons, List.reverse_cons, List.append_assoc]
                      exact W1
                  · cases ho
              · cases ho
            · cases ho
          · cases hck
        | invokedynamic q9 =>
          simp only [ab_one, ab_st] at ho
          replace hnx := hnx.resolve_left (fun q => Bool.false_ne_true q)
          simp only [ck1] at hck
          split at hck
          · rename_i idx
            rw [Bool.and_eq_true] at hck
            obtain ⟨h7, h9⟩ := hck
            obtain rfl := Nat.eq_of_beq_eq_true h9
            split at ho
            · rename_i o8 as9 st9 hpop
              split at ho
              · rename_i hcs
                cases o8 with
                | none => cases ho
                | some b =>
                  rw [Option.bind_some] at ho
                  split at ho
                  · rename_i hisc
                    cases ho
                    obtain ⟨p1, p2⟩ := sd_pop0 hpop
                    have hmem := ck_in3_mem h7
                    obtain ⟨s1, s2, s3, s4, s5, ⟨n9, s6, s7⟩, s8, s9⟩ := ln_P_ok _ hmem
                    dsimp only at s6 s8
                    rw [s6, List.length_cons] at p1
                    rw [s8] at hisc
                    obtain ⟨d'', hd'', hMt⟩ := hcal d' _ _ h v1 h2 (ml_P _ hmem) (ml_P9 _ hmem) s9 hc
                    obtain ⟨r1, r2⟩ := hR9 d'' hd''
                    have W1 := sg_callP C hle1 hle2 r1 r2 S hl.1 hcs s9 s1 s2 s3 s4 s5 (by rw [show as9.length = n9 by omega]; exact s7) hisc hd hMt (kk9 3 hnx rfl)
                    unfold sd_W
                    rw [p2, List.map_append, List.map_reverse, List.map_cons, List.reverse_cons, List.append_assoc]
                    exact W1
                  · cases ho
              · cases ho
            · cases ho
          · cases hck
        | invokeinterface q9 q8 =>
          simp only [ab_one, ab_st] at ho
          replace hnx := hnx.resolve_left (fun q => Bool.false_ne_true q)
          simp only [ck1] at hck
          split at hck
          · rename_i idx
            rw [Bool.and_eq_true, decide_eq_true_eq] at hck
            obtain ⟨hmem, h9⟩ := hck
            obtain rfl := Nat.eq_of_beq_eq_true h9
            obtain ⟨hU1, hU2⟩ := ln_D_ok _ hmem
            dsimp only at hU1 hU2
            split at ho
            · rename_i o8 as9 st9 hpop
              split at ho
              · rename_i hcs
                cases o8 with
                | none => cases ho
                | some b =>
                  rw [Option.bind_some] at ho
                  obtain ⟨p1, p2⟩ := sd_pop0 hpop
                  rw [← p1, List.length_cons] at hU1 hU2
                  split at ho
                  · rename_i hisc
                    cases ho
                    obtain ⟨d'', hd'', hMt⟩ := hcal d' _ _ h v1 h2 (ml_D _ hmem).1 (ml_D9 _ hmem).1 hU1.choose_spec.choose_spec.2.2.2.2.2.2.2 hc
                    obtain ⟨r1, r2⟩ := hR9 d'' hd''
                    have W1 := sg_callU C hle1 hle2 r1 r2 S hl.1 hcs hU1 hisc (by decide) hd hMt (kk9 3 hnx rfl)
                    unfold sd_W
                    rw [p2, List.map_append, List.map_reverse, List.map_cons, List.reverse_cons, List.append_assoc]
                    exact W1
                  · split at ho
                    · rename_i hisc
                      cases ho
                      obtain ⟨d'', hd'', hMt⟩ := hcal d' _ _ h v1 h2 (ml_D _ hmem).2 (ml_D9 _ hmem).2 hU2.choose_spec.choose_spec.2.2.2.2.2.2.2 hc
                      obtain ⟨r1, r2⟩ := hR9 d'' hd''
                      have W1 := sg_callU C hle1 hle2 r1 r2 S hl.1 hcs hU2 hisc (by decide) hd hMt (kk9 3 hnx rfl)
                      unfold sd_W
                      rw [p2, List.map_append, List.map_reverse, List.map_cons, List.reverse_cons, List.append_assoc]
                      exact W1
                    · cases ho
              · cases ho
            · cases ho
          · cases hck
        | multianewarray q9 q8 =>
          simp only [ab_one, ab_st] at ho
          replace hnx := hnx.resolve_left (fun q => Bool.false_ne_true q)
          simp only [ck1] at hck
          split at ho
          · rename_i as9 st9 hpop
            split at ho
            · rename_i hcs
              cases ho
              obtain ⟨p1, p2⟩ := sd_pop0 hpop
              obtain ⟨hx, hb, hml, hr, hown, hts, hlocks, hin, hK, hcon, hn0, hRc, hRs, hsz⟩ := id C
              have hcs9 := Nat.le_of_ble_eq_true hcs
              have hmo := sd_mono S hsz
              have S7 := S.2.2.2.2.2.2.1
              unfold sd_W
              rw [p2, List.map_append, List.map_reverse]
              split at hck
              · rename_i idx
                simp only [Bool.and_eq_true, Bool.or_eq_true, decide_eq_true_eq] at hck
                obtain ⟨hor, h9⟩ := hck
                obtain rfl := Nat.eq_of_beq_eq_true h9
                rcases hor with (⟨⟨k1, k2⟩, k3⟩ | ⟨k1, k2⟩) | ⟨k1, k2⟩
                · obtain rfl := Nat.eq_of_beq_eq_true k1
                  have k2 := Nat.eq_of_beq_eq_true k2
                  obtain rfl := Nat.eq_of_beq_eq_true k3
                  have hc9 : ab_copy as h = some (v1, h2) := hc
                  unfold ab_copy at hc9
                  split at hc9
                  · rename_i a0 sp a1 dp nn
                    split at hc9
                    · rename_i n9 f n8 g e0 e1
                      split at hc9
                      · rename_i hcond
                        cases hc9
                        obtain ⟨w1, w2, w3, w4, w5, w6, w7, w8⟩ := hcond
                        rw [S.1.1] at w7 w8
                        rcases S.1.2.2.2.1 a0 _ e0 with ⟨u1, -⟩ | ⟨-, -, u2, u3⟩
                        · omega
                        rcases S.1.2.2.2.1 a1 _ e1 with ⟨u1, -⟩ | ⟨-, -, u4, u5⟩
                        · omega
                        rw [k2] at hown
                        refine sg_copy hx hb hown hts hK (by rw [hml]; exact hl.1.symm) u2 u4 u3 w2 w3 w4 w5 w6 (by omega) ?_ hd (fun H1 Lx g1 g2 g3 g4 => kk9 3 hnx rfl bf H1 _ (S.putL e1 w7 (by rintro ⟨_, _, _, q⟩; cases q) (by rintro ⟨_, _, _, q⟩; cases q) g3 g4 (Or.inr ⟨w7, by decide, g2, fun i => ?_⟩) g1))
                        · have h8 := sd_rest hcs (F0 m bpc ls []) rfl
                          have h7 : nativeFrameWords "java/lang/System" "arraycopy" 5 ≤ 30 := by decide
                          have h6 : 2 * (F0 m bpc ls []).monitorRoom = 0 := rfl
                          have h5 : (List.map (fun v => v.category) (([] : List Value).append (List.map sd_v st1))).sum = (List.map (fun v => v.category) (List.map sd_v st1)).sum := rfl
                          omega
                        · unfold va_cpy
                          split
                          · exact u3 _
                          · exact u5 _
                      · cases hc9
                    · cases hc9
                  · cases hc9
                · obtain rfl := Nat.eq_of_beq_eq_true k1
                  have hc9 : ab_min as h = some (v1, h2) := hc
                  unfold ab_min at hc9
                  split at hc9
                  · cases hc9
                    refine va_mmin hx hb (by rw [hml]; exact hl.1.symm) hown (hts _ (ln_Mn_ok _ k2)) (hts _ mt_min.1) (hts _ mt_min.2.1) (hts _ mt_min.2.2) (by omega) ?_ ?_ ?_ hd (kk9 3 hnx rfl bf H locs S)
                    · have h8 := sd_rest hcs (F0 m bpc ls []) rfl
                      have h6 : 2 * (F0 m bpc ls []).monitorRoom = 0 := rfl
                      have h5 : (List.map (fun v => v.category) (([] : List Value).append (List.map sd_v st1))).sum = (List.map (fun v => v.category) (List.map sd_v st1)).sum := rfl
                      omega
                    · have : ab_sz h ≤ ab_sz hf ∧ ab_sl h ≤ ab_sl hf := hle2.2; omega
                    · have : ab_sz h ≤ ab_sz hf ∧ ab_sl h ≤ ab_sl hf := hle2.2; omega
                  · cases hc9
                · obtain rfl := Nat.eq_of_beq_eq_true k1
                  have hc9 : ab_max as h = some (v1, h2) := hc
                  unfold ab_max at hc9
                  split at hc9
                  · cases hc9
                    refine va_mmax hx hb (by rw [hml]; exact hl.1.symm) hown (hts _ (ln_Mx_ok _ k2)) (hts _ mt_max.1) (hts _ mt_max.2.1) (hts _ mt_max.2.2) (by omega) ?_ ?_ ?_ hd (kk9 3 hnx rfl bf H locs S)
                    · have h8 := sd_rest hcs (F0 m bpc ls []) rfl
                      have h6 : 2 * (F0 m bpc ls []).monitorRoom = 0 := rfl
                      have h5 : (List.map (fun v => v.category) (([] : List Value).append (List.map sd_v st1))).sum = (List.map (fun v => v.category) (List.map sd_v st1)).sum := rfl
                      omega
                    · have : ab_sz h ≤ ab_sz hf ∧ ab_sl h ≤ ab_sl hf := hle2.2; omega
                    · have : ab_sz h ≤ ab_sz hf ∧ ab_sl h ≤ ab_sl hf := hle2.2; omega
                  · cases hc9
              · rename_i idx
                simp only [Bool.and_eq_true] at hck
                obtain ⟨⟨⟨k1, k2⟩, k3⟩, h9⟩ := hck
                obtain rfl := Nat.eq_of_beq_eq_true h9
                obtain rfl := Nat.eq_of_beq_eq_true k1
                have k2 := Nat.eq_of_beq_eq_true k2
                obtain rfl := Nat.eq_of_beq_eq_true k3
                have hc9 : ab_clone as h = some (v1, h2) := hc
                unfold ab_clone at hc9
                split at hc9
                · rename_i a0
                  split at hc9
                  · rename_i n9 f e0
                    cases hc9
                    obtain ⟨hk9, cell, g1, g2, g3, g4, g5, g6⟩ := sd_arrR hK S.1 e0
                    rw [k2] at hown
                    obtain ⟨b1, b2, b3, b4⟩ := sd_room (R := R) S hsz hRc hRs hle2.2
                    have hHs : H.size = ab_sz h := S.1.2.1
                    refine sg_clone hx hb hown hts hcon.2.2.2.2.2.2 hK (by rw [hml]; exact hl.1.symm) g1 g4 g3 g2.1 g5 g6 (by omega) ?_ b1 b2 hd ?_
                    · have h8 := sd_rest hcs (F0 m bpc ls []) rfl
                      have h6 : 2 * (F0 m bpc ls []).monitorRoom = 0 := rfl
                      have h5 : (List.map (fun v => v.category) (([] : List Value).append (List.map sd_v st1))).sum = (List.map (fun v => v.category) (List.map sd_v st1)).sum := rfl
                      omega
                    · rw [b3, b4, hHs]
                      exact kk9 3 hnx rfl bf _ locs (S.new (by rintro ⟨_, _, _, q⟩; cases q) (by simp) (fun q hq => by rw [Array.getElem?_push, if_neg (Nat.ne_of_lt hq)]) (Or.inr ⟨S.lo, Or.inr (Or.inr rfl), by rw [Array.getElem?_push_size]; rfl⟩))
                  · cases hc9
                · cases hc9
              · cases hck
            · cases ho
          · cases ho
        | _ => cases hke
