/-! ===== calls, by kind ===== -/
section Step
variable {p : Program} {l : Launch} {e : Env} {R : Room} {s : State} {m : MethodId} {args : Array Value} {below : List Frame} {meth : Method} {c : Code} {Q : State → Prop} {D : sd_G} {n0 y : Nat} {h0 hf : ab_H} {bf0 : Nat → Nat}
theorem sg_callS (C : sd_cx p R s m args meth c D n0 y h0 hf) {M d pc idx : Nat} {h h2 : ab_H} {bf : Nat → Nat} {H : Heap} {locs : List Loc} {ls : Array Slot} {st1 : List ab_V} {v : Option ab_V} (hle : sd_le h h2) (hle2 : sd_le h2 hf) (hR1 : d + M + 1 ≤ R.frames) (hR2 : 40 * (d + M) + 40 ≤ R.locals) (S : sd_S s D n0 h0 bf0 bf h H locs) (hlz : ls.size = (gG y).2) (hst : Nat.ble (ab_cs st1) 8 = true) {y2 : Nat} {as : List ab_V} (hm : sd_mf y2) (hlk : Cond.methodLink (sd_nm (gW y)) idx (gY y2) ∈ lw_tg) (hstc : Cond.static (gY y2) ∈ lw_tg) (hnp : sd_np (gY y2) as.length) (hd : decode (gB y) pc = .ok (.invokestatic idx, 3)) (hM : sd_Met l D n0 M d y2 as h v h2) (kk : ∀ (bf' : Nat → Nat) (H1 : Heap) (locs1 : List Loc), sd_S s D n0 h0 bf0 bf' h2 H1 locs1 → W p l e R s m args below meth c H1 locs1 (ab_sz h2 - ab_sz h0) (ab_sl h2 - ab_sl h0) Q (F0 m (pc + 3) ls ((v.map sd_v).toList ++ st1.map sd_v))) : W p l e R s m args below meth c H locs (ab_sz h - ab_sz h0) (ab_sl h - ab_sl h0) Q (F0 m pc ls ((as.map sd_v).reverse ++ st1.map sd_v)) := by
  obtain ⟨hx, hb, hml, hr, hown, hts, hlocks, hin, hK, hcon, hn0, hRc, hRs, hsz⟩ := C
  have hmo := sd_mono S hsz
  have hf9 : ab_sz h - ab_sz h0 + (ab_sz h2 - ab_sz h) ≤ R.cells ∧ ab_sl h - ab_sl h0 + (ab_sl h2 - ab_sl h) ≤ R.slots := by
    have a1 := hle.2
    have a2 := hle2.2
    have a3 := S.2.2.2.2.2.2.1
    omega
  exact sd_cont (va_runS (As := as.map sd_v) (rest := st1.map sd_v) ⟨hx, hb, hml, hown, hts⟩ (hM bf) ⟨sd_callB hts hm hlk hnp hR1 hR2, hts _ hstc⟩ ⟨sd_blind _ _ _ _ _, sd_pre hK hcon hn0 S as⟩ rfl (by rw [List.length_map]) hlz rfl (sd_rest hst _ rfl) hd hf9) S hsz hle kk
theorem sg_callI (C : sd_cx p R s m args meth c D n0 y h0 hf) {M d pc idx : Nat} {h h2 : ab_H} {bf : Nat → Nat} {H : Heap} {locs : List Loc} {ls : Array Slot} {st1 : List ab_V} {v : Option ab_V} (hle : sd_le h h2) (hle2 : sd_le h2 hf) (hR1 : d + M + 1 ≤ R.frames) (hR2 : 40 * (d + M) + 40 ≤ R.locals) (S : sd_S s D n0 h0 bf0 bf h H locs) (hlz : ls.size = (gG y).2) (hst : Nat.ble (ab_cs st1) 8 = true) {y2 b : Nat} {as : List ab_V} (hm : sd_mf y2) (hlk : Cond.methodLink (sd_nm (gW y)) idx (gY y2) ∈ lw_tg ∨ ∃ host, Cond.methodLinkNest (sd_nm (gW y)) idx (gY y2) host ∈ lw_nl) (hinm : Cond.instanceMethod (gY y2) ∈ lw_tg) (hnm : (gY y2).name = "<init>") (hrn : gR y2 = none) (hnp : sd_np (gY y2) as.length) (hd : decode (gB y) pc = .ok (.invokespecial idx, 3)) (hM : sd_Met l D n0 M d y2 (.inr (.inr (some b)) :: as) h v h2) (kk : ∀ (bf' : Nat → Nat) (H1 : Heap) (locs1 : List Loc), sd_S s D n0 h0 bf0 bf' h2 H1 locs1 → W p l e R s m args below meth c H1 locs1 (ab_sz h2 - ab_sz h0) (ab_sl h2 - ab_sl h0) Q (F0 m (pc + 3) ls ((v.map sd_v).toList ++ st1.map sd_v))) : W p l e R s m args below meth c H locs (ab_sz h - ab_sz h0) (ab_sl h - ab_sl h0) Q (F0 m pc ls ((as.map sd_v).reverse ++ .ref b :: st1.map sd_v)) := by
  obtain ⟨hx, hb, hml, hr, hown, hts, hlocks, hin, hK, hcon, hn0, hRc, hRs, hsz⟩ := C
  have hmo := sd_mono S hsz
  have hf9 : ab_sz h - ab_sz h0 + (ab_sz h2 - ab_sz h) ≤ R.cells ∧ ab_sl h - ab_sl h0 + (ab_sl h2 - ab_sl h) ≤ R.slots := by
    have a1 := hle.2
    have a2 := hle2.2
    have a3 := S.2.2.2.2.2.2.1
    omega
  rcases hlk with hlk | ⟨host, hlk⟩
  · have cb := sd_callB (R := R) (h := h) (h2 := h2) hts hm hlk hnp hR1 hR2
    rw [hrn] at cb
    exact sd_cont (va_runI (b := b) (As := as.map sd_v) (rest := st1.map sd_v) ⟨hx, hb, hml, hown, hts⟩ (hM bf) ⟨cb, hnm, hts _ hinm⟩ ⟨sd_blind _ _ _ _ _, sd_pre hK hcon hn0 S (.inr (.inr (some b)) :: as)⟩ rfl (by rw [List.length_map]) hlz rfl (sd_rest hst _ rfl) hd hf9) S hsz hle kk
  · have cb := va_cnB (R := R) (host := host) (index := idx) (own := sd_nm (gW y)) (y := gY y2) (bytes := gB y2) (maxL := (gG y2).2) (ret := gR y2) (mc := ab_sz h2 - ab_sz h) (ms := ab_sl h2 - ab_sl h) (rm := sd_rm M d h h2) as.length hts (sd_good hm) rfl rfl rfl (hcon.2.2.2.2.2.2 _ hlk) (hts _ hm.2.1) ⟨hm.2.2.2.1, hm.2.2.2.2.1, hnp⟩ ⟨hR1, by
      have := hm.2.2.2.2.2.2.2
      show 8 + ((gG y2).2 + 11) + 40 * (d + M) ≤ R.locals
      omega⟩
    rw [hrn] at cb
    exact sd_cont (va_runIN (b := b) (As := as.map sd_v) (rest := st1.map sd_v) ⟨hx, hb, hml, hown, hts⟩ (hM bf) ⟨cb, hnm, hts _ hinm⟩ ⟨sd_blind _ _ _ _ _, sd_pre hK hcon hn0 S (.inr (.inr (some b)) :: as)⟩ rfl (by rw [List.length_map]) hlz rfl (sd_rest hst _ rfl) hd hf9) S hsz hle kk
theorem sg_callV (C : sd_cx p R s m args meth c D n0 y h0 hf) {M d pc idx : Nat} {h h2 : ab_H} {bf : Nat → Nat} {H : Heap} {locs : List Loc} {ls : Array Slot} {st1 : List ab_V} {v : Option ab_V} (hle : sd_le h h2) (hle2 : sd_le h2 hf) (hR1 : d + M + 1 ≤ R.frames) (hR2 : 40 * (d + M) + 40 ≤ R.locals) (S : sd_S s D n0 h0 bf0 bf h H locs) (hlz : ls.size = (gG y).2) (hst : Nat.ble (ab_cs st1) 8 = true) {y2 b k : Nat} {as : List ab_V} (hm : sd_mf y2) (hlk : Cond.methodLink (sd_nm (gW y)) idx (gY y2) ∈ lw_tg) (hinm : Cond.instanceMethod (gY y2) ∈ lw_tg) (hsel : Cond.selects (sd_nm k) (gY y2) (gY y2) ∈ lw_tg) (hnp : sd_np (gY y2) as.length) (hrc : ab_isc h b k = true) (hk : k < 12) (hd : decode (gB y) pc = .ok (.invokevirtual idx, 3)) (hM : sd_Met l D n0 M d y2 (.inr (.inr (some b)) :: as) h v h2) (kk : ∀ (bf' : Nat → Nat) (H1 : Heap) (locs1 : List Loc), sd_S s D n0 h0 bf0 bf' h2 H1 locs1 → W p l e R s m args below meth c H1 locs1 (ab_sz h2 - ab_sz h0) (ab_sl h2 - ab_sl h0) Q (F0 m (pc + 3) ls ((v.map sd_v).toList ++ st1.map sd_v))) : W p l e R s m args below meth c H locs (ab_sz h - ab_sz h0) (ab_sl h - ab_sl h0) Q (F0 m pc ls ((as.map sd_v).reverse ++ .ref b :: st1.map sd_v)) := by
  obtain ⟨hx, hb, hml, hr, hown, hts, hlocks, hin, hK, hcon, hn0, hRc, hRs, hsz⟩ := C
  have hmo := sd_mono S hsz
  have hf9 : ab_sz h - ab_sz h0 + (ab_sz h2 - ab_sz h) ≤ R.cells ∧ ab_sl h - ab_sl h0 + (ab_sl h2 - ab_sl h) ≤ R.slots := by
    have a1 := hle.2
    have a2 := hle2.2
    have a3 := S.2.2.2.2.2.2.1
    omega
  exact sd_cont (va_runV (b := b) (C := sd_nm k) (As := as.map sd_v) (rest := st1.map sd_v) ⟨hx, hb, hml, hown, hts⟩ (hM bf) ⟨sd_callB hts hm hlk hnp hR1 hR2, hts _ hinm, hts _ hsel⟩ ⟨sd_blind _ _ _ _ _, sd_recv hK S.1 hrc hk, sd_pre hK hcon hn0 S (.inr (.inr (some b)) :: as)⟩ rfl (by rw [List.length_map]) hlz rfl (sd_rest hst _ rfl) hd hf9) S hsz hle kk
theorem sg_callU (C : sd_cx p R s m args meth c D n0 y h0 hf) {M d pc idx : Nat} {h h2 : ab_H} {bf : Nat → Nat} {H : Heap} {locs : List Loc} {ls : Array Slot} {st1 : List ab_V} {v : Option ab_V} (hle : sd_le h h2) (hle2 : sd_le h2 hf) (hR1 : d + M + 1 ≤ R.frames) (hR2 : 40 * (d + M) + 40 ≤ R.locals) (S : sd_S s D n0 h0 bf0 bf h H locs) (hlz : ls.size = (gG y).2) (hst : Nat.ble (ab_cs st1) 8 = true) {y2 b k : Nat} {as : List ab_V} (hU : sd_US (gW y) idx k y2 (as.length + 1)) (hrc : ab_isc h b k = true) (hk : k < 12) (hd : decode (gB y) pc = .ok (.invokevirtual idx, 3)) (hM : sd_Met l D n0 M d y2 (.inr (.inr (some b)) :: as) h v h2) (kk : ∀ (bf' : Nat → Nat) (H1 : Heap) (locs1 : List Loc), sd_S s D n0 h0 bf0 bf' h2 H1 locs1 → W p l e R s m args below meth c H1 locs1 (ab_sz h2 - ab_sz h0) (ab_sl h2 - ab_sl h0) Q (F0 m (pc + 3) ls ((v.map sd_v).toList ++ st1.map sd_v))) : W p l e R s m args below meth c H locs (ab_sz h - ab_sz h0) (ab_sl h - ab_sl h0) Q (F0 m pc ls ((as.map sd_v).reverse ++ .ref b :: st1.map sd_v)) := by
  obtain ⟨hx, hb, hml, hr, hown, hts, hlocks, hin, hK, hcon, hn0, hRc, hRs, hsz⟩ := C
  have hmo := sd_mono S hsz
  have hf9 : ab_sz h - ab_sz h0 + (ab_sz h2 - ab_sz h) ≤ R.cells ∧ ab_sl h - ab_sl h0 + (ab_sl h2 - ab_sl h) ≤ R.slots := by
    have a1 := hle.2
    have a2 := hle2.2
    have a3 := S.2.2.2.2.2.2.1
    omega
  obtain ⟨x, owner, hlk, hsame, hsel, hinm, hdec, hmh, ⟨n, hn1, hnp⟩, hm⟩ := hU
  have hn1 : n = as.length := by omega
  subst hn1
  have hdecl : va_Decl s ⟨owner, x.name, x.desc⟩ := by
    rcases hdec with ⟨g1, b9, m9, r9, g2⟩ | g1
    · exact va_Decl.of (hts _ g1) (hts _ g2)
    · exact Cond.declares_spec (sd_nuse _ g1 (hcon.2.2.2.2.2.2 _ g1) (A := args))
  have hcode := hts _ hm.1
  have cu : va_CU R s args (sd_nm (gW y)) (sd_nm k) owner idx x (gY y2) (gB y2) (gG y2).2 (gR y2) (sd_ws y2) (sd_rm M d h h2) (ab_sz h2 - ab_sz h) (ab_sl h2 - ab_sl h) as.length := by
    refine ⟨⟨rfl, rfl, hR1, ?_, pay_in hts (sd_good hm), List.mem_cons_self⟩, hcode, hts _ hm.2.1, hmh, fun sig hsig => ?_, hts _ hlk, hts _ hsame, hdecl, hts _ hsel, hts _ hinm⟩
    · have := hm.2.2.2.2.2.2.2
      show 8 + ((gG y2).2 + 11) + 40 * (d + M) ≤ R.locals
      omega
    · unfold sd_np at hnp
      rw [hsig] at hnp
      exact (Option.some.inj hnp).symm
  exact sd_cont (va_runU (b := b) (As := as.map sd_v) (rest := st1.map sd_v) ⟨hx, hb, hml, hown, hts⟩ (hM bf) cu ⟨sd_blind _ _ _ _ _, sd_recv hK S.1 hrc hk, sd_pre hK hcon hn0 S (.inr (.inr (some b)) :: as)⟩ rfl (by rw [List.length_map]) hlz rfl (sd_rest hst _ rfl) hd hf9) S hsz hle kk
theorem sg_callP (C : sd_cx p R s m args meth c D n0 y h0 hf) {M d pc idx : Nat} {h h2 : ab_H} {bf : Nat → Nat} {H : Heap} {locs : List Loc} {ls : Array Slot} {st1 : List ab_V} {v : Option ab_V} (hle : sd_le h h2) (hle2 : sd_le h2 hf) (hR1 : d + M + 1 ≤ R.frames) (hR2 : 40 * (d + M) + 40 ≤ R.locals) (S : sd_S s D n0 h0 bf0 bf h H locs) (hlz : ls.size = (gG y).2) (hst : Nat.ble (ab_cs st1) 8 = true) {y2 b : Nat} {as : List ab_V} (hm : sd_mf y2) (hlk : Cond.methodLink (sd_nm (gW y)) idx (gY y2) ∈ lw_tg) (hsame : Cond.sameMethod (gY y2).cls (gY y2).cls (gY y2).name (gY y2).desc ∈ lw_tg) (hsup : Cond.superclass (sd_nm (gW y)) (gY y2).cls ∈ lw_tg) (hinm : Cond.instanceMethod (gY y2) ∈ lw_tg) (hno : (gY y2).name ≠ "<init>") (hnp : sd_np (gY y2) as.length) (hrc : ab_isc h b 8 = true) (hd : decode (gB y) pc = .ok (.invokespecial idx, 3)) (hM : sd_Met l D n0 M d y2 (.inr (.inr (some b)) :: as) h v h2) (kk : ∀ (bf' : Nat → Nat) (H1 : Heap) (locs1 : List Loc), sd_S s D n0 h0 bf0 bf' h2 H1 locs1 → W p l e R s m args below meth c H1 locs1 (ab_sz h2 - ab_sz h0) (ab_sl h2 - ab_sl h0) Q (F0 m (pc + 3) ls ((v.map sd_v).toList ++ st1.map sd_v))) : W p l e R s m args below meth c H locs (ab_sz h - ab_sz h0) (ab_sl h - ab_sl h0) Q (F0 m pc ls ((as.map sd_v).reverse ++ .ref b :: st1.map sd_v)) := by
  obtain ⟨hx, hb, hml, hr, hown, hts, hlocks, hin, hK, hcon, hn0, hRc, hRs, hsz⟩ := C
  have hmo := sd_mono S hsz
  have hf9 : ab_sz h - ab_sz h0 + (ab_sz h2 - ab_sz h) ≤ R.cells ∧ ab_sl h - ab_sl h0 + (ab_sl h2 - ab_sl h) ≤ R.slots := by
    have a1 := hle.2
    have a2 := hle2.2
    have a3 := S.2.2.2.2.2.2.1
    omega
  have cs : va_CS R s args (sd_nm (gW y)) idx (gY y2) (gB y2) (gG y2).2 (gR y2) (sd_ws y2) (sd_rm M d h h2) (ab_sz h2 - ab_sz h) (ab_sl h2 - ab_sl h) as.length := by
    refine ⟨⟨rfl, rfl, hR1, ?_, pay_in hts (sd_good hm), List.mem_cons_self⟩, hts _ hlk, hts _ hsame, hts _ hsup, hts _ hinm, hts _ hm.2.1, hts _ hm.1, hno, fun sig hsig => ?_⟩
    · have := hm.2.2.2.2.2.2.2
      show 8 + ((gG y2).2 + 11) + 40 * (d + M) ≤ R.locals
      omega
    · unfold sd_np at hnp
      rw [hsig] at hnp
      exact (Option.some.inj hnp).symm
  obtain ⟨T, t1, -⟩ := sd_cls 8 (by decide)
  exact sd_cont (va_runSU (b := b) (C := sd_nm 8) (cC := D.1 8) (As := as.map sd_v) (rest := st1.map sd_v) (hK.1 8 _ t1).2 ⟨hx, hb, hml, hown, hts⟩ (hM bf) cs ⟨sd_blind _ _ _ _ _, sd_recv hK S.1 hrc (by decide), sd_pre hK hcon hn0 S (.inr (.inr (some b)) :: as)⟩ rfl (by rw [List.length_map]) hlz rfl (sd_rest hst _ rfl) hd hf9) S hsz hle kk
end Step
