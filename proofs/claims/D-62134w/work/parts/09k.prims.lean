/-! ===== the JDK's own primitives ===== -/
section
set_option maxRecDepth 100000
theorem mt_obj : Cond.instanceMethod Lib.objectInit ∈ lw_tg ∧ Cond.code Lib.objectInit ⟨#[0xb1]⟩ 1 none ∈ lw_tg := ⟨sd_j1 31 rfl, sd_j1 32 rfl⟩
theorem mt_copy : Cond.methodLink (sd_nm 19) 150 arraycopyName ∈ lw_tg ∧ Cond.native arraycopyName ∈ lw_tg ∧ Cond.static arraycopyName ∈ lw_tg ∧ Cond.initialized "java/lang/System" ∈ lw_tg := ⟨sd_j3 57 rfl, sd_j3 59 rfl, sd_j3 58 rfl, sd_j1 22 rfl⟩
theorem mt_clone : Cond.methodLink (sd_nm 10) 29 ⟨"[LTreeShell$Tool;", "clone", "()Ljava/lang/Object;"⟩ ∈ lw_tg ∧ Cond.sameMethod "[LTreeShell$Tool;" "java/lang/Object" "clone" "()Ljava/lang/Object;" ∈ lw_tg ∧ Cond.native ⟨"java/lang/Object", "clone", "()Ljava/lang/Object;"⟩ ∈ lw_tg ∧ Cond.instanceMethod ⟨"java/lang/Object", "clone", "()Ljava/lang/Object;"⟩ ∈ lw_tg ∧ Cond.selects "[LTreeShell$Tool;" ⟨"[LTreeShell$Tool;", "clone", "()Ljava/lang/Object;"⟩ ⟨"java/lang/Object", "clone", "()Ljava/lang/Object;"⟩ ∈ lw_tg := ⟨sd_j1 163 rfl, sd_j1 164 rfl, sd_j1 165 rfl, sd_j1 166 rfl, sd_j1 167 rfl⟩
theorem mt_cloneable : Cond.castable "[LTreeShell$Tool;" "java/lang/Cloneable" ∈ lw_nl := sd_n 4 rfl
end
section Step
variable {p : Program} {l : Launch} {e : Env} {R : Room} {s : State} {m : MethodId} {args : Array Value} {below : List Frame} {meth : Method} {c : Code} {Q : State → Prop} {D : sd_G} {n0 y : Nat} {h0 hf : ab_H} {bf0 : Nat → Nat}
/-- System.arraycopy of bytes, between two arrays of ours -/
theorem sg_copy (hx : p.tables.exec = Jvm.exec) (hb : c.code = gB y) (hown : s.vm.findClass (sd_nm 19) = some m.cls) (hts : ∀ w ∈ lw_tg, w.before args s = true) (hK : sd_K D s) {pc a0 a k0 k1 : Nat} {f g : Nat → Int32} {H : Heap} {locs : List Loc} {ls : Array Slot} {rest : List Value} {cells slots : Nat} (hml : c.maxLocals = ls.size) (hc0 : H[a0]? = some (arrV (D.2.2 1) k0 (fun j => .int (f j)))) (hc1 : H[a]? = some (arrV (D.2.2 1) k1 (fun j => .int (g j)))) (hfit : ∀ i, fits .byte (.int (f i)) = true)
    {sp dp n : Int32} (h1 : 0 ≤ sp.toInt) (h2 : 0 ≤ dp.toInt) (h3 : 0 ≤ n.toInt) (h4 : sp.toInt + n.toInt ≤ k0) (h5 : dp.toInt + n.toInt ≤ k1) (hframes : 1 ≤ R.frames) (hlocals : (rest.map fun v => v.category).sum + (nativeFrameWords "java/lang/System" "arraycopy" 5 + 11) ≤ R.locals) (hd : decode (gB y) pc = .ok (.invokestatic 150, 3))
    (kk : ∀ (H1 : Heap) (L : List Loc), (∀ q ∈ L, q.base = a) → H1[a]? = some (arrV (D.2.2 1) k1 (fun j => .int (va_cpy f g sp.toNatClampNeg dp.toNatClampNeg n.toNatClampNeg j))) → H1.size = H.size → (∀ q : Nat, q ≠ a → H1[q]? = H[q]?) → W p l e R s m args below meth c H1 (locs ++ L) cells slots Q (F0 m (pc + 3) ls rest)) : W p l e R s m args below meth c H locs cells slots Q (F0 m pc ls (.int n :: .int dp :: .ref a :: .int sp :: .ref a0 :: rest)) := by
  obtain ⟨m1, m2, m3, m4⟩ := mt_copy
  have pos : ∀ z : Int32, 0 ≤ z.toInt → ¬ z < 0 := fun z hz q => by
    rw [Int32.lt_iff_toInt_lt, Int32.toInt_zero] at q
    omega
  have cl : ∀ z : Int32, 0 ≤ z.toInt → (z.toNatClampNeg : Int) = z.toInt := fun z hz => by
    show ((z.toInt.toNat : Nat) : Int) = z.toInt
    omega
  have c1 := cl sp h1
  have c2 := cl dp h2
  have c3 := cl n h3
  intro T hT X
  obtain ⟨-, kc, hkc, cm, hkk⟩ := (hK.2 1 _ rfl).1 0 (fun _ => .null)
  obtain ⟨vm', X', step⟩ := X.arraycopy hx hown (hts _ m1) (hts _ m2) (hts _ m3) (hts _ m4) (src := a0) (dst := a) (cs := arrV (D.2.2 1) k0 (fun j => .int (f j))) (cd := arrV (D.2.2 1) k1 (fun j => .int (g j))) (srcPos := sp) (destPos := dp) (n := n) (by rw [hT]; exact hc0) (by rw [hT]; exact hc1)
    (fun _ h => by cases h) (fun _ h => by cases h) (fun h => by cases h) (fun h => by cases h) hkc hkc hkk hkk (by simp [refKind]) (pos sp h1) (pos dp h2) (pos n h3) (by rw [arrV_size]; omega) (by rw [arrV_size]; omega)
    (fun vm₁ _ i hi => by
      have e9 : (arrV (D.2.2 1) k0 (fun j => Value.int (f j))).slots.getD (sp.toNatClampNeg + i) .null = .int (f (sp.toNatClampNeg + i)) := by
        rw [Array.getD_eq_getD_getElem?, arrV_read _ _ (by omega)]
        rfl
      refine ⟨?_, ?_⟩
      · rw [e9]
        exact hfit _
      · rw [e9]
        exact trivial)
    (g := F0 m pc ls (.int n :: .int dp :: .ref a :: .int sp :: .ref a0 :: rest)) rfl (by rw [hml]) (rest := rest) rfl (by rw [hb]; exact hd) hframes (by show 2 * 0 + _ + _ ≤ _; omega)
  have e1 : copied (arrV (D.2.2 1) k0 (fun j => .int (f j))) (arrV (D.2.2 1) k1 (fun j => .int (g j))) sp dp n = arrV (D.2.2 1) k1 (fun j => .int (va_cpy f g sp.toNatClampNeg dp.toNatClampNeg n.toNatClampNeg j)) := va_copied (fun z => Value.int z) (D.2.2 1) (D.2.2 1) f g (by omega)
  rw [e1] at X' step
  have hl : a < H.size := (Array.getElem?_eq_some_iff.mp hc1).1
  obtain ⟨t, a1, b1⟩ := kk (H.setIfInBounds a (arrV (D.2.2 1) k1 (fun j => .int (va_cpy f g sp.toNatClampNeg dp.toNatClampNeg n.toNatClampNeg j)))) _ (fun q hq => by
      obtain ⟨z, -, hz⟩ := List.mem_map.mp hq
      rw [← hz]) (by simp [Array.getElem?_setIfInBounds, hl]) (by simp) (fun q hq => by simp [Array.getElem?_setIfInBounds, Ne.symm hq]) _ (by rw [← hT]; rfl) X'
  exact ⟨t, step t a1, b1⟩
/-- clone of the enum's array -/
theorem sg_clone (hx : p.tables.exec = Jvm.exec) (hb : c.code = gB y) (hown : s.vm.findClass (sd_nm 10) = some m.cls) (hts : ∀ w ∈ lw_tg, w.before args s = true) (hnl : ∀ w ∈ lw_nl, va_Nw w s) (hK : sd_K D s) {pc a n : Nat} {f : Nat → Option Nat} {cell : Cell} {H : Heap} {locs : List Loc} {ls : Array Slot} {rest : List Value} {cells slots : Nat} (hml : c.maxLocals = ls.size) (hc : H[a]? = some cell) (hcls : cell.cls = D.2.2 7) (hv1 : cell.vm ≠ .unknown) (hv2 : ∀ q, cell.vm ≠ .statics q) (hn : cell.slots.size = n) (hel : ∀ j, j < n → cell.slots[j]? = some (va_rf (f j)))
    (hframes : 1 ≤ R.frames) (hlocals : (rest.map fun v => v.category).sum + 14 ≤ R.locals) (hcells : cells + 1 ≤ R.cells) (hslots : slots + n ≤ R.slots) (hd : decode (gB y) pc = .ok (.invokevirtual 29, 3))
    (kk : W p l e R s m args below meth c (H.push (arrV (D.2.2 7) n (fun j => va_rf (f j)))) locs (cells + 1) (slots + n) Q (F0 m (pc + 3) ls (.ref H.size :: rest))) : W p l e R s m args below meth c H locs cells slots Q (F0 m pc ls (.ref a :: rest)) := by
  obtain ⟨m1, m2, m3, m4, m5⟩ := mt_clone
  have hcellE : ({ cls := cell.cls, slots := cell.slots } : Cell) = arrV (D.2.2 7) n (fun j => va_rf (f j)) := by
    unfold arrV
    rw [hcls]
    congr 1
    apply Array.ext
    · rw [hn, Array.size_ofFn]
    · intro i h1 h2
      have h3 := hel i (by omega)
      rw [Array.getElem?_eq_getElem h1] at h3
      rw [Array.getElem_ofFn]
      exact Option.some.inj h3
  obtain ⟨c0, t0', f1, f2, f3⟩ := Cond.castable_spec (va_Nw.use (A := args) rfl (hnl _ mt_cloneable))
  obtain ⟨kA9, comp9, r1, r2, r3, r4⟩ := (hK.2 7 _ rfl).2
  have hnm : s.vm.findClass "[LTreeShell$Tool;" = some (D.2.2 7) := r4
  cases hnm.symm.trans f1
  intro T hT X
  obtain ⟨-, kA, hkA, comp, hkind⟩ := State.isArrayOf_alike X.warmed.alike ((hK.2 7 _ rfl).1 0 (fun _ => .null))
  obtain ⟨-, kS, hkS, compS, hkindS⟩ := (hK.2 7 _ rfl).1 0 (fun _ => .null)
  obtain ⟨vm', X', st⟩ := X.cloneArray hx hown (hts _ m1) (hts _ m2) (hts _ m3) (hts _ m4) (hts _ m5) (a := a) (cell := cell) (by rw [hT]; exact hc) hv2 hv1 (by rw [hcls]; exact hnm) f2 (by rw [hcls]; exact f3)
    (fun i v hv => by
      rw [hcls]
      have hk' : T.vm.classes[D.2.2 7]? = some kA := hkA
      have hi : i < n := by rw [← hn]; exact (Array.getElem?_eq_some_iff.mp hv).1
      have hv9 : v = va_rf (f i) := Option.some.inj (hv.symm.trans (hel i hi))
      have hf9 : fits (.object "TreeShell$Tool") v = true := by rw [hv9]; cases f i <;> rfl
      simpa [State.fitsSlot, State.slotType?, hk', hkind] using hf9)
    (g := F0 m pc ls (.ref a :: rest)) rfl (by rw [hml]) rfl (by rw [hb]; exact hd) hframes (by show 2 * 0 + _ + 14 ≤ _; omega) hcells (by rw [hn]; exact hslots) (hloader := by rw [hcls]; exact Vm.clonesLoader_of_array hkS hkindS)
  rw [hcellE, hn] at X'
  obtain ⟨t, b1, b2⟩ := kk ((T.setVm vm').pushCell (arrV (D.2.2 7) n (fun j => va_rf (f j)))) (by rw [← hT]; rfl) X'
  refine ⟨t, st t ?_, b2⟩
  rw [hcellE, hT]
  exact b1
end Step
