/-! ===== what every step keeps ===== -/
theorem sum_ge {f : Nat → Nat} : ∀ {k x : Nat}, x ≤ k → f x ≤ sumTo f k := by
  intro k
  induction k with
  | zero => intro x h; rw [show x = 0 by omega]; exact Nat.le_refl _
  | succ k ih =>
    intro x h
    rw [sumTo]
    by_cases hx : x = k + 1
    · rw [hx]; omega
    · have := ih (x := x) (by omega); omega
theorem sum_cg {f g : Nat → Nat} : ∀ {k : Nat}, (∀ x, x ≤ k → f x = g x) → sumTo f k = sumTo g k := by
  intro k
  induction k with
  | zero => intro h; exact h 0 (Nat.le_refl _)
  | succ k ih =>
    intro h
    rw [sumTo, sumTo, ih (fun x hx => h x (by omega)), h (k + 1) (Nat.le_refl _)]
theorem sum_up {f g : Nat → Nat} {x : Nat} (h : ∀ y, y ≠ x → g y = f y) : ∀ {k : Nat}, x ≤ k → sumTo g k + f x = sumTo f k + g x := by
  intro k
  induction k with
  | zero => intro hx; rw [show x = 0 by omega]; rw [sumTo, sumTo]; omega
  | succ k ih =>
    intro hx
    rw [sumTo, sumTo]
    by_cases hk : x = k + 1
    · subst hk
      have : sumTo g k = sumTo f k := sum_cg (fun y hy => h y (by omega))
      omega
    · have := ih (by omega)
      have := h (k + 1) (fun e => hk e.symm)
      omega
theorem sX_len {r : sT} {x : Nat} (h : x ≤ sN r) : (sX r x).length ≤ sC r := sum_ge (f := fun x => (sX r x).length) h
theorem sSet_X {r : sT} {x : Nat} {l : List Int32} : sX (sSet r x l) x = l := ab_up_e _ _ _
theorem sSet_Xn {r : sT} {x y : Nat} {l : List Int32} (h : y ≠ x) : sX (sSet r x l) y = sX r y := ab_up_n _ _ h
theorem sSet_C {r : sT} {x : Nat} {l : List Int32} (h : x ≤ sN r) : sC (sSet r x l) + (sX r x).length = sC r + l.length := by
  have := sum_up (f := fun y => (sX r y).length) (g := fun y => (sX (sSet r x l) y).length) (x := x) (fun y hy => by rw [sSet_Xn hy]) (k := sN r) h
  rw [sSet_X] at this
  exact this
theorem sNew_C {r : sT} {d : Bool} {p : Nat} {m : Int64} : sC (sNew r d p m) = sC r := by
  unfold sC
  show sumTo _ (sN r + 1) = _
  rw [sumTo]
  have e1 : (sX (sNew r d p m) (sN r + 1)) = [] := ab_up_e _ _ _
  rw [e1]
  exact sum_cg (fun x hx => by
    have : sX (sNew r d p m) x = sX r x := ab_up_n _ _ (by omega)
    rw [this])
/-- r' goes on from r -/
def ext (r r' : sT) : Prop := sN r ≤ sN r' ∧ ∀ x, x ≤ sN r → sD r' x = sD r x ∧ sP r' x = sP r x ∧ sM r' x = sM r x
theorem ext.rf (r : sT) : ext r r := ⟨Nat.le_refl _, fun _ _ => ⟨rfl, rfl, rfl⟩⟩
theorem ext.tr {r r' r'' : sT} (h : ext r r') (h' : ext r' r'') : ext r r'' := ⟨Nat.le_trans h.1 h'.1, fun x hx => by
  obtain ⟨a1, a2, a3⟩ := h.2 x hx
  obtain ⟨b1, b2, b3⟩ := h'.2 x (Nat.le_trans hx h.1)
  exact ⟨b1.trans a1, b2.trans a2, b3.trans a3⟩⟩
theorem ext_set (r : sT) (x : Nat) (l : List Int32) : ext r (sSet r x l) := ⟨Nat.le_refl _, fun _ _ => ⟨rfl, rfl, rfl⟩⟩
theorem ext_new (r : sT) (d : Bool) (p : Nat) (m : Int64) : ext r (sNew r d p m) := ⟨Nat.le_succ _, fun x hx => ⟨ab_up_n _ _ (by omega), ab_up_n _ _ (by omega), ab_up_n _ _ (by omega)⟩⟩
theorem okT_set {r : sT} (h : okT r) {x : Nat} {l : List Int32} (hx : x ≤ sN r) (hd : sD r x = false) (hl : okb l) : okT (sSet r x l) := by
  obtain ⟨h1, h2, h3, h4, h5, h6, h7⟩ := h
  refine ⟨h1, h2, h3, h4, h5, fun y hy hD => ?_, fun y hy => ?_⟩
  · by_cases e : y = x
    · rw [e] at hD
      have : sD r x = true := hD
      rw [hd] at this
      cases this
    · rw [sSet_Xn e]; exact h6 y hy hD
  · by_cases e : y = x
    · rw [e, sSet_X]; exact hl
    · rw [sSet_Xn e]; exact h7 y hy
theorem okT_new {r : sT} (h : okT r) {d : Bool} {p : Nat} {m : Int64} (hn : sN r < 12) (hp : p ≤ sN r) (hd : sD r p = true) (hm : ∃ g, isNm g = true ∧ m = pk g) (hc : chS r p m = none) : okT (sNew r d p m) := by
  have hr := h
  obtain ⟨h1, h2, h3, h4, h5, h6, h7⟩ := h
  have eN : sN (sNew r d p m) = sN r + 1 := rfl
  have eD : ∀ y, y ≠ sN r + 1 → sD (sNew r d p m) y = sD r y := fun y hy => ab_up_n _ _ hy
  have eP : ∀ y, y ≠ sN r + 1 → sP (sNew r d p m) y = sP r y := fun y hy => ab_up_n _ _ hy
  have eM : ∀ y, y ≠ sN r + 1 → sM (sNew r d p m) y = sM r y := fun y hy => ab_up_n _ _ hy
  have eX : ∀ y, y ≠ sN r + 1 → sX (sNew r d p m) y = sX r y := fun y hy => ab_up_n _ _ hy
  have fP : sP (sNew r d p m) (sN r + 1) = p := ab_up_e _ _ _
  have fM : sM (sNew r d p m) (sN r + 1) = m := ab_up_e _ _ _
  have fX : sX (sNew r d p m) (sN r + 1) = [] := ab_up_e _ _ _
  refine ⟨by rw [eN]; omega, by rw [eD 0 (by omega)]; exact h2, by rw [eP 0 (by omega)]; exact h3, fun x x1 x2 => ?_, fun x y x1 x2 y1 y2 e1 e2 => ?_, fun x hx hD => ?_, fun x hx => ?_⟩
  · rw [eN] at x2
    by_cases e : x = sN r + 1
    · rw [e, fP, fM, eD p (by omega)]
      exact ⟨by omega, hd, hm⟩
    · obtain ⟨q1, q2, q3⟩ := h4 x x1 (by omega)
      rw [eP x e, eM x e, eD _ (by omega)]
      exact ⟨q1, q2, q3⟩
  · rw [eN] at x2 y2
    by_cases ex : x = sN r + 1
    · by_cases ey : y = sN r + 1
      · rw [ex, ey]
      · exfalso
        rw [ex, fP, eP y ey] at e1
        rw [ex, fM, eM y ey] at e2
        exact chS_none hr hc y1 (by omega) e1.symm e2.symm
    · by_cases ey : y = sN r + 1
      · exfalso
        rw [ey, fP, eP x ex] at e1
        rw [ey, fM, eM x ex] at e2
        exact chS_none hr hc x1 (by omega) e1 e2
      · rw [eP x ex, eP y ey] at e1
        rw [eM x ex, eM y ey] at e2
        exact h5 x y x1 (by omega) y1 (by omega) e1 e2
  · rw [eN] at hx
    by_cases e : x = sN r + 1
    · rw [e, fX]
    · rw [eX x e]
      rw [eD x e] at hD
      exact h6 x (by omega) hD
  · rw [eN] at hx
    by_cases e : x = sN r + 1
    · rw [e, fX]; exact okb.nil
    · rw [eX x e]; exact h7 x (by omega)
theorem and255 (x : Int32) : 0 ≤ (x &&& 255).toInt ∧ (x &&& 255).toInt < 256 := by
  have h1 : (x &&& 255).toBitVec.toNat ≤ 255 := by
    show (x.toBitVec &&& (255 : Int32).toBitVec).toNat ≤ 255
    rw [BitVec.toNat_and]
    exact Nat.and_le_right
  have h2 : (x &&& 255).toInt = (x &&& 255).toBitVec.toInt := rfl
  rw [h2, BitVec.toInt_eq_toNat_of_lt (by omega)]
  omega
theorem spl_b (m : Int64) : ∀ k, okb (splF m k) := by
  intro k
  induction k with
  | zero => exact okb.nil
  | succ k ih =>
    rw [splF]
    refine okb.ap ?_ ih
    split
    · exact okb.nil
    · exact okb.cons (and255 _) okb.nil
theorem okb1 {c : Int32} (h : 0 ≤ c.toInt ∧ c.toInt < 256) : okb [c] := okb.cons h okb.nil
theorem ent_b (r : sT) (x : Nat) : okb (entS r x) := by
  unfold entS
  refine okb.ap (spl_b _ _) (okb.ap ?_ (okb1 (by decide)))
  split
  · exact okb1 (by decide)
  · exact okb.nil
theorem ls_b (r : sT) (x : Nat) : okb (lsS r x) := by
  unfold lsS
  have : ∀ k m, okb (lsF r x k m) := by
    intro k
    induction k with
    | zero => intro m; exact okb.nil
    | succ k ih =>
      intro m
      rw [lsF]
      split
      · exact okb.nil
      · exact okb.ap (ent_b _ _) (ih _)
  split
  · exact this _ _
  · exact ent_b _ _
theorem nI_b {k : Nat} (h : k < 256) : 0 ≤ (nI k).toInt ∧ (nI k).toInt < 256 := by
  rw [nI_toInt (by omega)]
  omega
theorem dg_b {v : Nat} (h : v < 1000) : okb (dg v) := by
  unfold dg
  split
  · exact okb1 (nI_b (by omega))
  · split
    · exact okb.cons (nI_b (by omega)) (okb1 (nI_b (by omega)))
    · exact okb.cons (nI_b (by omega)) (okb.cons (nI_b (by omega)) (okb1 (nI_b (by omega))))
theorem dg_l {v : Nat} (h : v < 1000) : okl (dg v) := by
  unfold dg
  split
  · exact okl.cons (okc_of (by omega) (by omega)) okl.nil
  · split
    · exact okl.cons (okc_of (by omega) (by omega)) (okl.cons (okc_of (by omega) (by omega)) okl.nil)
    · exact okl.cons (okc_of (by omega) (by omega)) (okl.cons (okc_of (by omega) (by omega)) (okl.cons (okc_of (by omega) (by omega)) okl.nil))
theorem wx_l {e : List Int32} (he : okl e) : ∀ (m : Nat) (q : Bool) (s : List Int32), s.length ≤ m → okl s → okl (wx e q s) := by
  intro m
  induction m with
  | zero => intro q s h hs; obtain rfl : s = [] := List.length_eq_zero_iff.mp (by omega); exact okl.nil
  | succ m ih =>
    intro q s h hs
    match s, h, hs with
    | [], h, hs => exact okl.nil
    | [c], h, hs =>
      rw [wx]
      split
      · exact okl.nil
      · exact hs
    | c :: d :: l, h, hs =>
      simp only [List.length_cons] at h
      rw [wx]
      split
      · exact ih _ _ (by simp only [List.length_cons]; omega) hs.tl
      · split
        · exact okl.ap he (ih _ _ (by omega) hs.tl.tl)
        · exact okl.cons hs.hd (ih _ _ (by simp only [List.length_cons]; omega) hs.tl)
theorem jr_b : ∀ ws : List (List Int32), (∀ w, w ∈ ws → okl w) → okb (joinS ws) := by
  intro ws
  induction ws with
  | nil => intro _; exact okb.nil
  | cons w ws ih =>
    intro h
    cases ws with
    | nil => exact (h w List.mem_cons_self).b
    | cons v ws =>
      rw [joinS]
      exact okb.ap (h w List.mem_cons_self).b (okb.cons (by decide) (ih (fun x hx => h x (List.mem_cons_of_mem _ hx))))
theorem echo_b {ws : List (List Int32)} (h : ∀ w, w ∈ ws → okl w) : okb (echoS ws) := by
  unfold echoS
  split
  · exact jr_b _ (fun x hx => h x (List.mem_cons_of_mem _ hx))
  · exact okb.ap (jr_b _ h) (okb1 (by decide))
theorem doc_b {r : sT} (hr : okT r) {here : Nat} {w t : List Int32} (hF : okF r (folS r here w)) (h : docS r here w = some t) : okb t ∧ t.length ≤ sC r := by
  unfold docS at h
  split at h
  · cases h
  · rename_i x hx
    split at h
    · cases h
    · cases h
      have := hF.1 x hx
      exact ⟨hr.2.2.2.2.2.2 x this, sX_len this⟩
theorem ln_b : ∀ (s cur : List Int32), okb s → okb cur → ∀ l, l ∈ lnS cur s → okb l := by
  intro s
  induction s with
  | nil =>
    intro cur hs hc l hl
    rw [lnS] at hl
    split at hl
    · exact absurd hl List.not_mem_nil
    · rw [List.mem_singleton.mp hl]; exact hc
  | cons c s ih =>
    intro cur hs hc l hl
    rw [lnS] at hl
    split at hl
    · rcases List.mem_cons.mp hl with h1 | h1
      · rw [h1]; exact hc
      · exact ih [] hs.tl okb.nil l h1
    · exact ih _ hs.tl (okb.ap hc (okb1 hs.hd)) l hl
theorem go_b {inv : Bool} {p : List Int32} : ∀ ls : List (List Int32), (∀ l, l ∈ ls → okb l) → okb (gout inv p ls) := by
  intro ls
  induction ls with
  | nil => intro _; exact okb.nil
  | cons l ls ih =>
    intro h
    rw [gout]
    refine okb.ap ?_ (ih (fun x hx => h x (List.mem_cons_of_mem _ hx)))
    split
    · exact okb.ap (h l List.mem_cons_self) (okb1 (by decide))
    · exact okb.nil
/-- what holds of a tool's outcome -/
def tlK (r : sT) (src : List Int32) (u : sO) : Prop := okT u.2.2.2.1 ∧ ext r u.2.2.2.1 ∧ u.2.2.2.2.1 ≤ sN u.2.2.2.1 ∧ sD u.2.2.2.1 u.2.2.2.2.1 = true ∧ sC u.2.2.2.1 = sC r ∧ u.2.1 ≤ 127 ∧ okb u.2.2.1 ∧ (u.2.2.2.2.2 = src ∨ u.2.2.2.2.2 = [])
section
variable {r : sT} {here : Nat} {src : List Int32}
theorem tlK_no (hr : okT r) (hh : here ≤ sN r) (hd : sD r here = true) {c : Nat} (hc : c ≤ 127) {x : List Int32} (hx : okb x) {s' : List Int32} (hs : s' = src ∨ s' = []) : tlK r src (false, c, x, r, here, s') := ⟨hr, ext.rf r, hh, hd, rfl, hc, hx, hs⟩
theorem wc_b {t : List Int32} (h : t.length ≤ 160) : okb (wcS t) := by
  unfold wcS
  have h1 : nls t ≤ t.length := nls_le t
  have h2 : pcs false t ≤ t.length := pcs_le t false
  exact okb.ap (dg_b (by omega)) (okb.cons (by decide) (okb.ap (dg_b (by omega)) (okb.cons (by decide) (okb.ap (dg_b (by omega)) (okb1 (by decide))))))
theorem grep_k (hr : okT r) (hh : here ≤ sN r) (hd : sD r here = true) (hs : okb src) (inv : Bool) (ws : List (List Int32)) : tlK r src (grepS r here src inv ws) := by
  have cc : ∀ b : Bool, (if b = true then 0 else 1) ≤ 127 := fun b => by split <;> omega
  unfold grepS
  match ws with
  | [] => exact tlK_no hr hh hd (by omega) okb.nil (Or.inl rfl)
  | [p] => exact tlK_no hr hh hd (cc _) (go_b _ (ln_b src [] hs okb.nil)) (Or.inr rfl)
  | [p, w] =>
    dsimp only
    split
    · exact tlK_no hr hh hd (by omega) okb.nil (Or.inl rfl)
    · rename_i t ht
      exact tlK_no hr hh hd (cc _) (go_b _ (ln_b t [] (doc_b hr (fol_ok hr hh w) ht).1 okb.nil)) (Or.inl rfl)
  | _ :: _ :: _ :: _ => exact tlK_no hr hh hd (by omega) okb.nil (Or.inl rfl)
theorem cat_b (hr : okT r) (hh : here ≤ sN r) : ∀ (ws : List (List Int32)) (t : List Int32), catS r here ws = some t → okb t := by
  intro ws
  induction ws with
  | nil => intro t e; cases e; exact okb.nil
  | cons w ws ih =>
    intro t e
    rw [catS] at e
    cases hd : docS r here w with
    | none => rw [hd] at e; cases e
    | some t1 =>
      rw [hd] at e
      obtain ⟨t2, e2, rfl⟩ := Option.map_eq_some_iff.mp e
      exact okb.ap (doc_b hr (fol_ok hr hh w) hd).1 (ih t2 e2)
theorem tool_k (hr : okT r) (hh : here ≤ sN r) (hd : sD r here = true) (hs : okb src) (hs2 : src.length ≤ 160) (hC : sC r ≤ 160) {nl : Nat} (hnl : nl ≤ 12) {a : List (List Int32)} (ha : ∀ w, w ∈ a → okl w) : tlK r src (toolS nl r here src a) := by
  unfold toolS
  match a, ha with
  | [], _ => exact tlK_no hr hh hd (by omega) okb.nil (Or.inl rfl)
  | n :: ws, ha =>
    have hw : ∀ w, w ∈ ws → okl w := fun w h => ha w (List.mem_cons_of_mem _ h)
    dsimp only
    split
    · exact tlK_no hr hh hd (by omega) (echo_b hw) (Or.inl rfl)
    split
    · unfold catU
      match ws with
      | [] => exact tlK_no hr hh hd (by omega) hs (Or.inr rfl)
      | g :: ws =>
        dsimp only
        split
        · exact tlK_no hr hh hd (by omega) okb.nil (Or.inl rfl)
        · rename_i t ht
          exact tlK_no hr hh hd (by omega) (cat_b hr hh _ t ht) (Or.inl rfl)
    split
    · unfold wcU
      match ws with
      | [] => exact tlK_no hr hh hd (by omega) (wc_b hs2) (Or.inr rfl)
      | [w] =>
        dsimp only
        split
        · exact tlK_no hr hh hd (by omega) okb.nil (Or.inl rfl)
        · rename_i t ht
          have := (doc_b hr (fol_ok hr hh w) ht).2
          exact tlK_no hr hh hd (by omega) (wc_b (by omega)) (Or.inl rfl)
      | _ :: _ :: _ => exact tlK_no hr hh hd (by omega) okb.nil (Or.inl rfl)
    split
    · unfold grepU
      split
      · exact grep_k hr hh hd hs true _
      · exact grep_k hr hh hd hs false _
    split
    · unfold lsU
      match ws with
      | [] => exact tlK_no hr hh hd (by omega) (ls_b _ _) (Or.inl rfl)
      | [w] =>
        dsimp only
        split
        · exact tlK_no hr hh hd (by omega) okb.nil (Or.inl rfl)
        · exact tlK_no hr hh hd (by omega) (ls_b _ _) (Or.inl rfl)
      | _ :: _ :: _ => exact tlK_no hr hh hd (by omega) okb.nil (Or.inl rfl)
    split
    · unfold mkU
      match ws with
      | [] => exact tlK_no hr hh hd (by omega) okb.nil (Or.inl rfl)
      | [w] =>
        dsimp only
        split
        · exact tlK_no hr hh hd (by omega) okb.nil (Or.inl rfl)
        · rename_i dd m hm
          split
          · exact ⟨hr, ext.rf r, hh, hd, rfl, Nat.zero_le _, okb.nil, Or.inl rfl⟩
          · rename_i hf
            obtain ⟨q1, q2, q3, q4, q5⟩ := (fol_ok hr hh w).2 dd m hm
            refine ⟨okT_new hr (by omega) q1 q2 q4 q5, ext_new _ _ _ _, ?_, ?_, sNew_C, Nat.zero_le _, okb.nil, Or.inl rfl⟩
            · show here ≤ sN r + 1
              omega
            · rw [((ext_new r true dd m).2 here hh).1]; exact hd
      | _ :: _ :: _ => exact tlK_no hr hh hd (by omega) okb.nil (Or.inl rfl)
    split
    · unfold cdU
      match ws with
      | [] => exact ⟨hr, ext.rf r, Nat.zero_le _, hr.2.1, rfl, Nat.zero_le _, okb.nil, Or.inl rfl⟩
      | [w] =>
        dsimp only
        split
        · exact tlK_no hr hh hd (by omega) okb.nil (Or.inl rfl)
        · rename_i x hx
          split
          · rename_i hD
            exact ⟨hr, ext.rf r, (fol_ok hr hh w).1 x hx, hD, rfl, Nat.zero_le _, okb.nil, Or.inl rfl⟩
          · exact tlK_no hr hh hd (by omega) okb.nil (Or.inl rfl)
      | _ :: _ :: _ => exact tlK_no hr hh hd (by omega) okb.nil (Or.inl rfl)
    · exact tlK_no hr hh hd (by omega) okb.nil (Or.inl rfl)
end
