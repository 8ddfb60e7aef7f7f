/-! ===== the twin's run: one command ===== -/
section
variable {B : ab_H} {b : Nat} {I : Nat → Int32} {P : Int64} {A : Nat → Nat → Int32} {N : Nat → Int64} {Z : sL} {n : Nat} {fa : Nat → Nat} {lv : Nat} {s : sS}
/-- endCommand, whole -/
theorem ec_all (d : Nat) (hb : B.1.1 ≤ b) (hZ : okZ Z) (hk : tkR n Z.2.1 Z.2.2 fa) (hl2 : lv < 5) {r1 : sT} {h1 st1 rn1 : Nat} {o : Option Nat} {inp out : List Int32} (hX : XS Z n fa lv (r1, h1, st1, rn1) o inp out I A N) (ho : ∀ i, o = some i → i < 2 * lv) (hr1 : okT r1) (hC1 : sC r1 ≤ Z.1.2.1) {tc : Nat} (hp : I 22 = nI tc) (htc : tc ≤ n) {x : List Int32} (hx : x.length ≤ Z.1.2.2) (h35 : I 35 = nI x.length) (hrx : rdl (A 25) 0 x) {tg : Option Nat} (htg : A 17 lv = oI tg) (htg2 : ∀ y, tg = some y → y ≤ sN r1) {bk : Nat} (hbk : A 18 lv = nI bk) {mn nt g : Bool} (hmn : A 19 lv = b01 mn) (hnt : A 20 lv = b01 nt) (hout : out.length ≤ Z.1.2.2) {cd : Nat} (hcd : cd ≤ 127) (ii : List Int32) (h2 : Nat) (hh2 : h2 = if g = true ∨ mn = true then bk else h1) (c : sR) (hc : c = stoS Z tg (false, (r1, h2, st1, rn1), cd, x, ii)) {r t1 : Nat} (hpo : Z.2.1 tc ≠ 4 → pO Z.2.1 100 (pG Z.2.1 100 r) 100 tc = some t1 ∧ (Z.2.1 t1 = 1 ∨ Z.2.1 t1 = 9 ∨ Z.2.1 t1 = 11)) (st2 : Nat) (hst2 : st2 = if nt = true then (if cd = 0 then 1 else 0) else cd) :
    ((c.1 = true ∨ (c.1 = false ∧ Z.2.1 tc ≠ 4 ∧ Z.1.2.2 < out.length + c.2.2.2.1.length)) → ∃ I' A', ab_cl gG true (d + 3) 75 [.inr (.inr (some b)), .inl (nI cd), .inl (b01 g)] (TW B b I P A N) = some (some (.inl 0), TW B b I' P A' N) ∧ RT Z n fa lv c.2.1 I' A' N ∧ fr [9, 35] I I' ∧ fr [6, 5] A A' ∧ I' 9 = nI h2) ∧
    (c.1 = false → Z.2.1 tc = 4 → ∃ I' A', ab_cl gG true (d + 3) 75 [.inr (.inr (some b)), .inl (nI cd), .inl (b01 g)] (TW B b I P A N) = some (some (.inl 1), TW B b I' P A' N) ∧ SC Z n fa lv (tc + 1) c.2.1 o inp out (some (2 * lv)) c.2.2.2.1 nt mn I' A' N ∧ lvO lv o A A') ∧
    (c.1 = false → Z.2.1 tc ≠ 4 → out.length + c.2.2.2.1.length ≤ Z.1.2.2 → ∃ I' A', ab_cl gG true (d + 3) 75 [.inr (.inr (some b)), .inl (nI cd), .inl (b01 g)] (TW B b I P A N) = some (some (.inl 1), TW B b I' P A' N) ∧ AG Z n fa lv r 100 tc (c.2.1.1, c.2.1.2.1, st2, c.2.1.2.2.2) o inp (out ++ c.2.2.2.1) I' A' N ∧ lvO lv o A A') := by
  obtain ⟨hR, hli, hin, hO⟩ := hX
  have hpl := hZ.2.2.1
  obtain ⟨I1, A1, f1, f2, R1, p1, hcase⟩ := ec_sto (B := B) (b := b) (P := P) d hb hZ hl2 hR hr1 hC1 hx h35 hrx htg htg2 hbk (g := g) hmn (nI cd) cd ii h2 hh2 c hc
  have hO1 : twO lv out A1 := ⟨by rw [f2 _ rfl]; exact hO.1, by rw [f2 _ rfl]; exact hO.2⟩
  have hp1 : I1 22 = nI tc := by rw [f1 _ rfl]; exact hp
  have hin1 : twIn o inp A1 := hin.cg (fun i _ => by rw [f2 _ rfl]) (fun i _ k _ _ => by rw [f2 _ rfl])
  have hxc : c.1 = false → c.2.2.2.1.length ≤ 96 := fun hb => by
    rw [hc]
    unfold stoS
    rw [if_neg (show ¬ (false = true) by decide)]
    cases tg with
    | none => show x.length ≤ 96; omega
    | some y =>
      dsimp only
      split
      · show x.length ≤ 96; omega
      · exact Nat.zero_le _
  refine ⟨fun h => ?_, fun hbf h4 => ?_, fun hbf h4 hf => ?_⟩
  · rcases hcase with ⟨hv, e1⟩ | ⟨hv, e1, e2, e3⟩
    · exact ⟨I1, A1, e1, R1, f1, f2, p1⟩
    · rcases h with h | ⟨-, h4, hf⟩
      · rw [hv] at h; cases h
      · obtain ⟨q1, q2⟩ := hpo h4
        obtain ⟨g1, -⟩ := ec_out (B := B) (b := b) (P := P) (r1 := c.2.1.1) (h1 := c.2.1.2.1) (st1 := c.2.1.2.2.1) (rn1 := c.2.1.2.2.2) d hb hZ hk hl2 R1 hp1 htc h4 (hxc hv) e2 e3 (nt := nt) (by rw [f2 _ rfl]; exact hnt) hO1 hout hcd (b01 g) q1 q2 st2 hst2
        exact ⟨I1, A1, e1.trans (g1 hf), R1, f1, f2, p1⟩
  · rcases hcase with ⟨hv, e1⟩ | ⟨hv, e1, e2, e3⟩
    · rw [hv] at hbf; cases hbf
    · obtain ⟨I2, A2, g1, g2, g3, g4, g5, g6, g7, g8, g9⟩ := ec_bar (B := B) (b := b) (P := P) (d + 2) hb hk hl2 R1 hp1 h4 (hxc hv) e2 e3 (nI cd) (b01 g)
      refine ⟨I2, A2, e1.trans g1, ⟨⟨R1.kp g2 g3 rfl rfl, by rw [g3 _ rfl, f2 _ rfl]; exact hli, ?_, ⟨by rw [g3 _ rfl]; exact hO1.1, by rw [g3 _ rfl]; exact hO1.2⟩⟩, g4, g5, g6, by rw [g3 _ rfl, f2 _ rfl]; exact hnt, by rw [g3 _ rfl, f2 _ rfl]; exact hmn⟩, ?_⟩
      · exact hin1.cg (fun i hi => g8 i (by have := ho i hi; omega)) (fun i hi k k1 k2 => g9 k (by have := ho i hi; omega))
      · refine ⟨fun p hp j hj => ?_, fun k hk2 => ?_, fun k hk2 => ?_, fun i hi _ => ?_⟩
        · by_cases e16 : p = 16
          · rw [e16, g7 j (by omega), f2 _ rfl]
          · rw [g3 p ?_, f2 p ?_]
            · simp only [List.contains_cons, List.contains_nil, Bool.or_false, Bool.or_eq_true, beq_iff_eq] at hp ⊢
              simp only [Bool.or_eq_false_iff, beq_eq_false_iff_ne]
              omega
            · simp only [List.contains_cons, List.contains_nil, Bool.or_false, Bool.or_eq_true, beq_iff_eq] at hp ⊢
              simp only [Bool.or_eq_false_iff, beq_eq_false_iff_ne]
              omega
        · rw [g3 _ rfl, f2 _ rfl]
        · rw [g9 k (by omega), f2 _ rfl]
        · rw [g8 i (by omega), f2 _ rfl]
  · rcases hcase with ⟨hv, e1⟩ | ⟨hv, e1, e2, e3⟩
    · rw [hv] at hbf; cases hbf
    · obtain ⟨q1, q2⟩ := hpo h4
      obtain ⟨-, g0⟩ := ec_out (B := B) (b := b) (P := P) (r1 := c.2.1.1) (h1 := c.2.1.2.1) (st1 := c.2.1.2.2.1) (rn1 := c.2.1.2.2.2) d hb hZ hk hl2 R1 hp1 htc h4 (hxc hv) e2 e3 (nt := nt) (by rw [f2 _ rfl]; exact hnt) hO1 hout hcd (b01 g) q1 q2 st2 hst2
      obtain ⟨I2, A2, g1, g2, g3, g4, g5, g6, g7, g8, g9⟩ := g0 hf
      have hli1 : A1 14 lv = oI o := by rw [f2 _ rfl]; exact hli
      refine ⟨I2, A2, e1.trans g1, ⟨⟨g4, by rw [g3 _ rfl]; exact hli1, hin1.cg (fun i _ => by rw [g3 _ rfl]) (fun i _ k _ _ => by rw [g3 _ rfl]), g5⟩, g8, fun e => ?_⟩, ?_⟩
      · obtain ⟨a1, a2, a3, a4, a5⟩ := g9 e
        exact ⟨a1, a2, a3, a4, a5.trans hli1⟩
      · refine ⟨fun p hp j hj => ?_, fun k hk2 => ?_, fun k _ => by rw [g3 _ rfl, f2 _ rfl], fun i _ _ => by rw [g3 _ rfl, f2 _ rfl]⟩
        · obtain ⟨a1, a2, a3, a4⟩ := g6 j (by omega)
          simp only [List.contains_cons, List.contains_nil, Bool.or_false, Bool.or_eq_true, beq_iff_eq] at hp
          rcases hp with h | h | h | h | h | h | h | h <;> subst h
          · rw [g3 _ rfl, f2 _ rfl]
          · rw [g3 _ rfl, f2 _ rfl]
          · rw [a4, f2 _ rfl]
          · rw [g3 _ rfl, f2 _ rfl]
          · rw [g3 _ rfl, f2 _ rfl]
          · rw [a3, f2 _ rfl]
          · rw [a2, f2 _ rfl]
          · rw [a1, f2 _ rfl]
        · rw [g7 k (by omega), f2 _ rfl]
/-- what a run of a command comes to -/
def CC (B : ab_H) (b : Nat) (Z : sL) (n : Nat) (fa : Nat → Nat) (d r lv : Nat) (o : Option Nat) (inp out : List Int32) (nt mn : Bool) (tc : Nat) (c : sR) (A : Nat → Nat → Int32) (E : Option ab_R) : Prop :=
  ((c.1 = true ∨ (c.1 = false ∧ Z.2.1 tc ≠ 4 ∧ Z.1.2.2 < out.length + c.2.2.2.1.length)) → ∃ I' P' A' N', E = some (some (.inl 0), TW B b I' P' A' N') ∧ BK Z lv c.2.1 out I' A' N' ∧ lvO lv o A A') ∧
  (c.1 = false → Z.2.1 tc = 4 → ∃ τ v I' P' A' N', E = ab_ev gG true (d + 7) 61 25 [some (.inr (.inr (some b))), some (.inl (nI τ)), some (.inl (nI v))] [] (TW B b I' P' A' N') ∧ τ + 1 ≤ tc ∧ v < 1000 ∧ SC Z n fa lv (tc + 1) c.2.1 o inp out (some (2 * lv)) c.2.2.2.1 nt mn I' A' N' ∧ lvO lv o A A') ∧
  (c.1 = false → Z.2.1 tc ≠ 4 → out.length + c.2.2.2.1.length ≤ Z.1.2.2 → ∃ τ v I' P' A' N', E = ab_ev gG true (d + 7) 61 25 [some (.inr (.inr (some b))), some (.inl (nI τ)), some (.inl (nI v))] [] (TW B b I' P' A' N') ∧ τ + 1 ≤ tc ∧ v < 1000 ∧ AG Z n fa lv r 100 tc (c.2.1.1, c.2.1.2.1, (if nt = true then (if c.2.2.1 = 0 then 1 else 0) else c.2.2.1), c.2.1.2.2.2) o inp (out ++ c.2.2.2.1) I' A' N' ∧ lvO lv o A A')
/-- a command that is no group, or whose redirections cannot be made -/
theorem cmd_sim (d : Nat) (hb : B.1.1 ≤ b) (hZ : okZ Z) (hk : tkR n Z.2.1 Z.2.2 fa) (hl2 : lv < 5) {H : sG} (hH : okH Z H) {t tc t1 r τ : Nat} {o o2 : Option Nat} {inp out src : List Int32} {nt mn : Bool} (hS : SC Z n fa lv t s o inp out o2 src nt mn I A N) (ho : ∀ i, o = some i → i < 2 * lv) (ho2 : (o2 = o ∧ src = inp) ∨ o2 = some (2 * lv)) (hs : stI Z s) (hi : inI src) (hout : out.length ≤ Z.1.2.2) (ht : t ≤ n) (hτ : τ ≤ t) (hpc : pC Z.2.1 100 (pG Z.2.1 100 r) t = some tc) (hend : Z.2.1 tc = 1 ∨ Z.2.1 tc = 2 ∨ Z.2.1 tc = 3 ∨ Z.2.1 tc = 4 ∨ Z.2.1 tc = 9 ∨ Z.2.1 tc = 11) (hpo : Z.2.1 tc ≠ 4 → pO Z.2.1 100 (pG Z.2.1 100 r) 100 tc = some t1 ∧ (Z.2.1 t1 = 1 ∨ Z.2.1 t1 = 9 ∨ Z.2.1 t1 = 11)) (u2 : Option ab_V)
    (hsim : Z.2.1 t ≠ 8 ∨ (redF Z.1.1 s.2.1 (wdS Z s) (rdW Z.2.1 (decide (Z.2.1 t = 8)) 100 (if Z.2.1 t = 8 then (pG Z.2.1 100 r t).getD 0 else t)).2 s.1 none none).1 ≠ 0) (inp' : List Int32) (hinp : inp' = if o2 = o then (cmA Z (pG Z.2.1 100 r) H mn t s src).2.2.2.2 else inp) :
    CC B b Z n fa d r lv o inp' out nt mn tc (cmA Z (pG Z.2.1 100 r) H mn t s src) A (ab_ev gG true (d + 7) 61 4 [some (.inr (.inr (some b))), some (.inl (nI τ)), u2] [] (TW B b I P A N)) := by
  obtain ⟨⟨hR, hli, hin, hO⟩, hp, hnx, hin2, hnt, hmn⟩ := hS
  have hn := hk.2.1
  obtain ⟨w', -, -, -, q4, q5⟩ := pC_inv hk.1 ht hpc
  have ho21 : o2 ≠ some (2 * lv + 1) := by
    rcases ho2 with ⟨e, -⟩ | e
    · rw [e]; intro h; have := ho _ h; omega
    · rw [e]; intro h; have := Option.some.inj h; omega
  obtain ⟨I1, P1, A1, N1, e1, R1, D1, f1, f2, l1⟩ := tw_startS (B := B) (b := b) (P := P) d hb hZ hk hR hs hl2 hp ht hpc hend hi hnx hin2 ho21 H hsim
  obtain ⟨k1, k2⟩ := pre_k (G := pG Z.2.1 100 r) hZ hH t hs hi
  have hbr := fun (u : sR) (tg : Option Nat) (hu : preS Z (pG Z.2.1 100 r) H t s src = (u, tg)) (h : u.1 = true) => cmA_brk hZ (G := pG Z.2.1 100 r) (H := H) mn t src hs hu h
  have hok := fun (u : sR) (tg : Option Nat) (hu : preS Z (pG Z.2.1 100 r) H t s src = (u, tg)) (h : u.1 = false) => cmA_eq hZ (G := pG Z.2.1 100 r) (H := H) mn t src hs hu h
  generalize preS Z (pG Z.2.1 100 r) H t s src = pu at e1 R1 D1 k1 k2 hbr hok
  obtain ⟨u, tg⟩ := pu
  obtain ⟨bb, ⟨r1, h1, st1, rn1⟩, cd, x, ii⟩ := u
  obtain ⟨D2, D3, D4⟩ := D1
  dsimp only at e1 R1 D2 D3 D4 k1 k2
  have hO1 : twO lv out A1 := ⟨by rw [f2 _ rfl]; exact hO.1, by rw [f2 _ rfl]; exact hO.2⟩
  have hli1 : A1 14 lv = oI o := by rw [f2 _ rfl]; exact hli
  have hmn1 : A1 19 lv = b01 mn := by rw [f2 _ rfl]; exact hmn
  have hnt1 : A1 20 lv = b01 nt := by rw [f2 _ rfl]; exact hnt
  -- the list's input
  have hin' : ∀ c : sR, c.2.2.2.2 = ii → twIn o (if o2 = o then c.2.2.2.2 else inp) A1 := fun c hc => by
    by_cases e : o2 = o
    · rw [if_pos e, hc, ← e]; exact D4
    · rw [if_neg e]
      have e2 := ho2.resolve_left (fun h => e h.1)
      exact hin.cg (fun i hi => l1.2.1 i (by have := ho i hi; omega) (fun h => by rw [e2] at h; have := Option.some.inj h; have := ho i hi; omega)) (fun i hi k a1 a2 => l1.2.2 k (by have := ho i hi; omega))
  have hL1 : lvO lv o A A1 := by
    refine ⟨fun p hp j hj => ?_, fun k _ => by rw [f2 _ rfl], fun k hk2 => l1.2.2 k (by omega), fun i hi hoi => l1.2.1 i (by omega) (fun h => ?_)⟩
    · obtain ⟨a1, a2, a3⟩ := l1.1 j (by omega)
      simp only [List.contains_cons, List.contains_nil, Bool.or_false, Bool.or_eq_true, beq_iff_eq] at hp
      rcases hp with h | h | h | h | h | h | h | h <;> subst h
      · rw [f2 _ rfl]
      · exact a2
      · rw [f2 _ rfl]
      · exact a1
      · exact a3
      · rw [f2 _ rfl]
      · rw [f2 _ rfl]
      · rw [f2 _ rfl]
    · rcases ho2 with ⟨e, -⟩ | e
      · exact hoi (by rw [← e]; exact h)
      · rw [e] at h; have := Option.some.inj h; omega
  have e0 : ab_ev gG true (d + 7) 61 4 [some (.inr (.inr (some b))), some (.inl (nI τ)), u2] [] (TW B b I P A N) = (if (if bb = true then (-9 : Int32) else nI cd) = -9 then some (some (.inl 0), TW B b I1 P1 A1 N1) else if (if bb = true then (-9 : Int32) else nI cd) < 0 then ab_ev gG true (d + 7) 61 25 [some (.inr (.inr (some b))), some (.inl (nI τ)), some (.inl (if bb = true then (-9 : Int32) else nI cd))] [] (TW B b I1 P1 A1 N1) else (ab_c1 (ab_cl gG true (d + 6) 75 [.inr (.inr (some b)), .inl (if bb = true then (-9 : Int32) else nI cd), .inl 0] (TW B b I1 P1 A1 N1))).bind fun r2 => if r2.1 = 0 then some (some (.inl 0), r2.2) else ab_ev gG true (d + 7) 61 25 [some (.inr (.inr (some b))), some (.inl (nI τ)), some (.inl (if bb = true then (-9 : Int32) else nI cd))] [] r2.2) := by
    rw [bl_61_4, if_pos (by rw [nlt_300 (by omega)]; omega), if_pos tw_isc, e1, qb_c1s, Option.bind_some]
    dsimp only
    rw [if_pos tw_isc]
  rw [e0]
  clear e0
  obtain ⟨g1, g2, g3, g4, g5, g6, g7, g8, g9⟩ := id R1
  cases bb with
  | true =>
    have hc := hbr _ _ rfl rfl
    dsimp only at hc
    rw [hc]
    refine ⟨fun _ => ⟨I1, P1, A1, N1, by rw [if_pos rfl, if_pos rfl], ⟨g2, g5, g7, g8, g9, hO1, lv, Nat.le_refl _, hl2, g6, Or.inl ⟨rfl, ?_⟩⟩, hL1⟩, fun e => (by cases e), fun e => (by cases e)⟩
    cases mn with
    | true => exact Or.inl ⟨hmn1, D3⟩
    | false => exact Or.inr ⟨hmn1, g3⟩
  | false =>
    obtain ⟨hpos, h35, hrx, htg⟩ := D2 rfl
    have hc := hok _ _ rfl rfl
    dsimp only at hc
    have hcd : cd ≤ 127 := k1.2.2.1
    have hii : ∀ h9, (stoS Z tg (false, (r1, h9, st1, rn1), cd, x, ii)).2.2.2.2 = ii ∧ (stoS Z tg (false, (r1, h9, st1, rn1), cd, x, ii)).2.2.1 = cd ∧ (stoS Z tg (false, (r1, h9, st1, rn1), cd, x, ii)).2.1.2 = (h9, st1, rn1) := fun h9 => by
      unfold stoS
      rw [if_neg (show ¬ (false = true) by decide)]
      cases tg with
      | none => exact ⟨rfl, rfl, rfl⟩
      | some y =>
        dsimp only
        split <;> exact ⟨rfl, rfl, rfl⟩
    have hx' : XS Z n fa lv (r1, h1, st1, rn1) o inp' out I1 A1 N1 := ⟨R1, hli1, by rw [hinp]; exact hin' _ (by rw [hc]; exact (hii _).1), hO1⟩
    obtain ⟨c1, c2, c3⟩ := ec_all (B := B) (b := b) (P := P1) (d + 3) hb hZ hk hl2 hx' ho k1.1.1 k1.1.2.2.2.1 hpos q5 (k1.2.2.2.2.1 rfl) h35 hrx htg (fun y hy => (k2 y hy).1) D3 (g := false) hmn1 hnt1 hout hcd ii (if mn = true then s.2.1 else h1) (by cases mn <;> rfl) _ rfl hpo _ rfl
    rw [← hc] at c1 c2 c3
    have hcode : (cmA Z (pG Z.2.1 100 r) H mn t s src).2.2.1 = cd := by rw [hc]; exact (hii _).2.1
    have hrest : (cmA Z (pG Z.2.1 100 r) H mn t s src).2.1.2 = ((if mn = true then s.2.1 else h1), st1, rn1) := by rw [hc]; exact (hii _).2.2
    have ge : ∀ {α : Type} (X Y : α), (if (if false = true then (-9 : Int32) else nI cd) = -9 then X else if (if false = true then (-9 : Int32) else nI cd) < 0 then X else Y) = Y := fun X Y => by
      rw [if_neg (show ¬ (false = true) by decide), if_neg (fun e => by have := nI_pos (n := cd) (by omega); rw [e] at this; exact this (by decide)), if_neg (nI_pos (by omega))]
    have en9 : ¬ ((if false = true then (-9 : Int32) else nI cd) = -9) := by
      rw [if_neg (show ¬ (false = true) by decide)]
      intro e
      have := nI_pos (n := cd) (by omega)
      rw [e] at this
      exact this (by decide)
    have en0 : ¬ ((if false = true then (-9 : Int32) else nI cd) < 0) := by
      rw [if_neg (show ¬ (false = true) by decide)]
      exact nI_pos (by omega)
    rw [if_neg en9, if_neg en0, if_neg (show ¬ (false = true) by decide)]
    refine ⟨fun h => ?_, fun h h4 => ?_, fun h h4 hf => ?_⟩
    · obtain ⟨I2, A2, a1, a2, a3, a4, a5⟩ := c1 h
      rw [show ab_cl gG true (d + 6) 75 [.inr (.inr (some b)), .inl (nI cd), .inl (0 : Int32)] (TW B b I1 P1 A1 N1) = _ from a1, qb_c1s, Option.bind_some]
      dsimp only
      rw [if_pos rfl]
      obtain ⟨x1, x2, x3, x4, x5, x6, x7, x8, x9⟩ := a2
      refine ⟨I2, P1, A2, N1, rfl, ⟨x2, x5, x7, x8, x9, ⟨by rw [a4 _ rfl]; exact hO1.1, by rw [a4 _ rfl]; exact hO1.2⟩, lv, Nat.le_refl _, hl2, x6, Or.inl ⟨rfl, ?_⟩⟩, hL1.tr ?_⟩
      · cases mn with
        | true => exact Or.inl ⟨by rw [a4 _ rfl]; exact hmn1, by rw [a4 _ rfl, D3, hrest]; rfl⟩
        | false => exact Or.inr ⟨by rw [a4 _ rfl]; exact hmn1, x3⟩
      · exact ⟨fun p hp j _ => by rw [a4 p (by simp only [List.contains_cons, List.contains_nil, Bool.or_false, Bool.or_eq_true, beq_iff_eq] at hp; simp only [List.contains_cons, List.contains_nil, Bool.or_false, Bool.or_eq_false_iff, beq_eq_false_iff_ne]; omega)], fun k _ => by rw [a4 _ rfl], fun k _ => by rw [a4 _ rfl], fun i _ _ => by rw [a4 _ rfl]⟩
    · obtain ⟨I2, A2, a1, a2, a3⟩ := c2 h h4
      rw [show ab_cl gG true (d + 6) 75 [.inr (.inr (some b)), .inl (nI cd), .inl (0 : Int32)] (TW B b I1 P1 A1 N1) = _ from a1, qb_c1s, Option.bind_some]
      dsimp only
      rw [if_neg (by decide)]
      exact ⟨τ, cd, I2, P1, A2, N1, rfl, by omega, by omega, a2, hL1.tr a3⟩
    · obtain ⟨I2, A2, a1, a2, a3⟩ := c3 h h4 hf
      rw [show ab_cl gG true (d + 6) 75 [.inr (.inr (some b)), .inl (nI cd), .inl (0 : Int32)] (TW B b I1 P1 A1 N1) = _ from a1, qb_c1s, Option.bind_some]
      dsimp only
      rw [if_neg (by decide), hcode]
      exact ⟨τ, cd, I2, P1, A2, N1, rfl, by omega, by omega, a2, hL1.tr a3⟩
end
