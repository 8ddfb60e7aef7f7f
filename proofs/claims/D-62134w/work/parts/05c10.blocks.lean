section
set_option maxRecDepth 100000
set_option maxHeartbeats 2000000
/-! TreeShell$Dir.insert(LTreeShell$Node;)V -/
theorem bl_159_0 (z : Bool) (d : Nat) (b : Nat) (p1 : Option Nat) (h : ab_H) : ab_ev gG z d 159 0 [some (.inr (.inr (some b))), some (.inr (.inr p1)), none] [] h =
  (ab_fR h b 103).bind fun o1 =>
  if (o1 : Option Nat) = none then
  (ab_fR h b 103).bind fun o2 =>
    p1.bind fun a3 => (ab_pf h a3 1202 (.inr (.inr o2))).bind fun h4 =>
    (ab_pf h4 b 103 (.inr (.inr p1))).bind fun h5 =>
    some (none, h5)
else
  (ab_fR h b 103).bind fun o6 =>
    o6.bind fun a7 => (ab_fL h a7 1200).bind fun y8 =>
    p1.bind fun a9 => (ab_fL h a9 1200).bind fun y10 =>
    if 0 < (if y8 < y10 then (-1 : Int32) else if y8 = y10 then 0 else 1) then
    (ab_fR h b 103).bind fun o11 =>
      p1.bind fun a12 => (ab_pf h a12 1202 (.inr (.inr o11))).bind fun h13 =>
      (ab_pf h13 b 103 (.inr (.inr p1))).bind fun h14 =>
      some (none, h14)
  else
    (ab_fR h b 103).bind fun o15 =>
      ab_ev gG z d 159 21 [some (.inr (.inr (some b))), some (.inr (.inr p1)), some (.inr (.inr o15))] [] h := ab_ev_ex [21] 500 rfl
theorem bl_159_21 (z : Bool) (d : Nat) (b : Nat) (v1 v2 : Option Nat) (h : ab_H) : ab_ev gG z d 159 21 [some (.inr (.inr (some b))), some (.inr (.inr v1)), some (.inr (.inr v2))] [] h =
  v2.bind fun a1 => (ab_fR h a1 1202).bind fun o2 =>
  if (o2 : Option Nat) = none then
  v2.bind fun a3 => (ab_fR h a3 1202).bind fun o4 =>
    v1.bind fun a5 => (ab_pf h a5 1202 (.inr (.inr o4))).bind fun h6 =>
    v2.bind fun a7 => (ab_pf h6 a7 1202 (.inr (.inr v1))).bind fun h8 =>
    some (none, h8)
else
  v2.bind fun a9 => (ab_fR h a9 1202).bind fun o10 =>
    o10.bind fun a11 => (ab_fL h a11 1200).bind fun y12 =>
    v1.bind fun a13 => (ab_fL h a13 1200).bind fun y14 =>
    if (if y12 < y14 then (-1 : Int32) else if y12 = y14 then 0 else 1) < 0 then
    v2.bind fun a15 => (ab_fR h a15 1202).bind fun o16 =>
      ab_ev gG z d 159 21 [some (.inr (.inr (some b))), some (.inr (.inr v1)), some (.inr (.inr o16))] [] h
  else
    v2.bind fun a17 => (ab_fR h a17 1202).bind fun o18 =>
      v1.bind fun a19 => (ab_pf h a19 1202 (.inr (.inr o18))).bind fun h20 =>
      v2.bind fun a21 => (ab_pf h20 a21 1202 (.inr (.inr v1))).bind fun h22 =>
      some (none, h22) := ab_ev_ex [21] 500 rfl
theorem ent_159 (z : Bool) (d : Nat) (b : Nat) (p1 : Option Nat) (h : ab_H) : ab_cl gG z d 159 [.inr (.inr (some b)), .inr (.inr p1)] h = ab_ev gG z d 159 0 [some (.inr (.inr (some b))), some (.inr (.inr p1)), none] [] h := rfl
/-! TreeShell.content(I)Ljava/lang/StringBuilder; -/
theorem bl_161_0 (z : Bool) (d : Nat) (b : Nat) (p1 : Int32) (h : ab_H) : ab_ev gG z (d + 1) 161 0 [some (.inr (.inr (some b))), some (.inl p1)] [] h =
  (ab_fR h b 9).bind fun o1 =>
  o1.bind fun a2 => (ab_fR h a2 603).bind fun o3 =>
  o3.bind fun a4 => (ab_aI 0 h a4 p1).bind fun x5 =>
  if ab_isc h b 0 = true then
  (ab_c0 (ab_cl gG z d 145 [.inr (.inr (some b)), .inl x5] h)).bind fun h6 =>
  (ab_fR h6 b 18).bind fun o7 =>
  ab_io o7 (if (0 : Int32) = 0 then
    some (some (.inr (.inr none)), h6)
  else
    (ab_fR h6 b 18).bind fun o9 =>
      o9.bind fun a10 => if ab_isc h6 a10 2 = true then
      (ab_fR h6 a10 203).bind fun o11 =>
      some (some (.inr (.inr o11)), h6)
    else none) (fun a8 => if ab_isc h6 a8 1 = true ∨ ab_isc h6 a8 2 = true then
  if (if ab_isc h6 a8 2 = true then (1 : Int32) else 0) = 0 then
  some (some (.inr (.inr none)), h6)
else
  (ab_fR h6 b 18).bind fun o12 =>
    o12.bind fun a13 => if ab_isc h6 a13 2 = true then
    (ab_fR h6 a13 203).bind fun o14 =>
    some (some (.inr (.inr o14)), h6)
  else none
else none)
else none := ab_ev_ex [] 500 rfl
theorem ent_161 (z : Bool) (d : Nat) (b : Nat) (p1 : Int32) (h : ab_H) : ab_cl gG z d 161 [.inr (.inr (some b)), .inl p1] h = ab_ev gG z d 161 0 [some (.inr (.inr (some b))), some (.inl p1)] [] h := rfl
/-! TreeShell$Grep.pattern(Ljava/lang/StringBuilder;II)V -/
theorem bl_162_0 (z : Bool) (d : Nat) (b : Nat) (p1 : Option Nat) (p2 p3 : Int32) (h : ab_H) : ab_ev gG z (d + 1) 162 0 [some (.inr (.inr (some b))), some (.inr (.inr p1)), some (.inl p2), some (.inl p3)] [] h =
  (ab_pf h b 301 (.inr (.inr p1))).bind fun h1 =>
  if p2 < p3 then
  p1.bind fun a2 => if ab_isc h1 a2 8 = true then
    (ab_c1 (ab_cl gG z d 6 [.inr (.inr (some a2)), .inl p2] h1)).bind fun r3 =>
    if r3.1 = (94 : Int32) then
    (ab_pf r3.2 b 304 (.inl (1 : Int32))).bind fun h4 =>
      (ab_fI h4 b 304).bind fun x5 =>
      if x5 = 0 then
      ab_ev gG z (d + 1) 162 25 [some (.inr (.inr (some b))), some (.inr (.inr p1)), some (.inl p2), some (.inl p3)] [.inl p2, .inr (.inr (some b))] h4
    else
      ab_ev gG z (d + 1) 162 25 [some (.inr (.inr (some b))), some (.inr (.inr p1)), some (.inl p2), some (.inl p3)] [.inl (p2 + (1 : Int32)), .inr (.inr (some b))] h4
  else
    (ab_pf r3.2 b 304 (.inl (0 : Int32))).bind fun h6 =>
      (ab_fI h6 b 304).bind fun x7 =>
      if x7 = 0 then
      ab_ev gG z (d + 1) 162 25 [some (.inr (.inr (some b))), some (.inr (.inr p1)), some (.inl p2), some (.inl p3)] [.inl p2, .inr (.inr (some b))] h6
    else
      ab_ev gG z (d + 1) 162 25 [some (.inr (.inr (some b))), some (.inr (.inr p1)), some (.inl p2), some (.inl p3)] [.inl (p2 + (1 : Int32)), .inr (.inr (some b))] h6
  else none
else
  (ab_pf h1 b 304 (.inl (0 : Int32))).bind fun h8 =>
    (ab_fI h8 b 304).bind fun x9 =>
    if x9 = 0 then
    ab_ev gG z (d + 1) 162 25 [some (.inr (.inr (some b))), some (.inr (.inr p1)), some (.inl p2), some (.inl p3)] [.inl p2, .inr (.inr (some b))] h8
  else
    ab_ev gG z (d + 1) 162 25 [some (.inr (.inr (some b))), some (.inr (.inr p1)), some (.inl p2), some (.inl p3)] [.inl (p2 + (1 : Int32)), .inr (.inr (some b))] h8 := ab_ev_ex [25, 40] 500 rfl
theorem bl_162_25 (z : Bool) (d : Nat) (b : Nat) (v1 s1 : Option Nat) (v2 v3 s0 : Int32) (h : ab_H) : ab_ev gG z (d + 1) 162 25 [some (.inr (.inr (some b))), some (.inr (.inr v1)), some (.inl v2), some (.inl v3)] [.inl s0, .inr (.inr s1)] h =
  s1.bind fun a1 => (ab_pf h a1 302 (.inl s0)).bind fun h2 =>
  (ab_fI h2 b 302).bind fun x3 =>
  if x3 < v3 then
  v1.bind fun a4 => if ab_isc h2 a4 8 = true then
    (ab_c1 (ab_cl gG z d 6 [.inr (.inr (some a4)), .inl (v3 - (1 : Int32))] h2)).bind fun r5 =>
    if r5.1 = (36 : Int32) then
    (ab_pf r5.2 b 305 (.inl (1 : Int32))).bind fun h6 =>
      (ab_fI h6 b 305).bind fun x7 =>
      if x7 = 0 then
      (ab_pf h6 b 303 (.inl v3)).bind fun h8 =>
        some (none, h8)
    else
      (ab_pf h6 b 303 (.inl (v3 - (1 : Int32)))).bind fun h9 =>
        some (none, h9)
  else
    ab_ev gG z (d + 1) 162 40 [some (.inr (.inr (some b))), some (.inr (.inr v1)), some (.inl v2), some (.inl v3)] [.inr (.inr (some b))] r5.2
  else none
else
  ab_ev gG z (d + 1) 162 40 [some (.inr (.inr (some b))), some (.inr (.inr v1)), some (.inl v2), some (.inl v3)] [.inr (.inr (some b))] h2 := ab_ev_ex [25, 40] 500 rfl
theorem bl_162_40 (z : Bool) (d : Nat) (b : Nat) (v1 s0 : Option Nat) (v2 v3 : Int32) (h : ab_H) : ab_ev gG z (d + 1) 162 40 [some (.inr (.inr (some b))), some (.inr (.inr v1)), some (.inl v2), some (.inl v3)] [.inr (.inr s0)] h =
  s0.bind fun a1 => (ab_pf h a1 305 (.inl (0 : Int32))).bind fun h2 =>
  (ab_fI h2 b 305).bind fun x3 =>
  if x3 = 0 then
  (ab_pf h2 b 303 (.inl v3)).bind fun h4 =>
    some (none, h4)
else
  (ab_pf h2 b 303 (.inl (v3 - (1 : Int32)))).bind fun h5 =>
    some (none, h5) := ab_ev_ex [25, 40] 500 rfl
theorem ent_162 (z : Bool) (d : Nat) (b : Nat) (p1 : Option Nat) (p2 p3 : Int32) (h : ab_H) : ab_cl gG z d 162 [.inr (.inr (some b)), .inr (.inr p1), .inl p2, .inl p3] h = ab_ev gG z d 162 0 [some (.inr (.inr (some b))), some (.inr (.inr p1)), some (.inl p2), some (.inl p3)] [] h := rfl
/-! TreeShell$Grep.over(Ljava/lang/StringBuilder;Ljava/lang/StringBuilder;)I -/
theorem bl_163_0 (z : Bool) (d : Nat) (b : Nat) (p1 p2 : Option Nat) (h : ab_H) : ab_ev gG z (d + 1) 163 0 [some (.inr (.inr (some b))), some (.inr (.inr p1)), some (.inr (.inr p2)), none, none, none] [] h =
  ab_ev gG z (d + 1) 163 6 [some (.inr (.inr (some b))), some (.inr (.inr p1)), some (.inr (.inr p2)), some (.inl (0 : Int32)), some (.inl (0 : Int32)), some (.inl (0 : Int32))] [] h := ab_ev_ex [6] 500 rfl
theorem bl_163_6 (z : Bool) (d : Nat) (b : Nat) (v1 v2 : Option Nat) (v3 v4 v5 : Int32) (h : ab_H) : ab_ev gG z (d + 1) 163 6 [some (.inr (.inr (some b))), some (.inr (.inr v1)), some (.inr (.inr v2)), some (.inl v3), some (.inl v4), some (.inl v5)] [] h =
  v1.bind fun a1 => if ab_isc h a1 8 = true then
  (ab_c1 (ab_cl gG z d 7 [.inr (.inr (some a1))] h)).bind fun r2 =>
  if v5 < r2.1 then
  v1.bind fun a3 => if ab_isc r2.2 a3 8 = true then
    (ab_c1 (ab_cl gG z d 6 [.inr (.inr (some a3)), .inl v5] r2.2)).bind fun r4 =>
    if r4.1 = (10 : Int32) then
    if ab_isc r4.2 b 3 = true then
      (ab_c1 (ab_cl gG z d 168 [.inr (.inr (some b)), .inr (.inr v1), .inl v4, .inl v5, .inr (.inr v2)] r4.2)).bind fun r5 =>
      ab_ev gG z (d + 1) 163 6 [some (.inr (.inr (some b))), some (.inr (.inr v1)), some (.inr (.inr v2)), some (.inl (v3 + r5.1)), some (.inl (v5 + (1 : Int32))), some (.inl (v5 + (1 : Int32)))] [] r5.2
    else none
  else
    ab_ev gG z (d + 1) 163 6 [some (.inr (.inr (some b))), some (.inr (.inr v1)), some (.inr (.inr v2)), some (.inl v3), some (.inl v4), some (.inl (v5 + (1 : Int32)))] [] r4.2
  else none
else
  v1.bind fun a6 => if ab_isc r2.2 a6 8 = true then
    (ab_c1 (ab_cl gG z d 7 [.inr (.inr (some a6))] r2.2)).bind fun r7 =>
    if v4 < r7.1 then
    v1.bind fun a8 => if ab_isc r7.2 a8 8 = true then
      (ab_c1 (ab_cl gG z d 7 [.inr (.inr (some a8))] r7.2)).bind fun r9 =>
      if ab_isc r9.2 b 3 = true then
      (ab_c1 (ab_cl gG z d 168 [.inr (.inr (some b)), .inr (.inr v1), .inl v4, .inl r9.1, .inr (.inr v2)] r9.2)).bind fun r10 =>
      if 0 < (v3 + r10.1) then
      some (some (.inl (0 : Int32)), r10.2)
    else
      some (some (.inl (1 : Int32)), r10.2)
    else none
    else none
  else
    if 0 < v3 then
      some (some (.inl (0 : Int32)), r7.2)
    else
      some (some (.inl (1 : Int32)), r7.2)
  else none
else none := ab_ev_ex [6] 500 rfl
theorem ent_163 (z : Bool) (d : Nat) (b : Nat) (p1 p2 : Option Nat) (h : ab_H) : ab_cl gG z d 163 [.inr (.inr (some b)), .inr (.inr p1), .inr (.inr p2)] h = ab_ev gG z d 163 0 [some (.inr (.inr (some b))), some (.inr (.inr p1)), some (.inr (.inr p2)), none, none, none] [] h := rfl
/-! TreeShell$Dir.show(Ljava/lang/StringBuilder;)V -/
theorem bl_164_0 (z : Bool) (d : Nat) (b : Nat) (p1 : Option Nat) (h : ab_H) : ab_ev gG z (d + 1) 164 0 [some (.inr (.inr (some b))), some (.inr (.inr p1))] [] h =
  if ab_isc h b 1 = true then
  (ab_c0 (ab_cl gG z d 169 [.inr (.inr (some b)), .inr (.inr p1)] h)).bind fun h1 =>
  p1.bind fun a2 => if ab_isc h1 a2 8 = true then
  (ab_c3 (ab_cl gG z d 4 [.inr (.inr (some a2)), .inl (47 : Int32)] h1)).bind fun r3 =>
  some (none, r3.2)
else none
else none := ab_ev_ex [] 500 rfl
theorem ent_164 (z : Bool) (d : Nat) (b : Nat) (p1 : Option Nat) (h : ab_H) : ab_cl gG z d 164 [.inr (.inr (some b)), .inr (.inr p1)] h = ab_ev gG z d 164 0 [some (.inr (.inr (some b))), some (.inr (.inr p1))] [] h := rfl
/-! TreeShell$Doc.show(Ljava/lang/StringBuilder;)V -/
theorem bl_165_0 (z : Bool) (d : Nat) (b : Nat) (p1 : Option Nat) (h : ab_H) : ab_ev gG z (d + 1) 165 0 [some (.inr (.inr (some b))), some (.inr (.inr p1))] [] h =
  if ab_isc h b 2 = true then
  (ab_c0 (ab_cl gG z d 169 [.inr (.inr (some b)), .inr (.inr p1)] h)).bind fun h1 =>
  some (none, h1)
else none := ab_ev_ex [] 500 rfl
theorem ent_165 (z : Bool) (d : Nat) (b : Nat) (p1 : Option Nat) (h : ab_H) : ab_cl gG z d 165 [.inr (.inr (some b)), .inr (.inr p1)] h = ab_ev gG z d 165 0 [some (.inr (.inr (some b))), some (.inr (.inr p1))] [] h := rfl
end
