section
set_option maxRecDepth 100000
set_option maxHeartbeats 2000000
/-! TreeShell.count(LTreeShell$Level;)I -/
theorem bl_152_0 (z : Bool) (d : Nat) (b : Nat) (p1 : Option Nat) (h : ab_H) : ab_ev gG z (d + 1) 152 0 [some (.inr (.inr (some b))), some (.inr (.inr p1)), none, none, none, none, none, none, none] [] h =
  (ab_fR h b 9).bind fun o1 =>
  o1.bind fun a2 => (ab_fI h a2 604).bind fun x3 =>
  if (2 : Int32) < x3 then
  some (some (.inl (2 : Int32)), h)
else
  (ab_fR h b 9).bind fun o4 =>
    o4.bind fun a5 => (ab_fI h a5 604).bind fun x6 =>
    if (1 : Int32) < x6 then
    if ab_isc h b 0 = true then
      (ab_c3 (ab_cl gG z d 161 [.inr (.inr (some b)), .inl (1 : Int32)] h)).bind fun r7 =>
      if (r7.1 : Option Nat) = none then
      some (some (.inl (1 : Int32)), r7.2)
    else
      ab_ev gG z (d + 1) 152 31 [some (.inr (.inr (some b))), some (.inr (.inr p1)), some (.inr (.inr r7.1)), some (.inl (0 : Int32)), some (.inl (0 : Int32)), some (.inl (0 : Int32)), some (.inl (0 : Int32)), none, none] [] r7.2
    else none
  else
    p1.bind fun a8 => (ab_fR h a8 405).bind fun o9 =>
      if (o9 : Option Nat) = none then
      some (some (.inl (1 : Int32)), h)
    else
      ab_ev gG z (d + 1) 152 31 [some (.inr (.inr (some b))), some (.inr (.inr p1)), some (.inr (.inr o9)), some (.inl (0 : Int32)), some (.inl (0 : Int32)), some (.inl (0 : Int32)), some (.inl (0 : Int32)), none, none] [] h := ab_ev_ex [31, 49, 68] 500 rfl
theorem bl_152_31 (z : Bool) (d : Nat) (b : Nat) (v1 v2 : Option Nat) (v3 v4 v5 v6 : Int32) (u7 u8 : Option ab_V) (h : ab_H) : ab_ev gG z (d + 1) 152 31 [some (.inr (.inr (some b))), some (.inr (.inr v1)), some (.inr (.inr v2)), some (.inl v3), some (.inl v4), some (.inl v5), some (.inl v6), u7, u8] [] h =
  v2.bind fun a1 => if ab_isc h a1 8 = true then
  (ab_c1 (ab_cl gG z d 7 [.inr (.inr (some a1))] h)).bind fun r2 =>
  if v6 < r2.1 then
  v2.bind fun a3 => if ab_isc r2.2 a3 8 = true then
    (ab_c1 (ab_cl gG z d 6 [.inr (.inr (some a3)), .inl v6] r2.2)).bind fun r4 =>
    if r4.1 = (10 : Int32) then
    ab_ev gG z (d + 1) 152 49 [some (.inr (.inr (some b))), some (.inr (.inr v1)), some (.inr (.inr v2)), some (.inl v3), some (.inl v4), some (.inl v5), some (.inl v6), some (.inl r4.1), none] [.inl (1 : Int32)] r4.2
  else
    if r4.1 = (32 : Int32) then
      ab_ev gG z (d + 1) 152 49 [some (.inr (.inr (some b))), some (.inr (.inr v1)), some (.inr (.inr v2)), some (.inl v3), some (.inl v4), some (.inl v5), some (.inl v6), some (.inl r4.1), none] [.inl (1 : Int32)] r4.2
    else
      ab_ev gG z (d + 1) 152 49 [some (.inr (.inr (some b))), some (.inr (.inr v1)), some (.inr (.inr v2)), some (.inl v3), some (.inl v4), some (.inl v5), some (.inl v6), some (.inl r4.1), none] [.inl (0 : Int32)] r4.2
  else none
else
  v1.bind fun a5 => (ab_fR r2.2 a5 400).bind fun o6 =>
    o6.bind fun a7 => if ab_isc r2.2 a7 8 = true then
    (ab_c3 (ab_cl gG z d 5 [.inr (.inr (some a7)), .inl v3] r2.2)).bind fun r8 =>
    v1.bind fun a9 => (ab_fR r8.2 a9 400).bind fun o10 =>
    o10.bind fun a11 => if ab_isc r8.2 a11 8 = true then
    (ab_c3 (ab_cl gG z d 4 [.inr (.inr (some a11)), .inl (32 : Int32)] r8.2)).bind fun r12 =>
    v1.bind fun a13 => (ab_fR r12.2 a13 400).bind fun o14 =>
    o14.bind fun a15 => if ab_isc r12.2 a15 8 = true then
    (ab_c3 (ab_cl gG z d 5 [.inr (.inr (some a15)), .inl v4] r12.2)).bind fun r16 =>
    v1.bind fun a17 => (ab_fR r16.2 a17 400).bind fun o18 =>
    o18.bind fun a19 => if ab_isc r16.2 a19 8 = true then
    (ab_c3 (ab_cl gG z d 4 [.inr (.inr (some a19)), .inl (32 : Int32)] r16.2)).bind fun r20 =>
    v1.bind fun a21 => (ab_fR r20.2 a21 400).bind fun o22 =>
    v2.bind fun a23 => if ab_isc r20.2 a23 8 = true then
    (ab_c1 (ab_cl gG z d 7 [.inr (.inr (some a23))] r20.2)).bind fun r24 =>
    o22.bind fun a25 => if ab_isc r24.2 a25 8 = true then
    (ab_c3 (ab_cl gG z d 5 [.inr (.inr (some a25)), .inl r24.1] r24.2)).bind fun r26 =>
    v1.bind fun a27 => (ab_fR r26.2 a27 400).bind fun o28 =>
    o28.bind fun a29 => if ab_isc r26.2 a29 8 = true then
    (ab_c3 (ab_cl gG z d 4 [.inr (.inr (some a29)), .inl (10 : Int32)] r26.2)).bind fun r30 =>
    (ab_fR r30.2 b 9).bind fun o31 =>
    o31.bind fun a32 => (ab_fI r30.2 a32 604).bind fun x33 =>
    if x33 = (1 : Int32) then
    v2.bind fun a34 => if ab_isc r30.2 a34 8 = true then
      (ab_c0 (ab_cl gG z d 8 [.inr (.inr (some a34)), .inl (0 : Int32)] r30.2)).bind fun h35 =>
      some (some (.inl (0 : Int32)), h35)
    else none
  else
    some (some (.inl (0 : Int32)), r30.2)
  else none
  else none
  else none
  else none
  else none
  else none
  else none
else none := ab_ev_ex [31, 49, 68] 500 rfl
theorem bl_152_49 (z : Bool) (d : Nat) (b : Nat) (v1 v2 : Option Nat) (v3 v4 v5 v6 v7 s0 : Int32) (h : ab_H) : ab_ev gG z (d + 1) 152 49 [some (.inr (.inr (some b))), some (.inr (.inr v1)), some (.inr (.inr v2)), some (.inl v3), some (.inl v4), some (.inl v5), some (.inl v6), some (.inl v7), none] [.inl s0] h =
  if v7 = (10 : Int32) then
  if s0 = 0 then
    if v5 = 0 then
      ab_ev gG z (d + 1) 152 68 [some (.inr (.inr (some b))), some (.inr (.inr v1)), some (.inr (.inr v2)), some (.inl (v3 + (1 : Int32))), some (.inl v4), some (.inl v5), some (.inl v6), some (.inl v7), some (.inl s0)] [.inl (1 : Int32), .inl v4] h
    else
      ab_ev gG z (d + 1) 152 68 [some (.inr (.inr (some b))), some (.inr (.inr v1)), some (.inr (.inr v2)), some (.inl (v3 + (1 : Int32))), some (.inl v4), some (.inl v5), some (.inl v6), some (.inl v7), some (.inl s0)] [.inl (0 : Int32), .inl v4] h
  else
    ab_ev gG z (d + 1) 152 68 [some (.inr (.inr (some b))), some (.inr (.inr v1)), some (.inr (.inr v2)), some (.inl (v3 + (1 : Int32))), some (.inl v4), some (.inl v5), some (.inl v6), some (.inl v7), some (.inl s0)] [.inl (0 : Int32), .inl v4] h
else
  if s0 = 0 then
    if v5 = 0 then
      ab_ev gG z (d + 1) 152 68 [some (.inr (.inr (some b))), some (.inr (.inr v1)), some (.inr (.inr v2)), some (.inl (v3 + (0 : Int32))), some (.inl v4), some (.inl v5), some (.inl v6), some (.inl v7), some (.inl s0)] [.inl (1 : Int32), .inl v4] h
    else
      ab_ev gG z (d + 1) 152 68 [some (.inr (.inr (some b))), some (.inr (.inr v1)), some (.inr (.inr v2)), some (.inl (v3 + (0 : Int32))), some (.inl v4), some (.inl v5), some (.inl v6), some (.inl v7), some (.inl s0)] [.inl (0 : Int32), .inl v4] h
  else
    ab_ev gG z (d + 1) 152 68 [some (.inr (.inr (some b))), some (.inr (.inr v1)), some (.inr (.inr v2)), some (.inl (v3 + (0 : Int32))), some (.inl v4), some (.inl v5), some (.inl v6), some (.inl v7), some (.inl s0)] [.inl (0 : Int32), .inl v4] h := ab_ev_ex [31, 49, 68] 500 rfl
theorem bl_152_68 (z : Bool) (d : Nat) (b : Nat) (v1 v2 : Option Nat) (v3 v4 v5 v6 v7 v8 s0 s1 : Int32) (h : ab_H) : ab_ev gG z (d + 1) 152 68 [some (.inr (.inr (some b))), some (.inr (.inr v1)), some (.inr (.inr v2)), some (.inl v3), some (.inl v4), some (.inl v5), some (.inl v6), some (.inl v7), some (.inl v8)] [.inl s0, .inl s1] h =
  if v8 = 0 then
  ab_ev gG z (d + 1) 152 31 [some (.inr (.inr (some b))), some (.inr (.inr v1)), some (.inr (.inr v2)), some (.inl v3), some (.inl (s1 + s0)), some (.inl (1 : Int32)), some (.inl (v6 + (1 : Int32))), some (.inl v7), some (.inl v8)] [] h
else
  ab_ev gG z (d + 1) 152 31 [some (.inr (.inr (some b))), some (.inr (.inr v1)), some (.inr (.inr v2)), some (.inl v3), some (.inl (s1 + s0)), some (.inl (0 : Int32)), some (.inl (v6 + (1 : Int32))), some (.inl v7), some (.inl v8)] [] h := ab_ev_ex [31, 49, 68] 500 rfl
theorem ent_152 (z : Bool) (d : Nat) (b : Nat) (p1 : Option Nat) (h : ab_H) : ab_cl gG z d 152 [.inr (.inr (some b)), .inr (.inr p1)] h = ab_ev gG z d 152 0 [some (.inr (.inr (some b))), some (.inr (.inr p1)), none, none, none, none, none, none, none] [] h := rfl
/-! TreeShell.search(LTreeShell$Level;)I -/
theorem bl_153_0 (z : Bool) (d : Nat) (b : Nat) (p1 : Option Nat) (h : ab_H) : ab_ev gG z (d + 1) 153 0 [some (.inr (.inr (some b))), some (.inr (.inr p1)), none, none, none, none] [] h =
  (ab_fR h b 12).bind fun o1 =>
  (ab_fR h b 9).bind fun o2 =>
  o2.bind fun a3 => if ab_isc h a3 6 = true then
  (ab_c1 (ab_cl gG z d 140 [.inr (.inr (some a3)), .inl (1 : Int32), .inr (.inr (some (ab_ga h 42)))] h)).bind fun r4 =>
  if r4.1 = 0 ∨ r4.1 = 1 then
  o1.bind fun a5 => (ab_pf r4.2 a5 300 (.inl r4.1)).bind fun h6 =>
  (ab_fR h6 b 12).bind fun o7 =>
  o7.bind fun a8 => (ab_fI h6 a8 300).bind fun x9 =>
  if x9 = 0 then
  ab_ev gG z (d + 1) 153 15 [some (.inr (.inr (some b))), some (.inr (.inr p1)), none, none, none, none] [.inl (1 : Int32)] h6
else
  ab_ev gG z (d + 1) 153 15 [some (.inr (.inr (some b))), some (.inr (.inr p1)), none, none, none, none] [.inl (2 : Int32)] h6
else none
else none := ab_ev_ex [15, 79] 500 rfl
theorem bl_153_15 (z : Bool) (d : Nat) (b : Nat) (v1 : Option Nat) (s0 : Int32) (h : ab_H) : ab_ev gG z (d + 1) 153 15 [some (.inr (.inr (some b))), some (.inr (.inr v1)), none, none, none, none] [.inl s0] h =
  (ab_fR h b 9).bind fun o1 =>
  o1.bind fun a2 => (ab_fI h a2 604).bind fun x3 =>
  if s0 < x3 then
  (ab_fR h b 9).bind fun o4 =>
    o4.bind fun a5 => (ab_fI h a5 604).bind fun x6 =>
    if (s0 + (2 : Int32)) < x6 then
    some (some (.inl (2 : Int32)), h)
  else
    (ab_fR h b 12).bind fun o7 =>
      (ab_fR h b 9).bind fun o8 =>
      o8.bind fun a9 => (ab_fR h a9 600).bind fun o10 =>
      (ab_fR h b 9).bind fun o11 =>
      o11.bind fun a12 => (ab_fR h a12 601).bind fun o13 =>
      (ab_fR h b 9).bind fun o14 =>
      o14.bind fun a15 => (ab_fR h a15 603).bind fun o16 =>
      o16.bind fun a17 => (ab_aI 0 h a17 s0).bind fun x18 =>
      o13.bind fun a19 => (ab_aI 0 h a19 x18).bind fun x20 =>
      (ab_fR h b 9).bind fun o21 =>
      o21.bind fun a22 => (ab_fR h a22 601).bind fun o23 =>
      (ab_fR h b 9).bind fun o24 =>
      o24.bind fun a25 => (ab_fR h a25 603).bind fun o26 =>
      o26.bind fun a27 => (ab_aI 0 h a27 s0).bind fun x28 =>
      o23.bind fun a29 => (ab_aI 0 h a29 (x28 + (1 : Int32))).bind fun x30 =>
      o7.bind fun a31 => if ab_isc h a31 3 = true then
      (ab_c0 (ab_cl gG z d 162 [.inr (.inr (some a31)), .inr (.inr o10), .inl x20, .inl x30] h)).bind fun h32 =>
      (ab_fR h32 b 9).bind fun o33 =>
      o33.bind fun a34 => (ab_fI h32 a34 604).bind fun x35 =>
      if x35 = (s0 + (2 : Int32)) then
      if (1 : Int32) = 0 then
        v1.bind fun a36 => (ab_fR h32 a36 405).bind fun o37 =>
          ab_ev gG z (d + 1) 153 79 [some (.inr (.inr (some b))), some (.inr (.inr v1)), some (.inl s0), some (.inl (1 : Int32)), none, none] [.inr (.inr o37)] h32
      else
        if ab_isc h32 b 0 = true then
          (ab_c3 (ab_cl gG z d 161 [.inr (.inr (some b)), .inl (s0 + (1 : Int32))] h32)).bind fun r38 =>
          ab_ev gG z (d + 1) 153 79 [some (.inr (.inr (some b))), some (.inr (.inr v1)), some (.inl s0), some (.inl (1 : Int32)), none, none] [.inr (.inr r38.1)] r38.2
        else none
    else
      if (0 : Int32) = 0 then
        v1.bind fun a39 => (ab_fR h32 a39 405).bind fun o40 =>
          ab_ev gG z (d + 1) 153 79 [some (.inr (.inr (some b))), some (.inr (.inr v1)), some (.inl s0), some (.inl (0 : Int32)), none, none] [.inr (.inr o40)] h32
      else
        if ab_isc h32 b 0 = true then
          (ab_c3 (ab_cl gG z d 161 [.inr (.inr (some b)), .inl (s0 + (1 : Int32))] h32)).bind fun r41 =>
          ab_ev gG z (d + 1) 153 79 [some (.inr (.inr (some b))), some (.inr (.inr v1)), some (.inl s0), some (.inl (0 : Int32)), none, none] [.inr (.inr r41.1)] r41.2
        else none
    else none
else
  some (some (.inl (2 : Int32)), h) := ab_ev_ex [15, 79] 500 rfl
theorem bl_153_79 (z : Bool) (d : Nat) (b : Nat) (v1 s0 : Option Nat) (v2 v3 : Int32) (h : ab_H) : ab_ev gG z (d + 1) 153 79 [some (.inr (.inr (some b))), some (.inr (.inr v1)), some (.inl v2), some (.inl v3), none, none] [.inr (.inr s0)] h =
  if (s0 : Option Nat) = none then
  some (some (.inl (1 : Int32)), h)
else
  (ab_fR h b 12).bind fun o1 =>
    v1.bind fun a2 => (ab_fR h a2 400).bind fun o3 =>
    o1.bind fun a4 => if ab_isc h a4 3 = true then
    (ab_c1 (ab_cl gG z d 163 [.inr (.inr (some a4)), .inr (.inr s0), .inr (.inr o3)] h)).bind fun r5 =>
    if v3 = 0 then
    s0.bind fun a6 => if ab_isc r5.2 a6 8 = true then
      (ab_c0 (ab_cl gG z d 8 [.inr (.inr (some a6)), .inl (0 : Int32)] r5.2)).bind fun h7 =>
      some (some (.inl r5.1), h7)
    else none
  else
    some (some (.inl r5.1), r5.2)
  else none := ab_ev_ex [15, 79] 500 rfl
theorem ent_153 (z : Bool) (d : Nat) (b : Nat) (p1 : Option Nat) (h : ab_H) : ab_cl gG z d 153 [.inr (.inr (some b)), .inr (.inr p1)] h = ab_ev gG z d 153 0 [some (.inr (.inr (some b))), some (.inr (.inr p1)), none, none, none, none] [] h := rfl
end
