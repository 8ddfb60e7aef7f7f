section
set_option maxRecDepth 100000
set_option maxHeartbeats 2000000
/-! TreeShell$Words.expand(LTreeShell$Line;II)V -/
theorem bl_138_0 (z : Bool) (d : Nat) (b : Nat) (p1 : Option Nat) (p2 p3 : Int32) (h : ab_H) : ab_ev gG z (d + 1) 138 0 [some (.inr (.inr (some b))), some (.inr (.inr p1)), some (.inl p2), some (.inl p3), none, none, none] [] h =
  (ab_fR h b 601).bind fun o1 =>
  (ab_fI h b 602).bind fun x2 =>
  (ab_fR h b 600).bind fun o3 =>
  o3.bind fun a4 => if ab_isc h a4 8 = true then
  (ab_c1 (ab_cl gG z d 7 [.inr (.inr (some a4))] h)).bind fun r5 =>
  o1.bind fun a6 => (ab_sI 0 r5.2 a6 x2 r5.1).bind fun h7 =>
  p1.bind fun a8 => (ab_fR h7 a8 503).bind fun o9 =>
  o9.bind fun a10 => (ab_aI 0 h7 a10 p2).bind fun x11 =>
  ab_ev gG z (d + 1) 138 15 [some (.inr (.inr (some b))), some (.inr (.inr p1)), some (.inl p2), some (.inl p3), some (.inl (0 : Int32)), some (.inl x11), none] [] h7
else none := ab_ev_ex [15] 500 rfl
theorem bl_138_15 (z : Bool) (d : Nat) (b : Nat) (v1 : Option Nat) (v2 v3 v4 v5 : Int32) (u6 : Option ab_V) (h : ab_H) : ab_ev gG z (d + 1) 138 15 [some (.inr (.inr (some b))), some (.inr (.inr v1)), some (.inl v2), some (.inl v3), some (.inl v4), some (.inl v5), u6] [] h =
  v1.bind fun a1 => (ab_fR h a1 504).bind fun o2 =>
  o2.bind fun a3 => (ab_aI 0 h a3 v2).bind fun x4 =>
  if v5 < x4 then
  v1.bind fun a5 => (ab_fR h a5 500).bind fun o6 =>
    o6.bind fun a7 => (ab_aI 2 h a7 v5).bind fun x8 =>
    if x8 = (39 : Int32) then
    if v4 = 0 then
      ab_ev gG z (d + 1) 138 15 [some (.inr (.inr (some b))), some (.inr (.inr v1)), some (.inl v2), some (.inl v3), some (.inl (1 : Int32)), some (.inl (v5 + (1 : Int32))), some (.inl x8)] [] h
    else
      ab_ev gG z (d + 1) 138 15 [some (.inr (.inr (some b))), some (.inr (.inr v1)), some (.inl v2), some (.inl v3), some (.inl (0 : Int32)), some (.inl (v5 + (1 : Int32))), some (.inl x8)] [] h
  else
    if v4 = 0 then
      if x8 = (36 : Int32) then
        v1.bind fun a9 => (ab_fR h a9 504).bind fun o10 =>
          o10.bind fun a11 => (ab_aI 0 h a11 v2).bind fun x12 =>
          if (v5 + (1 : Int32)) < x12 then
          v1.bind fun a13 => (ab_fR h a13 500).bind fun o14 =>
            o14.bind fun a15 => (ab_aI 2 h a15 (v5 + (1 : Int32))).bind fun x16 =>
            if x16 = (63 : Int32) then
            (ab_fR h b 600).bind fun o17 =>
              o17.bind fun a18 => if ab_isc h a18 8 = true then
              (ab_c3 (ab_cl gG z d 5 [.inr (.inr (some a18)), .inl v3] h)).bind fun r19 =>
              ab_ev gG z (d + 1) 138 15 [some (.inr (.inr (some b))), some (.inr (.inr v1)), some (.inl v2), some (.inl v3), some (.inl v4), some (.inl ((v5 + (1 : Int32)) + (1 : Int32))), some (.inl x8)] [] r19.2
            else none
          else
            (ab_fR h b 600).bind fun o20 =>
              o20.bind fun a21 => if ab_isc h a21 8 = true then
              (ab_c3 (ab_cl gG z d 4 [.inr (.inr (some a21)), .inl x8] h)).bind fun r22 =>
              ab_ev gG z (d + 1) 138 15 [some (.inr (.inr (some b))), some (.inr (.inr v1)), some (.inl v2), some (.inl v3), some (.inl v4), some (.inl (v5 + (1 : Int32))), some (.inl x8)] [] r22.2
            else none
        else
          (ab_fR h b 600).bind fun o23 =>
            o23.bind fun a24 => if ab_isc h a24 8 = true then
            (ab_c3 (ab_cl gG z d 4 [.inr (.inr (some a24)), .inl x8] h)).bind fun r25 =>
            ab_ev gG z (d + 1) 138 15 [some (.inr (.inr (some b))), some (.inr (.inr v1)), some (.inl v2), some (.inl v3), some (.inl v4), some (.inl (v5 + (1 : Int32))), some (.inl x8)] [] r25.2
          else none
      else
        (ab_fR h b 600).bind fun o26 =>
          o26.bind fun a27 => if ab_isc h a27 8 = true then
          (ab_c3 (ab_cl gG z d 4 [.inr (.inr (some a27)), .inl x8] h)).bind fun r28 =>
          ab_ev gG z (d + 1) 138 15 [some (.inr (.inr (some b))), some (.inr (.inr v1)), some (.inl v2), some (.inl v3), some (.inl v4), some (.inl (v5 + (1 : Int32))), some (.inl x8)] [] r28.2
        else none
    else
      (ab_fR h b 600).bind fun o29 =>
        o29.bind fun a30 => if ab_isc h a30 8 = true then
        (ab_c3 (ab_cl gG z d 4 [.inr (.inr (some a30)), .inl x8] h)).bind fun r31 =>
        ab_ev gG z (d + 1) 138 15 [some (.inr (.inr (some b))), some (.inr (.inr v1)), some (.inl v2), some (.inl v3), some (.inl v4), some (.inl (v5 + (1 : Int32))), some (.inl x8)] [] r31.2
      else none
else
  (ab_fI h b 602).bind fun x32 =>
    (ab_pf h b 602 (.inl (x32 + (1 : Int32)))).bind fun h33 =>
    (ab_fR h33 b 601).bind fun o34 =>
    (ab_fI h33 b 602).bind fun x35 =>
    (ab_fR h33 b 600).bind fun o36 =>
    o36.bind fun a37 => if ab_isc h33 a37 8 = true then
    (ab_c1 (ab_cl gG z d 7 [.inr (.inr (some a37))] h33)).bind fun r38 =>
    o34.bind fun a39 => (ab_sI 0 r38.2 a39 x35 r38.1).bind fun h40 =>
    some (none, h40)
  else none := ab_ev_ex [15] 500 rfl
theorem ent_138 (z : Bool) (d : Nat) (b : Nat) (p1 : Option Nat) (p2 p3 : Int32) (h : ab_H) : ab_cl gG z d 138 [.inr (.inr (some b)), .inr (.inr p1), .inl p2, .inl p3] h = ab_ev gG z d 138 0 [some (.inr (.inr (some b))), some (.inr (.inr p1)), some (.inl p2), some (.inl p3), none, none, none] [] h := rfl
/-! TreeShell.redirect(LTreeShell$Level;LTreeShell$Mark;)Z -/
theorem bl_139_0 (z : Bool) (d : Nat) (b : Nat) (p1 p2 : Option Nat) (h : ab_H) : ab_ev gG z (d + 1) 139 0 [some (.inr (.inr (some b))), some (.inr (.inr p1)), some (.inr (.inr p2)), none] [] h =
  (ab_fR h b 9).bind fun o1 =>
  o1.bind fun a2 => (ab_fI h a2 602).bind fun x3 =>
  if ab_isc h b 0 = true then
  (ab_c0 (ab_cl gG z d 145 [.inr (.inr (some b)), .inl (x3 - (1 : Int32))] h)).bind fun h4 =>
  if (p2 : Option Nat) = some (ab_ga h4 5) then
  (ab_fR h4 b 18).bind fun o5 =>
    ab_io o5 (if (0 : Int32) = 0 then
      some (some (.inl (0 : Int32)), h4)
    else
      p1.bind fun a7 => (ab_fR h4 a7 402).bind fun o8 =>
        o8.bind fun a9 => if ab_isc h4 a9 8 = true then
        (ab_c0 (ab_cl gG z d 8 [.inr (.inr (some a9)), .inl (0 : Int32)] h4)).bind fun h10 =>
        (ab_fR h10 b 18).bind fun o11 =>
        o11.bind fun a12 => if ab_isc h10 a12 2 = true then
        (ab_fR h10 a12 203).bind fun o13 =>
        p1.bind fun a14 => (ab_fR h10 a14 402).bind fun o15 =>
        (ab_c0 (ab_cl gG z d 105 [.inr (.inr o13), .inr (.inr o15)] h10)).bind fun h16 =>
        p1.bind fun a17 => (ab_fR h16 a17 402).bind fun o18 =>
        p1.bind fun a19 => (ab_pf h16 a19 405 (.inr (.inr o18))).bind fun h20 =>
        some (some (.inl (1 : Int32)), h20)
      else none
      else none) (fun a6 => if ab_isc h4 a6 1 = true ∨ ab_isc h4 a6 2 = true then
    if (if ab_isc h4 a6 2 = true then (1 : Int32) else 0) = 0 then
    some (some (.inl (0 : Int32)), h4)
  else
    p1.bind fun a21 => (ab_fR h4 a21 402).bind fun o22 =>
      o22.bind fun a23 => if ab_isc h4 a23 8 = true then
      (ab_c0 (ab_cl gG z d 8 [.inr (.inr (some a23)), .inl (0 : Int32)] h4)).bind fun h24 =>
      (ab_fR h24 b 18).bind fun o25 =>
      o25.bind fun a26 => if ab_isc h24 a26 2 = true then
      (ab_fR h24 a26 203).bind fun o27 =>
      p1.bind fun a28 => (ab_fR h24 a28 402).bind fun o29 =>
      (ab_c0 (ab_cl gG z d 105 [.inr (.inr o27), .inr (.inr o29)] h24)).bind fun h30 =>
      p1.bind fun a31 => (ab_fR h30 a31 402).bind fun o32 =>
      p1.bind fun a33 => (ab_pf h30 a33 405 (.inr (.inr o32))).bind fun h34 =>
      some (some (.inl (1 : Int32)), h34)
    else none
    else none
  else none)
else
  (ab_fR h4 b 18).bind fun o35 =>
    if (o35 : Option Nat) = none then
    (ab_fR h4 b 19).bind fun o36 =>
      if (o36 : Option Nat) = none then
      ab_ev gG z (d + 1) 139 51 [some (.inr (.inr (some b))), some (.inr (.inr p1)), some (.inr (.inr p2)), none] [] h4
    else
      if ab_isc h4 b 0 = true then
        (ab_c1 (ab_cl gG z d 146 [.inr (.inr (some b))] h4)).bind fun r37 =>
        if r37.1 = 0 then
        ab_ev gG z (d + 1) 139 51 [some (.inr (.inr (some b))), some (.inr (.inr p1)), some (.inr (.inr p2)), none] [] r37.2
      else
        (ab_fL (ab_mk r37.2 (ab_cO 2 (ab_birth 2)) 4) b 20).bind fun y38 =>
          (ab_fR (ab_mk r37.2 (ab_cO 2 (ab_birth 2)) 4) b 19).bind fun o39 =>
          (ab_c0 (ab_cl gG z d 147 [.inr (.inr (some (ab_sz r37.2))), .inr (.inl y38), .inr (.inr o39)] (ab_mk r37.2 (ab_cO 2 (ab_birth 2)) 4))).bind fun h40 =>
          if ab_isc h40 b 0 = true then
          (ab_c0 (ab_cl gG z d 148 [.inr (.inr (some b)), .inr (.inr (some (ab_sz r37.2)))] h40)).bind fun h41 =>
          ab_ev gG z (d + 1) 139 51 [some (.inr (.inr (some b))), some (.inr (.inr p1)), some (.inr (.inr p2)), none] [] h41
        else none
      else none
  else
    ab_ev gG z (d + 1) 139 51 [some (.inr (.inr (some b))), some (.inr (.inr p1)), some (.inr (.inr p2)), none] [] h4
else none := ab_ev_ex [51] 500 rfl
theorem bl_139_51 (z : Bool) (d : Nat) (b : Nat) (v1 v2 : Option Nat) (h : ab_H) : ab_ev gG z (d + 1) 139 51 [some (.inr (.inr (some b))), some (.inr (.inr v1)), some (.inr (.inr v2)), none] [] h =
  (ab_fR h b 18).bind fun o1 =>
  ab_io o1 (if (0 : Int32) = 0 then
    some (some (.inl (0 : Int32)), h)
  else
    (ab_fR h b 18).bind fun o3 =>
      o3.bind fun a4 => if ab_isc h a4 2 = true then
      if (v2 : Option Nat) = some (ab_ga h 6) then
      (ab_fI h b 6).bind fun x5 =>
        (ab_fR h a4 203).bind fun o6 =>
        o6.bind fun a7 => if ab_isc h a7 8 = true then
        (ab_c1 (ab_cl gG z d 7 [.inr (.inr (some a7))] h)).bind fun r8 =>
        (ab_pf r8.2 b 6 (.inl (x5 - r8.1))).bind fun h9 =>
        (ab_fR h9 a4 203).bind fun o10 =>
        o10.bind fun a11 => if ab_isc h9 a11 8 = true then
        (ab_c0 (ab_cl gG z d 8 [.inr (.inr (some a11)), .inl (0 : Int32)] h9)).bind fun h12 =>
        v1.bind fun a13 => (ab_pf h12 a13 406 (.inr (.inr (some a4)))).bind fun h14 =>
        some (some (.inl (1 : Int32)), h14)
      else none
      else none
    else
      v1.bind fun a15 => (ab_pf h a15 406 (.inr (.inr (some a4)))).bind fun h16 =>
        some (some (.inl (1 : Int32)), h16)
    else none) (fun a2 => if ab_isc h a2 1 = true ∨ ab_isc h a2 2 = true then
  if (if ab_isc h a2 2 = true then (1 : Int32) else 0) = 0 then
  some (some (.inl (0 : Int32)), h)
else
  (ab_fR h b 18).bind fun o17 =>
    o17.bind fun a18 => if ab_isc h a18 2 = true then
    if (v2 : Option Nat) = some (ab_ga h 6) then
    (ab_fI h b 6).bind fun x19 =>
      (ab_fR h a18 203).bind fun o20 =>
      o20.bind fun a21 => if ab_isc h a21 8 = true then
      (ab_c1 (ab_cl gG z d 7 [.inr (.inr (some a21))] h)).bind fun r22 =>
      (ab_pf r22.2 b 6 (.inl (x19 - r22.1))).bind fun h23 =>
      (ab_fR h23 a18 203).bind fun o24 =>
      o24.bind fun a25 => if ab_isc h23 a25 8 = true then
      (ab_c0 (ab_cl gG z d 8 [.inr (.inr (some a25)), .inl (0 : Int32)] h23)).bind fun h26 =>
      v1.bind fun a27 => (ab_pf h26 a27 406 (.inr (.inr (some a18)))).bind fun h28 =>
      some (some (.inl (1 : Int32)), h28)
    else none
    else none
  else
    v1.bind fun a29 => (ab_pf h a29 406 (.inr (.inr (some a18)))).bind fun h30 =>
      some (some (.inl (1 : Int32)), h30)
  else none
else none) := ab_ev_ex [51] 500 rfl
theorem ent_139 (z : Bool) (d : Nat) (b : Nat) (p1 p2 : Option Nat) (h : ab_H) : ab_cl gG z d 139 [.inr (.inr (some b)), .inr (.inr p1), .inr (.inr p2)] h = ab_ev gG z d 139 0 [some (.inr (.inr (some b))), some (.inr (.inr p1)), some (.inr (.inr p2)), none] [] h := rfl
/-! TreeShell$Words.is(ILjava/lang/String;)Z -/
theorem bl_140_0 (z : Bool) (d : Nat) (b : Nat) (p1 : Int32) (p2 : Option Nat) (h : ab_H) : ab_ev gG z (d + 1) 140 0 [some (.inr (.inr (some b))), some (.inl p1), some (.inr (.inr p2)), none, none] [] h =
  (ab_fI h b 604).bind fun x1 =>
  if p1 < x1 then
  (ab_fR h b 601).bind fun o2 =>
    (ab_fR h b 603).bind fun o3 =>
    o3.bind fun a4 => (ab_aI 0 h a4 p1).bind fun x5 =>
    o2.bind fun a6 => (ab_aI 0 h a6 x5).bind fun x7 =>
    (ab_fR h b 601).bind fun o8 =>
    (ab_fR h b 603).bind fun o9 =>
    o9.bind fun a10 => (ab_aI 0 h a10 p1).bind fun x11 =>
    o8.bind fun a12 => (ab_aI 0 h a12 (x11 + (1 : Int32))).bind fun x13 =>
    p2.bind fun a14 => if ab_isc h a14 11 = true then
    (ab_c1 (ab_cl gG z d 135 [.inr (.inr (some a14))] h)).bind fun r15 =>
    if (x13 - x7) = r15.1 then
    ab_ev gG z (d + 1) 140 32 [some (.inr (.inr (some b))), some (.inl p1), some (.inr (.inr p2)), some (.inl x7), some (.inl (0 : Int32))] [] r15.2
  else
    some (some (.inl (0 : Int32)), r15.2)
  else none
else
  some (some (.inl (0 : Int32)), h) := ab_ev_ex [32] 500 rfl
theorem bl_140_32 (z : Bool) (d : Nat) (b : Nat) (v1 v3 v4 : Int32) (v2 : Option Nat) (h : ab_H) : ab_ev gG z (d + 1) 140 32 [some (.inr (.inr (some b))), some (.inl v1), some (.inr (.inr v2)), some (.inl v3), some (.inl v4)] [] h =
  v2.bind fun a1 => if ab_isc h a1 11 = true then
  (ab_c1 (ab_cl gG z d 135 [.inr (.inr (some a1))] h)).bind fun r2 =>
  if v4 < r2.1 then
  (ab_fR r2.2 b 600).bind fun o3 =>
    o3.bind fun a4 => if ab_isc r2.2 a4 8 = true then
    (ab_c1 (ab_cl gG z d 6 [.inr (.inr (some a4)), .inl (v3 + v4)] r2.2)).bind fun r5 =>
    v2.bind fun a6 => if ab_isc r5.2 a6 11 = true then
    (ab_c1 (ab_cl gG z d 149 [.inr (.inr (some a6)), .inl v4] r5.2)).bind fun r7 =>
    if r5.1 = r7.1 then
    ab_ev gG z (d + 1) 140 32 [some (.inr (.inr (some b))), some (.inl v1), some (.inr (.inr v2)), some (.inl v3), some (.inl (v4 + (1 : Int32)))] [] r7.2
  else
    some (some (.inl (0 : Int32)), r7.2)
  else none
  else none
else
  some (some (.inl (1 : Int32)), r2.2)
else none := ab_ev_ex [32] 500 rfl
theorem ent_140 (z : Bool) (d : Nat) (b : Nat) (p1 : Int32) (p2 : Option Nat) (h : ab_H) : ab_cl gG z d 140 [.inr (.inr (some b)), .inl p1, .inr (.inr p2)] h = ab_ev gG z d 140 0 [some (.inr (.inr (some b))), some (.inl p1), some (.inr (.inr p2)), none, none] [] h := rfl
/-! TreeShell.perform(LTreeShell$Tool;LTreeShell$Level;)I -/
theorem bl_141_0 (z : Bool) (d : Nat) (b : Nat) (p1 p2 : Option Nat) (h : ab_H) : ab_ev gG z (d + 1) 141 0 [some (.inr (.inr (some b))), some (.inr (.inr p1)), some (.inr (.inr p2))] [] h =
  p1.bind fun a1 => if ab_isc h a1 10 = true then
  (ab_c1 (ab_cl gG z d 98 [.inr (.inr (some a1))] h)).bind fun r2 =>
  if r2.1 = (0 : Int32) then
  p2.bind fun a3 => (ab_fR r2.2 a3 400).bind fun o4 =>
    if ab_isc r2.2 b 0 = true then
    (ab_c1 (ab_cl gG z d 150 [.inr (.inr (some b)), .inr (.inr o4)] r2.2)).bind fun r5 =>
    some (some (.inl r5.1), r5.2)
  else none
else if r2.1 = (1 : Int32) then
  if ab_isc r2.2 b 0 = true then
    (ab_c1 (ab_cl gG z d 151 [.inr (.inr (some b)), .inr (.inr p2)] r2.2)).bind fun r6 =>
    some (some (.inl r6.1), r6.2)
  else none
else if r2.1 = (2 : Int32) then
  if ab_isc r2.2 b 0 = true then
    (ab_c1 (ab_cl gG z d 152 [.inr (.inr (some b)), .inr (.inr p2)] r2.2)).bind fun r7 =>
    some (some (.inl r7.1), r7.2)
  else none
else if r2.1 = (3 : Int32) then
  if ab_isc r2.2 b 0 = true then
    (ab_c1 (ab_cl gG z d 153 [.inr (.inr (some b)), .inr (.inr p2)] r2.2)).bind fun r8 =>
    some (some (.inl r8.1), r8.2)
  else none
else if r2.1 = (4 : Int32) then
  p2.bind fun a9 => (ab_fR r2.2 a9 400).bind fun o10 =>
    if ab_isc r2.2 b 0 = true then
    (ab_c1 (ab_cl gG z d 154 [.inr (.inr (some b)), .inr (.inr o10)] r2.2)).bind fun r11 =>
    some (some (.inl r11.1), r11.2)
  else none
else if r2.1 = (5 : Int32) then
  if ab_isc r2.2 b 0 = true then
    (ab_c1 (ab_cl gG z d 155 [.inr (.inr (some b))] r2.2)).bind fun r12 =>
    some (some (.inl r12.1), r12.2)
  else none
else if ab_isc r2.2 b 0 = true then
    (ab_c1 (ab_cl gG z d 156 [.inr (.inr (some b))] r2.2)).bind fun r13 =>
    some (some (.inl r13.1), r13.2)
  else none
else none := ab_ev_ex [] 500 rfl
theorem ent_141 (z : Bool) (d : Nat) (b : Nat) (p1 p2 : Option Nat) (h : ab_H) : ab_cl gG z d 141 [.inr (.inr (some b)), .inr (.inr p1), .inr (.inr p2)] h = ab_ev gG z d 141 0 [some (.inr (.inr (some b))), some (.inr (.inr p1)), some (.inr (.inr p2))] [] h := rfl
end
