section
set_option maxRecDepth 100000
set_option maxHeartbeats 2000000
/-! TreeShell.list(Ljava/lang/StringBuilder;)I -/
theorem bl_154_0 (z : Bool) (d : Nat) (b : Nat) (p1 : Option Nat) (h : ab_H) : ab_ev gG z (d + 1) 154 0 [some (.inr (.inr (some b))), some (.inr (.inr p1)), none] [] h =
  (ab_fR h b 9).bind fun o1 =>
  o1.bind fun a2 => (ab_fI h a2 604).bind fun x3 =>
  if (2 : Int32) < x3 then
  some (some (.inl (2 : Int32)), h)
else
  (ab_fR h b 4).bind fun o4 =>
    (ab_pf h b 18 (.inr (.inr o4))).bind fun h5 =>
    (ab_fR h5 b 9).bind fun o6 =>
    o6.bind fun a7 => (ab_fI h5 a7 604).bind fun x8 =>
    if x8 = (2 : Int32) then
    (ab_fR h5 b 9).bind fun o9 =>
      o9.bind fun a10 => (ab_fR h5 a10 603).bind fun o11 =>
      o11.bind fun a12 => (ab_aI 0 h5 a12 (1 : Int32)).bind fun x13 =>
      if ab_isc h5 b 0 = true then
      (ab_c0 (ab_cl gG z d 145 [.inr (.inr (some b)), .inl x13] h5)).bind fun h14 =>
      ab_ev gG z (d + 1) 154 23 [some (.inr (.inr (some b))), some (.inr (.inr p1)), none] [] h14
    else none
  else
    ab_ev gG z (d + 1) 154 23 [some (.inr (.inr (some b))), some (.inr (.inr p1)), none] [] h5 := ab_ev_ex [23, 37] 500 rfl
theorem bl_154_23 (z : Bool) (d : Nat) (b : Nat) (v1 : Option Nat) (h : ab_H) : ab_ev gG z (d + 1) 154 23 [some (.inr (.inr (some b))), some (.inr (.inr v1)), none] [] h =
  (ab_fR h b 18).bind fun o1 =>
  if (o1 : Option Nat) = none then
  some (some (.inl (1 : Int32)), h)
else
  (ab_fR h b 18).bind fun o2 =>
    ab_io o2 (if (0 : Int32) = 0 then
      (ab_fR h b 18).bind fun o4 =>
        o4.bind fun a5 => if ab_isc h a5 1 = true then
        (ab_c0 (ab_cl gG z d 164 [.inr (.inr (some a5)), .inr (.inr v1)] h)).bind fun h6 =>
        v1.bind fun a7 => if ab_isc h6 a7 8 = true then
        (ab_c3 (ab_cl gG z d 4 [.inr (.inr (some a7)), .inl (10 : Int32)] h6)).bind fun r8 =>
        some (some (.inl (0 : Int32)), r8.2)
      else none
      else if ab_isc h a5 2 = true then
        (ab_c0 (ab_cl gG z d 165 [.inr (.inr (some a5)), .inr (.inr v1)] h)).bind fun h9 =>
        v1.bind fun a10 => if ab_isc h9 a10 8 = true then
        (ab_c3 (ab_cl gG z d 4 [.inr (.inr (some a10)), .inl (10 : Int32)] h9)).bind fun r11 =>
        some (some (.inl (0 : Int32)), r11.2)
      else none
      else none
    else
      (ab_fR h b 18).bind fun o12 =>
        o12.bind fun a13 => if ab_isc h a13 1 = true then
        (ab_fR h a13 103).bind fun o14 =>
        ab_ev gG z (d + 1) 154 37 [some (.inr (.inr (some b))), some (.inr (.inr v1)), some (.inr (.inr o14))] [] h
      else none) (fun a3 => if ab_isc h a3 1 = true ∨ ab_isc h a3 2 = true then
    if (if ab_isc h a3 1 = true then (1 : Int32) else 0) = 0 then
    (ab_fR h b 18).bind fun o15 =>
      o15.bind fun a16 => if ab_isc h a16 1 = true then
      (ab_c0 (ab_cl gG z d 164 [.inr (.inr (some a16)), .inr (.inr v1)] h)).bind fun h17 =>
      v1.bind fun a18 => if ab_isc h17 a18 8 = true then
      (ab_c3 (ab_cl gG z d 4 [.inr (.inr (some a18)), .inl (10 : Int32)] h17)).bind fun r19 =>
      some (some (.inl (0 : Int32)), r19.2)
    else none
    else if ab_isc h a16 2 = true then
      (ab_c0 (ab_cl gG z d 165 [.inr (.inr (some a16)), .inr (.inr v1)] h)).bind fun h20 =>
      v1.bind fun a21 => if ab_isc h20 a21 8 = true then
      (ab_c3 (ab_cl gG z d 4 [.inr (.inr (some a21)), .inl (10 : Int32)] h20)).bind fun r22 =>
      some (some (.inl (0 : Int32)), r22.2)
    else none
    else none
  else
    (ab_fR h b 18).bind fun o23 =>
      o23.bind fun a24 => if ab_isc h a24 1 = true then
      (ab_fR h a24 103).bind fun o25 =>
      ab_ev gG z (d + 1) 154 37 [some (.inr (.inr (some b))), some (.inr (.inr v1)), some (.inr (.inr o25))] [] h
    else none
  else none) := ab_ev_ex [23, 37] 500 rfl
theorem bl_154_37 (z : Bool) (d : Nat) (b : Nat) (v1 v2 : Option Nat) (h : ab_H) : ab_ev gG z (d + 1) 154 37 [some (.inr (.inr (some b))), some (.inr (.inr v1)), some (.inr (.inr v2))] [] h =
  if (v2 : Option Nat) = none then
  some (some (.inl (0 : Int32)), h)
else
  v2.bind fun a1 => if ab_isc h a1 1 = true then
    (ab_c0 (ab_cl gG z d 164 [.inr (.inr (some a1)), .inr (.inr v1)] h)).bind fun h2 =>
    v1.bind fun a3 => if ab_isc h2 a3 8 = true then
    (ab_c3 (ab_cl gG z d 4 [.inr (.inr (some a3)), .inl (10 : Int32)] h2)).bind fun r4 =>
    v2.bind fun a5 => (ab_fR r4.2 a5 1202).bind fun o6 =>
    ab_ev gG z (d + 1) 154 37 [some (.inr (.inr (some b))), some (.inr (.inr v1)), some (.inr (.inr o6))] [] r4.2
  else none
  else if ab_isc h a1 2 = true then
    (ab_c0 (ab_cl gG z d 165 [.inr (.inr (some a1)), .inr (.inr v1)] h)).bind fun h7 =>
    v1.bind fun a8 => if ab_isc h7 a8 8 = true then
    (ab_c3 (ab_cl gG z d 4 [.inr (.inr (some a8)), .inl (10 : Int32)] h7)).bind fun r9 =>
    v2.bind fun a10 => (ab_fR r9.2 a10 1202).bind fun o11 =>
    ab_ev gG z (d + 1) 154 37 [some (.inr (.inr (some b))), some (.inr (.inr v1)), some (.inr (.inr o11))] [] r9.2
  else none
  else none := ab_ev_ex [23, 37] 500 rfl
theorem ent_154 (z : Bool) (d : Nat) (b : Nat) (p1 : Option Nat) (h : ab_H) : ab_cl gG z d 154 [.inr (.inr (some b)), .inr (.inr p1)] h = ab_ev gG z d 154 0 [some (.inr (.inr (some b))), some (.inr (.inr p1)), none] [] h := rfl
/-! TreeShell.mkdir()I -/
theorem bl_155_0 (z : Bool) (d : Nat) (b : Nat) (h : ab_H) : ab_ev gG z (d + 1) 155 0 [some (.inr (.inr (some b)))] [] h =
  (ab_fR h b 9).bind fun o1 =>
  o1.bind fun a2 => (ab_fI h a2 604).bind fun x3 =>
  if x3 = (2 : Int32) then
  (ab_fR h b 9).bind fun o4 =>
    o4.bind fun a5 => (ab_fR h a5 603).bind fun o6 =>
    o6.bind fun a7 => (ab_aI 0 h a7 (1 : Int32)).bind fun x8 =>
    if ab_isc h b 0 = true then
    (ab_c0 (ab_cl gG z d 145 [.inr (.inr (some b)), .inl x8] h)).bind fun h9 =>
    (ab_fR h9 b 18).bind fun o10 =>
    if (o10 : Option Nat) = none then
    (ab_fR h9 b 19).bind fun o11 =>
      if (o11 : Option Nat) = none then
      some (some (.inl (1 : Int32)), h9)
    else
      if ab_isc h9 b 0 = true then
        (ab_c1 (ab_cl gG z d 146 [.inr (.inr (some b))] h9)).bind fun r12 =>
        if r12.1 = 0 then
        some (some (.inl (0 : Int32)), r12.2)
      else
        (ab_fL (ab_mk r12.2 (ab_cO 1 (ab_birth 1)) 4) b 20).bind fun y13 =>
          (ab_fR (ab_mk r12.2 (ab_cO 1 (ab_birth 1)) 4) b 19).bind fun o14 =>
          (ab_c0 (ab_cl gG z d 51 [.inr (.inr (some (ab_sz r12.2))), .inr (.inl y13), .inr (.inr o14)] (ab_mk r12.2 (ab_cO 1 (ab_birth 1)) 4))).bind fun h15 =>
          if ab_isc h15 b 0 = true then
          (ab_c0 (ab_cl gG z d 148 [.inr (.inr (some b)), .inr (.inr (some (ab_sz r12.2)))] h15)).bind fun h16 =>
          some (some (.inl (0 : Int32)), h16)
        else none
      else none
  else
    some (some (.inl (1 : Int32)), h9)
  else none
else
  some (some (.inl (2 : Int32)), h) := ab_ev_ex [] 500 rfl
theorem ent_155 (z : Bool) (d : Nat) (b : Nat) (h : ab_H) : ab_cl gG z d 155 [.inr (.inr (some b))] h = ab_ev gG z d 155 0 [some (.inr (.inr (some b)))] [] h := rfl
/-! TreeShell.enterDir()I -/
theorem bl_156_0 (z : Bool) (d : Nat) (b : Nat) (h : ab_H) : ab_ev gG z (d + 1) 156 0 [some (.inr (.inr (some b)))] [] h =
  (ab_fR h b 9).bind fun o1 =>
  o1.bind fun a2 => (ab_fI h a2 604).bind fun x3 =>
  if (2 : Int32) < x3 then
  some (some (.inl (2 : Int32)), h)
else
  (ab_fR h b 3).bind fun o4 =>
    (ab_pf h b 18 (.inr (.inr o4))).bind fun h5 =>
    (ab_fR h5 b 9).bind fun o6 =>
    o6.bind fun a7 => (ab_fI h5 a7 604).bind fun x8 =>
    if x8 = (2 : Int32) then
    (ab_fR h5 b 9).bind fun o9 =>
      o9.bind fun a10 => (ab_fR h5 a10 603).bind fun o11 =>
      o11.bind fun a12 => (ab_aI 0 h5 a12 (1 : Int32)).bind fun x13 =>
      if ab_isc h5 b 0 = true then
      (ab_c0 (ab_cl gG z d 145 [.inr (.inr (some b)), .inl x13] h5)).bind fun h14 =>
      (ab_fR h14 b 18).bind fun o15 =>
      ab_io o15 (if (0 : Int32) = 0 then
        some (some (.inl (1 : Int32)), h14)
      else
        (ab_fR h14 b 18).bind fun o17 =>
          o17.bind fun a18 => if ab_isc h14 a18 1 = true then
          (ab_pf h14 b 4 (.inr (.inr (some a18)))).bind fun h19 =>
          some (some (.inl (0 : Int32)), h19)
        else none) (fun a16 => if ab_isc h14 a16 1 = true ∨ ab_isc h14 a16 2 = true then
      if (if ab_isc h14 a16 1 = true then (1 : Int32) else 0) = 0 then
      some (some (.inl (1 : Int32)), h14)
    else
      (ab_fR h14 b 18).bind fun o20 =>
        o20.bind fun a21 => if ab_isc h14 a21 1 = true then
        (ab_pf h14 b 4 (.inr (.inr (some a21)))).bind fun h22 =>
        some (some (.inl (0 : Int32)), h22)
      else none
    else none)
    else none
  else
    (ab_fR h5 b 18).bind fun o23 =>
      ab_io o23 (if (0 : Int32) = 0 then
        some (some (.inl (1 : Int32)), h5)
      else
        (ab_fR h5 b 18).bind fun o25 =>
          o25.bind fun a26 => if ab_isc h5 a26 1 = true then
          (ab_pf h5 b 4 (.inr (.inr (some a26)))).bind fun h27 =>
          some (some (.inl (0 : Int32)), h27)
        else none) (fun a24 => if ab_isc h5 a24 1 = true ∨ ab_isc h5 a24 2 = true then
      if (if ab_isc h5 a24 1 = true then (1 : Int32) else 0) = 0 then
      some (some (.inl (1 : Int32)), h5)
    else
      (ab_fR h5 b 18).bind fun o28 =>
        o28.bind fun a29 => if ab_isc h5 a29 1 = true then
        (ab_pf h5 b 4 (.inr (.inr (some a29)))).bind fun h30 =>
        some (some (.inl (0 : Int32)), h30)
      else none
    else none) := ab_ev_ex [] 500 rfl
theorem ent_156 (z : Bool) (d : Nat) (b : Nat) (h : ab_H) : ab_cl gG z d 156 [.inr (.inr (some b))] h = ab_ev gG z d 156 0 [some (.inr (.inr (some b)))] [] h := rfl
/-! TreeShell$Words.dots(III)Z -/
theorem bl_157_0 (z : Bool) (d : Nat) (b : Nat) (p1 p2 p3 : Int32) (h : ab_H) : ab_ev gG z (d + 1) 157 0 [some (.inr (.inr (some b))), some (.inl p1), some (.inl p2), some (.inl p3), none] [] h =
  ab_ev gG z (d + 1) 157 2 [some (.inr (.inr (some b))), some (.inl p1), some (.inl p2), some (.inl p3), some (.inl p1)] [] h := ab_ev_ex [2] 500 rfl
theorem bl_157_2 (z : Bool) (d : Nat) (b : Nat) (v1 v2 v3 v4 : Int32) (h : ab_H) : ab_ev gG z (d + 1) 157 2 [some (.inr (.inr (some b))), some (.inl v1), some (.inl v2), some (.inl v3), some (.inl v4)] [] h =
  if v4 < v2 then
  (ab_fR h b 600).bind fun o1 =>
    o1.bind fun a2 => if ab_isc h a2 8 = true then
    (ab_c1 (ab_cl gG z d 6 [.inr (.inr (some a2)), .inl v4] h)).bind fun r3 =>
    if r3.1 = (46 : Int32) then
    ab_ev gG z (d + 1) 157 2 [some (.inr (.inr (some b))), some (.inl v1), some (.inl v2), some (.inl v3), some (.inl (v4 + (1 : Int32)))] [] r3.2
  else
    some (some (.inl (0 : Int32)), r3.2)
  else none
else
  if (v2 - v1) = v3 then
    some (some (.inl (1 : Int32)), h)
  else
    some (some (.inl (0 : Int32)), h) := ab_ev_ex [2] 500 rfl
theorem ent_157 (z : Bool) (d : Nat) (b : Nat) (p1 p2 p3 : Int32) (h : ab_H) : ab_cl gG z d 157 [.inr (.inr (some b)), .inl p1, .inl p2, .inl p3] h = ab_ev gG z d 157 0 [some (.inr (.inr (some b))), some (.inl p1), some (.inl p2), some (.inl p3), none] [] h := rfl
/-! TreeShell.lead(II)V -/
theorem bl_158_0 (z : Bool) (d : Nat) (b : Nat) (p1 p2 : Int32) (h : ab_H) : ab_ev gG z (d + 1) 158 0 [some (.inr (.inr (some b))), some (.inl p1), some (.inl p2), none, none, none] [] h =
  (ab_pf h b 19 (.inr (.inr none))).bind fun h1 =>
  (ab_fR h1 b 18).bind fun o2 =>
  ab_io o2 (if (0 : Int32) = 0 then
    (ab_pf h1 b 18 (.inr (.inr none))).bind fun h4 =>
      some (none, h4)
  else
    (ab_fR h1 b 18).bind fun o5 =>
      o5.bind fun a6 => if ab_isc h1 a6 1 = true then
      (ab_fR h1 b 9).bind fun o7 =>
      o7.bind fun a8 => if ab_isc h1 a8 6 = true then
      (ab_c1 (ab_cl gG z d 157 [.inr (.inr (some a8)), .inl p1, .inl p2, .inl (2 : Int32)] h1)).bind fun r9 =>
      if r9.1 = 0 then
      (ab_fR r9.2 b 9).bind fun o10 =>
        o10.bind fun a11 => if ab_isc r9.2 a11 6 = true then
        (ab_c2 (ab_cl gG z d 166 [.inr (.inr (some a11)), .inl p1, .inl p2] r9.2)).bind fun r12 =>
        if (if r12.1 < (0 : Int64) then (-1 : Int32) else if r12.1 = (0 : Int64) then 0 else 1) < 0 then
        ab_ev gG z (d + 1) 158 48 [some (.inr (.inr (some b))), some (.inl p1), some (.inl p2), some (.inr (.inr (some a6))), some (.inr (.inl r12.1)), none] [.inr (.inr none), .inr (.inr (some b))] r12.2
      else
        if ab_isc r12.2 a6 1 = true then
          (ab_c3 (ab_cl gG z d 167 [.inr (.inr (some a6)), .inr (.inl r12.1)] r12.2)).bind fun r13 =>
          ab_ev gG z (d + 1) 158 48 [some (.inr (.inr (some b))), some (.inl p1), some (.inl p2), some (.inr (.inr (some a6))), some (.inr (.inl r12.1)), none] [.inr (.inr r13.1), .inr (.inr (some b))] r13.2
        else none
      else none
    else
      (ab_fR r9.2 a6 1201).bind fun o14 =>
        if (o14 : Option Nat) = none then
        (ab_pf r9.2 b 18 (.inr (.inr (some a6)))).bind fun h15 =>
          some (none, h15)
      else
        (ab_fR r9.2 a6 1201).bind fun o16 =>
          (ab_pf r9.2 b 18 (.inr (.inr o16))).bind fun h17 =>
          some (none, h17)
    else none
    else none) (fun a3 => if ab_isc h1 a3 1 = true ∨ ab_isc h1 a3 2 = true then
  if (if ab_isc h1 a3 1 = true then (1 : Int32) else 0) = 0 then
  (ab_pf h1 b 18 (.inr (.inr none))).bind fun h18 =>
    some (none, h18)
else
  (ab_fR h1 b 18).bind fun o19 =>
    o19.bind fun a20 => if ab_isc h1 a20 1 = true then
    (ab_fR h1 b 9).bind fun o21 =>
    o21.bind fun a22 => if ab_isc h1 a22 6 = true then
    (ab_c1 (ab_cl gG z d 157 [.inr (.inr (some a22)), .inl p1, .inl p2, .inl (2 : Int32)] h1)).bind fun r23 =>
    if r23.1 = 0 then
    (ab_fR r23.2 b 9).bind fun o24 =>
      o24.bind fun a25 => if ab_isc r23.2 a25 6 = true then
      (ab_c2 (ab_cl gG z d 166 [.inr (.inr (some a25)), .inl p1, .inl p2] r23.2)).bind fun r26 =>
      if (if r26.1 < (0 : Int64) then (-1 : Int32) else if r26.1 = (0 : Int64) then 0 else 1) < 0 then
      ab_ev gG z (d + 1) 158 48 [some (.inr (.inr (some b))), some (.inl p1), some (.inl p2), some (.inr (.inr (some a20))), some (.inr (.inl r26.1)), none] [.inr (.inr none), .inr (.inr (some b))] r26.2
    else
      if ab_isc r26.2 a20 1 = true then
        (ab_c3 (ab_cl gG z d 167 [.inr (.inr (some a20)), .inr (.inl r26.1)] r26.2)).bind fun r27 =>
        ab_ev gG z (d + 1) 158 48 [some (.inr (.inr (some b))), some (.inl p1), some (.inl p2), some (.inr (.inr (some a20))), some (.inr (.inl r26.1)), none] [.inr (.inr r27.1), .inr (.inr (some b))] r27.2
      else none
    else none
  else
    (ab_fR r23.2 a20 1201).bind fun o28 =>
      if (o28 : Option Nat) = none then
      (ab_pf r23.2 b 18 (.inr (.inr (some a20)))).bind fun h29 =>
        some (none, h29)
    else
      (ab_fR r23.2 a20 1201).bind fun o30 =>
        (ab_pf r23.2 b 18 (.inr (.inr o30))).bind fun h31 =>
        some (none, h31)
  else none
  else none
else none) := ab_ev_ex [48] 500 rfl
theorem bl_158_48 (z : Bool) (d : Nat) (b : Nat) (v1 v2 : Int32) (v3 s0 s1 : Option Nat) (v4 : Int64) (h : ab_H) : ab_ev gG z (d + 1) 158 48 [some (.inr (.inr (some b))), some (.inl v1), some (.inl v2), some (.inr (.inr v3)), some (.inr (.inl v4)), none] [.inr (.inr s0), .inr (.inr s1)] h =
  s1.bind fun a1 => (ab_pf h a1 18 (.inr (.inr s0))).bind fun h2 =>
  (ab_fR h2 b 18).bind fun o3 =>
  if (o3 : Option Nat) = none then
  if (if v4 < (0 : Int64) then (-1 : Int32) else if v4 = (0 : Int64) then 0 else 1) < 0 then
    some (none, h2)
  else
    (ab_pf h2 b 19 (.inr (.inr v3))).bind fun h4 =>
      (ab_pf h4 b 20 (.inr (.inl v4))).bind fun h5 =>
      some (none, h5)
else
  some (none, h2) := ab_ev_ex [48] 500 rfl
theorem ent_158 (z : Bool) (d : Nat) (b : Nat) (p1 p2 : Int32) (h : ab_H) : ab_cl gG z d 158 [.inr (.inr (some b)), .inl p1, .inl p2] h = ab_ev gG z d 158 0 [some (.inr (.inr (some b))), some (.inl p1), some (.inl p2), none, none, none] [] h := rfl
end
