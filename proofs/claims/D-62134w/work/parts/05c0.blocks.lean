section
set_option maxRecDepth 100000
set_option maxHeartbeats 2000000
/-! TreeShellLaw.law([I)Z -/
theorem bl_11_0 (z : Bool) (d : Nat) (p1 : Option Nat) (h : ab_H) : ab_ev gG z (d + 1) 11 0 [some (.inr (.inr p1)), none, none, none] [] h =
  (ab_c1 (ab_cl gG z d 18 [.inr (.inr p1), .inl (0 : Int32)] (ab_mk h (ab_cO 0 (ab_birth 0)) 21))).bind fun r1 =>
  (ab_c1 (ab_cl gG z d 18 [.inr (.inr p1), .inl (1 : Int32)] r1.2)).bind fun r2 =>
  (ab_c1 (ab_cl gG z d 18 [.inr (.inr p1), .inl (2 : Int32)] r2.2)).bind fun r3 =>
  (ab_c0 (ab_cl gG z d 19 [.inr (.inr (some (ab_sz h))), .inl r1.1, .inl r2.1, .inl r3.1] r3.2)).bind fun h4 =>
  (ab_c1 (ab_cl gG z d 18 [.inr (.inr p1), .inl (0 : Int32)] (ab_mk h4 (ab_cO 7 (ab_birth 7)) 49))).bind fun r5 =>
  (ab_c1 (ab_cl gG z d 18 [.inr (.inr p1), .inl (1 : Int32)] r5.2)).bind fun r6 =>
  (ab_c1 (ab_cl gG z d 18 [.inr (.inr p1), .inl (2 : Int32)] r6.2)).bind fun r7 =>
  (ab_c0 (ab_cl gG z d 20 [.inr (.inr (some (ab_sz h4))), .inl r5.1, .inl r6.1, .inl r7.1] r7.2)).bind fun h8 =>
  ab_ev gG z (d + 1) 11 28 [some (.inr (.inr p1)), some (.inr (.inr (some (ab_sz h)))), some (.inr (.inr (some (ab_sz h4)))), some (.inl (3 : Int32))] [] h8 := ab_ev_ex [28] 500 rfl
theorem bl_11_28 (z : Bool) (d : Nat) (v0 v1 v2 : Option Nat) (v3 : Int32) (h : ab_H) : ab_ev gG z (d + 1) 11 28 [some (.inr (.inr v0)), some (.inr (.inr v1)), some (.inr (.inr v2)), some (.inl v3)] [] h =
  v0.bind fun a1 => (ab_len h a1).bind fun x2 =>
  if (x2 - (3 : Int32)) < v3 then
  some (some (.inl (1 : Int32)), h)
else
  v0.bind fun a3 => (ab_aI 0 h a3 v3).bind fun x4 =>
    if (x4 &&& (15 : Int32)) = (0 : Int32) then
    v0.bind fun a5 => (ab_aI 0 h a5 (v3 + (1 : Int32))).bind fun x6 =>
      v0.bind fun a7 => (ab_aI 0 h a7 (v3 + (2 : Int32))).bind fun x8 =>
      v1.bind fun a9 => if ab_isc h a9 0 = true then
      (ab_c1 (ab_cl gG z d 21 [.inr (.inr (some a9)), .inr (.inl (((x6).toInt64 <<< (((32 : Int32)).toInt64 &&& 63)) ||| ((x8).toInt64 &&& (4294967295 : Int64))))] h)).bind fun r10 =>
      v0.bind fun a11 => (ab_aI 0 r10.2 a11 (v3 + (1 : Int32))).bind fun x12 =>
      v0.bind fun a13 => (ab_aI 0 r10.2 a13 (v3 + (2 : Int32))).bind fun x14 =>
      v2.bind fun a15 => if ab_isc r10.2 a15 7 = true then
      (ab_c1 (ab_cl gG z d 22 [.inr (.inr (some a15)), .inr (.inl (((x12).toInt64 <<< (((32 : Int32)).toInt64 &&& 63)) ||| ((x14).toInt64 &&& (4294967295 : Int64))))] r10.2)).bind fun r16 =>
      if r10.1 = r16.1 then
      ab_ev gG z (d + 1) 11 28 [some (.inr (.inr v0)), some (.inr (.inr v1)), some (.inr (.inr v2)), some (.inl (v3 + (3 : Int32)))] [] r16.2
    else
      some (some (.inl (0 : Int32)), r16.2)
    else none
    else none
  else if (x4 &&& (15 : Int32)) = (1 : Int32) then
    v1.bind fun a17 => if ab_isc h a17 0 = true then
      (ab_c0 (ab_cl gG z d 23 [.inr (.inr (some a17))] h)).bind fun h18 =>
      v2.bind fun a19 => if ab_isc h18 a19 7 = true then
      (ab_c0 (ab_cl gG z d 24 [.inr (.inr (some a19))] h18)).bind fun h20 =>
      ab_ev gG z (d + 1) 11 28 [some (.inr (.inr v0)), some (.inr (.inr v1)), some (.inr (.inr v2)), some (.inl (v3 + (3 : Int32)))] [] h20
    else none
    else none
  else if (x4 &&& (15 : Int32)) = (2 : Int32) then
    v1.bind fun a21 => if ab_isc h a21 0 = true then
      (ab_c1 (ab_cl gG z d 25 [.inr (.inr (some a21))] h)).bind fun r22 =>
      v2.bind fun a23 => if ab_isc r22.2 a23 7 = true then
      (ab_c1 (ab_cl gG z d 26 [.inr (.inr (some a23))] r22.2)).bind fun r24 =>
      if r22.1 = r24.1 then
      ab_ev gG z (d + 1) 11 28 [some (.inr (.inr v0)), some (.inr (.inr v1)), some (.inr (.inr v2)), some (.inl (v3 + (3 : Int32)))] [] r24.2
    else
      some (some (.inl (0 : Int32)), r24.2)
    else none
    else none
  else if (x4 &&& (15 : Int32)) = (3 : Int32) then
    v1.bind fun a25 => if ab_isc h a25 0 = true then
      (ab_c1 (ab_cl gG z d 27 [.inr (.inr (some a25))] h)).bind fun r26 =>
      v2.bind fun a27 => if ab_isc r26.2 a27 7 = true then
      (ab_c1 (ab_cl gG z d 28 [.inr (.inr (some a27))] r26.2)).bind fun r28 =>
      if r26.1 = r28.1 then
      ab_ev gG z (d + 1) 11 28 [some (.inr (.inr v0)), some (.inr (.inr v1)), some (.inr (.inr v2)), some (.inl (v3 + (3 : Int32)))] [] r28.2
    else
      some (some (.inl (0 : Int32)), r28.2)
    else none
    else none
  else if (x4 &&& (15 : Int32)) = (4 : Int32) then
    v1.bind fun a29 => if ab_isc h a29 0 = true then
      (ab_c1 (ab_cl gG z d 29 [.inr (.inr (some a29))] h)).bind fun r30 =>
      v2.bind fun a31 => if ab_isc r30.2 a31 7 = true then
      (ab_c1 (ab_cl gG z d 30 [.inr (.inr (some a31))] r30.2)).bind fun r32 =>
      if r30.1 = r32.1 then
      ab_ev gG z (d + 1) 11 28 [some (.inr (.inr v0)), some (.inr (.inr v1)), some (.inr (.inr v2)), some (.inl (v3 + (3 : Int32)))] [] r32.2
    else
      some (some (.inl (0 : Int32)), r32.2)
    else none
    else none
  else if (x4 &&& (15 : Int32)) = (5 : Int32) then
    v1.bind fun a33 => if ab_isc h a33 0 = true then
      (ab_c1 (ab_cl gG z d 31 [.inr (.inr (some a33))] h)).bind fun r34 =>
      v2.bind fun a35 => if ab_isc r34.2 a35 7 = true then
      (ab_c1 (ab_cl gG z d 32 [.inr (.inr (some a35))] r34.2)).bind fun r36 =>
      if r34.1 = r36.1 then
      ab_ev gG z (d + 1) 11 28 [some (.inr (.inr v0)), some (.inr (.inr v1)), some (.inr (.inr v2)), some (.inl (v3 + (3 : Int32)))] [] r36.2
    else
      some (some (.inl (0 : Int32)), r36.2)
    else none
    else none
  else if (x4 &&& (15 : Int32)) = (6 : Int32) then
    v1.bind fun a37 => if ab_isc h a37 0 = true then
      (ab_c1 (ab_cl gG z d 33 [.inr (.inr (some a37))] h)).bind fun r38 =>
      v2.bind fun a39 => if ab_isc r38.2 a39 7 = true then
      (ab_c1 (ab_cl gG z d 34 [.inr (.inr (some a39))] r38.2)).bind fun r40 =>
      if r38.1 = r40.1 then
      ab_ev gG z (d + 1) 11 28 [some (.inr (.inr v0)), some (.inr (.inr v1)), some (.inr (.inr v2)), some (.inl (v3 + (3 : Int32)))] [] r40.2
    else
      some (some (.inl (0 : Int32)), r40.2)
    else none
    else none
  else if (x4 &&& (15 : Int32)) = (7 : Int32) then
    v0.bind fun a41 => (ab_aI 0 h a41 (v3 + (1 : Int32))).bind fun x42 =>
      v1.bind fun a43 => if ab_isc h a43 0 = true then
      (ab_c2 (ab_cl gG z d 35 [.inr (.inr (some a43)), .inl x42] h)).bind fun r44 =>
      v0.bind fun a45 => (ab_aI 0 r44.2 a45 (v3 + (1 : Int32))).bind fun x46 =>
      v2.bind fun a47 => if ab_isc r44.2 a47 7 = true then
      (ab_c2 (ab_cl gG z d 36 [.inr (.inr (some a47)), .inl x46] r44.2)).bind fun r48 =>
      if (if r44.1 < r48.1 then (-1 : Int32) else if r44.1 = r48.1 then 0 else 1) = 0 then
      ab_ev gG z (d + 1) 11 28 [some (.inr (.inr v0)), some (.inr (.inr v1)), some (.inr (.inr v2)), some (.inl (v3 + (3 : Int32)))] [] r48.2
    else
      some (some (.inl (0 : Int32)), r48.2)
    else none
    else none
  else if (x4 &&& (15 : Int32)) = (8 : Int32) then
    v1.bind fun a49 => if ab_isc h a49 0 = true then
      (ab_c1 (ab_cl gG z d 37 [.inr (.inr (some a49))] h)).bind fun r50 =>
      v2.bind fun a51 => if ab_isc r50.2 a51 7 = true then
      (ab_c1 (ab_cl gG z d 38 [.inr (.inr (some a51))] r50.2)).bind fun r52 =>
      if r50.1 = r52.1 then
      ab_ev gG z (d + 1) 11 28 [some (.inr (.inr v0)), some (.inr (.inr v1)), some (.inr (.inr v2)), some (.inl (v3 + (3 : Int32)))] [] r52.2
    else
      some (some (.inl (0 : Int32)), r52.2)
    else none
    else none
  else if (x4 &&& (15 : Int32)) = (9 : Int32) then
    v1.bind fun a53 => if ab_isc h a53 0 = true then
      (ab_c1 (ab_cl gG z d 39 [.inr (.inr (some a53))] h)).bind fun r54 =>
      v2.bind fun a55 => if ab_isc r54.2 a55 7 = true then
      (ab_c1 (ab_cl gG z d 40 [.inr (.inr (some a55))] r54.2)).bind fun r56 =>
      if r54.1 = r56.1 then
      ab_ev gG z (d + 1) 11 28 [some (.inr (.inr v0)), some (.inr (.inr v1)), some (.inr (.inr v2)), some (.inl (v3 + (3 : Int32)))] [] r56.2
    else
      some (some (.inl (0 : Int32)), r56.2)
    else none
    else none
  else if (x4 &&& (15 : Int32)) = (10 : Int32) then
    v1.bind fun a57 => if ab_isc h a57 0 = true then
      (ab_c1 (ab_cl gG z d 41 [.inr (.inr (some a57))] h)).bind fun r58 =>
      v2.bind fun a59 => if ab_isc r58.2 a59 7 = true then
      (ab_c1 (ab_cl gG z d 42 [.inr (.inr (some a59))] r58.2)).bind fun r60 =>
      if r58.1 = r60.1 then
      ab_ev gG z (d + 1) 11 28 [some (.inr (.inr v0)), some (.inr (.inr v1)), some (.inr (.inr v2)), some (.inl (v3 + (3 : Int32)))] [] r60.2
    else
      some (some (.inl (0 : Int32)), r60.2)
    else none
    else none
  else if (x4 &&& (15 : Int32)) = (11 : Int32) then
    v1.bind fun a61 => if ab_isc h a61 0 = true then
      (ab_c1 (ab_cl gG z d 43 [.inr (.inr (some a61))] h)).bind fun r62 =>
      v2.bind fun a63 => if ab_isc r62.2 a63 7 = true then
      (ab_c1 (ab_cl gG z d 44 [.inr (.inr (some a63))] r62.2)).bind fun r64 =>
      if r62.1 = r64.1 then
      ab_ev gG z (d + 1) 11 28 [some (.inr (.inr v0)), some (.inr (.inr v1)), some (.inr (.inr v2)), some (.inl (v3 + (3 : Int32)))] [] r64.2
    else
      some (some (.inl (0 : Int32)), r64.2)
    else none
    else none
  else ab_ev gG z (d + 1) 11 28 [some (.inr (.inr v0)), some (.inr (.inr v1)), some (.inr (.inr v2)), some (.inl (v3 + (3 : Int32)))] [] h := ab_ev_ex [28] 500 rfl
theorem ent_11 (z : Bool) (d : Nat) (p1 : Option Nat) (h : ab_H) : ab_cl gG z d 11 [.inr (.inr p1)] h = ab_ev gG z d 11 0 [some (.inr (.inr p1)), none, none, none] [] h := rfl
/-! TreeShellLaw.cell([II)I -/
theorem bl_18_0 (z : Bool) (d : Nat) (p1 : Option Nat) (p2 : Int32) (h : ab_H) : ab_ev gG z d 18 0 [some (.inr (.inr p1)), some (.inl p2)] [] h =
  p1.bind fun a1 => (ab_len h a1).bind fun x2 =>
  if p2 < x2 then
  p1.bind fun a3 => (ab_aI 0 h a3 p2).bind fun x4 =>
    some (some (.inl x4), h)
else
  some (some (.inl (0 : Int32)), h) := ab_ev_ex [] 500 rfl
theorem ent_18 (z : Bool) (d : Nat) (p1 : Option Nat) (p2 : Int32) (h : ab_H) : ab_cl gG z d 18 [.inr (.inr p1), .inl p2] h = ab_ev gG z d 18 0 [some (.inr (.inr p1)), some (.inl p2)] [] h := rfl
/-! TreeShell.<init>(III)V -/
theorem bl_19_0 (z : Bool) (d : Nat) (b : Nat) (p1 p2 p3 : Int32) (h : ab_H) : ab_ev gG z (d + 1) 19 0 [some (.inr (.inr (some b))), some (.inl p1), some (.inl p2), some (.inl p3), none] [] h =
  (ab_c0 (ab_cl gG z d 0 [.inr (.inr (some b))] h)).bind fun h1 =>
  (ab_c0 (ab_cl gG z d 51 [.inr (.inr (some (ab_sz h1))), .inr (.inl (0 : Int64)), .inr (.inr none)] (ab_mk h1 (ab_cO 1 (ab_birth 1)) 4))).bind fun h2 =>
  (ab_pf h2 b 3 (.inr (.inr (some (ab_sz h1))))).bind fun h3 =>
  (ab_fR h3 b 3).bind fun o4 =>
  (ab_pf h3 b 4 (.inr (.inr o4))).bind fun h5 =>
  (ab_c0 (ab_cl gG z d 52 [.inr (.inr (some (ab_sz h5)))] (ab_mk h5 (ab_cO 5 (ab_birth 5)) 6))).bind fun h6 =>
  (ab_pf h6 b 7 (.inr (.inr (some (ab_sz h5))))).bind fun h7 =>
  (ab_c0 (ab_cl gG z d 53 [.inr (.inr (some (ab_sz h7)))] (ab_mk h7 (ab_cO 6 (ab_birth 6)) 5))).bind fun h8 =>
  (ab_pf h8 b 9 (.inr (.inr (some (ab_sz h7))))).bind fun h9 =>
  (ab_pf (ab_mk h9 (ab_cR 4 5 (fun _ => none)) 5) b 10 (.inr (.inr (some (ab_sz h9))))).bind fun h10 =>
  (ab_c3 (ab_cl gG z d 54 [] h10)).bind fun r11 =>
  (ab_pf r11.2 b 11 (.inr (.inr r11.1))).bind fun h12 =>
  (ab_c0 (ab_cl gG z d 55 [.inr (.inr (some (ab_sz h12)))] (ab_mk h12 (ab_cO 3 (ab_birth 3)) 6))).bind fun h13 =>
  (ab_pf h13 b 12 (.inr (.inr (some (ab_sz h12))))).bind fun h14 =>
  (ab_c0 (ab_cl gG z d 3 [.inr (.inr (some (ab_sz h14)))] (ab_mk h14 (ab_cO 8 (ab_birth 8)) 4))).bind fun h15 =>
  (ab_pf h15 b 13 (.inr (.inr (some (ab_sz h14))))).bind fun h16 =>
  (ab_c0 (ab_cl gG z d 3 [.inr (.inr (some (ab_sz h16)))] (ab_mk h16 (ab_cO 8 (ab_birth 8)) 4))).bind fun h17 =>
  (ab_pf h17 b 14 (.inr (.inr (some (ab_sz h16))))).bind fun h18 =>
  (ab_c1 (ab_cl gG z d 10 [.inl (1 : Int32), .inl p1] h18)).bind fun r19 =>
  (ab_c1 (ab_cl gG z d 9 [.inl (12 : Int32), .inl r19.1] r19.2)).bind fun r20 =>
  (ab_pf r20.2 b 0 (.inl r20.1)).bind fun h21 =>
  (ab_c1 (ab_cl gG z d 10 [.inl (0 : Int32), .inl p2] h21)).bind fun r22 =>
  (ab_c1 (ab_cl gG z d 9 [.inl (160 : Int32), .inl r22.1] r22.2)).bind fun r23 =>
  (ab_pf r23.2 b 1 (.inl r23.1)).bind fun h24 =>
  (ab_c1 (ab_cl gG z d 10 [.inl (8 : Int32), .inl p3] h24)).bind fun r25 =>
  (ab_c1 (ab_cl gG z d 9 [.inl (96 : Int32), .inl r25.1] r25.2)).bind fun r26 =>
  (ab_pf r26.2 b 2 (.inl r26.1)).bind fun h27 =>
  ab_ev gG z (d + 1) 19 68 [some (.inr (.inr (some b))), some (.inl p1), some (.inl p2), some (.inl p3), some (.inl (0 : Int32))] [] h27 := ab_ev_ex [68] 500 rfl
theorem bl_19_68 (z : Bool) (d : Nat) (b : Nat) (v1 v2 v3 v4 : Int32) (h : ab_H) : ab_ev gG z (d + 1) 19 68 [some (.inr (.inr (some b))), some (.inl v1), some (.inl v2), some (.inl v3), some (.inl v4)] [] h =
  if (4 : Int32) < v4 then
  some (none, h)
else
  (ab_fR h b 10).bind fun o1 =>
    (ab_c0 (ab_cl gG z d 56 [.inr (.inr (some (ab_sz h)))] (ab_mk h (ab_cO 4 (ab_birth 4)) 7))).bind fun h2 =>
    o1.bind fun a3 => (ab_sR h2 a3 v4 (some (ab_sz h))).bind fun h4 =>
    ab_ev gG z (d + 1) 19 68 [some (.inr (.inr (some b))), some (.inl v1), some (.inl v2), some (.inl v3), some (.inl (v4 + (1 : Int32)))] [] h4 := ab_ev_ex [68] 500 rfl
theorem ent_19 (z : Bool) (d : Nat) (b : Nat) (p1 p2 p3 : Int32) (h : ab_H) : ab_cl gG z d 19 [.inr (.inr (some b)), .inl p1, .inl p2, .inl p3] h = ab_ev gG z d 19 0 [some (.inr (.inr (some b))), some (.inl p1), some (.inl p2), some (.inl p3), none] [] h := rfl
/-! TreeShell.type(J)Z -/
theorem bl_21_0 (z : Bool) (d : Nat) (b : Nat) (p1 : Int64) (h : ab_H) : ab_ev gG z d 21 0 [some (.inr (.inr (some b))), some (.inr (.inl p1)), none, none, none, none] [] h =
  (ab_fR h b 7).bind fun o1 =>
  o1.bind fun a2 => (ab_fI h a2 501).bind fun x3 =>
  ab_ev gG z d 21 6 [some (.inr (.inr (some b))), some (.inr (.inl p1)), none, some (.inl x3), some (.inl (56 : Int32)), none] [] h := ab_ev_ex [6] 500 rfl
theorem bl_21_6 (z : Bool) (d : Nat) (b : Nat) (v1 : Int64) (v3 v4 : Int32) (u5 : Option ab_V) (h : ab_H) : ab_ev gG z d 21 6 [some (.inr (.inr (some b))), some (.inr (.inl v1)), none, some (.inl v3), some (.inl v4), u5] [] h =
  if v4 < 0 then
  (ab_fR h b 7).bind fun o1 =>
    o1.bind fun a2 => (ab_pf h a2 501 (.inl v3)).bind fun h3 =>
    some (some (.inl (1 : Int32)), h3)
else
  if (((((v1 >>> ((v4).toInt64 &&& 63)) &&& (255 : Int64))).toInt32).toUInt32 % 65536).toInt32 = 0 then
    ab_ev gG z d 21 6 [some (.inr (.inr (some b))), some (.inr (.inl v1)), none, some (.inl v3), some (.inl (v4 + (-8 : Int32))), some (.inl ((((((v1 >>> ((v4).toInt64 &&& 63)) &&& (255 : Int64))).toInt32).toUInt32 % 65536).toInt32))] [] h
  else
    if (((((v1 >>> ((v4).toInt64 &&& 63)) &&& (255 : Int64))).toInt32).toUInt32 % 65536).toInt32 < (32 : Int32) then
      some (some (.inl (0 : Int32)), h)
    else
      if (126 : Int32) < (((((v1 >>> ((v4).toInt64 &&& 63)) &&& (255 : Int64))).toInt32).toUInt32 % 65536).toInt32 then
        some (some (.inl (0 : Int32)), h)
      else
        if v3 < (64 : Int32) then
          (ab_fR h b 7).bind fun o4 =>
            o4.bind fun a5 => (ab_fR h a5 500).bind fun o6 =>
            o6.bind fun a7 => (ab_sI 2 h a7 v3 ((((((v1 >>> ((v4).toInt64 &&& 63)) &&& (255 : Int64))).toInt32).toUInt32 % 65536).toInt32)).bind fun h8 =>
            ab_ev gG z d 21 6 [some (.inr (.inr (some b))), some (.inr (.inl v1)), none, some (.inl (v3 + (1 : Int32))), some (.inl (v4 + (-8 : Int32))), some (.inl ((((((v1 >>> ((v4).toInt64 &&& 63)) &&& (255 : Int64))).toInt32).toUInt32 % 65536).toInt32))] [] h8
        else
          some (some (.inl (0 : Int32)), h) := ab_ev_ex [6] 500 rfl
theorem ent_21 (z : Bool) (d : Nat) (b : Nat) (p1 : Int64) (h : ab_H) : ab_cl gG z d 21 [.inr (.inr (some b)), .inr (.inl p1)] h = ab_ev gG z d 21 0 [some (.inr (.inr (some b))), some (.inr (.inl p1)), none, none, none, none] [] h := rfl
end
