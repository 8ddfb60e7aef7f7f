section
set_option maxRecDepth 100000
set_option maxHeartbeats 2000000
/-! TreeShell.runList(I)V -/
theorem bl_60_0 (z : Bool) (d : Nat) (b : Nat) (v1 : Int32) (h : ab_H) : ab_ev gG z (d + 1) 60 0 [some (.inr (.inr (some b))), some (.inl v1)] [] h =
  if ab_isc h b 0 = true then
  (ab_c0 (ab_cl gG z d 71 [.inr (.inr (some b)), .inl v1] h)).bind fun h1 =>
  (ab_fI h1 b 17).bind fun x2 =>
  if x2 = 0 then
  if ab_isc h1 b 0 = true then
    (ab_c3 (ab_cl gG z d 59 [.inr (.inr (some b))] h1)).bind fun r3 =>
    if (r3.1 : Option Nat) = some (ab_ga r3.2 1) then
    (ab_fI r3.2 b 8).bind fun x4 =>
      (ab_pf r3.2 b 8 (.inl (x4 + (1 : Int32)))).bind fun h5 =>
      if ab_isc h5 b 0 = true then
      (ab_c1 (ab_cl gG z d 72 [.inr (.inr (some b))] h5)).bind fun r6 =>
      if r6.1 = 0 then
      some (none, r6.2)
    else
      ab_ev gG z (d + 1) 60 0 [some (.inr (.inr (some b))), some (.inl v1)] [] r6.2
    else none
  else
    some (none, r3.2)
  else none
else
  some (none, h1)
else none := ab_ev_ex [0] 500 rfl
theorem ent_60 (z : Bool) (d : Nat) (b : Nat) (p1 : Int32) (h : ab_H) : ab_cl gG z d 60 [.inr (.inr (some b)), .inl p1] h = ab_ev gG z d 60 0 [some (.inr (.inr (some b))), some (.inl p1)] [] h := rfl
/-! TreeShell$Node.<init>(JLTreeShell$Dir;)V -/
theorem bl_66_0 (z : Bool) (d : Nat) (b : Nat) (p1 : Int64) (p2 : Option Nat) (h : ab_H) : ab_ev gG z (d + 1) 66 0 [some (.inr (.inr (some b))), some (.inr (.inl p1)), none, some (.inr (.inr p2))] [] h =
  (ab_c0 (ab_cl gG z d 0 [.inr (.inr (some b))] h)).bind fun h1 =>
  (ab_pf h1 b 1200 (.inr (.inl p1))).bind fun h2 =>
  (ab_pf h2 b 1201 (.inr (.inr p2))).bind fun h3 =>
  some (none, h3) := ab_ev_ex [] 500 rfl
theorem ent_66 (z : Bool) (d : Nat) (b : Nat) (p1 : Int64) (p2 : Option Nat) (h : ab_H) : ab_cl gG z d 66 [.inr (.inr (some b)), .inr (.inl p1), .inr (.inr p2)] h = ab_ev gG z d 66 0 [some (.inr (.inr (some b))), some (.inr (.inl p1)), none, some (.inr (.inr p2))] [] h := rfl
/-! TreeShell$Line.scan()Z -/
theorem bl_67_0 (z : Bool) (d : Nat) (b : Nat) (h : ab_H) : ab_ev gG z (d + 1) 67 0 [some (.inr (.inr (some b))), none, none, none] [] h =
  (ab_pf h b 505 (.inl (0 : Int32))).bind fun h1 =>
  ab_ev gG z (d + 1) 67 5 [some (.inr (.inr (some b))), some (.inl (0 : Int32)), none, none] [] h1 := ab_ev_ex [5, 38] 500 rfl
theorem bl_67_5 (z : Bool) (d : Nat) (b : Nat) (v1 : Int32) (u2 u3 : Option ab_V) (h : ab_H) : ab_ev gG z (d + 1) 67 5 [some (.inr (.inr (some b))), some (.inl v1), u2, u3] [] h =
  (ab_fI h b 501).bind fun x1 =>
  if v1 < x1 then
  (ab_fR h b 500).bind fun o2 =>
    o2.bind fun a3 => (ab_aI 2 h a3 v1).bind fun x4 =>
    if x4 = (32 : Int32) then
    ab_ev gG z (d + 1) 67 5 [some (.inr (.inr (some b))), some (.inl (v1 + (1 : Int32))), none, none] [] h
  else
    (ab_fR h b 500).bind fun o5 =>
      o5.bind fun a6 => (ab_aI 2 h a6 v1).bind fun x7 =>
      (ab_c1 (ab_cl gG z d 79 [.inl x7] h)).bind fun r8 =>
      if r8.1 = 0 then
      if ab_isc r8.2 b 5 = true then
        (ab_c3 (ab_cl gG z d 80 [.inr (.inr (some b)), .inl v1] r8.2)).bind fun r9 =>
        if (r9.1 : Option Nat) = none then
        ab_ev gG z (d + 1) 67 38 [some (.inr (.inr (some b))), some (.inl v1), some (.inr (.inr r9.1)), none] [.inl (-1 : Int32)] r9.2
      else
        if ab_isc r9.2 b 5 = true then
          (ab_c1 (ab_cl gG z d 81 [.inr (.inr (some b)), .inr (.inr r9.1), .inl v1] r9.2)).bind fun r10 =>
          ab_ev gG z (d + 1) 67 38 [some (.inr (.inr (some b))), some (.inl v1), some (.inr (.inr r9.1)), none] [.inl r10.1] r10.2
        else none
      else none
    else
      if (some (ab_ga r8.2 0) : Option Nat) = none then
        ab_ev gG z (d + 1) 67 38 [some (.inr (.inr (some b))), some (.inl v1), some (.inr (.inr (some (ab_ga r8.2 0)))), none] [.inl (-1 : Int32)] r8.2
      else
        if ab_isc r8.2 b 5 = true then
          (ab_c1 (ab_cl gG z d 81 [.inr (.inr (some b)), .inr (.inr (some (ab_ga r8.2 0))), .inl v1] r8.2)).bind fun r11 =>
          ab_ev gG z (d + 1) 67 38 [some (.inr (.inr (some b))), some (.inl v1), some (.inr (.inr (some (ab_ga r8.2 0)))), none] [.inl r11.1] r11.2
        else none
else
  (ab_fR h b 502).bind fun o12 =>
    (ab_fI h b 505).bind fun x13 =>
    o12.bind fun a14 => (ab_sR h a14 x13 (some (ab_ga h 11))).bind fun h15 =>
    some (some (.inl (1 : Int32)), h15) := ab_ev_ex [5, 38] 500 rfl
theorem bl_67_38 (z : Bool) (d : Nat) (b : Nat) (v1 s0 : Int32) (v2 : Option Nat) (h : ab_H) : ab_ev gG z (d + 1) 67 38 [some (.inr (.inr (some b))), some (.inl v1), some (.inr (.inr v2)), none] [.inl s0] h =
  if s0 < 0 then
  some (some (.inl (0 : Int32)), h)
else
  (ab_fR h b 502).bind fun o1 =>
    (ab_fI h b 505).bind fun x2 =>
    o1.bind fun a3 => (ab_sR h a3 x2 v2).bind fun h4 =>
    (ab_fR h4 b 503).bind fun o5 =>
    (ab_fI h4 b 505).bind fun x6 =>
    o5.bind fun a7 => (ab_sI 0 h4 a7 x6 v1).bind fun h8 =>
    (ab_fR h8 b 504).bind fun o9 =>
    (ab_fI h8 b 505).bind fun x10 =>
    o9.bind fun a11 => (ab_sI 0 h8 a11 x10 s0).bind fun h12 =>
    (ab_fI h12 b 505).bind fun x13 =>
    (ab_pf h12 b 505 (.inl (x13 + (1 : Int32)))).bind fun h14 =>
    ab_ev gG z (d + 1) 67 5 [some (.inr (.inr (some b))), some (.inl s0), some (.inr (.inr v2)), some (.inl s0)] [] h14 := ab_ev_ex [5, 38] 500 rfl
theorem ent_67 (z : Bool) (d : Nat) (b : Nat) (h : ab_H) : ab_cl gG z d 67 [.inr (.inr (some b))] h = ab_ev gG z d 67 0 [some (.inr (.inr (some b))), none, none, none] [] h := rfl
/-! TreeShell.passList(I)Z -/
theorem bl_68_0 (z : Bool) (d : Nat) (b : Nat) (v1 : Int32) (h : ab_H) : ab_ev gG z (d + 1) 68 0 [some (.inr (.inr (some b))), some (.inl v1)] [] h =
  if ab_isc h b 0 = true then
  (ab_c1 (ab_cl gG z d 82 [.inr (.inr (some b)), .inl v1] h)).bind fun r1 =>
  if r1.1 = 0 then
  some (some (.inl (0 : Int32)), r1.2)
else
  if ab_isc r1.2 b 0 = true then
    (ab_c3 (ab_cl gG z d 59 [.inr (.inr (some b))] r1.2)).bind fun r2 =>
    if (r2.1 : Option Nat) = some (ab_ga r2.2 1) then
    (ab_fI r2.2 b 8).bind fun x3 =>
      (ab_pf r2.2 b 8 (.inl (x3 + (1 : Int32)))).bind fun h4 =>
      if ab_isc h4 b 0 = true then
      (ab_c1 (ab_cl gG z d 72 [.inr (.inr (some b))] h4)).bind fun r5 =>
      if r5.1 = 0 then
      some (some (.inl (1 : Int32)), r5.2)
    else
      ab_ev gG z (d + 1) 68 0 [some (.inr (.inr (some b))), some (.inl v1)] [] r5.2
    else none
  else
    some (some (.inl (1 : Int32)), r2.2)
  else none
else none := ab_ev_ex [0] 500 rfl
theorem ent_68 (z : Bool) (d : Nat) (b : Nat) (p1 : Int32) (h : ab_H) : ab_cl gG z d 68 [.inr (.inr (some b)), .inl p1] h = ab_ev gG z d 68 0 [some (.inr (.inr (some b))), some (.inl p1)] [] h := rfl
/-! TreeShell.runAndor(I)V -/
theorem bl_71_0 (z : Bool) (d : Nat) (b : Nat) (p1 : Int32) (h : ab_H) : ab_ev gG z (d + 1) 71 0 [some (.inr (.inr (some b))), some (.inl p1), none] [] h =
  if ab_isc h b 0 = true then
  (ab_c0 (ab_cl gG z d 86 [.inr (.inr (some b)), .inl p1] h)).bind fun h1 =>
  ab_ev gG z (d + 1) 71 3 [some (.inr (.inr (some b))), some (.inl p1), none] [] h1
else none := ab_ev_ex [3, 22, 33] 500 rfl
theorem bl_71_3 (z : Bool) (d : Nat) (b : Nat) (v1 : Int32) (u2 : Option ab_V) (h : ab_H) : ab_ev gG z (d + 1) 71 3 [some (.inr (.inr (some b))), some (.inl v1), u2] [] h =
  (ab_fI h b 17).bind fun x1 =>
  if x1 = 0 then
  if ab_isc h b 0 = true then
    (ab_c3 (ab_cl gG z d 59 [.inr (.inr (some b))] h)).bind fun r2 =>
    if (r2.1 : Option Nat) = some (ab_ga r2.2 2) then
    if ab_isc r2.2 b 0 = true then
      (ab_c3 (ab_cl gG z d 59 [.inr (.inr (some b))] r2.2)).bind fun r3 =>
      if (r3.1 : Option Nat) = some (ab_ga r3.2 2) then
      ab_ev gG z (d + 1) 71 22 [some (.inr (.inr (some b))), some (.inl v1), none] [.inl (1 : Int32)] r3.2
    else
      ab_ev gG z (d + 1) 71 22 [some (.inr (.inr (some b))), some (.inl v1), none] [.inl (0 : Int32)] r3.2
    else none
  else
    if ab_isc r2.2 b 0 = true then
      (ab_c3 (ab_cl gG z d 59 [.inr (.inr (some b))] r2.2)).bind fun r4 =>
      if (r4.1 : Option Nat) = some (ab_ga r4.2 3) then
      if ab_isc r4.2 b 0 = true then
        (ab_c3 (ab_cl gG z d 59 [.inr (.inr (some b))] r4.2)).bind fun r5 =>
        if (r5.1 : Option Nat) = some (ab_ga r5.2 2) then
        ab_ev gG z (d + 1) 71 22 [some (.inr (.inr (some b))), some (.inl v1), none] [.inl (1 : Int32)] r5.2
      else
        ab_ev gG z (d + 1) 71 22 [some (.inr (.inr (some b))), some (.inl v1), none] [.inl (0 : Int32)] r5.2
      else none
    else
      some (none, r4.2)
    else none
  else none
else
  some (none, h) := ab_ev_ex [3, 22, 33] 500 rfl
theorem bl_71_22 (z : Bool) (d : Nat) (b : Nat) (v1 s0 : Int32) (h : ab_H) : ab_ev gG z (d + 1) 71 22 [some (.inr (.inr (some b))), some (.inl v1), none] [.inl s0] h =
  (ab_fI h b 15).bind fun x1 =>
  if x1 = 0 then
  if s0 = (1 : Int32) then
    ab_ev gG z (d + 1) 71 33 [some (.inr (.inr (some b))), some (.inl v1), none] [.inl (1 : Int32)] h
  else
    ab_ev gG z (d + 1) 71 33 [some (.inr (.inr (some b))), some (.inl v1), none] [.inl (0 : Int32)] h
else
  if s0 = (0 : Int32) then
    ab_ev gG z (d + 1) 71 33 [some (.inr (.inr (some b))), some (.inl v1), none] [.inl (1 : Int32)] h
  else
    ab_ev gG z (d + 1) 71 33 [some (.inr (.inr (some b))), some (.inl v1), none] [.inl (0 : Int32)] h := ab_ev_ex [3, 22, 33] 500 rfl
theorem bl_71_33 (z : Bool) (d : Nat) (b : Nat) (v1 s0 : Int32) (h : ab_H) : ab_ev gG z (d + 1) 71 33 [some (.inr (.inr (some b))), some (.inl v1), none] [.inl s0] h =
  (ab_fI h b 8).bind fun x1 =>
  (ab_pf h b 8 (.inl (x1 + (1 : Int32)))).bind fun h2 =>
  if s0 = 0 then
  if ab_isc h2 b 0 = true then
    (ab_c1 (ab_cl gG z d 87 [.inr (.inr (some b)), .inl v1] h2)).bind fun r3 =>
    ab_ev gG z (d + 1) 71 3 [some (.inr (.inr (some b))), some (.inl v1), some (.inl s0)] [] r3.2
  else none
else
  if ab_isc h2 b 0 = true then
    (ab_c0 (ab_cl gG z d 86 [.inr (.inr (some b)), .inl v1] h2)).bind fun h4 =>
    ab_ev gG z (d + 1) 71 3 [some (.inr (.inr (some b))), some (.inl v1), some (.inl s0)] [] h4
  else none := ab_ev_ex [3, 22, 33] 500 rfl
theorem ent_71 (z : Bool) (d : Nat) (b : Nat) (p1 : Int32) (h : ab_H) : ab_cl gG z d 71 [.inr (.inr (some b)), .inl p1] h = ab_ev gG z d 71 0 [some (.inr (.inr (some b))), some (.inl p1), none] [] h := rfl
/-! TreeShell.begins()Z -/
theorem bl_72_0 (z : Bool) (d : Nat) (b : Nat) (h : ab_H) : ab_ev gG z (d + 1) 72 0 [some (.inr (.inr (some b))), none] [] h =
  if ab_isc h b 0 = true then
  (ab_c3 (ab_cl gG z d 59 [.inr (.inr (some b))] h)).bind fun r1 =>
  if (r1.1 : Option Nat) = some (ab_ga r1.2 0) then
  some (some (.inl (1 : Int32)), r1.2)
else
  if (r1.1 : Option Nat) = some (ab_ga r1.2 8) then
    some (some (.inl (1 : Int32)), r1.2)
  else
    if (r1.1 : Option Nat) = some (ab_ga r1.2 10) then
      some (some (.inl (1 : Int32)), r1.2)
    else
      (ab_c1 (ab_cl gG z d 88 [.inr (.inr r1.1)] r1.2)).bind fun r2 =>
        if r2.1 = 0 then
        some (some (.inl (0 : Int32)), r2.2)
      else
        some (some (.inl (1 : Int32)), r2.2)
else none := ab_ev_ex [] 500 rfl
theorem ent_72 (z : Bool) (d : Nat) (b : Nat) (h : ab_H) : ab_cl gG z d 72 [.inr (.inr (some b))] h = ab_ev gG z d 72 0 [some (.inr (.inr (some b))), none] [] h := rfl
/-! TreeShell$Line.plain(C)Z -/
theorem bl_79_0 (z : Bool) (d : Nat) (p1 : Int32) (h : ab_H) : ab_ev gG z (d + 1) 79 0 [some (.inl p1)] [] h =
  if ab_isc h (ab_ga h 40) 11 = true then
  (ab_c1 (ab_cl gG z d 96 [.inr (.inr (some (ab_ga h 40))), .inl p1] h)).bind fun r1 =>
  if r1.1 < 0 then
  some (some (.inl (1 : Int32)), r1.2)
else
  some (some (.inl (0 : Int32)), r1.2)
else none := ab_ev_ex [] 500 rfl
theorem ent_79 (z : Bool) (d : Nat) (p1 : Int32) (h : ab_H) : ab_cl gG z d 79 [.inl p1] h = ab_ev gG z d 79 0 [some (.inl p1)] [] h := rfl
/-! TreeShell$Line.operator(I)LTreeShell$Mark; -/
theorem bl_80_0 (z : Bool) (d : Nat) (b : Nat) (p1 : Int32) (h : ab_H) : ab_ev gG z (d + 1) 80 0 [some (.inr (.inr (some b))), some (.inl p1), none] [] h =
  if ab_isc h b 5 = true then
  (ab_c1 (ab_cl gG z d 97 [.inr (.inr (some b)), .inl (p1 + (1 : Int32))] h)).bind fun r1 =>
  (ab_fR r1.2 b 500).bind fun o2 =>
  o2.bind fun a3 => (ab_aI 2 r1.2 a3 p1).bind fun x4 =>
  if r1.1 = x4 then
  ab_ev gG z (d + 1) 80 13 [some (.inr (.inr (some b))), some (.inl p1), none] [.inl (1 : Int32)] r1.2
else
  ab_ev gG z (d + 1) 80 13 [some (.inr (.inr (some b))), some (.inl p1), none] [.inl (0 : Int32)] r1.2
else none := ab_ev_ex [13] 500 rfl
theorem bl_80_13 (z : Bool) (d : Nat) (b : Nat) (v1 s0 : Int32) (h : ab_H) : ab_ev gG z (d + 1) 80 13 [some (.inr (.inr (some b))), some (.inl v1), none] [.inl s0] h =
  (ab_fR h b 500).bind fun o1 =>
  o1.bind fun a2 => (ab_aI 2 h a2 v1).bind fun x3 =>
  if x3 = (38 : Int32) then
  if s0 = 0 then
    some (some (.inr (.inr none)), h)
  else
    some (some (.inr (.inr (some (ab_ga h 2)))), h)
else if x3 = (40 : Int32) then
  some (some (.inr (.inr (some (ab_ga h 8)))), h)
else if x3 = (41 : Int32) then
  some (some (.inr (.inr (some (ab_ga h 9)))), h)
else if x3 = (59 : Int32) then
  some (some (.inr (.inr (some (ab_ga h 1)))), h)
else if x3 = (60 : Int32) then
  some (some (.inr (.inr (some (ab_ga h 5)))), h)
else if x3 = (62 : Int32) then
  if s0 = 0 then
    some (some (.inr (.inr (some (ab_ga h 6)))), h)
  else
    some (some (.inr (.inr (some (ab_ga h 7)))), h)
else if x3 = (124 : Int32) then
  if s0 = 0 then
    some (some (.inr (.inr (some (ab_ga h 4)))), h)
  else
    some (some (.inr (.inr (some (ab_ga h 3)))), h)
else some (some (.inr (.inr (some (ab_ga h 10)))), h) := ab_ev_ex [13] 500 rfl
theorem ent_80 (z : Bool) (d : Nat) (b : Nat) (p1 : Int32) (h : ab_H) : ab_cl gG z d 80 [.inr (.inr (some b)), .inl p1] h = ab_ev gG z d 80 0 [some (.inr (.inr (some b))), some (.inl p1), none] [] h := rfl
/-! TreeShell$Line.tokenEnd(LTreeShell$Mark;I)I -/
theorem bl_81_0 (z : Bool) (d : Nat) (b : Nat) (p1 : Option Nat) (p2 : Int32) (h : ab_H) : ab_ev gG z (d + 1) 81 0 [some (.inr (.inr (some b))), some (.inr (.inr p1)), some (.inl p2)] [] h =
  p1.bind fun a1 => if ab_isc h a1 9 = true then
  (ab_c1 (ab_cl gG z d 98 [.inr (.inr (some a1))] h)).bind fun r2 =>
  if r2.1 = (0 : Int32) then
  if ab_isc r2.2 b 5 = true then
    (ab_c1 (ab_cl gG z d 99 [.inr (.inr (some b)), .inl p2] r2.2)).bind fun r3 =>
    some (some (.inl r3.1), r3.2)
  else none
else if r2.1 = (1 : Int32) then
  some (some (.inl (p2 + (1 : Int32))), r2.2)
else if r2.1 = (2 : Int32) then
  some (some (.inl (p2 + (2 : Int32))), r2.2)
else if r2.1 = (3 : Int32) then
  some (some (.inl (p2 + (2 : Int32))), r2.2)
else if r2.1 = (4 : Int32) then
  some (some (.inl (p2 + (1 : Int32))), r2.2)
else if r2.1 = (5 : Int32) then
  some (some (.inl (p2 + (1 : Int32))), r2.2)
else if r2.1 = (6 : Int32) then
  some (some (.inl (p2 + (1 : Int32))), r2.2)
else if r2.1 = (7 : Int32) then
  some (some (.inl (p2 + (2 : Int32))), r2.2)
else some (some (.inl (p2 + (1 : Int32))), r2.2)
else none := ab_ev_ex [] 500 rfl
theorem ent_81 (z : Bool) (d : Nat) (b : Nat) (p1 : Option Nat) (p2 : Int32) (h : ab_H) : ab_cl gG z d 81 [.inr (.inr (some b)), .inr (.inr p1), .inl p2] h = ab_ev gG z d 81 0 [some (.inr (.inr (some b))), some (.inr (.inr p1)), some (.inl p2)] [] h := rfl
end
