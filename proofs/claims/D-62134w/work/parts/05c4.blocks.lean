section
set_option maxRecDepth 100000
set_option maxHeartbeats 2000000
/-! TreeShell.passCommand(I)Z -/
theorem bl_101_0 (z : Bool) (d : Nat) (b : Nat) (p1 : Int32) (h : ab_H) : ab_ev gG z (d + 1) 101 0 [some (.inr (.inr (some b))), some (.inl p1), none, none] [] h =
  if ab_isc h b 0 = true then
  (ab_c3 (ab_cl gG z d 59 [.inr (.inr (some b))] h)).bind fun r1 =>
  if (r1.1 : Option Nat) = some (ab_ga r1.2 8) then
  ab_ev gG z (d + 1) 101 7 [some (.inr (.inr (some b))), some (.inl p1), none, none] [.inl (1 : Int32)] r1.2
else
  ab_ev gG z (d + 1) 101 7 [some (.inr (.inr (some b))), some (.inl p1), none, none] [.inl (0 : Int32)] r1.2
else none := ab_ev_ex [7, 18, 24, 28] 500 rfl
theorem bl_101_7 (z : Bool) (d : Nat) (b : Nat) (v1 s0 : Int32) (h : ab_H) : ab_ev gG z (d + 1) 101 7 [some (.inr (.inr (some b))), some (.inl v1), none, none] [.inl s0] h =
  if s0 = 0 then
  ab_ev gG z (d + 1) 101 18 [some (.inr (.inr (some b))), some (.inl v1), some (.inl s0), some (.inl (0 : Int32))] [] h
else
  if ab_isc h b 0 = true then
    (ab_c1 (ab_cl gG z d 119 [.inr (.inr (some b)), .inl v1] h)).bind fun r1 =>
    if r1.1 = 0 then
    some (some (.inl (0 : Int32)), r1.2)
  else
    ab_ev gG z (d + 1) 101 18 [some (.inr (.inr (some b))), some (.inl v1), some (.inl s0), some (.inl (0 : Int32))] [] r1.2
  else none := ab_ev_ex [7, 18, 24, 28] 500 rfl
theorem bl_101_18 (z : Bool) (d : Nat) (b : Nat) (v1 v2 v3 : Int32) (h : ab_H) : ab_ev gG z (d + 1) 101 18 [some (.inr (.inr (some b))), some (.inl v1), some (.inl v2), some (.inl v3)] [] h =
  if ab_isc h b 0 = true then
  (ab_c3 (ab_cl gG z d 59 [.inr (.inr (some b))] h)).bind fun r1 =>
  if (r1.1 : Option Nat) = some (ab_ga r1.2 0) then
  if v2 = 0 then
    ab_ev gG z (d + 1) 101 28 [some (.inr (.inr (some b))), some (.inl v1), some (.inl v2), some (.inl v3)] [] r1.2
  else
    ab_ev gG z (d + 1) 101 24 [some (.inr (.inr (some b))), some (.inl v1), some (.inl v2), some (.inl v3)] [] r1.2
else
  ab_ev gG z (d + 1) 101 24 [some (.inr (.inr (some b))), some (.inl v1), some (.inl v2), some (.inl v3)] [] r1.2
else none := ab_ev_ex [7, 18, 24, 28] 500 rfl
theorem bl_101_24 (z : Bool) (d : Nat) (b : Nat) (v1 v2 v3 : Int32) (h : ab_H) : ab_ev gG z (d + 1) 101 24 [some (.inr (.inr (some b))), some (.inl v1), some (.inl v2), some (.inl v3)] [] h =
  if ab_isc h b 0 = true then
  (ab_c3 (ab_cl gG z d 59 [.inr (.inr (some b))] h)).bind fun r1 =>
  (ab_c1 (ab_cl gG z d 88 [.inr (.inr r1.1)] r1.2)).bind fun r2 =>
  if r2.1 = 0 then
  if v2 = 0 then
    if 0 < v3 then
      some (some (.inl (1 : Int32)), r2.2)
    else
      some (some (.inl (0 : Int32)), r2.2)
  else
    some (some (.inl (1 : Int32)), r2.2)
else
  ab_ev gG z (d + 1) 101 28 [some (.inr (.inr (some b))), some (.inl v1), some (.inl v2), some (.inl v3)] [] r2.2
else none := ab_ev_ex [7, 18, 24, 28] 500 rfl
theorem bl_101_28 (z : Bool) (d : Nat) (b : Nat) (v1 v2 v3 : Int32) (h : ab_H) : ab_ev gG z (d + 1) 101 28 [some (.inr (.inr (some b))), some (.inl v1), some (.inl v2), some (.inl v3)] [] h =
  if ab_isc h b 0 = true then
  (ab_c3 (ab_cl gG z d 59 [.inr (.inr (some b))] h)).bind fun r1 =>
  if (r1.1 : Option Nat) = some (ab_ga r1.2 0) then
  (ab_fI r1.2 b 8).bind fun x2 =>
    (ab_pf r1.2 b 8 (.inl (x2 + (1 : Int32)))).bind fun h3 =>
    ab_ev gG z (d + 1) 101 18 [some (.inr (.inr (some b))), some (.inl v1), some (.inl v2), some (.inl (v3 + (1 : Int32)))] [] h3
else
  (ab_fI r1.2 b 8).bind fun x4 =>
    (ab_pf r1.2 b 8 (.inl (x4 + (1 : Int32)))).bind fun h5 =>
    if ab_isc h5 b 0 = true then
    (ab_c3 (ab_cl gG z d 59 [.inr (.inr (some b))] h5)).bind fun r6 =>
    if (r6.1 : Option Nat) = some (ab_ga r6.2 0) then
    (ab_fI r6.2 b 8).bind fun x7 =>
      (ab_pf r6.2 b 8 (.inl (x7 + (1 : Int32)))).bind fun h8 =>
      ab_ev gG z (d + 1) 101 18 [some (.inr (.inr (some b))), some (.inl v1), some (.inl v2), some (.inl v3)] [] h8
  else
    some (some (.inl (0 : Int32)), r6.2)
  else none
else none := ab_ev_ex [7, 18, 24, 28] 500 rfl
theorem ent_101 (z : Bool) (d : Nat) (b : Nat) (p1 : Int32) (h : ab_H) : ab_cl gG z d 101 [.inr (.inr (some b)), .inl p1] h = ab_ev gG z d 101 0 [some (.inr (.inr (some b))), some (.inl p1), none, none] [] h := rfl
/-! TreeShell.aside(ILjava/lang/StringBuilder;)I -/
theorem bl_102_0 (z : Bool) (d : Nat) (b : Nat) (p1 : Int32) (p2 : Option Nat) (h : ab_H) : ab_ev gG z (d + 1) 102 0 [some (.inr (.inr (some b))), some (.inl p1), some (.inr (.inr p2)), none, none] [] h =
  (ab_fR h b 4).bind fun o1 =>
  if ab_isc h b 0 = true then
  (ab_c1 (ab_cl gG z d 103 [.inr (.inr (some b)), .inl p1, .inr (.inr p2)] h)).bind fun r2 =>
  (ab_pf r2.2 b 4 (.inr (.inr o1))).bind fun h3 =>
  some (some (.inl r2.1), h3)
else none := ab_ev_ex [] 500 rfl
theorem ent_102 (z : Bool) (d : Nat) (b : Nat) (p1 : Int32) (p2 : Option Nat) (h : ab_H) : ab_cl gG z d 102 [.inr (.inr (some b)), .inl p1, .inr (.inr p2)] h = ab_ev gG z d 102 0 [some (.inr (.inr (some b))), some (.inl p1), some (.inr (.inr p2)), none, none] [] h := rfl
/-! TreeShell.runCommand(ILjava/lang/StringBuilder;)I -/
theorem bl_103_0 (z : Bool) (d : Nat) (b : Nat) (p1 : Int32) (p2 : Option Nat) (h : ab_H) : ab_ev gG z (d + 1) 103 0 [some (.inr (.inr (some b))), some (.inl p1), some (.inr (.inr p2)), none, none, none, none, none, none] [] h =
  (ab_fR h b 10).bind fun o1 =>
  o1.bind fun a2 => (ab_aR h a2 p1).bind fun o3 =>
  (ab_fI h b 8).bind fun x4 =>
  if ab_isc h b 0 = true then
  (ab_c3 (ab_cl gG z d 59 [.inr (.inr (some b))] h)).bind fun r5 =>
  if (r5.1 : Option Nat) = some (ab_ga r5.2 8) then
  if (1 : Int32) = 0 then
    ab_ev gG z (d + 1) 103 22 [some (.inr (.inr (some b))), some (.inl p1), some (.inr (.inr p2)), some (.inr (.inr o3)), some (.inl x4), some (.inl (1 : Int32)), none, none, none] [] r5.2
  else
    if ab_isc r5.2 b 0 = true then
      (ab_c1 (ab_cl gG z d 119 [.inr (.inr (some b)), .inl p1] r5.2)).bind fun r6 =>
      ab_ev gG z (d + 1) 103 22 [some (.inr (.inr (some b))), some (.inl p1), some (.inr (.inr p2)), some (.inr (.inr o3)), some (.inl x4), some (.inl (1 : Int32)), none, none, none] [] r6.2
    else none
else
  if (0 : Int32) = 0 then
    ab_ev gG z (d + 1) 103 22 [some (.inr (.inr (some b))), some (.inl p1), some (.inr (.inr p2)), some (.inr (.inr o3)), some (.inl x4), some (.inl (0 : Int32)), none, none, none] [] r5.2
  else
    if ab_isc r5.2 b 0 = true then
      (ab_c1 (ab_cl gG z d 119 [.inr (.inr (some b)), .inl p1] r5.2)).bind fun r7 =>
      ab_ev gG z (d + 1) 103 22 [some (.inr (.inr (some b))), some (.inl p1), some (.inr (.inr p2)), some (.inr (.inr o3)), some (.inl x4), some (.inl (0 : Int32)), none, none, none] [] r7.2
    else none
else none := ab_ev_ex [22] 500 rfl
theorem bl_103_22 (z : Bool) (d : Nat) (b : Nat) (v1 v4 v5 : Int32) (v2 v3 : Option Nat) (h : ab_H) : ab_ev gG z (d + 1) 103 22 [some (.inr (.inr (some b))), some (.inl v1), some (.inr (.inr v2)), some (.inr (.inr v3)), some (.inl v4), some (.inl v5), none, none, none] [] h =
  v3.bind fun a1 => (ab_fR h a1 400).bind fun o2 =>
  o2.bind fun a3 => if ab_isc h a3 8 = true then
  (ab_c0 (ab_cl gG z d 8 [.inr (.inr (some a3)), .inl (0 : Int32)] h)).bind fun h4 =>
  v3.bind fun a5 => (ab_pf h4 a5 405 (.inr (.inr v2))).bind fun h6 =>
  v3.bind fun a7 => (ab_pf h6 a7 406 (.inr (.inr none))).bind fun h8 =>
  if ab_isc h8 b 0 = true then
  (ab_c1 (ab_cl gG z d 120 [.inr (.inr (some b)), .inr (.inr v3), .inl v5] h8)).bind fun r9 =>
  (ab_fI r9.2 b 8).bind fun x10 =>
  if r9.1 = 0 then
  (ab_pf r9.2 b 8 (.inl x10)).bind fun h11 =>
    v3.bind fun a12 => (ab_fR h11 a12 406).bind fun o13 =>
    if (o13 : Option Nat) = none then
    some (some (.inl (1 : Int32)), h11)
  else
    if ab_isc h11 b 0 = true then
      (ab_c0 (ab_cl gG z d 123 [.inr (.inr (some b)), .inr (.inr v3)] h11)).bind fun h14 =>
      some (some (.inl (1 : Int32)), h14)
    else none
else
  if v5 = 0 then
    if ab_isc r9.2 b 0 = true then
      (ab_c1 (ab_cl gG z d 122 [.inr (.inr (some b)), .inr (.inr v3)] r9.2)).bind fun r15 =>
      (ab_pf r15.2 b 8 (.inl x10)).bind fun h16 =>
      v3.bind fun a17 => (ab_fR h16 a17 406).bind fun o18 =>
      if (o18 : Option Nat) = none then
      some (some (.inl r15.1), h16)
    else
      if ab_isc h16 b 0 = true then
        (ab_c0 (ab_cl gG z d 123 [.inr (.inr (some b)), .inr (.inr v3)] h16)).bind fun h19 =>
        some (some (.inl r15.1), h19)
      else none
    else none
  else
    if ab_isc r9.2 b 0 = true then
      (ab_c1 (ab_cl gG z d 121 [.inr (.inr (some b)), .inl v1, .inl v4] r9.2)).bind fun r20 =>
      (ab_pf r20.2 b 8 (.inl x10)).bind fun h21 =>
      v3.bind fun a22 => (ab_fR h21 a22 406).bind fun o23 =>
      if (o23 : Option Nat) = none then
      some (some (.inl r20.1), h21)
    else
      if ab_isc h21 b 0 = true then
        (ab_c0 (ab_cl gG z d 123 [.inr (.inr (some b)), .inr (.inr v3)] h21)).bind fun h24 =>
        some (some (.inl r20.1), h24)
      else none
    else none
else none
else none := ab_ev_ex [22] 500 rfl
theorem ent_103 (z : Bool) (d : Nat) (b : Nat) (p1 : Int32) (p2 : Option Nat) (h : ab_H) : ab_cl gG z d 103 [.inr (.inr (some b)), .inl p1, .inr (.inr p2)] h = ab_ev gG z d 103 0 [some (.inr (.inr (some b))), some (.inl p1), some (.inr (.inr p2)), none, none, none, none, none, none] [] h := rfl
/-! TreeShell$Level.swap()V -/
theorem bl_104_0 (z : Bool) (d : Nat) (b : Nat) (h : ab_H) : ab_ev gG z d 104 0 [some (.inr (.inr (some b))), none] [] h =
  (ab_fR h b 401).bind fun o1 =>
  (ab_fR h b 400).bind fun o2 =>
  (ab_pf h b 401 (.inr (.inr o2))).bind fun h3 =>
  (ab_pf h3 b 400 (.inr (.inr o1))).bind fun h4 =>
  some (none, h4) := ab_ev_ex [] 500 rfl
theorem ent_104 (z : Bool) (d : Nat) (b : Nat) (h : ab_H) : ab_cl gG z d 104 [.inr (.inr (some b))] h = ab_ev gG z d 104 0 [some (.inr (.inr (some b))), none] [] h := rfl
/-! TreeShell.pour(Ljava/lang/StringBuilder;Ljava/lang/StringBuilder;)V -/
theorem bl_105_0 (z : Bool) (d : Nat) (p1 p2 : Option Nat) (h : ab_H) : ab_ev gG z (d + 1) 105 0 [some (.inr (.inr p1)), some (.inr (.inr p2)), none] [] h =
  ab_ev gG z (d + 1) 105 2 [some (.inr (.inr p1)), some (.inr (.inr p2)), some (.inl (0 : Int32))] [] h := ab_ev_ex [2] 500 rfl
theorem bl_105_2 (z : Bool) (d : Nat) (v0 v1 : Option Nat) (v2 : Int32) (h : ab_H) : ab_ev gG z (d + 1) 105 2 [some (.inr (.inr v0)), some (.inr (.inr v1)), some (.inl v2)] [] h =
  v0.bind fun a1 => if ab_isc h a1 8 = true then
  (ab_c1 (ab_cl gG z d 7 [.inr (.inr (some a1))] h)).bind fun r2 =>
  if v2 < r2.1 then
  v0.bind fun a3 => if ab_isc r2.2 a3 8 = true then
    (ab_c1 (ab_cl gG z d 6 [.inr (.inr (some a3)), .inl v2] r2.2)).bind fun r4 =>
    v1.bind fun a5 => if ab_isc r4.2 a5 8 = true then
    (ab_c3 (ab_cl gG z d 4 [.inr (.inr (some a5)), .inl r4.1] r4.2)).bind fun r6 =>
    ab_ev gG z (d + 1) 105 2 [some (.inr (.inr v0)), some (.inr (.inr v1)), some (.inl (v2 + (1 : Int32)))] [] r6.2
  else none
  else none
else
  some (none, r2.2)
else none := ab_ev_ex [2] 500 rfl
theorem ent_105 (z : Bool) (d : Nat) (p1 p2 : Option Nat) (h : ab_H) : ab_cl gG z d 105 [.inr (.inr p1), .inr (.inr p2)] h = ab_ev gG z d 105 0 [some (.inr (.inr p1)), some (.inr (.inr p2)), none] [] h := rfl
/-! TreeShell.passGroup(I)Z -/
theorem bl_119_0 (z : Bool) (d : Nat) (b : Nat) (p1 : Int32) (h : ab_H) : ab_ev gG z (d + 1) 119 0 [some (.inr (.inr (some b))), some (.inl p1)] [] h =
  if p1 < (4 : Int32) then
  (ab_fI h b 8).bind fun x1 =>
    (ab_pf h b 8 (.inl (x1 + (1 : Int32)))).bind fun h2 =>
    if ab_isc h2 b 0 = true then
    (ab_c1 (ab_cl gG z d 68 [.inr (.inr (some b)), .inl (p1 + (1 : Int32))] h2)).bind fun r3 =>
    if r3.1 = 0 then
    some (some (.inl (0 : Int32)), r3.2)
  else
    if ab_isc r3.2 b 0 = true then
      (ab_c3 (ab_cl gG z d 59 [.inr (.inr (some b))] r3.2)).bind fun r4 =>
      if (r4.1 : Option Nat) = some (ab_ga r4.2 9) then
      (ab_fI r4.2 b 8).bind fun x5 =>
        (ab_pf r4.2 b 8 (.inl (x5 + (1 : Int32)))).bind fun h6 =>
        some (some (.inl (1 : Int32)), h6)
    else
      some (some (.inl (0 : Int32)), r4.2)
    else none
  else none
else
  some (some (.inl (0 : Int32)), h) := ab_ev_ex [] 500 rfl
theorem ent_119 (z : Bool) (d : Nat) (b : Nat) (p1 : Int32) (h : ab_H) : ab_cl gG z d 119 [.inr (.inr (some b)), .inl p1] h = ab_ev gG z d 119 0 [some (.inr (.inr (some b))), some (.inl p1)] [] h := rfl
end
