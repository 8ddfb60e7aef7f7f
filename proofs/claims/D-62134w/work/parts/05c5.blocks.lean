section
set_option maxRecDepth 100000
set_option maxHeartbeats 2000000
/-! TreeShell.prepare(LTreeShell$Level;Z)Z -/
theorem bl_120_0 (z : Bool) (d : Nat) (b : Nat) (p1 : Option Nat) (p2 : Int32) (h : ab_H) : ab_ev gG z (d + 1) 120 0 [some (.inr (.inr (some b))), some (.inr (.inr p1)), some (.inl p2), none, none] [] h =
  (ab_fR h b 9).bind fun o1 =>
  o1.bind fun a2 => if ab_isc h a2 6 = true then
  (ab_c0 (ab_cl gG z d 137 [.inr (.inr (some a2))] h)).bind fun h3 =>
  ab_ev gG z (d + 1) 120 5 [some (.inr (.inr (some b))), some (.inr (.inr p1)), some (.inl p2), some (.inl (1 : Int32)), none] [] h3
else none := ab_ev_ex [5, 12, 29] 500 rfl
theorem bl_120_5 (z : Bool) (d : Nat) (b : Nat) (v1 : Option Nat) (v2 v3 : Int32) (u4 : Option ab_V) (h : ab_H) : ab_ev gG z (d + 1) 120 5 [some (.inr (.inr (some b))), some (.inr (.inr v1)), some (.inl v2), some (.inl v3), u4] [] h =
  if ab_isc h b 0 = true then
  (ab_c3 (ab_cl gG z d 59 [.inr (.inr (some b))] h)).bind fun r1 =>
  if (r1.1 : Option Nat) = some (ab_ga r1.2 0) then
  if v2 = 0 then
    if ab_isc r1.2 b 0 = true then
      (ab_c3 (ab_cl gG z d 59 [.inr (.inr (some b))] r1.2)).bind fun r2 =>
      if (r2.1 : Option Nat) = some (ab_ga r2.2 0) then
      ab_ev gG z (d + 1) 120 29 [some (.inr (.inr (some b))), some (.inr (.inr v1)), some (.inl v2), some (.inl v3), some (.inr (.inr r2.1))] [] r2.2
    else
      (ab_fI r2.2 b 8).bind fun x3 =>
        (ab_pf r2.2 b 8 (.inl (x3 + (1 : Int32)))).bind fun h4 =>
        ab_ev gG z (d + 1) 120 29 [some (.inr (.inr (some b))), some (.inr (.inr v1)), some (.inl v2), some (.inl v3), some (.inr (.inr r2.1))] [] h4
    else none
  else
    ab_ev gG z (d + 1) 120 12 [some (.inr (.inr (some b))), some (.inr (.inr v1)), some (.inl v2), some (.inl v3), none] [] r1.2
else
  ab_ev gG z (d + 1) 120 12 [some (.inr (.inr (some b))), some (.inr (.inr v1)), some (.inl v2), some (.inl v3), none] [] r1.2
else none := ab_ev_ex [5, 12, 29] 500 rfl
theorem bl_120_12 (z : Bool) (d : Nat) (b : Nat) (v1 : Option Nat) (v2 v3 : Int32) (h : ab_H) : ab_ev gG z (d + 1) 120 12 [some (.inr (.inr (some b))), some (.inr (.inr v1)), some (.inl v2), some (.inl v3), none] [] h =
  if ab_isc h b 0 = true then
  (ab_c3 (ab_cl gG z d 59 [.inr (.inr (some b))] h)).bind fun r1 =>
  (ab_c1 (ab_cl gG z d 88 [.inr (.inr r1.1)] r1.2)).bind fun r2 =>
  if r2.1 = 0 then
  if v3 = 0 ∨ v3 = 1 then some (some (.inl v3), r2.2) else none
else
  if ab_isc r2.2 b 0 = true then
    (ab_c3 (ab_cl gG z d 59 [.inr (.inr (some b))] r2.2)).bind fun r3 =>
    if (r3.1 : Option Nat) = some (ab_ga r3.2 0) then
    ab_ev gG z (d + 1) 120 29 [some (.inr (.inr (some b))), some (.inr (.inr v1)), some (.inl v2), some (.inl v3), some (.inr (.inr r3.1))] [] r3.2
  else
    (ab_fI r3.2 b 8).bind fun x4 =>
      (ab_pf r3.2 b 8 (.inl (x4 + (1 : Int32)))).bind fun h5 =>
      ab_ev gG z (d + 1) 120 29 [some (.inr (.inr (some b))), some (.inr (.inr v1)), some (.inl v2), some (.inl v3), some (.inr (.inr r3.1))] [] h5
  else none
else none := ab_ev_ex [5, 12, 29] 500 rfl
theorem bl_120_29 (z : Bool) (d : Nat) (b : Nat) (v1 v4 : Option Nat) (v2 v3 : Int32) (h : ab_H) : ab_ev gG z (d + 1) 120 29 [some (.inr (.inr (some b))), some (.inr (.inr v1)), some (.inl v2), some (.inl v3), some (.inr (.inr v4))] [] h =
  if v3 = 0 then
  (ab_fI h b 8).bind fun x1 =>
    (ab_pf h b 8 (.inl (x1 + (1 : Int32)))).bind fun h2 =>
    ab_ev gG z (d + 1) 120 5 [some (.inr (.inr (some b))), some (.inr (.inr v1)), some (.inl v2), some (.inl v3), some (.inr (.inr v4))] [] h2
else
  (ab_fR h b 9).bind fun o3 =>
    (ab_fR h b 7).bind fun o4 =>
    (ab_fI h b 8).bind fun x5 =>
    (ab_fI h b 15).bind fun x6 =>
    o3.bind fun a7 => if ab_isc h a7 6 = true then
    (ab_c0 (ab_cl gG z d 138 [.inr (.inr (some a7)), .inr (.inr o4), .inl x5, .inl x6] h)).bind fun h8 =>
    if (v4 : Option Nat) = some (ab_ga h8 0) then
    (ab_fR h8 b 9).bind fun o9 =>
      o9.bind fun a10 => (ab_fR h8 a10 603).bind fun o11 =>
      (ab_fR h8 b 9).bind fun o12 =>
      o12.bind fun a13 => (ab_fI h8 a13 604).bind fun x14 =>
      (ab_fR h8 b 9).bind fun o15 =>
      o15.bind fun a16 => (ab_fI h8 a16 602).bind fun x17 =>
      o11.bind fun a18 => (ab_sI 0 h8 a18 x14 (x17 - (1 : Int32))).bind fun h19 =>
      (ab_fR h19 b 9).bind fun o20 =>
      o20.bind fun a21 => (ab_fI h19 a21 604).bind fun x22 =>
      o20.bind fun a23 => (ab_pf h19 a23 604 (.inl (x22 + (1 : Int32)))).bind fun h24 =>
      (ab_fI h24 b 8).bind fun x25 =>
      (ab_pf h24 b 8 (.inl (x25 + (1 : Int32)))).bind fun h26 =>
      ab_ev gG z (d + 1) 120 5 [some (.inr (.inr (some b))), some (.inr (.inr v1)), some (.inl v2), some (.inl v3), some (.inr (.inr v4))] [] h26
  else
    if ab_isc h8 b 0 = true then
      (ab_c1 (ab_cl gG z d 139 [.inr (.inr (some b)), .inr (.inr v1), .inr (.inr v4)] h8)).bind fun r27 =>
      (ab_fI r27.2 b 8).bind fun x28 =>
      (ab_pf r27.2 b 8 (.inl (x28 + (1 : Int32)))).bind fun h29 =>
      ab_ev gG z (d + 1) 120 5 [some (.inr (.inr (some b))), some (.inr (.inr v1)), some (.inl v2), some (.inl r27.1), some (.inr (.inr v4))] [] h29
    else none
  else none := ab_ev_ex [5, 12, 29] 500 rfl
theorem ent_120 (z : Bool) (d : Nat) (b : Nat) (p1 : Option Nat) (p2 : Int32) (h : ab_H) : ab_cl gG z d 120 [.inr (.inr (some b)), .inr (.inr p1), .inl p2] h = ab_ev gG z d 120 0 [some (.inr (.inr (some b))), some (.inr (.inr p1)), some (.inl p2), none, none] [] h := rfl
/-! TreeShell.runGroup(II)I -/
theorem bl_121_0 (z : Bool) (d : Nat) (b : Nat) (p1 p2 : Int32) (h : ab_H) : ab_ev gG z (d + 1) 121 0 [some (.inr (.inr (some b))), some (.inl p1), some (.inl p2), none, none, none] [] h =
  (ab_fR h b 10).bind fun o1 =>
  o1.bind fun a2 => (ab_aR h a2 p1).bind fun o3 =>
  (ab_fR h b 10).bind fun o4 =>
  o4.bind fun a5 => (ab_aR h a5 (p1 + (1 : Int32))).bind fun o6 =>
  o3.bind fun a7 => (ab_fR h a7 405).bind fun o8 =>
  o6.bind fun a9 => (ab_pf h a9 403 (.inr (.inr o8))).bind fun h10 =>
  o3.bind fun a11 => (ab_fR h10 a11 400).bind fun o12 =>
  o6.bind fun a13 => (ab_pf h10 a13 404 (.inr (.inr o12))).bind fun h14 =>
  (ab_fR h14 b 4).bind fun o15 =>
  (ab_pf h14 b 8 (.inl (p2 + (1 : Int32)))).bind fun h16 =>
  if ab_isc h16 b 0 = true then
  (ab_c0 (ab_cl gG z d 60 [.inr (.inr (some b)), .inl (p1 + (1 : Int32))] h16)).bind fun h17 =>
  (ab_pf h17 b 4 (.inr (.inr o15))).bind fun h18 =>
  (ab_fI h18 b 15).bind fun x19 =>
  some (some (.inl x19), h18)
else none := ab_ev_ex [] 500 rfl
theorem ent_121 (z : Bool) (d : Nat) (b : Nat) (p1 p2 : Int32) (h : ab_H) : ab_cl gG z d 121 [.inr (.inr (some b)), .inl p1, .inl p2] h = ab_ev gG z d 121 0 [some (.inr (.inr (some b))), some (.inl p1), some (.inl p2), none, none, none] [] h := rfl
/-! TreeShell.call(LTreeShell$Level;)I -/
theorem bl_122_0 (z : Bool) (d : Nat) (b : Nat) (p1 : Option Nat) (h : ab_H) : ab_ev gG z (d + 1) 122 0 [some (.inr (.inr (some b))), some (.inr (.inr p1)), none, none, none, none, none] [] h =
  (ab_fI h b 16).bind fun x1 =>
  (ab_pf h b 16 (.inl (x1 + (1 : Int32)))).bind fun h2 =>
  (ab_fR h2 b 11).bind fun o3 =>
  o3.bind fun a4 => (ab_len h2 a4).bind fun x5 =>
  ab_ev gG z (d + 1) 122 16 [some (.inr (.inr (some b))), some (.inr (.inr p1)), some (.inr (.inr none)), some (.inr (.inr o3)), some (.inl x5), some (.inl (0 : Int32)), none] [] h2 := ab_ev_ex [16, 43] 500 rfl
theorem bl_122_16 (z : Bool) (d : Nat) (b : Nat) (v1 v2 v3 : Option Nat) (v4 v5 : Int32) (u6 : Option ab_V) (h : ab_H) : ab_ev gG z (d + 1) 122 16 [some (.inr (.inr (some b))), some (.inr (.inr v1)), some (.inr (.inr v2)), some (.inr (.inr v3)), some (.inl v4), some (.inl v5), u6] [] h =
  if v5 < v4 then
  v3.bind fun a1 => (ab_aR h a1 v5).bind fun o2 =>
    (ab_fR h b 9).bind fun o3 =>
    o2.bind fun a4 => (ab_fR h a4 1001).bind fun o5 =>
    o3.bind fun a6 => if ab_isc h a6 6 = true then
    (ab_c1 (ab_cl gG z d 140 [.inr (.inr (some a6)), .inl (0 : Int32), .inr (.inr o5)] h)).bind fun r7 =>
    if r7.1 = 0 then
    ab_ev gG z (d + 1) 122 16 [some (.inr (.inr (some b))), some (.inr (.inr v1)), some (.inr (.inr v2)), some (.inr (.inr v3)), some (.inl v4), some (.inl (v5 + (1 : Int32))), some (.inr (.inr o2))] [] r7.2
  else
    ab_ev gG z (d + 1) 122 16 [some (.inr (.inr (some b))), some (.inr (.inr v1)), some (.inr (.inr o2)), some (.inr (.inr v3)), some (.inl v4), some (.inl (v5 + (1 : Int32))), some (.inr (.inr o2))] [] r7.2
  else none
else
  if (v2 : Option Nat) = none then
    ab_ev gG z (d + 1) 122 43 [some (.inr (.inr (some b))), some (.inr (.inr v1)), some (.inr (.inr v2)), some (.inr (.inr v3)), some (.inl v4), some (.inl v5), none] [.inl (127 : Int32)] h
  else
    if ab_isc h b 0 = true then
      (ab_c1 (ab_cl gG z d 141 [.inr (.inr (some b)), .inr (.inr v2), .inr (.inr v1)] h)).bind fun r8 =>
      ab_ev gG z (d + 1) 122 43 [some (.inr (.inr (some b))), some (.inr (.inr v1)), some (.inr (.inr v2)), some (.inr (.inr v3)), some (.inl v4), some (.inl v5), none] [.inl r8.1] r8.2
    else none := ab_ev_ex [16, 43] 500 rfl
theorem bl_122_43 (z : Bool) (d : Nat) (b : Nat) (v1 v2 v3 : Option Nat) (v4 v5 s0 : Int32) (h : ab_H) : ab_ev gG z (d + 1) 122 43 [some (.inr (.inr (some b))), some (.inr (.inr v1)), some (.inr (.inr v2)), some (.inr (.inr v3)), some (.inl v4), some (.inl v5), none] [.inl s0] h =
  if s0 = 0 then
  v1.bind fun a1 => (ab_fR h a1 400).bind fun o2 =>
    o2.bind fun a3 => if ab_isc h a3 8 = true then
    (ab_c1 (ab_cl gG z d 7 [.inr (.inr (some a3))] h)).bind fun r4 =>
    (ab_fI r4.2 b 2).bind fun x5 =>
    if x5 < r4.1 then
    (ab_pf r4.2 b 17 (.inl (1 : Int32))).bind fun h6 =>
      some (some (.inl s0), h6)
  else
    some (some (.inl s0), r4.2)
  else none
else
  v1.bind fun a7 => (ab_fR h a7 400).bind fun o8 =>
    o8.bind fun a9 => if ab_isc h a9 8 = true then
    (ab_c0 (ab_cl gG z d 8 [.inr (.inr (some a9)), .inl (0 : Int32)] h)).bind fun h10 =>
    v1.bind fun a11 => (ab_fR h10 a11 400).bind fun o12 =>
    o12.bind fun a13 => if ab_isc h10 a13 8 = true then
    (ab_c1 (ab_cl gG z d 7 [.inr (.inr (some a13))] h10)).bind fun r14 =>
    (ab_fI r14.2 b 2).bind fun x15 =>
    if x15 < r14.1 then
    (ab_pf r14.2 b 17 (.inl (1 : Int32))).bind fun h16 =>
      some (some (.inl s0), h16)
  else
    some (some (.inl s0), r14.2)
  else none
  else none := ab_ev_ex [16, 43] 500 rfl
theorem ent_122 (z : Bool) (d : Nat) (b : Nat) (p1 : Option Nat) (h : ab_H) : ab_cl gG z d 122 [.inr (.inr (some b)), .inr (.inr p1)] h = ab_ev gG z d 122 0 [some (.inr (.inr (some b))), some (.inr (.inr p1)), none, none, none, none, none] [] h := rfl
/-! TreeShell.store(LTreeShell$Level;)V -/
theorem bl_123_0 (z : Bool) (d : Nat) (b : Nat) (p1 : Option Nat) (h : ab_H) : ab_ev gG z (d + 1) 123 0 [some (.inr (.inr (some b))), some (.inr (.inr p1))] [] h =
  (ab_fI h b 17).bind fun x1 =>
  if x1 = 0 then
  (ab_fI h b 6).bind fun x2 =>
    p1.bind fun a3 => (ab_fR h a3 400).bind fun o4 =>
    o4.bind fun a5 => if ab_isc h a5 8 = true then
    (ab_c1 (ab_cl gG z d 7 [.inr (.inr (some a5))] h)).bind fun r6 =>
    (ab_fI r6.2 b 1).bind fun x7 =>
    if x7 < (x2 + r6.1) then
    (ab_pf r6.2 b 17 (.inl (1 : Int32))).bind fun h8 =>
      some (none, h8)
  else
    (ab_fI r6.2 b 6).bind fun x9 =>
      p1.bind fun a10 => (ab_fR r6.2 a10 400).bind fun o11 =>
      o11.bind fun a12 => if ab_isc r6.2 a12 8 = true then
      (ab_c1 (ab_cl gG z d 7 [.inr (.inr (some a12))] r6.2)).bind fun r13 =>
      (ab_pf r13.2 b 6 (.inl (x9 + r13.1))).bind fun h14 =>
      p1.bind fun a15 => (ab_fR h14 a15 400).bind fun o16 =>
      p1.bind fun a17 => (ab_fR h14 a17 406).bind fun o18 =>
      o18.bind fun a19 => (ab_fR h14 a19 203).bind fun o20 =>
      (ab_c0 (ab_cl gG z d 105 [.inr (.inr o16), .inr (.inr o20)] h14)).bind fun h21 =>
      p1.bind fun a22 => (ab_fR h21 a22 400).bind fun o23 =>
      o23.bind fun a24 => if ab_isc h21 a24 8 = true then
      (ab_c0 (ab_cl gG z d 8 [.inr (.inr (some a24)), .inl (0 : Int32)] h21)).bind fun h25 =>
      some (none, h25)
    else none
    else none
  else none
else
  some (none, h) := ab_ev_ex [] 500 rfl
theorem ent_123 (z : Bool) (d : Nat) (b : Nat) (p1 : Option Nat) (h : ab_H) : ab_cl gG z d 123 [.inr (.inr (some b)), .inr (.inr p1)] h = ab_ev gG z d 123 0 [some (.inr (.inr (some b))), some (.inr (.inr p1))] [] h := rfl
/-! TreeShell$Words.clear()V -/
theorem bl_137_0 (z : Bool) (d : Nat) (b : Nat) (h : ab_H) : ab_ev gG z (d + 1) 137 0 [some (.inr (.inr (some b)))] [] h =
  (ab_fR h b 600).bind fun o1 =>
  o1.bind fun a2 => if ab_isc h a2 8 = true then
  (ab_c0 (ab_cl gG z d 8 [.inr (.inr (some a2)), .inl (0 : Int32)] h)).bind fun h3 =>
  (ab_pf h3 b 602 (.inl (0 : Int32))).bind fun h4 =>
  (ab_pf h4 b 604 (.inl (0 : Int32))).bind fun h5 =>
  some (none, h5)
else none := ab_ev_ex [] 500 rfl
theorem ent_137 (z : Bool) (d : Nat) (b : Nat) (h : ab_H) : ab_cl gG z d 137 [.inr (.inr (some b))] h = ab_ev gG z d 137 0 [some (.inr (.inr (some b)))] [] h := rfl
end
