section
set_option maxRecDepth 100000
set_option maxHeartbeats 2000000
/-! TreeShell.passAndor(I)Z -/
theorem bl_82_0 (z : Bool) (d : Nat) (b : Nat) (p1 : Int32) (h : ab_H) : ab_ev gG z (d + 1) 82 0 [some (.inr (.inr (some b))), some (.inl p1)] [] h =
  if ab_isc h b 0 = true then
  (ab_c1 (ab_cl gG z d 87 [.inr (.inr (some b)), .inl p1] h)).bind fun r1 =>
  if r1.1 = 0 then
  some (some (.inl (0 : Int32)), r1.2)
else
  ab_ev gG z (d + 1) 82 6 [some (.inr (.inr (some b))), some (.inl p1)] [] r1.2
else none := ab_ev_ex [6] 500 rfl
theorem bl_82_6 (z : Bool) (d : Nat) (b : Nat) (v1 : Int32) (h : ab_H) : ab_ev gG z (d + 1) 82 6 [some (.inr (.inr (some b))), some (.inl v1)] [] h =
  if ab_isc h b 0 = true then
  (ab_c3 (ab_cl gG z d 59 [.inr (.inr (some b))] h)).bind fun r1 =>
  if (r1.1 : Option Nat) = some (ab_ga r1.2 2) then
  (ab_fI r1.2 b 8).bind fun x2 =>
    (ab_pf r1.2 b 8 (.inl (x2 + (1 : Int32)))).bind fun h3 =>
    if ab_isc h3 b 0 = true then
    (ab_c1 (ab_cl gG z d 87 [.inr (.inr (some b)), .inl v1] h3)).bind fun r4 =>
    if r4.1 = 0 then
    some (some (.inl (0 : Int32)), r4.2)
  else
    ab_ev gG z (d + 1) 82 6 [some (.inr (.inr (some b))), some (.inl v1)] [] r4.2
  else none
else
  if ab_isc r1.2 b 0 = true then
    (ab_c3 (ab_cl gG z d 59 [.inr (.inr (some b))] r1.2)).bind fun r5 =>
    if (r5.1 : Option Nat) = some (ab_ga r5.2 3) then
    (ab_fI r5.2 b 8).bind fun x6 =>
      (ab_pf r5.2 b 8 (.inl (x6 + (1 : Int32)))).bind fun h7 =>
      if ab_isc h7 b 0 = true then
      (ab_c1 (ab_cl gG z d 87 [.inr (.inr (some b)), .inl v1] h7)).bind fun r8 =>
      if r8.1 = 0 then
      some (some (.inl (0 : Int32)), r8.2)
    else
      ab_ev gG z (d + 1) 82 6 [some (.inr (.inr (some b))), some (.inl v1)] [] r8.2
    else none
  else
    some (some (.inl (1 : Int32)), r5.2)
  else none
else none := ab_ev_ex [6] 500 rfl
theorem ent_82 (z : Bool) (d : Nat) (b : Nat) (p1 : Int32) (h : ab_H) : ab_cl gG z d 82 [.inr (.inr (some b)), .inl p1] h = ab_ev gG z d 82 0 [some (.inr (.inr (some b))), some (.inl p1)] [] h := rfl
/-! TreeShell.runPipeline(I)V -/
theorem bl_86_0 (z : Bool) (d : Nat) (b : Nat) (p1 : Int32) (h : ab_H) : ab_ev gG z (d + 1) 86 0 [some (.inr (.inr (some b))), some (.inl p1), none, none, none, none, none] [] h =
  (ab_fR h b 10).bind fun o1 =>
  o1.bind fun a2 => (ab_aR h a2 p1).bind fun o3 =>
  if ab_isc h b 0 = true then
  (ab_c3 (ab_cl gG z d 59 [.inr (.inr (some b))] h)).bind fun r4 =>
  if (r4.1 : Option Nat) = some (ab_ga r4.2 10) then
  if (1 : Int32) = 0 then
    ab_ev gG z (d + 1) 86 21 [some (.inr (.inr (some b))), some (.inl p1), some (.inr (.inr o3)), some (.inl (1 : Int32)), none, none, none] [] r4.2
  else
    (ab_fI r4.2 b 8).bind fun x5 =>
      (ab_pf r4.2 b 8 (.inl (x5 + (1 : Int32)))).bind fun h6 =>
      ab_ev gG z (d + 1) 86 21 [some (.inr (.inr (some b))), some (.inl p1), some (.inr (.inr o3)), some (.inl (1 : Int32)), none, none, none] [] h6
else
  if (0 : Int32) = 0 then
    ab_ev gG z (d + 1) 86 21 [some (.inr (.inr (some b))), some (.inl p1), some (.inr (.inr o3)), some (.inl (0 : Int32)), none, none, none] [] r4.2
  else
    (ab_fI r4.2 b 8).bind fun x7 =>
      (ab_pf r4.2 b 8 (.inl (x7 + (1 : Int32)))).bind fun h8 =>
      ab_ev gG z (d + 1) 86 21 [some (.inr (.inr (some b))), some (.inl p1), some (.inr (.inr o3)), some (.inl (0 : Int32)), none, none, none] [] h8
else none := ab_ev_ex [21, 35, 53, 75] 500 rfl
theorem bl_86_21 (z : Bool) (d : Nat) (b : Nat) (v1 v3 : Int32) (v2 : Option Nat) (h : ab_H) : ab_ev gG z (d + 1) 86 21 [some (.inr (.inr (some b))), some (.inl v1), some (.inr (.inr v2)), some (.inl v3), none, none, none] [] h =
  (ab_fI h b 8).bind fun x1 =>
  if ab_isc h b 0 = true then
  (ab_c1 (ab_cl gG z d 101 [.inr (.inr (some b)), .inl v1] h)).bind fun r2 =>
  if ab_isc r2.2 b 0 = true then
  (ab_c3 (ab_cl gG z d 59 [.inr (.inr (some b))] r2.2)).bind fun r3 =>
  if (r3.1 : Option Nat) = some (ab_ga r3.2 4) then
  ab_ev gG z (d + 1) 86 35 [some (.inr (.inr (some b))), some (.inl v1), some (.inr (.inr v2)), some (.inl v3), some (.inl x1), none, none] [.inl (1 : Int32)] r3.2
else
  ab_ev gG z (d + 1) 86 35 [some (.inr (.inr (some b))), some (.inl v1), some (.inr (.inr v2)), some (.inl v3), some (.inl x1), none, none] [.inl (0 : Int32)] r3.2
else none
else none := ab_ev_ex [21, 35, 53, 75] 500 rfl
theorem bl_86_35 (z : Bool) (d : Nat) (b : Nat) (v1 v3 v4 s0 : Int32) (v2 : Option Nat) (h : ab_H) : ab_ev gG z (d + 1) 86 35 [some (.inr (.inr (some b))), some (.inl v1), some (.inr (.inr v2)), some (.inl v3), some (.inl v4), none, none] [.inl s0] h =
  (ab_pf h b 8 (.inl v4)).bind fun h1 =>
  if s0 = 0 then
  v2.bind fun a2 => (ab_fR h1 a2 403).bind fun o3 =>
    if ab_isc h1 b 0 = true then
    (ab_c1 (ab_cl gG z d 103 [.inr (.inr (some b)), .inl v1, .inr (.inr o3)] h1)).bind fun r4 =>
    ab_ev gG z (d + 1) 86 53 [some (.inr (.inr (some b))), some (.inl v1), some (.inr (.inr v2)), some (.inl v3), some (.inl v4), some (.inl s0), some (.inl r4.1)] [] r4.2
  else none
else
  v2.bind fun a5 => (ab_fR h1 a5 403).bind fun o6 =>
    if ab_isc h1 b 0 = true then
    (ab_c1 (ab_cl gG z d 102 [.inr (.inr (some b)), .inl v1, .inr (.inr o6)] h1)).bind fun r7 =>
    ab_ev gG z (d + 1) 86 53 [some (.inr (.inr (some b))), some (.inl v1), some (.inr (.inr v2)), some (.inl v3), some (.inl v4), some (.inl s0), some (.inl r7.1)] [] r7.2
  else none := ab_ev_ex [21, 35, 53, 75] 500 rfl
theorem bl_86_53 (z : Bool) (d : Nat) (b : Nat) (v1 v3 v4 v5 v6 : Int32) (v2 : Option Nat) (h : ab_H) : ab_ev gG z (d + 1) 86 53 [some (.inr (.inr (some b))), some (.inl v1), some (.inr (.inr v2)), some (.inl v3), some (.inl v4), some (.inl v5), some (.inl v6)] [] h =
  (ab_fI h b 17).bind fun x1 =>
  if x1 = 0 then
  if ab_isc h b 0 = true then
    (ab_c3 (ab_cl gG z d 59 [.inr (.inr (some b))] h)).bind fun r2 =>
    if (r2.1 : Option Nat) = some (ab_ga r2.2 4) then
    (ab_fI r2.2 b 8).bind fun x3 =>
      (ab_pf r2.2 b 8 (.inl (x3 + (1 : Int32)))).bind fun h4 =>
      v2.bind fun a5 => if ab_isc h4 a5 4 = true then
      (ab_c0 (ab_cl gG z d 104 [.inr (.inr (some a5))] h4)).bind fun h6 =>
      v2.bind fun a7 => (ab_fR h6 a7 401).bind fun o8 =>
      if ab_isc h6 b 0 = true then
      (ab_c1 (ab_cl gG z d 102 [.inr (.inr (some b)), .inl v1, .inr (.inr o8)] h6)).bind fun r9 =>
      ab_ev gG z (d + 1) 86 53 [some (.inr (.inr (some b))), some (.inl v1), some (.inr (.inr v2)), some (.inl v3), some (.inl v4), some (.inl v5), some (.inl r9.1)] [] r9.2
    else none
    else none
  else
    ab_ev gG z (d + 1) 86 75 [some (.inr (.inr (some b))), some (.inl v1), some (.inr (.inr v2)), some (.inl v3), some (.inl v4), some (.inl v5), some (.inl v6)] [] r2.2
  else none
else
  ab_ev gG z (d + 1) 86 75 [some (.inr (.inr (some b))), some (.inl v1), some (.inr (.inr v2)), some (.inl v3), some (.inl v4), some (.inl v5), some (.inl v6)] [] h := ab_ev_ex [21, 35, 53, 75] 500 rfl
theorem bl_86_75 (z : Bool) (d : Nat) (b : Nat) (v1 v3 v4 v5 v6 : Int32) (v2 : Option Nat) (h : ab_H) : ab_ev gG z (d + 1) 86 75 [some (.inr (.inr (some b))), some (.inl v1), some (.inr (.inr v2)), some (.inl v3), some (.inl v4), some (.inl v5), some (.inl v6)] [] h =
  (ab_fI h b 17).bind fun x1 =>
  if x1 = 0 then
  v2.bind fun a2 => (ab_fR h a2 404).bind fun o3 =>
    o3.bind fun a4 => if ab_isc h a4 8 = true then
    (ab_c1 (ab_cl gG z d 7 [.inr (.inr (some a4))] h)).bind fun r5 =>
    v2.bind fun a6 => (ab_fR r5.2 a6 400).bind fun o7 =>
    o7.bind fun a8 => if ab_isc r5.2 a8 8 = true then
    (ab_c1 (ab_cl gG z d 7 [.inr (.inr (some a8))] r5.2)).bind fun r9 =>
    (ab_fI r9.2 b 2).bind fun x10 =>
    if x10 < (r5.1 + r9.1) then
    (ab_pf r9.2 b 17 (.inl (1 : Int32))).bind fun h11 =>
      some (none, h11)
  else
    v2.bind fun a12 => (ab_fR r9.2 a12 400).bind fun o13 =>
      v2.bind fun a14 => (ab_fR r9.2 a14 404).bind fun o15 =>
      (ab_c0 (ab_cl gG z d 105 [.inr (.inr o13), .inr (.inr o15)] r9.2)).bind fun h16 =>
      if v3 = 0 then
      (ab_pf h16 b 15 (.inl v6)).bind fun h17 =>
        some (none, h17)
    else
      if v6 = 0 then
        (ab_pf h16 b 15 (.inl (1 : Int32))).bind fun h18 =>
          some (none, h18)
      else
        (ab_pf h16 b 15 (.inl (0 : Int32))).bind fun h19 =>
          some (none, h19)
  else none
  else none
else
  some (none, h) := ab_ev_ex [21, 35, 53, 75] 500 rfl
theorem ent_86 (z : Bool) (d : Nat) (b : Nat) (p1 : Int32) (h : ab_H) : ab_cl gG z d 86 [.inr (.inr (some b)), .inl p1] h = ab_ev gG z d 86 0 [some (.inr (.inr (some b))), some (.inl p1), none, none, none, none, none] [] h := rfl
/-! TreeShell.passPipeline(I)Z -/
theorem bl_87_0 (z : Bool) (d : Nat) (b : Nat) (p1 : Int32) (h : ab_H) : ab_ev gG z (d + 1) 87 0 [some (.inr (.inr (some b))), some (.inl p1)] [] h =
  if ab_isc h b 0 = true then
  (ab_c3 (ab_cl gG z d 59 [.inr (.inr (some b))] h)).bind fun r1 =>
  if (r1.1 : Option Nat) = some (ab_ga r1.2 10) then
  (ab_fI r1.2 b 8).bind fun x2 =>
    (ab_pf r1.2 b 8 (.inl (x2 + (1 : Int32)))).bind fun h3 =>
    if ab_isc h3 b 0 = true then
    (ab_c1 (ab_cl gG z d 101 [.inr (.inr (some b)), .inl p1] h3)).bind fun r4 =>
    if r4.1 = 0 then
    some (some (.inl (0 : Int32)), r4.2)
  else
    ab_ev gG z (d + 1) 87 16 [some (.inr (.inr (some b))), some (.inl p1)] [] r4.2
  else none
else
  if ab_isc r1.2 b 0 = true then
    (ab_c1 (ab_cl gG z d 101 [.inr (.inr (some b)), .inl p1] r1.2)).bind fun r5 =>
    if r5.1 = 0 then
    some (some (.inl (0 : Int32)), r5.2)
  else
    ab_ev gG z (d + 1) 87 16 [some (.inr (.inr (some b))), some (.inl p1)] [] r5.2
  else none
else none := ab_ev_ex [16] 500 rfl
theorem bl_87_16 (z : Bool) (d : Nat) (b : Nat) (v1 : Int32) (h : ab_H) : ab_ev gG z (d + 1) 87 16 [some (.inr (.inr (some b))), some (.inl v1)] [] h =
  if ab_isc h b 0 = true then
  (ab_c3 (ab_cl gG z d 59 [.inr (.inr (some b))] h)).bind fun r1 =>
  if (r1.1 : Option Nat) = some (ab_ga r1.2 4) then
  (ab_fI r1.2 b 8).bind fun x2 =>
    (ab_pf r1.2 b 8 (.inl (x2 + (1 : Int32)))).bind fun h3 =>
    if ab_isc h3 b 0 = true then
    (ab_c1 (ab_cl gG z d 101 [.inr (.inr (some b)), .inl v1] h3)).bind fun r4 =>
    if r4.1 = 0 then
    some (some (.inl (0 : Int32)), r4.2)
  else
    ab_ev gG z (d + 1) 87 16 [some (.inr (.inr (some b))), some (.inl v1)] [] r4.2
  else none
else
  some (some (.inl (1 : Int32)), r1.2)
else none := ab_ev_ex [16] 500 rfl
theorem ent_87 (z : Bool) (d : Nat) (b : Nat) (p1 : Int32) (h : ab_H) : ab_cl gG z d 87 [.inr (.inr (some b)), .inl p1] h = ab_ev gG z d 87 0 [some (.inr (.inr (some b))), some (.inl p1)] [] h := rfl
/-! TreeShell.redirects(LTreeShell$Mark;)Z -/
theorem bl_88_0 (z : Bool) (d : Nat) (p1 : Option Nat) (h : ab_H) : ab_ev gG z d 88 0 [some (.inr (.inr p1))] [] h =
  if (p1 : Option Nat) = some (ab_ga h 5) then
  some (some (.inl (1 : Int32)), h)
else
  if (p1 : Option Nat) = some (ab_ga h 6) then
    some (some (.inl (1 : Int32)), h)
  else
    if (p1 : Option Nat) = some (ab_ga h 7) then
      some (some (.inl (1 : Int32)), h)
    else
      some (some (.inl (0 : Int32)), h) := ab_ev_ex [] 500 rfl
theorem ent_88 (z : Bool) (d : Nat) (p1 : Option Nat) (h : ab_H) : ab_cl gG z d 88 [.inr (.inr p1)] h = ab_ev gG z d 88 0 [some (.inr (.inr p1))] [] h := rfl
/-! TreeShell$Line.look(I)C -/
theorem bl_97_0 (z : Bool) (d : Nat) (b : Nat) (p1 : Int32) (h : ab_H) : ab_ev gG z d 97 0 [some (.inr (.inr (some b))), some (.inl p1)] [] h =
  (ab_fI h b 501).bind fun x1 =>
  if p1 < x1 then
  (ab_fR h b 500).bind fun o2 =>
    o2.bind fun a3 => (ab_aI 2 h a3 p1).bind fun x4 =>
    if vp_nar .char x4 = x4 then some (some (.inl x4), h) else none
else
  if vp_nar .char (0 : Int32) = (0 : Int32) then some (some (.inl (0 : Int32)), h) else none := ab_ev_ex [] 500 rfl
theorem ent_97 (z : Bool) (d : Nat) (b : Nat) (p1 : Int32) (h : ab_H) : ab_cl gG z d 97 [.inr (.inr (some b)), .inl p1] h = ab_ev gG z d 97 0 [some (.inr (.inr (some b))), some (.inl p1)] [] h := rfl
/-! TreeShell$Line.wordEnd(I)I -/
theorem bl_99_0 (z : Bool) (d : Nat) (b : Nat) (p1 : Int32) (h : ab_H) : ab_ev gG z (d + 1) 99 0 [some (.inr (.inr (some b))), some (.inl p1), none] [] h =
  ab_ev gG z (d + 1) 99 2 [some (.inr (.inr (some b))), some (.inl p1), some (.inl (0 : Int32))] [] h := ab_ev_ex [2, 14] 500 rfl
theorem bl_99_2 (z : Bool) (d : Nat) (b : Nat) (v1 v2 : Int32) (h : ab_H) : ab_ev gG z (d + 1) 99 2 [some (.inr (.inr (some b))), some (.inl v1), some (.inl v2)] [] h =
  (ab_fI h b 501).bind fun x1 =>
  if v1 < x1 then
  if v2 = 0 then
    (ab_fR h b 500).bind fun o2 =>
      o2.bind fun a3 => (ab_aI 2 h a3 v1).bind fun x4 =>
      (ab_c1 (ab_cl gG z d 79 [.inl x4] h)).bind fun r5 =>
      if r5.1 = 0 then
      if v2 = 0 then
        some (some (.inl v1), r5.2)
      else
        some (some (.inl (-1 : Int32)), r5.2)
    else
      ab_ev gG z (d + 1) 99 14 [some (.inr (.inr (some b))), some (.inl v1), some (.inl v2)] [] r5.2
  else
    ab_ev gG z (d + 1) 99 14 [some (.inr (.inr (some b))), some (.inl v1), some (.inl v2)] [] h
else
  if v2 = 0 then
    some (some (.inl v1), h)
  else
    some (some (.inl (-1 : Int32)), h) := ab_ev_ex [2, 14] 500 rfl
theorem bl_99_14 (z : Bool) (d : Nat) (b : Nat) (v1 v2 : Int32) (h : ab_H) : ab_ev gG z (d + 1) 99 14 [some (.inr (.inr (some b))), some (.inl v1), some (.inl v2)] [] h =
  (ab_fR h b 500).bind fun o1 =>
  o1.bind fun a2 => (ab_aI 2 h a2 v1).bind fun x3 =>
  if x3 = (39 : Int32) then
  if v2 = 0 then
    ab_ev gG z (d + 1) 99 2 [some (.inr (.inr (some b))), some (.inl (v1 + (1 : Int32))), some (.inl (1 : Int32))] [] h
  else
    ab_ev gG z (d + 1) 99 2 [some (.inr (.inr (some b))), some (.inl (v1 + (1 : Int32))), some (.inl (0 : Int32))] [] h
else
  ab_ev gG z (d + 1) 99 2 [some (.inr (.inr (some b))), some (.inl (v1 + (1 : Int32))), some (.inl v2)] [] h := ab_ev_ex [2, 14] 500 rfl
theorem ent_99 (z : Bool) (d : Nat) (b : Nat) (p1 : Int32) (h : ab_H) : ab_cl gG z d 99 [.inr (.inr (some b)), .inl p1] h = ab_ev gG z d 99 0 [some (.inr (.inr (some b))), some (.inl p1), none] [] h := rfl
end
