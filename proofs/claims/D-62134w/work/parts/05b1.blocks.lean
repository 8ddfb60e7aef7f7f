section
set_option maxRecDepth 100000
set_option maxHeartbeats 2000000
/-! TreeShellModel.goOn()V -/
theorem bl_95_0 (z : Bool) (d : Nat) (b : Nat) (h : ab_H) : ab_ev gG z (d + 1) 95 0 [some (.inr (.inr (some b))), none, none] [] h =
  (ab_fI h b 722).bind fun x1 =>
  if ab_isc h b 7 = true then
  (ab_c1 (ab_cl gG z d 76 [.inr (.inr (some b)), .inl x1] h)).bind fun r2 =>
  if r2.1 = (2 : Int32) then
  (ab_fI r2.2 b 745).bind fun x3 =>
    if x3 = 0 then
    ab_ev gG z (d + 1) 95 9 [some (.inr (.inr (some b))), none, none] [] r2.2
  else
    (ab_fI r2.2 b 722).bind fun x4 =>
      if ab_isc r2.2 b 7 = true then
      (ab_c1 (ab_cl gG z d 89 [.inr (.inr (some b)), .inl (x4 + (1 : Int32)), .inl (0 : Int32)] r2.2)).bind fun r5 =>
      (ab_pf r5.2 b 722 (.inl r5.1)).bind fun h6 =>
      ab_ev gG z (d + 1) 95 0 [some (.inr (.inr (some b))), none, none] [] h6
    else none
else
  ab_ev gG z (d + 1) 95 9 [some (.inr (.inr (some b))), none, none] [] r2.2
else none := ab_ev_ex [0, 9, 28, 42, 66] 500 rfl
theorem bl_95_9 (z : Bool) (d : Nat) (b : Nat) (h : ab_H) : ab_ev gG z (d + 1) 95 9 [some (.inr (.inr (some b))), none, none] [] h =
  (ab_fI h b 722).bind fun x1 =>
  if ab_isc h b 7 = true then
  (ab_c1 (ab_cl gG z d 76 [.inr (.inr (some b)), .inl x1] h)).bind fun r2 =>
  if r2.1 = (3 : Int32) then
  (ab_fI r2.2 b 745).bind fun x3 =>
    if x3 = 0 then
    (ab_fI r2.2 b 722).bind fun x4 =>
      if ab_isc r2.2 b 7 = true then
      (ab_c1 (ab_cl gG z d 89 [.inr (.inr (some b)), .inl (x4 + (1 : Int32)), .inl (0 : Int32)] r2.2)).bind fun r5 =>
      (ab_pf r5.2 b 722 (.inl r5.1)).bind fun h6 =>
      ab_ev gG z (d + 1) 95 0 [some (.inr (.inr (some b))), none, none] [] h6
    else none
  else
    ab_ev gG z (d + 1) 95 28 [some (.inr (.inr (some b))), none, none] [] r2.2
else
  ab_ev gG z (d + 1) 95 28 [some (.inr (.inr (some b))), none, none] [] r2.2
else none := ab_ev_ex [0, 9, 28, 42, 66] 500 rfl
theorem bl_95_28 (z : Bool) (d : Nat) (b : Nat) (h : ab_H) : ab_ev gG z (d + 1) 95 28 [some (.inr (.inr (some b))), none, none] [] h =
  (ab_fI h b 722).bind fun x1 =>
  if ab_isc h b 7 = true then
  (ab_c1 (ab_cl gG z d 76 [.inr (.inr (some b)), .inl x1] h)).bind fun r2 =>
  if r2.1 = (1 : Int32) then
  (ab_fI r2.2 b 722).bind fun x3 =>
    (ab_pf r2.2 b 722 (.inl (x3 + (1 : Int32)))).bind fun h4 =>
    ab_ev gG z (d + 1) 95 42 [some (.inr (.inr (some b))), some (.inl r2.1), none] [] h4
else
  ab_ev gG z (d + 1) 95 42 [some (.inr (.inr (some b))), some (.inl r2.1), none] [] r2.2
else none := ab_ev_ex [0, 9, 28, 42, 66] 500 rfl
theorem bl_95_42 (z : Bool) (d : Nat) (b : Nat) (v1 : Int32) (h : ab_H) : ab_ev gG z (d + 1) 95 42 [some (.inr (.inr (some b))), some (.inl v1), none] [] h =
  if v1 = (2 : Int32) then
  ab_ev gG z (d + 1) 95 66 [some (.inr (.inr (some b))), some (.inl v1), none] [.inl (1 : Int32)] h
else
  if v1 = (3 : Int32) then
    ab_ev gG z (d + 1) 95 66 [some (.inr (.inr (some b))), some (.inl v1), none] [.inl (1 : Int32)] h
  else
    if v1 = (1 : Int32) then
      (ab_fI h b 722).bind fun x1 =>
        (ab_fI h b 712).bind fun x2 =>
        if x1 < x2 then
        (ab_fR h b 713).bind fun o3 =>
          (ab_fI h b 722).bind fun x4 =>
          o3.bind fun a5 => (ab_aI 0 h a5 x4).bind fun x6 =>
          if x6 = (9 : Int32) then
          ab_ev gG z (d + 1) 95 66 [some (.inr (.inr (some b))), some (.inl v1), none] [.inl (0 : Int32)] h
        else
          ab_ev gG z (d + 1) 95 66 [some (.inr (.inr (some b))), some (.inl v1), none] [.inl (1 : Int32)] h
      else
        ab_ev gG z (d + 1) 95 66 [some (.inr (.inr (some b))), some (.inl v1), none] [.inl (0 : Int32)] h
    else
      ab_ev gG z (d + 1) 95 66 [some (.inr (.inr (some b))), some (.inl v1), none] [.inl (0 : Int32)] h := ab_ev_ex [0, 9, 28, 42, 66] 500 rfl
theorem bl_95_66 (z : Bool) (d : Nat) (b : Nat) (v1 s0 : Int32) (h : ab_H) : ab_ev gG z (d + 1) 95 66 [some (.inr (.inr (some b))), some (.inl v1), none] [.inl s0] h =
  if s0 = 0 then
  some (none, h)
else
  if v1 = (1 : Int32) then
    (ab_fI h b 722).bind fun x1 =>
      (ab_pf h b 722 (.inl x1)).bind fun h2 =>
      if ab_isc h2 b 7 = true then
      (ab_c0 (ab_cl gG z d 73 [.inr (.inr (some b))] h2)).bind fun h3 =>
      some (none, h3)
    else none
  else
    (ab_fI h b 722).bind fun x4 =>
      (ab_pf h b 722 (.inl (x4 + (1 : Int32)))).bind fun h5 =>
      if ab_isc h5 b 7 = true then
      (ab_c0 (ab_cl gG z d 73 [.inr (.inr (some b))] h5)).bind fun h6 =>
      some (none, h6)
    else none := ab_ev_ex [0, 9, 28, 42, 66] 500 rfl
theorem ent_95 (z : Bool) (d : Nat) (b : Nat) (h : ab_H) : ab_cl gG z d 95 [.inr (.inr (some b))] h = ab_ev gG z d 95 0 [some (.inr (.inr (some b))), none, none] [] h := rfl
/-! TreeShellModel.at(I)I -/
theorem bl_100_0 (z : Bool) (d : Nat) (b : Nat) (p1 : Int32) (h : ab_H) : ab_ev gG z d 100 0 [some (.inr (.inr (some b))), some (.inl p1)] [] h =
  (ab_fI h b 710).bind fun x1 =>
  if p1 < x1 then
  (ab_fR h b 711).bind fun o2 =>
    o2.bind fun a3 => (ab_aI 0 h a3 p1).bind fun x4 =>
    some (some (.inl x4), h)
else
  some (some (.inl (0 : Int32)), h) := ab_ev_ex [] 500 rfl
theorem ent_100 (z : Bool) (d : Nat) (b : Nat) (p1 : Int32) (h : ab_H) : ab_cl gG z d 100 [.inr (.inr (some b)), .inl p1] h = ab_ev gG z d 100 0 [some (.inr (.inr (some b))), some (.inl p1)] [] h := rfl
/-! TreeShellModel.follow(I)V -/
theorem bl_106_0 (z : Bool) (d : Nat) (b : Nat) (p1 : Int32) (h : ab_H) : ab_ev gG z (d + 1) 106 0 [some (.inr (.inr (some b))), some (.inl p1), none, none, none, none, none, none] [] h =
  (ab_fR h b 718).bind fun o1 =>
  o1.bind fun a2 => (ab_aI 0 h a2 p1).bind fun x3 =>
  (ab_fR h b 717).bind fun o4 =>
  o4.bind fun a5 => (ab_aI 0 h a5 p1).bind fun x6 =>
  if x6 < x3 then
  (ab_fR h b 720).bind fun o7 =>
    o7.bind fun a8 => (ab_aI 0 h a8 x6).bind fun x9 =>
    if x9 = (47 : Int32) then
    (ab_pf h b 742 (.inl (0 : Int32))).bind fun h10 =>
      (ab_pf h10 b 743 (.inl (-1 : Int32))).bind fun h11 =>
      ab_ev gG z (d + 1) 106 28 [some (.inr (.inr (some b))), some (.inl p1), some (.inl x3), some (.inl x6), none, none, none, none] [] h11
  else
    (ab_fI h b 709).bind fun x12 =>
      (ab_pf h b 742 (.inl x12)).bind fun h13 =>
      (ab_pf h13 b 743 (.inl (-1 : Int32))).bind fun h14 =>
      ab_ev gG z (d + 1) 106 28 [some (.inr (.inr (some b))), some (.inl p1), some (.inl x3), some (.inl x6), none, none, none, none] [] h14
else
  (ab_fI h b 709).bind fun x15 =>
    (ab_pf h b 742 (.inl x15)).bind fun h16 =>
    (ab_pf h16 b 743 (.inl (-1 : Int32))).bind fun h17 =>
    ab_ev gG z (d + 1) 106 28 [some (.inr (.inr (some b))), some (.inl p1), some (.inl x3), some (.inl x6), none, none, none, none] [] h17 := ab_ev_ex [28, 34, 46, 64, 81, 109] 500 rfl
theorem bl_106_28 (z : Bool) (d : Nat) (b : Nat) (v1 v2 v3 : Int32) (u4 u5 u6 u7 : Option ab_V) (h : ab_H) : ab_ev gG z (d + 1) 106 28 [some (.inr (.inr (some b))), some (.inl v1), some (.inl v2), some (.inl v3), u4, u5, u6, u7] [] h =
  if v3 < v2 then
  ab_ev gG z (d + 1) 106 34 [some (.inr (.inr (some b))), some (.inl v1), some (.inl v2), some (.inl v3), some (.inl v3), none, none, none] [] h
else
  some (none, h) := ab_ev_ex [28, 34, 46, 64, 81, 109] 500 rfl
theorem bl_106_34 (z : Bool) (d : Nat) (b : Nat) (v1 v2 v3 v4 : Int32) (h : ab_H) : ab_ev gG z (d + 1) 106 34 [some (.inr (.inr (some b))), some (.inl v1), some (.inl v2), some (.inl v3), some (.inl v4), none, none, none] [] h =
  if v4 < v2 then
  (ab_fR h b 720).bind fun o1 =>
    o1.bind fun a2 => (ab_aI 0 h a2 v4).bind fun x3 =>
    if x3 = (47 : Int32) then
    ab_ev gG z (d + 1) 106 46 [some (.inr (.inr (some b))), some (.inl v1), some (.inl v2), some (.inl v3), some (.inl v4), none, none, none] [] h
  else
    ab_ev gG z (d + 1) 106 34 [some (.inr (.inr (some b))), some (.inl v1), some (.inl v2), some (.inl v3), some (.inl (v4 + (1 : Int32))), none, none, none] [] h
else
  ab_ev gG z (d + 1) 106 46 [some (.inr (.inr (some b))), some (.inl v1), some (.inl v2), some (.inl v3), some (.inl v4), none, none, none] [] h := ab_ev_ex [28, 34, 46, 64, 81, 109] 500 rfl
theorem bl_106_46 (z : Bool) (d : Nat) (b : Nat) (v1 v2 v3 v4 : Int32) (h : ab_H) : ab_ev gG z (d + 1) 106 46 [some (.inr (.inr (some b))), some (.inl v1), some (.inl v2), some (.inl v3), some (.inl v4), none, none, none] [] h =
  if v4 = v3 then
  ab_ev gG z (d + 1) 106 64 [some (.inr (.inr (some b))), some (.inl v1), some (.inl v2), some (.inl v3), some (.inl v4), none, none, none] [.inl (1 : Int32)] h
else
  if (v4 - v3) = (1 : Int32) then
    (ab_fR h b 720).bind fun o1 =>
      o1.bind fun a2 => (ab_aI 0 h a2 v3).bind fun x3 =>
      if x3 = (46 : Int32) then
      ab_ev gG z (d + 1) 106 64 [some (.inr (.inr (some b))), some (.inl v1), some (.inl v2), some (.inl v3), some (.inl v4), none, none, none] [.inl (1 : Int32)] h
    else
      ab_ev gG z (d + 1) 106 64 [some (.inr (.inr (some b))), some (.inl v1), some (.inl v2), some (.inl v3), some (.inl v4), none, none, none] [.inl (0 : Int32)] h
  else
    ab_ev gG z (d + 1) 106 64 [some (.inr (.inr (some b))), some (.inl v1), some (.inl v2), some (.inl v3), some (.inl v4), none, none, none] [.inl (0 : Int32)] h := ab_ev_ex [28, 34, 46, 64, 81, 109] 500 rfl
theorem bl_106_64 (z : Bool) (d : Nat) (b : Nat) (v1 v2 v3 v4 s0 : Int32) (h : ab_H) : ab_ev gG z (d + 1) 106 64 [some (.inr (.inr (some b))), some (.inl v1), some (.inl v2), some (.inl v3), some (.inl v4), none, none, none] [.inl s0] h =
  if s0 = 0 then
  (ab_fI h b 742).bind fun x1 =>
    if x1 < 0 then
    ab_ev gG z (d + 1) 106 81 [some (.inr (.inr (some b))), some (.inl v1), some (.inl v2), some (.inl v3), some (.inl v4), some (.inl s0), some (.inl x1), none] [.inl (0 : Int32)] h
  else
    (ab_fR h b 704).bind fun o2 =>
      o2.bind fun a3 => (ab_aI 1 h a3 x1).bind fun x4 =>
      if x4 = 0 then
      ab_ev gG z (d + 1) 106 81 [some (.inr (.inr (some b))), some (.inl v1), some (.inl v2), some (.inl v3), some (.inl v4), some (.inl s0), some (.inl x1), none] [.inl (0 : Int32)] h
    else
      ab_ev gG z (d + 1) 106 81 [some (.inr (.inr (some b))), some (.inl v1), some (.inl v2), some (.inl v3), some (.inl v4), some (.inl s0), some (.inl x1), none] [.inl (1 : Int32)] h
else
  ab_ev gG z (d + 1) 106 28 [some (.inr (.inr (some b))), some (.inl v1), some (.inl v2), some (.inl (v4 + (1 : Int32))), some (.inl v4), some (.inl s0), none, none] [] h := ab_ev_ex [28, 34, 46, 64, 81, 109] 500 rfl
theorem bl_106_81 (z : Bool) (d : Nat) (b : Nat) (v1 v2 v3 v4 v5 v6 s0 : Int32) (h : ab_H) : ab_ev gG z (d + 1) 106 81 [some (.inr (.inr (some b))), some (.inl v1), some (.inl v2), some (.inl v3), some (.inl v4), some (.inl v5), some (.inl v6), none] [.inl s0] h =
  if ab_isc h b 7 = true then
  (ab_c2 (ab_cl gG z d 124 [.inr (.inr (some b)), .inl v3, .inl v4] h)).bind fun r1 =>
  (ab_pf r1.2 b 744 (.inr (.inl r1.1))).bind fun h2 =>
  if s0 = 0 then
  ab_ev gG z (d + 1) 106 109 [some (.inr (.inr (some b))), some (.inl v1), some (.inl v2), some (.inl v3), some (.inl v4), some (.inl v5), some (.inl v6), some (.inl s0)] [.inl (-1 : Int32), .inr (.inr (some b))] h2
else
  if ab_isc h2 b 7 = true then
    (ab_c1 (ab_cl gG z d 125 [.inr (.inr (some b)), .inl v3, .inl v4] h2)).bind fun r3 =>
    if r3.1 = 0 then
    (ab_fL r3.2 b 744).bind fun y4 =>
      if ab_isc r3.2 b 7 = true then
      (ab_c1 (ab_cl gG z d 126 [.inr (.inr (some b)), .inl v6, .inr (.inl y4)] r3.2)).bind fun r5 =>
      ab_ev gG z (d + 1) 106 109 [some (.inr (.inr (some b))), some (.inl v1), some (.inl v2), some (.inl v3), some (.inl v4), some (.inl v5), some (.inl v6), some (.inl s0)] [.inl r5.1, .inr (.inr (some b))] r5.2
    else none
  else
    (ab_fR r3.2 b 705).bind fun o6 =>
      o6.bind fun a7 => (ab_aI 0 r3.2 a7 v6).bind fun x8 =>
      ab_ev gG z (d + 1) 106 109 [some (.inr (.inr (some b))), some (.inl v1), some (.inl v2), some (.inl v3), some (.inl v4), some (.inl v5), some (.inl v6), some (.inl s0)] [.inl x8, .inr (.inr (some b))] r3.2
  else none
else none := ab_ev_ex [28, 34, 46, 64, 81, 109] 500 rfl
theorem bl_106_109 (z : Bool) (d : Nat) (b : Nat) (v1 v2 v3 v4 v5 v6 v7 s0 : Int32) (s1 : Option Nat) (h : ab_H) : ab_ev gG z (d + 1) 106 109 [some (.inr (.inr (some b))), some (.inl v1), some (.inl v2), some (.inl v3), some (.inl v4), some (.inl v5), some (.inl v6), some (.inl v7)] [.inl s0, .inr (.inr s1)] h =
  s1.bind fun a1 => (ab_pf h a1 742 (.inl s0)).bind fun h2 =>
  if v7 = 0 then
  (ab_pf h2 b 743 (.inl (-1 : Int32))).bind fun h3 =>
    ab_ev gG z (d + 1) 106 28 [some (.inr (.inr (some b))), some (.inl v1), some (.inl v2), some (.inl (v4 + (1 : Int32))), some (.inl v4), some (.inl v5), some (.inl v6), some (.inl v7)] [] h3
else
  (ab_fI h2 b 742).bind fun x4 =>
    if x4 < 0 then
    if ab_isc h2 b 7 = true then
      (ab_c1 (ab_cl gG z d 127 [.inr (.inr (some b)), .inl v3, .inl v4] h2)).bind fun r5 =>
      if r5.1 = 0 then
      (ab_pf r5.2 b 743 (.inl (-1 : Int32))).bind fun h6 =>
        ab_ev gG z (d + 1) 106 28 [some (.inr (.inr (some b))), some (.inl v1), some (.inl v2), some (.inl (v4 + (1 : Int32))), some (.inl v4), some (.inl v5), some (.inl v6), some (.inl v7)] [] h6
    else
      (ab_pf r5.2 b 743 (.inl v6)).bind fun h7 =>
        ab_ev gG z (d + 1) 106 28 [some (.inr (.inr (some b))), some (.inl v1), some (.inl v2), some (.inl (v4 + (1 : Int32))), some (.inl v4), some (.inl v5), some (.inl v6), some (.inl v7)] [] h7
    else none
  else
    (ab_pf h2 b 743 (.inl (-1 : Int32))).bind fun h8 =>
      ab_ev gG z (d + 1) 106 28 [some (.inr (.inr (some b))), some (.inl v1), some (.inl v2), some (.inl (v4 + (1 : Int32))), some (.inl v4), some (.inl v5), some (.inl v6), some (.inl v7)] [] h8 := ab_ev_ex [28, 34, 46, 64, 81, 109] 500 rfl
theorem ent_106 (z : Bool) (d : Nat) (b : Nat) (p1 : Int32) (h : ab_H) : ab_cl gG z d 106 [.inr (.inr (some b)), .inl p1] h = ab_ev gG z d 106 0 [some (.inr (.inr (some b))), some (.inl p1), none, none, none, none, none, none] [] h := rfl
/-! TreeShellModel.made(Z)I -/
theorem bl_107_0 (z : Bool) (d : Nat) (b : Nat) (p1 : Int32) (h : ab_H) : ab_ev gG z d 107 0 [some (.inr (.inr (some b))), some (.inl p1), none, none, none] [] h =
  ab_ev gG z d 107 6 [some (.inr (.inr (some b))), some (.inl p1), some (.inl (0 : Int32)), some (.inl (0 : Int32)), some (.inl (12 : Int32))] [] h := ab_ev_ex [6, 19] 500 rfl
theorem bl_107_6 (z : Bool) (d : Nat) (b : Nat) (v1 v2 v3 v4 : Int32) (h : ab_H) : ab_ev gG z d 107 6 [some (.inr (.inr (some b))), some (.inl v1), some (.inl v2), some (.inl v3), some (.inl v4)] [] h =
  if v4 < (1 : Int32) then
  (ab_fI h b 700).bind fun x1 =>
    if v2 < x1 then
    (ab_fR h b 703).bind fun o2 =>
      o2.bind fun a3 => (ab_sI 1 h a3 v3 (1 : Int32)).bind fun h4 =>
      (ab_fR h4 b 704).bind fun o5 =>
      o5.bind fun a6 => (ab_sI 1 h4 a6 v3 v1).bind fun h7 =>
      (ab_fR h7 b 705).bind fun o8 =>
      (ab_fI h7 b 743).bind fun x9 =>
      o8.bind fun a10 => (ab_sI 0 h7 a10 v3 x9).bind fun h11 =>
      (ab_fR h11 b 706).bind fun o12 =>
      (ab_fL h11 b 744).bind fun y13 =>
      o12.bind fun a14 => (ab_sL h11 a14 v3 y13).bind fun h15 =>
      (ab_fR h15 b 707).bind fun o16 =>
      o16.bind fun a17 => (ab_sI 0 h15 a17 v3 (0 : Int32)).bind fun h18 =>
      some (some (.inl v3), h18)
  else
    some (some (.inl (-1 : Int32)), h)
else
  (ab_fR h b 703).bind fun o19 =>
    o19.bind fun a20 => (ab_aI 1 h a20 v4).bind fun x21 =>
    if x21 = 0 then
    ab_ev gG z d 107 19 [some (.inr (.inr (some b))), some (.inl v1), some (.inl v2), some (.inl v3), some (.inl v4)] [.inl v2] h
  else
    ab_ev gG z d 107 19 [some (.inr (.inr (some b))), some (.inl v1), some (.inl v2), some (.inl v3), some (.inl v4)] [.inl (v2 + (1 : Int32))] h := ab_ev_ex [6, 19] 500 rfl
theorem bl_107_19 (z : Bool) (d : Nat) (b : Nat) (v1 v2 v3 v4 s0 : Int32) (h : ab_H) : ab_ev gG z d 107 19 [some (.inr (.inr (some b))), some (.inl v1), some (.inl v2), some (.inl v3), some (.inl v4)] [.inl s0] h =
  (ab_fR h b 703).bind fun o1 =>
  o1.bind fun a2 => (ab_aI 1 h a2 v4).bind fun x3 =>
  if x3 = 0 then
  ab_ev gG z d 107 6 [some (.inr (.inr (some b))), some (.inl v1), some (.inl s0), some (.inl v4), some (.inl (v4 + (-1 : Int32)))] [] h
else
  ab_ev gG z d 107 6 [some (.inr (.inr (some b))), some (.inl v1), some (.inl s0), some (.inl v3), some (.inl (v4 + (-1 : Int32)))] [] h := ab_ev_ex [6, 19] 500 rfl
theorem ent_107 (z : Bool) (d : Nat) (b : Nat) (p1 : Int32) (h : ab_H) : ab_cl gG z d 107 [.inr (.inr (some b)), .inl p1] h = ab_ev gG z d 107 0 [some (.inr (.inr (some b))), some (.inl p1), none, none, none] [] h := rfl
/-! TreeShellModel.letterOf(I)V -/
theorem bl_108_0 (z : Bool) (d : Nat) (b : Nat) (p1 : Int32) (h : ab_H) : ab_ev gG z d 108 0 [some (.inr (.inr (some b))), some (.inl p1)] [] h =
  (ab_fR h b 720).bind fun o1 =>
  (ab_fI h b 719).bind fun x2 =>
  o1.bind fun a3 => (ab_sI 0 h a3 x2 p1).bind fun h4 =>
  (ab_fI h4 b 719).bind fun x5 =>
  (ab_pf h4 b 719 (.inl (x5 + (1 : Int32)))).bind fun h6 =>
  some (none, h6) := ab_ev_ex [] 500 rfl
theorem ent_108 (z : Bool) (d : Nat) (b : Nat) (p1 : Int32) (h : ab_H) : ab_cl gG z d 108 [.inr (.inr (some b)), .inl p1] h = ab_ev gG z d 108 0 [some (.inr (.inr (some b))), some (.inl p1)] [] h := rfl
/-! TreeShellModel.scale(I)I -/
theorem bl_109_0 (z : Bool) (d : Nat) (p1 : Int32) (h : ab_H) : ab_ev gG z d 109 0 [some (.inl p1)] [] h =
  if p1 < (100 : Int32) then
  if p1 < (10 : Int32) then
    some (some (.inl (1 : Int32)), h)
  else
    some (some (.inl (10 : Int32)), h)
else
  some (some (.inl (100 : Int32)), h) := ab_ev_ex [] 500 rfl
theorem ent_109 (z : Bool) (d : Nat) (p1 : Int32) (h : ab_H) : ab_cl gG z d 109 [.inl p1] h = ab_ev gG z d 109 0 [some (.inl p1)] [] h := rfl
/-! TreeShellModel.wordAs(I)J -/
theorem bl_110_0 (z : Bool) (d : Nat) (b : Nat) (p1 : Int32) (h : ab_H) : ab_ev gG z (d + 1) 110 0 [some (.inr (.inr (some b))), some (.inl p1)] [] h =
  (ab_fR h b 717).bind fun o1 =>
  o1.bind fun a2 => (ab_aI 0 h a2 p1).bind fun x3 =>
  (ab_fR h b 718).bind fun o4 =>
  o4.bind fun a5 => (ab_aI 0 h a5 p1).bind fun x6 =>
  if ab_isc h b 7 = true then
  (ab_c2 (ab_cl gG z d 124 [.inr (.inr (some b)), .inl x3, .inl x6] h)).bind fun r7 =>
  some (some (.inr (.inl r7.1)), r7.2)
else none := ab_ev_ex [] 500 rfl
theorem ent_110 (z : Bool) (d : Nat) (b : Nat) (p1 : Int32) (h : ab_H) : ab_cl gG z d 110 [.inr (.inr (some b)), .inl p1] h = ab_ev gG z d 110 0 [some (.inr (.inr (some b))), some (.inl p1)] [] h := rfl
/-! TreeShellModel.echo()I -/
theorem bl_111_0 (z : Bool) (d : Nat) (b : Nat) (h : ab_H) : ab_ev gG z (d + 1) 111 0 [some (.inr (.inr (some b))), none, none, none, none] [] h =
  (ab_fI h b 716).bind fun x1 =>
  if (1 : Int32) < x1 then
  if ab_isc h b 7 = true then
    (ab_c2 (ab_cl gG z d 110 [.inr (.inr (some b)), .inl (1 : Int32)] h)).bind fun r2 =>
    if (if r2.1 < (12787320231034880 : Int64) then (-1 : Int32) else if r2.1 = (12787320231034880 : Int64) then 0 else 1) = 0 then
    if (1 : Int32) = 0 then
      ab_ev gG z (d + 1) 111 22 [some (.inr (.inr (some b))), some (.inl (1 : Int32)), some (.inl (1 : Int32)), some (.inl (1 : Int32)), none] [] r2.2
    else
      ab_ev gG z (d + 1) 111 22 [some (.inr (.inr (some b))), some (.inl (1 : Int32)), some (.inl (2 : Int32)), some (.inl (2 : Int32)), none] [] r2.2
  else
    ab_ev gG z (d + 1) 111 12 [some (.inr (.inr (some b))), none, none, none, none] [] r2.2
  else none
else
  ab_ev gG z (d + 1) 111 12 [some (.inr (.inr (some b))), none, none, none, none] [] h := ab_ev_ex [12, 22, 38] 500 rfl
theorem bl_111_12 (z : Bool) (d : Nat) (b : Nat) (h : ab_H) : ab_ev gG z (d + 1) 111 12 [some (.inr (.inr (some b))), none, none, none, none] [] h =
  if (0 : Int32) = 0 then
  ab_ev gG z (d + 1) 111 22 [some (.inr (.inr (some b))), some (.inl (0 : Int32)), some (.inl (1 : Int32)), some (.inl (1 : Int32)), none] [] h
else
  ab_ev gG z (d + 1) 111 22 [some (.inr (.inr (some b))), some (.inl (0 : Int32)), some (.inl (2 : Int32)), some (.inl (2 : Int32)), none] [] h := ab_ev_ex [12, 22, 38] 500 rfl
theorem bl_111_22 (z : Bool) (d : Nat) (b : Nat) (v1 v2 v3 : Int32) (u4 : Option ab_V) (h : ab_H) : ab_ev gG z (d + 1) 111 22 [some (.inr (.inr (some b))), some (.inl v1), some (.inl v2), some (.inl v3), u4] [] h =
  (ab_fI h b 716).bind fun x1 =>
  if v3 < x1 then
  if v2 < v3 then
    if ab_isc h b 7 = true then
      (ab_c0 (ab_cl gG z d 128 [.inr (.inr (some b)), .inl (32 : Int32)] h)).bind fun h2 =>
      (ab_fR h2 b 717).bind fun o3 =>
      o3.bind fun a4 => (ab_aI 0 h2 a4 v3).bind fun x5 =>
      ab_ev gG z (d + 1) 111 38 [some (.inr (.inr (some b))), some (.inl v1), some (.inl v2), some (.inl v3), some (.inl x5)] [] h2
    else none
  else
    (ab_fR h b 717).bind fun o6 =>
      o6.bind fun a7 => (ab_aI 0 h a7 v3).bind fun x8 =>
      ab_ev gG z (d + 1) 111 38 [some (.inr (.inr (some b))), some (.inl v1), some (.inl v2), some (.inl v3), some (.inl x8)] [] h
else
  if v1 = 0 then
    if ab_isc h b 7 = true then
      (ab_c0 (ab_cl gG z d 128 [.inr (.inr (some b)), .inl (10 : Int32)] h)).bind fun h9 =>
      some (some (.inl (0 : Int32)), h9)
    else none
  else
    some (some (.inl (0 : Int32)), h) := ab_ev_ex [12, 22, 38] 500 rfl
theorem bl_111_38 (z : Bool) (d : Nat) (b : Nat) (v1 v2 v3 v4 : Int32) (h : ab_H) : ab_ev gG z (d + 1) 111 38 [some (.inr (.inr (some b))), some (.inl v1), some (.inl v2), some (.inl v3), some (.inl v4)] [] h =
  (ab_fR h b 718).bind fun o1 =>
  o1.bind fun a2 => (ab_aI 0 h a2 v3).bind fun x3 =>
  if v4 < x3 then
  (ab_fR h b 720).bind fun o4 =>
    o4.bind fun a5 => (ab_aI 0 h a5 v4).bind fun x6 =>
    if ab_isc h b 7 = true then
    (ab_c0 (ab_cl gG z d 128 [.inr (.inr (some b)), .inl x6] h)).bind fun h7 =>
    ab_ev gG z (d + 1) 111 38 [some (.inr (.inr (some b))), some (.inl v1), some (.inl v2), some (.inl v3), some (.inl (v4 + (1 : Int32)))] [] h7
  else none
else
  ab_ev gG z (d + 1) 111 22 [some (.inr (.inr (some b))), some (.inl v1), some (.inl v2), some (.inl (v3 + (1 : Int32))), some (.inl v4)] [] h := ab_ev_ex [12, 22, 38] 500 rfl
theorem ent_111 (z : Bool) (d : Nat) (b : Nat) (h : ab_H) : ab_cl gG z d 111 [.inr (.inr (some b))] h = ab_ev gG z d 111 0 [some (.inr (.inr (some b))), none, none, none, none] [] h := rfl
/-! TreeShellModel.cat()I -/
theorem bl_112_0 (z : Bool) (d : Nat) (b : Nat) (h : ab_H) : ab_ev gG z (d + 1) 112 0 [some (.inr (.inr (some b))), none, none, none, none] [] h =
  ab_ev gG z (d + 1) 112 2 [some (.inr (.inr (some b))), some (.inl (1 : Int32)), none, none, none] [] h := ab_ev_ex [2, 33, 43] 500 rfl
theorem bl_112_2 (z : Bool) (d : Nat) (b : Nat) (v1 : Int32) (h : ab_H) : ab_ev gG z (d + 1) 112 2 [some (.inr (.inr (some b))), some (.inl v1), none, none, none] [] h =
  (ab_fI h b 716).bind fun x1 =>
  if v1 < x1 then
  if ab_isc h b 7 = true then
    (ab_c0 (ab_cl gG z d 106 [.inr (.inr (some b)), .inl v1] h)).bind fun h2 =>
    (ab_fI h2 b 742).bind fun x3 =>
    if x3 < 0 then
    some (some (.inl (1 : Int32)), h2)
  else
    (ab_fR h2 b 704).bind fun o4 =>
      (ab_fI h2 b 742).bind fun x5 =>
      o4.bind fun a6 => (ab_aI 1 h2 a6 x5).bind fun x7 =>
      if x7 = 0 then
      ab_ev gG z (d + 1) 112 2 [some (.inr (.inr (some b))), some (.inl (v1 + (1 : Int32))), none, none, none] [] h2
    else
      some (some (.inl (1 : Int32)), h2)
  else none
else
  (ab_fI h b 716).bind fun x8 =>
    if x8 = (1 : Int32) then
    ab_ev gG z (d + 1) 112 33 [some (.inr (.inr (some b))), some (.inl (2 : Int32)), some (.inl (1 : Int32)), none, none] [] h
  else
    (ab_fI h b 716).bind fun x9 =>
      ab_ev gG z (d + 1) 112 33 [some (.inr (.inr (some b))), some (.inl x9), some (.inl (1 : Int32)), none, none] [] h := ab_ev_ex [2, 33, 43] 500 rfl
theorem bl_112_33 (z : Bool) (d : Nat) (b : Nat) (v1 v2 : Int32) (u3 u4 : Option ab_V) (h : ab_H) : ab_ev gG z (d + 1) 112 33 [some (.inr (.inr (some b))), some (.inl v1), some (.inl v2), u3, u4] [] h =
  if v2 < v1 then
  if ab_isc h b 7 = true then
    (ab_c1 (ab_cl gG z d 129 [.inr (.inr (some b)), .inl v2] h)).bind fun r1 =>
    ab_ev gG z (d + 1) 112 43 [some (.inr (.inr (some b))), some (.inl v1), some (.inl v2), some (.inl r1.1), some (.inl (0 : Int32))] [] r1.2
  else none
else
  some (some (.inl (0 : Int32)), h) := ab_ev_ex [2, 33, 43] 500 rfl
theorem bl_112_43 (z : Bool) (d : Nat) (b : Nat) (v1 v2 v3 v4 : Int32) (h : ab_H) : ab_ev gG z (d + 1) 112 43 [some (.inr (.inr (some b))), some (.inl v1), some (.inl v2), some (.inl v3), some (.inl v4)] [] h =
  (ab_fI h b 738).bind fun x1 =>
  if v4 < x1 then
  if v3 = 0 then
    ab_ev gG z (d + 1) 112 33 [some (.inr (.inr (some b))), some (.inl v1), some (.inl (v2 + (1 : Int32))), some (.inl v3), some (.inl v4)] [] h
  else
    (ab_fR h b 737).bind fun o2 =>
      o2.bind fun a3 => (ab_aI 0 h a3 v4).bind fun x4 =>
      if ab_isc h b 7 = true then
      (ab_c0 (ab_cl gG z d 128 [.inr (.inr (some b)), .inl x4] h)).bind fun h5 =>
      ab_ev gG z (d + 1) 112 43 [some (.inr (.inr (some b))), some (.inl v1), some (.inl v2), some (.inl v3), some (.inl (v4 + (1 : Int32)))] [] h5
    else none
else
  ab_ev gG z (d + 1) 112 33 [some (.inr (.inr (some b))), some (.inl v1), some (.inl (v2 + (1 : Int32))), some (.inl v3), some (.inl v4)] [] h := ab_ev_ex [2, 33, 43] 500 rfl
theorem ent_112 (z : Bool) (d : Nat) (b : Nat) (h : ab_H) : ab_cl gG z d 112 [.inr (.inr (some b))] h = ab_ev gG z d 112 0 [some (.inr (.inr (some b))), none, none, none, none] [] h := rfl
/-! TreeShellModel.wc()I -/
theorem bl_113_0 (z : Bool) (d : Nat) (b : Nat) (h : ab_H) : ab_ev gG z (d + 1) 113 0 [some (.inr (.inr (some b))), none, none, none, none] [] h =
  (ab_fI h b 716).bind fun x1 =>
  if (2 : Int32) < x1 then
  some (some (.inl (2 : Int32)), h)
else
  if ab_isc h b 7 = true then
    (ab_c1 (ab_cl gG z d 129 [.inr (.inr (some b)), .inl (1 : Int32)] h)).bind fun r2 =>
    if r2.1 = 0 then
    some (some (.inl (1 : Int32)), r2.2)
  else
    ab_ev gG z (d + 1) 113 18 [some (.inr (.inr (some b))), some (.inl (0 : Int32)), some (.inl (0 : Int32)), some (.inl (0 : Int32)), none] [] r2.2
  else none := ab_ev_ex [18, 34, 57] 500 rfl
theorem bl_113_18 (z : Bool) (d : Nat) (b : Nat) (v1 v2 v3 : Int32) (u4 : Option ab_V) (h : ab_H) : ab_ev gG z (d + 1) 113 18 [some (.inr (.inr (some b))), some (.inl v1), some (.inl v2), some (.inl v3), u4] [] h =
  (ab_fI h b 738).bind fun x1 =>
  if v3 < x1 then
  (ab_fR h b 737).bind fun o2 =>
    o2.bind fun a3 => (ab_aI 0 h a3 v3).bind fun x4 =>
    if x4 = (10 : Int32) then
    ab_ev gG z (d + 1) 113 34 [some (.inr (.inr (some b))), some (.inl v1), some (.inl v2), some (.inl v3), none] [.inl (v1 + (1 : Int32))] h
  else
    ab_ev gG z (d + 1) 113 34 [some (.inr (.inr (some b))), some (.inl v1), some (.inl v2), some (.inl v3), none] [.inl v1] h
else
  if ab_isc h b 7 = true then
    (ab_c0 (ab_cl gG z d 130 [.inr (.inr (some b)), .inl v1] h)).bind fun h5 =>
    if ab_isc h5 b 7 = true then
    (ab_c0 (ab_cl gG z d 128 [.inr (.inr (some b)), .inl (32 : Int32)] h5)).bind fun h6 =>
    if ab_isc h6 b 7 = true then
    (ab_c0 (ab_cl gG z d 130 [.inr (.inr (some b)), .inl v2] h6)).bind fun h7 =>
    if ab_isc h7 b 7 = true then
    (ab_c0 (ab_cl gG z d 128 [.inr (.inr (some b)), .inl (32 : Int32)] h7)).bind fun h8 =>
    (ab_fI h8 b 738).bind fun x9 =>
    if ab_isc h8 b 7 = true then
    (ab_c0 (ab_cl gG z d 130 [.inr (.inr (some b)), .inl x9] h8)).bind fun h10 =>
    if ab_isc h10 b 7 = true then
    (ab_c0 (ab_cl gG z d 128 [.inr (.inr (some b)), .inl (10 : Int32)] h10)).bind fun h11 =>
    some (some (.inl (0 : Int32)), h11)
  else none
  else none
  else none
  else none
  else none
  else none := ab_ev_ex [18, 34, 57] 500 rfl
theorem bl_113_34 (z : Bool) (d : Nat) (b : Nat) (v1 v2 v3 s0 : Int32) (h : ab_H) : ab_ev gG z (d + 1) 113 34 [some (.inr (.inr (some b))), some (.inl v1), some (.inl v2), some (.inl v3), none] [.inl s0] h =
  if v3 = 0 then
  ab_ev gG z (d + 1) 113 57 [some (.inr (.inr (some b))), some (.inl s0), some (.inl v2), some (.inl v3), none] [.inl (1 : Int32)] h
else
  (ab_fR h b 737).bind fun o1 =>
    o1.bind fun a2 => (ab_aI 0 h a2 (v3 - (1 : Int32))).bind fun x3 =>
    if x3 = (10 : Int32) then
    ab_ev gG z (d + 1) 113 57 [some (.inr (.inr (some b))), some (.inl s0), some (.inl v2), some (.inl v3), none] [.inl (1 : Int32)] h
  else
    (ab_fR h b 737).bind fun o4 =>
      o4.bind fun a5 => (ab_aI 0 h a5 (v3 - (1 : Int32))).bind fun x6 =>
      if x6 = (32 : Int32) then
      ab_ev gG z (d + 1) 113 57 [some (.inr (.inr (some b))), some (.inl s0), some (.inl v2), some (.inl v3), none] [.inl (1 : Int32)] h
    else
      ab_ev gG z (d + 1) 113 57 [some (.inr (.inr (some b))), some (.inl s0), some (.inl v2), some (.inl v3), none] [.inl (0 : Int32)] h := ab_ev_ex [18, 34, 57] 500 rfl
theorem bl_113_57 (z : Bool) (d : Nat) (b : Nat) (v1 v2 v3 s0 : Int32) (h : ab_H) : ab_ev gG z (d + 1) 113 57 [some (.inr (.inr (some b))), some (.inl v1), some (.inl v2), some (.inl v3), none] [.inl s0] h =
  if s0 = 0 then
  ab_ev gG z (d + 1) 113 18 [some (.inr (.inr (some b))), some (.inl v1), some (.inl v2), some (.inl (v3 + (1 : Int32))), some (.inl s0)] [] h
else
  (ab_fR h b 737).bind fun o1 =>
    o1.bind fun a2 => (ab_aI 0 h a2 v3).bind fun x3 =>
    if x3 = (10 : Int32) then
    ab_ev gG z (d + 1) 113 18 [some (.inr (.inr (some b))), some (.inl v1), some (.inl v2), some (.inl (v3 + (1 : Int32))), some (.inl s0)] [] h
  else
    (ab_fR h b 737).bind fun o4 =>
      o4.bind fun a5 => (ab_aI 0 h a5 v3).bind fun x6 =>
      if x6 = (32 : Int32) then
      ab_ev gG z (d + 1) 113 18 [some (.inr (.inr (some b))), some (.inl v1), some (.inl v2), some (.inl (v3 + (1 : Int32))), some (.inl s0)] [] h
    else
      ab_ev gG z (d + 1) 113 18 [some (.inr (.inr (some b))), some (.inl v1), some (.inl (v2 + (1 : Int32))), some (.inl (v3 + (1 : Int32))), some (.inl s0)] [] h := ab_ev_ex [18, 34, 57] 500 rfl
theorem ent_113 (z : Bool) (d : Nat) (b : Nat) (h : ab_H) : ab_cl gG z d 113 [.inr (.inr (some b))] h = ab_ev gG z d 113 0 [some (.inr (.inr (some b))), none, none, none, none] [] h := rfl
/-! TreeShellModel.grep()I -/
theorem bl_114_0 (z : Bool) (d : Nat) (b : Nat) (h : ab_H) : ab_ev gG z (d + 1) 114 0 [some (.inr (.inr (some b))), none, none, none, none, none, none, none, none, none, none, none, none] [] h =
  (ab_fI h b 716).bind fun x1 =>
  if (1 : Int32) < x1 then
  if ab_isc h b 7 = true then
    (ab_c2 (ab_cl gG z d 110 [.inr (.inr (some b)), .inl (1 : Int32)] h)).bind fun r2 =>
    if (if r2.1 < (12796116324057088 : Int64) then (-1 : Int32) else if r2.1 = (12796116324057088 : Int64) then 0 else 1) = 0 then
    if (1 : Int32) = 0 then
      ab_ev gG z (d + 1) 114 19 [some (.inr (.inr (some b))), some (.inl (1 : Int32)), none, none, none, none, none, none, none, none, none, none, none] [.inl (1 : Int32)] r2.2
    else
      ab_ev gG z (d + 1) 114 19 [some (.inr (.inr (some b))), some (.inl (1 : Int32)), none, none, none, none, none, none, none, none, none, none, none] [.inl (2 : Int32)] r2.2
  else
    if (0 : Int32) = 0 then
      ab_ev gG z (d + 1) 114 19 [some (.inr (.inr (some b))), some (.inl (0 : Int32)), none, none, none, none, none, none, none, none, none, none, none] [.inl (1 : Int32)] r2.2
    else
      ab_ev gG z (d + 1) 114 19 [some (.inr (.inr (some b))), some (.inl (0 : Int32)), none, none, none, none, none, none, none, none, none, none, none] [.inl (2 : Int32)] r2.2
  else none
else
  if (0 : Int32) = 0 then
    ab_ev gG z (d + 1) 114 19 [some (.inr (.inr (some b))), some (.inl (0 : Int32)), none, none, none, none, none, none, none, none, none, none, none] [.inl (1 : Int32)] h
  else
    ab_ev gG z (d + 1) 114 19 [some (.inr (.inr (some b))), some (.inl (0 : Int32)), none, none, none, none, none, none, none, none, none, none, none] [.inl (2 : Int32)] h := ab_ev_ex [19, 70, 85, 98, 119, 139] 500 rfl
theorem bl_114_19 (z : Bool) (d : Nat) (b : Nat) (v1 s0 : Int32) (h : ab_H) : ab_ev gG z (d + 1) 114 19 [some (.inr (.inr (some b))), some (.inl v1), none, none, none, none, none, none, none, none, none, none, none] [.inl s0] h =
  (ab_fI h b 716).bind fun x1 =>
  if s0 < x1 then
  (ab_fI h b 716).bind fun x2 =>
    if (s0 + (2 : Int32)) < x2 then
    some (some (.inl (2 : Int32)), h)
  else
    if ab_isc h b 7 = true then
      (ab_c1 (ab_cl gG z d 129 [.inr (.inr (some b)), .inl (s0 + (1 : Int32))] h)).bind fun r3 =>
      if r3.1 = 0 then
      some (some (.inl (1 : Int32)), r3.2)
    else
      (ab_fR r3.2 b 717).bind fun o4 =>
        o4.bind fun a5 => (ab_aI 0 r3.2 a5 s0).bind fun x6 =>
        (ab_fR r3.2 b 718).bind fun o7 =>
        o7.bind fun a8 => (ab_aI 0 r3.2 a8 s0).bind fun x9 =>
        if x6 < x9 then
        (ab_fR r3.2 b 720).bind fun o10 =>
          o10.bind fun a11 => (ab_aI 0 r3.2 a11 x6).bind fun x12 =>
          if x12 = (94 : Int32) then
          if (1 : Int32) = 0 then
            ab_ev gG z (d + 1) 114 70 [some (.inr (.inr (some b))), some (.inl v1), some (.inl s0), some (.inl x6), some (.inl x9), some (.inl (1 : Int32)), none, none, none, none, none, none, none] [.inl x6] r3.2
          else
            ab_ev gG z (d + 1) 114 70 [some (.inr (.inr (some b))), some (.inl v1), some (.inl s0), some (.inl x6), some (.inl x9), some (.inl (1 : Int32)), none, none, none, none, none, none, none] [.inl (x6 + (1 : Int32))] r3.2
        else
          if (0 : Int32) = 0 then
            ab_ev gG z (d + 1) 114 70 [some (.inr (.inr (some b))), some (.inl v1), some (.inl s0), some (.inl x6), some (.inl x9), some (.inl (0 : Int32)), none, none, none, none, none, none, none] [.inl x6] r3.2
          else
            ab_ev gG z (d + 1) 114 70 [some (.inr (.inr (some b))), some (.inl v1), some (.inl s0), some (.inl x6), some (.inl x9), some (.inl (0 : Int32)), none, none, none, none, none, none, none] [.inl (x6 + (1 : Int32))] r3.2
      else
        if (0 : Int32) = 0 then
          ab_ev gG z (d + 1) 114 70 [some (.inr (.inr (some b))), some (.inl v1), some (.inl s0), some (.inl x6), some (.inl x9), some (.inl (0 : Int32)), none, none, none, none, none, none, none] [.inl x6] r3.2
        else
          ab_ev gG z (d + 1) 114 70 [some (.inr (.inr (some b))), some (.inl v1), some (.inl s0), some (.inl x6), some (.inl x9), some (.inl (0 : Int32)), none, none, none, none, none, none, none] [.inl (x6 + (1 : Int32))] r3.2
    else none
else
  some (some (.inl (2 : Int32)), h) := ab_ev_ex [19, 70, 85, 98, 119, 139] 500 rfl
theorem bl_114_70 (z : Bool) (d : Nat) (b : Nat) (v1 v2 v3 v4 v5 s0 : Int32) (h : ab_H) : ab_ev gG z (d + 1) 114 70 [some (.inr (.inr (some b))), some (.inl v1), some (.inl v2), some (.inl v3), some (.inl v4), some (.inl v5), none, none, none, none, none, none, none] [.inl s0] h =
  if s0 < v4 then
  (ab_fR h b 720).bind fun o1 =>
    o1.bind fun a2 => (ab_aI 0 h a2 (v4 - (1 : Int32))).bind fun x3 =>
    if x3 = (36 : Int32) then
    ab_ev gG z (d + 1) 114 85 [some (.inr (.inr (some b))), some (.inl v1), some (.inl v2), some (.inl s0), some (.inl v4), some (.inl v5), none, none, none, none, none, none, none] [.inl (1 : Int32)] h
  else
    ab_ev gG z (d + 1) 114 85 [some (.inr (.inr (some b))), some (.inl v1), some (.inl v2), some (.inl s0), some (.inl v4), some (.inl v5), none, none, none, none, none, none, none] [.inl (0 : Int32)] h
else
  ab_ev gG z (d + 1) 114 85 [some (.inr (.inr (some b))), some (.inl v1), some (.inl v2), some (.inl s0), some (.inl v4), some (.inl v5), none, none, none, none, none, none, none] [.inl (0 : Int32)] h := ab_ev_ex [19, 70, 85, 98, 119, 139] 500 rfl
theorem bl_114_85 (z : Bool) (d : Nat) (b : Nat) (v1 v2 v3 v4 v5 s0 : Int32) (h : ab_H) : ab_ev gG z (d + 1) 114 85 [some (.inr (.inr (some b))), some (.inl v1), some (.inl v2), some (.inl v3), some (.inl v4), some (.inl v5), none, none, none, none, none, none, none] [.inl s0] h =
  if s0 = 0 then
  ab_ev gG z (d + 1) 114 98 [some (.inr (.inr (some b))), some (.inl v1), some (.inl v2), some (.inl v3), some (.inl v4), some (.inl v5), some (.inl s0), some (.inl (0 : Int32)), some (.inl (0 : Int32)), none, none, none, none] [] h
else
  ab_ev gG z (d + 1) 114 98 [some (.inr (.inr (some b))), some (.inl v1), some (.inl v2), some (.inl v3), some (.inl (v4 - (1 : Int32))), some (.inl v5), some (.inl s0), some (.inl (0 : Int32)), some (.inl (0 : Int32)), none, none, none, none] [] h := ab_ev_ex [19, 70, 85, 98, 119, 139] 500 rfl
theorem bl_114_98 (z : Bool) (d : Nat) (b : Nat) (v1 v2 v3 v4 v5 v6 v7 v8 : Int32) (u9 u10 u11 : Option ab_V) (h : ab_H) : ab_ev gG z (d + 1) 114 98 [some (.inr (.inr (some b))), some (.inl v1), some (.inl v2), some (.inl v3), some (.inl v4), some (.inl v5), some (.inl v6), some (.inl v7), some (.inl v8), u9, u10, u11, none] [] h =
  (ab_fI h b 739).bind fun x1 =>
  if v8 < x1 then
  (ab_fR h b 741).bind fun o2 =>
    o2.bind fun a3 => (ab_aI 0 h a3 v8).bind fun x4 =>
    (ab_fR h b 740).bind fun o5 =>
    o5.bind fun a6 => (ab_aI 0 h a6 v8).bind fun x7 =>
    ab_ev gG z (d + 1) 114 119 [some (.inr (.inr (some b))), some (.inl v1), some (.inl v2), some (.inl v3), some (.inl v4), some (.inl v5), some (.inl v6), some (.inl v7), some (.inl v8), some (.inl (0 : Int32)), some (.inl (x4 - (v4 - v3))), some (.inl x7), none] [] h
else
  if 0 < v7 then
    some (some (.inl (0 : Int32)), h)
  else
    some (some (.inl (1 : Int32)), h) := ab_ev_ex [19, 70, 85, 98, 119, 139] 500 rfl
theorem bl_114_119 (z : Bool) (d : Nat) (b : Nat) (v1 v2 v3 v4 v5 v6 v7 v8 v9 v10 v11 : Int32) (u12 : Option ab_V) (h : ab_H) : ab_ev gG z (d + 1) 114 119 [some (.inr (.inr (some b))), some (.inl v1), some (.inl v2), some (.inl v3), some (.inl v4), some (.inl v5), some (.inl v6), some (.inl v7), some (.inl v8), some (.inl v9), some (.inl v10), some (.inl v11), u12] [] h =
  if v10 < v11 then
  if v9 = v1 then
    ab_ev gG z (d + 1) 114 98 [some (.inr (.inr (some b))), some (.inl v1), some (.inl v2), some (.inl v3), some (.inl v4), some (.inl v5), some (.inl v6), some (.inl v7), some (.inl (v8 + (1 : Int32))), some (.inl v9), some (.inl v10), some (.inl v11), none] [] h
  else
    if ab_isc h b 7 = true then
      (ab_c0 (ab_cl gG z d 132 [.inr (.inr (some b)), .inl v8] h)).bind fun h1 =>
      ab_ev gG z (d + 1) 114 98 [some (.inr (.inr (some b))), some (.inl v1), some (.inl v2), some (.inl v3), some (.inl v4), some (.inl v5), some (.inl v6), some (.inl (v7 + (1 : Int32))), some (.inl (v8 + (1 : Int32))), some (.inl v9), some (.inl v10), some (.inl v11), none] [] h1
    else none
else
  if v5 = 0 then
    if v6 = 0 then
      ab_ev gG z (d + 1) 114 139 [some (.inr (.inr (some b))), some (.inl v1), some (.inl v2), some (.inl v3), some (.inl v4), some (.inl v5), some (.inl v6), some (.inl v7), some (.inl v8), some (.inl v9), some (.inl v10), some (.inl v11), none] [.inl (1 : Int32)] h
    else
      if v11 = v10 then
        ab_ev gG z (d + 1) 114 139 [some (.inr (.inr (some b))), some (.inl v1), some (.inl v2), some (.inl v3), some (.inl v4), some (.inl v5), some (.inl v6), some (.inl v7), some (.inl v8), some (.inl v9), some (.inl v10), some (.inl v11), none] [.inl (1 : Int32)] h
      else
        ab_ev gG z (d + 1) 114 139 [some (.inr (.inr (some b))), some (.inl v1), some (.inl v2), some (.inl v3), some (.inl v4), some (.inl v5), some (.inl v6), some (.inl v7), some (.inl v8), some (.inl v9), some (.inl v10), some (.inl v11), none] [.inl (0 : Int32)] h
  else
    (ab_fR h b 740).bind fun o2 =>
      o2.bind fun a3 => (ab_aI 0 h a3 v8).bind fun x4 =>
      if v11 = x4 then
      if v6 = 0 then
        ab_ev gG z (d + 1) 114 139 [some (.inr (.inr (some b))), some (.inl v1), some (.inl v2), some (.inl v3), some (.inl v4), some (.inl v5), some (.inl v6), some (.inl v7), some (.inl v8), some (.inl v9), some (.inl v10), some (.inl v11), none] [.inl (1 : Int32)] h
      else
        if v11 = v10 then
          ab_ev gG z (d + 1) 114 139 [some (.inr (.inr (some b))), some (.inl v1), some (.inl v2), some (.inl v3), some (.inl v4), some (.inl v5), some (.inl v6), some (.inl v7), some (.inl v8), some (.inl v9), some (.inl v10), some (.inl v11), none] [.inl (1 : Int32)] h
        else
          ab_ev gG z (d + 1) 114 139 [some (.inr (.inr (some b))), some (.inl v1), some (.inl v2), some (.inl v3), some (.inl v4), some (.inl v5), some (.inl v6), some (.inl v7), some (.inl v8), some (.inl v9), some (.inl v10), some (.inl v11), none] [.inl (0 : Int32)] h
    else
      ab_ev gG z (d + 1) 114 139 [some (.inr (.inr (some b))), some (.inl v1), some (.inl v2), some (.inl v3), some (.inl v4), some (.inl v5), some (.inl v6), some (.inl v7), some (.inl v8), some (.inl v9), some (.inl v10), some (.inl v11), none] [.inl (0 : Int32)] h := ab_ev_ex [19, 70, 85, 98, 119, 139] 500 rfl
theorem bl_114_139 (z : Bool) (d : Nat) (b : Nat) (v1 v2 v3 v4 v5 v6 v7 v8 v9 v10 v11 s0 : Int32) (h : ab_H) : ab_ev gG z (d + 1) 114 139 [some (.inr (.inr (some b))), some (.inl v1), some (.inl v2), some (.inl v3), some (.inl v4), some (.inl v5), some (.inl v6), some (.inl v7), some (.inl v8), some (.inl v9), some (.inl v10), some (.inl v11), none] [.inl s0] h =
  if v9 = 0 then
  if s0 = 0 then
    ab_ev gG z (d + 1) 114 119 [some (.inr (.inr (some b))), some (.inl v1), some (.inl v2), some (.inl v3), some (.inl v4), some (.inl v5), some (.inl v6), some (.inl v7), some (.inl v8), some (.inl (0 : Int32)), some (.inl v10), some (.inl (v11 + (1 : Int32))), some (.inl s0)] [] h
  else
    if ab_isc h b 7 = true then
      (ab_c1 (ab_cl gG z d 131 [.inr (.inr (some b)), .inl v3, .inl v4, .inl v11] h)).bind fun r1 =>
      if r1.1 = 0 then
      ab_ev gG z (d + 1) 114 119 [some (.inr (.inr (some b))), some (.inl v1), some (.inl v2), some (.inl v3), some (.inl v4), some (.inl v5), some (.inl v6), some (.inl v7), some (.inl v8), some (.inl (0 : Int32)), some (.inl v10), some (.inl (v11 + (1 : Int32))), some (.inl s0)] [] r1.2
    else
      ab_ev gG z (d + 1) 114 119 [some (.inr (.inr (some b))), some (.inl v1), some (.inl v2), some (.inl v3), some (.inl v4), some (.inl v5), some (.inl v6), some (.inl v7), some (.inl v8), some (.inl (1 : Int32)), some (.inl v10), some (.inl (v11 + (1 : Int32))), some (.inl s0)] [] r1.2
    else none
else
  ab_ev gG z (d + 1) 114 119 [some (.inr (.inr (some b))), some (.inl v1), some (.inl v2), some (.inl v3), some (.inl v4), some (.inl v5), some (.inl v6), some (.inl v7), some (.inl v8), some (.inl (1 : Int32)), some (.inl v10), some (.inl (v11 + (1 : Int32))), some (.inl s0)] [] h := ab_ev_ex [19, 70, 85, 98, 119, 139] 500 rfl
theorem ent_114 (z : Bool) (d : Nat) (b : Nat) (h : ab_H) : ab_cl gG z d 114 [.inr (.inr (some b))] h = ab_ev gG z d 114 0 [some (.inr (.inr (some b))), none, none, none, none, none, none, none, none, none, none, none, none] [] h := rfl
/-! TreeShellModel.ls()I -/
theorem bl_115_0 (z : Bool) (d : Nat) (b : Nat) (h : ab_H) : ab_ev gG z (d + 1) 115 0 [some (.inr (.inr (some b))), none, none, none, none, none, none] [] h =
  (ab_fI h b 716).bind fun x1 =>
  if (2 : Int32) < x1 then
  some (some (.inl (2 : Int32)), h)
else
  (ab_fI h b 709).bind fun x2 =>
    (ab_pf h b 742 (.inl x2)).bind fun h3 =>
    (ab_fI h3 b 716).bind fun x4 =>
    if x4 = (2 : Int32) then
    if ab_isc h3 b 7 = true then
      (ab_c0 (ab_cl gG z d 106 [.inr (.inr (some b)), .inl (1 : Int32)] h3)).bind fun h5 =>
      ab_ev gG z (d + 1) 115 17 [some (.inr (.inr (some b))), none, none, none, none, none, none] [] h5
    else none
  else
    ab_ev gG z (d + 1) 115 17 [some (.inr (.inr (some b))), none, none, none, none, none, none] [] h3 := ab_ev_ex [17, 44, 52, 78] 500 rfl
theorem bl_115_17 (z : Bool) (d : Nat) (b : Nat) (h : ab_H) : ab_ev gG z (d + 1) 115 17 [some (.inr (.inr (some b))), none, none, none, none, none, none] [] h =
  (ab_fI h b 742).bind fun x1 =>
  if x1 < 0 then
  some (some (.inl (1 : Int32)), h)
else
  (ab_fR h b 704).bind fun o2 =>
    (ab_fI h b 742).bind fun x3 =>
    o2.bind fun a4 => (ab_aI 1 h a4 x3).bind fun x5 =>
    if x5 = 0 then
    (ab_fR h b 706).bind fun o6 =>
      (ab_fI h b 742).bind fun x7 =>
      o6.bind fun a8 => (ab_aL h a8 x7).bind fun y9 =>
      if ab_isc h b 7 = true then
      (ab_c0 (ab_cl gG z d 133 [.inr (.inr (some b)), .inr (.inl y9)] h)).bind fun h10 =>
      if ab_isc h10 b 7 = true then
      (ab_c0 (ab_cl gG z d 128 [.inr (.inr (some b)), .inl (10 : Int32)] h10)).bind fun h11 =>
      some (some (.inl (0 : Int32)), h11)
    else none
    else none
  else
    ab_ev gG z (d + 1) 115 44 [some (.inr (.inr (some b))), some (.inr (.inl (0 : Int64))), none, some (.inl (0 : Int32)), none, none, none] [] h := ab_ev_ex [17, 44, 52, 78] 500 rfl
theorem bl_115_44 (z : Bool) (d : Nat) (b : Nat) (v1 : Int64) (v3 : Int32) (u4 u5 : Option ab_V) (h : ab_H) : ab_ev gG z (d + 1) 115 44 [some (.inr (.inr (some b))), some (.inr (.inl v1)), none, some (.inl v3), u4, u5, none] [] h =
  if v3 < (12 : Int32) then
  ab_ev gG z (d + 1) 115 52 [some (.inr (.inr (some b))), some (.inr (.inl v1)), none, some (.inl v3), some (.inl (-1 : Int32)), some (.inl (1 : Int32)), none] [] h
else
  some (some (.inl (0 : Int32)), h) := ab_ev_ex [17, 44, 52, 78] 500 rfl
theorem bl_115_52 (z : Bool) (d : Nat) (b : Nat) (v1 : Int64) (v3 v4 v5 : Int32) (u6 : Option ab_V) (h : ab_H) : ab_ev gG z (d + 1) 115 52 [some (.inr (.inr (some b))), some (.inr (.inl v1)), none, some (.inl v3), some (.inl v4), some (.inl v5), u6] [] h =
  if v5 < (13 : Int32) then
  (ab_fR h b 703).bind fun o1 =>
    o1.bind fun a2 => (ab_aI 1 h a2 v5).bind fun x3 =>
    if x3 = 0 then
    ab_ev gG z (d + 1) 115 78 [some (.inr (.inr (some b))), some (.inr (.inl v1)), none, some (.inl v3), some (.inl v4), some (.inl v5), none] [.inl (0 : Int32)] h
  else
    (ab_fR h b 705).bind fun o4 =>
      o4.bind fun a5 => (ab_aI 0 h a5 v5).bind fun x6 =>
      (ab_fI h b 742).bind fun x7 =>
      if x6 = x7 then
      (ab_fR h b 706).bind fun o8 =>
        o8.bind fun a9 => (ab_aL h a9 v5).bind fun y10 =>
        if 0 < (if y10 < v1 then (-1 : Int32) else if y10 = v1 then 0 else 1) then
        ab_ev gG z (d + 1) 115 78 [some (.inr (.inr (some b))), some (.inr (.inl v1)), none, some (.inl v3), some (.inl v4), some (.inl v5), none] [.inl (1 : Int32)] h
      else
        ab_ev gG z (d + 1) 115 78 [some (.inr (.inr (some b))), some (.inr (.inl v1)), none, some (.inl v3), some (.inl v4), some (.inl v5), none] [.inl (0 : Int32)] h
    else
      ab_ev gG z (d + 1) 115 78 [some (.inr (.inr (some b))), some (.inr (.inl v1)), none, some (.inl v3), some (.inl v4), some (.inl v5), none] [.inl (0 : Int32)] h
else
  if v4 < 0 then
    ab_ev gG z (d + 1) 115 44 [some (.inr (.inr (some b))), some (.inr (.inl v1)), none, some (.inl (v3 + (1 : Int32))), some (.inl v4), some (.inl v5), none] [] h
  else
    (ab_fR h b 706).bind fun o11 =>
      o11.bind fun a12 => (ab_aL h a12 v4).bind fun y13 =>
      if ab_isc h b 7 = true then
      (ab_c0 (ab_cl gG z d 133 [.inr (.inr (some b)), .inr (.inl y13)] h)).bind fun h14 =>
      (ab_fR h14 b 704).bind fun o15 =>
      o15.bind fun a16 => (ab_aI 1 h14 a16 v4).bind fun x17 =>
      if x17 = 0 then
      if ab_isc h14 b 7 = true then
        (ab_c0 (ab_cl gG z d 128 [.inr (.inr (some b)), .inl (10 : Int32)] h14)).bind fun h18 =>
        ab_ev gG z (d + 1) 115 44 [some (.inr (.inr (some b))), some (.inr (.inl y13)), none, some (.inl (v3 + (1 : Int32))), some (.inl v4), some (.inl v5), none] [] h18
      else none
    else
      if ab_isc h14 b 7 = true then
        (ab_c0 (ab_cl gG z d 128 [.inr (.inr (some b)), .inl (47 : Int32)] h14)).bind fun h19 =>
        if ab_isc h19 b 7 = true then
        (ab_c0 (ab_cl gG z d 128 [.inr (.inr (some b)), .inl (10 : Int32)] h19)).bind fun h20 =>
        ab_ev gG z (d + 1) 115 44 [some (.inr (.inr (some b))), some (.inr (.inl y13)), none, some (.inl (v3 + (1 : Int32))), some (.inl v4), some (.inl v5), none] [] h20
      else none
      else none
    else none := ab_ev_ex [17, 44, 52, 78] 500 rfl
theorem bl_115_78 (z : Bool) (d : Nat) (b : Nat) (v1 : Int64) (v3 v4 v5 s0 : Int32) (h : ab_H) : ab_ev gG z (d + 1) 115 78 [some (.inr (.inr (some b))), some (.inr (.inl v1)), none, some (.inl v3), some (.inl v4), some (.inl v5), none] [.inl s0] h =
  if s0 = 0 then
  ab_ev gG z (d + 1) 115 52 [some (.inr (.inr (some b))), some (.inr (.inl v1)), none, some (.inl v3), some (.inl v4), some (.inl (v5 + (1 : Int32))), some (.inl s0)] [] h
else
  if v4 < 0 then
    ab_ev gG z (d + 1) 115 52 [some (.inr (.inr (some b))), some (.inr (.inl v1)), none, some (.inl v3), some (.inl v5), some (.inl (v5 + (1 : Int32))), some (.inl s0)] [] h
  else
    (ab_fR h b 706).bind fun o1 =>
      o1.bind fun a2 => (ab_aL h a2 v5).bind fun y3 =>
      (ab_fR h b 706).bind fun o4 =>
      o4.bind fun a5 => (ab_aL h a5 v4).bind fun y6 =>
      if (if y3 < y6 then (-1 : Int32) else if y3 = y6 then 0 else 1) < 0 then
      ab_ev gG z (d + 1) 115 52 [some (.inr (.inr (some b))), some (.inr (.inl v1)), none, some (.inl v3), some (.inl v5), some (.inl (v5 + (1 : Int32))), some (.inl s0)] [] h
    else
      ab_ev gG z (d + 1) 115 52 [some (.inr (.inr (some b))), some (.inr (.inl v1)), none, some (.inl v3), some (.inl v4), some (.inl (v5 + (1 : Int32))), some (.inl s0)] [] h := ab_ev_ex [17, 44, 52, 78] 500 rfl
theorem ent_115 (z : Bool) (d : Nat) (b : Nat) (h : ab_H) : ab_cl gG z d 115 [.inr (.inr (some b))] h = ab_ev gG z d 115 0 [some (.inr (.inr (some b))), none, none, none, none, none, none] [] h := rfl
/-! TreeShellModel.mkdir()I -/
theorem bl_116_0 (z : Bool) (d : Nat) (b : Nat) (h : ab_H) : ab_ev gG z (d + 1) 116 0 [some (.inr (.inr (some b)))] [] h =
  (ab_fI h b 716).bind fun x1 =>
  if x1 = (2 : Int32) then
  if ab_isc h b 7 = true then
    (ab_c0 (ab_cl gG z d 106 [.inr (.inr (some b)), .inl (1 : Int32)] h)).bind fun h2 =>
    (ab_fI h2 b 743).bind fun x3 =>
    if x3 < 0 then
    some (some (.inl (1 : Int32)), h2)
  else
    if ab_isc h2 b 7 = true then
      (ab_c1 (ab_cl gG z d 107 [.inr (.inr (some b)), .inl (1 : Int32)] h2)).bind fun r4 =>
      if r4.1 < 0 then
      some (some (.inl (-9 : Int32)), r4.2)
    else
      some (some (.inl (0 : Int32)), r4.2)
    else none
  else none
else
  some (some (.inl (2 : Int32)), h) := ab_ev_ex [] 500 rfl
theorem ent_116 (z : Bool) (d : Nat) (b : Nat) (h : ab_H) : ab_cl gG z d 116 [.inr (.inr (some b))] h = ab_ev gG z d 116 0 [some (.inr (.inr (some b)))] [] h := rfl
/-! TreeShellModel.cd()I -/
theorem bl_117_0 (z : Bool) (d : Nat) (b : Nat) (h : ab_H) : ab_ev gG z (d + 1) 117 0 [some (.inr (.inr (some b)))] [] h =
  (ab_fI h b 716).bind fun x1 =>
  if (2 : Int32) < x1 then
  some (some (.inl (2 : Int32)), h)
else
  (ab_pf h b 742 (.inl (0 : Int32))).bind fun h2 =>
    (ab_fI h2 b 716).bind fun x3 =>
    if x3 = (2 : Int32) then
    if ab_isc h2 b 7 = true then
      (ab_c0 (ab_cl gG z d 106 [.inr (.inr (some b)), .inl (1 : Int32)] h2)).bind fun h4 =>
      ab_ev gG z (d + 1) 117 16 [some (.inr (.inr (some b)))] [] h4
    else none
  else
    ab_ev gG z (d + 1) 117 16 [some (.inr (.inr (some b)))] [] h2 := ab_ev_ex [16] 500 rfl
theorem bl_117_16 (z : Bool) (d : Nat) (b : Nat) (h : ab_H) : ab_ev gG z (d + 1) 117 16 [some (.inr (.inr (some b)))] [] h =
  (ab_fI h b 742).bind fun x1 =>
  if x1 < 0 then
  some (some (.inl (1 : Int32)), h)
else
  (ab_fR h b 704).bind fun o2 =>
    (ab_fI h b 742).bind fun x3 =>
    o2.bind fun a4 => (ab_aI 1 h a4 x3).bind fun x5 =>
    if x5 = 0 then
    some (some (.inl (1 : Int32)), h)
  else
    (ab_fI h b 742).bind fun x6 =>
      (ab_pf h b 709 (.inl x6)).bind fun h7 =>
      some (some (.inl (0 : Int32)), h7) := ab_ev_ex [16] 500 rfl
theorem ent_117 (z : Bool) (d : Nat) (b : Nat) (h : ab_H) : ab_cl gG z d 117 [.inr (.inr (some b))] h = ab_ev gG z d 117 0 [some (.inr (.inr (some b)))] [] h := rfl
/-! TreeShellModel.packed(II)J -/
theorem bl_124_0 (z : Bool) (d : Nat) (b : Nat) (p1 p2 : Int32) (h : ab_H) : ab_ev gG z d 124 0 [some (.inr (.inr (some b))), some (.inl p1), some (.inl p2), none, none, none] [] h =
  if (7 : Int32) < (p2 - p1) then
  some (some (.inr (.inl (-1 : Int64))), h)
else
  ab_ev gG z d 124 11 [some (.inr (.inr (some b))), some (.inl p1), some (.inl p2), some (.inr (.inl (0 : Int64))), none, some (.inl (0 : Int32))] [] h := ab_ev_ex [11] 500 rfl
theorem bl_124_11 (z : Bool) (d : Nat) (b : Nat) (v1 v2 v5 : Int32) (v3 : Int64) (h : ab_H) : ab_ev gG z d 124 11 [some (.inr (.inr (some b))), some (.inl v1), some (.inl v2), some (.inr (.inl v3)), none, some (.inl v5)] [] h =
  if v5 < (7 : Int32) then
  if (v1 + v5) < v2 then
    (ab_fR h b 720).bind fun o1 =>
      o1.bind fun a2 => (ab_aI 0 h a2 (v1 + v5)).bind fun x3 =>
      ab_ev gG z d 124 11 [some (.inr (.inr (some b))), some (.inl v1), some (.inl v2), some (.inr (.inl ((v3 <<< (((8 : Int32)).toInt64 &&& 63)) ||| (x3).toInt64))), none, some (.inl (v5 + (1 : Int32)))] [] h
  else
    ab_ev gG z d 124 11 [some (.inr (.inr (some b))), some (.inl v1), some (.inl v2), some (.inr (.inl ((v3 <<< (((8 : Int32)).toInt64 &&& 63)) ||| ((0 : Int32)).toInt64))), none, some (.inl (v5 + (1 : Int32)))] [] h
else
  some (some (.inr (.inl v3)), h) := ab_ev_ex [11] 500 rfl
theorem ent_124 (z : Bool) (d : Nat) (b : Nat) (p1 p2 : Int32) (h : ab_H) : ab_cl gG z d 124 [.inr (.inr (some b)), .inl p1, .inl p2] h = ab_ev gG z d 124 0 [some (.inr (.inr (some b))), some (.inl p1), some (.inl p2), none, none, none] [] h := rfl
/-! TreeShellModel.isDots(II)Z -/
theorem bl_125_0 (z : Bool) (d : Nat) (b : Nat) (p1 p2 : Int32) (h : ab_H) : ab_ev gG z d 125 0 [some (.inr (.inr (some b))), some (.inl p1), some (.inl p2)] [] h =
  if (p2 - p1) = (1 : Int32) then
  (ab_fR h b 720).bind fun o1 =>
    o1.bind fun a2 => (ab_aI 0 h a2 p1).bind fun x3 =>
    if x3 = (46 : Int32) then
    some (some (.inl (1 : Int32)), h)
  else
    ab_ev gG z d 125 11 [some (.inr (.inr (some b))), some (.inl p1), some (.inl p2)] [] h
else
  ab_ev gG z d 125 11 [some (.inr (.inr (some b))), some (.inl p1), some (.inl p2)] [] h := ab_ev_ex [11] 500 rfl
theorem bl_125_11 (z : Bool) (d : Nat) (b : Nat) (v1 v2 : Int32) (h : ab_H) : ab_ev gG z d 125 11 [some (.inr (.inr (some b))), some (.inl v1), some (.inl v2)] [] h =
  if (v2 - v1) = (2 : Int32) then
  (ab_fR h b 720).bind fun o1 =>
    o1.bind fun a2 => (ab_aI 0 h a2 v1).bind fun x3 =>
    if x3 = (46 : Int32) then
    (ab_fR h b 720).bind fun o4 =>
      o4.bind fun a5 => (ab_aI 0 h a5 (v1 + (1 : Int32))).bind fun x6 =>
      if x6 = (46 : Int32) then
      some (some (.inl (1 : Int32)), h)
    else
      some (some (.inl (0 : Int32)), h)
  else
    some (some (.inl (0 : Int32)), h)
else
  some (some (.inl (0 : Int32)), h) := ab_ev_ex [11] 500 rfl
theorem ent_125 (z : Bool) (d : Nat) (b : Nat) (p1 p2 : Int32) (h : ab_H) : ab_cl gG z d 125 [.inr (.inr (some b)), .inl p1, .inl p2] h = ab_ev gG z d 125 0 [some (.inr (.inr (some b))), some (.inl p1), some (.inl p2)] [] h := rfl
/-! TreeShellModel.child(IJ)I -/
theorem bl_126_0 (z : Bool) (d : Nat) (b : Nat) (p1 : Int32) (p2 : Int64) (h : ab_H) : ab_ev gG z d 126 0 [some (.inr (.inr (some b))), some (.inl p1), some (.inr (.inl p2)), none, none] [] h =
  ab_ev gG z d 126 2 [some (.inr (.inr (some b))), some (.inl p1), some (.inr (.inl p2)), none, some (.inl (1 : Int32))] [] h := ab_ev_ex [2] 500 rfl
theorem bl_126_2 (z : Bool) (d : Nat) (b : Nat) (v1 v4 : Int32) (v2 : Int64) (h : ab_H) : ab_ev gG z d 126 2 [some (.inr (.inr (some b))), some (.inl v1), some (.inr (.inl v2)), none, some (.inl v4)] [] h =
  if v4 < (13 : Int32) then
  (ab_fR h b 703).bind fun o1 =>
    o1.bind fun a2 => (ab_aI 1 h a2 v4).bind fun x3 =>
    if x3 = 0 then
    ab_ev gG z d 126 2 [some (.inr (.inr (some b))), some (.inl v1), some (.inr (.inl v2)), none, some (.inl (v4 + (1 : Int32)))] [] h
  else
    (ab_fR h b 705).bind fun o4 =>
      o4.bind fun a5 => (ab_aI 0 h a5 v4).bind fun x6 =>
      if x6 = v1 then
      (ab_fR h b 706).bind fun o7 =>
        o7.bind fun a8 => (ab_aL h a8 v4).bind fun y9 =>
        if (if y9 < v2 then (-1 : Int32) else if y9 = v2 then 0 else 1) = 0 then
        some (some (.inl v4), h)
      else
        ab_ev gG z d 126 2 [some (.inr (.inr (some b))), some (.inl v1), some (.inr (.inl v2)), none, some (.inl (v4 + (1 : Int32)))] [] h
    else
      ab_ev gG z d 126 2 [some (.inr (.inr (some b))), some (.inl v1), some (.inr (.inl v2)), none, some (.inl (v4 + (1 : Int32)))] [] h
else
  some (some (.inl (-1 : Int32)), h) := ab_ev_ex [2] 500 rfl
theorem ent_126 (z : Bool) (d : Nat) (b : Nat) (p1 : Int32) (p2 : Int64) (h : ab_H) : ab_cl gG z d 126 [.inr (.inr (some b)), .inl p1, .inr (.inl p2)] h = ab_ev gG z d 126 0 [some (.inr (.inr (some b))), some (.inl p1), some (.inr (.inl p2)), none, none] [] h := rfl
/-! TreeShellModel.isName(II)Z -/
theorem bl_127_0 (z : Bool) (d : Nat) (b : Nat) (p1 p2 : Int32) (h : ab_H) : ab_ev gG z (d + 1) 127 0 [some (.inr (.inr (some b))), some (.inl p1), some (.inl p2), none, none] [] h =
  if (p2 - p1) < (1 : Int32) then
  some (some (.inl (0 : Int32)), h)
else
  if (7 : Int32) < (p2 - p1) then
    some (some (.inl (0 : Int32)), h)
  else
    if ab_isc h b 7 = true then
      (ab_c1 (ab_cl gG z d 125 [.inr (.inr (some b)), .inl p1, .inl p2] h)).bind fun r1 =>
      if r1.1 = 0 then
      ab_ev gG z (d + 1) 127 19 [some (.inr (.inr (some b))), some (.inl p1), some (.inl p2), some (.inl p1), none] [] r1.2
    else
      some (some (.inl (0 : Int32)), r1.2)
    else none := ab_ev_ex [19, 34] 500 rfl
theorem bl_127_19 (z : Bool) (d : Nat) (b : Nat) (v1 v2 v3 : Int32) (u4 : Option ab_V) (h : ab_H) : ab_ev gG z (d + 1) 127 19 [some (.inr (.inr (some b))), some (.inl v1), some (.inl v2), some (.inl v3), u4] [] h =
  if v3 < v2 then
  (ab_fR h b 720).bind fun o1 =>
    o1.bind fun a2 => (ab_aI 0 h a2 v3).bind fun x3 =>
    if x3 < (97 : Int32) then
    ab_ev gG z (d + 1) 127 34 [some (.inr (.inr (some b))), some (.inl v1), some (.inl v2), some (.inl v3), some (.inl x3)] [] h
  else
    if (122 : Int32) < x3 then
      ab_ev gG z (d + 1) 127 34 [some (.inr (.inr (some b))), some (.inl v1), some (.inl v2), some (.inl v3), some (.inl x3)] [] h
    else
      ab_ev gG z (d + 1) 127 19 [some (.inr (.inr (some b))), some (.inl v1), some (.inl v2), some (.inl (v3 + (1 : Int32))), some (.inl x3)] [] h
else
  some (some (.inl (1 : Int32)), h) := ab_ev_ex [19, 34] 500 rfl
theorem bl_127_34 (z : Bool) (d : Nat) (b : Nat) (v1 v2 v3 v4 : Int32) (h : ab_H) : ab_ev gG z (d + 1) 127 34 [some (.inr (.inr (some b))), some (.inl v1), some (.inl v2), some (.inl v3), some (.inl v4)] [] h =
  if v4 < (48 : Int32) then
  if v4 = (95 : Int32) then
    ab_ev gG z (d + 1) 127 19 [some (.inr (.inr (some b))), some (.inl v1), some (.inl v2), some (.inl (v3 + (1 : Int32))), some (.inl v4)] [] h
  else
    if v4 = (46 : Int32) then
      ab_ev gG z (d + 1) 127 19 [some (.inr (.inr (some b))), some (.inl v1), some (.inl v2), some (.inl (v3 + (1 : Int32))), some (.inl v4)] [] h
    else
      some (some (.inl (0 : Int32)), h)
else
  if (57 : Int32) < v4 then
    if v4 = (95 : Int32) then
      ab_ev gG z (d + 1) 127 19 [some (.inr (.inr (some b))), some (.inl v1), some (.inl v2), some (.inl (v3 + (1 : Int32))), some (.inl v4)] [] h
    else
      if v4 = (46 : Int32) then
        ab_ev gG z (d + 1) 127 19 [some (.inr (.inr (some b))), some (.inl v1), some (.inl v2), some (.inl (v3 + (1 : Int32))), some (.inl v4)] [] h
      else
        some (some (.inl (0 : Int32)), h)
  else
    ab_ev gG z (d + 1) 127 19 [some (.inr (.inr (some b))), some (.inl v1), some (.inl v2), some (.inl (v3 + (1 : Int32))), some (.inl v4)] [] h := ab_ev_ex [19, 34] 500 rfl
theorem ent_127 (z : Bool) (d : Nat) (b : Nat) (p1 p2 : Int32) (h : ab_H) : ab_cl gG z d 127 [.inr (.inr (some b)), .inl p1, .inl p2] h = ab_ev gG z d 127 0 [some (.inr (.inr (some b))), some (.inl p1), some (.inl p2), none, none] [] h := rfl
/-! TreeShellModel.emit(I)V -/
theorem bl_128_0 (z : Bool) (d : Nat) (b : Nat) (p1 : Int32) (h : ab_H) : ab_ev gG z d 128 0 [some (.inr (.inr (some b))), some (.inl p1)] [] h =
  (ab_fI h b 735).bind fun x1 =>
  (ab_fI h b 702).bind fun x2 =>
  if x1 < x2 then
  (ab_fR h b 734).bind fun o3 =>
    (ab_fI h b 735).bind fun x4 =>
    o3.bind fun a5 => (ab_sI 0 h a5 x4 p1).bind fun h6 =>
    (ab_fI h6 b 735).bind fun x7 =>
    (ab_pf h6 b 735 (.inl (x7 + (1 : Int32)))).bind fun h8 =>
    some (none, h8)
else
  (ab_pf h b 736 (.inl (1 : Int32))).bind fun h9 =>
    some (none, h9) := ab_ev_ex [] 500 rfl
theorem ent_128 (z : Bool) (d : Nat) (b : Nat) (p1 : Int32) (h : ab_H) : ab_cl gG z d 128 [.inr (.inr (some b)), .inl p1] h = ab_ev gG z d 128 0 [some (.inr (.inr (some b))), some (.inl p1)] [] h := rfl
/-! TreeShellModel.reads(I)Z -/
theorem bl_129_0 (z : Bool) (d : Nat) (b : Nat) (p1 : Int32) (h : ab_H) : ab_ev gG z (d + 1) 129 0 [some (.inr (.inr (some b))), some (.inl p1), none, none, none] [] h =
  (ab_pf h b 738 (.inl (0 : Int32))).bind fun h1 =>
  (ab_fI h1 b 716).bind fun x2 =>
  if p1 < x2 then
  if ab_isc h1 b 7 = true then
    (ab_c0 (ab_cl gG z d 106 [.inr (.inr (some b)), .inl p1] h1)).bind fun h3 =>
    (ab_fI h3 b 742).bind fun x4 =>
    if x4 < 0 then
    some (some (.inl (0 : Int32)), h3)
  else
    (ab_fR h3 b 704).bind fun o5 =>
      (ab_fI h3 b 742).bind fun x6 =>
      o5.bind fun a7 => (ab_aI 1 h3 a7 x6).bind fun x8 =>
      if x8 = 0 then
      (ab_fR h3 b 707).bind fun o9 =>
        (ab_fI h3 b 742).bind fun x10 =>
        o9.bind fun a11 => (ab_aI 0 h3 a11 x10).bind fun x12 =>
        (ab_pf h3 b 738 (.inl x12)).bind fun h13 =>
        ab_ev gG z (d + 1) 129 30 [some (.inr (.inr (some b))), some (.inl p1), some (.inl (0 : Int32)), none, none] [] h13
    else
      some (some (.inl (0 : Int32)), h3)
  else none
else
  (ab_fR h1 b 724).bind fun o14 =>
    (ab_fI h1 b 721).bind fun x15 =>
    o14.bind fun a16 => (ab_aI 0 h1 a16 x15).bind fun x17 =>
    if x17 < 0 then
    (ab_pf h1 b 739 (.inl (0 : Int32))).bind fun h18 =>
      ab_ev gG z (d + 1) 129 100 [some (.inr (.inr (some b))), some (.inl p1), some (.inl (0 : Int32)), some (.inl (0 : Int32)), none] [] h18
  else
    (ab_fR h1 b 724).bind fun o19 =>
      (ab_fI h1 b 721).bind fun x20 =>
      o19.bind fun a21 => (ab_aI 0 h1 a21 x20).bind fun x22 =>
      (ab_fR h1 b 733).bind fun o23 =>
      o23.bind fun a24 => (ab_aI 0 h1 a24 x22).bind fun x25 =>
      (ab_pf h1 b 738 (.inl x25)).bind fun h26 =>
      ab_ev gG z (d + 1) 129 70 [some (.inr (.inr (some b))), some (.inl p1), some (.inl x22), some (.inl (0 : Int32)), none] [] h26 := ab_ev_ex [30, 70, 100, 125] 500 rfl
theorem bl_129_30 (z : Bool) (d : Nat) (b : Nat) (v1 v2 : Int32) (h : ab_H) : ab_ev gG z (d + 1) 129 30 [some (.inr (.inr (some b))), some (.inl v1), some (.inl v2), none, none] [] h =
  (ab_fI h b 738).bind fun x1 =>
  if v2 < x1 then
  (ab_fR h b 737).bind fun o2 =>
    (ab_fR h b 708).bind fun o3 =>
    (ab_fI h b 742).bind fun x4 =>
    o3.bind fun a5 => (ab_aI 0 h a5 (((160 : Int32) * x4) + v2)).bind fun x6 =>
    o2.bind fun a7 => (ab_sI 0 h a7 v2 x6).bind fun h8 =>
    ab_ev gG z (d + 1) 129 30 [some (.inr (.inr (some b))), some (.inl v1), some (.inl (v2 + (1 : Int32))), none, none] [] h8
else
  (ab_pf h b 739 (.inl (0 : Int32))).bind fun h9 =>
    ab_ev gG z (d + 1) 129 100 [some (.inr (.inr (some b))), some (.inl v1), some (.inl (0 : Int32)), some (.inl (0 : Int32)), none] [] h9 := ab_ev_ex [30, 70, 100, 125] 500 rfl
theorem bl_129_70 (z : Bool) (d : Nat) (b : Nat) (v1 v2 v3 : Int32) (h : ab_H) : ab_ev gG z (d + 1) 129 70 [some (.inr (.inr (some b))), some (.inl v1), some (.inl v2), some (.inl v3), none] [] h =
  (ab_fI h b 738).bind fun x1 =>
  if v3 < x1 then
  (ab_fR h b 737).bind fun o2 =>
    (ab_fR h b 732).bind fun o3 =>
    o3.bind fun a4 => (ab_aI 0 h a4 (((160 : Int32) * v2) + v3)).bind fun x5 =>
    o2.bind fun a6 => (ab_sI 0 h a6 v3 x5).bind fun h7 =>
    ab_ev gG z (d + 1) 129 70 [some (.inr (.inr (some b))), some (.inl v1), some (.inl v2), some (.inl (v3 + (1 : Int32))), none] [] h7
else
  (ab_fR h b 733).bind fun o8 =>
    o8.bind fun a9 => (ab_sI 0 h a9 v2 (0 : Int32)).bind fun h10 =>
    (ab_pf h10 b 739 (.inl (0 : Int32))).bind fun h11 =>
    ab_ev gG z (d + 1) 129 100 [some (.inr (.inr (some b))), some (.inl v1), some (.inl (0 : Int32)), some (.inl (0 : Int32)), none] [] h11 := ab_ev_ex [30, 70, 100, 125] 500 rfl
theorem bl_129_100 (z : Bool) (d : Nat) (b : Nat) (v1 v2 v3 : Int32) (u4 : Option ab_V) (h : ab_H) : ab_ev gG z (d + 1) 129 100 [some (.inr (.inr (some b))), some (.inl v1), some (.inl v2), some (.inl v3), u4] [] h =
  (ab_fI h b 738).bind fun x1 =>
  if x1 < v3 then
  some (some (.inl (1 : Int32)), h)
else
  (ab_fI h b 738).bind fun x2 =>
    if v3 < x2 then
    (ab_fR h b 737).bind fun o3 =>
      o3.bind fun a4 => (ab_aI 0 h a4 v3).bind fun x5 =>
      if x5 = (10 : Int32) then
      ab_ev gG z (d + 1) 129 125 [some (.inr (.inr (some b))), some (.inl v1), some (.inl v2), some (.inl v3), none] [.inl (1 : Int32)] h
    else
      ab_ev gG z (d + 1) 129 125 [some (.inr (.inr (some b))), some (.inl v1), some (.inl v2), some (.inl v3), none] [.inl (0 : Int32)] h
  else
    if v2 < v3 then
      ab_ev gG z (d + 1) 129 125 [some (.inr (.inr (some b))), some (.inl v1), some (.inl v2), some (.inl v3), none] [.inl (1 : Int32)] h
    else
      ab_ev gG z (d + 1) 129 125 [some (.inr (.inr (some b))), some (.inl v1), some (.inl v2), some (.inl v3), none] [.inl (0 : Int32)] h := ab_ev_ex [30, 70, 100, 125] 500 rfl
theorem bl_129_125 (z : Bool) (d : Nat) (b : Nat) (v1 v2 v3 s0 : Int32) (h : ab_H) : ab_ev gG z (d + 1) 129 125 [some (.inr (.inr (some b))), some (.inl v1), some (.inl v2), some (.inl v3), none] [.inl s0] h =
  if s0 = 0 then
  ab_ev gG z (d + 1) 129 100 [some (.inr (.inr (some b))), some (.inl v1), some (.inl v2), some (.inl (v3 + (1 : Int32))), some (.inl s0)] [] h
else
  (ab_fR h b 740).bind fun o1 =>
    (ab_fI h b 739).bind fun x2 =>
    o1.bind fun a3 => (ab_sI 0 h a3 x2 v2).bind fun h4 =>
    (ab_fR h4 b 741).bind fun o5 =>
    (ab_fI h4 b 739).bind fun x6 =>
    o5.bind fun a7 => (ab_sI 0 h4 a7 x6 v3).bind fun h8 =>
    (ab_fI h8 b 739).bind fun x9 =>
    (ab_pf h8 b 739 (.inl (x9 + (1 : Int32)))).bind fun h10 =>
    ab_ev gG z (d + 1) 129 100 [some (.inr (.inr (some b))), some (.inl v1), some (.inl (v3 + (1 : Int32))), some (.inl (v3 + (1 : Int32))), some (.inl s0)] [] h10 := ab_ev_ex [30, 70, 100, 125] 500 rfl
theorem ent_129 (z : Bool) (d : Nat) (b : Nat) (p1 : Int32) (h : ab_H) : ab_cl gG z d 129 [.inr (.inr (some b)), .inl p1] h = ab_ev gG z d 129 0 [some (.inr (.inr (some b))), some (.inl p1), none, none, none] [] h := rfl
/-! TreeShellModel.emitNumber(I)V -/
theorem bl_130_0 (z : Bool) (d : Nat) (b : Nat) (p1 : Int32) (h : ab_H) : ab_ev gG z (d + 1) 130 0 [some (.inr (.inr (some b))), some (.inl p1), none] [] h =
  (ab_c1 (ab_cl gG z d 109 [.inl p1] h)).bind fun r1 =>
  ab_ev gG z (d + 1) 130 3 [some (.inr (.inr (some b))), some (.inl p1), some (.inl r1.1)] [] r1.2 := ab_ev_ex [3] 500 rfl
theorem bl_130_3 (z : Bool) (d : Nat) (b : Nat) (v1 v2 : Int32) (h : ab_H) : ab_ev gG z (d + 1) 130 3 [some (.inr (.inr (some b))), some (.inl v1), some (.inl v2)] [] h =
  if 0 < v2 then
  if v2 = 0 then none else
    if ab_isc h b 7 = true then
      (ab_c0 (ab_cl gG z d 128 [.inr (.inr (some b)), .inl ((48 : Int32) + ((v1 / v2) - (v1 / v2) / (10 : Int32) * (10 : Int32)))] h)).bind fun h1 =>
      ab_ev gG z (d + 1) 130 3 [some (.inr (.inr (some b))), some (.inl v1), some (.inl (v2 / (10 : Int32)))] [] h1
    else none
else
  some (none, h) := ab_ev_ex [3] 500 rfl
theorem ent_130 (z : Bool) (d : Nat) (b : Nat) (p1 : Int32) (h : ab_H) : ab_cl gG z d 130 [.inr (.inr (some b)), .inl p1] h = ab_ev gG z d 130 0 [some (.inr (.inr (some b))), some (.inl p1), none] [] h := rfl
/-! TreeShellModel.stands(III)Z -/
theorem bl_131_0 (z : Bool) (d : Nat) (b : Nat) (p1 p2 p3 : Int32) (h : ab_H) : ab_ev gG z d 131 0 [some (.inr (.inr (some b))), some (.inl p1), some (.inl p2), some (.inl p3), none] [] h =
  ab_ev gG z d 131 2 [some (.inr (.inr (some b))), some (.inl p1), some (.inl p2), some (.inl p3), some (.inl p1)] [] h := ab_ev_ex [2] 500 rfl
theorem bl_131_2 (z : Bool) (d : Nat) (b : Nat) (v1 v2 v3 v4 : Int32) (h : ab_H) : ab_ev gG z d 131 2 [some (.inr (.inr (some b))), some (.inl v1), some (.inl v2), some (.inl v3), some (.inl v4)] [] h =
  if v4 < v2 then
  (ab_fR h b 720).bind fun o1 =>
    o1.bind fun a2 => (ab_aI 0 h a2 v4).bind fun x3 =>
    if x3 = (46 : Int32) then
    ab_ev gG z d 131 2 [some (.inr (.inr (some b))), some (.inl v1), some (.inl v2), some (.inl v3), some (.inl (v4 + (1 : Int32)))] [] h
  else
    (ab_fR h b 720).bind fun o4 =>
      o4.bind fun a5 => (ab_aI 0 h a5 v4).bind fun x6 =>
      (ab_fR h b 737).bind fun o7 =>
      o7.bind fun a8 => (ab_aI 0 h a8 ((v3 + v4) - v1)).bind fun x9 =>
      if x6 = x9 then
      ab_ev gG z d 131 2 [some (.inr (.inr (some b))), some (.inl v1), some (.inl v2), some (.inl v3), some (.inl (v4 + (1 : Int32)))] [] h
    else
      some (some (.inl (0 : Int32)), h)
else
  some (some (.inl (1 : Int32)), h) := ab_ev_ex [2] 500 rfl
theorem ent_131 (z : Bool) (d : Nat) (b : Nat) (p1 p2 p3 : Int32) (h : ab_H) : ab_cl gG z d 131 [.inr (.inr (some b)), .inl p1, .inl p2, .inl p3] h = ab_ev gG z d 131 0 [some (.inr (.inr (some b))), some (.inl p1), some (.inl p2), some (.inl p3), none] [] h := rfl
/-! TreeShellModel.emitLine(I)V -/
theorem bl_132_0 (z : Bool) (d : Nat) (b : Nat) (p1 : Int32) (h : ab_H) : ab_ev gG z (d + 1) 132 0 [some (.inr (.inr (some b))), some (.inl p1), none] [] h =
  (ab_fR h b 740).bind fun o1 =>
  o1.bind fun a2 => (ab_aI 0 h a2 p1).bind fun x3 =>
  ab_ev gG z (d + 1) 132 5 [some (.inr (.inr (some b))), some (.inl p1), some (.inl x3)] [] h := ab_ev_ex [5] 500 rfl
theorem bl_132_5 (z : Bool) (d : Nat) (b : Nat) (v1 v2 : Int32) (h : ab_H) : ab_ev gG z (d + 1) 132 5 [some (.inr (.inr (some b))), some (.inl v1), some (.inl v2)] [] h =
  (ab_fR h b 741).bind fun o1 =>
  o1.bind fun a2 => (ab_aI 0 h a2 v1).bind fun x3 =>
  if v2 < x3 then
  (ab_fR h b 737).bind fun o4 =>
    o4.bind fun a5 => (ab_aI 0 h a5 v2).bind fun x6 =>
    if ab_isc h b 7 = true then
    (ab_c0 (ab_cl gG z d 128 [.inr (.inr (some b)), .inl x6] h)).bind fun h7 =>
    ab_ev gG z (d + 1) 132 5 [some (.inr (.inr (some b))), some (.inl v1), some (.inl (v2 + (1 : Int32)))] [] h7
  else none
else
  if ab_isc h b 7 = true then
    (ab_c0 (ab_cl gG z d 128 [.inr (.inr (some b)), .inl (10 : Int32)] h)).bind fun h8 =>
    some (none, h8)
  else none := ab_ev_ex [5] 500 rfl
theorem ent_132 (z : Bool) (d : Nat) (b : Nat) (p1 : Int32) (h : ab_H) : ab_cl gG z d 132 [.inr (.inr (some b)), .inl p1] h = ab_ev gG z d 132 0 [some (.inr (.inr (some b))), some (.inl p1), none] [] h := rfl
/-! TreeShellModel.emitName(J)V -/
theorem bl_133_0 (z : Bool) (d : Nat) (b : Nat) (p1 : Int64) (h : ab_H) : ab_ev gG z (d + 1) 133 0 [some (.inr (.inr (some b))), some (.inr (.inl p1)), none, none, none] [] h =
  ab_ev gG z (d + 1) 133 2 [some (.inr (.inr (some b))), some (.inr (.inl p1)), none, some (.inl (6 : Int32)), none] [] h := ab_ev_ex [2] 500 rfl
theorem bl_133_2 (z : Bool) (d : Nat) (b : Nat) (v1 : Int64) (v3 : Int32) (u4 : Option ab_V) (h : ab_H) : ab_ev gG z (d + 1) 133 2 [some (.inr (.inr (some b))), some (.inr (.inl v1)), none, some (.inl v3), u4] [] h =
  if v3 < 0 then
  some (none, h)
else
  if (((v1 >>> ((((8 : Int32) * v3)).toInt64 &&& 63))).toInt32 &&& (255 : Int32)) = 0 then
    ab_ev gG z (d + 1) 133 2 [some (.inr (.inr (some b))), some (.inr (.inl v1)), none, some (.inl (v3 + (-1 : Int32))), some (.inl (((v1 >>> ((((8 : Int32) * v3)).toInt64 &&& 63))).toInt32 &&& (255 : Int32)))] [] h
  else
    if ab_isc h b 7 = true then
      (ab_c0 (ab_cl gG z d 128 [.inr (.inr (some b)), .inl (((v1 >>> ((((8 : Int32) * v3)).toInt64 &&& 63))).toInt32 &&& (255 : Int32))] h)).bind fun h1 =>
      ab_ev gG z (d + 1) 133 2 [some (.inr (.inr (some b))), some (.inr (.inl v1)), none, some (.inl (v3 + (-1 : Int32))), some (.inl (((v1 >>> ((((8 : Int32) * v3)).toInt64 &&& 63))).toInt32 &&& (255 : Int32)))] [] h1
    else none := ab_ev_ex [2] 500 rfl
theorem ent_133 (z : Bool) (d : Nat) (b : Nat) (p1 : Int64) (h : ab_H) : ab_cl gG z d 133 [.inr (.inr (some b)), .inr (.inl p1)] h = ab_ev gG z d 133 0 [some (.inr (.inr (some b))), some (.inr (.inl p1)), none, none, none] [] h := rfl
end
