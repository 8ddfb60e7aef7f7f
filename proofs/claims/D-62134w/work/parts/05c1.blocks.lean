section
set_option maxRecDepth 100000
set_option maxHeartbeats 2000000
/-! TreeShell.wipe()V -/
theorem bl_23_0 (z : Bool) (d : Nat) (b : Nat) (h : ab_H) : ab_ev gG z d 23 0 [some (.inr (.inr (some b)))] [] h =
  (ab_fR h b 7).bind fun o1 =>
  o1.bind fun a2 => (ab_pf h a2 501 (.inl (0 : Int32))).bind fun h3 =>
  some (none, h3) := ab_ev_ex [] 500 rfl
theorem ent_23 (z : Bool) (d : Nat) (b : Nat) (h : ab_H) : ab_cl gG z d 23 [.inr (.inr (some b))] h = ab_ev gG z d 23 0 [some (.inr (.inr (some b)))] [] h := rfl
/-! TreeShell.typed()I -/
theorem bl_25_0 (z : Bool) (d : Nat) (b : Nat) (h : ab_H) : ab_ev gG z d 25 0 [some (.inr (.inr (some b)))] [] h =
  (ab_fR h b 7).bind fun o1 =>
  o1.bind fun a2 => (ab_fI h a2 501).bind fun x3 =>
  some (some (.inl x3), h) := ab_ev_ex [] 500 rfl
theorem ent_25 (z : Bool) (d : Nat) (b : Nat) (h : ab_H) : ab_cl gG z d 25 [.inr (.inr (some b))] h = ab_ev gG z d 25 0 [some (.inr (.inr (some b)))] [] h := rfl
/-! TreeShell.check()I -/
theorem bl_27_0 (z : Bool) (d : Nat) (b : Nat) (h : ab_H) : ab_ev gG z (d + 1) 27 0 [some (.inr (.inr (some b))), none, none] [] h =
  if ab_isc h b 0 = true then
  (ab_c1 (ab_cl gG z d 57 [.inr (.inr (some b))] h)).bind fun r1 =>
  if r1.1 = 0 then
  some (some (.inl (-1 : Int32)), r1.2)
else
  ab_ev gG z (d + 1) 27 9 [some (.inr (.inr (some b))), some (.inl (0 : Int32)), some (.inl (0 : Int32))] [] r1.2
else none := ab_ev_ex [9] 500 rfl
theorem bl_27_9 (z : Bool) (d : Nat) (b : Nat) (v1 v2 : Int32) (h : ab_H) : ab_ev gG z (d + 1) 27 9 [some (.inr (.inr (some b))), some (.inl v1), some (.inl v2)] [] h =
  (ab_fR h b 7).bind fun o1 =>
  o1.bind fun a2 => (ab_fI h a2 505).bind fun x3 =>
  if v2 < x3 then
  (ab_fR h b 7).bind fun o4 =>
    o4.bind fun a5 => (ab_fR h a5 502).bind fun o6 =>
    o6.bind fun a7 => (ab_aR h a7 v2).bind fun o8 =>
    if (o8 : Option Nat) = some (ab_ga h 0) then
    ab_ev gG z (d + 1) 27 9 [some (.inr (.inr (some b))), some (.inl (v1 + (1 : Int32))), some (.inl (v2 + (1 : Int32)))] [] h
  else
    ab_ev gG z (d + 1) 27 9 [some (.inr (.inr (some b))), some (.inl v1), some (.inl (v2 + (1 : Int32)))] [] h
else
  some (some (.inl v1), h) := ab_ev_ex [9] 500 rfl
theorem ent_27 (z : Bool) (d : Nat) (b : Nat) (h : ab_H) : ab_cl gG z d 27 [.inr (.inr (some b))] h = ab_ev gG z d 27 0 [some (.inr (.inr (some b))), none, none] [] h := rfl
/-! TreeShell.enter()I -/
theorem bl_29_0 (z : Bool) (d : Nat) (b : Nat) (h : ab_H) : ab_ev gG z (d + 1) 29 0 [some (.inr (.inr (some b))), none] [] h =
  (ab_pf h b 16 (.inl (0 : Int32))).bind fun h1 =>
  (ab_fR h1 b 14).bind fun o2 =>
  o2.bind fun a3 => if ab_isc h1 a3 8 = true then
  (ab_c0 (ab_cl gG z d 8 [.inr (.inr (some a3)), .inl (0 : Int32)] h1)).bind fun h4 =>
  if ab_isc h4 b 0 = true then
  (ab_c1 (ab_cl gG z d 57 [.inr (.inr (some b))] h4)).bind fun r5 =>
  (ab_pf r5.2 b 8 (.inl (0 : Int32))).bind fun h6 =>
  if r5.1 = 0 then
  (ab_fR h6 b 7).bind fun o7 =>
    o7.bind fun a8 => (ab_pf h6 a8 501 (.inl (0 : Int32))).bind fun h9 =>
    if r5.1 = 0 then
    some (some (.inl (-1 : Int32)), h9)
  else
    (ab_fI h9 b 15).bind fun x10 =>
      some (some (.inl x10), h9)
else
  if ab_isc h6 b 0 = true then
    (ab_c3 (ab_cl gG z d 59 [.inr (.inr (some b))] h6)).bind fun r11 =>
    if (r11.1 : Option Nat) = some (ab_ga r11.2 11) then
    (ab_fR r11.2 b 7).bind fun o12 =>
      o12.bind fun a13 => (ab_pf r11.2 a13 501 (.inl (0 : Int32))).bind fun h14 =>
      if r5.1 = 0 then
      some (some (.inl (-1 : Int32)), h14)
    else
      (ab_fI h14 b 15).bind fun x15 =>
        some (some (.inl x15), h14)
  else
    (ab_pf r11.2 b 17 (.inl (0 : Int32))).bind fun h16 =>
      (ab_fR h16 b 10).bind fun o17 =>
      o17.bind fun a18 => (ab_aR h16 a18 (0 : Int32)).bind fun o19 =>
      (ab_fR h16 b 13).bind fun o20 =>
      o19.bind fun a21 => (ab_pf h16 a21 403 (.inr (.inr o20))).bind fun h22 =>
      (ab_fR h22 b 10).bind fun o23 =>
      o23.bind fun a24 => (ab_aR h22 a24 (0 : Int32)).bind fun o25 =>
      (ab_fR h22 b 14).bind fun o26 =>
      o25.bind fun a27 => (ab_pf h22 a27 404 (.inr (.inr o26))).bind fun h28 =>
      if ab_isc h28 b 0 = true then
      (ab_c0 (ab_cl gG z d 60 [.inr (.inr (some b)), .inl (0 : Int32)] h28)).bind fun h29 =>
      (ab_fI h29 b 17).bind fun x30 =>
      if x30 = 0 then
      (ab_fR h29 b 7).bind fun o31 =>
        o31.bind fun a32 => (ab_pf h29 a32 501 (.inl (0 : Int32))).bind fun h33 =>
        if r5.1 = 0 then
        some (some (.inl (-1 : Int32)), h33)
      else
        (ab_fI h33 b 15).bind fun x34 =>
          some (some (.inl x34), h33)
    else
      (ab_pf h29 b 15 (.inl (100 : Int32))).bind fun h35 =>
        (ab_fR h35 b 7).bind fun o36 =>
        o36.bind fun a37 => (ab_pf h35 a37 501 (.inl (0 : Int32))).bind fun h38 =>
        if r5.1 = 0 then
        some (some (.inl (-1 : Int32)), h38)
      else
        (ab_fI h38 b 15).bind fun x39 =>
          some (some (.inl x39), h38)
    else none
  else none
else none
else none := ab_ev_ex [] 500 rfl
theorem ent_29 (z : Bool) (d : Nat) (b : Nat) (h : ab_H) : ab_cl gG z d 29 [.inr (.inr (some b))] h = ab_ev gG z d 29 0 [some (.inr (.inr (some b))), none] [] h := rfl
/-! TreeShell.status()I -/
theorem bl_31_0 (z : Bool) (d : Nat) (b : Nat) (h : ab_H) : ab_ev gG z d 31 0 [some (.inr (.inr (some b)))] [] h =
  (ab_fI h b 15).bind fun x1 =>
  some (some (.inl x1), h) := ab_ev_ex [] 500 rfl
theorem ent_31 (z : Bool) (d : Nat) (b : Nat) (h : ab_H) : ab_cl gG z d 31 [.inr (.inr (some b))] h = ab_ev gG z d 31 0 [some (.inr (.inr (some b)))] [] h := rfl
/-! TreeShell.length()I -/
theorem bl_33_0 (z : Bool) (d : Nat) (b : Nat) (h : ab_H) : ab_ev gG z (d + 1) 33 0 [some (.inr (.inr (some b)))] [] h =
  (ab_fR h b 14).bind fun o1 =>
  o1.bind fun a2 => if ab_isc h a2 8 = true then
  (ab_c1 (ab_cl gG z d 7 [.inr (.inr (some a2))] h)).bind fun r3 =>
  some (some (.inl r3.1), r3.2)
else none := ab_ev_ex [] 500 rfl
theorem ent_33 (z : Bool) (d : Nat) (b : Nat) (h : ab_H) : ab_cl gG z d 33 [.inr (.inr (some b))] h = ab_ev gG z d 33 0 [some (.inr (.inr (some b)))] [] h := rfl
/-! TreeShell.out(I)J -/
theorem bl_35_0 (z : Bool) (d : Nat) (b : Nat) (p1 : Int32) (h : ab_H) : ab_ev gG z (d + 1) 35 0 [some (.inr (.inr (some b))), some (.inl p1), none, none, none] [] h =
  if p1 < 0 then
  some (some (.inr (.inl (0 : Int64))), h)
else
  if (12 : Int32) < p1 then
    some (some (.inr (.inl (0 : Int64))), h)
  else
    ab_ev gG z (d + 1) 35 13 [some (.inr (.inr (some b))), some (.inl p1), some (.inr (.inl (0 : Int64))), none, some (.inl ((8 : Int32) * p1))] [] h := ab_ev_ex [13] 500 rfl
theorem bl_35_13 (z : Bool) (d : Nat) (b : Nat) (v1 v4 : Int32) (v2 : Int64) (h : ab_H) : ab_ev gG z (d + 1) 35 13 [some (.inr (.inr (some b))), some (.inl v1), some (.inr (.inl v2)), none, some (.inl v4)] [] h =
  if v4 < (((8 : Int32) * v1) + (8 : Int32)) then
  (ab_fR h b 14).bind fun o1 =>
    o1.bind fun a2 => if ab_isc h a2 8 = true then
    (ab_c1 (ab_cl gG z d 7 [.inr (.inr (some a2))] h)).bind fun r3 =>
    if v4 < r3.1 then
    (ab_fR r3.2 b 14).bind fun o4 =>
      o4.bind fun a5 => if ab_isc r3.2 a5 8 = true then
      (ab_c1 (ab_cl gG z d 6 [.inr (.inr (some a5)), .inl v4] r3.2)).bind fun r6 =>
      ab_ev gG z (d + 1) 35 13 [some (.inr (.inr (some b))), some (.inl v1), some (.inr (.inl ((v2 <<< (((8 : Int32)).toInt64 &&& 63)) ||| (r6.1).toInt64))), none, some (.inl (v4 + (1 : Int32)))] [] r6.2
    else none
  else
    ab_ev gG z (d + 1) 35 13 [some (.inr (.inr (some b))), some (.inl v1), some (.inr (.inl ((v2 <<< (((8 : Int32)).toInt64 &&& 63)) ||| ((0 : Int32)).toInt64))), none, some (.inl (v4 + (1 : Int32)))] [] r3.2
  else none
else
  some (some (.inr (.inl v2)), h) := ab_ev_ex [13] 500 rfl
theorem ent_35 (z : Bool) (d : Nat) (b : Nat) (p1 : Int32) (h : ab_H) : ab_cl gG z d 35 [.inr (.inr (some b)), .inl p1] h = ab_ev gG z d 35 0 [some (.inr (.inr (some b))), some (.inl p1), none, none, none] [] h := rfl
/-! TreeShell.ran()I -/
theorem bl_37_0 (z : Bool) (d : Nat) (b : Nat) (h : ab_H) : ab_ev gG z d 37 0 [some (.inr (.inr (some b)))] [] h =
  (ab_fI h b 16).bind fun x1 =>
  some (some (.inl x1), h) := ab_ev_ex [] 500 rfl
theorem ent_37 (z : Bool) (d : Nat) (b : Nat) (h : ab_H) : ab_cl gG z d 37 [.inr (.inr (some b))] h = ab_ev gG z d 37 0 [some (.inr (.inr (some b)))] [] h := rfl
/-! TreeShell.nodes()I -/
theorem bl_39_0 (z : Bool) (d : Nat) (b : Nat) (h : ab_H) : ab_ev gG z d 39 0 [some (.inr (.inr (some b)))] [] h =
  (ab_fI h b 5).bind fun x1 =>
  some (some (.inl x1), h) := ab_ev_ex [] 500 rfl
theorem ent_39 (z : Bool) (d : Nat) (b : Nat) (h : ab_H) : ab_cl gG z d 39 [.inr (.inr (some b))] h = ab_ev gG z d 39 0 [some (.inr (.inr (some b)))] [] h := rfl
/-! TreeShell.chars()I -/
theorem bl_41_0 (z : Bool) (d : Nat) (b : Nat) (h : ab_H) : ab_ev gG z d 41 0 [some (.inr (.inr (some b)))] [] h =
  (ab_fI h b 6).bind fun x1 =>
  some (some (.inl x1), h) := ab_ev_ex [] 500 rfl
theorem ent_41 (z : Bool) (d : Nat) (b : Nat) (h : ab_H) : ab_cl gG z d 41 [.inr (.inr (some b))] h = ab_ev gG z d 41 0 [some (.inr (.inr (some b)))] [] h := rfl
/-! TreeShell.depth()I -/
theorem bl_43_0 (z : Bool) (d : Nat) (b : Nat) (h : ab_H) : ab_ev gG z d 43 0 [some (.inr (.inr (some b))), none, none] [] h =
  (ab_fR h b 4).bind fun o1 =>
  ab_ev gG z d 43 5 [some (.inr (.inr (some b))), some (.inl (0 : Int32)), some (.inr (.inr o1))] [] h := ab_ev_ex [5] 500 rfl
theorem bl_43_5 (z : Bool) (d : Nat) (b : Nat) (v1 : Int32) (v2 : Option Nat) (h : ab_H) : ab_ev gG z d 43 5 [some (.inr (.inr (some b))), some (.inl v1), some (.inr (.inr v2))] [] h =
  v2.bind fun a1 => (ab_fR h a1 1201).bind fun o2 =>
  if (o2 : Option Nat) = none then
  some (some (.inl v1), h)
else
  v2.bind fun a3 => (ab_fR h a3 1201).bind fun o4 =>
    ab_ev gG z d 43 5 [some (.inr (.inr (some b))), some (.inl (v1 + (1 : Int32))), some (.inr (.inr o4))] [] h := ab_ev_ex [5] 500 rfl
theorem ent_43 (z : Bool) (d : Nat) (b : Nat) (h : ab_H) : ab_cl gG z d 43 [.inr (.inr (some b))] h = ab_ev gG z d 43 0 [some (.inr (.inr (some b))), none, none] [] h := rfl
/-! TreeShell$Dir.<init>(JLTreeShell$Dir;)V -/
theorem bl_51_0 (z : Bool) (d : Nat) (b : Nat) (p1 : Int64) (p2 : Option Nat) (h : ab_H) : ab_ev gG z (d + 1) 51 0 [some (.inr (.inr (some b))), some (.inr (.inl p1)), none, some (.inr (.inr p2))] [] h =
  (ab_c0 (ab_cl gG z d 66 [.inr (.inr (some b)), .inr (.inl p1), .inr (.inr p2)] h)).bind fun h1 =>
  some (none, h1) := ab_ev_ex [] 500 rfl
theorem ent_51 (z : Bool) (d : Nat) (b : Nat) (p1 : Int64) (p2 : Option Nat) (h : ab_H) : ab_cl gG z d 51 [.inr (.inr (some b)), .inr (.inl p1), .inr (.inr p2)] h = ab_ev gG z d 51 0 [some (.inr (.inr (some b))), some (.inr (.inl p1)), none, some (.inr (.inr p2))] [] h := rfl
/-! TreeShell$Line.<init>()V -/
theorem bl_52_0 (z : Bool) (d : Nat) (b : Nat) (h : ab_H) : ab_ev gG z (d + 1) 52 0 [some (.inr (.inr (some b)))] [] h =
  (ab_c0 (ab_cl gG z d 0 [.inr (.inr (some b))] h)).bind fun h1 =>
  (ab_pf (ab_mk h1 (ab_cI 2 64 (fun _ => 0)) 64) b 500 (.inr (.inr (some (ab_sz h1))))).bind fun h2 =>
  (ab_pf (ab_mk h2 (ab_cR 9 65 (fun _ => none)) 65) b 502 (.inr (.inr (some (ab_sz h2))))).bind fun h3 =>
  (ab_pf (ab_mk h3 (ab_cI 0 65 (fun _ => 0)) 65) b 503 (.inr (.inr (some (ab_sz h3))))).bind fun h4 =>
  (ab_pf (ab_mk h4 (ab_cI 0 65 (fun _ => 0)) 65) b 504 (.inr (.inr (some (ab_sz h4))))).bind fun h5 =>
  some (none, h5) := ab_ev_ex [] 500 rfl
theorem ent_52 (z : Bool) (d : Nat) (b : Nat) (h : ab_H) : ab_cl gG z d 52 [.inr (.inr (some b))] h = ab_ev gG z d 52 0 [some (.inr (.inr (some b)))] [] h := rfl
/-! TreeShell$Words.<init>()V -/
theorem bl_53_0 (z : Bool) (d : Nat) (b : Nat) (h : ab_H) : ab_ev gG z (d + 1) 53 0 [some (.inr (.inr (some b)))] [] h =
  (ab_c0 (ab_cl gG z d 0 [.inr (.inr (some b))] h)).bind fun h1 =>
  (ab_c0 (ab_cl gG z d 3 [.inr (.inr (some (ab_sz h1)))] (ab_mk h1 (ab_cO 8 (ab_birth 8)) 4))).bind fun h2 =>
  (ab_pf h2 b 600 (.inr (.inr (some (ab_sz h1))))).bind fun h3 =>
  (ab_pf (ab_mk h3 (ab_cI 0 66 (fun _ => 0)) 66) b 601 (.inr (.inr (some (ab_sz h3))))).bind fun h4 =>
  (ab_pf (ab_mk h4 (ab_cI 0 66 (fun _ => 0)) 66) b 603 (.inr (.inr (some (ab_sz h4))))).bind fun h5 =>
  some (none, h5) := ab_ev_ex [] 500 rfl
theorem ent_53 (z : Bool) (d : Nat) (b : Nat) (h : ab_H) : ab_cl gG z d 53 [.inr (.inr (some b))] h = ab_ev gG z d 53 0 [some (.inr (.inr (some b)))] [] h := rfl
/-! TreeShell$Tool.values()[LTreeShell$Tool; -/
theorem bl_54_0 (z : Bool) (d : Nat)  (h : ab_H) : ab_ev gG z (d + 1) 54 0 [] [] h =
  (ab_c3 (ab_cl gG z d 2 [.inr (.inr (some (ab_ga h 30)))] h)).bind fun r1 =>
  r1.1.bind fun a2 => if ab_isc r1.2 a2 99 = true then
  some (some (.inr (.inr (some a2))), r1.2)
else none := ab_ev_ex [] 500 rfl
theorem ent_54 (z : Bool) (d : Nat)  (h : ab_H) : ab_cl gG z d 54 [] h = ab_ev gG z d 54 0 [] [] h := rfl
/-! TreeShell$Grep.<init>()V -/
theorem bl_55_0 (z : Bool) (d : Nat) (b : Nat) (h : ab_H) : ab_ev gG z (d + 1) 55 0 [some (.inr (.inr (some b)))] [] h =
  (ab_c0 (ab_cl gG z d 0 [.inr (.inr (some b))] h)).bind fun h1 =>
  some (none, h1) := ab_ev_ex [] 500 rfl
theorem ent_55 (z : Bool) (d : Nat) (b : Nat) (h : ab_H) : ab_cl gG z d 55 [.inr (.inr (some b))] h = ab_ev gG z d 55 0 [some (.inr (.inr (some b)))] [] h := rfl
/-! TreeShell$Level.<init>()V -/
theorem bl_56_0 (z : Bool) (d : Nat) (b : Nat) (h : ab_H) : ab_ev gG z (d + 1) 56 0 [some (.inr (.inr (some b)))] [] h =
  (ab_c0 (ab_cl gG z d 0 [.inr (.inr (some b))] h)).bind fun h1 =>
  (ab_c0 (ab_cl gG z d 3 [.inr (.inr (some (ab_sz h1)))] (ab_mk h1 (ab_cO 8 (ab_birth 8)) 4))).bind fun h2 =>
  (ab_pf h2 b 400 (.inr (.inr (some (ab_sz h1))))).bind fun h3 =>
  (ab_c0 (ab_cl gG z d 3 [.inr (.inr (some (ab_sz h3)))] (ab_mk h3 (ab_cO 8 (ab_birth 8)) 4))).bind fun h4 =>
  (ab_pf h4 b 401 (.inr (.inr (some (ab_sz h3))))).bind fun h5 =>
  (ab_c0 (ab_cl gG z d 3 [.inr (.inr (some (ab_sz h5)))] (ab_mk h5 (ab_cO 8 (ab_birth 8)) 4))).bind fun h6 =>
  (ab_pf h6 b 402 (.inr (.inr (some (ab_sz h5))))).bind fun h7 =>
  some (none, h7) := ab_ev_ex [] 500 rfl
theorem ent_56 (z : Bool) (d : Nat) (b : Nat) (h : ab_H) : ab_cl gG z d 56 [.inr (.inr (some b))] h = ab_ev gG z d 56 0 [some (.inr (.inr (some b)))] [] h := rfl
/-! TreeShell.parse()Z -/
theorem bl_57_0 (z : Bool) (d : Nat) (b : Nat) (h : ab_H) : ab_ev gG z (d + 1) 57 0 [some (.inr (.inr (some b)))] [] h =
  (ab_fR h b 7).bind fun o1 =>
  o1.bind fun a2 => if ab_isc h a2 5 = true then
  (ab_c1 (ab_cl gG z d 67 [.inr (.inr (some a2))] h)).bind fun r3 =>
  if r3.1 = 0 then
  some (some (.inl (0 : Int32)), r3.2)
else
  (ab_pf r3.2 b 8 (.inl (0 : Int32))).bind fun h4 =>
    if ab_isc h4 b 0 = true then
    (ab_c3 (ab_cl gG z d 59 [.inr (.inr (some b))] h4)).bind fun r5 =>
    if (r5.1 : Option Nat) = some (ab_ga r5.2 11) then
    some (some (.inl (1 : Int32)), r5.2)
  else
    if ab_isc r5.2 b 0 = true then
      (ab_c1 (ab_cl gG z d 68 [.inr (.inr (some b)), .inl (0 : Int32)] r5.2)).bind fun r6 =>
      if r6.1 = 0 then
      some (some (.inl (0 : Int32)), r6.2)
    else
      if ab_isc r6.2 b 0 = true then
        (ab_c3 (ab_cl gG z d 59 [.inr (.inr (some b))] r6.2)).bind fun r7 =>
        if (r7.1 : Option Nat) = some (ab_ga r7.2 11) then
        some (some (.inl (1 : Int32)), r7.2)
      else
        some (some (.inl (0 : Int32)), r7.2)
      else none
    else none
  else none
else none := ab_ev_ex [] 500 rfl
theorem ent_57 (z : Bool) (d : Nat) (b : Nat) (h : ab_H) : ab_cl gG z d 57 [.inr (.inr (some b))] h = ab_ev gG z d 57 0 [some (.inr (.inr (some b)))] [] h := rfl
/-! TreeShell.mark()LTreeShell$Mark; -/
theorem bl_59_0 (z : Bool) (d : Nat) (b : Nat) (h : ab_H) : ab_ev gG z d 59 0 [some (.inr (.inr (some b)))] [] h =
  (ab_fR h b 7).bind fun o1 =>
  o1.bind fun a2 => (ab_fR h a2 502).bind fun o3 =>
  (ab_fI h b 8).bind fun x4 =>
  o3.bind fun a5 => (ab_aR h a5 x4).bind fun o6 =>
  some (some (.inr (.inr o6)), h) := ab_ev_ex [] 500 rfl
theorem ent_59 (z : Bool) (d : Nat) (b : Nat) (h : ab_H) : ab_cl gG z d 59 [.inr (.inr (some b))] h = ab_ev gG z d 59 0 [some (.inr (.inr (some b)))] [] h := rfl
end
