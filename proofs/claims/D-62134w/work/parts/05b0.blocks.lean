section
set_option maxRecDepth 100000
set_option maxHeartbeats 2000000
/-! TreeShellModel.<init>(III)V -/
theorem bl_20_0 (z : Bool) (d : Nat) (b : Nat) (p1 p2 p3 : Int32) (h : ab_H) : ab_ev gG z (d + 1) 20 0 [some (.inr (.inr (some b))), some (.inl p1), some (.inl p2), some (.inl p3)] [] h =
  (ab_c0 (ab_cl gG z d 0 [.inr (.inr (some b))] h)).bind fun h1 =>
  (ab_pf (ab_mk h1 (ab_cI 3 13 (fun _ => 0)) 13) b 703 (.inr (.inr (some (ab_sz h1))))).bind fun h2 =>
  (ab_pf (ab_mk h2 (ab_cI 3 13 (fun _ => 0)) 13) b 704 (.inr (.inr (some (ab_sz h2))))).bind fun h3 =>
  (ab_pf (ab_mk h3 (ab_cI 0 13 (fun _ => 0)) 13) b 705 (.inr (.inr (some (ab_sz h3))))).bind fun h4 =>
  (ab_pf (ab_mk h4 (ab_cL 13 (fun _ => 0)) 13) b 706 (.inr (.inr (some (ab_sz h4))))).bind fun h5 =>
  (ab_pf (ab_mk h5 (ab_cI 0 13 (fun _ => 0)) 13) b 707 (.inr (.inr (some (ab_sz h5))))).bind fun h6 =>
  (ab_pf (ab_mk h6 (ab_cI 0 2080 (fun _ => 0)) 2080) b 708 (.inr (.inr (some (ab_sz h6))))).bind fun h7 =>
  (ab_pf (ab_mk h7 (ab_cI 0 64 (fun _ => 0)) 64) b 711 (.inr (.inr (some (ab_sz h7))))).bind fun h8 =>
  (ab_pf (ab_mk h8 (ab_cI 0 64 (fun _ => 0)) 64) b 713 (.inr (.inr (some (ab_sz h8))))).bind fun h9 =>
  (ab_pf (ab_mk h9 (ab_cI 0 64 (fun _ => 0)) 64) b 714 (.inr (.inr (some (ab_sz h9))))).bind fun h10 =>
  (ab_pf (ab_mk h10 (ab_cI 0 64 (fun _ => 0)) 64) b 715 (.inr (.inr (some (ab_sz h10))))).bind fun h11 =>
  (ab_pf (ab_mk h11 (ab_cI 0 65 (fun _ => 0)) 65) b 717 (.inr (.inr (some (ab_sz h11))))).bind fun h12 =>
  (ab_pf (ab_mk h12 (ab_cI 0 65 (fun _ => 0)) 65) b 718 (.inr (.inr (some (ab_sz h12))))).bind fun h13 =>
  (ab_pf (ab_mk h13 (ab_cI 0 200 (fun _ => 0)) 200) b 720 (.inr (.inr (some (ab_sz h13))))).bind fun h14 =>
  (ab_pf (ab_mk h14 (ab_cI 0 5 (fun _ => 0)) 5) b 723 (.inr (.inr (some (ab_sz h14))))).bind fun h15 =>
  (ab_pf (ab_mk h15 (ab_cI 0 5 (fun _ => 0)) 5) b 724 (.inr (.inr (some (ab_sz h15))))).bind fun h16 =>
  (ab_pf (ab_mk h16 (ab_cI 0 5 (fun _ => 0)) 5) b 725 (.inr (.inr (some (ab_sz h16))))).bind fun h17 =>
  (ab_pf (ab_mk h17 (ab_cI 0 5 (fun _ => 0)) 5) b 726 (.inr (.inr (some (ab_sz h17))))).bind fun h18 =>
  (ab_pf (ab_mk h18 (ab_cI 0 5 (fun _ => 0)) 5) b 727 (.inr (.inr (some (ab_sz h18))))).bind fun h19 =>
  (ab_pf (ab_mk h19 (ab_cI 3 5 (fun _ => 0)) 5) b 728 (.inr (.inr (some (ab_sz h19))))).bind fun h20 =>
  (ab_pf (ab_mk h20 (ab_cI 3 5 (fun _ => 0)) 5) b 729 (.inr (.inr (some (ab_sz h20))))).bind fun h21 =>
  (ab_pf (ab_mk h21 (ab_cI 0 480 (fun _ => 0)) 480) b 730 (.inr (.inr (some (ab_sz h21))))).bind fun h22 =>
  (ab_pf (ab_mk h22 (ab_cI 0 5 (fun _ => 0)) 5) b 731 (.inr (.inr (some (ab_sz h22))))).bind fun h23 =>
  (ab_pf (ab_mk h23 (ab_cI 0 1600 (fun _ => 0)) 1600) b 732 (.inr (.inr (some (ab_sz h23))))).bind fun h24 =>
  (ab_pf (ab_mk h24 (ab_cI 0 10 (fun _ => 0)) 10) b 733 (.inr (.inr (some (ab_sz h24))))).bind fun h25 =>
  (ab_pf (ab_mk h25 (ab_cI 0 96 (fun _ => 0)) 96) b 734 (.inr (.inr (some (ab_sz h25))))).bind fun h26 =>
  (ab_pf (ab_mk h26 (ab_cI 0 160 (fun _ => 0)) 160) b 737 (.inr (.inr (some (ab_sz h26))))).bind fun h27 =>
  (ab_pf (ab_mk h27 (ab_cI 0 161 (fun _ => 0)) 161) b 740 (.inr (.inr (some (ab_sz h27))))).bind fun h28 =>
  (ab_pf (ab_mk h28 (ab_cI 0 161 (fun _ => 0)) 161) b 741 (.inr (.inr (some (ab_sz h28))))).bind fun h29 =>
  (ab_pf (ab_mk h29 (ab_cI 0 96 (fun _ => 0)) 96) b 747 (.inr (.inr (some (ab_sz h29))))).bind fun h30 =>
  if p1 < (1 : Int32) then
  ab_ev gG z (d + 1) 20 130 [some (.inr (.inr (some b))), some (.inl p1), some (.inl p2), some (.inl p3)] [.inl (1 : Int32), .inr (.inr (some b))] h30
else
  if (12 : Int32) < p1 then
    ab_ev gG z (d + 1) 20 130 [some (.inr (.inr (some b))), some (.inl p1), some (.inl p2), some (.inl p3)] [.inl (12 : Int32), .inr (.inr (some b))] h30
  else
    ab_ev gG z (d + 1) 20 130 [some (.inr (.inr (some b))), some (.inl p1), some (.inl p2), some (.inl p3)] [.inl p1, .inr (.inr (some b))] h30 := ab_ev_ex [130, 142] 500 rfl
theorem bl_20_130 (z : Bool) (d : Nat) (b : Nat) (v1 v2 v3 s0 : Int32) (s1 : Option Nat) (h : ab_H) : ab_ev gG z (d + 1) 20 130 [some (.inr (.inr (some b))), some (.inl v1), some (.inl v2), some (.inl v3)] [.inl s0, .inr (.inr s1)] h =
  s1.bind fun a1 => (ab_pf h a1 700 (.inl s0)).bind fun h2 =>
  if v2 < 0 then
  ab_ev gG z (d + 1) 20 142 [some (.inr (.inr (some b))), some (.inl v1), some (.inl v2), some (.inl v3)] [.inl (0 : Int32), .inr (.inr (some b))] h2
else
  if (160 : Int32) < v2 then
    ab_ev gG z (d + 1) 20 142 [some (.inr (.inr (some b))), some (.inl v1), some (.inl v2), some (.inl v3)] [.inl (160 : Int32), .inr (.inr (some b))] h2
  else
    ab_ev gG z (d + 1) 20 142 [some (.inr (.inr (some b))), some (.inl v1), some (.inl v2), some (.inl v3)] [.inl v2, .inr (.inr (some b))] h2 := ab_ev_ex [130, 142] 500 rfl
theorem bl_20_142 (z : Bool) (d : Nat) (b : Nat) (v1 v2 v3 s0 : Int32) (s1 : Option Nat) (h : ab_H) : ab_ev gG z (d + 1) 20 142 [some (.inr (.inr (some b))), some (.inl v1), some (.inl v2), some (.inl v3)] [.inl s0, .inr (.inr s1)] h =
  s1.bind fun a1 => (ab_pf h a1 701 (.inl s0)).bind fun h2 =>
  if v3 < (8 : Int32) then
  (ab_pf h2 b 702 (.inl (8 : Int32))).bind fun h3 =>
    (ab_fR h3 b 703).bind fun o4 =>
    o4.bind fun a5 => (ab_sI 1 h3 a5 (0 : Int32) (1 : Int32)).bind fun h6 =>
    (ab_fR h6 b 704).bind fun o7 =>
    o7.bind fun a8 => (ab_sI 1 h6 a8 (0 : Int32) (1 : Int32)).bind fun h9 =>
    some (none, h9)
else
  if (96 : Int32) < v3 then
    (ab_pf h2 b 702 (.inl (96 : Int32))).bind fun h10 =>
      (ab_fR h10 b 703).bind fun o11 =>
      o11.bind fun a12 => (ab_sI 1 h10 a12 (0 : Int32) (1 : Int32)).bind fun h13 =>
      (ab_fR h13 b 704).bind fun o14 =>
      o14.bind fun a15 => (ab_sI 1 h13 a15 (0 : Int32) (1 : Int32)).bind fun h16 =>
      some (none, h16)
  else
    (ab_pf h2 b 702 (.inl v3)).bind fun h17 =>
      (ab_fR h17 b 703).bind fun o18 =>
      o18.bind fun a19 => (ab_sI 1 h17 a19 (0 : Int32) (1 : Int32)).bind fun h20 =>
      (ab_fR h20 b 704).bind fun o21 =>
      o21.bind fun a22 => (ab_sI 1 h20 a22 (0 : Int32) (1 : Int32)).bind fun h23 =>
      some (none, h23) := ab_ev_ex [130, 142] 500 rfl
theorem ent_20 (z : Bool) (d : Nat) (b : Nat) (p1 p2 p3 : Int32) (h : ab_H) : ab_cl gG z d 20 [.inr (.inr (some b)), .inl p1, .inl p2, .inl p3] h = ab_ev gG z d 20 0 [some (.inr (.inr (some b))), some (.inl p1), some (.inl p2), some (.inl p3)] [] h := rfl
/-! TreeShellModel.type(J)Z -/
theorem bl_22_0 (z : Bool) (d : Nat) (b : Nat) (p1 : Int64) (h : ab_H) : ab_ev gG z d 22 0 [some (.inr (.inr (some b))), some (.inr (.inl p1)), none, none, none, none] [] h =
  (ab_fI h b 710).bind fun x1 =>
  ab_ev gG z d 22 5 [some (.inr (.inr (some b))), some (.inr (.inl p1)), none, some (.inl x1), some (.inl (0 : Int32)), none] [] h := ab_ev_ex [5] 500 rfl
theorem bl_22_5 (z : Bool) (d : Nat) (b : Nat) (v1 : Int64) (v3 v4 : Int32) (u5 : Option ab_V) (h : ab_H) : ab_ev gG z d 22 5 [some (.inr (.inr (some b))), some (.inr (.inl v1)), none, some (.inl v3), some (.inl v4), u5] [] h =
  if v4 < (8 : Int32) then
  if ((((v1).toUInt64 >>> ((((56 : Int32) - ((8 : Int32) * v4))).toInt64.toUInt64 &&& Int64.toUInt64 63)).toInt64).toInt32 &&& (255 : Int32)) = 0 then
    if ((((v1).toUInt64 >>> ((((56 : Int32) - ((8 : Int32) * v4))).toInt64.toUInt64 &&& Int64.toUInt64 63)).toInt64).toInt32 &&& (255 : Int32)) = 0 then
      ab_ev gG z d 22 5 [some (.inr (.inr (some b))), some (.inr (.inl v1)), none, some (.inl v3), some (.inl (v4 + (1 : Int32))), some (.inl ((((v1).toUInt64 >>> ((((56 : Int32) - ((8 : Int32) * v4))).toInt64.toUInt64 &&& Int64.toUInt64 63)).toInt64).toInt32 &&& (255 : Int32)))] [] h
    else
      (ab_fR h b 711).bind fun o1 =>
        o1.bind fun a2 => (ab_sI 0 h a2 v3 ((((v1).toUInt64 >>> ((((56 : Int32) - ((8 : Int32) * v4))).toInt64.toUInt64 &&& Int64.toUInt64 63)).toInt64).toInt32 &&& (255 : Int32))).bind fun h3 =>
        ab_ev gG z d 22 5 [some (.inr (.inr (some b))), some (.inr (.inl v1)), none, some (.inl (v3 + (1 : Int32))), some (.inl (v4 + (1 : Int32))), some (.inl ((((v1).toUInt64 >>> ((((56 : Int32) - ((8 : Int32) * v4))).toInt64.toUInt64 &&& Int64.toUInt64 63)).toInt64).toInt32 &&& (255 : Int32)))] [] h3
  else
    if ((((v1).toUInt64 >>> ((((56 : Int32) - ((8 : Int32) * v4))).toInt64.toUInt64 &&& Int64.toUInt64 63)).toInt64).toInt32 &&& (255 : Int32)) < (32 : Int32) then
      some (some (.inl (0 : Int32)), h)
    else
      if (126 : Int32) < ((((v1).toUInt64 >>> ((((56 : Int32) - ((8 : Int32) * v4))).toInt64.toUInt64 &&& Int64.toUInt64 63)).toInt64).toInt32 &&& (255 : Int32)) then
        some (some (.inl (0 : Int32)), h)
      else
        if v3 = (64 : Int32) then
          some (some (.inl (0 : Int32)), h)
        else
          if ((((v1).toUInt64 >>> ((((56 : Int32) - ((8 : Int32) * v4))).toInt64.toUInt64 &&& Int64.toUInt64 63)).toInt64).toInt32 &&& (255 : Int32)) = 0 then
            ab_ev gG z d 22 5 [some (.inr (.inr (some b))), some (.inr (.inl v1)), none, some (.inl v3), some (.inl (v4 + (1 : Int32))), some (.inl ((((v1).toUInt64 >>> ((((56 : Int32) - ((8 : Int32) * v4))).toInt64.toUInt64 &&& Int64.toUInt64 63)).toInt64).toInt32 &&& (255 : Int32)))] [] h
          else
            (ab_fR h b 711).bind fun o4 =>
              o4.bind fun a5 => (ab_sI 0 h a5 v3 ((((v1).toUInt64 >>> ((((56 : Int32) - ((8 : Int32) * v4))).toInt64.toUInt64 &&& Int64.toUInt64 63)).toInt64).toInt32 &&& (255 : Int32))).bind fun h6 =>
              ab_ev gG z d 22 5 [some (.inr (.inr (some b))), some (.inr (.inl v1)), none, some (.inl (v3 + (1 : Int32))), some (.inl (v4 + (1 : Int32))), some (.inl ((((v1).toUInt64 >>> ((((56 : Int32) - ((8 : Int32) * v4))).toInt64.toUInt64 &&& Int64.toUInt64 63)).toInt64).toInt32 &&& (255 : Int32)))] [] h6
else
  (ab_pf h b 710 (.inl v3)).bind fun h7 =>
    some (some (.inl (1 : Int32)), h7) := ab_ev_ex [5] 500 rfl
theorem ent_22 (z : Bool) (d : Nat) (b : Nat) (p1 : Int64) (h : ab_H) : ab_cl gG z d 22 [.inr (.inr (some b)), .inr (.inl p1)] h = ab_ev gG z d 22 0 [some (.inr (.inr (some b))), some (.inr (.inl p1)), none, none, none, none] [] h := rfl
/-! TreeShellModel.wipe()V -/
theorem bl_24_0 (z : Bool) (d : Nat) (b : Nat) (h : ab_H) : ab_ev gG z d 24 0 [some (.inr (.inr (some b)))] [] h =
  (ab_pf h b 710 (.inl (0 : Int32))).bind fun h1 =>
  some (none, h1) := ab_ev_ex [] 500 rfl
theorem ent_24 (z : Bool) (d : Nat) (b : Nat) (h : ab_H) : ab_cl gG z d 24 [.inr (.inr (some b))] h = ab_ev gG z d 24 0 [some (.inr (.inr (some b)))] [] h := rfl
/-! TreeShellModel.typed()I -/
theorem bl_26_0 (z : Bool) (d : Nat) (b : Nat) (h : ab_H) : ab_ev gG z d 26 0 [some (.inr (.inr (some b)))] [] h =
  (ab_fI h b 710).bind fun x1 =>
  some (some (.inl x1), h) := ab_ev_ex [] 500 rfl
theorem ent_26 (z : Bool) (d : Nat) (b : Nat) (h : ab_H) : ab_cl gG z d 26 [.inr (.inr (some b))] h = ab_ev gG z d 26 0 [some (.inr (.inr (some b)))] [] h := rfl
/-! TreeShellModel.check()I -/
theorem bl_28_0 (z : Bool) (d : Nat) (b : Nat) (h : ab_H) : ab_ev gG z (d + 1) 28 0 [some (.inr (.inr (some b))), none, none] [] h =
  if ab_isc h b 7 = true then
  (ab_c1 (ab_cl gG z d 58 [.inr (.inr (some b))] h)).bind fun r1 =>
  if r1.1 = 0 then
  some (some (.inl (-1 : Int32)), r1.2)
else
  ab_ev gG z (d + 1) 28 9 [some (.inr (.inr (some b))), some (.inl (0 : Int32)), some (.inl (0 : Int32))] [] r1.2
else none := ab_ev_ex [9] 500 rfl
theorem bl_28_9 (z : Bool) (d : Nat) (b : Nat) (v1 v2 : Int32) (h : ab_H) : ab_ev gG z (d + 1) 28 9 [some (.inr (.inr (some b))), some (.inl v1), some (.inl v2)] [] h =
  (ab_fI h b 712).bind fun x1 =>
  if v2 < x1 then
  (ab_fR h b 713).bind fun o2 =>
    o2.bind fun a3 => (ab_aI 0 h a3 v2).bind fun x4 =>
    if x4 = 0 then
    ab_ev gG z (d + 1) 28 9 [some (.inr (.inr (some b))), some (.inl (v1 + (1 : Int32))), some (.inl (v2 + (1 : Int32)))] [] h
  else
    ab_ev gG z (d + 1) 28 9 [some (.inr (.inr (some b))), some (.inl v1), some (.inl (v2 + (1 : Int32)))] [] h
else
  some (some (.inl v1), h) := ab_ev_ex [9] 500 rfl
theorem ent_28 (z : Bool) (d : Nat) (b : Nat) (h : ab_H) : ab_cl gG z d 28 [.inr (.inr (some b))] h = ab_ev gG z d 28 0 [some (.inr (.inr (some b))), none, none] [] h := rfl
/-! TreeShellModel.enter()I -/
theorem bl_30_0 (z : Bool) (d : Nat) (b : Nat) (h : ab_H) : ab_ev gG z (d + 1) 30 0 [some (.inr (.inr (some b))), none, none] [] h =
  if ab_isc h b 7 = true then
  (ab_c1 (ab_cl gG z d 58 [.inr (.inr (some b))] h)).bind fun r1 =>
  (ab_pf r1.2 b 710 (.inl (0 : Int32))).bind fun h2 =>
  (ab_pf h2 b 746 (.inl (0 : Int32))).bind fun h3 =>
  (ab_pf h3 b 748 (.inl (0 : Int32))).bind fun h4 =>
  if r1.1 = 0 then
  some (some (.inl (-1 : Int32)), h4)
else
  (ab_pf h4 b 721 (.inl (0 : Int32))).bind fun h5 =>
    (ab_pf h5 b 722 (.inl (0 : Int32))).bind fun h6 =>
    (ab_fR h6 b 723).bind fun o7 =>
    o7.bind fun a8 => (ab_sI 0 h6 a8 (0 : Int32) (-1 : Int32)).bind fun h9 =>
    (ab_fR h9 b 731).bind fun o10 =>
    o10.bind fun a11 => (ab_sI 0 h9 a11 (0 : Int32) (0 : Int32)).bind fun h12 =>
    (ab_fI h12 b 712).bind fun x13 =>
    if 0 < x13 then
    if ab_isc h12 b 7 = true then
      (ab_c1 (ab_cl gG z d 61 [.inr (.inr (some b))] h12)).bind fun r14 =>
      if r14.1 = 0 then
      if ab_isc r14.2 b 7 = true then
        (ab_c0 (ab_cl gG z d 62 [.inr (.inr (some b))] r14.2)).bind fun h15 =>
        (ab_fR h15 b 731).bind fun o16 =>
        o16.bind fun a17 => (ab_aI 0 h15 a17 (0 : Int32)).bind fun x18 =>
        (ab_pf h15 b 746 (.inl x18)).bind fun h19 =>
        ab_ev gG z (d + 1) 30 48 [some (.inr (.inr (some b))), some (.inl r1.1), some (.inl (0 : Int32))] [] h19
      else none
    else
      (ab_fR r14.2 b 731).bind fun o20 =>
        o20.bind fun a21 => (ab_aI 0 r14.2 a21 (0 : Int32)).bind fun x22 =>
        (ab_pf r14.2 b 746 (.inl x22)).bind fun h23 =>
        ab_ev gG z (d + 1) 30 48 [some (.inr (.inr (some b))), some (.inl r1.1), some (.inl (0 : Int32))] [] h23
    else none
  else
    (ab_fR h12 b 731).bind fun o24 =>
      o24.bind fun a25 => (ab_aI 0 h12 a25 (0 : Int32)).bind fun x26 =>
      (ab_pf h12 b 746 (.inl x26)).bind fun h27 =>
      ab_ev gG z (d + 1) 30 48 [some (.inr (.inr (some b))), some (.inl r1.1), some (.inl (0 : Int32))] [] h27
else none := ab_ev_ex [48] 500 rfl
theorem bl_30_48 (z : Bool) (d : Nat) (b : Nat) (v1 v2 : Int32) (h : ab_H) : ab_ev gG z (d + 1) 30 48 [some (.inr (.inr (some b))), some (.inl v1), some (.inl v2)] [] h =
  (ab_fI h b 746).bind fun x1 =>
  if v2 < x1 then
  (ab_fR h b 747).bind fun o2 =>
    (ab_fR h b 730).bind fun o3 =>
    o3.bind fun a4 => (ab_aI 0 h a4 v2).bind fun x5 =>
    o2.bind fun a6 => (ab_sI 0 h a6 v2 x5).bind fun h7 =>
    ab_ev gG z (d + 1) 30 48 [some (.inr (.inr (some b))), some (.inl v1), some (.inl (v2 + (1 : Int32)))] [] h7
else
  (ab_fI h b 745).bind fun x8 =>
    some (some (.inl x8), h) := ab_ev_ex [48] 500 rfl
theorem ent_30 (z : Bool) (d : Nat) (b : Nat) (h : ab_H) : ab_cl gG z d 30 [.inr (.inr (some b))] h = ab_ev gG z d 30 0 [some (.inr (.inr (some b))), none, none] [] h := rfl
/-! TreeShellModel.status()I -/
theorem bl_32_0 (z : Bool) (d : Nat) (b : Nat) (h : ab_H) : ab_ev gG z d 32 0 [some (.inr (.inr (some b)))] [] h =
  (ab_fI h b 745).bind fun x1 =>
  some (some (.inl x1), h) := ab_ev_ex [] 500 rfl
theorem ent_32 (z : Bool) (d : Nat) (b : Nat) (h : ab_H) : ab_cl gG z d 32 [.inr (.inr (some b))] h = ab_ev gG z d 32 0 [some (.inr (.inr (some b)))] [] h := rfl
/-! TreeShellModel.length()I -/
theorem bl_34_0 (z : Bool) (d : Nat) (b : Nat) (h : ab_H) : ab_ev gG z d 34 0 [some (.inr (.inr (some b)))] [] h =
  (ab_fI h b 746).bind fun x1 =>
  some (some (.inl x1), h) := ab_ev_ex [] 500 rfl
theorem ent_34 (z : Bool) (d : Nat) (b : Nat) (h : ab_H) : ab_cl gG z d 34 [.inr (.inr (some b))] h = ab_ev gG z d 34 0 [some (.inr (.inr (some b)))] [] h := rfl
/-! TreeShellModel.out(I)J -/
theorem bl_36_0 (z : Bool) (d : Nat) (b : Nat) (p1 : Int32) (h : ab_H) : ab_ev gG z d 36 0 [some (.inr (.inr (some b))), some (.inl p1), none, none, none] [] h =
  if p1 < 0 then
  some (some (.inr (.inl (0 : Int64))), h)
else
  if (11 : Int32) < p1 then
    some (some (.inr (.inl (0 : Int64))), h)
  else
    ab_ev gG z d 36 13 [some (.inr (.inr (some b))), some (.inl p1), some (.inr (.inl (0 : Int64))), none, some (.inl ((8 : Int32) * p1))] [] h := ab_ev_ex [13] 500 rfl
theorem bl_36_13 (z : Bool) (d : Nat) (b : Nat) (v1 v4 : Int32) (v2 : Int64) (h : ab_H) : ab_ev gG z d 36 13 [some (.inr (.inr (some b))), some (.inl v1), some (.inr (.inl v2)), none, some (.inl v4)] [] h =
  if v4 < (((8 : Int32) * v1) + (8 : Int32)) then
  (ab_fI h b 746).bind fun x1 =>
    if v4 < x1 then
    (ab_fR h b 747).bind fun o2 =>
      o2.bind fun a3 => (ab_aI 0 h a3 v4).bind fun x4 =>
      ab_ev gG z d 36 13 [some (.inr (.inr (some b))), some (.inl v1), some (.inr (.inl ((v2 <<< (((8 : Int32)).toInt64 &&& 63)) ||| (x4).toInt64))), none, some (.inl (v4 + (1 : Int32)))] [] h
  else
    ab_ev gG z d 36 13 [some (.inr (.inr (some b))), some (.inl v1), some (.inr (.inl ((v2 <<< (((8 : Int32)).toInt64 &&& 63)) ||| ((0 : Int32)).toInt64))), none, some (.inl (v4 + (1 : Int32)))] [] h
else
  some (some (.inr (.inl v2)), h) := ab_ev_ex [13] 500 rfl
theorem ent_36 (z : Bool) (d : Nat) (b : Nat) (p1 : Int32) (h : ab_H) : ab_cl gG z d 36 [.inr (.inr (some b)), .inl p1] h = ab_ev gG z d 36 0 [some (.inr (.inr (some b))), some (.inl p1), none, none, none] [] h := rfl
/-! TreeShellModel.ran()I -/
theorem bl_38_0 (z : Bool) (d : Nat) (b : Nat) (h : ab_H) : ab_ev gG z d 38 0 [some (.inr (.inr (some b)))] [] h =
  (ab_fI h b 748).bind fun x1 =>
  some (some (.inl x1), h) := ab_ev_ex [] 500 rfl
theorem ent_38 (z : Bool) (d : Nat) (b : Nat) (h : ab_H) : ab_cl gG z d 38 [.inr (.inr (some b))] h = ab_ev gG z d 38 0 [some (.inr (.inr (some b)))] [] h := rfl
/-! TreeShellModel.nodes()I -/
theorem bl_40_0 (z : Bool) (d : Nat) (b : Nat) (h : ab_H) : ab_ev gG z d 40 0 [some (.inr (.inr (some b))), none, none] [] h =
  ab_ev gG z d 40 4 [some (.inr (.inr (some b))), some (.inl (0 : Int32)), some (.inl (1 : Int32))] [] h := ab_ev_ex [4] 500 rfl
theorem bl_40_4 (z : Bool) (d : Nat) (b : Nat) (v1 v2 : Int32) (h : ab_H) : ab_ev gG z d 40 4 [some (.inr (.inr (some b))), some (.inl v1), some (.inl v2)] [] h =
  if v2 < (13 : Int32) then
  (ab_fR h b 703).bind fun o1 =>
    o1.bind fun a2 => (ab_aI 1 h a2 v2).bind fun x3 =>
    if x3 = 0 then
    ab_ev gG z d 40 4 [some (.inr (.inr (some b))), some (.inl v1), some (.inl (v2 + (1 : Int32)))] [] h
  else
    ab_ev gG z d 40 4 [some (.inr (.inr (some b))), some (.inl (v1 + (1 : Int32))), some (.inl (v2 + (1 : Int32)))] [] h
else
  some (some (.inl v1), h) := ab_ev_ex [4] 500 rfl
theorem ent_40 (z : Bool) (d : Nat) (b : Nat) (h : ab_H) : ab_cl gG z d 40 [.inr (.inr (some b))] h = ab_ev gG z d 40 0 [some (.inr (.inr (some b))), none, none] [] h := rfl
/-! TreeShellModel.chars()I -/
theorem bl_42_0 (z : Bool) (d : Nat) (b : Nat) (h : ab_H) : ab_ev gG z d 42 0 [some (.inr (.inr (some b))), none, none] [] h =
  ab_ev gG z d 42 4 [some (.inr (.inr (some b))), some (.inl (0 : Int32)), some (.inl (0 : Int32))] [] h := ab_ev_ex [4] 500 rfl
theorem bl_42_4 (z : Bool) (d : Nat) (b : Nat) (v1 v2 : Int32) (h : ab_H) : ab_ev gG z d 42 4 [some (.inr (.inr (some b))), some (.inl v1), some (.inl v2)] [] h =
  if v2 < (13 : Int32) then
  (ab_fR h b 703).bind fun o1 =>
    o1.bind fun a2 => (ab_aI 1 h a2 v2).bind fun x3 =>
    if x3 = 0 then
    ab_ev gG z d 42 4 [some (.inr (.inr (some b))), some (.inl v1), some (.inl (v2 + (1 : Int32)))] [] h
  else
    (ab_fR h b 707).bind fun o4 =>
      o4.bind fun a5 => (ab_aI 0 h a5 v2).bind fun x6 =>
      ab_ev gG z d 42 4 [some (.inr (.inr (some b))), some (.inl (v1 + x6)), some (.inl (v2 + (1 : Int32)))] [] h
else
  some (some (.inl v1), h) := ab_ev_ex [4] 500 rfl
theorem ent_42 (z : Bool) (d : Nat) (b : Nat) (h : ab_H) : ab_cl gG z d 42 [.inr (.inr (some b))] h = ab_ev gG z d 42 0 [some (.inr (.inr (some b))), none, none] [] h := rfl
/-! TreeShellModel.depth()I -/
theorem bl_44_0 (z : Bool) (d : Nat) (b : Nat) (h : ab_H) : ab_ev gG z d 44 0 [some (.inr (.inr (some b))), none, none] [] h =
  (ab_fI h b 709).bind fun x1 =>
  ab_ev gG z d 44 5 [some (.inr (.inr (some b))), some (.inl (0 : Int32)), some (.inl x1)] [] h := ab_ev_ex [5] 500 rfl
theorem bl_44_5 (z : Bool) (d : Nat) (b : Nat) (v1 v2 : Int32) (h : ab_H) : ab_ev gG z d 44 5 [some (.inr (.inr (some b))), some (.inl v1), some (.inl v2)] [] h =
  if v2 = 0 then
  some (some (.inl v1), h)
else
  if v1 < (13 : Int32) then
    (ab_fR h b 705).bind fun o1 =>
      o1.bind fun a2 => (ab_aI 0 h a2 v2).bind fun x3 =>
      ab_ev gG z d 44 5 [some (.inr (.inr (some b))), some (.inl (v1 + (1 : Int32))), some (.inl x3)] [] h
  else
    some (some (.inl v1), h) := ab_ev_ex [5] 500 rfl
theorem ent_44 (z : Bool) (d : Nat) (b : Nat) (h : ab_H) : ab_cl gG z d 44 [.inr (.inr (some b))] h = ab_ev gG z d 44 0 [some (.inr (.inr (some b))), none, none] [] h := rfl
/-! TreeShellModel.grammar()Z -/
theorem bl_58_0 (z : Bool) (d : Nat) (b : Nat) (h : ab_H) : ab_ev gG z (d + 1) 58 0 [some (.inr (.inr (some b))), none, none, none] [] h =
  if ab_isc h b 7 = true then
  (ab_c1 (ab_cl gG z d 69 [.inr (.inr (some b))] h)).bind fun r1 =>
  if r1.1 = 0 then
  some (some (.inl (0 : Int32)), r1.2)
else
  ab_ev gG z (d + 1) 58 11 [some (.inr (.inr (some b))), some (.inl (0 : Int32)), some (.inl (0 : Int32)), some (.inl (0 : Int32))] [] r1.2
else none := ab_ev_ex [11] 500 rfl
theorem bl_58_11 (z : Bool) (d : Nat) (b : Nat) (v1 v2 v3 : Int32) (h : ab_H) : ab_ev gG z (d + 1) 58 11 [some (.inr (.inr (some b))), some (.inl v1), some (.inl v2), some (.inl v3)] [] h =
  (ab_fI h b 712).bind fun x1 =>
  if v3 < x1 then
  (ab_fR h b 713).bind fun o2 =>
    o2.bind fun a3 => (ab_aI 0 h a3 v3).bind fun x4 =>
    (ab_c1 (ab_cl gG z d 70 [.inl v1, .inl x4, .inl v2] h)).bind fun r5 =>
    if r5.1 < 0 then
    some (some (.inl (0 : Int32)), r5.2)
  else
    (ab_fR r5.2 b 713).bind fun o6 =>
      o6.bind fun a7 => (ab_aI 0 r5.2 a7 v3).bind fun x8 =>
      if x8 = (8 : Int32) then
      ab_ev gG z (d + 1) 58 11 [some (.inr (.inr (some b))), some (.inl r5.1), some (.inl (v2 + (1 : Int32))), some (.inl (v3 + (1 : Int32)))] [] r5.2
    else
      (ab_fR r5.2 b 713).bind fun o9 =>
        o9.bind fun a10 => (ab_aI 0 r5.2 a10 v3).bind fun x11 =>
        if x11 = (9 : Int32) then
        ab_ev gG z (d + 1) 58 11 [some (.inr (.inr (some b))), some (.inl r5.1), some (.inl (v2 - (1 : Int32))), some (.inl (v3 + (1 : Int32)))] [] r5.2
      else
        ab_ev gG z (d + 1) 58 11 [some (.inr (.inr (some b))), some (.inl r5.1), some (.inl v2), some (.inl (v3 + (1 : Int32)))] [] r5.2
else
  (ab_fI h b 712).bind fun x12 =>
    if x12 = 0 then
    some (some (.inl (1 : Int32)), h)
  else
    if v2 = 0 then
      if v1 = (1 : Int32) then
        some (some (.inl (1 : Int32)), h)
      else
        if v1 = (5 : Int32) then
          some (some (.inl (1 : Int32)), h)
        else
          if v1 = (6 : Int32) then
            some (some (.inl (1 : Int32)), h)
          else
            some (some (.inl (0 : Int32)), h)
    else
      some (some (.inl (0 : Int32)), h) := ab_ev_ex [11] 500 rfl
theorem ent_58 (z : Bool) (d : Nat) (b : Nat) (h : ab_H) : ab_cl gG z d 58 [.inr (.inr (some b))] h = ab_ev gG z d 58 0 [some (.inr (.inr (some b))), none, none, none] [] h := rfl
/-! TreeShellModel.execute()Z -/
theorem bl_61_0 (z : Bool) (d : Nat) (b : Nat) (h : ab_H) : ab_ev gG z (d + 1) 61 0 [some (.inr (.inr (some b))), none, none] [] h =
  if ab_isc h b 7 = true then
  (ab_c0 (ab_cl gG z d 73 [.inr (.inr (some b))] h)).bind fun h1 =>
  ab_ev gG z (d + 1) 61 4 [some (.inr (.inr (some b))), some (.inl (0 : Int32)), none] [] h1
else none := ab_ev_ex [4, 25, 38] 500 rfl
theorem bl_61_4 (z : Bool) (d : Nat) (b : Nat) (v1 : Int32) (u2 : Option ab_V) (h : ab_H) : ab_ev gG z (d + 1) 61 4 [some (.inr (.inr (some b))), some (.inl v1), u2] [] h =
  if v1 < (300 : Int32) then
  if ab_isc h b 7 = true then
    (ab_c1 (ab_cl gG z d 74 [.inr (.inr (some b))] h)).bind fun r1 =>
    if r1.1 = (-9 : Int32) then
    some (some (.inl (0 : Int32)), r1.2)
  else
    if r1.1 < 0 then
      ab_ev gG z (d + 1) 61 25 [some (.inr (.inr (some b))), some (.inl v1), some (.inl r1.1)] [] r1.2
    else
      if ab_isc r1.2 b 7 = true then
        (ab_c1 (ab_cl gG z d 75 [.inr (.inr (some b)), .inl r1.1, .inl (0 : Int32)] r1.2)).bind fun r2 =>
        if r2.1 = 0 then
        some (some (.inl (0 : Int32)), r2.2)
      else
        ab_ev gG z (d + 1) 61 25 [some (.inr (.inr (some b))), some (.inl v1), some (.inl r1.1)] [] r2.2
      else none
  else none
else
  some (some (.inl (1 : Int32)), h) := ab_ev_ex [4, 25, 38] 500 rfl
theorem bl_61_25 (z : Bool) (d : Nat) (b : Nat) (v1 v2 : Int32) (h : ab_H) : ab_ev gG z (d + 1) 61 25 [some (.inr (.inr (some b))), some (.inl v1), some (.inl v2)] [] h =
  if v2 < 0 then
  ab_ev gG z (d + 1) 61 38 [some (.inr (.inr (some b))), some (.inl v1), some (.inl v2)] [] h
else
  (ab_fI h b 722).bind fun x1 =>
    if ab_isc h b 7 = true then
    (ab_c1 (ab_cl gG z d 76 [.inr (.inr (some b)), .inl x1] h)).bind fun r2 =>
    if r2.1 = (9 : Int32) then
    if ab_isc r2.2 b 7 = true then
      (ab_c1 (ab_cl gG z d 77 [.inr (.inr (some b))] r2.2)).bind fun r3 =>
      if r3.1 = 0 then
      some (some (.inl (0 : Int32)), r3.2)
    else
      ab_ev gG z (d + 1) 61 25 [some (.inr (.inr (some b))), some (.inl v1), some (.inl v2)] [] r3.2
    else none
  else
    ab_ev gG z (d + 1) 61 38 [some (.inr (.inr (some b))), some (.inl v1), some (.inl v2)] [] r2.2
  else none := ab_ev_ex [4, 25, 38] 500 rfl
theorem bl_61_38 (z : Bool) (d : Nat) (b : Nat) (v1 v2 : Int32) (h : ab_H) : ab_ev gG z (d + 1) 61 38 [some (.inr (.inr (some b))), some (.inl v1), some (.inl v2)] [] h =
  if v2 < 0 then
  ab_ev gG z (d + 1) 61 4 [some (.inr (.inr (some b))), some (.inl (v1 + (1 : Int32))), some (.inl v2)] [] h
else
  (ab_fI h b 722).bind fun x1 =>
    (ab_fI h b 712).bind fun x2 =>
    if x1 < x2 then
    ab_ev gG z (d + 1) 61 4 [some (.inr (.inr (some b))), some (.inl (v1 + (1 : Int32))), some (.inl v2)] [] h
  else
    some (some (.inl (1 : Int32)), h) := ab_ev_ex [4, 25, 38] 500 rfl
theorem ent_61 (z : Bool) (d : Nat) (b : Nat) (h : ab_H) : ab_cl gG z d 61 [.inr (.inr (some b))] h = ab_ev gG z d 61 0 [some (.inr (.inr (some b))), none, none] [] h := rfl
/-! TreeShellModel.giveUp()V -/
theorem bl_62_0 (z : Bool) (d : Nat) (b : Nat) (h : ab_H) : ab_ev gG z d 62 0 [some (.inr (.inr (some b))), none] [] h =
  (ab_fI h b 721).bind fun x1 =>
  ab_ev gG z d 62 3 [some (.inr (.inr (some b))), some (.inl x1)] [] h := ab_ev_ex [3] 500 rfl
theorem bl_62_3 (z : Bool) (d : Nat) (b : Nat) (v1 : Int32) (h : ab_H) : ab_ev gG z d 62 3 [some (.inr (.inr (some b))), some (.inl v1)] [] h =
  if v1 < 0 then
  (ab_pf h b 745 (.inl (100 : Int32))).bind fun h1 =>
    some (none, h1)
else
  (ab_fI h b 721).bind fun x2 =>
    if v1 < x2 then
    (ab_fR h b 727).bind fun o3 =>
      o3.bind fun a4 => (ab_aI 0 h a4 v1).bind fun x5 =>
      (ab_pf h b 709 (.inl x5)).bind fun h6 =>
      ab_ev gG z d 62 3 [some (.inr (.inr (some b))), some (.inl (v1 + (-1 : Int32)))] [] h6
  else
    (ab_fR h b 728).bind fun o7 =>
      o7.bind fun a8 => (ab_aI 1 h a8 v1).bind fun x9 =>
      if x9 = 0 then
      ab_ev gG z d 62 3 [some (.inr (.inr (some b))), some (.inl (v1 + (-1 : Int32)))] [] h
    else
      (ab_fR h b 727).bind fun o10 =>
        o10.bind fun a11 => (ab_aI 0 h a11 v1).bind fun x12 =>
        (ab_pf h b 709 (.inl x12)).bind fun h13 =>
        ab_ev gG z d 62 3 [some (.inr (.inr (some b))), some (.inl (v1 + (-1 : Int32)))] [] h13 := ab_ev_ex [3] 500 rfl
theorem ent_62 (z : Bool) (d : Nat) (b : Nat) (h : ab_H) : ab_cl gG z d 62 [.inr (.inr (some b))] h = ab_ev gG z d 62 0 [some (.inr (.inr (some b))), none] [] h := rfl
/-! TreeShellModel.cut()Z -/
theorem bl_69_0 (z : Bool) (d : Nat) (b : Nat) (h : ab_H) : ab_ev gG z (d + 1) 69 0 [some (.inr (.inr (some b))), none, none, none, none, none] [] h =
  (ab_pf h b 712 (.inl (0 : Int32))).bind fun h1 =>
  ab_ev gG z (d + 1) 69 9 [some (.inr (.inr (some b))), some (.inl (0 : Int32)), some (.inl (0 : Int32)), some (.inl (0 : Int32)), none, none] [] h1 := ab_ev_ex [9, 26, 36, 90] 500 rfl
theorem bl_69_9 (z : Bool) (d : Nat) (b : Nat) (v1 v2 v3 : Int32) (u4 u5 : Option ab_V) (h : ab_H) : ab_ev gG z (d + 1) 69 9 [some (.inr (.inr (some b))), some (.inl v1), some (.inl v2), some (.inl v3), u4, u5] [] h =
  (ab_fI h b 710).bind fun x1 =>
  if v3 < x1 then
  (ab_fR h b 711).bind fun o2 =>
    o2.bind fun a3 => (ab_aI 0 h a3 v3).bind fun x4 =>
    if v2 = 0 then
    if ab_isc h b 7 = true then
      (ab_c1 (ab_cl gG z d 83 [.inr (.inr (some b)), .inl v3] h)).bind fun r5 =>
      ab_ev gG z (d + 1) 69 26 [some (.inr (.inr (some b))), some (.inl v1), some (.inl v2), some (.inl v3), some (.inl x4), none] [.inl r5.1] r5.2
    else none
  else
    ab_ev gG z (d + 1) 69 26 [some (.inr (.inr (some b))), some (.inl v1), some (.inl v2), some (.inl v3), some (.inl x4), none] [.inl (0 : Int32)] h
else
  if v2 = 0 then
    some (some (.inl (1 : Int32)), h)
  else
    some (some (.inl (0 : Int32)), h) := ab_ev_ex [9, 26, 36, 90] 500 rfl
theorem bl_69_26 (z : Bool) (d : Nat) (b : Nat) (v1 v2 v3 v4 s0 : Int32) (h : ab_H) : ab_ev gG z (d + 1) 69 26 [some (.inr (.inr (some b))), some (.inl v1), some (.inl v2), some (.inl v3), some (.inl v4), none] [.inl s0] h =
  if v2 = 0 then
  if v4 = (32 : Int32) then
    ab_ev gG z (d + 1) 69 9 [some (.inr (.inr (some b))), some (.inl (0 : Int32)), some (.inl v2), some (.inl (v3 + (1 : Int32))), some (.inl v4), some (.inl s0)] [] h
  else
    if s0 < 0 then
      some (some (.inl (0 : Int32)), h)
    else
      if s0 = 0 then
        if v1 = 0 then
          if ab_isc h b 7 = true then
            (ab_c0 (ab_cl gG z d 84 [.inr (.inr (some b)), .inl (0 : Int32), .inl v3] h)).bind fun h1 =>
            ab_ev gG z (d + 1) 69 90 [some (.inr (.inr (some b))), some (.inl (1 : Int32)), some (.inl v2), some (.inl v3), some (.inl v4), some (.inl s0)] [] h1
          else none
        else
          ab_ev gG z (d + 1) 69 90 [some (.inr (.inr (some b))), some (.inl v1), some (.inl v2), some (.inl v3), some (.inl v4), some (.inl s0)] [] h
      else
        if ab_isc h b 7 = true then
          (ab_c0 (ab_cl gG z d 84 [.inr (.inr (some b)), .inl s0, .inl v3] h)).bind fun h2 =>
          if s0 = (2 : Int32) then
          ab_ev gG z (d + 1) 69 9 [some (.inr (.inr (some b))), some (.inl (0 : Int32)), some (.inl v2), some (.inl ((v3 + (1 : Int32)) + (1 : Int32))), some (.inl v4), some (.inl s0)] [] h2
        else
          if s0 = (3 : Int32) then
            ab_ev gG z (d + 1) 69 9 [some (.inr (.inr (some b))), some (.inl (0 : Int32)), some (.inl v2), some (.inl ((v3 + (1 : Int32)) + (1 : Int32))), some (.inl v4), some (.inl s0)] [] h2
          else
            if s0 = (6 : Int32) then
              ab_ev gG z (d + 1) 69 9 [some (.inr (.inr (some b))), some (.inl (0 : Int32)), some (.inl v2), some (.inl ((v3 + (1 : Int32)) + (1 : Int32))), some (.inl v4), some (.inl s0)] [] h2
            else
              ab_ev gG z (d + 1) 69 9 [some (.inr (.inr (some b))), some (.inl (0 : Int32)), some (.inl v2), some (.inl (v3 + (1 : Int32))), some (.inl v4), some (.inl s0)] [] h2
        else none
else
  if v4 = (39 : Int32) then
    ab_ev gG z (d + 1) 69 36 [some (.inr (.inr (some b))), some (.inl v1), some (.inl v2), some (.inl v3), some (.inl v4), some (.inl s0)] [.inl (0 : Int32)] h
  else
    ab_ev gG z (d + 1) 69 36 [some (.inr (.inr (some b))), some (.inl v1), some (.inl v2), some (.inl v3), some (.inl v4), some (.inl s0)] [.inl (1 : Int32)] h := ab_ev_ex [9, 26, 36, 90] 500 rfl
theorem bl_69_36 (z : Bool) (d : Nat) (b : Nat) (v1 v2 v3 v4 v5 s0 : Int32) (h : ab_H) : ab_ev gG z (d + 1) 69 36 [some (.inr (.inr (some b))), some (.inl v1), some (.inl v2), some (.inl v3), some (.inl v4), some (.inl v5)] [.inl s0] h =
  (ab_fR h b 715).bind fun o1 =>
  (ab_fI h b 712).bind fun x2 =>
  o1.bind fun a3 => (ab_sI 0 h a3 (x2 - (1 : Int32)) (v3 + (1 : Int32))).bind fun h4 =>
  ab_ev gG z (d + 1) 69 9 [some (.inr (.inr (some b))), some (.inl v1), some (.inl s0), some (.inl (v3 + (1 : Int32))), some (.inl v4), some (.inl v5)] [] h4 := ab_ev_ex [9, 26, 36, 90] 500 rfl
theorem bl_69_90 (z : Bool) (d : Nat) (b : Nat) (v1 v2 v3 v4 v5 : Int32) (h : ab_H) : ab_ev gG z (d + 1) 69 90 [some (.inr (.inr (some b))), some (.inl v1), some (.inl v2), some (.inl v3), some (.inl v4), some (.inl v5)] [] h =
  if v4 = (39 : Int32) then
  (ab_fR h b 715).bind fun o1 =>
    (ab_fI h b 712).bind fun x2 =>
    o1.bind fun a3 => (ab_sI 0 h a3 (x2 - (1 : Int32)) (v3 + (1 : Int32))).bind fun h4 =>
    ab_ev gG z (d + 1) 69 9 [some (.inr (.inr (some b))), some (.inl v1), some (.inl (1 : Int32)), some (.inl (v3 + (1 : Int32))), some (.inl v4), some (.inl v5)] [] h4
else
  (ab_fR h b 715).bind fun o5 =>
    (ab_fI h b 712).bind fun x6 =>
    o5.bind fun a7 => (ab_sI 0 h a7 (x6 - (1 : Int32)) (v3 + (1 : Int32))).bind fun h8 =>
    ab_ev gG z (d + 1) 69 9 [some (.inr (.inr (some b))), some (.inl v1), some (.inl (0 : Int32)), some (.inl (v3 + (1 : Int32))), some (.inl v4), some (.inl v5)] [] h8 := ab_ev_ex [9, 26, 36, 90] 500 rfl
theorem ent_69 (z : Bool) (d : Nat) (b : Nat) (h : ab_H) : ab_cl gG z d 69 [.inr (.inr (some b))] h = ab_ev gG z d 69 0 [some (.inr (.inr (some b))), none, none, none, none, none] [] h := rfl
/-! TreeShellModel.next(III)I -/
theorem bl_70_0 (z : Bool) (d : Nat) (p1 p2 p3 : Int32) (h : ab_H) : ab_ev gG z (d + 1) 70 0 [some (.inl p1), some (.inl p2), some (.inl p3)] [] h =
  if p1 < (7 : Int32) then
  (ab_c1 (ab_cl gG z d 85 [.inl p2] h)).bind fun r1 =>
    if r1.1 = 0 then
    if p2 = 0 then
      if p1 = (6 : Int32) then
        some (some (.inl (-1 : Int32)), r1.2)
      else
        some (some (.inl (5 : Int32)), r1.2)
    else
      if p2 = (8 : Int32) then
        if p1 < (4 : Int32) then
          if p3 < (4 : Int32) then
            some (some (.inl (0 : Int32)), r1.2)
          else
            some (some (.inl (-1 : Int32)), r1.2)
        else
          some (some (.inl (-1 : Int32)), r1.2)
      else
        if p2 = (10 : Int32) then
          if p1 < (3 : Int32) then
            some (some (.inl (3 : Int32)), r1.2)
          else
            some (some (.inl (-1 : Int32)), r1.2)
        else
          if p2 = (9 : Int32) then
            if 0 < p3 then
              if p1 = (1 : Int32) then
                some (some (.inl (6 : Int32)), r1.2)
              else
                if p1 < (5 : Int32) then
                  some (some (.inl (-1 : Int32)), r1.2)
                else
                  some (some (.inl (6 : Int32)), r1.2)
            else
              some (some (.inl (-1 : Int32)), r1.2)
          else
            if p1 < (5 : Int32) then
              some (some (.inl (-1 : Int32)), r1.2)
            else
              if p2 = (1 : Int32) then
                some (some (.inl (1 : Int32)), r1.2)
              else
                if p2 = (4 : Int32) then
                  some (some (.inl (3 : Int32)), r1.2)
                else
                  some (some (.inl (2 : Int32)), r1.2)
  else
    if p1 < (4 : Int32) then
      some (some (.inl (7 : Int32)), r1.2)
    else
      some (some (.inl (p1 + (3 : Int32))), r1.2)
else
  if p2 = 0 then
    some (some (.inl (p1 - (3 : Int32))), h)
  else
    some (some (.inl (-1 : Int32)), h) := ab_ev_ex [] 500 rfl
theorem ent_70 (z : Bool) (d : Nat) (p1 p2 p3 : Int32) (h : ab_H) : ab_cl gG z d 70 [.inl p1, .inl p2, .inl p3] h = ab_ev gG z d 70 0 [some (.inl p1), some (.inl p2), some (.inl p3)] [] h := rfl
/-! TreeShellModel.startPipeline()V -/
theorem bl_73_0 (z : Bool) (d : Nat) (b : Nat) (h : ab_H) : ab_ev gG z (d + 1) 73 0 [some (.inr (.inr (some b)))] [] h =
  (ab_fR h b 729).bind fun o1 =>
  (ab_fI h b 721).bind fun x2 =>
  (ab_fI h b 722).bind fun x3 =>
  if ab_isc h b 7 = true then
  (ab_c1 (ab_cl gG z d 76 [.inr (.inr (some b)), .inl x3] h)).bind fun r4 =>
  if r4.1 = (10 : Int32) then
  ab_ev gG z (d + 1) 73 13 [some (.inr (.inr (some b)))] [.inl (1 : Int32), .inl x2, .inr (.inr o1)] r4.2
else
  ab_ev gG z (d + 1) 73 13 [some (.inr (.inr (some b)))] [.inl (0 : Int32), .inl x2, .inr (.inr o1)] r4.2
else none := ab_ev_ex [13, 28] 500 rfl
theorem bl_73_13 (z : Bool) (d : Nat) (b : Nat) (s0 s1 : Int32) (s2 : Option Nat) (h : ab_H) : ab_ev gG z (d + 1) 73 13 [some (.inr (.inr (some b)))] [.inl s0, .inl s1, .inr (.inr s2)] h =
  s2.bind fun a1 => (ab_sI 1 h a1 s1 s0).bind fun h2 =>
  (ab_fR h2 b 729).bind fun o3 =>
  (ab_fI h2 b 721).bind fun x4 =>
  o3.bind fun a5 => (ab_aI 1 h2 a5 x4).bind fun x6 =>
  if x6 = 0 then
  (ab_fI h2 b 722).bind fun x7 =>
    ab_ev gG z (d + 1) 73 28 [some (.inr (.inr (some b)))] [.inl x7, .inr (.inr (some b))] h2
else
  (ab_fI h2 b 722).bind fun x8 =>
    ab_ev gG z (d + 1) 73 28 [some (.inr (.inr (some b)))] [.inl (x8 + (1 : Int32)), .inr (.inr (some b))] h2 := ab_ev_ex [13, 28] 500 rfl
theorem bl_73_28 (z : Bool) (d : Nat) (b : Nat) (s0 : Int32) (s1 : Option Nat) (h : ab_H) : ab_ev gG z (d + 1) 73 28 [some (.inr (.inr (some b)))] [.inl s0, .inr (.inr s1)] h =
  s1.bind fun a1 => (ab_pf h a1 722 (.inl s0)).bind fun h2 =>
  (ab_fR h2 b 728).bind fun o3 =>
  (ab_fI h2 b 721).bind fun x4 =>
  (ab_fI h2 b 722).bind fun x5 =>
  if ab_isc h2 b 7 = true then
  (ab_c1 (ab_cl gG z d 89 [.inr (.inr (some b)), .inl x5, .inl (1 : Int32)] h2)).bind fun r6 =>
  if ab_isc r6.2 b 7 = true then
  (ab_c1 (ab_cl gG z d 76 [.inr (.inr (some b)), .inl r6.1] r6.2)).bind fun r7 =>
  if r7.1 = (4 : Int32) then
  o3.bind fun a8 => (ab_sI 1 r7.2 a8 x4 (1 : Int32)).bind fun h9 =>
    (ab_fR h9 b 725).bind fun o10 =>
    (ab_fI h9 b 721).bind fun x11 =>
    (ab_fR h9 b 723).bind fun o12 =>
    (ab_fI h9 b 721).bind fun x13 =>
    o12.bind fun a14 => (ab_aI 0 h9 a14 x13).bind fun x15 =>
    o10.bind fun a16 => (ab_sI 0 h9 a16 x11 x15).bind fun h17 =>
    some (none, h17)
else
  o3.bind fun a18 => (ab_sI 1 r7.2 a18 x4 (0 : Int32)).bind fun h19 =>
    (ab_fR h19 b 725).bind fun o20 =>
    (ab_fI h19 b 721).bind fun x21 =>
    (ab_fR h19 b 723).bind fun o22 =>
    (ab_fI h19 b 721).bind fun x23 =>
    o22.bind fun a24 => (ab_aI 0 h19 a24 x23).bind fun x25 =>
    o20.bind fun a26 => (ab_sI 0 h19 a26 x21 x25).bind fun h27 =>
    some (none, h27)
else none
else none := ab_ev_ex [13, 28] 500 rfl
theorem ent_73 (z : Bool) (d : Nat) (b : Nat) (h : ab_H) : ab_cl gG z d 73 [.inr (.inr (some b))] h = ab_ev gG z d 73 0 [some (.inr (.inr (some b)))] [] h := rfl
/-! TreeShellModel.startCommand()I -/
theorem bl_74_0 (z : Bool) (d : Nat) (b : Nat) (h : ab_H) : ab_ev gG z (d + 1) 74 0 [some (.inr (.inr (some b))), none, none, none, none, none] [] h =
  (ab_fR h b 727).bind fun o1 =>
  (ab_fI h b 721).bind fun x2 =>
  (ab_fI h b 709).bind fun x3 =>
  o1.bind fun a4 => (ab_sI 0 h a4 x2 x3).bind fun h5 =>
  (ab_fR h5 b 724).bind fun o6 =>
  (ab_fI h5 b 721).bind fun x7 =>
  (ab_fR h5 b 725).bind fun o8 =>
  (ab_fI h5 b 721).bind fun x9 =>
  o8.bind fun a10 => (ab_aI 0 h5 a10 x9).bind fun x11 =>
  o6.bind fun a12 => (ab_sI 0 h5 a12 x7 x11).bind fun h13 =>
  (ab_fR h13 b 726).bind fun o14 =>
  (ab_fI h13 b 721).bind fun x15 =>
  o14.bind fun a16 => (ab_sI 0 h13 a16 x15 (-1 : Int32)).bind fun h17 =>
  (ab_pf h17 b 735 (.inl (0 : Int32))).bind fun h18 =>
  (ab_pf h18 b 736 (.inl (0 : Int32))).bind fun h19 =>
  (ab_fR h19 b 713).bind fun o20 =>
  (ab_fI h19 b 722).bind fun x21 =>
  o20.bind fun a22 => (ab_aI 0 h19 a22 x21).bind fun x23 =>
  if x23 = (8 : Int32) then
  (ab_fI h19 b 722).bind fun x24 =>
    if ab_isc h19 b 7 = true then
    (ab_c1 (ab_cl gG z d 89 [.inr (.inr (some b)), .inl x24, .inl (1 : Int32)] h19)).bind fun r25 =>
    (ab_fI r25.2 b 722).bind fun x26 =>
    ab_ev gG z (d + 1) 74 51 [some (.inr (.inr (some b))), some (.inl (1 : Int32)), some (.inl r25.1), some (.inl (0 : Int32)), some (.inl x26), none] [] r25.2
  else none
else
  (ab_fI h19 b 722).bind fun x27 =>
    if ab_isc h19 b 7 = true then
    (ab_c1 (ab_cl gG z d 89 [.inr (.inr (some b)), .inl x27, .inl (1 : Int32)] h19)).bind fun r28 =>
    (ab_fI r28.2 b 722).bind fun x29 =>
    ab_ev gG z (d + 1) 74 51 [some (.inr (.inr (some b))), some (.inl (0 : Int32)), some (.inl r28.1), some (.inl (0 : Int32)), some (.inl x29), none] [] r28.2
  else none := ab_ev_ex [51, 76, 155] 500 rfl
theorem bl_74_51 (z : Bool) (d : Nat) (b : Nat) (v1 v2 v3 v4 : Int32) (u5 : Option ab_V) (h : ab_H) : ab_ev gG z (d + 1) 74 51 [some (.inr (.inr (some b))), some (.inl v1), some (.inl v2), some (.inl v3), some (.inl v4), u5] [] h =
  if v4 < v2 then
  (ab_fR h b 713).bind fun o1 =>
    o1.bind fun a2 => (ab_aI 0 h a2 v4).bind fun x3 =>
    if x3 = (8 : Int32) then
    ab_ev gG z (d + 1) 74 76 [some (.inr (.inr (some b))), some (.inl v1), some (.inl v2), some (.inl v3), some (.inl v4), none] [.inl (v3 + (1 : Int32))] h
  else
    (ab_fR h b 713).bind fun o4 =>
      o4.bind fun a5 => (ab_aI 0 h a5 v4).bind fun x6 =>
      if x6 = (9 : Int32) then
      ab_ev gG z (d + 1) 74 76 [some (.inr (.inr (some b))), some (.inl v1), some (.inl v2), some (.inl v3), some (.inl v4), none] [.inl (v3 - (1 : Int32))] h
    else
      ab_ev gG z (d + 1) 74 76 [some (.inr (.inr (some b))), some (.inl v1), some (.inl v2), some (.inl v3), some (.inl v4), none] [.inl v3] h
else
  if v1 = 0 then
    (ab_pf h b 716 (.inl (0 : Int32))).bind fun h7 =>
      (ab_pf h7 b 719 (.inl (0 : Int32))).bind fun h8 =>
      (ab_fI h8 b 722).bind fun x9 =>
      ab_ev gG z (d + 1) 74 155 [some (.inr (.inr (some b))), some (.inl v1), some (.inl v2), some (.inl v3), some (.inl x9), none] [] h8
  else
    (ab_fI h b 722).bind fun x10 =>
      (ab_pf h b 722 (.inl (x10 + (1 : Int32)))).bind fun h11 =>
      (ab_fI h11 b 721).bind fun x12 =>
      (ab_pf h11 b 721 (.inl (x12 + (1 : Int32)))).bind fun h13 =>
      (ab_fR h13 b 723).bind fun o14 =>
      (ab_fI h13 b 721).bind fun x15 =>
      (ab_fR h13 b 724).bind fun o16 =>
      (ab_fI h13 b 721).bind fun x17 =>
      o16.bind fun a18 => (ab_aI 0 h13 a18 (x17 - (1 : Int32))).bind fun x19 =>
      o14.bind fun a20 => (ab_sI 0 h13 a20 x15 x19).bind fun h21 =>
      (ab_fR h21 b 731).bind fun o22 =>
      (ab_fI h21 b 721).bind fun x23 =>
      o22.bind fun a24 => (ab_sI 0 h21 a24 x23 (0 : Int32)).bind fun h25 =>
      if ab_isc h25 b 7 = true then
      (ab_c0 (ab_cl gG z d 73 [.inr (.inr (some b))] h25)).bind fun h26 =>
      some (some (.inl (-1 : Int32)), h26)
    else none := ab_ev_ex [51, 76, 155] 500 rfl
theorem bl_74_76 (z : Bool) (d : Nat) (b : Nat) (v1 v2 v3 v4 s0 : Int32) (h : ab_H) : ab_ev gG z (d + 1) 74 76 [some (.inr (.inr (some b))), some (.inl v1), some (.inl v2), some (.inl v3), some (.inl v4), none] [.inl s0] h =
  if s0 = 0 then
  (ab_fR h b 713).bind fun o1 =>
    o1.bind fun a2 => (ab_aI 0 h a2 v4).bind fun x3 =>
    (ab_c1 (ab_cl gG z d 85 [.inl x3] h)).bind fun r4 =>
    if r4.1 = 0 then
    ab_ev gG z (d + 1) 74 51 [some (.inr (.inr (some b))), some (.inl v1), some (.inl v2), some (.inl s0), some (.inl (v4 + (1 : Int32))), none] [] r4.2
  else
    (ab_fR r4.2 b 713).bind fun o5 =>
      o5.bind fun a6 => (ab_aI 0 r4.2 a6 v4).bind fun x7 =>
      if ab_isc r4.2 b 7 = true then
      (ab_c1 (ab_cl gG z d 90 [.inr (.inr (some b)), .inl x7, .inl (v4 + (1 : Int32))] r4.2)).bind fun r8 =>
      if r8.1 = 0 then
      ab_ev gG z (d + 1) 74 51 [some (.inr (.inr (some b))), some (.inl v1), some (.inl v2), some (.inl s0), some (.inl (v4 + (1 : Int32))), some (.inl r8.1)] [] r8.2
    else
      if 0 < r8.1 then
        (ab_pf r8.2 b 722 (.inl v2)).bind fun h9 =>
          some (some (.inl r8.1), h9)
      else
        (ab_fI r8.2 b 722).bind fun x10 =>
          (ab_pf r8.2 b 722 (.inl x10)).bind fun h11 =>
          some (some (.inl r8.1), h11)
    else none
else
  ab_ev gG z (d + 1) 74 51 [some (.inr (.inr (some b))), some (.inl v1), some (.inl v2), some (.inl s0), some (.inl (v4 + (1 : Int32))), none] [] h := ab_ev_ex [51, 76, 155] 500 rfl
theorem bl_74_155 (z : Bool) (d : Nat) (b : Nat) (v1 v2 v3 v4 : Int32) (h : ab_H) : ab_ev gG z (d + 1) 74 155 [some (.inr (.inr (some b))), some (.inl v1), some (.inl v2), some (.inl v3), some (.inl v4), none] [] h =
  if v4 < v2 then
  (ab_fR h b 713).bind fun o1 =>
    o1.bind fun a2 => (ab_aI 0 h a2 v4).bind fun x3 =>
    if x3 = 0 then
    (ab_fI h b 722).bind fun x4 =>
      if v4 = x4 then
      if ab_isc h b 7 = true then
        (ab_c0 (ab_cl gG z d 91 [.inr (.inr (some b)), .inl v4] h)).bind fun h5 =>
        ab_ev gG z (d + 1) 74 155 [some (.inr (.inr (some b))), some (.inl v1), some (.inl v2), some (.inl v3), some (.inl (v4 + (1 : Int32))), none] [] h5
      else none
    else
      (ab_fR h b 713).bind fun o6 =>
        o6.bind fun a7 => (ab_aI 0 h a7 (v4 - (1 : Int32))).bind fun x8 =>
        (ab_c1 (ab_cl gG z d 85 [.inl x8] h)).bind fun r9 =>
        if r9.1 = 0 then
        if ab_isc r9.2 b 7 = true then
          (ab_c0 (ab_cl gG z d 91 [.inr (.inr (some b)), .inl v4] r9.2)).bind fun h10 =>
          ab_ev gG z (d + 1) 74 155 [some (.inr (.inr (some b))), some (.inl v1), some (.inl v2), some (.inl v3), some (.inl (v4 + (1 : Int32))), none] [] h10
        else none
      else
        ab_ev gG z (d + 1) 74 155 [some (.inr (.inr (some b))), some (.inl v1), some (.inl v2), some (.inl v3), some (.inl (v4 + (1 : Int32))), none] [] r9.2
  else
    ab_ev gG z (d + 1) 74 155 [some (.inr (.inr (some b))), some (.inl v1), some (.inl v2), some (.inl v3), some (.inl (v4 + (1 : Int32))), none] [] h
else
  (ab_pf h b 722 (.inl v2)).bind fun h11 =>
    (ab_fI h11 b 748).bind fun x12 =>
    (ab_pf h11 b 748 (.inl (x12 + (1 : Int32)))).bind fun h13 =>
    if ab_isc h13 b 7 = true then
    (ab_c1 (ab_cl gG z d 92 [.inr (.inr (some b))] h13)).bind fun r14 =>
    if 0 < r14.1 then
    (ab_pf r14.2 b 735 (.inl (0 : Int32))).bind fun h15 =>
      (ab_pf h15 b 736 (.inl (0 : Int32))).bind fun h16 =>
      (ab_fI h16 b 736).bind fun x17 =>
      if x17 = 0 then
      some (some (.inl r14.1), h16)
    else
      some (some (.inl (-9 : Int32)), h16)
  else
    (ab_fI r14.2 b 736).bind fun x18 =>
      if x18 = 0 then
      some (some (.inl r14.1), r14.2)
    else
      some (some (.inl (-9 : Int32)), r14.2)
  else none := ab_ev_ex [51, 76, 155] 500 rfl
theorem ent_74 (z : Bool) (d : Nat) (b : Nat) (h : ab_H) : ab_cl gG z d 74 [.inr (.inr (some b))] h = ab_ev gG z d 74 0 [some (.inr (.inr (some b))), none, none, none, none, none] [] h := rfl
/-! TreeShellModel.endCommand(IZ)Z -/
theorem bl_75_0 (z : Bool) (d : Nat) (b : Nat) (p1 p2 : Int32) (h : ab_H) : ab_ev gG z (d + 1) 75 0 [some (.inr (.inr (some b))), some (.inl p1), some (.inl p2), none] [] h =
  if p2 = 0 then
  (ab_fR h b 728).bind fun o1 =>
    (ab_fI h b 721).bind fun x2 =>
    o1.bind fun a3 => (ab_aI 1 h a3 x2).bind fun x4 =>
    if x4 = 0 then
    ab_ev gG z (d + 1) 75 15 [some (.inr (.inr (some b))), some (.inl p1), some (.inl p2), none] [] h
  else
    (ab_fR h b 727).bind fun o5 =>
      (ab_fI h b 721).bind fun x6 =>
      o5.bind fun a7 => (ab_aI 0 h a7 x6).bind fun x8 =>
      (ab_pf h b 709 (.inl x8)).bind fun h9 =>
      ab_ev gG z (d + 1) 75 15 [some (.inr (.inr (some b))), some (.inl p1), some (.inl p2), none] [] h9
else
  (ab_fR h b 727).bind fun o10 =>
    (ab_fI h b 721).bind fun x11 =>
    o10.bind fun a12 => (ab_aI 0 h a12 x11).bind fun x13 =>
    (ab_pf h b 709 (.inl x13)).bind fun h14 =>
    ab_ev gG z (d + 1) 75 15 [some (.inr (.inr (some b))), some (.inl p1), some (.inl p2), none] [] h14 := ab_ev_ex [15, 34, 78] 500 rfl
theorem bl_75_15 (z : Bool) (d : Nat) (b : Nat) (v1 v2 : Int32) (h : ab_H) : ab_ev gG z (d + 1) 75 15 [some (.inr (.inr (some b))), some (.inl v1), some (.inl v2), none] [] h =
  (ab_fR h b 726).bind fun o1 =>
  (ab_fI h b 721).bind fun x2 =>
  o1.bind fun a3 => (ab_aI 0 h a3 x2).bind fun x4 =>
  if x4 < 0 then
  ab_ev gG z (d + 1) 75 34 [some (.inr (.inr (some b))), some (.inl v1), some (.inl v2), none] [] h
else
  (ab_fR h b 726).bind fun o5 =>
    (ab_fI h b 721).bind fun x6 =>
    o5.bind fun a7 => (ab_aI 0 h a7 x6).bind fun x8 =>
    if ab_isc h b 7 = true then
    (ab_c1 (ab_cl gG z d 93 [.inr (.inr (some b)), .inl x8] h)).bind fun r9 =>
    if r9.1 = 0 then
    some (some (.inl (0 : Int32)), r9.2)
  else
    (ab_pf r9.2 b 735 (.inl (0 : Int32))).bind fun h10 =>
      ab_ev gG z (d + 1) 75 34 [some (.inr (.inr (some b))), some (.inl v1), some (.inl v2), none] [] h10
  else none := ab_ev_ex [15, 34, 78] 500 rfl
theorem bl_75_34 (z : Bool) (d : Nat) (b : Nat) (v1 v2 : Int32) (h : ab_H) : ab_ev gG z (d + 1) 75 34 [some (.inr (.inr (some b))), some (.inl v1), some (.inl v2), none] [] h =
  (ab_fI h b 722).bind fun x1 =>
  if ab_isc h b 7 = true then
  (ab_c1 (ab_cl gG z d 76 [.inr (.inr (some b)), .inl x1] h)).bind fun r2 =>
  if r2.1 = (4 : Int32) then
  (ab_fI r2.2 b 721).bind fun x3 =>
    if ab_isc r2.2 b 7 = true then
    (ab_c0 (ab_cl gG z d 94 [.inr (.inr (some b)), .inl ((2 : Int32) * x3)] r2.2)).bind fun h4 =>
    (ab_fR h4 b 725).bind fun o5 =>
    (ab_fI h4 b 721).bind fun x6 =>
    (ab_fI h4 b 721).bind fun x7 =>
    o5.bind fun a8 => (ab_sI 0 h4 a8 x6 ((2 : Int32) * x7)).bind fun h9 =>
    (ab_fI h9 b 722).bind fun x10 =>
    (ab_pf h9 b 722 (.inl (x10 + (1 : Int32)))).bind fun h11 =>
    some (some (.inl (1 : Int32)), h11)
  else none
else
  (ab_fR r2.2 b 731).bind fun o12 =>
    (ab_fI r2.2 b 721).bind fun x13 =>
    o12.bind fun a14 => (ab_aI 0 r2.2 a14 x13).bind fun x15 =>
    (ab_fI r2.2 b 735).bind fun x16 =>
    (ab_fI r2.2 b 702).bind fun x17 =>
    if x17 < (x15 + x16) then
    some (some (.inl (0 : Int32)), r2.2)
  else
    ab_ev gG z (d + 1) 75 78 [some (.inr (.inr (some b))), some (.inl v1), some (.inl v2), some (.inl (0 : Int32))] [] r2.2
else none := ab_ev_ex [15, 34, 78] 500 rfl
theorem bl_75_78 (z : Bool) (d : Nat) (b : Nat) (v1 v2 v3 : Int32) (h : ab_H) : ab_ev gG z (d + 1) 75 78 [some (.inr (.inr (some b))), some (.inl v1), some (.inl v2), some (.inl v3)] [] h =
  (ab_fI h b 735).bind fun x1 =>
  if v3 < x1 then
  (ab_fR h b 730).bind fun o2 =>
    (ab_fI h b 721).bind fun x3 =>
    (ab_fR h b 731).bind fun o4 =>
    (ab_fI h b 721).bind fun x5 =>
    o4.bind fun a6 => (ab_aI 0 h a6 x5).bind fun x7 =>
    (ab_fR h b 734).bind fun o8 =>
    o8.bind fun a9 => (ab_aI 0 h a9 v3).bind fun x10 =>
    o2.bind fun a11 => (ab_sI 0 h a11 ((((96 : Int32) * x3) + x7) + v3) x10).bind fun h12 =>
    ab_ev gG z (d + 1) 75 78 [some (.inr (.inr (some b))), some (.inl v1), some (.inl v2), some (.inl (v3 + (1 : Int32)))] [] h12
else
  (ab_fR h b 731).bind fun o13 =>
    (ab_fI h b 721).bind fun x14 =>
    o13.bind fun a15 => (ab_aI 0 h a15 x14).bind fun x16 =>
    (ab_fI h b 735).bind fun x17 =>
    o13.bind fun a18 => (ab_sI 0 h a18 x14 (x16 + x17)).bind fun h19 =>
    (ab_fR h19 b 729).bind fun o20 =>
    (ab_fI h19 b 721).bind fun x21 =>
    o20.bind fun a22 => (ab_aI 1 h19 a22 x21).bind fun x23 =>
    if x23 = 0 then
    (ab_pf h19 b 745 (.inl v1)).bind fun h24 =>
      if ab_isc h24 b 7 = true then
      (ab_c0 (ab_cl gG z d 95 [.inr (.inr (some b))] h24)).bind fun h25 =>
      some (some (.inl (1 : Int32)), h25)
    else none
  else
    if v1 = 0 then
      (ab_pf h19 b 745 (.inl (1 : Int32))).bind fun h26 =>
        if ab_isc h26 b 7 = true then
        (ab_c0 (ab_cl gG z d 95 [.inr (.inr (some b))] h26)).bind fun h27 =>
        some (some (.inl (1 : Int32)), h27)
      else none
    else
      (ab_pf h19 b 745 (.inl (0 : Int32))).bind fun h28 =>
        if ab_isc h28 b 7 = true then
        (ab_c0 (ab_cl gG z d 95 [.inr (.inr (some b))] h28)).bind fun h29 =>
        some (some (.inl (1 : Int32)), h29)
      else none := ab_ev_ex [15, 34, 78] 500 rfl
theorem ent_75 (z : Bool) (d : Nat) (b : Nat) (p1 p2 : Int32) (h : ab_H) : ab_cl gG z d 75 [.inr (.inr (some b)), .inl p1, .inl p2] h = ab_ev gG z d 75 0 [some (.inr (.inr (some b))), some (.inl p1), some (.inl p2), none] [] h := rfl
/-! TreeShellModel.kindAt(I)I -/
theorem bl_76_0 (z : Bool) (d : Nat) (b : Nat) (p1 : Int32) (h : ab_H) : ab_ev gG z d 76 0 [some (.inr (.inr (some b))), some (.inl p1)] [] h =
  (ab_fI h b 712).bind fun x1 =>
  if p1 < x1 then
  (ab_fR h b 713).bind fun o2 =>
    o2.bind fun a3 => (ab_aI 0 h a3 p1).bind fun x4 =>
    some (some (.inl x4), h)
else
  some (some (.inl (-1 : Int32)), h) := ab_ev_ex [] 500 rfl
theorem ent_76 (z : Bool) (d : Nat) (b : Nat) (p1 : Int32) (h : ab_H) : ab_cl gG z d 76 [.inr (.inr (some b)), .inl p1] h = ab_ev gG z d 76 0 [some (.inr (.inr (some b))), some (.inl p1)] [] h := rfl
/-! TreeShellModel.closeGroup()Z -/
theorem bl_77_0 (z : Bool) (d : Nat) (b : Nat) (h : ab_H) : ab_ev gG z (d + 1) 77 0 [some (.inr (.inr (some b))), none] [] h =
  (ab_fR h b 731).bind fun o1 =>
  (ab_fI h b 721).bind fun x2 =>
  o1.bind fun a3 => (ab_aI 0 h a3 x2).bind fun x4 =>
  (ab_pf h b 735 (.inl x4)).bind fun h5 =>
  ab_ev gG z (d + 1) 77 9 [some (.inr (.inr (some b))), some (.inl (0 : Int32))] [] h5 := ab_ev_ex [9] 500 rfl
theorem bl_77_9 (z : Bool) (d : Nat) (b : Nat) (v1 : Int32) (h : ab_H) : ab_ev gG z (d + 1) 77 9 [some (.inr (.inr (some b))), some (.inl v1)] [] h =
  (ab_fI h b 735).bind fun x1 =>
  if v1 < x1 then
  (ab_fR h b 734).bind fun o2 =>
    (ab_fR h b 730).bind fun o3 =>
    (ab_fI h b 721).bind fun x4 =>
    o3.bind fun a5 => (ab_aI 0 h a5 (((96 : Int32) * x4) + v1)).bind fun x6 =>
    o2.bind fun a7 => (ab_sI 0 h a7 v1 x6).bind fun h8 =>
    ab_ev gG z (d + 1) 77 9 [some (.inr (.inr (some b))), some (.inl (v1 + (1 : Int32)))] [] h8
else
  (ab_fI h b 721).bind fun x9 =>
    (ab_pf h b 721 (.inl (x9 - (1 : Int32)))).bind fun h10 =>
    (ab_fI h10 b 722).bind fun x11 =>
    if ab_isc h10 b 7 = true then
    (ab_c1 (ab_cl gG z d 89 [.inr (.inr (some b)), .inl (x11 + (1 : Int32)), .inl (1 : Int32)] h10)).bind fun r12 =>
    (ab_pf r12.2 b 722 (.inl r12.1)).bind fun h13 =>
    (ab_fI h13 b 745).bind fun x14 =>
    if ab_isc h13 b 7 = true then
    (ab_c1 (ab_cl gG z d 75 [.inr (.inr (some b)), .inl x14, .inl (1 : Int32)] h13)).bind fun r15 =>
    if r15.1 = 0 ∨ r15.1 = 1 then some (some (.inl r15.1), r15.2) else none
  else none
  else none := ab_ev_ex [9] 500 rfl
theorem ent_77 (z : Bool) (d : Nat) (b : Nat) (h : ab_H) : ab_cl gG z d 77 [.inr (.inr (some b))] h = ab_ev gG z d 77 0 [some (.inr (.inr (some b))), none] [] h := rfl
/-! TreeShellModel.operator(I)I -/
theorem bl_83_0 (z : Bool) (d : Nat) (b : Nat) (p1 : Int32) (h : ab_H) : ab_ev gG z (d + 1) 83 0 [some (.inr (.inr (some b))), some (.inl p1), none, none] [] h =
  if ab_isc h b 7 = true then
  (ab_c1 (ab_cl gG z d 100 [.inr (.inr (some b)), .inl p1] h)).bind fun r1 =>
  if ab_isc r1.2 b 7 = true then
  (ab_c1 (ab_cl gG z d 100 [.inr (.inr (some b)), .inl (p1 + (1 : Int32))] r1.2)).bind fun r2 =>
  if r1.1 = (33 : Int32) then
  some (some (.inl (10 : Int32)), r2.2)
else if r1.1 = (38 : Int32) then
  if r2.1 = (38 : Int32) then
    some (some (.inl (2 : Int32)), r2.2)
  else
    some (some (.inl (-1 : Int32)), r2.2)
else if r1.1 = (40 : Int32) then
  some (some (.inl (8 : Int32)), r2.2)
else if r1.1 = (41 : Int32) then
  some (some (.inl (9 : Int32)), r2.2)
else if r1.1 = (59 : Int32) then
  some (some (.inl (1 : Int32)), r2.2)
else if r1.1 = (60 : Int32) then
  some (some (.inl (5 : Int32)), r2.2)
else if r1.1 = (62 : Int32) then
  if r2.1 = (62 : Int32) then
    some (some (.inl (6 : Int32)), r2.2)
  else
    some (some (.inl (7 : Int32)), r2.2)
else if r1.1 = (124 : Int32) then
  if r2.1 = (124 : Int32) then
    some (some (.inl (3 : Int32)), r2.2)
  else
    some (some (.inl (4 : Int32)), r2.2)
else some (some (.inl (0 : Int32)), r2.2)
else none
else none := ab_ev_ex [] 500 rfl
theorem ent_83 (z : Bool) (d : Nat) (b : Nat) (p1 : Int32) (h : ab_H) : ab_cl gG z d 83 [.inr (.inr (some b)), .inl p1] h = ab_ev gG z d 83 0 [some (.inr (.inr (some b))), some (.inl p1), none, none] [] h := rfl
/-! TreeShellModel.token(II)V -/
theorem bl_84_0 (z : Bool) (d : Nat) (b : Nat) (p1 p2 : Int32) (h : ab_H) : ab_ev gG z d 84 0 [some (.inr (.inr (some b))), some (.inl p1), some (.inl p2)] [] h =
  (ab_fR h b 713).bind fun o1 =>
  (ab_fI h b 712).bind fun x2 =>
  o1.bind fun a3 => (ab_sI 0 h a3 x2 p1).bind fun h4 =>
  (ab_fR h4 b 714).bind fun o5 =>
  (ab_fI h4 b 712).bind fun x6 =>
  o5.bind fun a7 => (ab_sI 0 h4 a7 x6 p2).bind fun h8 =>
  (ab_fR h8 b 715).bind fun o9 =>
  (ab_fI h8 b 712).bind fun x10 =>
  o9.bind fun a11 => (ab_sI 0 h8 a11 x10 p2).bind fun h12 =>
  (ab_fI h12 b 712).bind fun x13 =>
  (ab_pf h12 b 712 (.inl (x13 + (1 : Int32)))).bind fun h14 =>
  some (none, h14) := ab_ev_ex [] 500 rfl
theorem ent_84 (z : Bool) (d : Nat) (b : Nat) (p1 p2 : Int32) (h : ab_H) : ab_cl gG z d 84 [.inr (.inr (some b)), .inl p1, .inl p2] h = ab_ev gG z d 84 0 [some (.inr (.inr (some b))), some (.inl p1), some (.inl p2)] [] h := rfl
/-! TreeShellModel.redirects(I)Z -/
theorem bl_85_0 (z : Bool) (d : Nat) (p1 : Int32) (h : ab_H) : ab_ev gG z d 85 0 [some (.inl p1)] [] h =
  if p1 = (5 : Int32) then
  some (some (.inl (1 : Int32)), h)
else
  if p1 = (6 : Int32) then
    some (some (.inl (1 : Int32)), h)
  else
    if p1 = (7 : Int32) then
      some (some (.inl (1 : Int32)), h)
    else
      some (some (.inl (0 : Int32)), h) := ab_ev_ex [] 500 rfl
theorem ent_85 (z : Bool) (d : Nat) (p1 : Int32) (h : ab_H) : ab_cl gG z d 85 [.inl p1] h = ab_ev gG z d 85 0 [some (.inl p1)] [] h := rfl
/-! TreeShellModel.pipelineEnd(IZ)I -/
theorem bl_89_0 (z : Bool) (d : Nat) (b : Nat) (p1 p2 : Int32) (h : ab_H) : ab_ev gG z d 89 0 [some (.inr (.inr (some b))), some (.inl p1), some (.inl p2), none, none, none] [] h =
  ab_ev gG z d 89 4 [some (.inr (.inr (some b))), some (.inl p1), some (.inl p2), some (.inl (0 : Int32)), some (.inl p1), none] [] h := ab_ev_ex [4, 35] 500 rfl
theorem bl_89_4 (z : Bool) (d : Nat) (b : Nat) (v1 v2 v3 v4 : Int32) (u5 : Option ab_V) (h : ab_H) : ab_ev gG z d 89 4 [some (.inr (.inr (some b))), some (.inl v1), some (.inl v2), some (.inl v3), some (.inl v4), u5] [] h =
  (ab_fI h b 712).bind fun x1 =>
  if v4 < x1 then
  (ab_fR h b 713).bind fun o2 =>
    o2.bind fun a3 => (ab_aI 0 h a3 v4).bind fun x4 =>
    if v3 = 0 then
    if x4 = (1 : Int32) then
      some (some (.inl v4), h)
    else
      if x4 = (2 : Int32) then
        some (some (.inl v4), h)
      else
        if x4 = (3 : Int32) then
          some (some (.inl v4), h)
        else
          if x4 = (9 : Int32) then
            some (some (.inl v4), h)
          else
            if v2 = 0 then
              ab_ev gG z d 89 35 [some (.inr (.inr (some b))), some (.inl v1), some (.inl v2), some (.inl v3), some (.inl v4), some (.inl x4)] [] h
            else
              if x4 = (4 : Int32) then
                some (some (.inl v4), h)
              else
                ab_ev gG z d 89 35 [some (.inr (.inr (some b))), some (.inl v1), some (.inl v2), some (.inl v3), some (.inl v4), some (.inl x4)] [] h
  else
    ab_ev gG z d 89 35 [some (.inr (.inr (some b))), some (.inl v1), some (.inl v2), some (.inl v3), some (.inl v4), some (.inl x4)] [] h
else
  (ab_fI h b 712).bind fun x5 =>
    some (some (.inl x5), h) := ab_ev_ex [4, 35] 500 rfl
theorem bl_89_35 (z : Bool) (d : Nat) (b : Nat) (v1 v2 v3 v4 v5 : Int32) (h : ab_H) : ab_ev gG z d 89 35 [some (.inr (.inr (some b))), some (.inl v1), some (.inl v2), some (.inl v3), some (.inl v4), some (.inl v5)] [] h =
  if v5 = (8 : Int32) then
  ab_ev gG z d 89 4 [some (.inr (.inr (some b))), some (.inl v1), some (.inl v2), some (.inl (v3 + (1 : Int32))), some (.inl (v4 + (1 : Int32))), some (.inl v5)] [] h
else
  if v5 = (9 : Int32) then
    ab_ev gG z d 89 4 [some (.inr (.inr (some b))), some (.inl v1), some (.inl v2), some (.inl (v3 - (1 : Int32))), some (.inl (v4 + (1 : Int32))), some (.inl v5)] [] h
  else
    ab_ev gG z d 89 4 [some (.inr (.inr (some b))), some (.inl v1), some (.inl v2), some (.inl v3), some (.inl (v4 + (1 : Int32))), some (.inl v5)] [] h := ab_ev_ex [4, 35] 500 rfl
theorem ent_89 (z : Bool) (d : Nat) (b : Nat) (p1 p2 : Int32) (h : ab_H) : ab_cl gG z d 89 [.inr (.inr (some b)), .inl p1, .inl p2] h = ab_ev gG z d 89 0 [some (.inr (.inr (some b))), some (.inl p1), some (.inl p2), none, none, none] [] h := rfl
/-! TreeShellModel.redirect(II)I -/
theorem bl_90_0 (z : Bool) (d : Nat) (b : Nat) (p1 p2 : Int32) (h : ab_H) : ab_ev gG z (d + 1) 90 0 [some (.inr (.inr (some b))), some (.inl p1), some (.inl p2), none, none] [] h =
  (ab_pf h b 716 (.inl (0 : Int32))).bind fun h1 =>
  (ab_pf h1 b 719 (.inl (0 : Int32))).bind fun h2 =>
  if ab_isc h2 b 7 = true then
  (ab_c0 (ab_cl gG z d 91 [.inr (.inr (some b)), .inl p2] h2)).bind fun h3 =>
  if ab_isc h3 b 7 = true then
  (ab_c0 (ab_cl gG z d 106 [.inr (.inr (some b)), .inl (0 : Int32)] h3)).bind fun h4 =>
  if p1 = (5 : Int32) then
  (ab_fI h4 b 742).bind fun x5 =>
    if x5 < 0 then
    some (some (.inl (1 : Int32)), h4)
  else
    (ab_fR h4 b 704).bind fun o6 =>
      (ab_fI h4 b 742).bind fun x7 =>
      o6.bind fun a8 => (ab_aI 1 h4 a8 x7).bind fun x9 =>
      if x9 = 0 then
      (ab_fI h4 b 721).bind fun x10 =>
        (ab_fR h4 b 733).bind fun o11 =>
        (ab_fR h4 b 707).bind fun o12 =>
        (ab_fI h4 b 742).bind fun x13 =>
        o12.bind fun a14 => (ab_aI 0 h4 a14 x13).bind fun x15 =>
        o11.bind fun a16 => (ab_sI 0 h4 a16 (((2 : Int32) * x10) + (1 : Int32)) x15).bind fun h17 =>
        ab_ev gG z (d + 1) 90 44 [some (.inr (.inr (some b))), some (.inl p1), some (.inl p2), some (.inl (((2 : Int32) * x10) + (1 : Int32))), some (.inl (0 : Int32))] [] h17
    else
      some (some (.inl (1 : Int32)), h4)
else
  (ab_fI h4 b 742).bind fun x18 =>
    if x18 < 0 then
    ab_ev gG z (d + 1) 90 87 [some (.inr (.inr (some b))), some (.inl p1), some (.inl p2), none, none] [] h4
  else
    (ab_fR h4 b 704).bind fun o19 =>
      (ab_fI h4 b 742).bind fun x20 =>
      o19.bind fun a21 => (ab_aI 1 h4 a21 x20).bind fun x22 =>
      if x22 = 0 then
      ab_ev gG z (d + 1) 90 87 [some (.inr (.inr (some b))), some (.inl p1), some (.inl p2), none, none] [] h4
    else
      some (some (.inl (1 : Int32)), h4)
else none
else none := ab_ev_ex [44, 87, 104] 500 rfl
theorem bl_90_44 (z : Bool) (d : Nat) (b : Nat) (v1 v2 v3 v4 : Int32) (h : ab_H) : ab_ev gG z (d + 1) 90 44 [some (.inr (.inr (some b))), some (.inl v1), some (.inl v2), some (.inl v3), some (.inl v4)] [] h =
  (ab_fR h b 707).bind fun o1 =>
  (ab_fI h b 742).bind fun x2 =>
  o1.bind fun a3 => (ab_aI 0 h a3 x2).bind fun x4 =>
  if v4 < x4 then
  (ab_fR h b 732).bind fun o5 =>
    (ab_fR h b 708).bind fun o6 =>
    (ab_fI h b 742).bind fun x7 =>
    o6.bind fun a8 => (ab_aI 0 h a8 (((160 : Int32) * x7) + v4)).bind fun x9 =>
    o5.bind fun a10 => (ab_sI 0 h a10 (((160 : Int32) * v3) + v4) x9).bind fun h11 =>
    ab_ev gG z (d + 1) 90 44 [some (.inr (.inr (some b))), some (.inl v1), some (.inl v2), some (.inl v3), some (.inl (v4 + (1 : Int32)))] [] h11
else
  (ab_fR h b 724).bind fun o12 =>
    (ab_fI h b 721).bind fun x13 =>
    o12.bind fun a14 => (ab_sI 0 h a14 x13 v3).bind fun h15 =>
    some (some (.inl (0 : Int32)), h15) := ab_ev_ex [44, 87, 104] 500 rfl
theorem bl_90_87 (z : Bool) (d : Nat) (b : Nat) (v1 v2 : Int32) (h : ab_H) : ab_ev gG z (d + 1) 90 87 [some (.inr (.inr (some b))), some (.inl v1), some (.inl v2), none, none] [] h =
  (ab_fI h b 742).bind fun x1 =>
  if x1 < 0 then
  (ab_fI h b 743).bind fun x2 =>
    if x2 < 0 then
    some (some (.inl (1 : Int32)), h)
  else
    (ab_fI h b 742).bind fun x3 =>
      if x3 < 0 then
      if ab_isc h b 7 = true then
        (ab_c1 (ab_cl gG z d 107 [.inr (.inr (some b)), .inl (0 : Int32)] h)).bind fun r4 =>
        ab_ev gG z (d + 1) 90 104 [some (.inr (.inr (some b))), some (.inl v1), some (.inl v2), none, none] [.inl r4.1] r4.2
      else none
    else
      (ab_fI h b 742).bind fun x5 =>
        ab_ev gG z (d + 1) 90 104 [some (.inr (.inr (some b))), some (.inl v1), some (.inl v2), none, none] [.inl x5] h
else
  (ab_fI h b 742).bind fun x6 =>
    if x6 < 0 then
    if ab_isc h b 7 = true then
      (ab_c1 (ab_cl gG z d 107 [.inr (.inr (some b)), .inl (0 : Int32)] h)).bind fun r7 =>
      ab_ev gG z (d + 1) 90 104 [some (.inr (.inr (some b))), some (.inl v1), some (.inl v2), none, none] [.inl r7.1] r7.2
    else none
  else
    (ab_fI h b 742).bind fun x8 =>
      ab_ev gG z (d + 1) 90 104 [some (.inr (.inr (some b))), some (.inl v1), some (.inl v2), none, none] [.inl x8] h := ab_ev_ex [44, 87, 104] 500 rfl
theorem bl_90_104 (z : Bool) (d : Nat) (b : Nat) (v1 v2 s0 : Int32) (h : ab_H) : ab_ev gG z (d + 1) 90 104 [some (.inr (.inr (some b))), some (.inl v1), some (.inl v2), none, none] [.inl s0] h =
  if s0 < 0 then
  some (some (.inl (-9 : Int32)), h)
else
  (ab_fR h b 707).bind fun o1 =>
    if v1 = (7 : Int32) then
    o1.bind fun a2 => (ab_sI 0 h a2 s0 (0 : Int32)).bind fun h3 =>
      (ab_fR h3 b 726).bind fun o4 =>
      (ab_fI h3 b 721).bind fun x5 =>
      o4.bind fun a6 => (ab_sI 0 h3 a6 x5 s0).bind fun h7 =>
      some (some (.inl (0 : Int32)), h7)
  else
    (ab_fR h b 707).bind fun o8 =>
      o8.bind fun a9 => (ab_aI 0 h a9 s0).bind fun x10 =>
      o1.bind fun a11 => (ab_sI 0 h a11 s0 x10).bind fun h12 =>
      (ab_fR h12 b 726).bind fun o13 =>
      (ab_fI h12 b 721).bind fun x14 =>
      o13.bind fun a15 => (ab_sI 0 h12 a15 x14 s0).bind fun h16 =>
      some (some (.inl (0 : Int32)), h16) := ab_ev_ex [44, 87, 104] 500 rfl
theorem ent_90 (z : Bool) (d : Nat) (b : Nat) (p1 p2 : Int32) (h : ab_H) : ab_cl gG z d 90 [.inr (.inr (some b)), .inl p1, .inl p2] h = ab_ev gG z d 90 0 [some (.inr (.inr (some b))), some (.inl p1), some (.inl p2), none, none] [] h := rfl
/-! TreeShellModel.expand(I)V -/
theorem bl_91_0 (z : Bool) (d : Nat) (b : Nat) (p1 : Int32) (h : ab_H) : ab_ev gG z (d + 1) 91 0 [some (.inr (.inr (some b))), some (.inl p1), none, none, none, none] [] h =
  (ab_fR h b 717).bind fun o1 =>
  (ab_fI h b 716).bind fun x2 =>
  (ab_fI h b 719).bind fun x3 =>
  o1.bind fun a4 => (ab_sI 0 h a4 x2 x3).bind fun h5 =>
  (ab_fR h5 b 714).bind fun o6 =>
  o6.bind fun a7 => (ab_aI 0 h5 a7 p1).bind fun x8 =>
  ab_ev gG z (d + 1) 91 14 [some (.inr (.inr (some b))), some (.inl p1), some (.inl (0 : Int32)), some (.inl x8), none, none] [] h5 := ab_ev_ex [14, 48, 76] 500 rfl
theorem bl_91_14 (z : Bool) (d : Nat) (b : Nat) (v1 v2 v3 : Int32) (u4 u5 : Option ab_V) (h : ab_H) : ab_ev gG z (d + 1) 91 14 [some (.inr (.inr (some b))), some (.inl v1), some (.inl v2), some (.inl v3), u4, u5] [] h =
  (ab_fR h b 715).bind fun o1 =>
  o1.bind fun a2 => (ab_aI 0 h a2 v1).bind fun x3 =>
  if v3 < x3 then
  (ab_fR h b 711).bind fun o4 =>
    o4.bind fun a5 => (ab_aI 0 h a5 v3).bind fun x6 =>
    if x6 = (36 : Int32) then
    if v2 = 0 then
      (ab_fR h b 715).bind fun o7 =>
        o7.bind fun a8 => (ab_aI 0 h a8 v1).bind fun x9 =>
        if (v3 + (1 : Int32)) < x9 then
        (ab_fR h b 711).bind fun o10 =>
          o10.bind fun a11 => (ab_aI 0 h a11 (v3 + (1 : Int32))).bind fun x12 =>
          if x12 = (63 : Int32) then
          ab_ev gG z (d + 1) 91 48 [some (.inr (.inr (some b))), some (.inl v1), some (.inl v2), some (.inl v3), none, none] [.inl (1 : Int32)] h
        else
          ab_ev gG z (d + 1) 91 48 [some (.inr (.inr (some b))), some (.inl v1), some (.inl v2), some (.inl v3), none, none] [.inl (0 : Int32)] h
      else
        ab_ev gG z (d + 1) 91 48 [some (.inr (.inr (some b))), some (.inl v1), some (.inl v2), some (.inl v3), none, none] [.inl (0 : Int32)] h
    else
      ab_ev gG z (d + 1) 91 48 [some (.inr (.inr (some b))), some (.inl v1), some (.inl v2), some (.inl v3), none, none] [.inl (0 : Int32)] h
  else
    ab_ev gG z (d + 1) 91 48 [some (.inr (.inr (some b))), some (.inl v1), some (.inl v2), some (.inl v3), none, none] [.inl (0 : Int32)] h
else
  (ab_fR h b 718).bind fun o13 =>
    (ab_fI h b 716).bind fun x14 =>
    (ab_fI h b 719).bind fun x15 =>
    o13.bind fun a16 => (ab_sI 0 h a16 x14 x15).bind fun h17 =>
    (ab_fI h17 b 716).bind fun x18 =>
    (ab_pf h17 b 716 (.inl (x18 + (1 : Int32)))).bind fun h19 =>
    some (none, h19) := ab_ev_ex [14, 48, 76] 500 rfl
theorem bl_91_48 (z : Bool) (d : Nat) (b : Nat) (v1 v2 v3 s0 : Int32) (h : ab_H) : ab_ev gG z (d + 1) 91 48 [some (.inr (.inr (some b))), some (.inl v1), some (.inl v2), some (.inl v3), none, none] [.inl s0] h =
  (ab_fR h b 711).bind fun o1 =>
  o1.bind fun a2 => (ab_aI 0 h a2 v3).bind fun x3 =>
  if x3 = (39 : Int32) then
  if v2 = 0 then
    ab_ev gG z (d + 1) 91 14 [some (.inr (.inr (some b))), some (.inl v1), some (.inl (1 : Int32)), some (.inl (v3 + (1 : Int32))), some (.inl s0), none] [] h
  else
    ab_ev gG z (d + 1) 91 14 [some (.inr (.inr (some b))), some (.inl v1), some (.inl (0 : Int32)), some (.inl (v3 + (1 : Int32))), some (.inl s0), none] [] h
else
  if s0 = 0 then
    (ab_fR h b 711).bind fun o4 =>
      o4.bind fun a5 => (ab_aI 0 h a5 v3).bind fun x6 =>
      if ab_isc h b 7 = true then
      (ab_c0 (ab_cl gG z d 108 [.inr (.inr (some b)), .inl x6] h)).bind fun h7 =>
      ab_ev gG z (d + 1) 91 14 [some (.inr (.inr (some b))), some (.inl v1), some (.inl v2), some (.inl (v3 + (1 : Int32))), some (.inl s0), none] [] h7
    else none
  else
    (ab_fI h b 745).bind fun x8 =>
      (ab_c1 (ab_cl gG z d 109 [.inl x8] h)).bind fun r9 =>
      ab_ev gG z (d + 1) 91 76 [some (.inr (.inr (some b))), some (.inl v1), some (.inl v2), some (.inl v3), some (.inl s0), some (.inl r9.1)] [] r9.2 := ab_ev_ex [14, 48, 76] 500 rfl
theorem bl_91_76 (z : Bool) (d : Nat) (b : Nat) (v1 v2 v3 v4 v5 : Int32) (h : ab_H) : ab_ev gG z (d + 1) 91 76 [some (.inr (.inr (some b))), some (.inl v1), some (.inl v2), some (.inl v3), some (.inl v4), some (.inl v5)] [] h =
  if 0 < v5 then
  (ab_fI h b 745).bind fun x1 =>
    if v5 = 0 then none else
    if ab_isc h b 7 = true then
      (ab_c0 (ab_cl gG z d 108 [.inr (.inr (some b)), .inl ((48 : Int32) + ((x1 / v5) - (x1 / v5) / (10 : Int32) * (10 : Int32)))] h)).bind fun h2 =>
      ab_ev gG z (d + 1) 91 76 [some (.inr (.inr (some b))), some (.inl v1), some (.inl v2), some (.inl v3), some (.inl v4), some (.inl (v5 / (10 : Int32)))] [] h2
    else none
else
  ab_ev gG z (d + 1) 91 14 [some (.inr (.inr (some b))), some (.inl v1), some (.inl v2), some (.inl ((v3 + (1 : Int32)) + (1 : Int32))), some (.inl v4), some (.inl v5)] [] h := ab_ev_ex [14, 48, 76] 500 rfl
theorem ent_91 (z : Bool) (d : Nat) (b : Nat) (p1 : Int32) (h : ab_H) : ab_cl gG z d 91 [.inr (.inr (some b)), .inl p1] h = ab_ev gG z d 91 0 [some (.inr (.inr (some b))), some (.inl p1), none, none, none, none] [] h := rfl
/-! TreeShellModel.tool()I -/
theorem bl_92_0 (z : Bool) (d : Nat) (b : Nat) (h : ab_H) : ab_ev gG z (d + 1) 92 0 [some (.inr (.inr (some b))), none, none] [] h =
  if ab_isc h b 7 = true then
  (ab_c2 (ab_cl gG z d 110 [.inr (.inr (some b)), .inl (0 : Int32)] h)).bind fun r1 =>
  if (if r1.1 < (28538272837795840 : Int64) then (-1 : Int32) else if r1.1 = (28538272837795840 : Int64) then 0 else 1) = 0 then
  if ab_isc r1.2 b 7 = true then
    (ab_c1 (ab_cl gG z d 111 [.inr (.inr (some b))] r1.2)).bind fun r2 =>
    some (some (.inl r2.1), r2.2)
  else none
else
  if (if r1.1 < (27973173538455552 : Int64) then (-1 : Int32) else if r1.1 = (27973173538455552 : Int64) then 0 else 1) = 0 then
    if ab_isc r1.2 b 7 = true then
      (ab_c1 (ab_cl gG z d 112 [.inr (.inr (some b))] r1.2)).bind fun r3 =>
      some (some (.inl r3.1), r3.2)
    else none
  else
    if (if r1.1 < (33604373879717888 : Int64) then (-1 : Int32) else if r1.1 = (33604373879717888 : Int64) then 0 else 1) = 0 then
      if ab_isc r1.2 b 7 = true then
        (ab_c1 (ab_cl gG z d 113 [.inr (.inr (some b))] r1.2)).bind fun r4 =>
        some (some (.inl r4.1), r4.2)
      else none
    else
      if (if r1.1 < (29117702597509120 : Int64) then (-1 : Int32) else if r1.1 = (29117702597509120 : Int64) then 0 else 1) = 0 then
        if ab_isc r1.2 b 7 = true then
          (ab_c1 (ab_cl gG z d 114 [.inr (.inr (some b))] r1.2)).bind fun r5 =>
          some (some (.inl r5.1), r5.2)
        else none
      else
        if (if r1.1 < (30525741321945088 : Int64) then (-1 : Int32) else if r1.1 = (30525741321945088 : Int64) then 0 else 1) = 0 then
          if ab_isc r1.2 b 7 = true then
            (ab_c1 (ab_cl gG z d 115 [.inr (.inr (some b))] r1.2)).bind fun r6 =>
            some (some (.inl r6.1), r6.2)
          else none
        else
          if (if r1.1 < (30798851471441920 : Int64) then (-1 : Int32) else if r1.1 = (30798851471441920 : Int64) then 0 else 1) = 0 then
            if ab_isc r1.2 b 7 = true then
              (ab_c1 (ab_cl gG z d 116 [.inr (.inr (some b))] r1.2)).bind fun r7 =>
              some (some (.inl r7.1), r7.2)
            else none
          else
            if (if r1.1 < (27975973857132544 : Int64) then (-1 : Int32) else if r1.1 = (27975973857132544 : Int64) then 0 else 1) = 0 then
              if ab_isc r1.2 b 7 = true then
                (ab_c1 (ab_cl gG z d 117 [.inr (.inr (some b))] r1.2)).bind fun r8 =>
                some (some (.inl r8.1), r8.2)
              else none
            else
              some (some (.inl (127 : Int32)), r1.2)
else none := ab_ev_ex [] 500 rfl
theorem ent_92 (z : Bool) (d : Nat) (b : Nat) (h : ab_H) : ab_cl gG z d 92 [.inr (.inr (some b))] h = ab_ev gG z d 92 0 [some (.inr (.inr (some b))), none, none] [] h := rfl
/-! TreeShellModel.addTo(I)Z -/
theorem bl_93_0 (z : Bool) (d : Nat) (b : Nat) (p1 : Int32) (h : ab_H) : ab_ev gG z (d + 1) 93 0 [some (.inr (.inr (some b))), some (.inl p1), none, none] [] h =
  if ab_isc h b 7 = true then
  (ab_c1 (ab_cl gG z d 42 [.inr (.inr (some b))] h)).bind fun r1 =>
  (ab_fI r1.2 b 735).bind fun x2 =>
  (ab_fI r1.2 b 701).bind fun x3 =>
  if x3 < (r1.1 + x2) then
  some (some (.inl (0 : Int32)), r1.2)
else
  ab_ev gG z (d + 1) 93 14 [some (.inr (.inr (some b))), some (.inl p1), some (.inl r1.1), some (.inl (0 : Int32))] [] r1.2
else none := ab_ev_ex [14] 500 rfl
theorem bl_93_14 (z : Bool) (d : Nat) (b : Nat) (v1 v2 v3 : Int32) (h : ab_H) : ab_ev gG z (d + 1) 93 14 [some (.inr (.inr (some b))), some (.inl v1), some (.inl v2), some (.inl v3)] [] h =
  (ab_fI h b 735).bind fun x1 =>
  if v3 < x1 then
  (ab_fR h b 708).bind fun o2 =>
    (ab_fR h b 707).bind fun o3 =>
    o3.bind fun a4 => (ab_aI 0 h a4 v1).bind fun x5 =>
    (ab_fR h b 734).bind fun o6 =>
    o6.bind fun a7 => (ab_aI 0 h a7 v3).bind fun x8 =>
    o2.bind fun a9 => (ab_sI 0 h a9 ((((160 : Int32) * v1) + x5) + v3) x8).bind fun h10 =>
    ab_ev gG z (d + 1) 93 14 [some (.inr (.inr (some b))), some (.inl v1), some (.inl v2), some (.inl (v3 + (1 : Int32)))] [] h10
else
  (ab_fR h b 707).bind fun o11 =>
    o11.bind fun a12 => (ab_aI 0 h a12 v1).bind fun x13 =>
    (ab_fI h b 735).bind fun x14 =>
    o11.bind fun a15 => (ab_sI 0 h a15 v1 (x13 + x14)).bind fun h16 =>
    some (some (.inl (1 : Int32)), h16) := ab_ev_ex [14] 500 rfl
theorem ent_93 (z : Bool) (d : Nat) (b : Nat) (p1 : Int32) (h : ab_H) : ab_cl gG z d 93 [.inr (.inr (some b)), .inl p1] h = ab_ev gG z d 93 0 [some (.inr (.inr (some b))), some (.inl p1), none, none] [] h := rfl
/-! TreeShellModel.fill(I)V -/
theorem bl_94_0 (z : Bool) (d : Nat) (b : Nat) (p1 : Int32) (h : ab_H) : ab_ev gG z d 94 0 [some (.inr (.inr (some b))), some (.inl p1), none] [] h =
  (ab_fR h b 733).bind fun o1 =>
  (ab_fI h b 735).bind fun x2 =>
  o1.bind fun a3 => (ab_sI 0 h a3 p1 x2).bind fun h4 =>
  ab_ev gG z d 94 8 [some (.inr (.inr (some b))), some (.inl p1), some (.inl (0 : Int32))] [] h4 := ab_ev_ex [8] 500 rfl
theorem bl_94_8 (z : Bool) (d : Nat) (b : Nat) (v1 v2 : Int32) (h : ab_H) : ab_ev gG z d 94 8 [some (.inr (.inr (some b))), some (.inl v1), some (.inl v2)] [] h =
  (ab_fI h b 735).bind fun x1 =>
  if v2 < x1 then
  (ab_fR h b 732).bind fun o2 =>
    (ab_fR h b 734).bind fun o3 =>
    o3.bind fun a4 => (ab_aI 0 h a4 v2).bind fun x5 =>
    o2.bind fun a6 => (ab_sI 0 h a6 (((160 : Int32) * v1) + v2) x5).bind fun h7 =>
    ab_ev gG z d 94 8 [some (.inr (.inr (some b))), some (.inl v1), some (.inl (v2 + (1 : Int32)))] [] h7
else
  some (none, h) := ab_ev_ex [8] 500 rfl
theorem ent_94 (z : Bool) (d : Nat) (b : Nat) (p1 : Int32) (h : ab_H) : ab_cl gG z d 94 [.inr (.inr (some b)), .inl p1] h = ab_ev gG z d 94 0 [some (.inr (.inr (some b))), some (.inl p1), none] [] h := rfl
end
