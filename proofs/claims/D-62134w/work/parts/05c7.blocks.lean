section
set_option maxRecDepth 100000
set_option maxHeartbeats 2000000
/-! TreeShell.follow(I)V -/
theorem bl_145_0 (z : Bool) (d : Nat) (b : Nat) (p1 : Int32) (h : ab_H) : ab_ev gG z (d + 1) 145 0 [some (.inr (.inr (some b))), some (.inl p1), none, none, none] [] h =
  (ab_fR h b 9).bind fun o1 =>
  o1.bind fun a2 => (ab_fR h a2 601).bind fun o3 =>
  o3.bind fun a4 => (ab_aI 0 h a4 p1).bind fun x5 =>
  (ab_fR h b 9).bind fun o6 =>
  o6.bind fun a7 => (ab_fR h a7 601).bind fun o8 =>
  o8.bind fun a9 => (ab_aI 0 h a9 (p1 + (1 : Int32))).bind fun x10 =>
  if x5 < x10 then
  (ab_fR h b 9).bind fun o11 =>
    o11.bind fun a12 => (ab_fR h a12 600).bind fun o13 =>
    o13.bind fun a14 => if ab_isc h a14 8 = true then
    (ab_c1 (ab_cl gG z d 6 [.inr (.inr (some a14)), .inl x5] h)).bind fun r15 =>
    if r15.1 = (47 : Int32) then
    (ab_fR r15.2 b 3).bind fun o16 =>
      (ab_pf r15.2 b 18 (.inr (.inr o16))).bind fun h17 =>
      (ab_pf h17 b 19 (.inr (.inr none))).bind fun h18 =>
      ab_ev gG z (d + 1) 145 34 [some (.inr (.inr (some b))), some (.inl p1), some (.inl x5), some (.inl x10), none] [] h18
  else
    (ab_fR r15.2 b 4).bind fun o19 =>
      (ab_pf r15.2 b 18 (.inr (.inr o19))).bind fun h20 =>
      (ab_pf h20 b 19 (.inr (.inr none))).bind fun h21 =>
      ab_ev gG z (d + 1) 145 34 [some (.inr (.inr (some b))), some (.inl p1), some (.inl x5), some (.inl x10), none] [] h21
  else none
else
  (ab_fR h b 4).bind fun o22 =>
    (ab_pf h b 18 (.inr (.inr o22))).bind fun h23 =>
    (ab_pf h23 b 19 (.inr (.inr none))).bind fun h24 =>
    ab_ev gG z (d + 1) 145 34 [some (.inr (.inr (some b))), some (.inl p1), some (.inl x5), some (.inl x10), none] [] h24 := ab_ev_ex [34, 40, 52] 500 rfl
theorem bl_145_34 (z : Bool) (d : Nat) (b : Nat) (v1 v2 v3 : Int32) (u4 : Option ab_V) (h : ab_H) : ab_ev gG z (d + 1) 145 34 [some (.inr (.inr (some b))), some (.inl v1), some (.inl v2), some (.inl v3), u4] [] h =
  if v2 < v3 then
  ab_ev gG z (d + 1) 145 40 [some (.inr (.inr (some b))), some (.inl v1), some (.inl v2), some (.inl v3), some (.inl v2)] [] h
else
  some (none, h) := ab_ev_ex [34, 40, 52] 500 rfl
theorem bl_145_40 (z : Bool) (d : Nat) (b : Nat) (v1 v2 v3 v4 : Int32) (h : ab_H) : ab_ev gG z (d + 1) 145 40 [some (.inr (.inr (some b))), some (.inl v1), some (.inl v2), some (.inl v3), some (.inl v4)] [] h =
  if v4 < v3 then
  (ab_fR h b 9).bind fun o1 =>
    o1.bind fun a2 => (ab_fR h a2 600).bind fun o3 =>
    o3.bind fun a4 => if ab_isc h a4 8 = true then
    (ab_c1 (ab_cl gG z d 6 [.inr (.inr (some a4)), .inl v4] h)).bind fun r5 =>
    if r5.1 = (47 : Int32) then
    ab_ev gG z (d + 1) 145 52 [some (.inr (.inr (some b))), some (.inl v1), some (.inl v2), some (.inl v3), some (.inl v4)] [] r5.2
  else
    ab_ev gG z (d + 1) 145 40 [some (.inr (.inr (some b))), some (.inl v1), some (.inl v2), some (.inl v3), some (.inl (v4 + (1 : Int32)))] [] r5.2
  else none
else
  ab_ev gG z (d + 1) 145 52 [some (.inr (.inr (some b))), some (.inl v1), some (.inl v2), some (.inl v3), some (.inl v4)] [] h := ab_ev_ex [34, 40, 52] 500 rfl
theorem bl_145_52 (z : Bool) (d : Nat) (b : Nat) (v1 v2 v3 v4 : Int32) (h : ab_H) : ab_ev gG z (d + 1) 145 52 [some (.inr (.inr (some b))), some (.inl v1), some (.inl v2), some (.inl v3), some (.inl v4)] [] h =
  if v2 < v4 then
  (ab_fR h b 9).bind fun o1 =>
    o1.bind fun a2 => if ab_isc h a2 6 = true then
    (ab_c1 (ab_cl gG z d 157 [.inr (.inr (some a2)), .inl v2, .inl v4, .inl (1 : Int32)] h)).bind fun r3 =>
    if r3.1 = 0 then
    if ab_isc r3.2 b 0 = true then
      (ab_c0 (ab_cl gG z d 158 [.inr (.inr (some b)), .inl v2, .inl v4] r3.2)).bind fun h4 =>
      ab_ev gG z (d + 1) 145 34 [some (.inr (.inr (some b))), some (.inl v1), some (.inl (v4 + (1 : Int32))), some (.inl v3), some (.inl v4)] [] h4
    else none
  else
    ab_ev gG z (d + 1) 145 34 [some (.inr (.inr (some b))), some (.inl v1), some (.inl (v4 + (1 : Int32))), some (.inl v3), some (.inl v4)] [] r3.2
  else none
else
  ab_ev gG z (d + 1) 145 34 [some (.inr (.inr (some b))), some (.inl v1), some (.inl (v4 + (1 : Int32))), some (.inl v3), some (.inl v4)] [] h := ab_ev_ex [34, 40, 52] 500 rfl
theorem ent_145 (z : Bool) (d : Nat) (b : Nat) (p1 : Int32) (h : ab_H) : ab_cl gG z d 145 [.inr (.inr (some b)), .inl p1] h = ab_ev gG z d 145 0 [some (.inr (.inr (some b))), some (.inl p1), none, none, none] [] h := rfl
/-! TreeShell.room()Z -/
theorem bl_146_0 (z : Bool) (d : Nat) (b : Nat) (h : ab_H) : ab_ev gG z d 146 0 [some (.inr (.inr (some b)))] [] h =
  (ab_fI h b 5).bind fun x1 =>
  (ab_fI h b 0).bind fun x2 =>
  if x1 < x2 then
  (ab_pf h b 17 (.inl (0 : Int32))).bind fun h3 =>
    (ab_fI h3 b 17).bind fun x4 =>
    if x4 = 0 then
    some (some (.inl (1 : Int32)), h3)
  else
    some (some (.inl (0 : Int32)), h3)
else
  (ab_pf h b 17 (.inl (1 : Int32))).bind fun h5 =>
    (ab_fI h5 b 17).bind fun x6 =>
    if x6 = 0 then
    some (some (.inl (1 : Int32)), h5)
  else
    some (some (.inl (0 : Int32)), h5) := ab_ev_ex [] 500 rfl
theorem ent_146 (z : Bool) (d : Nat) (b : Nat) (h : ab_H) : ab_cl gG z d 146 [.inr (.inr (some b))] h = ab_ev gG z d 146 0 [some (.inr (.inr (some b)))] [] h := rfl
/-! TreeShell$Doc.<init>(JLTreeShell$Dir;)V -/
theorem bl_147_0 (z : Bool) (d : Nat) (b : Nat) (p1 : Int64) (p2 : Option Nat) (h : ab_H) : ab_ev gG z (d + 1) 147 0 [some (.inr (.inr (some b))), some (.inr (.inl p1)), none, some (.inr (.inr p2))] [] h =
  (ab_c0 (ab_cl gG z d 66 [.inr (.inr (some b)), .inr (.inl p1), .inr (.inr p2)] h)).bind fun h1 =>
  (ab_c0 (ab_cl gG z d 3 [.inr (.inr (some (ab_sz h1)))] (ab_mk h1 (ab_cO 8 (ab_birth 8)) 4))).bind fun h2 =>
  (ab_pf h2 b 203 (.inr (.inr (some (ab_sz h1))))).bind fun h3 =>
  some (none, h3) := ab_ev_ex [] 500 rfl
theorem ent_147 (z : Bool) (d : Nat) (b : Nat) (p1 : Int64) (p2 : Option Nat) (h : ab_H) : ab_cl gG z d 147 [.inr (.inr (some b)), .inr (.inl p1), .inr (.inr p2)] h = ab_ev gG z d 147 0 [some (.inr (.inr (some b))), some (.inr (.inl p1)), none, some (.inr (.inr p2))] [] h := rfl
/-! TreeShell.settle(LTreeShell$Node;)V -/
theorem bl_148_0 (z : Bool) (d : Nat) (b : Nat) (p1 : Option Nat) (h : ab_H) : ab_ev gG z (d + 1) 148 0 [some (.inr (.inr (some b))), some (.inr (.inr p1))] [] h =
  p1.bind fun a1 => (ab_fR h a1 1201).bind fun o2 =>
  o2.bind fun a3 => if ab_isc h a3 1 = true then
  (ab_c0 (ab_cl gG z d 159 [.inr (.inr (some a3)), .inr (.inr p1)] h)).bind fun h4 =>
  (ab_pf h4 b 18 (.inr (.inr p1))).bind fun h5 =>
  (ab_fI h5 b 5).bind fun x6 =>
  (ab_pf h5 b 5 (.inl (x6 + (1 : Int32)))).bind fun h7 =>
  some (none, h7)
else none := ab_ev_ex [] 500 rfl
theorem ent_148 (z : Bool) (d : Nat) (b : Nat) (p1 : Option Nat) (h : ab_H) : ab_cl gG z d 148 [.inr (.inr (some b)), .inr (.inr p1)] h = ab_ev gG z d 148 0 [some (.inr (.inr (some b))), some (.inr (.inr p1))] [] h := rfl
/-! TreeShell.echo(Ljava/lang/StringBuilder;)I -/
theorem bl_150_0 (z : Bool) (d : Nat) (b : Nat) (p1 : Option Nat) (h : ab_H) : ab_ev gG z (d + 1) 150 0 [some (.inr (.inr (some b))), some (.inr (.inr p1)), none, none, none, none] [] h =
  (ab_fR h b 9).bind fun o1 =>
  o1.bind fun a2 => if ab_isc h a2 6 = true then
  (ab_c1 (ab_cl gG z d 140 [.inr (.inr (some a2)), .inl (1 : Int32), .inr (.inr (some (ab_ga h 41)))] h)).bind fun r3 =>
  if r3.1 = 0 then
  ab_ev gG z (d + 1) 150 14 [some (.inr (.inr (some b))), some (.inr (.inr p1)), some (.inl r3.1), some (.inl (1 : Int32)), some (.inl (1 : Int32)), none] [] r3.2
else
  ab_ev gG z (d + 1) 150 14 [some (.inr (.inr (some b))), some (.inr (.inr p1)), some (.inl r3.1), some (.inl (2 : Int32)), some (.inl (2 : Int32)), none] [] r3.2
else none := ab_ev_ex [14, 37] 500 rfl
theorem bl_150_14 (z : Bool) (d : Nat) (b : Nat) (v1 : Option Nat) (v2 v3 v4 : Int32) (u5 : Option ab_V) (h : ab_H) : ab_ev gG z (d + 1) 150 14 [some (.inr (.inr (some b))), some (.inr (.inr v1)), some (.inl v2), some (.inl v3), some (.inl v4), u5] [] h =
  (ab_fR h b 9).bind fun o1 =>
  o1.bind fun a2 => (ab_fI h a2 604).bind fun x3 =>
  if v4 < x3 then
  if v3 < v4 then
    v1.bind fun a4 => if ab_isc h a4 8 = true then
      (ab_c3 (ab_cl gG z d 4 [.inr (.inr (some a4)), .inl (32 : Int32)] h)).bind fun r5 =>
      (ab_fR r5.2 b 9).bind fun o6 =>
      o6.bind fun a7 => (ab_fR r5.2 a7 601).bind fun o8 =>
      (ab_fR r5.2 b 9).bind fun o9 =>
      o9.bind fun a10 => (ab_fR r5.2 a10 603).bind fun o11 =>
      o11.bind fun a12 => (ab_aI 0 r5.2 a12 v4).bind fun x13 =>
      o8.bind fun a14 => (ab_aI 0 r5.2 a14 x13).bind fun x15 =>
      ab_ev gG z (d + 1) 150 37 [some (.inr (.inr (some b))), some (.inr (.inr v1)), some (.inl v2), some (.inl v3), some (.inl v4), some (.inl x15)] [] r5.2
    else none
  else
    (ab_fR h b 9).bind fun o16 =>
      o16.bind fun a17 => (ab_fR h a17 601).bind fun o18 =>
      (ab_fR h b 9).bind fun o19 =>
      o19.bind fun a20 => (ab_fR h a20 603).bind fun o21 =>
      o21.bind fun a22 => (ab_aI 0 h a22 v4).bind fun x23 =>
      o18.bind fun a24 => (ab_aI 0 h a24 x23).bind fun x25 =>
      ab_ev gG z (d + 1) 150 37 [some (.inr (.inr (some b))), some (.inr (.inr v1)), some (.inl v2), some (.inl v3), some (.inl v4), some (.inl x25)] [] h
else
  if v2 = 0 then
    v1.bind fun a26 => if ab_isc h a26 8 = true then
      (ab_c3 (ab_cl gG z d 4 [.inr (.inr (some a26)), .inl (10 : Int32)] h)).bind fun r27 =>
      some (some (.inl (0 : Int32)), r27.2)
    else none
  else
    some (some (.inl (0 : Int32)), h) := ab_ev_ex [14, 37] 500 rfl
theorem bl_150_37 (z : Bool) (d : Nat) (b : Nat) (v1 : Option Nat) (v2 v3 v4 v5 : Int32) (h : ab_H) : ab_ev gG z (d + 1) 150 37 [some (.inr (.inr (some b))), some (.inr (.inr v1)), some (.inl v2), some (.inl v3), some (.inl v4), some (.inl v5)] [] h =
  (ab_fR h b 9).bind fun o1 =>
  o1.bind fun a2 => (ab_fR h a2 601).bind fun o3 =>
  (ab_fR h b 9).bind fun o4 =>
  o4.bind fun a5 => (ab_fR h a5 603).bind fun o6 =>
  o6.bind fun a7 => (ab_aI 0 h a7 v4).bind fun x8 =>
  o3.bind fun a9 => (ab_aI 0 h a9 (x8 + (1 : Int32))).bind fun x10 =>
  if v5 < x10 then
  (ab_fR h b 9).bind fun o11 =>
    o11.bind fun a12 => (ab_fR h a12 600).bind fun o13 =>
    o13.bind fun a14 => if ab_isc h a14 8 = true then
    (ab_c1 (ab_cl gG z d 6 [.inr (.inr (some a14)), .inl v5] h)).bind fun r15 =>
    v1.bind fun a16 => if ab_isc r15.2 a16 8 = true then
    (ab_c3 (ab_cl gG z d 4 [.inr (.inr (some a16)), .inl r15.1] r15.2)).bind fun r17 =>
    ab_ev gG z (d + 1) 150 37 [some (.inr (.inr (some b))), some (.inr (.inr v1)), some (.inl v2), some (.inl v3), some (.inl v4), some (.inl (v5 + (1 : Int32)))] [] r17.2
  else none
  else none
else
  ab_ev gG z (d + 1) 150 14 [some (.inr (.inr (some b))), some (.inr (.inr v1)), some (.inl v2), some (.inl v3), some (.inl (v4 + (1 : Int32))), some (.inl v5)] [] h := ab_ev_ex [14, 37] 500 rfl
theorem ent_150 (z : Bool) (d : Nat) (b : Nat) (p1 : Option Nat) (h : ab_H) : ab_cl gG z d 150 [.inr (.inr (some b)), .inr (.inr p1)] h = ab_ev gG z d 150 0 [some (.inr (.inr (some b))), some (.inr (.inr p1)), none, none, none, none] [] h := rfl
/-! TreeShell.cat(LTreeShell$Level;)I -/
theorem bl_151_0 (z : Bool) (d : Nat) (b : Nat) (p1 : Option Nat) (h : ab_H) : ab_ev gG z (d + 1) 151 0 [some (.inr (.inr (some b))), some (.inr (.inr p1)), none, none] [] h =
  (ab_fR h b 9).bind fun o1 =>
  o1.bind fun a2 => (ab_fI h a2 604).bind fun x3 =>
  if x3 = (1 : Int32) then
  p1.bind fun a4 => (ab_fR h a4 405).bind fun o5 =>
    p1.bind fun a6 => (ab_fR h a6 400).bind fun o7 =>
    (ab_c0 (ab_cl gG z d 105 [.inr (.inr o5), .inr (.inr o7)] h)).bind fun h8 =>
    p1.bind fun a9 => (ab_fR h8 a9 405).bind fun o10 =>
    o10.bind fun a11 => if ab_isc h8 a11 8 = true then
    (ab_c0 (ab_cl gG z d 8 [.inr (.inr (some a11)), .inl (0 : Int32)] h8)).bind fun h12 =>
    some (some (.inl (0 : Int32)), h12)
  else none
else
  ab_ev gG z (d + 1) 151 18 [some (.inr (.inr (some b))), some (.inr (.inr p1)), some (.inl (1 : Int32)), none] [] h := ab_ev_ex [18] 500 rfl
theorem bl_151_18 (z : Bool) (d : Nat) (b : Nat) (v1 : Option Nat) (v2 : Int32) (u3 : Option ab_V) (h : ab_H) : ab_ev gG z (d + 1) 151 18 [some (.inr (.inr (some b))), some (.inr (.inr v1)), some (.inl v2), u3] [] h =
  (ab_fR h b 9).bind fun o1 =>
  o1.bind fun a2 => (ab_fI h a2 604).bind fun x3 =>
  if v2 < x3 then
  if ab_isc h b 0 = true then
    (ab_c3 (ab_cl gG z d 161 [.inr (.inr (some b)), .inl v2] h)).bind fun r4 =>
    if (r4.1 : Option Nat) = none then
    some (some (.inl (1 : Int32)), r4.2)
  else
    v1.bind fun a5 => (ab_fR r4.2 a5 400).bind fun o6 =>
      (ab_c0 (ab_cl gG z d 105 [.inr (.inr r4.1), .inr (.inr o6)] r4.2)).bind fun h7 =>
      ab_ev gG z (d + 1) 151 18 [some (.inr (.inr (some b))), some (.inr (.inr v1)), some (.inl (v2 + (1 : Int32))), some (.inr (.inr r4.1))] [] h7
  else none
else
  some (some (.inl (0 : Int32)), h) := ab_ev_ex [18] 500 rfl
theorem ent_151 (z : Bool) (d : Nat) (b : Nat) (p1 : Option Nat) (h : ab_H) : ab_cl gG z d 151 [.inr (.inr (some b)), .inr (.inr p1)] h = ab_ev gG z d 151 0 [some (.inr (.inr (some b))), some (.inr (.inr p1)), none, none] [] h := rfl
end
