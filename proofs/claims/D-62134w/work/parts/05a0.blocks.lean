section
set_option maxRecDepth 100000
set_option maxHeartbeats 2000000
/-! java/lang/StringBuilder.<init>()V -/
theorem bl_3_0 (z : Bool) (d : Nat) (b : Nat) (h : ab_H) : ab_ev gG z (d + 1) 3 0 [some (.inr (.inr (some b)))] [] h =
  (ab_c0 (ab_cl gG z d 12 [.inr (.inr (some b)), .inl (16 : Int32)] h)).bind fun h1 =>
  some (none, h1) := ab_ev_ex [] 500 rfl
theorem ent_3 (z : Bool) (d : Nat) (b : Nat) (h : ab_H) (hz : z = false) : ab_cl gG z d 3 [.inr (.inr (some b))] h = ab_ev gG z d 3 0 [some (.inr (.inr (some b)))] [] h := by subst hz; rfl
/-! java/lang/StringBuilder.append(C)Ljava/lang/StringBuilder; -/
theorem bl_4_0 (z : Bool) (d : Nat) (b : Nat) (p1 : Int32) (h : ab_H) : ab_ev gG z (d + 1) 4 0 [some (.inr (.inr (some b))), some (.inl p1)] [] h =
  if ab_isc h b 8 = true then
  (ab_c3 (ab_cl gG z d 13 [.inr (.inr (some b)), .inl p1] h)).bind fun r1 =>
  some (some (.inr (.inr (some b))), r1.2)
else none := ab_ev_ex [] 500 rfl
theorem ent_4 (z : Bool) (d : Nat) (b : Nat) (p1 : Int32) (h : ab_H) (hz : z = false) : ab_cl gG z d 4 [.inr (.inr (some b)), .inl p1] h = ab_ev gG z d 4 0 [some (.inr (.inr (some b))), some (.inl p1)] [] h := by subst hz; rfl
/-! java/lang/StringBuilder.append(I)Ljava/lang/StringBuilder; -/
theorem bl_5_0 (z : Bool) (d : Nat) (b : Nat) (p1 : Int32) (h : ab_H) : ab_ev gG z (d + 1) 5 0 [some (.inr (.inr (some b))), some (.inl p1)] [] h =
  if ab_isc h b 8 = true then
  (ab_c3 (ab_cl gG z d 14 [.inr (.inr (some b)), .inl p1] h)).bind fun r1 =>
  some (some (.inr (.inr (some b))), r1.2)
else none := ab_ev_ex [] 500 rfl
theorem ent_5 (z : Bool) (d : Nat) (b : Nat) (p1 : Int32) (h : ab_H) (hz : z = false) : ab_cl gG z d 5 [.inr (.inr (some b)), .inl p1] h = ab_ev gG z d 5 0 [some (.inr (.inr (some b))), some (.inl p1)] [] h := by subst hz; rfl
/-! java/lang/StringBuilder.charAt(I)C -/
theorem bl_6_0 (z : Bool) (d : Nat) (b : Nat) (p1 : Int32) (h : ab_H) : ab_ev gG z (d + 1) 6 0 [some (.inr (.inr (some b))), some (.inl p1)] [] h =
  if ab_isc h b 8 = true then
  (ab_c1 (ab_cl gG z d 15 [.inr (.inr (some b)), .inl p1] h)).bind fun r1 =>
  if vp_nar .char r1.1 = r1.1 then some (some (.inl r1.1), r1.2) else none
else none := ab_ev_ex [] 500 rfl
theorem ent_6 (z : Bool) (d : Nat) (b : Nat) (p1 : Int32) (h : ab_H) (hz : z = false) : ab_cl gG z d 6 [.inr (.inr (some b)), .inl p1] h = ab_ev gG z d 6 0 [some (.inr (.inr (some b))), some (.inl p1)] [] h := by subst hz; rfl
/-! java/lang/StringBuilder.length()I -/
theorem bl_7_0 (z : Bool) (d : Nat) (b : Nat) (h : ab_H) : ab_ev gG z (d + 1) 7 0 [some (.inr (.inr (some b)))] [] h =
  if ab_isc h b 8 = true then
  (ab_c1 (ab_cl gG z d 16 [.inr (.inr (some b))] h)).bind fun r1 =>
  some (some (.inl r1.1), r1.2)
else none := ab_ev_ex [] 500 rfl
theorem ent_7 (z : Bool) (d : Nat) (b : Nat) (h : ab_H) (hz : z = false) : ab_cl gG z d 7 [.inr (.inr (some b))] h = ab_ev gG z d 7 0 [some (.inr (.inr (some b)))] [] h := by subst hz; rfl
/-! java/lang/StringBuilder.setLength(I)V -/
theorem bl_8_0 (z : Bool) (d : Nat) (b : Nat) (p1 : Int32) (h : ab_H) : ab_ev gG z (d + 1) 8 0 [some (.inr (.inr (some b))), some (.inl p1)] [] h =
  if ab_isc h b 8 = true then
  (ab_c0 (ab_cl gG z d 17 [.inr (.inr (some b)), .inl p1] h)).bind fun h1 =>
  some (none, h1)
else none := ab_ev_ex [] 500 rfl
theorem ent_8 (z : Bool) (d : Nat) (b : Nat) (p1 : Int32) (h : ab_H) (hz : z = false) : ab_cl gG z d 8 [.inr (.inr (some b)), .inl p1] h = ab_ev gG z d 8 0 [some (.inr (.inr (some b))), some (.inl p1)] [] h := by subst hz; rfl
/-! java/lang/AbstractStringBuilder.<init>(I)V -/
theorem bl_12_0 (z : Bool) (d : Nat) (b : Nat) (p1 : Int32) (h : ab_H) : ab_ev gG z (d + 1) 12 0 [some (.inr (.inr (some b))), some (.inl p1)] [] h =
  (ab_c0 (ab_cl gG z d 0 [.inr (.inr (some b))] h)).bind fun h1 =>
  if (1 : Int32) = 0 then
  none
else
  if p1 < 0 ∨ 65536 < p1 then none else
    (ab_pf (ab_mk h1 (ab_cI 1 (p1).toNatClampNeg (fun _ => 0)) (p1).toNatClampNeg) b 800 (.inr (.inr (some (ab_sz h1))))).bind fun h2 =>
    (ab_pf h2 b 801 (.inl (0 : Int32))).bind fun h3 =>
    some (none, h3) := ab_ev_ex [] 500 rfl
theorem ent_12 (z : Bool) (d : Nat) (b : Nat) (p1 : Int32) (h : ab_H) : ab_cl gG z d 12 [.inr (.inr (some b)), .inl p1] h = ab_ev gG z d 12 0 [some (.inr (.inr (some b))), some (.inl p1)] [] h := rfl
/-! java/lang/AbstractStringBuilder.append(C)Ljava/lang/AbstractStringBuilder; -/
theorem bl_13_0 (z : Bool) (d : Nat) (b : Nat) (p1 : Int32) (h : ab_H) : ab_ev gG z (d + 1) 13 0 [some (.inr (.inr (some b))), some (.inl p1)] [] h =
  (ab_fI h b 803).bind fun x1 =>
  if ab_isc h b 8 = true then
  (ab_c0 (ab_cl gG z d 45 [.inr (.inr (some b)), .inl (x1 + (1 : Int32))] h)).bind fun h2 =>
  if ab_isc h2 b 8 = true then
  (ab_c1 (ab_cl gG z d 46 [.inr (.inr (some b))] h2)).bind fun r3 =>
  if r3.1 = 0 then
  ab_ev gG z (d + 1) 13 25 [some (.inr (.inr (some b))), some (.inl p1)] [] r3.2
else
  (ab_c1 (ab_cl gG z d 47 [.inl p1] r3.2)).bind fun r4 =>
    if r4.1 = 0 then
    ab_ev gG z (d + 1) 13 25 [some (.inr (.inr (some b))), some (.inl p1)] [] r4.2
  else
    (ab_fR r4.2 b 800).bind fun o5 =>
      (ab_fI r4.2 b 803).bind fun x6 =>
      (ab_pf r4.2 b 803 (.inl (x6 + (1 : Int32)))).bind fun h7 =>
      o5.bind fun a8 => (ab_sI 1 h7 a8 x6 ((p1).toInt8.toInt32)).bind fun h9 =>
      some (some (.inr (.inr (some b))), h9)
else none
else none := ab_ev_ex [25] 500 rfl
theorem bl_13_25 (z : Bool) (d : Nat) (b : Nat) (v1 : Int32) (h : ab_H) : ab_ev gG z (d + 1) 13 25 [some (.inr (.inr (some b))), some (.inl v1)] [] h =
  if ab_isc h b 8 = true then
  (ab_c1 (ab_cl gG z d 46 [.inr (.inr (some b))] h)).bind fun r1 =>
  if r1.1 = 0 then
  (ab_fR r1.2 b 800).bind fun o2 =>
    (ab_fI r1.2 b 803).bind fun x3 =>
    (ab_pf r1.2 b 803 (.inl (x3 + (1 : Int32)))).bind fun h4 =>
    none
else
  none
else none := ab_ev_ex [25] 500 rfl
theorem ent_13 (z : Bool) (d : Nat) (b : Nat) (p1 : Int32) (h : ab_H) : ab_cl gG z d 13 [.inr (.inr (some b)), .inl p1] h = ab_ev gG z d 13 0 [some (.inr (.inr (some b))), some (.inl p1)] [] h := rfl
/-! java/lang/AbstractStringBuilder.append(I)Ljava/lang/AbstractStringBuilder; -/
theorem bl_14_0 (z : Bool) (d : Nat) (b : Nat) (p1 : Int32) (h : ab_H) : ab_ev gG z (d + 1) 14 0 [some (.inr (.inr (some b))), some (.inl p1), none, none] [] h =
  (ab_fI h b 803).bind fun x1 =>
  (ab_c1 (ab_cl gG z d 48 [.inl p1] h)).bind fun r2 =>
  if ab_isc r2.2 b 8 = true then
  (ab_c0 (ab_cl gG z d 45 [.inr (.inr (some b)), .inl (x1 + r2.1)] r2.2)).bind fun h3 =>
  if ab_isc h3 b 8 = true then
  (ab_c1 (ab_cl gG z d 46 [.inr (.inr (some b))] h3)).bind fun r4 =>
  if r4.1 = 0 then
  (ab_fR r4.2 b 800).bind fun o5 =>
    none
else
  (ab_fR r4.2 b 800).bind fun o6 =>
    (ab_c1 (ab_cl gG z d 49 [.inl p1, .inl (x1 + r2.1), .inr (.inr o6)] r4.2)).bind fun r7 =>
    (ab_pf r7.2 b 803 (.inl (x1 + r2.1))).bind fun h8 =>
    some (some (.inr (.inr (some b))), h8)
else none
else none := ab_ev_ex [] 500 rfl
theorem ent_14 (z : Bool) (d : Nat) (b : Nat) (p1 : Int32) (h : ab_H) : ab_cl gG z d 14 [.inr (.inr (some b)), .inl p1] h = ab_ev gG z d 14 0 [some (.inr (.inr (some b))), some (.inl p1), none, none] [] h := rfl
/-! java/lang/AbstractStringBuilder.charAt(I)C -/
theorem bl_15_0 (z : Bool) (d : Nat) (b : Nat) (p1 : Int32) (h : ab_H) : ab_ev gG z (d + 1) 15 0 [some (.inr (.inr (some b))), some (.inl p1), none, none, none] [] h =
  (ab_fI h b 801).bind fun x1 =>
  (ab_fR h b 800).bind fun o2 =>
  (ab_fI h b 803).bind fun x3 =>
  o2.bind fun a4 => (ab_len h a4).bind fun x5 =>
  (ab_c1 (ab_cl gG z d 9 [.inl x3, .inl (x5 >>> (x1 &&& 31))] h)).bind fun r6 =>
  (ab_c0 (ab_cl gG z d 50 [.inl p1, .inl r6.1] r6.2)).bind fun h7 =>
  if x1 = 0 then
  o2.bind fun a8 => (ab_aI 1 h7 a8 p1).bind fun x9 =>
    if vp_nar .char ((((x9 &&& (255 : Int32))).toUInt32 % 65536).toInt32) = ((((x9 &&& (255 : Int32))).toUInt32 % 65536).toInt32) then some (some (.inl ((((x9 &&& (255 : Int32))).toUInt32 % 65536).toInt32)), h7) else none
else
  none := ab_ev_ex [] 500 rfl
theorem ent_15 (z : Bool) (d : Nat) (b : Nat) (p1 : Int32) (h : ab_H) : ab_cl gG z d 15 [.inr (.inr (some b)), .inl p1] h = ab_ev gG z d 15 0 [some (.inr (.inr (some b))), some (.inl p1), none, none, none] [] h := rfl
/-! java/lang/AbstractStringBuilder.length()I -/
theorem bl_16_0 (z : Bool) (d : Nat) (b : Nat) (h : ab_H) : ab_ev gG z d 16 0 [some (.inr (.inr (some b)))] [] h =
  (ab_fI h b 803).bind fun x1 =>
  some (some (.inl x1), h) := ab_ev_ex [] 500 rfl
theorem ent_16 (z : Bool) (d : Nat) (b : Nat) (h : ab_H) : ab_cl gG z d 16 [.inr (.inr (some b))] h = ab_ev gG z d 16 0 [some (.inr (.inr (some b)))] [] h := rfl
/-! java/lang/AbstractStringBuilder.setLength(I)V -/
theorem bl_17_0 (z : Bool) (d : Nat) (b : Nat) (p1 : Int32) (h : ab_H) : ab_ev gG z (d + 1) 17 0 [some (.inr (.inr (some b))), some (.inl p1)] [] h =
  if p1 < 0 then
  none
else
  if ab_isc h b 8 = true then
    (ab_c0 (ab_cl gG z d 45 [.inr (.inr (some b)), .inl p1] h)).bind fun h1 =>
    (ab_fI h1 b 803).bind fun x2 =>
    if x2 < p1 then
    if ab_isc h1 b 8 = true then
      (ab_c1 (ab_cl gG z d 46 [.inr (.inr (some b))] h1)).bind fun r3 =>
      if r3.1 = 0 then
      (ab_fR r3.2 b 800).bind fun o4 =>
        (ab_fI r3.2 b 803).bind fun x5 =>
        none
    else
      (ab_fR r3.2 b 800).bind fun o6 =>
        (ab_fI r3.2 b 803).bind fun x7 =>
        none
    else none
  else
    (ab_fI h1 b 803).bind fun x8 =>
      if p1 < x8 then
      (ab_pf h1 b 802 (.inl (1 : Int32))).bind fun h9 =>
        (ab_pf h9 b 803 (.inl p1)).bind fun h10 =>
        some (none, h10)
    else
      (ab_pf h1 b 803 (.inl p1)).bind fun h11 =>
        some (none, h11)
  else none := ab_ev_ex [] 500 rfl
theorem ent_17 (z : Bool) (d : Nat) (b : Nat) (p1 : Int32) (h : ab_H) : ab_cl gG z d 17 [.inr (.inr (some b)), .inl p1] h = ab_ev gG z d 17 0 [some (.inr (.inr (some b))), some (.inl p1)] [] h := rfl
/-! java/lang/AbstractStringBuilder.ensureCapacityInternal(I)V -/
theorem bl_45_0 (z : Bool) (d : Nat) (b : Nat) (p1 : Int32) (h : ab_H) : ab_ev gG z (d + 1) 45 0 [some (.inr (.inr (some b))), some (.inl p1), none] [] h =
  (ab_fR h b 800).bind fun o1 =>
  o1.bind fun a2 => (ab_len h a2).bind fun x3 =>
  (ab_fI h b 801).bind fun x4 =>
  if 0 < (p1 - (x3 >>> (x4 &&& 31))) then
  (ab_fR h b 800).bind fun o5 =>
    if ab_isc h b 8 = true then
    (ab_c1 (ab_cl gG z d 63 [.inr (.inr (some b)), .inl p1] h)).bind fun r6 =>
    (ab_fI r6.2 b 801).bind fun x7 =>
    (ab_c3 (ab_cl gG z d 64 [.inr (.inr o5), .inl (r6.1 <<< (x7 &&& 31))] r6.2)).bind fun r8 =>
    (ab_pf r8.2 b 800 (.inr (.inr r8.1))).bind fun h9 =>
    some (none, h9)
  else none
else
  some (none, h) := ab_ev_ex [] 500 rfl
theorem ent_45 (z : Bool) (d : Nat) (b : Nat) (p1 : Int32) (h : ab_H) : ab_cl gG z d 45 [.inr (.inr (some b)), .inl p1] h = ab_ev gG z d 45 0 [some (.inr (.inr (some b))), some (.inl p1), none] [] h := rfl
/-! java/lang/AbstractStringBuilder.isLatin1()Z -/
theorem bl_46_0 (z : Bool) (d : Nat) (b : Nat) (h : ab_H) : ab_ev gG z d 46 0 [some (.inr (.inr (some b)))] [] h =
  if (1 : Int32) = 0 then
  some (some (.inl (0 : Int32)), h)
else
  (ab_fI h b 801).bind fun x1 =>
    if x1 = 0 then
    some (some (.inl (1 : Int32)), h)
  else
    some (some (.inl (0 : Int32)), h) := ab_ev_ex [] 500 rfl
theorem ent_46 (z : Bool) (d : Nat) (b : Nat) (h : ab_H) : ab_cl gG z d 46 [.inr (.inr (some b))] h = ab_ev gG z d 46 0 [some (.inr (.inr (some b)))] [] h := rfl
/-! java/lang/StringLatin1.canEncode(C)Z -/
theorem bl_47_0 (z : Bool) (d : Nat) (p1 : Int32) (h : ab_H) : ab_ev gG z d 47 0 [some (.inl p1)] [] h =
  if (255 : Int32) < p1 then
  some (some (.inl (0 : Int32)), h)
else
  some (some (.inl (1 : Int32)), h) := ab_ev_ex [] 500 rfl
theorem ent_47 (z : Bool) (d : Nat) (p1 : Int32) (h : ab_H) : ab_cl gG z d 47 [.inl p1] h = ab_ev gG z d 47 0 [some (.inl p1)] [] h := rfl
/-! java/lang/Integer.stringSize(I)I -/
theorem bl_48_0 (z : Bool) (d : Nat) (p1 : Int32) (h : ab_H) : ab_ev gG z d 48 0 [some (.inl p1), none, none, none] [] h =
  if p1 < 0 then
  ab_ev gG z d 48 13 [some (.inl p1), some (.inl (1 : Int32)), some (.inl (-10 : Int32)), some (.inl (1 : Int32))] [] h
else
  ab_ev gG z d 48 13 [some (.inl (-p1)), some (.inl (0 : Int32)), some (.inl (-10 : Int32)), some (.inl (1 : Int32))] [] h := ab_ev_ex [13] 500 rfl
theorem bl_48_13 (z : Bool) (d : Nat) (v0 v1 v2 v3 : Int32) (h : ab_H) : ab_ev gG z d 48 13 [some (.inl v0), some (.inl v1), some (.inl v2), some (.inl v3)] [] h =
  if v3 < (10 : Int32) then
  if v2 < v0 then
    some (some (.inl (v3 + v1)), h)
  else
    ab_ev gG z d 48 13 [some (.inl v0), some (.inl v1), some (.inl ((10 : Int32) * v2)), some (.inl (v3 + (1 : Int32)))] [] h
else
  some (some (.inl ((10 : Int32) + v1)), h) := ab_ev_ex [13] 500 rfl
theorem ent_48 (z : Bool) (d : Nat) (p1 : Int32) (h : ab_H) : ab_cl gG z d 48 [.inl p1] h = ab_ev gG z d 48 0 [some (.inl p1), none, none, none] [] h := rfl
/-! java/lang/Integer.getChars(II[B)I -/
theorem bl_49_0 (z : Bool) (d : Nat) (p1 p2 : Int32) (p3 : Option Nat) (h : ab_H) : ab_ev gG z d 49 0 [some (.inl p1), some (.inl p2), some (.inr (.inr p3)), none, none, none, none] [] h =
  if p1 < 0 then
  if (1 : Int32) = 0 then
    ab_ev gG z d 49 13 [some (.inl (-p1)), some (.inl p2), some (.inr (.inr p3)), none, none, some (.inl p2), some (.inl (1 : Int32))] [] h
  else
    ab_ev gG z d 49 13 [some (.inl p1), some (.inl p2), some (.inr (.inr p3)), none, none, some (.inl p2), some (.inl (1 : Int32))] [] h
else
  if (0 : Int32) = 0 then
    ab_ev gG z d 49 13 [some (.inl (-p1)), some (.inl p2), some (.inr (.inr p3)), none, none, some (.inl p2), some (.inl (0 : Int32))] [] h
  else
    ab_ev gG z d 49 13 [some (.inl p1), some (.inl p2), some (.inr (.inr p3)), none, none, some (.inl p2), some (.inl (0 : Int32))] [] h := ab_ev_ex [13] 500 rfl
theorem bl_49_13 (z : Bool) (d : Nat) (v0 v1 v5 v6 : Int32) (v2 : Option Nat) (u3 u4 : Option ab_V) (h : ab_H) : ab_ev gG z d 49 13 [some (.inl v0), some (.inl v1), some (.inr (.inr v2)), u3, u4, some (.inl v5), some (.inl v6)] [] h =
  if (-100 : Int32) < v0 then
  (ab_aI 1 h (ab_ga h 31) (-v0)).bind fun x1 =>
    v2.bind fun a2 => (ab_sI 1 h a2 (v5 + (-1 : Int32)) x1).bind fun h3 =>
    if v0 < (-9 : Int32) then
    (ab_aI 1 h3 (ab_ga h3 32) (-v0)).bind fun x4 =>
      v2.bind fun a5 => (ab_sI 1 h3 a5 ((v5 + (-1 : Int32)) + (-1 : Int32)) x4).bind fun h6 =>
      if v6 = 0 then
      some (some (.inl ((v5 + (-1 : Int32)) + (-1 : Int32))), h6)
    else
      v2.bind fun a7 => (ab_sI 1 h6 a7 (((v5 + (-1 : Int32)) + (-1 : Int32)) + (-1 : Int32)) (45 : Int32)).bind fun h8 =>
        some (some (.inl (((v5 + (-1 : Int32)) + (-1 : Int32)) + (-1 : Int32))), h8)
  else
    if v6 = 0 then
      some (some (.inl (v5 + (-1 : Int32))), h3)
    else
      v2.bind fun a9 => (ab_sI 1 h3 a9 ((v5 + (-1 : Int32)) + (-1 : Int32)) (45 : Int32)).bind fun h10 =>
        some (some (.inl ((v5 + (-1 : Int32)) + (-1 : Int32))), h10)
else
  (ab_aI 1 h (ab_ga h 31) (((v0 / (100 : Int32)) * (100 : Int32)) - v0)).bind fun x11 =>
    v2.bind fun a12 => (ab_sI 1 h a12 (v5 + (-1 : Int32)) x11).bind fun h13 =>
    (ab_aI 1 h13 (ab_ga h13 32) (((v0 / (100 : Int32)) * (100 : Int32)) - v0)).bind fun x14 =>
    v2.bind fun a15 => (ab_sI 1 h13 a15 ((v5 + (-1 : Int32)) + (-1 : Int32)) x14).bind fun h16 =>
    ab_ev gG z d 49 13 [some (.inl (v0 / (100 : Int32))), some (.inl v1), some (.inr (.inr v2)), some (.inl (v0 / (100 : Int32))), some (.inl (((v0 / (100 : Int32)) * (100 : Int32)) - v0)), some (.inl ((v5 + (-1 : Int32)) + (-1 : Int32))), some (.inl v6)] [] h16 := ab_ev_ex [13] 500 rfl
theorem ent_49 (z : Bool) (d : Nat) (p1 p2 : Int32) (p3 : Option Nat) (h : ab_H) : ab_cl gG z d 49 [.inl p1, .inl p2, .inr (.inr p3)] h = ab_ev gG z d 49 0 [some (.inl p1), some (.inl p2), some (.inr (.inr p3)), none, none, none, none] [] h := rfl
/-! java/lang/String.checkIndex(II)V -/
theorem bl_50_0 (z : Bool) (d : Nat) (p1 p2 : Int32) (h : ab_H) : ab_ev gG z (d + 1) 50 0 [some (.inl p1), some (.inl p2)] [] h =
  (ab_c1 (ab_cl gG z d 65 [.inl p1, .inl p2, .inr (.inr (ab_go h 33))] h)).bind fun r1 =>
  some (none, r1.2) := ab_ev_ex [] 500 rfl
theorem ent_50 (z : Bool) (d : Nat) (p1 p2 : Int32) (h : ab_H) : ab_cl gG z d 50 [.inl p1, .inl p2] h = ab_ev gG z d 50 0 [some (.inl p1), some (.inl p2)] [] h := rfl
/-! java/lang/AbstractStringBuilder.newCapacity(I)I -/
theorem bl_63_0 (z : Bool) (d : Nat) (b : Nat) (p1 : Int32) (h : ab_H) : ab_ev gG z (d + 1) 63 0 [some (.inr (.inr (some b))), some (.inl p1), none, none, none, none] [] h =
  (ab_fR h b 800).bind fun o1 =>
  o1.bind fun a2 => (ab_len h a2).bind fun x3 =>
  (ab_fI h b 801).bind fun x4 =>
  (ab_fI h b 801).bind fun x5 =>
  (ab_c1 (ab_cl gG z d 78 [.inl x3, .inl ((p1 <<< (x4 &&& 31)) - x3), .inl (x3 + ((2 : Int32) <<< (x5 &&& 31)))] h)).bind fun r6 =>
  if r6.1 = (2147483647 : Int32) then
  none
else
  (ab_fI r6.2 b 801).bind fun x7 =>
    some (some (.inl (r6.1 >>> (x7 &&& 31))), r6.2) := ab_ev_ex [] 500 rfl
theorem ent_63 (z : Bool) (d : Nat) (b : Nat) (p1 : Int32) (h : ab_H) : ab_cl gG z d 63 [.inr (.inr (some b)), .inl p1] h = ab_ev gG z d 63 0 [some (.inr (.inr (some b))), some (.inl p1), none, none, none, none] [] h := rfl
/-! java/util/Arrays.copyOf([BI)[B -/
theorem bl_64_0 (z : Bool) (d : Nat) (p1 : Option Nat) (p2 : Int32) (h : ab_H) : ab_ev gG z (d + 1) 64 0 [some (.inr (.inr p1)), some (.inl p2), none] [] h =
  p1.bind fun a1 => (ab_len h a1).bind fun x2 =>
  if p2 = x2 then
  none
else
  if p2 < 0 ∨ 65536 < p2 then none else
    p1.bind fun a3 => (ab_len (ab_mk h (ab_cI 1 (p2).toNatClampNeg (fun _ => 0)) (p2).toNatClampNeg) a3).bind fun x4 =>
    (ab_c1 (ab_cl gG z d 9 [.inl x4, .inl p2] (ab_mk h (ab_cI 1 (p2).toNatClampNeg (fun _ => 0)) (p2).toNatClampNeg))).bind fun r5 =>
    (ab_c0 (ab_cl gG z d 1 [.inr (.inr p1), .inl (0 : Int32), .inr (.inr (some (ab_sz h))), .inl (0 : Int32), .inl r5.1] r5.2)).bind fun h6 =>
    some (some (.inr (.inr (some (ab_sz h)))), h6) := ab_ev_ex [] 500 rfl
theorem ent_64 (z : Bool) (d : Nat) (p1 : Option Nat) (p2 : Int32) (h : ab_H) : ab_cl gG z d 64 [.inr (.inr p1), .inl p2] h = ab_ev gG z d 64 0 [some (.inr (.inr p1)), some (.inl p2), none] [] h := rfl
/-! jdk/internal/util/Preconditions.checkIndex(IILjava/util/function/BiFunction;)I -/
theorem bl_65_0 (z : Bool) (d : Nat) (p1 p2 : Int32) (p3 : Option Nat) (h : ab_H) : ab_ev gG z d 65 0 [some (.inl p1), some (.inl p2), some (.inr (.inr p3))] [] h =
  if p1 < 0 then
  none
else
  if p1 < p2 then
    some (some (.inl p1), h)
  else
    none := ab_ev_ex [] 500 rfl
theorem ent_65 (z : Bool) (d : Nat) (p1 p2 : Int32) (p3 : Option Nat) (h : ab_H) : ab_cl gG z d 65 [.inl p1, .inl p2, .inr (.inr p3)] h = ab_ev gG z d 65 0 [some (.inl p1), some (.inl p2), some (.inr (.inr p3))] [] h := rfl
/-! jdk/internal/util/ArraysSupport.newLength(III)I -/
theorem bl_78_0 (z : Bool) (d : Nat) (p1 p2 p3 : Int32) (h : ab_H) : ab_ev gG z (d + 1) 78 0 [some (.inl p1), some (.inl p2), some (.inl p3), none] [] h =
  (ab_c1 (ab_cl gG z d 10 [.inl p2, .inl p3] h)).bind fun r1 =>
  if (0 : Int32) < (p1 + r1.1) then
  if (2147483639 : Int32) < (p1 + r1.1) then
    none
  else
    some (some (.inl (p1 + r1.1)), r1.2)
else
  none := ab_ev_ex [] 500 rfl
theorem ent_78 (z : Bool) (d : Nat) (p1 p2 p3 : Int32) (h : ab_H) : ab_cl gG z d 78 [.inl p1, .inl p2, .inl p3] h = ab_ev gG z d 78 0 [some (.inl p1), some (.inl p2), some (.inl p3), none] [] h := rfl
/-! java/lang/String.indexOf(I)I -/
theorem bl_96_0 (z : Bool) (d : Nat) (b : Nat) (p1 : Int32) (h : ab_H) : ab_ev gG z (d + 1) 96 0 [some (.inr (.inr (some b))), some (.inl p1)] [] h =
  if ab_isc h b 11 = true then
  (ab_c1 (ab_cl gG z d 118 [.inr (.inr (some b)), .inl p1, .inl (0 : Int32)] h)).bind fun r1 =>
  some (some (.inl r1.1), r1.2)
else none := ab_ev_ex [] 500 rfl
theorem ent_96 (z : Bool) (d : Nat) (b : Nat) (p1 : Int32) (h : ab_H) : ab_cl gG z d 96 [.inr (.inr (some b)), .inl p1] h = ab_ev gG z d 96 0 [some (.inr (.inr (some b))), some (.inl p1)] [] h := rfl
/-! java/lang/Enum.ordinal()I -/
theorem bl_98_0 (z : Bool) (d : Nat) (b : Nat) (h : ab_H) : ab_ev gG z d 98 0 [some (.inr (.inr (some b)))] [] h =
  (ab_fI h b 1300).bind fun x1 =>
  some (some (.inl x1), h) := ab_ev_ex [] 500 rfl
theorem ent_98 (z : Bool) (d : Nat) (b : Nat) (h : ab_H) : ab_cl gG z d 98 [.inr (.inr (some b))] h = ab_ev gG z d 98 0 [some (.inr (.inr (some b)))] [] h := rfl
/-! java/lang/String.indexOf(II)I -/
theorem bl_118_0 (z : Bool) (d : Nat) (b : Nat) (p1 p2 : Int32) (h : ab_H) : ab_ev gG z (d + 1) 118 0 [some (.inr (.inr (some b))), some (.inl p1), some (.inl p2)] [] h =
  if ab_isc h b 11 = true then
  (ab_c1 (ab_cl gG z d 134 [.inr (.inr (some b))] h)).bind fun r1 =>
  if r1.1 = 0 then
  (ab_fR r1.2 b 1100).bind fun o2 =>
    if ab_isc r1.2 b 11 = true then
    (ab_c1 (ab_cl gG z d 135 [.inr (.inr (some b))] r1.2)).bind fun r3 =>
    none
  else none
else
  (ab_fR r1.2 b 1100).bind fun o4 =>
    if ab_isc r1.2 b 11 = true then
    (ab_c1 (ab_cl gG z d 135 [.inr (.inr (some b))] r1.2)).bind fun r5 =>
    (ab_c1 (ab_cl gG z d 136 [.inr (.inr o4), .inl p1, .inl p2, .inl r5.1] r5.2)).bind fun r6 =>
    some (some (.inl r6.1), r6.2)
  else none
else none := ab_ev_ex [] 500 rfl
theorem ent_118 (z : Bool) (d : Nat) (b : Nat) (p1 p2 : Int32) (h : ab_H) : ab_cl gG z d 118 [.inr (.inr (some b)), .inl p1, .inl p2] h = ab_ev gG z d 118 0 [some (.inr (.inr (some b))), some (.inl p1), some (.inl p2)] [] h := rfl
/-! java/lang/String.isLatin1()Z -/
theorem bl_134_0 (z : Bool) (d : Nat) (b : Nat) (h : ab_H) : ab_ev gG z d 134 0 [some (.inr (.inr (some b)))] [] h =
  if (1 : Int32) = 0 then
  some (some (.inl (0 : Int32)), h)
else
  (ab_fI h b 1101).bind fun x1 =>
    if x1 = 0 then
    some (some (.inl (1 : Int32)), h)
  else
    some (some (.inl (0 : Int32)), h) := ab_ev_ex [] 500 rfl
theorem ent_134 (z : Bool) (d : Nat) (b : Nat) (h : ab_H) : ab_cl gG z d 134 [.inr (.inr (some b))] h = ab_ev gG z d 134 0 [some (.inr (.inr (some b)))] [] h := rfl
/-! java/lang/String.length()I -/
theorem bl_135_0 (z : Bool) (d : Nat) (b : Nat) (h : ab_H) : ab_ev gG z (d + 1) 135 0 [some (.inr (.inr (some b)))] [] h =
  (ab_fR h b 1100).bind fun o1 =>
  o1.bind fun a2 => (ab_len h a2).bind fun x3 =>
  if ab_isc h b 11 = true then
  (ab_c1 (ab_cl gG z d 142 [.inr (.inr (some b))] h)).bind fun r4 =>
  some (some (.inl (x3 >>> (r4.1 &&& 31))), r4.2)
else none := ab_ev_ex [] 500 rfl
theorem ent_135 (z : Bool) (d : Nat) (b : Nat) (h : ab_H) : ab_cl gG z d 135 [.inr (.inr (some b))] h = ab_ev gG z d 135 0 [some (.inr (.inr (some b)))] [] h := rfl
/-! java/lang/StringLatin1.indexOf([BIII)I -/
theorem bl_136_0 (z : Bool) (d : Nat) (p1 : Option Nat) (p2 p3 p4 : Int32) (h : ab_H) : ab_ev gG z (d + 1) 136 0 [some (.inr (.inr p1)), some (.inl p2), some (.inl p3), some (.inl p4)] [] h =
  (ab_c1 (ab_cl gG z d 143 [.inl p2] h)).bind fun r1 =>
  if r1.1 = 0 then
  some (some (.inl (-1 : Int32)), r1.2)
else
  (ab_c1 (ab_cl gG z d 10 [.inl p3, .inl (0 : Int32)] r1.2)).bind fun r2 =>
    p1.bind fun a3 => (ab_len r2.2 a3).bind fun x4 =>
    (ab_c1 (ab_cl gG z d 9 [.inl p4, .inl x4] r2.2)).bind fun r5 =>
    if r2.1 < r5.1 then
    (ab_c1 (ab_cl gG z d 144 [.inr (.inr p1), .inl p2, .inl r2.1, .inl r5.1] r5.2)).bind fun r6 =>
      some (some (.inl r6.1), r6.2)
  else
    some (some (.inl (-1 : Int32)), r5.2) := ab_ev_ex [] 500 rfl
theorem ent_136 (z : Bool) (d : Nat) (p1 : Option Nat) (p2 p3 p4 : Int32) (h : ab_H) : ab_cl gG z d 136 [.inr (.inr p1), .inl p2, .inl p3, .inl p4] h = ab_ev gG z d 136 0 [some (.inr (.inr p1)), some (.inl p2), some (.inl p3), some (.inl p4)] [] h := rfl
/-! java/lang/String.coder()B -/
theorem bl_142_0 (z : Bool) (d : Nat) (b : Nat) (h : ab_H) : ab_ev gG z d 142 0 [some (.inr (.inr (some b)))] [] h =
  if (1 : Int32) = 0 then
  if vp_nar .byte (1 : Int32) = (1 : Int32) then some (some (.inl (1 : Int32)), h) else none
else
  (ab_fI h b 1101).bind fun x1 =>
    if vp_nar .byte x1 = x1 then some (some (.inl x1), h) else none := ab_ev_ex [] 500 rfl
theorem ent_142 (z : Bool) (d : Nat) (b : Nat) (h : ab_H) : ab_cl gG z d 142 [.inr (.inr (some b))] h = ab_ev gG z d 142 0 [some (.inr (.inr (some b)))] [] h := rfl
/-! java/lang/StringLatin1.canEncode(I)Z -/
theorem bl_143_0 (z : Bool) (d : Nat) (p1 : Int32) (h : ab_H) : ab_ev gG z d 143 0 [some (.inl p1)] [] h =
  if p1 < 0 then
  some (some (.inl (0 : Int32)), h)
else
  if (255 : Int32) < p1 then
    some (some (.inl (0 : Int32)), h)
  else
    some (some (.inl (1 : Int32)), h) := ab_ev_ex [] 500 rfl
theorem ent_143 (z : Bool) (d : Nat) (p1 : Int32) (h : ab_H) : ab_cl gG z d 143 [.inl p1] h = ab_ev gG z d 143 0 [some (.inl p1)] [] h := rfl
/-! java/lang/StringLatin1.indexOfChar([BIII)I -/
theorem bl_144_0 (z : Bool) (d : Nat) (p1 : Option Nat) (p2 p3 p4 : Int32) (h : ab_H) : ab_ev gG z d 144 0 [some (.inr (.inr p1)), some (.inl p2), some (.inl p3), some (.inl p4), none, none] [] h =
  ab_ev gG z d 144 5 [some (.inr (.inr p1)), some (.inl p2), some (.inl p3), some (.inl p4), some (.inl ((p2).toInt8.toInt32)), some (.inl p3)] [] h := ab_ev_ex [5] 500 rfl
theorem bl_144_5 (z : Bool) (d : Nat) (v0 : Option Nat) (v1 v2 v3 v4 v5 : Int32) (h : ab_H) : ab_ev gG z d 144 5 [some (.inr (.inr v0)), some (.inl v1), some (.inl v2), some (.inl v3), some (.inl v4), some (.inl v5)] [] h =
  if v5 < v3 then
  v0.bind fun a1 => (ab_aI 1 h a1 v5).bind fun x2 =>
    if x2 = v4 then
    some (some (.inl v5), h)
  else
    ab_ev gG z d 144 5 [some (.inr (.inr v0)), some (.inl v1), some (.inl v2), some (.inl v3), some (.inl v4), some (.inl (v5 + (1 : Int32)))] [] h
else
  some (some (.inl (-1 : Int32)), h) := ab_ev_ex [5] 500 rfl
theorem ent_144 (z : Bool) (d : Nat) (p1 : Option Nat) (p2 p3 p4 : Int32) (h : ab_H) : ab_cl gG z d 144 [.inr (.inr p1), .inl p2, .inl p3, .inl p4] h = ab_ev gG z d 144 0 [some (.inr (.inr p1)), some (.inl p2), some (.inl p3), some (.inl p4), none, none] [] h := rfl
/-! java/lang/String.charAt(I)C -/
theorem bl_149_0 (z : Bool) (d : Nat) (b : Nat) (p1 : Int32) (h : ab_H) : ab_ev gG z (d + 1) 149 0 [some (.inr (.inr (some b))), some (.inl p1)] [] h =
  if ab_isc h b 11 = true then
  (ab_c1 (ab_cl gG z d 134 [.inr (.inr (some b))] h)).bind fun r1 =>
  if r1.1 = 0 then
  (ab_fR r1.2 b 1100).bind fun o2 =>
    none
else
  (ab_fR r1.2 b 1100).bind fun o3 =>
    (ab_c1 (ab_cl gG z d 160 [.inr (.inr o3), .inl p1] r1.2)).bind fun r4 =>
    if vp_nar .char r4.1 = r4.1 then some (some (.inl r4.1), r4.2) else none
else none := ab_ev_ex [] 500 rfl
theorem ent_149 (z : Bool) (d : Nat) (b : Nat) (p1 : Int32) (h : ab_H) : ab_cl gG z d 149 [.inr (.inr (some b)), .inl p1] h = ab_ev gG z d 149 0 [some (.inr (.inr (some b))), some (.inl p1)] [] h := rfl
/-! java/lang/StringLatin1.charAt([BI)C -/
theorem bl_160_0 (z : Bool) (d : Nat) (p1 : Option Nat) (p2 : Int32) (h : ab_H) : ab_ev gG z (d + 1) 160 0 [some (.inr (.inr p1)), some (.inl p2)] [] h =
  p1.bind fun a1 => (ab_len h a1).bind fun x2 =>
  (ab_c0 (ab_cl gG z d 50 [.inl p2, .inl x2] h)).bind fun h3 =>
  p1.bind fun a4 => (ab_aI 1 h3 a4 p2).bind fun x5 =>
  if vp_nar .char ((((x5 &&& (255 : Int32))).toUInt32 % 65536).toInt32) = ((((x5 &&& (255 : Int32))).toUInt32 % 65536).toInt32) then some (some (.inl ((((x5 &&& (255 : Int32))).toUInt32 % 65536).toInt32)), h3) else none := ab_ev_ex [] 500 rfl
theorem ent_160 (z : Bool) (d : Nat) (p1 : Option Nat) (p2 : Int32) (h : ab_H) : ab_cl gG z d 160 [.inr (.inr p1), .inl p2] h = ab_ev gG z d 160 0 [some (.inr (.inr p1)), some (.inl p2)] [] h := rfl
end
