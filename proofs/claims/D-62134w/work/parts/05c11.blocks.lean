section
set_option maxRecDepth 100000
set_option maxHeartbeats 2000000
/-! TreeShell$Words.name(II)J -/
theorem bl_166_0 (z : Bool) (d : Nat) (b : Nat) (p1 p2 : Int32) (h : ab_H) : ab_ev gG z (d + 1) 166 0 [some (.inr (.inr (some b))), some (.inl p1), some (.inl p2), none, none, none, none, none] [] h =
  if (7 : Int32) < (p2 - p1) then
  some (some (.inr (.inl (-1 : Int64))), h)
else
  ab_ev gG z (d + 1) 166 11 [some (.inr (.inr (some b))), some (.inl p1), some (.inl p2), some (.inr (.inl (0 : Int64))), none, some (.inl p1), none, none] [] h := ab_ev_ex [11, 26, 40, 52] 500 rfl
theorem bl_166_11 (z : Bool) (d : Nat) (b : Nat) (v1 v2 v5 : Int32) (v3 : Int64) (u6 u7 : Option ab_V) (h : ab_H) : ab_ev gG z (d + 1) 166 11 [some (.inr (.inr (some b))), some (.inl v1), some (.inl v2), some (.inr (.inl v3)), none, some (.inl v5), u6, u7] [] h =
  if v5 < (v1 + (7 : Int32)) then
  if v5 < v2 then
    (ab_fR h b 600).bind fun o1 =>
      o1.bind fun a2 => if ab_isc h a2 8 = true then
      (ab_c1 (ab_cl gG z d 6 [.inr (.inr (some a2)), .inl v5] h)).bind fun r3 =>
      ab_ev gG z (d + 1) 166 26 [some (.inr (.inr (some b))), some (.inl v1), some (.inl v2), some (.inr (.inl v3)), none, some (.inl v5), none, none] [.inl r3.1] r3.2
    else none
  else
    ab_ev gG z (d + 1) 166 26 [some (.inr (.inr (some b))), some (.inl v1), some (.inl v2), some (.inr (.inl v3)), none, some (.inl v5), none, none] [.inl (0 : Int32)] h
else
  some (some (.inr (.inl v3)), h) := ab_ev_ex [11, 26, 40, 52] 500 rfl
theorem bl_166_26 (z : Bool) (d : Nat) (b : Nat) (v1 v2 v5 s0 : Int32) (v3 : Int64) (h : ab_H) : ab_ev gG z (d + 1) 166 26 [some (.inr (.inr (some b))), some (.inl v1), some (.inl v2), some (.inr (.inl v3)), none, some (.inl v5), none, none] [.inl s0] h =
  if s0 < (97 : Int32) then
  if s0 < (48 : Int32) then
    ab_ev gG z (d + 1) 166 40 [some (.inr (.inr (some b))), some (.inl v1), some (.inl v2), some (.inr (.inl v3)), none, some (.inl v5), some (.inl s0), none] [] h
  else
    if (57 : Int32) < s0 then
      ab_ev gG z (d + 1) 166 40 [some (.inr (.inr (some b))), some (.inl v1), some (.inl v2), some (.inr (.inl v3)), none, some (.inl v5), some (.inl s0), none] [] h
    else
      ab_ev gG z (d + 1) 166 52 [some (.inr (.inr (some b))), some (.inl v1), some (.inl v2), some (.inr (.inl v3)), none, some (.inl v5), some (.inl s0), none] [.inl (1 : Int32)] h
else
  if (122 : Int32) < s0 then
    if s0 < (48 : Int32) then
      ab_ev gG z (d + 1) 166 40 [some (.inr (.inr (some b))), some (.inl v1), some (.inl v2), some (.inr (.inl v3)), none, some (.inl v5), some (.inl s0), none] [] h
    else
      if (57 : Int32) < s0 then
        ab_ev gG z (d + 1) 166 40 [some (.inr (.inr (some b))), some (.inl v1), some (.inl v2), some (.inr (.inl v3)), none, some (.inl v5), some (.inl s0), none] [] h
      else
        ab_ev gG z (d + 1) 166 52 [some (.inr (.inr (some b))), some (.inl v1), some (.inl v2), some (.inr (.inl v3)), none, some (.inl v5), some (.inl s0), none] [.inl (1 : Int32)] h
  else
    ab_ev gG z (d + 1) 166 52 [some (.inr (.inr (some b))), some (.inl v1), some (.inl v2), some (.inr (.inl v3)), none, some (.inl v5), some (.inl s0), none] [.inl (1 : Int32)] h := ab_ev_ex [11, 26, 40, 52] 500 rfl
theorem bl_166_40 (z : Bool) (d : Nat) (b : Nat) (v1 v2 v5 v6 : Int32) (v3 : Int64) (h : ab_H) : ab_ev gG z (d + 1) 166 40 [some (.inr (.inr (some b))), some (.inl v1), some (.inl v2), some (.inr (.inl v3)), none, some (.inl v5), some (.inl v6), none] [] h =
  if v6 = (95 : Int32) then
  ab_ev gG z (d + 1) 166 52 [some (.inr (.inr (some b))), some (.inl v1), some (.inl v2), some (.inr (.inl v3)), none, some (.inl v5), some (.inl v6), none] [.inl (1 : Int32)] h
else
  if v6 = (46 : Int32) then
    ab_ev gG z (d + 1) 166 52 [some (.inr (.inr (some b))), some (.inl v1), some (.inl v2), some (.inr (.inl v3)), none, some (.inl v5), some (.inl v6), none] [.inl (1 : Int32)] h
  else
    if v6 = 0 then
      ab_ev gG z (d + 1) 166 52 [some (.inr (.inr (some b))), some (.inl v1), some (.inl v2), some (.inr (.inl v3)), none, some (.inl v5), some (.inl v6), none] [.inl (1 : Int32)] h
    else
      ab_ev gG z (d + 1) 166 52 [some (.inr (.inr (some b))), some (.inl v1), some (.inl v2), some (.inr (.inl v3)), none, some (.inl v5), some (.inl v6), none] [.inl (0 : Int32)] h := ab_ev_ex [11, 26, 40, 52] 500 rfl
theorem bl_166_52 (z : Bool) (d : Nat) (b : Nat) (v1 v2 v5 v6 s0 : Int32) (v3 : Int64) (h : ab_H) : ab_ev gG z (d + 1) 166 52 [some (.inr (.inr (some b))), some (.inl v1), some (.inl v2), some (.inr (.inl v3)), none, some (.inl v5), some (.inl v6), none] [.inl s0] h =
  if s0 = 0 then
  some (some (.inr (.inl (-1 : Int64))), h)
else
  ab_ev gG z (d + 1) 166 11 [some (.inr (.inr (some b))), some (.inl v1), some (.inl v2), some (.inr (.inl ((v3 <<< (((8 : Int32)).toInt64 &&& 63)) ||| (v6).toInt64))), none, some (.inl (v5 + (1 : Int32))), some (.inl v6), some (.inl s0)] [] h := ab_ev_ex [11, 26, 40, 52] 500 rfl
theorem ent_166 (z : Bool) (d : Nat) (b : Nat) (p1 p2 : Int32) (h : ab_H) : ab_cl gG z d 166 [.inr (.inr (some b)), .inl p1, .inl p2] h = ab_ev gG z d 166 0 [some (.inr (.inr (some b))), some (.inl p1), some (.inl p2), none, none, none, none, none] [] h := rfl
/-! TreeShell$Dir.find(J)LTreeShell$Node; -/
theorem bl_167_0 (z : Bool) (d : Nat) (b : Nat) (p1 : Int64) (h : ab_H) : ab_ev gG z d 167 0 [some (.inr (.inr (some b))), some (.inr (.inl p1)), none, none] [] h =
  (ab_fR h b 103).bind fun o1 =>
  ab_ev gG z d 167 3 [some (.inr (.inr (some b))), some (.inr (.inl p1)), none, some (.inr (.inr o1))] [] h := ab_ev_ex [3] 500 rfl
theorem bl_167_3 (z : Bool) (d : Nat) (b : Nat) (v1 : Int64) (v3 : Option Nat) (h : ab_H) : ab_ev gG z d 167 3 [some (.inr (.inr (some b))), some (.inr (.inl v1)), none, some (.inr (.inr v3))] [] h =
  if (v3 : Option Nat) = none then
  if (v3 : Option Nat) = none then
    some (some (.inr (.inr none)), h)
  else
    v3.bind fun a1 => (ab_fL h a1 1200).bind fun y2 =>
      if (if y2 < v1 then (-1 : Int32) else if y2 = v1 then 0 else 1) = 0 then
      some (some (.inr (.inr v3)), h)
    else
      some (some (.inr (.inr none)), h)
else
  v3.bind fun a3 => (ab_fL h a3 1200).bind fun y4 =>
    if (if y4 < v1 then (-1 : Int32) else if y4 = v1 then 0 else 1) < 0 then
    v3.bind fun a5 => (ab_fR h a5 1202).bind fun o6 =>
      ab_ev gG z d 167 3 [some (.inr (.inr (some b))), some (.inr (.inl v1)), none, some (.inr (.inr o6))] [] h
  else
    if (v3 : Option Nat) = none then
      some (some (.inr (.inr none)), h)
    else
      v3.bind fun a7 => (ab_fL h a7 1200).bind fun y8 =>
        if (if y8 < v1 then (-1 : Int32) else if y8 = v1 then 0 else 1) = 0 then
        some (some (.inr (.inr v3)), h)
      else
        some (some (.inr (.inr none)), h) := ab_ev_ex [3] 500 rfl
theorem ent_167 (z : Bool) (d : Nat) (b : Nat) (p1 : Int64) (h : ab_H) : ab_cl gG z d 167 [.inr (.inr (some b)), .inr (.inl p1)] h = ab_ev gG z d 167 0 [some (.inr (.inr (some b))), some (.inr (.inl p1)), none, none] [] h := rfl
/-! TreeShell$Grep.take(Ljava/lang/StringBuilder;IILjava/lang/StringBuilder;)I -/
theorem bl_168_0 (z : Bool) (d : Nat) (b : Nat) (p1 p4 : Option Nat) (p2 p3 : Int32) (h : ab_H) : ab_ev gG z (d + 1) 168 0 [some (.inr (.inr (some b))), some (.inr (.inr p1)), some (.inl p2), some (.inl p3), some (.inr (.inr p4)), none] [] h =
  if ab_isc h b 3 = true then
  (ab_c1 (ab_cl gG z d 170 [.inr (.inr (some b)), .inr (.inr p1), .inl p2, .inl p3] h)).bind fun r1 =>
  (ab_fI r1.2 b 300).bind fun x2 =>
  if r1.1 = x2 then
  some (some (.inl (0 : Int32)), r1.2)
else
  ab_ev gG z (d + 1) 168 12 [some (.inr (.inr (some b))), some (.inr (.inr p1)), some (.inl p2), some (.inl p3), some (.inr (.inr p4)), some (.inl p2)] [] r1.2
else none := ab_ev_ex [12] 500 rfl
theorem bl_168_12 (z : Bool) (d : Nat) (b : Nat) (v1 v4 : Option Nat) (v2 v3 v5 : Int32) (h : ab_H) : ab_ev gG z (d + 1) 168 12 [some (.inr (.inr (some b))), some (.inr (.inr v1)), some (.inl v2), some (.inl v3), some (.inr (.inr v4)), some (.inl v5)] [] h =
  if v5 < v3 then
  v1.bind fun a1 => if ab_isc h a1 8 = true then
    (ab_c1 (ab_cl gG z d 6 [.inr (.inr (some a1)), .inl v5] h)).bind fun r2 =>
    v4.bind fun a3 => if ab_isc r2.2 a3 8 = true then
    (ab_c3 (ab_cl gG z d 4 [.inr (.inr (some a3)), .inl r2.1] r2.2)).bind fun r4 =>
    ab_ev gG z (d + 1) 168 12 [some (.inr (.inr (some b))), some (.inr (.inr v1)), some (.inl v2), some (.inl v3), some (.inr (.inr v4)), some (.inl (v5 + (1 : Int32)))] [] r4.2
  else none
  else none
else
  v4.bind fun a5 => if ab_isc h a5 8 = true then
    (ab_c3 (ab_cl gG z d 4 [.inr (.inr (some a5)), .inl (10 : Int32)] h)).bind fun r6 =>
    some (some (.inl (1 : Int32)), r6.2)
  else none := ab_ev_ex [12] 500 rfl
theorem ent_168 (z : Bool) (d : Nat) (b : Nat) (p1 p4 : Option Nat) (p2 p3 : Int32) (h : ab_H) : ab_cl gG z d 168 [.inr (.inr (some b)), .inr (.inr p1), .inl p2, .inl p3, .inr (.inr p4)] h = ab_ev gG z d 168 0 [some (.inr (.inr (some b))), some (.inr (.inr p1)), some (.inl p2), some (.inl p3), some (.inr (.inr p4)), none] [] h := rfl
/-! TreeShell$Node.spell(Ljava/lang/StringBuilder;)V -/
theorem bl_169_0 (z : Bool) (d : Nat) (b : Nat) (p1 : Option Nat) (h : ab_H) : ab_ev gG z (d + 1) 169 0 [some (.inr (.inr (some b))), some (.inr (.inr p1)), none, none] [] h =
  ab_ev gG z (d + 1) 169 2 [some (.inr (.inr (some b))), some (.inr (.inr p1)), some (.inl (48 : Int32)), none] [] h := ab_ev_ex [2] 500 rfl
theorem bl_169_2 (z : Bool) (d : Nat) (b : Nat) (v1 : Option Nat) (v2 : Int32) (u3 : Option ab_V) (h : ab_H) : ab_ev gG z (d + 1) 169 2 [some (.inr (.inr (some b))), some (.inr (.inr v1)), some (.inl v2), u3] [] h =
  if v2 < 0 then
  some (none, h)
else
  (ab_fL h b 1200).bind fun y1 =>
    if (((((y1 >>> ((v2).toInt64 &&& 63)) &&& (255 : Int64))).toInt32).toUInt32 % 65536).toInt32 = 0 then
    ab_ev gG z (d + 1) 169 2 [some (.inr (.inr (some b))), some (.inr (.inr v1)), some (.inl (v2 + (-8 : Int32))), some (.inl ((((((y1 >>> ((v2).toInt64 &&& 63)) &&& (255 : Int64))).toInt32).toUInt32 % 65536).toInt32))] [] h
  else
    v1.bind fun a2 => if ab_isc h a2 8 = true then
      (ab_c3 (ab_cl gG z d 4 [.inr (.inr (some a2)), .inl ((((((y1 >>> ((v2).toInt64 &&& 63)) &&& (255 : Int64))).toInt32).toUInt32 % 65536).toInt32)] h)).bind fun r3 =>
      ab_ev gG z (d + 1) 169 2 [some (.inr (.inr (some b))), some (.inr (.inr v1)), some (.inl (v2 + (-8 : Int32))), some (.inl ((((((y1 >>> ((v2).toInt64 &&& 63)) &&& (255 : Int64))).toInt32).toUInt32 % 65536).toInt32))] [] r3.2
    else none := ab_ev_ex [2] 500 rfl
theorem ent_169 (z : Bool) (d : Nat) (b : Nat) (p1 : Option Nat) (h : ab_H) : ab_cl gG z d 169 [.inr (.inr (some b)), .inr (.inr p1)] h = ab_ev gG z d 169 0 [some (.inr (.inr (some b))), some (.inr (.inr p1)), none, none] [] h := rfl
/-! TreeShell$Grep.matches(Ljava/lang/StringBuilder;II)Z -/
theorem bl_170_0 (z : Bool) (d : Nat) (b : Nat) (p1 : Option Nat) (p2 p3 : Int32) (h : ab_H) : ab_ev gG z (d + 1) 170 0 [some (.inr (.inr (some b))), some (.inr (.inr p1)), some (.inl p2), some (.inl p3), none, none, none, none, none] [] h =
  (ab_fI h b 303).bind fun x1 =>
  (ab_fI h b 302).bind fun x2 =>
  (ab_fI h b 305).bind fun x3 =>
  if x3 = 0 then
  ab_ev gG z (d + 1) 170 14 [some (.inr (.inr (some b))), some (.inr (.inr p1)), some (.inl p2), some (.inl p3), some (.inl (x1 - x2)), none, none, none, none] [.inl p2] h
else
  ab_ev gG z (d + 1) 170 14 [some (.inr (.inr (some b))), some (.inr (.inr p1)), some (.inl p2), some (.inl p3), some (.inl (x1 - x2)), none, none, none, none] [.inl (p3 - (x1 - x2))] h := ab_ev_ex [14, 28, 39] 500 rfl
theorem bl_170_14 (z : Bool) (d : Nat) (b : Nat) (v1 : Option Nat) (v2 v3 v4 s0 : Int32) (h : ab_H) : ab_ev gG z (d + 1) 170 14 [some (.inr (.inr (some b))), some (.inr (.inr v1)), some (.inl v2), some (.inl v3), some (.inl v4), none, none, none, none] [.inl s0] h =
  (ab_fI h b 304).bind fun x1 =>
  if x1 = 0 then
  (ab_c1 (ab_cl gG z d 10 [.inl s0, .inl v2] h)).bind fun r2 =>
    ab_ev gG z (d + 1) 170 28 [some (.inr (.inr (some b))), some (.inr (.inr v1)), some (.inl v2), some (.inl v3), some (.inl v4), some (.inl s0), some (.inl (v3 - v4)), some (.inl r2.1), none] [] r2.2
else
  (ab_c1 (ab_cl gG z d 10 [.inl s0, .inl v2] h)).bind fun r3 =>
    ab_ev gG z (d + 1) 170 28 [some (.inr (.inr (some b))), some (.inr (.inr v1)), some (.inl v2), some (.inl v3), some (.inl v4), some (.inl s0), some (.inl v2), some (.inl r3.1), none] [] r3.2 := ab_ev_ex [14, 28, 39] 500 rfl
theorem bl_170_28 (z : Bool) (d : Nat) (b : Nat) (v1 : Option Nat) (v2 v3 v4 v5 v6 v7 : Int32) (u8 : Option ab_V) (h : ab_H) : ab_ev gG z (d + 1) 170 28 [some (.inr (.inr (some b))), some (.inr (.inr v1)), some (.inl v2), some (.inl v3), some (.inl v4), some (.inl v5), some (.inl v6), some (.inl v7), u8] [] h =
  if v6 < v7 then
  some (some (.inl (0 : Int32)), h)
else
  if v3 < (v7 + v4) then
    some (some (.inl (0 : Int32)), h)
  else
    ab_ev gG z (d + 1) 170 39 [some (.inr (.inr (some b))), some (.inr (.inr v1)), some (.inl v2), some (.inl v3), some (.inl v4), some (.inl v5), some (.inl v6), some (.inl v7), some (.inl (0 : Int32))] [] h := ab_ev_ex [14, 28, 39] 500 rfl
theorem bl_170_39 (z : Bool) (d : Nat) (b : Nat) (v1 : Option Nat) (v2 v3 v4 v5 v6 v7 v8 : Int32) (h : ab_H) : ab_ev gG z (d + 1) 170 39 [some (.inr (.inr (some b))), some (.inr (.inr v1)), some (.inl v2), some (.inl v3), some (.inl v4), some (.inl v5), some (.inl v6), some (.inl v7), some (.inl v8)] [] h =
  if v8 < v4 then
  (ab_fR h b 301).bind fun o1 =>
    (ab_fI h b 302).bind fun x2 =>
    o1.bind fun a3 => if ab_isc h a3 8 = true then
    (ab_c1 (ab_cl gG z d 6 [.inr (.inr (some a3)), .inl (x2 + v8)] h)).bind fun r4 =>
    if r4.1 = (46 : Int32) then
    ab_ev gG z (d + 1) 170 39 [some (.inr (.inr (some b))), some (.inr (.inr v1)), some (.inl v2), some (.inl v3), some (.inl v4), some (.inl v5), some (.inl v6), some (.inl v7), some (.inl (v8 + (1 : Int32)))] [] r4.2
  else
    (ab_fR r4.2 b 301).bind fun o5 =>
      (ab_fI r4.2 b 302).bind fun x6 =>
      o5.bind fun a7 => if ab_isc r4.2 a7 8 = true then
      (ab_c1 (ab_cl gG z d 6 [.inr (.inr (some a7)), .inl (x6 + v8)] r4.2)).bind fun r8 =>
      v1.bind fun a9 => if ab_isc r8.2 a9 8 = true then
      (ab_c1 (ab_cl gG z d 6 [.inr (.inr (some a9)), .inl (v7 + v8)] r8.2)).bind fun r10 =>
      if r8.1 = r10.1 then
      ab_ev gG z (d + 1) 170 39 [some (.inr (.inr (some b))), some (.inr (.inr v1)), some (.inl v2), some (.inl v3), some (.inl v4), some (.inl v5), some (.inl v6), some (.inl v7), some (.inl (v8 + (1 : Int32)))] [] r10.2
    else
      if v8 = v4 then
        some (some (.inl (1 : Int32)), r10.2)
      else
        ab_ev gG z (d + 1) 170 28 [some (.inr (.inr (some b))), some (.inr (.inr v1)), some (.inl v2), some (.inl v3), some (.inl v4), some (.inl v5), some (.inl v6), some (.inl (v7 + (1 : Int32))), some (.inl v8)] [] r10.2
    else none
    else none
  else none
else
  if v8 = v4 then
    some (some (.inl (1 : Int32)), h)
  else
    ab_ev gG z (d + 1) 170 28 [some (.inr (.inr (some b))), some (.inr (.inr v1)), some (.inl v2), some (.inl v3), some (.inl v4), some (.inl v5), some (.inl v6), some (.inl (v7 + (1 : Int32))), some (.inl v8)] [] h := ab_ev_ex [14, 28, 39] 500 rfl
theorem ent_170 (z : Bool) (d : Nat) (b : Nat) (p1 : Option Nat) (p2 p3 : Int32) (h : ab_H) : ab_cl gG z d 170 [.inr (.inr (some b)), .inr (.inr p1), .inl p2, .inl p3] h = ab_ev gG z d 170 0 [some (.inr (.inr (some b))), some (.inr (.inr p1)), some (.inl p2), some (.inl p3), none, none, none, none, none] [] h := rfl
end
