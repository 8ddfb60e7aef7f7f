/-! ===== THE ABSTRACT MACHINE: values, cells, heaps; one instruction; runs ===== -/
abbrev ab_V : Type := Int32 ⊕ (Int64 ⊕ Option Nat)
abbrev ab_i (x : Int32) : ab_V := Sum.inl x
abbrev ab_l (x : Int64) : ab_V := Sum.inr (Sum.inl x)
abbrev ab_r (x : Option Nat) : ab_V := Sum.inr (Sum.inr x)
/-- cells: an array of a 32-bit kind (kind, length, contents), of longs, of references (class number), an object (class number, fields), a StringBuilder (capacity, length, text) -/
abbrev ab_C : Type := (Nat × Nat × (Nat → Int32)) ⊕ ((Nat × (Nat → Int64)) ⊕ ((Nat × Nat × (Nat → Option Nat)) ⊕ ((Nat × (Nat → ab_V)) ⊕ (Nat × Nat × (Nat → Int32)))))
abbrev ab_cI (k n : Nat) (f : Nat → Int32) : ab_C := .inl (k, n, f)
abbrev ab_cL (n : Nat) (f : Nat → Int64) : ab_C := .inr (.inl (n, f))
abbrev ab_cR (k n : Nat) (f : Nat → Option Nat) : ab_C := .inr (.inr (.inl (k, n, f)))
abbrev ab_cO (k : Nat) (f : Nat → ab_V) : ab_C := .inr (.inr (.inr (.inl (k, f))))
abbrev ab_cB (cap n : Nat) (t : Nat → Int32) : ab_C := .inr (.inr (.inr (.inr (cap, n, t))))
/-- a heap: (the first address that may be written, the constants' addresses), size, slots, cells -/
abbrev ab_H : Type := (Nat × (Nat → Nat)) × Nat × Nat × (Nat → Option ab_C)
def ab_n0 (h : ab_H) : Nat := h.1.1
def ab_ga (h : ab_H) (k : Nat) : Nat := h.1.2 k
/-- a constant that may be null: 0, or one more than its address -/
def ab_go (h : ab_H) (k : Nat) : Option Nat := match h.1.2 k with
  | 0 => none
  | a + 1 => some a
def ab_sz (h : ab_H) : Nat := h.2.1
def ab_sl (h : ab_H) : Nat := h.2.2.1
def ab_ce (h : ab_H) (a : Nat) : Option ab_C := h.2.2.2 a
def ab_up {α : Type} (f : Nat → α) (k : Nat) (x : α) : Nat → α := fun j => if j = k then x else f j
def ab_put (h : ab_H) (a : Nat) (c : ab_C) : ab_H := (h.1, h.2.1, h.2.2.1, ab_up h.2.2.2 a (some c))
/-- a new cell of n slots: its address is the heap's size -/
def ab_mk (h : ab_H) (c : ab_C) (n : Nat) : ab_H := (h.1, h.2.1 + 1, h.2.2.1 + n, ab_up h.2.2.2 h.2.1 (some c))
/-- may an object of class k stand where the field's owner is c? 12: Node, over Dir (1) and Doc (2); 13: Enum, over Mark (9) and Tool (10) -/
def ab_sub (c k : Nat) : Bool := Nat.beq k c || (Nat.beq c 12 && (Nat.beq k 1 || Nat.beq k 2)) || (Nat.beq c 13 && (Nat.beq k 9 || Nat.beq k 10))
/-- a field f = 100 * owner + number, of the object at a -/
def ab_fd (h : ab_H) (a f : Nat) : Option ab_V := match ab_ce h a with
  | some (.inr (.inr (.inr (.inl (k, fs))))) => if ab_sub (f / 100) k = true then some (fs (f % 100)) else none
  | _ => none
def ab_fI (h : ab_H) (a f : Nat) : Option Int32 := match ab_fd h a f with
  | some (.inl x) => some x
  | _ => none
def ab_fL (h : ab_H) (a f : Nat) : Option Int64 := match ab_fd h a f with
  | some (.inr (.inl x)) => some x
  | _ => none
def ab_fR (h : ab_H) (a f : Nat) : Option (Option Nat) := match ab_fd h a f with
  | some (.inr (.inr x)) => some x
  | _ => none
/-- the same kind of value -/
def ab_like : ab_V → ab_V → Bool
  | .inl _, .inl _ => true
  | .inr (.inl _), .inr (.inl _) => true
  | .inr (.inr _), .inr (.inr _) => true
  | _, _ => false
def ab_pf (h : ab_H) (a f : Nat) (v : ab_V) : Option ab_H := match ab_ce h a with
  | some (.inr (.inr (.inr (.inl (k, fs))))) => if ab_sub (f / 100) k = true ∧ ab_n0 h ≤ a ∧ ab_like (fs (f % 100)) v = true then some (ab_put h a (ab_cO k (ab_up fs (f % 100) v))) else none
  | _ => none
/-- an index that lies in an array of length n -/
def ab_in (i : Int32) (n : Nat) : Bool := decide (0 ≤ i.toInt) && decide (i.toInt < (n : Int))
def ab_ty (k : Nat) : FieldType := match k with
  | 0 => .int
  | 1 => .byte
  | 2 => .char
  | _ => .boolean
/-- a place of an array of 32-bit kind; q: the kinds that the instruction reads (0: int; 1: byte, boolean; 2: char) -/
def ab_kd (q k : Nat) : Bool := match q with
  | 0 => Nat.beq k 0
  | 1 => Nat.beq k 1 || Nat.beq k 3
  | _ => Nat.beq k 2
def ab_aI (q : Nat) (h : ab_H) (a : Nat) (i : Int32) : Option Int32 := match ab_ce h a with
  | some (.inl (k, n, f)) => if ab_kd q k = true ∧ ab_in i n = true then some (f i.toNatClampNeg) else none
  | _ => none
def ab_aL (h : ab_H) (a : Nat) (i : Int32) : Option Int64 := match ab_ce h a with
  | some (.inr (.inl (n, f))) => if ab_in i n = true then some (f i.toNatClampNeg) else none
  | _ => none
def ab_aR (h : ab_H) (a : Nat) (i : Int32) : Option (Option Nat) := match ab_ce h a with
  | some (.inr (.inr (.inl (_, n, f)))) => if ab_in i n = true then some (f i.toNatClampNeg) else none
  | _ => none
def ab_sI (q : Nat) (h : ab_H) (a : Nat) (i x : Int32) : Option ab_H := match ab_ce h a with
  | some (.inl (k, n, f)) => if ab_kd q k = true ∧ ab_in i n = true ∧ ab_n0 h ≤ a then some (ab_put h a (ab_cI k n (ab_up f i.toNatClampNeg (vp_nar (ab_ty k) x)))) else none
  | _ => none
def ab_sL (h : ab_H) (a : Nat) (i : Int32) (x : Int64) : Option ab_H := match ab_ce h a with
  | some (.inr (.inl (n, f))) => if ab_in i n = true ∧ ab_n0 h ≤ a then some (ab_put h a (ab_cL n (ab_up f i.toNatClampNeg x))) else none
  | _ => none
/-- the class of an object, a StringBuilder (8) too -/
def ab_cls (h : ab_H) (a : Nat) : Option Nat := match ab_ce h a with
  | some (.inr (.inr (.inr (.inl (k, _))))) => some k
  | some (.inr (.inr (.inr (.inr _)))) => some 8
  | some (.inr (.inr (.inl (c, _)))) => some (89 + c)
  | _ => none
def ab_isc (h : ab_H) (a c : Nat) : Bool := match ab_cls h a with
  | some k => Nat.beq k c
  | none => false
/-- a reference array of element class c takes references to objects of class c -/
def ab_sR (h : ab_H) (a : Nat) (i : Int32) (x : Option Nat) : Option ab_H := match ab_ce h a, x with
  | some (.inr (.inr (.inl (c, n, f)))), some b => if ab_in i n = true ∧ ab_n0 h ≤ a ∧ ab_isc h b c = true then some (ab_put h a (ab_cR c n (ab_up f i.toNatClampNeg (some b)))) else none
  | _, _ => none
def ab_len (h : ab_H) (a : Nat) : Option Int32 := match ab_ce h a with
  | some (.inl (_, n, _)) => some (Int32.ofNat n)
  | some (.inr (.inl (n, _))) => some (Int32.ofNat n)
  | some (.inr (.inr (.inl (_, n, _)))) => some (Int32.ofNat n)
  | _ => none
/-- a class's fields at birth -/
def ab_z0 : ab_V := .inl 0
def ab_zl : ab_V := .inr (.inl 0)
def ab_zr : ab_V := .inr (.inr none)
def ab_bl (c : Nat) : List ab_V := match c with
  | 0 => [ab_z0, ab_z0, ab_z0, ab_zr, ab_zr, ab_z0, ab_z0, ab_zr, ab_z0, ab_zr, ab_zr, ab_zr, ab_zr, ab_zr, ab_zr, ab_z0, ab_z0, ab_z0, ab_zr, ab_zr, ab_zl]
  | 1 => [ab_zl, ab_zr, ab_zr, ab_zr]
  | 2 => [ab_zl, ab_zr, ab_zr, ab_zr]
  | 3 => [ab_z0, ab_zr, ab_z0, ab_z0, ab_z0, ab_z0]
  | 4 => [ab_zr, ab_zr, ab_zr, ab_zr, ab_zr, ab_zr, ab_zr]
  | 5 => [ab_zr, ab_z0, ab_zr, ab_zr, ab_zr, ab_z0]
  | 6 => [ab_zr, ab_zr, ab_z0, ab_zr, ab_z0]
  | 7 => [ab_z0, ab_z0, ab_z0, ab_zr, ab_zr, ab_zr, ab_zr, ab_zr, ab_zr, ab_z0, ab_z0, ab_zr, ab_z0, ab_zr, ab_zr, ab_zr, ab_z0, ab_zr, ab_zr, ab_z0, ab_zr, ab_z0, ab_z0, ab_zr, ab_zr, ab_zr, ab_zr, ab_zr, ab_zr, ab_zr, ab_zr, ab_zr, ab_zr, ab_zr, ab_zr, ab_z0, ab_z0, ab_zr, ab_z0, ab_z0, ab_zr, ab_zr, ab_z0, ab_z0, ab_zl, ab_z0, ab_z0, ab_zr, ab_z0]
  | 8 => [ab_zr, ab_z0, ab_z0, ab_z0]
  | _ => []
def ab_birth (c k : Nat) : ab_V := (ab_bl c).getD k ab_z0
/-! ===== one instruction, with resolved operands and places of the code list ===== -/
def ab_nth {α : Type} : List α → Nat → Option α
  | [], _ => none
  | a :: _, 0 => some a
  | _ :: l, k + 1 => ab_nth l k
def ab_set {α : Type} : List α → Nat → α → List α
  | [], _, _ => []
  | _ :: l, 0, x => x :: l
  | a :: l, k + 1, x => a :: ab_set l k x
def ab_isl : Option (Option ab_V) → Bool
  | some (some (.inr (.inl _))) => true
  | _ => false
/-- what stands before place k, if it is a long, is lost when place k is stored to -/
def ab_cut (ls : List (Option ab_V)) (k : Nat) : List (Option ab_V) := match k with
  | 0 => ls
  | j + 1 => match ab_isl (ab_nth ls j) with
    | true => ab_set ls j none
    | false => ls
def ab_s1 (ls : List (Option ab_V)) (k : Nat) (v : ab_V) : List (Option ab_V) := ab_set (ab_cut ls k) k (some v)
def ab_s2 (ls : List (Option ab_V)) (k : Nat) (v : ab_V) : List (Option ab_V) := ab_set (ab_set (ab_cut ls k) k (some v)) (k + 1) none
def ab_cat : ab_V → Nat
  | .inr (.inl _) => 2
  | _ => 1
def ab_cs : List ab_V → Nat
  | [] => 0
  | v :: l => ab_cat v + ab_cs l
/-- takes n values off: the deepest first, and the rest -/
def ab_pop : Nat → List ab_V → List ab_V → Option (List ab_V × List ab_V)
  | 0, acc, st => some (acc, st)
  | _ + 1, _, [] => none
  | n + 1, acc, v :: st => ab_pop n (v :: acc) st
/-- entry locals -/
def ab_spread : List ab_V → List (Option ab_V)
  | [] => []
  | .inr (.inl x) :: l => some (.inr (.inl x)) :: none :: ab_spread l
  | v :: l => some v :: ab_spread l
def ab_pad : Nat → List (Option ab_V) → List (Option ab_V)
  | 0, l => l
  | n + 1, [] => none :: ab_pad n []
  | n + 1, a :: l => a :: ab_pad n l
def ab_sw {α : Type} (x : Int32) (d : α) : List (Int × Int) → (Int → α) → α
  | [], _ => d
  | (k, t) :: l, f => if x = Int32.ofInt k then f t else ab_sw x d l f
/-- forgets the locals whose bits are set -/
def ab_clr : Nat → List (Option ab_V) → List (Option ab_V)
  | _, [] => []
  | n, a :: l => (match n % 2 with
    | 0 => a
    | _ => none) :: ab_clr (n / 2) l
def ab_io {α : Type} (o : Option Nat) (x : α) (f : Nat → α) : α := match o with
  | none => x
  | some a => f a
set_option maxHeartbeats 4000000 in
def ab_st {α : Type} (cl : Nat → Nat → List ab_V → Nat → List (Option ab_V) → List ab_V → ab_H → Option α) (kk : Nat → List (Option ab_V) → List ab_V → ab_H → Option α) (rt : Option ab_V → ab_H → Option α) (i : Instr) (nx : Nat) (ls : List (Option ab_V)) (st : List ab_V) (h : ab_H) : Option α :=
  match i with
  | .iload k => match ab_nth ls k with
    | some (some (.inl x)) => kk nx ls (.inl x :: st) h
    | _ => none
  | .lload k => match ab_nth ls k with
    | some (some (.inr (.inl x))) => kk nx ls (.inr (.inl x) :: st) h
    | _ => none
  | .aload k => match ab_nth ls k with
    | some (some (.inr (.inr x))) => kk nx ls (.inr (.inr x) :: st) h
    | _ => none
  | .istore k => match st with
    | .inl x :: st => kk nx (ab_s1 ls k (.inl x)) st h
    | _ => none
  | .lstore k => match st with
    | .inr (.inl x) :: st => kk nx (ab_s2 ls k (.inr (.inl x))) st h
    | _ => none
  | .astore k => match st with
    | .inr (.inr x) :: st => kk nx (ab_s1 ls k (.inr (.inr x))) st h
    | _ => none
  | .iinc k n => match ab_nth ls k with
    | some (some (.inl x)) => kk nx (ab_s1 ls k (.inl (x + Int32.ofInt n))) st h
    | _ => none
  | .iconst n => kk nx ls (.inl (Int32.ofInt n) :: st) h
  | .goto_w n => kk nx ls (.inr (.inl (Int64.ofInt n)) :: st) h
  | .jsr n => kk nx (ab_clr n.toNat ls) st h
  | .aconst_null => kk nx ls (.inr (.inr none) :: st) h
  | .getstatic k => kk nx ls (.inr (.inr (some (ab_ga h k))) :: st) h
  | .ldc k => kk nx ls (.inr (.inr (ab_go h k)) :: st) h
  | .iadd => match st with
    | .inl y :: .inl x :: st => kk nx ls (.inl (x + y) :: st) h
    | _ => none
  | .isub => match st with
    | .inl y :: .inl x :: st => kk nx ls (.inl (x - y) :: st) h
    | _ => none
  | .imul => match st with
    | .inl y :: .inl x :: st => kk nx ls (.inl (x * y) :: st) h
    | _ => none
  | .iand => match st with
    | .inl y :: .inl x :: st => kk nx ls (.inl (x &&& y) :: st) h
    | _ => none
  | .ior => match st with
    | .inl y :: .inl x :: st => kk nx ls (.inl (x ||| y) :: st) h
    | _ => none
  | .idiv => match st with
    | .inl y :: .inl x :: st => if y = 0 then none else kk nx ls (.inl (x / y) :: st) h
    | _ => none
  | .irem => match st with
    | .inl y :: .inl x :: st => if y = 0 then none else kk nx ls (.inl (x - x / y * y) :: st) h
    | _ => none
  | .ineg => match st with
    | .inl x :: st => kk nx ls (.inl (-x) :: st) h
    | _ => none
  | .ishl => match st with
    | .inl y :: .inl x :: st => kk nx ls (.inl (x <<< (y &&& 31)) :: st) h
    | _ => none
  | .ishr => match st with
    | .inl y :: .inl x :: st => kk nx ls (.inl (x >>> (y &&& 31)) :: st) h
    | _ => none
  | .i2l => match st with
    | .inl x :: st => kk nx ls (.inr (.inl x.toInt64) :: st) h
    | _ => none
  | .l2i => match st with
    | .inr (.inl x) :: st => kk nx ls (.inl x.toInt32 :: st) h
    | _ => none
  | .i2b => match st with
    | .inl x :: st => kk nx ls (.inl x.toInt8.toInt32 :: st) h
    | _ => none
  | .i2c => match st with
    | .inl x :: st => kk nx ls (.inl (x.toUInt32 % 65536).toInt32 :: st) h
    | _ => none
  | .land => match st with
    | .inr (.inl y) :: .inr (.inl x) :: st => kk nx ls (.inr (.inl (x &&& y)) :: st) h
    | _ => none
  | .lor => match st with
    | .inr (.inl y) :: .inr (.inl x) :: st => kk nx ls (.inr (.inl (x ||| y)) :: st) h
    | _ => none
  | .lshl => match st with
    | .inl y :: .inr (.inl x) :: st => kk nx ls (.inr (.inl (x <<< (y.toInt64 &&& 63))) :: st) h
    | _ => none
  | .lshr => match st with
    | .inl y :: .inr (.inl x) :: st => kk nx ls (.inr (.inl (x >>> (y.toInt64 &&& 63))) :: st) h
    | _ => none
  | .lushr => match st with
    | .inl y :: .inr (.inl x) :: st => kk nx ls (.inr (.inl (x.toUInt64 >>> (y.toInt64.toUInt64 &&& Int64.toUInt64 63)).toInt64) :: st) h
    | _ => none
  | .lcmp => match st with
    | .inr (.inl y) :: .inr (.inl x) :: st => kk nx ls (.inl (if x < y then -1 else if x = y then 0 else 1) :: st) h
    | _ => none
  | .dup => match st with
    | .inl x :: st => kk nx ls (.inl x :: .inl x :: st) h
    | .inr (.inr x) :: st => kk nx ls (.inr (.inr x) :: .inr (.inr x) :: st) h
    | _ => none
  | .pop => match st with
    | .inl _ :: st => kk nx ls st h
    | .inr (.inr _) :: st => kk nx ls st h
    | _ => none
  | .dup_x1 => match st with
    | .inl x :: .inr (.inr y) :: st => kk nx ls (.inl x :: .inr (.inr y) :: .inl x :: st) h
    | _ => none
  | .dup2 => match st with
    | .inl x :: .inr (.inr y) :: st => kk nx ls (.inl x :: .inr (.inr y) :: .inl x :: .inr (.inr y) :: st) h
    | _ => none
  | .goto t => kk t.toNat ls st h
  | .ifCond c t => match st with
    | .inl x :: st => match c with
      | .eq => if x = 0 then kk t.toNat ls st h else kk nx ls st h
      | .ne => if x = 0 then kk nx ls st h else kk t.toNat ls st h
      | .lt => if x < 0 then kk t.toNat ls st h else kk nx ls st h
      | .ge => if x < 0 then kk nx ls st h else kk t.toNat ls st h
      | .gt => if 0 < x then kk t.toNat ls st h else kk nx ls st h
      | .le => if 0 < x then kk nx ls st h else kk t.toNat ls st h
    | _ => none
  | .if_icmp c t => match st with
    | .inl y :: .inl x :: st => match c with
      | .eq => if x = y then kk t.toNat ls st h else kk nx ls st h
      | .ne => if x = y then kk nx ls st h else kk t.toNat ls st h
      | .lt => if x < y then kk t.toNat ls st h else kk nx ls st h
      | .ge => if x < y then kk nx ls st h else kk t.toNat ls st h
      | .gt => if y < x then kk t.toNat ls st h else kk nx ls st h
      | .le => if y < x then kk nx ls st h else kk t.toNat ls st h
    | _ => none
  | .if_acmp c t => match st with
    | .inr (.inr y) :: .inr (.inr x) :: st => match c with
      | .eq => if x = y then kk t.toNat ls st h else kk nx ls st h
      | .ne => if x = y then kk nx ls st h else kk t.toNat ls st h
    | _ => none
  | .ifnull t => match st with
    | .inr (.inr x) :: st => if x = none then kk t.toNat ls st h else kk nx ls st h
    | _ => none
  | .ifnonnull t => match st with
    | .inr (.inr x) :: st => if x = none then kk nx ls st h else kk t.toNat ls st h
    | _ => none
  | .lookupswitch d ps => match st with
    | .inl x :: st => ab_sw x (kk d.toNat ls st h) ps.toList (fun t => kk t.toNat ls st h)
    | _ => none
  | .getfield f => match st with
    | .inr (.inr o) :: st => o.bind fun a => (ab_fI h a f).bind fun x => kk nx ls (.inl x :: st) h
    | _ => none
  | .dload f => match st with
    | .inr (.inr o) :: st => o.bind fun a => (ab_fL h a f).bind fun x => kk nx ls (.inr (.inl x) :: st) h
    | _ => none
  | .fload f => match st with
    | .inr (.inr o) :: st => o.bind fun a => (ab_fR h a f).bind fun x => kk nx ls (.inr (.inr x) :: st) h
    | _ => none
  | .putfield f => match st with
    | .inl x :: .inr (.inr o) :: st => o.bind fun a => (ab_pf h a f (.inl x)).bind fun h => kk nx ls st h
    | _ => none
  | .ret f => match st with
    | .inl x :: .inr (.inr o) :: st => if x = 0 ∨ x = 1 then o.bind fun a => (ab_pf h a f (.inl x)).bind fun h => kk nx ls st h else none
    | _ => none
  | .dstore f => match st with
    | .inr (.inl x) :: .inr (.inr o) :: st => o.bind fun a => (ab_pf h a f (.inr (.inl x))).bind fun h => kk nx ls st h
    | _ => none
  | .fstore f => match st with
    | .inr (.inr x) :: .inr (.inr o) :: st => o.bind fun a => (ab_pf h a f (.inr (.inr x))).bind fun h => kk nx ls st h
    | _ => none
  | .iaload => match st with
    | .inl i :: .inr (.inr o) :: st => o.bind fun a => (ab_aI 0 h a i).bind fun x => kk nx ls (.inl x :: st) h
    | _ => none
  | .baload => match st with
    | .inl i :: .inr (.inr o) :: st => o.bind fun a => (ab_aI 1 h a i).bind fun x => kk nx ls (.inl x :: st) h
    | _ => none
  | .caload => match st with
    | .inl i :: .inr (.inr o) :: st => o.bind fun a => (ab_aI 2 h a i).bind fun x => kk nx ls (.inl x :: st) h
    | _ => none
  | .laload => match st with
    | .inl i :: .inr (.inr o) :: st => o.bind fun a => (ab_aL h a i).bind fun x => kk nx ls (.inr (.inl x) :: st) h
    | _ => none
  | .aaload => match st with
    | .inl i :: .inr (.inr o) :: st => o.bind fun a => (ab_aR h a i).bind fun x => kk nx ls (.inr (.inr x) :: st) h
    | _ => none
  | .iastore => match st with
    | .inl x :: .inl i :: .inr (.inr o) :: st => o.bind fun a => (ab_sI 0 h a i x).bind fun h => kk nx ls st h
    | _ => none
  | .bastore => match st with
    | .inl x :: .inl i :: .inr (.inr o) :: st => o.bind fun a => (ab_sI 1 h a i x).bind fun h => kk nx ls st h
    | _ => none
  | .castore => match st with
    | .inl x :: .inl i :: .inr (.inr o) :: st => o.bind fun a => (ab_sI 2 h a i x).bind fun h => kk nx ls st h
    | _ => none
  | .lastore => match st with
    | .inr (.inl x) :: .inl i :: .inr (.inr o) :: st => o.bind fun a => (ab_sL h a i x).bind fun h => kk nx ls st h
    | _ => none
  | .aastore => match st with
    | .inr (.inr x) :: .inl i :: .inr (.inr o) :: st => o.bind fun a => (ab_sR h a i x).bind fun h => kk nx ls st h
    | _ => none
  | .arraylength => match st with
    | .inr (.inr o) :: st => o.bind fun a => (ab_len h a).bind fun x => kk nx ls (.inl x :: st) h
    | _ => none
  | .new c => kk nx ls (.inr (.inr (some (ab_sz h))) :: st) (ab_mk h (ab_cO c (ab_birth c)) (ab_bl c).length)
  | .newarray t => match st with
    | .inl n :: st => if n < 0 ∨ 65536 < n then none else match t with
      | .int => kk nx ls (.inr (.inr (some (ab_sz h))) :: st) (ab_mk h (ab_cI 0 n.toNatClampNeg (fun _ => 0)) n.toNatClampNeg)
      | .byte => kk nx ls (.inr (.inr (some (ab_sz h))) :: st) (ab_mk h (ab_cI 1 n.toNatClampNeg (fun _ => 0)) n.toNatClampNeg)
      | .char => kk nx ls (.inr (.inr (some (ab_sz h))) :: st) (ab_mk h (ab_cI 2 n.toNatClampNeg (fun _ => 0)) n.toNatClampNeg)
      | .boolean => kk nx ls (.inr (.inr (some (ab_sz h))) :: st) (ab_mk h (ab_cI 3 n.toNatClampNeg (fun _ => 0)) n.toNatClampNeg)
      | .long => kk nx ls (.inr (.inr (some (ab_sz h))) :: st) (ab_mk h (ab_cL n.toNatClampNeg (fun _ => 0)) n.toNatClampNeg)
      | _ => none
    | _ => none
  | .anewarray c => match st with
    | .inl n :: st => if n < 0 ∨ 65536 < n then none else kk nx ls (.inr (.inr (some (ab_sz h))) :: st) (ab_mk h (ab_cR c n.toNatClampNeg (fun _ => none)) n.toNatClampNeg)
    | _ => none
  | .checkcast c => match st with
    | .inr (.inr o) :: st => o.bind fun a => if ab_isc h a c = true then kk nx ls (.inr (.inr (some a)) :: st) h else none
    | _ => none
  | .instanceof c => match st with
    | .inr (.inr o) :: st => ab_io o (kk nx ls (.inl 0 :: st) h) (fun a => if ab_isc h a 1 = true ∨ ab_isc h a 2 = true then kk nx ls (.inl (if ab_isc h a c = true then 1 else 0) :: st) h else none)
    | _ => none
  | .invokestatic q => match ab_pop (q % 10) [] st with
    | some (as, st) => match Nat.ble (ab_cs st) 8 with
      | true => cl (q / 10 % 10) (q / 100) as nx ls st h
      | false => none
    | none => none
  | .invokespecial q => match ab_pop (q % 10) [] st with
    | some (.inr (.inr o) :: as, st) => match Nat.ble (ab_cs st) 8 with
      | true => o.bind fun a => cl (q / 10 % 10) (q / 100) (.inr (.inr (some a)) :: as) nx ls st h
      | false => none
    | _ => none
  | .invokevirtual q => match ab_pop (q % 10) [] st with
    | some (.inr (.inr o) :: as, st) => match Nat.ble (ab_cs st) 8 with
      | true => o.bind fun a => if ab_isc h a (q / 100 % 100) = true then cl (q / 10 % 10) (q / 10000) (.inr (.inr (some a)) :: as) nx ls st h else none
      | false => none
    | _ => none
  | .invokedynamic q => match ab_pop (q % 10) [] st with
    | some (.inr (.inr o) :: as, st) => match Nat.ble (ab_cs st) 8 with
      | true => o.bind fun a => if ab_isc h a (q / 100 % 100) = true then cl (q / 10 % 10) (q / 10000) (.inr (.inr (some a)) :: as) nx ls st h else none
      | false => none
    | _ => none
  | .invokeinterface q1 q2 => match ab_pop (q1 % 10) [] st with
    | some (.inr (.inr o) :: as, st) => match Nat.ble (ab_cs st) 8 with
      | true => o.bind fun a => if ab_isc h a 1 = true then cl (q1 / 10 % 10) (q1 / 100) (.inr (.inr (some a)) :: as) nx ls st h else if ab_isc h a 2 = true then cl (q1 / 10 % 10) (q2 / 100) (.inr (.inr (some a)) :: as) nx ls st h else none
      | false => none
    | _ => none
  | .multianewarray q _ => match ab_pop (q % 10) [] st with
    | some (as, st) => match Nat.ble (ab_cs st) 8 with
      | true => cl (q / 10 % 10) (q / 100) as nx ls st h
      | false => none
    | none => none
  | .ireturn => match st with
    | .inl x :: [] => rt (some (.inl x)) h
    | _ => none
  | .freturn => match st with
    | .inl x :: [] => if x = 0 ∨ x = 1 then rt (some (.inl x)) h else none
    | _ => none
  | .dreturn => match st with
    | .inl x :: [] => if vp_nar .char x = x then rt (some (.inl x)) h else none
    | _ => none
  | .monitorenter => match st with
    | .inl x :: [] => if vp_nar .byte x = x then rt (some (.inl x)) h else none
    | _ => none
  | .lreturn => match st with
    | .inr (.inl x) :: [] => rt (some (.inr (.inl x))) h
    | _ => none
  | .areturn => match st with
    | .inr (.inr x) :: [] => rt (some (.inr (.inr x))) h
    | _ => none
  | .return_ => match st with
    | [] => rt none h
    | _ => none
  | _ => none
