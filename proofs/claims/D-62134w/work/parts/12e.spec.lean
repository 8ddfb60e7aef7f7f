/-! ===== WHAT BOTH COMPUTE: the tree, paths, tools, commands, lists ===== -/
/-- a tree: nodes 0 .. n (0 the root) in the order of their birth; directory?, parent, name, text -/
abbrev sT : Type := Nat × (Nat → Bool) × (Nat → Nat) × (Nat → Int64) × (Nat → List Int32)
def sN (r : sT) : Nat := r.1
def sD (r : sT) (x : Nat) : Bool := r.2.1 x
def sP (r : sT) (x : Nat) : Nat := r.2.2.1 x
def sM (r : sT) (x : Nat) : Int64 := r.2.2.2.1 x
def sX (r : sT) (x : Nat) : List Int32 := r.2.2.2.2 x
def sNew (r : sT) (d : Bool) (p : Nat) (m : Int64) : sT := (sN r + 1, ab_up r.2.1 (sN r + 1) d, ab_up r.2.2.1 (sN r + 1) p, ab_up r.2.2.2.1 (sN r + 1) m, ab_up r.2.2.2.2 (sN r + 1) [])
def sSet (r : sT) (x : Nat) (l : List Int32) : sT := (r.1, r.2.1, r.2.2.1, r.2.2.2.1, ab_up r.2.2.2.2 x l)
/-- f 0 + .. + f k -/
def sumTo (f : Nat → Nat) : Nat → Nat
  | 0 => f 0
  | k + 1 => sumTo f k + f (k + 1)
def sC (r : sT) : Nat := sumTo (fun x => (sX r x).length) (sN r)
/-- a letter of a name -/
def gdc (c : Int32) : Bool := (decide (97 ≤ c) && decide (c ≤ 122)) || (decide (48 ≤ c) && decide (c ≤ 57)) || decide (c = 95) || decide (c = 46)
def isNm (l : List Int32) : Bool := decide (1 ≤ l.length) && decide (l.length ≤ 7) && l.all gdc
def pkF : Nat → List Int32 → Int64 → Int64
  | 0, _, v => v
  | k + 1, [], v => pkF k [] (v <<< 8 ||| 0)
  | k + 1, c :: l, v => pkF k l (v <<< 8 ||| c.toInt64)
/-- up to seven letters as a number -/
def pk (l : List Int32) : Int64 := if 7 < l.length then -1 else pkF 7 l 0
/-- the child of d with the name m, from node x on -/
def chF (r : sT) (d : Nat) (m : Int64) : Nat → Nat → Option Nat
  | 0, _ => none
  | k + 1, x => if x ≤ sN r ∧ sP r x = d ∧ sM r x = m then some x else chF r d m k (x + 1)
def chS (r : sT) (d : Nat) (m : Int64) : Option Nat := chF r d m 12 1
/-- one step of a path: a node and a vacancy -/
def ledS (r : sT) (nd : Option Nat) (g : List Int32) : Option Nat × Option (Nat × Int64) := match nd with
  | none => (none, none)
  | some x => if sD r x = true then (if g = [46, 46] then (some (sP r x), none) else if isNm g = true then (match chS r x (pk g) with
      | some y => (some y, none)
      | none => (none, some (x, pk g))) else (none, none)) else (none, none)
def folF (r : sT) : Nat → List Int32 → Option Nat × Option (Nat × Int64) → Option Nat × Option (Nat × Int64)
  | 0, _, s => s
  | _ + 1, [], s => s
  | k + 1, c :: l, s => folF r k ((c :: l).drop (((c :: l).takeWhile (fun a => decide (a ≠ 47))).length + 1)) (if (c :: l).takeWhile (fun a => decide (a ≠ 47)) = [] ∨ (c :: l).takeWhile (fun a => decide (a ≠ 47)) = [46] then s else ledS r s.1 ((c :: l).takeWhile (fun a => decide (a ≠ 47))))
/-- a path, from the directory here -/
def folS (r : sT) (here : Nat) (l : List Int32) : Option Nat × Option (Nat × Int64) := folF r l.length l (if l.head? = some 47 then some 0 else some here, none)
/-- the letters of a number below 1000 -/
def dg (n : Nat) : List Int32 := if n < 10 then [nI (48 + n)] else if n < 100 then [nI (48 + n / 10), nI (48 + n % 10)] else [nI (48 + n / 100), nI (48 + n / 10 % 10), nI (48 + n % 10)]
/-- a token's letters worked out; e stands for $?; q: in quotes -/
def wx (e : List Int32) : Bool → List Int32 → List Int32
  | _, [] => []
  | _, [c] => if c = 39 then [] else [c]
  | q, c :: d :: l => if c = 39 then wx e (!q) (d :: l) else if q = false ∧ c = 36 ∧ d = 63 then e ++ wx e q l else c :: wx e q (d :: l)
/-! ===== tools: (code, text, what is left of the input) ===== -/
def docS (r : sT) (here : Nat) (w : List Int32) : Option (List Int32) := match (folS r here w).1 with
  | none => none
  | some x => if sD r x = true then none else some (sX r x)
def joinS : List (List Int32) → List Int32
  | [] => []
  | [w] => w
  | w :: v :: l => w ++ 32 :: joinS (v :: l)
def echoS (ws : List (List Int32)) : List Int32 := match ws with
  | [45, 110] :: l => joinS l
  | l => joinS l ++ [10]
def catS (r : sT) (here : Nat) : List (List Int32) → Option (List Int32)
  | [] => some []
  | w :: l => match docS r here w with
    | none => none
    | some t => (catS r here l).map (t ++ ·)
def gapc (c : Int32) : Bool := decide (c = 10) || decide (c = 32)
/-- words of a text; i: inside of a word -/
def pcs : Bool → List Int32 → Nat
  | _, [] => 0
  | i, c :: l => (if gapc c = false ∧ i = false then 1 else 0) + pcs (!gapc c) l
def nls : List Int32 → Nat
  | [] => 0
  | c :: l => (if c = 10 then 1 else 0) + nls l
def wcS (t : List Int32) : List Int32 := dg (nls t) ++ 32 :: (dg (pcs false t) ++ 32 :: (dg t.length ++ [10]))
/-- the lines of a text; cur: what has been read of the line -/
def lnS : List Int32 → List Int32 → List (List Int32)
  | cur, [] => if cur = [] then [] else [cur]
  | cur, c :: l => if c = 10 then cur :: lnS [] l else lnS (cur ++ [c]) l
/-- the core stands at the head of s -/
def stS : List Int32 → List Int32 → Bool
  | [], _ => true
  | _ :: _, [] => false
  | c :: l, a :: s => (decide (c = 46) || decide (c = a)) && stS l s
/-- from the place p of s on, k places -/
def mtF (core : List Int32) (bs es : Bool) (ln : Nat) : Nat → Nat → List Int32 → Bool
  | 0, _, _ => false
  | k + 1, p, s => (decide (p + core.length ≤ ln) && (!bs || decide (p = 0)) && (!es || decide (p + core.length = ln)) && stS core s) || mtF core bs es ln k (p + 1) (s.drop 1)
def mtS (core : List Int32) (bs es : Bool) (l : List Int32) : Bool := mtF core bs es l.length (l.length + 1) 0 l
def gbS (p : List Int32) : Bool := decide (p.head? = some 94)
def gcS (p : List Int32) : List Int32 := if gbS p = true then p.drop 1 else p
def geS (p : List Int32) : Bool := decide ((gcS p).getLast? = some 36)
def gkS (p : List Int32) : List Int32 := if geS p = true then (gcS p).dropLast else gcS p
def gsel (inv : Bool) (p : List Int32) (l : List Int32) : Bool := mtS (gkS p) (gbS p) (geS p) l != inv
def gout (inv : Bool) (p : List Int32) : List (List Int32) → List Int32
  | [] => []
  | l :: ls => (if gsel inv p l = true then l ++ [10] else []) ++ gout inv p ls
def gany (inv : Bool) (p : List Int32) : List (List Int32) → Bool
  | [] => false
  | l :: ls => gsel inv p l || gany inv p ls
/-- is the name of x less than that of b? -/
def beL (r : sT) (x : Nat) (b : Option Nat) : Bool := match b with
  | none => true
  | some y => decide (sM r x < sM r y)
/-- the child of d with the least name above m -/
def beF (r : sT) (d : Nat) (m : Int64) : Nat → Nat → Option Nat → Option Nat
  | 0, _, b => b
  | k + 1, x, b => beF r d m k (x + 1) (if x ≤ sN r ∧ sP r x = d ∧ m < sM r x ∧ beL r x b = true then some x else b)
def beS (r : sT) (d : Nat) (m : Int64) : Option Nat := beF r d m 12 1 none
/-- a name's letters -/
def splL (m : Int64) (k : Nat) : Int32 := (m >>> ((nI (8 * k)).toInt64 &&& 63)).toInt32 &&& 255
def splF (m : Int64) : Nat → List Int32
  | 0 => []
  | k + 1 => (if splL m k = 0 then [] else [splL m k]) ++ splF m k
def splS (m : Int64) : List Int32 := splF m 7
def entS (r : sT) (x : Nat) : List Int32 := splS (sM r x) ++ ((if sD r x = true then [47] else []) ++ [10])
def lsF (r : sT) (d : Nat) : Nat → Int64 → List Int32
  | 0, _ => []
  | k + 1, m => match beS r d m with
    | none => []
    | some x => entS r x ++ lsF r d k (sM r x)
def lsS (r : sT) (x : Nat) : List Int32 := if sD r x = true then lsF r x 12 0 else entS r x
/-- a tool's outcome: (no space?, code, text, tree, here, what is left of the input) -/
abbrev sO : Type := Bool × Nat × List Int32 × sT × Nat × List Int32
def catU (r : sT) (here : Nat) (src : List Int32) (ws : List (List Int32)) : sO := match ws with
  | [] => (false, 0, src, r, here, [])
  | g :: ws => match catS r here (g :: ws) with
    | none => (false, 1, [], r, here, src)
    | some t => (false, 0, t, r, here, src)
def wcU (r : sT) (here : Nat) (src : List Int32) (ws : List (List Int32)) : sO := match ws with
  | [] => (false, 0, wcS src, r, here, [])
  | [w] => (match docS r here w with
    | none => (false, 1, [], r, here, src)
    | some t => (false, 0, wcS t, r, here, src))
  | _ => (false, 2, [], r, here, src)
def grepS (r : sT) (here : Nat) (src : List Int32) (inv : Bool) (ws : List (List Int32)) : sO := match ws with
  | [p] => (false, (if gany inv p (lnS [] src) = true then 0 else 1), gout inv p (lnS [] src), r, here, [])
  | [p, w] => (match docS r here w with
    | none => (false, 1, [], r, here, src)
    | some t => (false, (if gany inv p (lnS [] t) = true then 0 else 1), gout inv p (lnS [] t), r, here, src))
  | _ => (false, 2, [], r, here, src)
def grepU (r : sT) (here : Nat) (src : List Int32) (ws : List (List Int32)) : sO := if ws.head? = some [45, 118] then grepS r here src true (ws.drop 1) else grepS r here src false ws
def lsU (r : sT) (here : Nat) (src : List Int32) (ws : List (List Int32)) : sO := match ws with
  | [] => (false, 0, lsS r here, r, here, src)
  | [w] => (match (folS r here w).1 with
    | none => (false, 1, [], r, here, src)
    | some x => (false, 0, lsS r x, r, here, src))
  | _ => (false, 2, [], r, here, src)
def mkU (nl : Nat) (r : sT) (here : Nat) (src : List Int32) (ws : List (List Int32)) : sO := match ws with
  | [w] => (match (folS r here w).2 with
    | none => (false, 1, [], r, here, src)
    | some (d, m) => if nl ≤ sN r then (true, 0, [], r, here, src) else (false, 0, [], sNew r true d m, here, src))
  | _ => (false, 2, [], r, here, src)
def cdU (r : sT) (here : Nat) (src : List Int32) (ws : List (List Int32)) : sO := match ws with
  | [] => (false, 0, [], r, 0, src)
  | [w] => (match (folS r here w).1 with
    | none => (false, 1, [], r, here, src)
    | some x => if sD r x = true then (false, 0, [], r, x, src) else (false, 1, [], r, here, src))
  | _ => (false, 2, [], r, here, src)
def toolS (nl : Nat) (r : sT) (here : Nat) (src : List Int32) (a : List (List Int32)) : sO := match a with
  | [] => (false, 127, [], r, here, src)
  | n :: ws =>
    if n = [101, 99, 104, 111] then (false, 0, echoS ws, r, here, src)
    else if n = [99, 97, 116] then catU r here src ws
    else if n = [119, 99] then wcU r here src ws
    else if n = [103, 114, 101, 112] then grepU r here src ws
    else if n = [108, 115] then lsU r here src ws
    else if n = [109, 107, 100, 105, 114] then mkU nl r here src ws
    else if n = [99, 100] then cdU r here src ws
    else (false, 127, [], r, here, src)
/-! ===== commands, pipelines, lists ===== -/
/-- tree, here, status, ran -/
abbrev sS : Type := sT × Nat × Nat × Nat
/-- words and redirections of a command, from t on -/
def rdW (K : Nat → Nat) (g : Bool) : Nat → Nat → List Nat × List (Nat × Nat)
  | 0, _ => ([], [])
  | f + 1, t => if K t = 0 ∧ g = false then (t :: (rdW K g f (t + 1)).1, (rdW K g f (t + 1)).2) else if redK (K t) = true then ((rdW K g f (t + 2)).1, (K t, t + 1) :: (rdW K g f (t + 2)).2) else ([], [])
/-- redirections: 0 all are made, 1 one cannot be made, 2 no space; the tree, what is fed, the target -/
def redF (nl here : Nat) (W : Nat → List Int32) : List (Nat × Nat) → sT → Option (List Int32) → Option Nat → Nat × sT × Option (List Int32) × Option Nat
  | [], r, fd, tg => (0, r, fd, tg)
  | (op, w) :: l, r, fd, tg => match folS r here (W w) with
    | (some x, _) => if sD r x = true then (1, r, fd, tg) else if op = 5 then redF nl here W l r (some (sX r x)) tg else redF nl here W l (if op = 7 then sSet r x [] else r) fd (some x)
    | (none, none) => (1, r, fd, tg)
    | (none, some (d, m)) => if op = 5 then (1, r, fd, tg) else if nl ≤ sN r then (2, r, fd, tg) else redF nl here W l (sNew r false d m) fd (some (sN r + 1))
/-- how a group is run: place behind (, state, input; it says: no space?, state, input, output -/
abbrev sG : Type := Nat → sS → List Int32 → Bool × sS × List Int32 × List Int32
/-- a command's outcome: no space?, state, code, text, input -/
abbrev sR : Type := Bool × sS × Nat × List Int32 × List Int32
/-- a line: limits of nodes, chars, pipes; kinds; letters of tokens -/
abbrev sL : Type := (Nat × Nat × Nat) × (Nat → Nat) × (Nat → List Int32)
def actS (Z : sL) (H : sG) (g : Bool) (t : Nat) (ws : List Nat) (s : sS) (src : List Int32) : sR :=
  if g = true then (match H (t + 1) s src with
    | (b, s2, i2, o) => (b, (s2.1, s.2.1, s2.2.2), s2.2.2.1, o, i2))
  else match toolS Z.1.1 s.1 s.2.1 src (ws.map fun w => wx (dg s.2.2.1) false (Z.2.2 w)) with
    | (b, c, x, r, h, i2) => (b || decide (c = 0 ∧ Z.1.2.2 < x.length), (r, h, s.2.2.1, s.2.2.2 + 1), c, (if c = 0 then x else []), i2)
/-- what a command put out goes to its target -/
def stoS (Z : sL) (tg : Option Nat) (u : sR) : sR := if u.1 = true then u else match tg with
  | none => u
  | some x => if Z.1.2.1 < sC u.2.1.1 + u.2.2.2.1.length then (true, u.2) else (false, (sSet u.2.1.1 x (sX u.2.1.1 x ++ u.2.2.2.1), u.2.1.2), u.2.2.1, [], u.2.2.2.2)
def cmdS (Z : sL) (G : Nat → Option Nat) (H : sG) (t : Nat) (s : sS) (inp : List Int32) : sR :=
  match rdW Z.2.1 (decide (Z.2.1 t = 8)) 100 (if Z.2.1 t = 8 then (G t).getD 0 else t) with
  | (ws, rs) => match redF Z.1.1 s.2.1 (fun w => wx (dg s.2.2.1) false (Z.2.2 w)) rs s.1 none none with
    | (0, r, fd, tg) => (match fd with
      | none => stoS Z tg (actS Z H (decide (Z.2.1 t = 8)) t ws (r, s.2) inp)
      | some f => (match stoS Z tg (actS Z H (decide (Z.2.1 t = 8)) t ws (r, s.2) f) with
        | (b, s2, c, x, _) => (b, s2, c, x, inp)))
    | (1, r, _, _) => (false, (r, s.2), 1, [], inp)
    | (_, r, _, _) => (true, (r, s.2), 1, [], inp)
/-- a command after which here goes back -/
def asiS (Z : sL) (G : Nat → Option Nat) (H : sG) (t : Nat) (s : sS) (inp : List Int32) : sR := match cmdS Z G H t s inp with
  | (b, s2, c, x, i) => (b, (s2.1, s.2.1, s2.2.2), c, x, i)
def endC (Z : sL) (G : Nat → Option Nat) (t : Nat) : Nat := (pC Z.2.1 100 G t).getD 0
def endP (Z : sL) (G : Nat → Option Nat) (t : Nat) : Nat := (pP Z.2.1 100 G t).getD 0
/-- the commands behind the first of a pipeline: t is at the | -/
def barS (Z : sL) (G : Nat → Option Nat) (H : sG) : Nat → Nat → sS → Nat → List Int32 → Bool × sS × Nat × List Int32
  | 0, _, s, c, x => (false, s, c, x)
  | f + 1, t, s, c, x => if Z.2.1 t = 4 then (match asiS Z G H (t + 1) s x with
      | (true, s2, c2, x2, _) => (true, s2, c2, x2)
      | (false, s2, c2, x2, _) => barS Z G H f (endC Z G (t + 1)) s2 c2 x2)
    else (false, s, c, x)
/-- a pipeline's end: its text is put out, and its status -/
def finS (Z : sL) (nt : Bool) (inp out : List Int32) (u : Bool × sS × Nat × List Int32) : Bool × sS × List Int32 × List Int32 :=
  if u.1 = true then (true, u.2.1, inp, out) else if Z.1.2.2 < out.length + u.2.2.2.length then (true, u.2.1, inp, out)
  else (false, (u.2.1.1, u.2.1.2.1, (if nt = true then (if u.2.2.1 = 0 then 1 else 0) else u.2.2.1), u.2.1.2.2.2), inp, out ++ u.2.2.2)
def pipS (Z : sL) (G : Nat → Option Nat) (H : sG) (t0 : Nat) (nt : Bool) (s : sS) (inp out : List Int32) : Bool × sS × List Int32 × List Int32 :=
  match (if Z.2.1 (endC Z G t0) = 4 then asiS Z G H t0 s inp else cmdS Z G H t0 s inp) with
  | (true, s1, _, _, i1) => (true, s1, i1, out)
  | (false, s1, c, x, i1) => finS Z nt i1 out (barS Z G H 100 (endC Z G t0) s1 c x)
def plnS (Z : sL) (G : Nat → Option Nat) (H : sG) (t : Nat) (s : sS) (inp out : List Int32) : Bool × sS × List Int32 × List Int32 :=
  pipS Z G H (if Z.2.1 t = 10 then t + 1 else t) (decide (Z.2.1 t = 10)) s inp out
/-- behind a pipeline: && and ||; t is behind the pipeline; it says the place too -/
def andS (Z : sL) (G : Nat → Option Nat) (H : sG) : Nat → Nat → sS → List Int32 → List Int32 → Bool × sS × List Int32 × List Int32 × Nat
  | 0, t, s, inp, out => (false, s, inp, out, t)
  | f + 1, t, s, inp, out => if Z.2.1 t = 2 ∨ Z.2.1 t = 3 then (if (Z.2.1 t = 2) ↔ (s.2.2.1 = 0) then (match plnS Z G H (t + 1) s inp out with
        | (true, s1, i1, o1) => (true, s1, i1, o1, 0)
        | (false, s1, i1, o1) => andS Z G H f (endP Z G (t + 1)) s1 i1 o1)
      else andS Z G H f (endP Z G (t + 1)) s inp out)
    else (false, s, inp, out, t)
def lstS (Z : sL) (G : Nat → Option Nat) (H : sG) : Nat → Nat → sS → List Int32 → List Int32 → Bool × sS × List Int32 × List Int32
  | 0, _, s, inp, out => (false, s, inp, out)
  | f + 1, t, s, inp, out => match plnS Z G H t s inp out with
    | (true, s1, i1, o1) => (true, s1, i1, o1)
    | (false, s1, i1, o1) => match andS Z G H 100 (endP Z G t) s1 i1 o1 with
      | (true, s2, i2, o2, _) => (true, s2, i2, o2)
      | (false, s2, i2, o2, t2) => if Z.2.1 t2 = 1 ∧ bgK (Z.2.1 (t2 + 1)) = true then lstS Z G H f (t2 + 1) s2 i2 o2 else (false, s2, i2, o2)
/-- the runner of groups that may hold r more groups in each other, less one -/
def grpS (Z : sL) : Nat → sG
  | 0 => fun _ s inp => (false, s, inp, [])
  | r + 1 => fun t s inp => lstS Z (pG Z.2.1 100 r) (grpS Z r) 100 t s inp []
/-- a whole line's run: no space?, state, what is shown -/
def runS (Z : sL) (s : sS) : Bool × sS × List Int32 := match lstS Z (pG Z.2.1 100 4) (grpS Z 4) 100 0 (s.1, s.2.1, s.2.2.1, 0) [] [] with
  | (b, s2, _, o) => (b, (s2.1, s2.2.1, (if b = true then 100 else s2.2.2.1), s2.2.2.2), o)
