/-! PURE: trees. A tree stands for an expression, a step, or steps one behind the other -/
abbrev zT : Type := Lean.RArray Nat
abbrev zB (k : Nat) (l r : zT) : zT := Lean.RArray.branch k l r
abbrev zL (n : Nat) : zT := Lean.RArray.leaf n
def zn : zT → Nat
  | .leaf n => n
  | .branch _ _ _ => 0
def zl : zT → zT
  | .leaf n => .leaf n
  | .branch _ l _ => l
def zr : zT → zT
  | .leaf n => .leaf n
  | .branch _ _ r => r
def zg : zT → Nat
  | .leaf _ => 0
  | .branch k _ _ => k
/-! expressions: 1 NAME, 2 NUMBER, 3 item (row, index), 35 size, 8 minus, 40 parentheses, 60 61 compares, the other signs -/
abbrev zNum (v : Nat) : zT := zB 2 (zL v) (zL 0)
abbrev zNam (k : Nat) : zT := zB 1 (zL k) (zL 0)
/-! steps: 100 let 101 unlet (name, e); 102 push 103 pop (name, stack); 104 new 105 end (row, 160 + kind (e)); 106 call 107 uncall (routine); 108 if (ahead, 112 (first, 113 (second, behind))); 111 from (ahead, 117 (first, 118 (second, behind))); 114 set (name, e); 115 while (test, part); 116 when (test, 119 (first, second)); 130 += 131 -= 132 ^= 133 <> 134 << 135 >> (place, e or place); 150 a step and those behind it; a leaf: none -/
def zsum (k : Nat) : Bool := k == 43 || k == 45 || k == 94 || k == 124
def zpro (k : Nat) : Bool := k == 42 || k == 47 || k == 37 || k == 38
/-- its tokens: sort and which -/
def zk : zT → List (Nat × Nat)
  | .leaf _ => []
  | .branch k l r =>
    if k = 1 then [(1, zn l)]
    else if k = 2 then [(2, zn l)]
    else if k = 35 then [(7, 35), (3, zn l)]
    else if k = 3 then (3, zn l) :: (7, 91) :: (zk r ++ [(7, 93)])
    else if k = 8 then (8, 45) :: zk l
    else if k = 40 then (7, 40) :: (zk l ++ [(7, 41)])
    else if k = 60 ∨ k = 61 then (7, 40) :: (zk l ++ (7, k) :: (zk r ++ [(7, 41)]))
    else if k < 100 ∨ k = 124 then zk l ++ (7, k) :: zk r
    else if k = 100 ∨ k = 101 ∨ k = 114 then (5, k - 100) :: (1, zn l) :: (7, 61) :: (zk r ++ [(7, 59)])
    else if k = 102 ∨ k = 103 then [(5, k - 100), (1, zn l), (4, zn r), (7, 59)]
    else if k = 104 ∨ k = 105 then (5, k - 100) :: (3, zn l) :: (zk r ++ [(7, 59)])
    else if k = 106 ∨ k = 107 then [(5, k - 100), (2, zn l), (7, 59)]
    else if k = 108 ∨ k = 111 then (5, k - 100) :: (zk l ++ zk r)
    else if k = 112 then (7, 123) :: (zk l ++ (7, 125) :: (5, 9) :: zk r)
    else if k = 113 then (7, 123) :: (zk l ++ (7, 125) :: (5, 10) :: (zk r ++ [(7, 59)]))
    else if k = 117 then (7, 123) :: (zk l ++ (7, 125) :: (5, 12) :: zk r)
    else if k = 118 then (7, 123) :: (zk l ++ (7, 125) :: (5, 13) :: (zk r ++ [(7, 59)]))
    else if k = 115 then (5, 15) :: (zk l ++ (7, 123) :: (zk r ++ [(7, 125), (7, 59)]))
    else if k = 116 then (5, 16) :: (zk l ++ zk r)
    else if k = 119 then (7, 123) :: (zk l ++ (7, 125) :: (5, 9) :: (7, 123) :: (zk r ++ [(7, 125), (7, 59)]))
    else if k < 140 then zk l ++ (6, k - 130) :: (zk r ++ [(7, 59)])
    else if k = 150 then zk l ++ zk r
    else (5, k - 143) :: zk l
/-- whether a name (below 26) or a row (26 and more) stands in an expression -/
def zhas (w : Nat) : zT → Bool
  | .leaf _ => false
  | .branch k l r =>
    if k = 1 then w == zn l
    else if k = 2 then false
    else if k = 35 then w == 26 + zn l
    else if k = 3 then w == 26 + zn l || zhas w r
    else if k = 8 ∨ k = 40 then zhas w l
    else zhas w l || zhas w r
/-- the names in it, as bits -/
def zbits : zT → Nat
  | .leaf _ => 0
  | .branch k l r =>
    if k = 1 then 2 ^ zn l
    else if k = 2 ∨ k = 35 then 0
    else if k = 3 then zbits r
    else if k = 8 ∨ k = 40 then zbits l
    else if k = 100 ∨ k = 101 ∨ k = 114 then 2 ^ zn l ||| zbits r
    else if k = 102 ∨ k = 103 then 2 ^ zn l
    else zbits l ||| zbits r
/-- the rows in it, as bits -/
def zrows : zT → Nat
  | .leaf _ => 0
  | .branch k l r =>
    if k = 35 then 2 ^ zn l
    else if k = 3 then 2 ^ zn l ||| zrows r
    else if k = 1 ∨ k = 2 then 0
    else if k = 8 ∨ k = 40 then zrows l
    else zrows l ||| zrows r
/-- how many instructions -/
def zc : zT → Nat
  | .leaf _ => 0
  | .branch k l r =>
    if k = 150 ∨ k = 112 ∨ k = 117 ∨ k = 119 then zc l + zc r
    else if k = 113 ∨ k = 118 then zc l
    else if k = 108 ∨ k = 111 ∨ k = 116 then 3 + zc r
    else if k = 115 then 2 + zc r
    else 1
/-- braces within one another -/
def zbr : zT → Nat
  | .leaf _ => 0
  | .branch k l r =>
    if k = 150 ∨ k = 112 ∨ k = 117 ∨ k = 119 then max (zbr l) (zbr r)
    else if k = 113 ∨ k = 118 then zbr l
    else if k = 108 ∨ k = 111 ∨ k = 116 ∨ k = 115 then 1 + zbr r
    else 0
/-- the steps of a list -/
def zls : zT → List zT
  | .leaf _ => []
  | .branch _ l r => l :: zls r
/-- a list of one behind another -/
def zap : zT → zT → zT
  | .leaf _, u => u
  | .branch k l r, u => .branch k l (zap r u)
def zcons (s t : zT) : zT := zB 150 s t
/-- parentheses, brackets and minuses within one another -/
def zdp : zT → Nat
  | .leaf _ => 0
  | .branch k l r =>
    if k = 1 ∨ k = 2 ∨ k = 35 then 0
    else if k = 3 then zdp r + 1
    else if k = 8 ∨ k = 40 then zdp l + 1
    else if k = 60 ∨ k = 61 then max (zdp l) (zdp r) + 1
    else max (zdp l) (zdp r)
/-- a good expression: lv 0 a sum, 1 a product, 2 a factor -/
def zok : zT → Nat → Prop
  | .leaf _, _ => False
  | .branch k l r, lv =>
    if k = 1 then zn l < 26
    else if k = 2 then zn l < 1000000000
    else if k = 35 then zn l < 6
    else if k = 3 then zn l < 6 ∧ zok r 0
    else if k = 8 then zok l 2
    else if k = 40 then zok l 0
    else if k = 60 ∨ k = 61 then zok l 0 ∧ zok r 0
    else if zsum k = true then lv = 0 ∧ zok l 0 ∧ zok r 1
    else if zpro k = true then lv ≤ 1 ∧ zok l 1 ∧ zok r 2
    else False
/-! tokens of a text. A token: how many bytes are left where it begins; its sort; which -/
abbrev zTk : Type := Nat × Nat × Nat
def bSm (c : Int) : Bool := decide (97 ≤ c) && decide (c ≤ 122)
def bDg (c : Int) : Bool := decide (48 ≤ c) && decide (c ≤ 57)
def bCp (c : Int) : Bool := decide (65 ≤ c) && decide (c ≤ 90)
def bKeys : List (List Int) := [[108, 101, 116], [117, 110, 108, 101, 116], [112, 117, 115, 104], [112, 111, 112], [110, 101, 119], [101, 110, 100], [99, 97, 108, 108], [117, 110, 99, 97, 108, 108], [105, 102], [101, 108, 115, 101], [102, 105], [102, 114, 111, 109], [108, 111, 111, 112], [117, 110, 116, 105, 108], [115, 101, 116], [119, 104, 105, 108, 101], [119, 104, 101, 110], [105, 110, 116], [108, 111, 110, 103], [115, 104, 111, 114, 116], [98, 121, 116, 101], [99, 104, 97, 114]]
def bTwo (c d : Int) : Option Nat :=
  if d = 61 then (if c = 43 then some 0 else if c = 45 then some 1 else if c = 94 then some 2 else none)
  else if c = 60 ∧ d = 62 then some 3 else if c = 60 ∧ d = 60 then some 4 else if c = 62 ∧ d = 62 then some 5 else none
def bNum : Nat → Nat → List Int → Nat × List Int
  | 0, a, t => (a, t)
  | _ + 1, a, [] => (a, [])
  | k + 1, a, c :: t => if bDg c then bNum k (10 * a + (c - 48).toNat) t else (a, c :: t)
def bSkip : List Int → List Int
  | [] => []
  | c :: t => if c = 32 then bSkip t else c :: t
def bWord : List Int → List Int × List Int
  | [] => ([], [])
  | c :: t => if bSm c then (c :: (bWord t).1, (bWord t).2) else ([], c :: t)
/-- the token that begins with c, r behind it: sort, which, what is left -/
def bTok (c : Int) (r : List Int) : Nat × Nat × List Int :=
  if bSm c then (if (bWord r).1 = [] then (1, (c - 97).toNat, r) else match bKeys.findIdx? (· == c :: (bWord r).1) with
    | some i => (5, i, (bWord r).2)
    | none => (0, 0, (bWord r).2))
  else if bDg c then (2, (bNum 8 (c - 48).toNat r).1, (bNum 8 (c - 48).toNat r).2)
  else if bCp c then (if c ≤ 70 then (3, (c - 65).toNat, r) else if 83 ≤ c ∧ c ≤ 86 then (4, (c - 83).toNat, r) else (0, 0, r))
  else match r with
    | [] => (7, c.toNat, [])
    | d :: q => match bTwo c d with
      | some i => (6, i, q)
      | none => (7, c.toNat, d :: q)
def bLex : Nat → List Int → List zTk
  | 0, _ => []
  | f + 1, t => match bSkip t with
    | [] => []
    | c :: r => (r.length + 1, (bTok c r).1, (bTok c r).2.1) :: bLex f (bTok c r).2.2
def lex (t : List Int) : List zTk := bLex (t.length + 1) t
/-! reading. A fault: kind, bytes left at its place -/
abbrev zRes : Type := (Nat × Nat) ⊕ (zT × List zTk)
def pq : List zTk → Nat
  | [] => 0
  | (q, _, _) :: _ => q
def pis (s w : Nat) : List zTk → Bool
  | [] => false
  | (_, a, b) :: _ => a == s && b == w
def phs (s : Nat) : List zTk → Bool
  | [] => false
  | (_, a, _) :: _ => a == s
def pw : List zTk → Nat
  | [] => 0
  | (_, _, b) :: _ => b
def pBnd (o : Option zRes) (k : zT → List zTk → Option zRes) : Option zRes := match o with
  | none => none
  | some (.inl f) => some (.inl f)
  | some (.inr (e, L)) => k e L
def pno (k : Nat) (L : List zTk) : Option zRes := some (.inl (k, pq L))
def pex (c : Nat) (e : zT) (L : List zTk) : Option zRes := if pis 7 c L then some (.inr (e, L.tail)) else pno 1 L
def pSum (L : List zTk) : Bool := phs 7 L && zsum (pw L)
def pPro (L : List zTk) : Bool := phs 7 L && zpro (pw L)
/-- 0 a sum, 1 what is behind its first, 2 a product, 3 what is behind its first, 4 a factor, 5 an index behind the row a; within w -/
def pX : Nat → Nat → Nat → zT → List zTk → Option zRes
  | 0, _, _, _, _ => none
  | f + 1, m, w, a, L =>
    if m = 0 then pBnd (pX f 2 w (zL 0) L) fun e M => pX f 1 w e M
    else if m = 1 then (if pSum L then pBnd (pX f 2 w (zL 0) L.tail) fun e M => pX f 1 w (zB (pw L) a e) M else some (.inr (a, L)))
    else if m = 2 then pBnd (pX f 4 w (zL 0) L) fun e M => pX f 3 w e M
    else if m = 3 then (if pPro L then pBnd (pX f 4 w (zL 0) L.tail) fun e M => pX f 3 w (zB (pw L) a e) M else some (.inr (a, L)))
    else if m = 4 then
      (if phs 2 L then some (.inr (zNum (pw L), L.tail))
      else if phs 1 L then some (.inr (zNam (pw L), L.tail))
      else if phs 3 L then pX f 5 w (zL (pw L)) L.tail
      else if pis 7 35 L then (if phs 3 L.tail then some (.inr (zB 35 (zL (pw L.tail)) (zL 0), L.tail.tail)) else pno 1 L.tail)
      else if pis 7 45 L then (if w = 8 then pno 2 L else pBnd (pX f 4 (w + 1) (zL 0) L.tail) fun e M => some (.inr (zB 8 e (zL 0), M)))
      else if pis 7 40 L then (if w = 8 then pno 2 L else pBnd (pX f 0 (w + 1) (zL 0) L.tail) fun e M =>
        if pis 7 60 M || pis 7 61 M then pBnd (pX f 0 (w + 1) (zL 0) M.tail) fun e2 M2 => pex 41 (zB (pw M) e e2) M2
        else pex 41 (zB 40 e (zL 0)) M)
      else pno 1 L)
    else
      (if pis 7 91 L then (if w = 8 then pno 2 L else pBnd (pX f 0 (w + 1) (zL 0) L.tail) fun e M => pex 93 (zB 3 a e) M) else pno 1 L)
def pE (L : List zTk) : zRes := (pX (4 * L.length + 8) 0 0 (zL 0) L).getD (.inl (0, 0))
/-! steps -/
abbrev zRs : Type := (Nat × Nat) ⊕ (zT × List zTk × Nat × Nat)
def qBnd (o : Option zRs) (k : zT → List zTk → Nat → Nat → Option zRs) : Option zRs := match o with
  | none => none
  | some (.inl f) => some (.inl f)
  | some (.inr (e, L, c, o)) => k e L c o
def qE (x : zRes) (k : zT → List zTk → Option zRs) : Option zRs := match x with
  | .inl f => some (.inl f)
  | .inr (e, L) => k e L
def qno (k : Nat) (L : List zTk) : Option zRs := some (.inl (k, pq L))
def qis (s w : Nat) (L : List zTk) (k : List zTk → Option zRs) : Option zRs := if pis s w L then k L.tail else qno 1 L
/-- behind a step that began with q bytes left: its ; -/
def qEnd (q : Nat) (self : Bool) (more c o : Nat) (s : zT) (L : List zTk) : Option zRs :=
  if pis 7 59 L then (if self then some (.inl (3, q)) else if 40 < c + more then some (.inl (4, q)) else some (.inr (s, L.tail, c + more, o))) else qno 1 L
/-- a place that is changed -/
def pP (L : List zTk) : zRes :=
  if phs 1 L then .inr (zNam (pw L), L.tail)
  else if phs 3 L then (if pis 7 91 L.tail then (match pE L.tail.tail with
    | .inl f => .inl f
    | .inr (e, M) => if pis 7 93 M then .inr (zB 3 (zL (pw L)) e, M.tail) else .inl (1, pq M)) else .inl (1, pq L.tail))
  else .inl (1, pq L)
def pFgt (L : List zTk) : Bool := phs 5 L && (pw L == 14 || pw L == 15 || pw L == 16)
def pBeg (L : List zTk) : Bool := phs 1 L || phs 3 L || (phs 5 L && (pw L ≤ 8 || pw L == 11 || (14 ≤ pw L && pw L ≤ 16)))
/-- a step that isn't one with others within -/
def pOne (c o : Nat) (L : List zTk) : Option zRs :=
  if phs 1 L || phs 3 L then qE (pP L) fun p M =>
    if phs 6 M then (if pw M = 3 then qE (pP M.tail) fun p2 M2 => qEnd (pq L) false 1 c o (zB 133 p p2) M2
      else qE (pE M.tail) fun e M2 => qEnd (pq L) (zg p == 1 && zhas (zn (zl p)) e) 1 c o (zB (130 + pw M) p e) M2)
    else qno 1 M
  else if pw L = 0 ∨ pw L = 1 ∨ pw L = 14 then
    (if phs 1 L.tail then qis 7 61 L.tail.tail fun M => qE (pE M) fun e M2 => qEnd (pq L) (pw L != 14 && zhas (pw L.tail) e) 1 c o (zB (100 + pw L) (zL (pw L.tail)) e) M2 else qno 1 L.tail)
  else if pw L = 2 ∨ pw L = 3 then
    (if phs 1 L.tail then (if phs 4 L.tail.tail then qEnd (pq L) false 1 c o (zB (100 + pw L) (zL (pw L.tail)) (zL (pw L.tail.tail))) L.tail.tail.tail else qno 1 L.tail.tail) else qno 1 L.tail)
  else if pw L = 4 ∨ pw L = 5 then
    (if phs 3 L.tail then (if phs 5 L.tail.tail && 17 ≤ pw L.tail.tail then qE (pE L.tail.tail.tail) fun e M => qEnd (pq L) (zhas (26 + pw L.tail) e) 1 c o (zB (100 + pw L) (zL (pw L.tail)) (zB (143 + pw L.tail.tail) e (zL 0))) M else qno 1 L.tail.tail) else qno 1 L.tail)
  else
    (if phs 2 L.tail then (if 10 ≤ pw L.tail then qno 5 L.tail else qEnd (pq L) false 1 c o (zB (100 + pw L) (zL (pw L.tail)) (zL 0)) L.tail.tail) else qno 1 L.tail)
/-- 0 steps, 1 a step, 2 a block; b braces are about it; c instructions so far; o: 2 nothing is known, 0 or 1 whether it is ordinary -/
def pS : Nat → Nat → Nat → Nat → Nat → List zTk → Option zRs
  | 0, _, _, _, _, _ => none
  | f + 1, m, b, c, o, L =>
    if m = 0 then
      (if pBeg L then (if o ≠ 2 ∧ (o == 1) ≠ pFgt L then qno 6 L else
        qBnd (pS f 1 b c (if pFgt L then 1 else 0) L) fun s M c1 o1 => qBnd (pS f 0 b c1 o1 M) fun t M2 c2 o2 => some (.inr (zcons s t, M2, c2, o2)))
      else some (.inr (zL 0, L, c, o)))
    else if m = 1 then
      (if phs 5 L && (pw L == 8 || pw L == 11) then qE (pE L.tail) fun e M =>
        qBnd (pS f 2 b c o M) fun p M1 c1 o1 => qis 5 (pw L + 1) M1 fun M2 => qBnd (pS f 2 b c1 o1 M2) fun p2 M3 c3 o3 => qis 5 (pw L + 2) M3 fun M4 => qE (pE M4) fun e2 M5 =>
          qEnd (pq L) false 3 c3 o3 (if pw L = 8 then zB 108 e (zB 112 p (zB 113 p2 e2)) else zB 111 e (zB 117 p (zB 118 p2 e2))) M5
      else if phs 5 L && pw L == 15 then qE (pE L.tail) fun e M => qBnd (pS f 2 b c o M) fun p M1 c1 o1 => qEnd (pq L) false 2 c1 o1 (zB 115 e p) M1
      else if phs 5 L && pw L == 16 then qE (pE L.tail) fun e M => qBnd (pS f 2 b c o M) fun p M1 c1 o1 => qis 5 9 M1 fun M2 => qBnd (pS f 2 b c1 o1 M2) fun p2 M3 c3 o3 => qEnd (pq L) false 3 c3 o3 (zB 116 e (zB 119 p p2)) M3
      else pOne c o L)
    else
      (if pis 7 123 L then (if b = 5 then qno 2 L else qBnd (pS f 0 (b + 1) c o L.tail) fun t M c1 o1 => if pis 7 125 M then some (.inr (t, M.tail, c1, o1)) else qno 1 M) else qno 1 L)
/-- a whole text: fault, or its steps -/
def pRead (L : List zTk) : Option ((Nat × Nat) ⊕ zT) := match pS (3 * L.length + 5) 0 0 0 2 L with
  | none => none
  | some (.inl f) => some (.inl f)
  | some (.inr (t, M, _, _)) => if M = [] then some (.inr t) else some (.inl (1, pq M))
