/-! THE ABSTRACT MACHINE: values, heap, instructions as predicate transformers -/
abbrev av : Type := Int ⊕ (Int ⊕ (Option Nat ⊕ Unit))
abbrev vI (x : Int) : av := .inl x
abbrev vJ (x : Int) : av := .inr (.inl x)
abbrev vR (r : Option Nat) : av := .inr (.inr (.inl r))
abbrev vU : av := .inr (.inr (.inr ()))
/-- heap: number of cells; budget used; tag (class number or array kind, length); ints; longs; references -/
abbrev hp : Type := Nat × Nat × (Nat → Nat × Nat) × (Nat → Nat → Int) × (Nat → Nat → Int) × (Nat → Nat → Option Nat)
def hN (h : hp) : Nat := h.1
def hU (h : hp) : Nat := h.2.1
def hT (h : hp) : Nat → Nat × Nat := h.2.2.1
def hI (h : hp) : Nat → Nat → Int := h.2.2.2.1
def hL (h : hp) : Nat → Nat → Int := h.2.2.2.2.1
def hR (h : hp) : Nat → Nat → Option Nat := h.2.2.2.2.2
def up2 {α : Type} (f : Nat → Nat → α) (a j : Nat) (x : α) : Nat → Nat → α := fun b k => if b = a ∧ k = j then x else f b k
def up1 {α : Type} (f : Nat → α) (a : Nat) (x : α) : Nat → α := fun b => if b = a then x else f b
def sI (h : hp) (a j : Nat) (x : Int) : hp := (hN h, hU h, hT h, up2 (hI h) a j x, hL h, hR h)
def sL (h : hp) (a j : Nat) (x : Int) : hp := (hN h, hU h, hT h, hI h, up2 (hL h) a j x, hR h)
def sR (h : hp) (a j : Nat) (x : Option Nat) : hp := (hN h, hU h, hT h, hI h, hL h, up2 (hR h) a j x)
/-- a new cell of kind k and length n, of c slots -/
def hNew (h : hp) (k n c : Nat) : hp := (hN h + 1, hU h + c + 13, up1 (hT h) (hN h) (k, n), up1 (hI h) (hN h) (fun _ => 0), up1 (hL h) (hN h) (fun _ => 0), up1 (hR h) (hN h) (fun _ => none))
/-- n places of cell a from sp on are copied to cell b from dp on -/
def cp2 {α : Type} (f : Nat → Nat → α) (a b sp dp n : Nat) : Nat → Nat → α := fun c k => if c = b ∧ dp ≤ k ∧ k < dp + n then f a (sp + (k - dp)) else f c k
def hCpy (h : hp) (a b sp dp n : Nat) : hp := (hN h, hU h, hT h, cp2 (hI h) a b sp dp n, cp2 (hL h) a b sp dp n, cp2 (hR h) a b sp dp n)
def BUD : Nat := 7262314
/-! numbers -/
def s32 (z : Int) : Int := Int.bmod z 4294967296
def s64 (z : Int) : Int := Int.bmod z 18446744073709551616
def n_add (x y : Int) : Int := s32 (x + y)
def n_sub (x y : Int) : Int := s32 (x - y)
def n_mul (x y : Int) : Int := s32 (x * y)
def n_div (x y : Int) : Int := (Int32.ofInt x / Int32.ofInt y).toInt
def n_rem (x y : Int) : Int := (Int32.ofInt x - Int32.ofInt x / Int32.ofInt y * Int32.ofInt y).toInt
def n_neg (x : Int) : Int := s32 (-x)
def n_and (x y : Int) : Int := (Int32.ofInt x &&& Int32.ofInt y).toInt
def n_or (x y : Int) : Int := (Int32.ofInt x ||| Int32.ofInt y).toInt
def n_xor (x y : Int) : Int := (Int32.ofInt x ^^^ Int32.ofInt y).toInt
def n_shl (x y : Int) : Int := (Int32.ofInt x <<< (Int32.ofInt y &&& 31)).toInt
def n_shr (x y : Int) : Int := (Int32.ofInt x >>> (Int32.ofInt y &&& 31)).toInt
def n_i2b (x : Int) : Int := ((Int32.ofInt x).toInt8.toInt32).toInt
def n_i2s (x : Int) : Int := ((Int32.ofInt x).toInt16.toInt32).toInt
def n_i2c (x : Int) : Int := (((Int32.ofInt x).toUInt32 % 65536).toInt32).toInt
def n_i2z (x : Int) : Int := n_and x 1
def l_add (x y : Int) : Int := s64 (x + y)
def l_sub (x y : Int) : Int := s64 (x - y)
def l_mul (x y : Int) : Int := s64 (x * y)
def l_div (x y : Int) : Int := (Int64.ofInt x / Int64.ofInt y).toInt
def l_rem (x y : Int) : Int := (Int64.ofInt x - Int64.ofInt x / Int64.ofInt y * Int64.ofInt y).toInt
def l_neg (x : Int) : Int := s64 (-x)
def l_and (x y : Int) : Int := (Int64.ofInt x &&& Int64.ofInt y).toInt
def l_or (x y : Int) : Int := (Int64.ofInt x ||| Int64.ofInt y).toInt
def l_xor (x y : Int) : Int := (Int64.ofInt x ^^^ Int64.ofInt y).toInt
def l_shl (x y : Int) : Int := (Int64.ofInt x <<< ((Int32.ofInt y).toInt64 &&& 63)).toInt
def l_shr (x y : Int) : Int := (Int64.ofInt x >>> ((Int32.ofInt y).toInt64 &&& 63)).toInt
def l_ushr (x y : Int) : Int := (((Int64.ofInt x).toUInt64 >>> ((Int32.ofInt y).toInt64.toUInt64 &&& Int64.toUInt64 63)).toInt64).toInt
def l_l2i (x : Int) : Int := s32 x
def l_cmp (x y : Int) : Int := if x > y then 1 else if x = y then 0 else -1
/-! instructions -/

abbrev xt : Type := Nat → List av → List av → hp → Prop
abbrev qt : Type := (Option av ⊕ Nat) → hp → Prop
abbrev wt : Type := Nat → List av → hp → qt → Prop
abbrev ti : Type := wt → xt → qt → Nat → List av → List av → hp → Prop
/-- few values are left on the stack -/
def shrt (l : List av) : Bool := Nat.ble l.length 8
def gL : List av → Nat → av
  | [], _ => vU
  | v :: _, 0 => v
  | _ :: r, i + 1 => gL r i
def tL : List av → Nat → av → List av
  | [], _, _ => []
  | _ :: r, 0, w => w :: r
  | v :: r, i + 1, w => v :: tL r i w
def ofR (r : Option Nat) (K : Nat → Prop) : Prop := match r with
  | some a => K a
  | none => False
def inb (h : hp) (a : Nat) (ks : List Nat) (i : Int) : Prop := (hT h a).1 ∈ ks ∧ 0 ≤ i ∧ i < (hT h a).2
def o_no : ti := fun _ _ _ _ _ _ _ => False
def o_push (v : av) (n : Nat) : ti := fun _ X _ pc ls st h => X (pc + n) ls (v :: st) h
def o_ldi (i n : Nat) : ti := fun _ X _ pc ls st h => match gL ls i with
  | .inl x => X (pc + n) ls (vI x :: st) h
  | _ => False
def o_ldj (i n : Nat) : ti := fun _ X _ pc ls st h => match gL ls i, gL ls (i + 1) with
  | .inr (.inl x), .inr (.inr (.inr _)) => X (pc + n) ls (vJ x :: st) h
  | _, _ => False
def o_lda (i n : Nat) : ti := fun _ X _ pc ls st h => match gL ls i with
  | .inr (.inr (.inl r)) => X (pc + n) ls (vR r :: st) h
  | _ => False
def o_sti (i n : Nat) : ti := fun _ X _ pc ls st h => match st with
  | .inl x :: st' => i < ls.length ∧ X (pc + n) (tL ls i (vI x)) st' h
  | _ => False
def o_stj (i n : Nat) : ti := fun _ X _ pc ls st h => match st with
  | .inr (.inl x) :: st' => i + 1 < ls.length ∧ X (pc + n) (tL (tL ls i (vJ x)) (i + 1) vU) st' h
  | _ => False
def o_sta (i n : Nat) : ti := fun _ X _ pc ls st h => match st with
  | .inr (.inr (.inl r)) :: st' => i < ls.length ∧ X (pc + n) (tL ls i (vR r)) st' h
  | _ => False
def o_inc (i : Nat) (c : Int) : ti := fun _ X _ pc ls st h => match gL ls i with
  | .inl x => i < ls.length ∧ X (pc + 3) (tL ls i (vI (n_add x c))) st h
  | _ => False
def o_i1 (f : Int → Int) : ti := fun _ X _ pc ls st h => match st with
  | .inl x :: st' => X (pc + 1) ls (vI (f x) :: st') h
  | _ => False
def o_i2 (f : Int → Int → Int) : ti := fun _ X _ pc ls st h => match st with
  | .inl y :: .inl x :: st' => X (pc + 1) ls (vI (f x y) :: st') h
  | _ => False
def o_i2n (f : Int → Int → Int) : ti := fun _ X _ pc ls st h => match st with
  | .inl y :: .inl x :: st' => y ≠ 0 ∧ X (pc + 1) ls (vI (f x y) :: st') h
  | _ => False
def o_j1 (f : Int → Int) : ti := fun _ X _ pc ls st h => match st with
  | .inr (.inl x) :: st' => X (pc + 1) ls (vJ (f x) :: st') h
  | _ => False
def o_j2 (f : Int → Int → Int) : ti := fun _ X _ pc ls st h => match st with
  | .inr (.inl y) :: .inr (.inl x) :: st' => X (pc + 1) ls (vJ (f x y) :: st') h
  | _ => False
def o_j2n (f : Int → Int → Int) : ti := fun _ X _ pc ls st h => match st with
  | .inr (.inl y) :: .inr (.inl x) :: st' => y ≠ 0 ∧ X (pc + 1) ls (vJ (f x y) :: st') h
  | _ => False
def o_jsh (f : Int → Int → Int) : ti := fun _ X _ pc ls st h => match st with
  | .inl y :: .inr (.inl x) :: st' => X (pc + 1) ls (vJ (f x y) :: st') h
  | _ => False
def o_i2l : ti := fun _ X _ pc ls st h => match st with
  | .inl x :: st' => X (pc + 1) ls (vJ x :: st') h
  | _ => False
def o_l2i : ti := fun _ X _ pc ls st h => match st with
  | .inr (.inl x) :: st' => X (pc + 1) ls (vI (l_l2i x) :: st') h
  | _ => False
def o_lcmp : ti := fun _ X _ pc ls st h => match st with
  | .inr (.inl y) :: .inr (.inl x) :: st' => X (pc + 1) ls (vI (l_cmp x y) :: st') h
  | _ => False
def cat1 : av → Bool
  | .inl _ => true
  | .inr (.inr (.inl _)) => true
  | _ => false
def o_dup : ti := fun _ X _ pc ls st h => match st with
  | v :: st' => cat1 v = true ∧ X (pc + 1) ls (v :: v :: st') h
  | _ => False
def o_dupx1 : ti := fun _ X _ pc ls st h => match st with
  | v :: w :: st' => cat1 v = true ∧ cat1 w = true ∧ X (pc + 1) ls (v :: w :: v :: st') h
  | _ => False
def o_dup2 : ti := fun _ X _ pc ls st h => match st with
  | v :: w :: st' => cat1 v = true ∧ cat1 w = true ∧ X (pc + 1) ls (v :: w :: v :: w :: st') h
  | _ => False
def o_pop : ti := fun _ X _ pc ls st h => match st with
  | v :: st' => cat1 v = true ∧ X (pc + 1) ls st' h
  | _ => False
def o_ifeq (t : Nat) : ti := fun _ X _ pc ls st h => match st with
  | .inl x :: st' => if x = 0 then X t ls st' h else X (pc + 3) ls st' h
  | _ => False
def o_ifne (t : Nat) : ti := fun _ X _ pc ls st h => match st with
  | .inl x :: st' => if x = 0 then X (pc + 3) ls st' h else X t ls st' h
  | _ => False
def o_iflt (t : Nat) : ti := fun _ X _ pc ls st h => match st with
  | .inl x :: st' => if x < 0 then X t ls st' h else X (pc + 3) ls st' h
  | _ => False
def o_ifge (t : Nat) : ti := fun _ X _ pc ls st h => match st with
  | .inl x :: st' => if x < 0 then X (pc + 3) ls st' h else X t ls st' h
  | _ => False
def o_ifgt (t : Nat) : ti := fun _ X _ pc ls st h => match st with
  | .inl x :: st' => if 0 < x then X t ls st' h else X (pc + 3) ls st' h
  | _ => False
def o_ifle (t : Nat) : ti := fun _ X _ pc ls st h => match st with
  | .inl x :: st' => if 0 < x then X (pc + 3) ls st' h else X t ls st' h
  | _ => False
def o_ceq (t : Nat) : ti := fun _ X _ pc ls st h => match st with
  | .inl y :: .inl x :: st' => if x = y then X t ls st' h else X (pc + 3) ls st' h
  | _ => False
def o_cne (t : Nat) : ti := fun _ X _ pc ls st h => match st with
  | .inl y :: .inl x :: st' => if x = y then X (pc + 3) ls st' h else X t ls st' h
  | _ => False
def o_clt (t : Nat) : ti := fun _ X _ pc ls st h => match st with
  | .inl y :: .inl x :: st' => if x < y then X t ls st' h else X (pc + 3) ls st' h
  | _ => False
def o_cge (t : Nat) : ti := fun _ X _ pc ls st h => match st with
  | .inl y :: .inl x :: st' => if x < y then X (pc + 3) ls st' h else X t ls st' h
  | _ => False
def o_cgt (t : Nat) : ti := fun _ X _ pc ls st h => match st with
  | .inl y :: .inl x :: st' => if y < x then X t ls st' h else X (pc + 3) ls st' h
  | _ => False
def o_cle (t : Nat) : ti := fun _ X _ pc ls st h => match st with
  | .inl y :: .inl x :: st' => if y < x then X (pc + 3) ls st' h else X t ls st' h
  | _ => False
def o_null (t : Nat) : ti := fun _ X _ pc ls st h => match st with
  | .inr (.inr (.inl r)) :: st' => if r = none then X t ls st' h else X (pc + 3) ls st' h
  | _ => False
def o_nonnull (t : Nat) : ti := fun _ X _ pc ls st h => match st with
  | .inr (.inr (.inl r)) :: st' => if r = none then X (pc + 3) ls st' h else X t ls st' h
  | _ => False
/-- two references that may be compared: not two different ones of those that were there before -/
def okc (q r : Option Nat) : Prop := ∀ a b, q = some a → r = some b → a = b ∨ 68 ≤ a ∨ 68 ≤ b
def o_aeq (t : Nat) : ti := fun _ X _ pc ls st h => match st with
  | .inr (.inr (.inl r)) :: .inr (.inr (.inl q)) :: st' => okc q r ∧ if q = r then X t ls st' h else X (pc + 3) ls st' h
  | _ => False
def o_ane (t : Nat) : ti := fun _ X _ pc ls st h => match st with
  | .inr (.inr (.inl r)) :: .inr (.inr (.inl q)) :: st' => okc q r ∧ if q = r then X (pc + 3) ls st' h else X t ls st' h
  | _ => False
def o_goto (t : Nat) : ti := fun _ X _ _ ls st h => X t ls st h
def swK (K : Nat → Prop) (x : Int) : Int → List Nat → Nat → Prop
  | _, [], d => K d
  | lo, t :: ts, d => if x = lo then K t else swK K x (lo + 1) ts d
def o_tsw (lo : Int) (ts : List Nat) (d : Nat) : ti := fun _ X _ _ ls st h => match st with
  | .inl x :: st' => swK (fun t => X t ls st' h) x lo ts d
  | _ => False
/-! fields -/
def o_gI (ks : List Nat) (j : Nat) : ti := fun _ X _ pc ls st h => match st with
  | .inr (.inr (.inl r)) :: st' => ofR r fun a => (hT h a).1 ∈ ks ∧ X (pc + 3) ls (vI (hI h a j) :: st') h
  | _ => False
def o_gJ (ks : List Nat) (j : Nat) : ti := fun _ X _ pc ls st h => match st with
  | .inr (.inr (.inl r)) :: st' => ofR r fun a => (hT h a).1 ∈ ks ∧ X (pc + 3) ls (vJ (hL h a j) :: st') h
  | _ => False
def o_gR (ks : List Nat) (j : Nat) : ti := fun _ X _ pc ls st h => match st with
  | .inr (.inr (.inl r)) :: st' => ofR r fun a => (hT h a).1 ∈ ks ∧ X (pc + 3) ls (vR (hR h a j) :: st') h
  | _ => False
def o_pI (ks : List Nat) (j : Nat) : ti := fun _ X _ pc ls st h => match st with
  | .inl x :: .inr (.inr (.inl r)) :: st' => ofR r fun a => (hT h a).1 ∈ ks ∧ X (pc + 3) ls st' (sI h a j x)
  | _ => False
def o_pZ (ks : List Nat) (j : Nat) : ti := fun _ X _ pc ls st h => match st with
  | .inl x :: .inr (.inr (.inl r)) :: st' => ofR r fun a => (hT h a).1 ∈ ks ∧ (x = 0 ∨ x = 1) ∧ X (pc + 3) ls st' (sI h a j x)
  | _ => False
def o_pJ (ks : List Nat) (j : Nat) : ti := fun _ X _ pc ls st h => match st with
  | .inr (.inl x) :: .inr (.inr (.inl r)) :: st' => ofR r fun a => (hT h a).1 ∈ ks ∧ X (pc + 3) ls st' (sL h a j x)
  | _ => False
def o_pR (ks : List Nat) (j : Nat) : ti := fun _ X _ pc ls st h => match st with
  | .inr (.inr (.inl x)) :: .inr (.inr (.inl r)) :: st' => ofR r fun a => (hT h a).1 ∈ ks ∧ X (pc + 3) ls st' (sR h a j x)
  | _ => False
/-- a static whose value is null or the reference e (n: the instruction's length) -/
def o_gsq (e : Nat) : ti := fun _ X _ pc ls st h => ∀ r : Option Nat, r = none ∨ r = some e → X (pc + 3) ls (vR r :: st) h
/-! arrays -/
def o_ald (ks : List Nat) : ti := fun _ X _ pc ls st h => match st with
  | .inl i :: .inr (.inr (.inl r)) :: st' => ofR r fun a => inb h a ks i ∧ X (pc + 1) ls (vI (hI h a i.toNat) :: st') h
  | _ => False
def o_lald : ti := fun _ X _ pc ls st h => match st with
  | .inl i :: .inr (.inr (.inl r)) :: st' => ofR r fun a => inb h a [105] i ∧ X (pc + 1) ls (vJ (hL h a i.toNat) :: st') h
  | _ => False
def o_aald (ks : List Nat) : ti := fun _ X _ pc ls st h => match st with
  | .inl i :: .inr (.inr (.inl r)) :: st' => ofR r fun a => inb h a ks i ∧ X (pc + 1) ls (vR (hR h a i.toNat) :: st') h
  | _ => False
def o_ast (k : Nat) (f : Int → Int) : ti := fun _ X _ pc ls st h => match st with
  | .inl x :: .inl i :: .inr (.inr (.inl r)) :: st' => ofR r fun a => inb h a [k] i ∧ X (pc + 1) ls st' (sI h a i.toNat (f x))
  | _ => False
def o_last : ti := fun _ X _ pc ls st h => match st with
  | .inr (.inl x) :: .inl i :: .inr (.inr (.inl r)) :: st' => ofR r fun a => inb h a [105] i ∧ X (pc + 1) ls st' (sL h a i.toNat x)
  | _ => False
/-- ks: the arrays' kind; es: the classes that fit it -/
def o_aast (k : Nat) (es : List Nat) : ti := fun _ X _ pc ls st h => match st with
  | .inr (.inr (.inl v)) :: .inl i :: .inr (.inr (.inl r)) :: st' => ofR r fun a => inb h a [k] i ∧ (v = none ∨ ∃ b, v = some b ∧ (hT h b).1 ∈ es) ∧ X (pc + 1) ls st' (sR h a i.toNat v)
  | _ => False
def o_alen : ti := fun _ X _ pc ls st h => match st with
  | .inr (.inr (.inl r)) :: st' => ofR r fun a => 100 ≤ (hT h a).1 ∧ (hT h a).1 < 113 ∧ (hT h a).2 < 2147483648 ∧ X (pc + 1) ls (vI (hT h a).2 :: st') h
  | _ => False
def o_new (k c : Nat) : ti := fun _ X _ pc ls st h => hU h + c + 13 ≤ BUD ∧ X (pc + 3) ls (vR (some (hN h)) :: st) (hNew h k 0 c)
def o_newa (k n : Nat) : ti := fun _ X _ pc ls st h => match st with
  | .inl x :: st' => 0 ≤ x ∧ hU h + x.toNat + 13 ≤ BUD ∧ X (pc + n) ls (vR (some (hN h)) :: st') (hNew h k x.toNat x.toNat)
  | _ => False
/-! classes -/
def insV (h : hp) (ks : List Nat) (r : Option Nat) : Int := match r with
  | none => 0
  | some a => if (hT h a).1 ∈ ks then 1 else 0
def fitR (h : hp) (ks : List Nat) (r : Option Nat) : Prop := r = none ∨ ∃ a, r = some a ∧ (hT h a).1 ∈ ks
/-- us: the classes that may come here at all -/
def o_inst (ks us : List Nat) : ti := fun _ X _ pc ls st h => match st with
  | .inr (.inr (.inl r)) :: st' => fitR h us r ∧ X (pc + 3) ls (vI (insV h ks r) :: st') h
  | _ => False
def o_cast (ks : List Nat) : ti := fun _ X _ pc ls st h => match st with
  | .inr (.inr (.inl r)) :: st' => fitR h ks r ∧ X (pc + 3) ls (vR r :: st') h
  | _ => False
/-! exceptions: hs: (class number, handler) of those that cover the place -/
def ex : List (Nat × Nat) → xt → qt → List av → Nat → hp → Prop
  | [], _, Q, _, a, h => Q (.inr a) h
  | (k, t) :: r, X, Q, ls, a, h => (hT h a).1 ∈ k :: r.map Prod.fst ∧ if (hT h a).1 = k then X t ls [vR (some a)] h else ex r X Q ls a h
def o_athrow (hs : List (Nat × Nat)) : ti := fun _ X Q _ ls st h => match st with
  | .inr (.inr (.inl r)) :: _ => ofR r fun a => (hT h a).1 < 64 ∧ ex hs X Q ls a h
  | _ => False
/-- what the VM makes when it throws an exception of class k: it lies at a new place, of the other new ones nothing is known -/
def vmx (k : Nat) (h : hp) (a : Nat) (h' : hp) : Prop := hN h ≤ a ∧ a < hN h' ∧ hN h' ≤ hN h + 8 ∧ hU h ≤ hU h' ∧ hU h' ≤ hU h + 600 ∧ hT h' a = (k, 0) ∧
  (∀ b, b < hN h → hT h' b = hT h b ∧ (∀ j, hI h' b j = hI h b j) ∧ (∀ j, hL h' b j = hL h b j) ∧ ∀ j, hR h' b j = hR h b j) ∧ (∀ b, hN h ≤ b → b < hN h' → b ≠ a → hT h' b = (99, 0))
def thr (k : Nat) (hs : List (Nat × Nat)) (X : xt) (Q : qt) (ls : List av) (h : hp) : Prop := hU h + 600 ≤ BUD ∧ ∀ a h', vmx k h a h' → ex hs X Q ls a h'
/-- kinds: 60 NullPointerException, 61 ClassCastException, 62 ArrayIndexOutOfBoundsException, 63 NegativeArraySizeException -/
def o_castX (ks us : List Nat) (hs : List (Nat × Nat)) : ti := fun _ X Q pc ls st h => match st with
  | .inr (.inr (.inl r)) :: st' => shrt st' = true ∧ fitR h us r ∧ (fitR h ks r → X (pc + 3) ls (vR r :: st') h) ∧ (¬ fitR h ks r → thr 61 hs X Q ls h)
  | _ => False
def o_aldX (k : Nat) (hs : List (Nat × Nat)) : ti := fun _ X Q pc ls st h => match st with
  | .inl i :: .inr (.inr (.inl r)) :: st' => shrt st' = true ∧ (r = none → thr 60 hs X Q ls h) ∧ ∀ a, r = some a → (hT h a).1 = k ∧ if 0 ≤ i ∧ i < (hT h a).2 then X (pc + 1) ls (vI (hI h a i.toNat) :: st') h else thr 62 hs X Q ls h
  | _ => False
def o_laldX (hs : List (Nat × Nat)) : ti := fun _ X Q pc ls st h => match st with
  | .inl i :: .inr (.inr (.inl r)) :: st' => shrt st' = true ∧ (r = none → thr 60 hs X Q ls h) ∧ ∀ a, r = some a → (hT h a).1 = 105 ∧ if 0 ≤ i ∧ i < (hT h a).2 then X (pc + 1) ls (vJ (hL h a i.toNat) :: st') h else thr 62 hs X Q ls h
  | _ => False
def o_astX (k : Nat) (f : Int → Int) (hs : List (Nat × Nat)) : ti := fun _ X Q pc ls st h => match st with
  | .inl x :: .inl i :: .inr (.inr (.inl r)) :: st' => shrt st' = true ∧ (r = none → thr 60 hs X Q ls h) ∧ ∀ a, r = some a → (hT h a).1 = k ∧ if 0 ≤ i ∧ i < (hT h a).2 then X (pc + 1) ls st' (sI h a i.toNat (f x)) else thr 62 hs X Q ls h
  | _ => False
def o_lastX (hs : List (Nat × Nat)) : ti := fun _ X Q pc ls st h => match st with
  | .inr (.inl x) :: .inl i :: .inr (.inr (.inl r)) :: st' => shrt st' = true ∧ (r = none → thr 60 hs X Q ls h) ∧ ∀ a, r = some a → (hT h a).1 = 105 ∧ if 0 ≤ i ∧ i < (hT h a).2 then X (pc + 1) ls st' (sL h a i.toNat x) else thr 62 hs X Q ls h
  | _ => False
def o_newaX (k : Nat) (hs : List (Nat × Nat)) : ti := fun _ X Q pc ls st h => match st with
  | .inl x :: st' => shrt st' = true ∧ if x < 0 then thr 63 hs X Q ls h else hU h + x.toNat + 13 ≤ BUD ∧ X (pc + 2) ls (vR (some (hN h)) :: st') (hNew h k x.toNat x.toNat)
  | _ => False
/-- System.arraycopy within bounds, of arrays of one kind -/
def cpOk (h : hp) (a b : Nat) (sp dp n : Int) : Prop := 0 ≤ sp ∧ 0 ≤ dp ∧ 0 ≤ n ∧ sp + n ≤ (hT h a).2 ∧ dp + n ≤ (hT h b).2
def o_acpy (k : Nat) : ti := fun _ X _ pc ls st h => match st with
  | .inl n :: .inl dp :: .inr (.inr (.inl q)) :: .inl sp :: .inr (.inr (.inl r)) :: st' => shrt st' = true ∧ ofR r fun a => ofR q fun b => (hT h a).1 = k ∧ (hT h b).1 = k ∧ cpOk h a b sp dp n ∧ X (pc + 3) ls st' (hCpy h a b sp.toNat dp.toNat n.toNat)
  | _ => False
/-- of Objects, each of one of the classes es -/
def o_acpyR (es : List Nat) : ti := fun _ X _ pc ls st h => match st with
  | .inl n :: .inl dp :: .inr (.inr (.inl q)) :: .inl sp :: .inr (.inr (.inl r)) :: st' => shrt st' = true ∧ ofR r fun a => ofR q fun b => (hT h a).1 = 106 ∧ (hT h b).1 = 106 ∧ cpOk h a b sp dp n ∧ (∀ j, j < n.toNat → fitR h es (hR h a (sp.toNat + j))) ∧ X (pc + 3) ls st' (hCpy h a b sp.toNat dp.toNat n.toNat)
  | _ => False
def o_acpyX (ks : List Nat) (hs : List (Nat × Nat)) : ti := fun _ X Q pc ls st h => match st with
  | .inl n :: .inl dp :: .inr (.inr (.inl q)) :: .inl sp :: .inr (.inr (.inl r)) :: st' => shrt st' = true ∧ ofR r fun a => ofR q fun b => (hT h a).1 ∈ ks ∧ (hT h b).1 = (hT h a).1 ∧ (cpOk h a b sp dp n → X (pc + 3) ls st' (hCpy h a b sp.toNat dp.toNat n.toNat)) ∧ (¬ cpOk h a b sp dp n → thr 62 hs X Q ls h)
  | _ => False
/-! calls -/
def cI (W : wt) (y : Nat) (as : List av) (h : hp) (K : Int → hp → Prop) (E : Nat → hp → Prop) : Prop := W y as h fun o h' => match o with
  | .inl (some (.inl x)) => K x h'
  | .inr a => E a h'
  | _ => False
def cJ (W : wt) (y : Nat) (as : List av) (h : hp) (K : Int → hp → Prop) (E : Nat → hp → Prop) : Prop := W y as h fun o h' => match o with
  | .inl (some (.inr (.inl x))) => K x h'
  | .inr a => E a h'
  | _ => False
def cR (W : wt) (y : Nat) (as : List av) (h : hp) (K : Option Nat → hp → Prop) (E : Nat → hp → Prop) : Prop := W y as h fun o h' => match o with
  | .inl (some (.inr (.inr (.inl r)))) => K r h'
  | .inr a => E a h'
  | _ => False
def cV (W : wt) (y : Nat) (as : List av) (h : hp) (K : hp → Prop) (E : Nat → hp → Prop) : Prop := W y as h fun o h' => match o with
  | .inl none => K h'
  | .inr a => E a h'
  | _ => False
def vsel : List (Nat × Nat) → Nat → (Nat → Prop) → Prop
  | [], _, _ => False
  | (k, y) :: r, c, K => if c = k then K y else vsel r c K
/-- n: how many values of the stack the call takes; len: the instruction's length -/
def o_sI (y n len : Nat) (hs : List (Nat × Nat)) : ti := fun W X Q pc ls st h => (Nat.ble n st.length && shrt (st.drop n)) = true ∧ cI W y (st.take n).reverse h (fun x h' => X (pc + len) ls (vI x :: st.drop n) h') (fun a h' => ex hs X Q ls a h')
def o_sJ (y n len : Nat) (hs : List (Nat × Nat)) : ti := fun W X Q pc ls st h => (Nat.ble n st.length && shrt (st.drop n)) = true ∧ cJ W y (st.take n).reverse h (fun x h' => X (pc + len) ls (vJ x :: st.drop n) h') (fun a h' => ex hs X Q ls a h')
def o_sR (y n len : Nat) (hs : List (Nat × Nat)) : ti := fun W X Q pc ls st h => (Nat.ble n st.length && shrt (st.drop n)) = true ∧ cR W y (st.take n).reverse h (fun x h' => X (pc + len) ls (vR x :: st.drop n) h') (fun a h' => ex hs X Q ls a h')
def o_sV (y n len : Nat) (hs : List (Nat × Nat)) : ti := fun W X Q pc ls st h => (Nat.ble n st.length && shrt (st.drop n)) = true ∧ cV W y (st.take n).reverse h (fun h' => X (pc + len) ls (st.drop n) h') (fun a h' => ex hs X Q ls a h')
/-- through an object: the receiver lies lowest of the n values -/
def rcv (vt : List (Nat × Nat)) (n : Nat) (st : List av) (h : hp) (K : Nat → Prop) : Prop := match st.drop (n - 1) with
  | .inr (.inr (.inl r)) :: _ => ofR r fun a => vsel vt (hT h a).1 K
  | _ => False
def o_vI (vt : List (Nat × Nat)) (n len : Nat) (hs : List (Nat × Nat)) : ti := fun W X Q pc ls st h => shrt (st.drop n) = true ∧ rcv vt n st h fun y => cI W y (st.take n).reverse h (fun x h' => X (pc + len) ls (vI x :: st.drop n) h') (fun a h' => ex hs X Q ls a h')
def o_vJ (vt : List (Nat × Nat)) (n len : Nat) (hs : List (Nat × Nat)) : ti := fun W X Q pc ls st h => shrt (st.drop n) = true ∧ rcv vt n st h fun y => cJ W y (st.take n).reverse h (fun x h' => X (pc + len) ls (vJ x :: st.drop n) h') (fun a h' => ex hs X Q ls a h')
def o_vR (vt : List (Nat × Nat)) (n len : Nat) (hs : List (Nat × Nat)) : ti := fun W X Q pc ls st h => shrt (st.drop n) = true ∧ rcv vt n st h fun y => cR W y (st.take n).reverse h (fun x h' => X (pc + len) ls (vR x :: st.drop n) h') (fun a h' => ex hs X Q ls a h')
def o_vV (vt : List (Nat × Nat)) (n len : Nat) (hs : List (Nat × Nat)) : ti := fun W X Q pc ls st h => shrt (st.drop n) = true ∧ rcv vt n st h fun y => cV W y (st.take n).reverse h (fun h' => X (pc + len) ls (st.drop n) h') (fun a h' => ex hs X Q ls a h')
/-- invokespecial: a constructor, or the superclass's own method -/
def rcs (n : Nat) (st : List av) (h : hp) (K : Prop) : Prop := match st.drop (n - 1) with
  | .inr (.inr (.inl r)) :: _ => ofR r fun a => (hT h a).1 < 64 ∧ K
  | _ => False
def o_iV (y n len : Nat) (hs : List (Nat × Nat)) : ti := fun W X Q pc ls st h => shrt (st.drop n) = true ∧ rcs n st h (cV W y (st.take n).reverse h (fun h' => X (pc + len) ls (st.drop n) h') (fun a h' => ex hs X Q ls a h'))
/-- Object's constructor -/
def o_obj : ti := fun _ X _ pc ls st h => match st with
  | .inr (.inr (.inl r)) :: st' => shrt st' = true ∧ ofR r fun _ => X (pc + 3) ls st' h
  | _ => False
/-- getClass of an array of Objects: the mirror, at 2 -/
def o_getc : ti := fun _ X _ pc ls st h => match st with
  | .inr (.inr (.inl r)) :: st' => shrt st' = true ∧ ofR r fun a => (hT h a).1 = 106 ∧ X (pc + 3) ls (vR (some 2) :: st') h
  | _ => False
/-! returns -/
def o_ri : ti := fun _ _ Q _ _ st h => match st with
  | [.inl x] => Q (.inl (some (vI x))) h
  | _ => False
def o_rz : ti := fun _ _ Q _ _ st h => match st with
  | [.inl x] => (x = 0 ∨ x = 1) ∧ Q (.inl (some (vI x))) h
  | _ => False
/-- a small type's return -/
def o_rr (lo hi : Int) : ti := fun _ _ Q _ _ st h => match st with
  | [.inl x] => lo ≤ x ∧ x ≤ hi ∧ Q (.inl (some (vI x))) h
  | _ => False
def o_rj : ti := fun _ _ Q _ _ st h => match st with
  | [.inr (.inl x)] => Q (.inl (some (vJ x))) h
  | _ => False
def o_ra : ti := fun _ _ Q _ _ st h => match st with
  | [.inr (.inr (.inl r))] => Q (.inl (some (vR r))) h
  | _ => False
def o_rv : ti := fun _ _ Q _ _ st h => match st with
  | [] => Q (.inl none) h
  | _ => False
def flA : List av → List av
  | [] => []
  | .inr (.inl x) :: r => vJ x :: vU :: flA r
  | v :: r => v :: flA r
def ent (n : Nat) (as : List av) : List av := flA as ++ List.replicate (n - (flA as).length) vU
