/-! PRINTING, in plain: the bytes of tokens -/
def pkb (w : Nat) : List Int := bKeys.getD w []
def ppr (w : Nat) : List Int := if w = 0 then [43, 61] else if w = 1 then [45, 61] else if w = 2 then [94, 61] else if w = 3 then [60, 62] else if w = 4 then [60, 60] else [62, 62]
/-- the power of ten that a number begins with, and its digits from there on -/
def ptp : Nat → Nat → Nat → Nat
  | 0, _, p => p
  | f + 1, n, p => if 9 < n / p then ptp f n (10 * p) else p
def pdg : Nat → Nat → Nat → List Int
  | 0, _, _ => []
  | f + 1, n, p => if 0 < p then ((48 + n / p % 10 : Nat) : Int) :: pdg f n (p / 10) else []
def pnm (n : Nat) : List Int := pdg 11 n (ptp 10 n 1)
def ptk (x : Nat × Nat) : List Int :=
  if x.1 = 1 then [(97 + x.2 : Nat)] else if x.1 = 3 then [(65 + x.2 : Nat)] else if x.1 = 4 then [(83 + x.2 : Nat)] else if x.1 = 7 ∨ x.1 = 8 then [(x.2 : Nat)]
  else if x.1 = 6 then ppr x.2 else if x.1 = 2 then pnm x.2 else pkb x.2
/-- no blank ahead of it; no blank behind it -/
def pcl (x : Nat × Nat) : Bool := decide (x.1 = 7) && (decide (x.2 = 59) || (decide (x.2 = 93) || (decide (x.2 = 41) || decide (x.2 = 91))))
def pgu (x : Nat × Nat) : Bool := decide (x.1 = 8) || (decide (x.1 = 7) && (decide (x.2 = 91) || (decide (x.2 = 40) || decide (x.2 = 35))))
def psp (g : Bool) (x : Nat × Nat) : List Int := if (g || pcl x) = true then [] else [32]
def pbs : List (Nat × Nat) → Bool → List Int
  | [], _ => []
  | x :: A, g => psp g x ++ (ptk x ++ pbs A (pgu x))
def pgl : List (Nat × Nat) → Bool → Bool
  | [], g => g
  | x :: A, _ => pgl A (pgu x)
theorem pbs_app (A B : List (Nat × Nat)) : ∀ g, pbs (A ++ B) g = pbs A g ++ pbs B (pgl A g) := by
  induction A with
  | nil => intro g; rfl
  | cons x A ih => intro g; show psp g x ++ (ptk x ++ pbs (A ++ B) (pgu x)) = _; rw [ih]; show _ = psp g x ++ (ptk x ++ pbs A (pgu x)) ++ pbs B (pgl A (pgu x)); simp
theorem pgl_app (A B : List (Nat × Nat)) : ∀ g, pgl (A ++ B) g = pgl B (pgl A g) := by
  induction A with
  | nil => intro g; rfl
  | cons x A ih => intro g; exact ih (pgu x)
theorem pbs_c (x : Nat × Nat) (A : List (Nat × Nat)) (g : Bool) : pbs (x :: A) g = pbs [x] g ++ pbs A (pgu x) := by
  show psp g x ++ (ptk x ++ pbs A (pgu x)) = psp g x ++ (ptk x ++ []) ++ pbs A (pgu x)
  simp
theorem pgl_c (x : Nat × Nat) (A : List (Nat × Nat)) (g : Bool) : pgl (x :: A) g = pgl A (pgu x) := rfl
