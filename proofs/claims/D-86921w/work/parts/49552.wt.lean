/-! weights -/
/-- the weight of a token: no key is longer than six bytes -/
def zpw (x : Nat × Nat) : Nat := if x.1 = 5 then 7 else (ptk x).length + 1
def zW : List (Nat × Nat) → Nat
  | [] => 0
  | x :: A => zpw x + zW A
theorem zW_app (A B : List (Nat × Nat)) : zW (A ++ B) = zW A + zW B := by
  induction A with
  | nil => show zW B = 0 + zW B; omega
  | cons x A ih => show zpw x + zW (A ++ B) = zpw x + zW A + zW B; omega
