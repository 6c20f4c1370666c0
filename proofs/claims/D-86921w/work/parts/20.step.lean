/-! STEPS IN THE HEAP -/
/-- a place that is changed lies at a -/
def RPl (h : hp) (lo hi : Nat) (t : zT) (a : Nat) : Prop := lo ≤ a ∧ a < hi ∧ hT h a = (6, 0) ∧ ((zg t = 1 ∧ hI h a 0 = (zn (zl t) : Nat) ∧ hI h a 1 = 0 ∧ hR h a 2 = none) ∨ (zg t = 3 ∧ hI h a 0 = -1 ∧ hI h a 1 = (zn (zl t) : Nat) ∧ ∃ b, hR h a 2 = some b ∧ RE h lo hi (zr t) b))
/-- a part at p that holds the steps ys -/
def RPt (h : hp) (lo hi : Nat) (p : Nat) (ys : List Nat) : Prop := lo ≤ p ∧ p < hi ∧ hT h p = (5, 0) ∧ ∃ l arr, hR h p 0 = some l ∧ lo ≤ l ∧ l < hi ∧ RL h l ys arr ∧ (arr = 1 ∨ (lo ≤ arr ∧ arr < hi))
def how (k : Nat) : Int := if k = 134 then 3 else if k = 135 then 4 else (k : Int) - 130
/-- the tree lies at the addresses xs -/
def RT (h : hp) (lo hi : Nat) : zT → List Nat → Prop
  | .leaf _, xs => xs = []
  | .branch k l r, xs =>
    if k = 150 then ∃ x ys, xs = x :: ys ∧ RT h lo hi l [x] ∧ RT h lo hi r ys
    else if k = 112 ∨ k = 117 then ∃ p q b ys, xs = [p, q, b] ∧ RPt h lo hi p ys ∧ RT h lo hi l ys ∧ RT h lo hi r [q, b]
    else if k = 113 ∨ k = 118 then ∃ q b ys, xs = [q, b] ∧ RPt h lo hi q ys ∧ RT h lo hi l ys ∧ RE h lo hi r b
    else if k = 119 then ∃ p q ys zs, xs = [p, q] ∧ RPt h lo hi p ys ∧ RT h lo hi l ys ∧ RPt h lo hi q zs ∧ RT h lo hi r zs
    else ∃ a, xs = [a] ∧ lo ≤ a ∧ a < hi ∧
      (if k = 100 ∨ k = 101 then hT h a = (24, 0) ∧ hI h a 0 = (zn l : Nat) ∧ hI h a 2 = (if k = 100 then 1 else 0) ∧ ∃ b, hR h a 1 = some b ∧ RE h lo hi r b
      else if k = 114 then hT h a = (23, 0) ∧ hI h a 0 = (zn l : Nat) ∧ ∃ b, hR h a 1 = some b ∧ RE h lo hi r b
      else if k = 102 ∨ k = 103 then hT h a = (25, 0) ∧ hI h a 0 = (zn l : Nat) ∧ hI h a 1 = (zn r : Nat) ∧ hI h a 2 = (if k = 102 then 1 else 0)
      else if k = 104 ∨ k = 105 then hT h a = (26, 0) ∧ hI h a 0 = (zn l : Nat) ∧ hI h a 1 = (zg r : Int) - 160 ∧ hI h a 3 = (if k = 104 then 1 else 0) ∧ ∃ b, hR h a 2 = some b ∧ RE h lo hi (zl r) b
      else if k = 106 ∨ k = 107 then hT h a = (27, 0) ∧ hI h a 0 = (zn l : Nat) ∧ hI h a 1 = (if k = 106 then 1 else 0)
      else if k = 108 ∨ k = 111 then hT h a = (if k = 108 then 29 else 30, 0) ∧ ∃ b p q c, hR h a 0 = some b ∧ hR h a 1 = some p ∧ hR h a 2 = some q ∧ hR h a 3 = some c ∧ RE h lo hi l b ∧ RT h lo hi r [p, q, c]
      else if k = 115 then hT h a = (31, 0) ∧ ∃ b p ys, hR h a 0 = some b ∧ hR h a 1 = some p ∧ RE h lo hi l b ∧ RPt h lo hi p ys ∧ RT h lo hi r ys
      else if k = 116 then hT h a = (32, 0) ∧ ∃ b p q, hR h a 0 = some b ∧ hR h a 1 = some p ∧ hR h a 2 = some q ∧ RE h lo hi l b ∧ RT h lo hi r [p, q]
      else if k = 133 then hT h a = (20, 0) ∧ ∃ b c, hR h a 0 = some b ∧ hR h a 1 = some c ∧ RPl h lo hi l b ∧ RPl h lo hi r c
      else hT h a = (21, 0) ∧ hI h a 1 = how k ∧ ∃ b c, hR h a 0 = some b ∧ hR h a 2 = some c ∧ RPl h lo hi l b ∧ RE h lo hi r c)
theorem RPl_mono {h : hp} {lo hi lo2 hi2 : Nat} (h1 : lo2 ≤ lo) (h2 : hi ≤ hi2) {t : zT} {a : Nat} (z : RPl h lo hi t a) : RPl h lo2 hi2 t a := by
  obtain ⟨z1, z2, z3, z4⟩ := z
  refine ⟨by omega, by omega, z3, z4.imp id (fun q => ⟨q.1, q.2.1, q.2.2.1, ?_⟩)⟩
  obtain ⟨b, b1, b2⟩ := q.2.2.2
  exact ⟨b, b1, RE_mono h1 h2 b2⟩
theorem RPl_eq {h h' : hp} {lo hi : Nat} (hs : ∀ c, lo ≤ c → c < hi → imm (hT h c).1 → sm h h' c) {t : zT} {a : Nat} (z : RPl h lo hi t a) : RPl h' lo hi t a := by
  obtain ⟨z1, z2, z3, z4⟩ := z
  have q := hs a z1 z2 (by rw [z3]; exact imm_in (by decide) (by decide))
  refine ⟨z1, z2, q.1.trans z3, ?_⟩
  rcases z4 with ⟨y1, y2, y3, y4⟩ | ⟨y1, y2, y3, b, y4, y5⟩
  · exact Or.inl ⟨y1, (q.2.1 0).trans y2, (q.2.1 1).trans y3, (q.2.2.2 2).trans y4⟩
  · exact Or.inr ⟨y1, (q.2.1 0).trans y2, (q.2.1 1).trans y3, b, (q.2.2.2 2).trans y4, RE_eq hs y5⟩
theorem RPt_mono {h : hp} {lo hi lo2 hi2 : Nat} (h1 : lo2 ≤ lo) (h2 : hi ≤ hi2) {p : Nat} {ys : List Nat} (z : RPt h lo hi p ys) : RPt h lo2 hi2 p ys := by
  obtain ⟨z1, z2, z3, l, arr, z4, z5, z6, z7, z8⟩ := z
  exact ⟨by omega, by omega, z3, l, arr, z4, by omega, by omega, z7, z8.imp id (fun q => ⟨by omega, by omega⟩)⟩
