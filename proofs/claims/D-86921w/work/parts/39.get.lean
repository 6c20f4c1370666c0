/-! lists are looked at -/
theorem c_size {d : Nat} {Q : qt} {h : hp} {l arr : Nat} {xs : List Nat} (hS : St h) (hL : RL h l xs arr) (k : Q (.inl (some (vI (xs.length : Nat)))) h) : Wc (d + 1) 405 [vR (some l)] h Q := by
  refine se_J4_size hS hL.1 ?_
  rw [hL.2.2.1]; exact k
theorem c_get {d : Nat} {Q : qt} {h : hp} {l arr i : Nat} {xs : List Nat} (hS : St h) (hL : RL h l xs arr) (hi : i < xs.length) (k : Q (.inl (some (vR (some (xs.getD i 0))))) h) : Wc (d + 5) 406 [vR (some l), vI (i : Nat)] h Q := by
  have h145 := hS.1
  obtain ⟨z1, z2, z3, z4, z5, z6⟩ := hL
  refine se_J4_get hS z1 ?_
  rw [z3]
  refine se_J12_checkIndex hS ?_
  refine se_J7_checkIndex hS (im (by omega) (ip (by omega) ?_))
  refine ss_J4_get_8 hS z1 ?_
  refine se_J4_elementData hS z1 ?_
  rw [z2]
  rcases z6 with ⟨-, y⟩ | ⟨y1, y2, y3, cap, y4, y5, y6, y7, y8⟩
  · rw [y] at hi; exact absurd hi (Nat.not_lt_zero _)
  · refine ⟨⟨by rw [y4]; simp, by omega, by rw [y4]; show (i : Int) < (cap : Nat); omega⟩, ?_⟩
    rw [Int.toNat_natCast, y8 i hi]
    exact k
