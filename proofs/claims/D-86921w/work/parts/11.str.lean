/-! TEXTS -/
theorem shr0 {x : Int} (h1 : -2147483648 ≤ x) (h2 : x < 2147483648) : n_shr x 0 = x := by
  unfold n_shr
  rw [show (Int32.ofInt 0 &&& 31 : Int32) = 0 by decide]
  rw [Int32.shiftRight_zero]
  exact Int32.toInt_ofInt_of_le (by omega) (by omega)
theorem and255 : ∀ b : Nat, b < 128 → n_i2c (n_and (b : Int) 255) = b := by decide
theorem c_strLen {d : Nat} {Q : qt} {h : hp} {a : Nat} {bs : List Nat} (hS : St h) (hB : Ss h a bs) (hl : bs.length < 1000) (k : Q (.inl (some (vI (bs.length : Nat)))) h) : Wc (d + 2) 409 [vR (some a)] h Q := by
  obtain ⟨b1, b2, b3, b4, b5⟩ := hB
  refine se_J5_length hS b1 ?_
  rw [b2]
  show 100 ≤ (hT h (a + 1)).1 ∧ (hT h (a + 1)).1 < 113 ∧ (hT h (a + 1)).2 < 2147483648 ∧ _
  rw [b4]
  refine ⟨by show 100 ≤ 110; decide, by show 110 < 113; decide, by show bs.length < _; omega, ?_⟩
  refine se_J5_coder hS b1 ?_
  rw [b3]
  refine ⟨by omega, by omega, ?_⟩
  refine ss_J5_length_9 hS b1 ?_
  show Q (.inl (some (vI (n_shr ((bs.length : Nat) : Int) 0)))) h
  rw [shr0 (by omega) (by omega)]
  exact k
theorem c_charAt {d : Nat} {Q : qt} {h : hp} {a : Nat} {bs : List Nat} {i : Nat} (hS : St h) (hB : Ss h a bs) (hl : bs.length < 1000) (hi : i < bs.length) (hb : ∀ b ∈ bs, b < 128) (k : Q (.inl (some (vI (bs.getD i 0 : Nat)))) h) : Wc (d + 4) 411 [vR (some a), vI (i : Nat)] h Q := by
  obtain ⟨b1, b2, b3, b4, b5⟩ := hB
  refine se_J5_charAt hS b1 ?_
  refine se_J5_isLatin1 hS b1 ?_
  rw [if_pos b3]
  refine ss_J5_charAt_4 hS b1 ?_
  rw [if_neg (by decide)]
  refine se_J6_charAt hS ?_
  rw [b2]
  show 100 ≤ (hT h (a + 1)).1 ∧ (hT h (a + 1)).1 < 113 ∧ (hT h (a + 1)).2 < 2147483648 ∧ _
  rw [b4]
  refine ⟨by show 100 ≤ 110; decide, by show 110 < 113; decide, by show bs.length < _; omega, ?_⟩
  refine se_J5_checkIndex hS ?_
  intro r1 _
  refine se_J7_checkIndex hS ?_
  rw [if_neg (by omega), if_pos (by show (i : Int) < ((bs.length : Nat) : Int); omega)]
  refine ss_J5_checkIndex_8 hS ?_
  refine ss_J6_charAt_6 hS ?_
  rw [ofR_some, Int.toNat_natCast, b5 i hi]
  have hlt : bs.getD i 0 < 128 := by
    rw [List.getD_eq_getElem?_getD, List.getElem?_eq_getElem hi]
    exact hb _ (List.getElem_mem hi)
  rw [and255 _ hlt]
  refine ⟨⟨by rw [b4]; exact List.mem_singleton.mpr rfl, by omega, by rw [b4]; show (i : Int) < ((bs.length : Nat) : Int); omega⟩, by omega, by omega, by omega, by omega, k⟩
