/-! bits -/
theorem and_nat {a b : Nat} (ha : a < 2 ^ 31) (hb : b < 2 ^ 31) : n_and (a : Int) (b : Int) = ((a &&& b : Nat) : Int) := by
  unfold n_and
  rw [Int32.ofInt_eq_ofNat, Int32.ofInt_eq_ofNat, show Int32.ofNat a &&& Int32.ofNat b = Int32.ofNat (a &&& b) from Int32.toBitVec_inj.1 (by simp)]
  exact Int32.toInt_ofNat_of_lt (Nat.lt_of_le_of_lt Nat.and_le_left ha)
theorem shr_nat {a k : Nat} (ha : a < 2 ^ 31) (hk : k < 32) : n_shr (a : Int) (k : Int) = ((a / 2 ^ k : Nat) : Int) := by
  unfold n_shr
  have e1 : ∀ k : Nat, k < 32 → ((Int32.ofInt (k : Int) &&& 31).toBitVec.smod 32).toNat = k := by decide
  rw [← Int32.toInt_toBitVec, Int32.toBitVec_shiftRight, BitVec.sshiftRight_eq', BitVec.toInt_sshiftRight, e1 k hk, Int32.toInt_toBitVec, Int32.toInt_ofInt_of_le (by omega) (by omega), Int.shiftRight_eq_div_pow]
  first | rfl | exact (Int.natCast_ediv _ _).symm | simp
theorem bit_at {a k : Nat} (ha : a < 2 ^ 31) (hk : k < 32) : n_and (n_shr (a : Int) (k : Int)) 1 = bI (a.testBit k) := by
  rw [shr_nat ha hk]
  have h1 : a / 2 ^ k < 2 ^ 31 := Nat.lt_of_le_of_lt (Nat.div_le_self _ _) ha
  have e := and_nat h1 (show 1 < 2 ^ 31 by decide)
  rw [show (((1 : Nat) : Int)) = 1 from rfl, Nat.and_one_is_mod] at e
  rw [e, Nat.testBit_eq_decide_div_mod_eq]
  have := Nat.mod_lt (a / 2 ^ k) (show 0 < 2 by decide)
  by_cases q : a / 2 ^ k % 2 = 1
  · rw [q]; rfl
  · have q0 : a / 2 ^ k % 2 = 0 := by omega
    rw [q0]; rfl
theorem two_k {c : Nat} {l r : zT} {lv : Nat} (h : zok (zB c l r) lv) (n1 : c ≠ 1) (n2 : c ≠ 2) (n35 : c ≠ 35) (n3 : c ≠ 3) (n8 : c ≠ 8) (n40 : c ≠ 40) : (c = 60 ∨ c = 61 ∨ c = 43 ∨ c = 45 ∨ c = 94 ∨ c = 124 ∨ c = 42 ∨ c = 47 ∨ c = 37 ∨ c = 38) ∧ ∃ v w, zok l v ∧ zok r w := by
  unfold zok at h
  rw [if_neg n1, if_neg n2, if_neg n35, if_neg n3, if_neg n8, if_neg n40] at h
  split at h
  · exact ⟨by omega, 0, 0, h.1, h.2⟩
  · split at h
    · rename_i q
      have := zsum_k q
      exact ⟨by omega, 0, 1, h.2.1, h.2.2⟩
    · split at h
      · rename_i q
        have := zpro_k q
        exact ⟨by omega, 1, 2, h.2.1, h.2.2⟩
      · exact h.elim
theorem zbits_has : ∀ (e : zT) (lv k : Nat), zok e lv → k < 26 → (zbits e).testBit k = zhas k e := by
  intro e
  induction e with
  | leaf n => intro lv k h; exact h.elim
  | branch c l r ihl ihr =>
    intro lv k h hk
    by_cases k1 : c = 1
    · subst k1
      show (2 ^ zn l).testBit k = (k == zn l)
      rw [Nat.testBit_two_pow, Bool.eq_iff_iff]; simp; omega
    by_cases k2 : c = 2
    · subst k2; exact Nat.zero_testBit k
    by_cases k35 : c = 35
    · subst k35
      show (0 : Nat).testBit k = (k == 26 + zn l)
      rw [Nat.zero_testBit, Bool.eq_iff_iff]; simp; omega
    by_cases k3 : c = 3
    · subst k3
      show (zbits r).testBit k = (k == 26 + zn l || zhas k r)
      rw [ihr 0 k h.2 hk, show (k == 26 + zn l) = false by rw [Bool.eq_false_iff]; simp; omega, Bool.false_or]
    by_cases k8 : c = 8
    · subst k8; exact ihl 2 k h hk
    by_cases k40 : c = 40
    · subst k40; exact ihl 0 k h hk
    obtain ⟨hc, v, w, h1, h2⟩ := two_k h k1 k2 k35 k3 k8 k40
    have e1 : (zbits l ||| zbits r).testBit k = (zhas k l || zhas k r) := by rw [Nat.testBit_or, ihl v k h1 hk, ihr w k h2 hk]
    rcases hc with q | q | q | q | q | q | q | q | q | q <;> subst q <;> exact e1
theorem zrows_has : ∀ (e : zT) (lv k : Nat), zok e lv → (zrows e).testBit k = zhas (26 + k) e := by
  intro e
  induction e with
  | leaf n => intro lv k h; exact h.elim
  | branch c l r ihl ihr =>
    intro lv k h
    by_cases k1 : c = 1
    · subst k1
      have h' : zn l < 26 := h
      show (0 : Nat).testBit k = (26 + k == zn l)
      rw [Nat.zero_testBit, Bool.eq_iff_iff]; simp; omega
    by_cases k2 : c = 2
    · subst k2; exact Nat.zero_testBit k
    by_cases k35 : c = 35
    · subst k35
      show (2 ^ zn l).testBit k = (26 + k == 26 + zn l)
      rw [Nat.testBit_two_pow, Bool.eq_iff_iff]; simp; omega
    by_cases k3 : c = 3
    · subst k3
      show (2 ^ zn l ||| zrows r).testBit k = (26 + k == 26 + zn l || zhas (26 + k) r)
      rw [Nat.testBit_or, ihr 0 k h.2, Nat.testBit_two_pow]
      congr 1
      rw [Bool.eq_iff_iff]; simp; omega
    by_cases k8 : c = 8
    · subst k8; exact ihl 2 k h
    by_cases k40 : c = 40
    · subst k40; exact ihl 0 k h
    obtain ⟨hc, v, w, h1, h2⟩ := two_k h k1 k2 k35 k3 k8 k40
    have e1 : (zrows l ||| zrows r).testBit k = (zhas (26 + k) l || zhas (26 + k) r) := by rw [Nat.testBit_or, ihl v k h1, ihr w k h2]
    rcases hc with q | q | q | q | q | q | q | q | q | q <;> subst q <;> exact e1
