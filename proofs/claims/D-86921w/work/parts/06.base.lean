/-! rules of the heap -/
theorem hT_sI {h : hp} {a j : Nat} {x : Int} : hT (sI h a j x) = hT h := funext fun _ => rfl
theorem hT_sL {h : hp} {a j : Nat} {x : Int} : hT (sL h a j x) = hT h := funext fun _ => rfl
theorem hT_sR {h : hp} {a j : Nat} {x : Option Nat} : hT (sR h a j x) = hT h := funext fun _ => rfl
theorem hT_hCpy {h : hp} {a b sp dp n : Nat} : hT (hCpy h a b sp dp n) = hT h := funext fun _ => rfl
theorem hN_sI {h : hp} {a j : Nat} {x : Int} : hN (sI h a j x) = hN h := Nat.le_antisymm (Nat.le_refl _) (Nat.le_refl _)
theorem hN_sL {h : hp} {a j : Nat} {x : Int} : hN (sL h a j x) = hN h := Nat.le_antisymm (Nat.le_refl _) (Nat.le_refl _)
theorem hN_sR {h : hp} {a j : Nat} {x : Option Nat} : hN (sR h a j x) = hN h := Nat.le_antisymm (Nat.le_refl _) (Nat.le_refl _)
theorem hN_hCpy {h : hp} {a b sp dp n : Nat} : hN (hCpy h a b sp dp n) = hN h := Nat.le_antisymm (Nat.le_refl _) (Nat.le_refl _)
theorem hU_sI {h : hp} {a j : Nat} {x : Int} : hU (sI h a j x) = hU h := Nat.le_antisymm (Nat.le_refl _) (Nat.le_refl _)
theorem hU_sL {h : hp} {a j : Nat} {x : Int} : hU (sL h a j x) = hU h := Nat.le_antisymm (Nat.le_refl _) (Nat.le_refl _)
theorem hU_sR {h : hp} {a j : Nat} {x : Option Nat} : hU (sR h a j x) = hU h := Nat.le_antisymm (Nat.le_refl _) (Nat.le_refl _)
theorem hU_hCpy {h : hp} {a b sp dp n : Nat} : hU (hCpy h a b sp dp n) = hU h := Nat.le_antisymm (Nat.le_refl _) (Nat.le_refl _)
theorem hR_sI {h : hp} {a j : Nat} {x : Int} : hR (sI h a j x) = hR h := funext fun _ => rfl
theorem hR_sL {h : hp} {a j : Nat} {x : Int} : hR (sL h a j x) = hR h := funext fun _ => rfl
theorem hL_sI {h : hp} {a j : Nat} {x : Int} : hL (sI h a j x) = hL h := funext fun _ => rfl
theorem hL_sR {h : hp} {a j : Nat} {x : Option Nat} : hL (sR h a j x) = hL h := funext fun _ => rfl
theorem hI_sL {h : hp} {a j : Nat} {x : Int} : hI (sL h a j x) = hI h := funext fun _ => rfl
theorem hI_sR {h : hp} {a j : Nat} {x : Option Nat} : hI (sR h a j x) = hI h := funext fun _ => rfl
theorem hI_sI {h : hp} {a j b k : Nat} {x : Int} : hI (sI h a j x) b k = if b = a ∧ k = j then x else hI h b k := Eq.trans (congrFun (congrFun rfl b) k) rfl
theorem hL_sL {h : hp} {a j b k : Nat} {x : Int} : hL (sL h a j x) b k = if b = a ∧ k = j then x else hL h b k := Eq.trans (congrFun (congrFun rfl b) k) rfl
theorem hR_sR {h : hp} {a j b k : Nat} {x : Option Nat} : hR (sR h a j x) b k = if b = a ∧ k = j then x else hR h b k := Eq.trans (congrFun (congrFun rfl b) k) rfl
theorem hN_new {h : hp} {k n c : Nat} : hN (hNew h k n c) = hN h + 1 := Nat.le_antisymm (Nat.le_refl _) (Nat.le_refl _)
theorem hU_new {h : hp} {k n c : Nat} : hU (hNew h k n c) = hU h + c + 13 := Nat.le_antisymm (Nat.le_refl _) (Nat.le_refl _)
theorem hT_new {h : hp} {k n c b : Nat} (hb : b ≠ hN h) : hT (hNew h k n c) b = hT h b := if_neg hb
theorem hI_new {h : hp} {k n c b j : Nat} (hb : b ≠ hN h) : hI (hNew h k n c) b j = hI h b j := congrFun (if_neg hb : (if b = hN h then _ else hI h b) = hI h b) j
theorem hL_new {h : hp} {k n c b j : Nat} (hb : b ≠ hN h) : hL (hNew h k n c) b j = hL h b j := congrFun (if_neg hb : (if b = hN h then _ else hL h b) = hL h b) j
theorem hR_new {h : hp} {k n c b j : Nat} (hb : b ≠ hN h) : hR (hNew h k n c) b j = hR h b j := congrFun (if_neg hb : (if b = hN h then _ else hR h b) = hR h b) j
theorem hT_newa {h : hp} {k n c b : Nat} (hb : b = hN h) : hT (hNew h k n c) b = (k, n) := if_pos hb
theorem hI_newa {h : hp} {k n c b j : Nat} (hb : b = hN h) : hI (hNew h k n c) b j = 0 := congrFun (if_pos hb : (if b = hN h then (fun _ => 0) else hI h b) = fun _ => 0) j
theorem hL_newa {h : hp} {k n c b j : Nat} (hb : b = hN h) : hL (hNew h k n c) b j = 0 := congrFun (if_pos hb : (if b = hN h then (fun _ => 0) else hL h b) = fun _ => 0) j
theorem hR_newa {h : hp} {k n c b j : Nat} (hb : b = hN h) : hR (hNew h k n c) b j = none := congrFun (if_pos hb : (if b = hN h then (fun _ => none) else hR h b) = fun _ => none) j
theorem ofR_some {a : Nat} {K : Nat → Prop} : ofR (some a) K = K a := propext Iff.rfl
theorem fitR_sI {h : hp} {a j : Nat} {x : Int} {ks : List Nat} {r : Option Nat} : fitR (sI h a j x) ks r = fitR h ks r := propext Iff.rfl
theorem insV_sI {h : hp} {a j : Nat} {x : Int} {ks : List Nat} {r : Option Nat} : insV (sI h a j x) ks r = insV h ks r := by cases r <;> rfl
theorem fitR_sL {h : hp} {a j : Nat} {x : Int} {ks : List Nat} {r : Option Nat} : fitR (sL h a j x) ks r = fitR h ks r := propext Iff.rfl
theorem insV_sL {h : hp} {a j : Nat} {x : Int} {ks : List Nat} {r : Option Nat} : insV (sL h a j x) ks r = insV h ks r := by cases r <;> rfl
theorem fitR_sR {h : hp} {a j : Nat} {x : Option Nat} {ks : List Nat} {r : Option Nat} : fitR (sR h a j x) ks r = fitR h ks r := propext Iff.rfl
theorem insV_sR {h : hp} {a j : Nat} {x : Option Nat} {ks : List Nat} {r : Option Nat} : insV (sR h a j x) ks r = insV h ks r := by cases r <;> rfl
theorem lc_lt {x y : Int} : (l_cmp x y < 0) = (x < y) := by
  unfold l_cmp
  refine propext ⟨fun h => ?_, fun h => ?_⟩
  · split at h
    · omega
    · split at h
      · omega
      · omega
  · rw [if_neg (by omega), if_neg (by omega)]; decide
theorem lc_gt {x y : Int} : (0 < l_cmp x y) = (y < x) := by
  unfold l_cmp
  refine propext ⟨fun h => ?_, fun h => ?_⟩
  · split at h
    · omega
    · split at h
      · omega
      · omega
  · rw [if_pos (by omega)]; decide
theorem lc_eq {x y : Int} : (l_cmp x y = 0) = (x = y) := by
  unfold l_cmp
  refine propext ⟨fun h => ?_, fun h => ?_⟩
  · split at h
    · omega
    · split at h
      · assumption
      · omega
  · rw [if_neg (by omega), if_pos h]
/-! numbers in range -/
theorem s32_eq {z : Int} (h1 : -2147483648 ≤ z) (h2 : z < 2147483648) : s32 z = z := by
  unfold s32
  rw [Int.bmod_eq_of_le (by omega) (by omega)]
theorem s64_eq {z : Int} (h1 : -9223372036854775808 ≤ z) (h2 : z < 9223372036854775808) : s64 z = z := by
  unfold s64
  rw [Int.bmod_eq_of_le (by omega) (by omega)]
theorem na_eq {x y : Int} (h1 : -2147483648 ≤ x + y) (h2 : x + y < 2147483648) : n_add x y = x + y := s32_eq h1 h2
theorem ns_eq {x y : Int} (h1 : -2147483648 ≤ x - y) (h2 : x - y < 2147483648) : n_sub x y = x - y := s32_eq h1 h2
theorem nm_eq {x y : Int} (h1 : -2147483648 ≤ x * y) (h2 : x * y < 2147483648) : n_mul x y = x * y := s32_eq h1 h2
theorem la_eq {x y : Int} (h1 : -9223372036854775808 ≤ x + y) (h2 : x + y < 9223372036854775808) : l_add x y = x + y := s64_eq h1 h2
theorem ls_eq {x y : Int} (h1 : -9223372036854775808 ≤ x - y) (h2 : x - y < 9223372036854775808) : l_sub x y = x - y := s64_eq h1 h2
theorem l2i_eq {x : Int} (h1 : -2147483648 ≤ x) (h2 : x < 2147483648) : l_l2i x = x := s32_eq h1 h2
theorem nn_eq {x : Int} (h1 : -2147483648 < x) (h2 : x < 2147483648) : n_neg x = -x := s32_eq (by omega) (by omega)
