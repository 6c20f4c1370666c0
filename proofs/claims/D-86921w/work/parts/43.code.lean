/-! x: how many instructions a tree has -/
theorem Cd_28 {h : hp} (hS : St h) {a n p q c1 c2 K : Nat} (ht : hT h a = (K, 0)) (hK : K = 29 ∨ K = 30) (f1 : hR h a 1 = some p) (f2 : hR h a 2 = some q) (d1 : Pd h n p c1) (d2 : Pd h n q c2) (hc : c1 + c2 ≤ 1000) : Cd h (n + 1) a (3 + (c1 + c2)) := by
  have hm : (hT h a).1 ∈ [29, 30] := by rw [ht]; rcases hK with e | e <;> subst e <;> decide
  refine ⟨by rw [ht]; rcases hK with e | e <;> subst e <;> decide, fun d Q hd k => ?_⟩
  obtain ⟨d, rfl⟩ : ∃ e, d = e + 1 := ⟨d - 1, by omega⟩
  have z : Wc (d + 1) 351 [vR (some a)] h Q := by
    refine se_X28_code hS hm ?_
    rw [f1, ofR_some]
    refine ip (by rw [d1.1]) ?_
    refine d1.2 _ _ (by omega) ?_
    refine ss_X28_code_8 hS hm ?_
    rw [f2, ofR_some]
    refine ip (by rw [d2.1]) ?_
    refine d2.2 _ _ (by omega) ?_
    refine ss_X28_code_16 hS hm ?_
    rw [na_eq (x := 3) (by omega) (by omega), na_eq (by omega) (by omega)]
    have e : (3 : Int) + (c1 : Nat) + (c2 : Nat) = ((3 + (c1 + c2) : Nat) : Int) := by omega
    rw [e]; exact k
  rw [ht]
  rcases hK with e | e <;> subst e <;> exact z
theorem Cd_32 {h : hp} (hS : St h) {a n p q c1 c2 : Nat} (ht : hT h a = (32, 0)) (f1 : hR h a 1 = some p) (f2 : hR h a 2 = some q) (d1 : Pd h n p c1) (d2 : Pd h n q c2) (hc : c1 + c2 ≤ 1000) : Cd h (n + 1) a (3 + (c1 + c2)) := by
  refine ⟨by rw [ht]; decide, fun d Q hd k => ?_⟩
  obtain ⟨d, rfl⟩ : ∃ e, d = e + 1 := ⟨d - 1, by omega⟩
  have z : Wc (d + 1) 371 [vR (some a)] h Q := by
    refine se_X32_code hS ht ?_
    rw [f1, ofR_some]
    refine ip (by rw [d1.1]) ?_
    refine d1.2 _ _ (by omega) ?_
    refine ss_X32_code_8 hS ht ?_
    rw [f2, ofR_some]
    refine ip (by rw [d2.1]) ?_
    refine d2.2 _ _ (by omega) ?_
    refine ss_X32_code_16 hS ht ?_
    rw [na_eq (x := 3) (by omega) (by omega), na_eq (by omega) (by omega)]
    have e : (3 : Int) + (c1 : Nat) + (c2 : Nat) = ((3 + (c1 + c2) : Nat) : Int) := by omega
    rw [e]; exact k
  rw [ht]
  exact z
theorem Cd_31 {h : hp} (hS : St h) {a n p c1 : Nat} (ht : hT h a = (31, 0)) (f1 : hR h a 1 = some p) (d1 : Pd h n p c1) (hc : c1 ≤ 1000) : Cd h (n + 1) a (2 + c1) := by
  refine ⟨by rw [ht]; decide, fun d Q hd k => ?_⟩
  obtain ⟨d, rfl⟩ : ∃ e, d = e + 1 := ⟨d - 1, by omega⟩
  have z : Wc (d + 1) 364 [vR (some a)] h Q := by
    refine se_X31_code hS ht ?_
    rw [f1, ofR_some]
    refine ip (by rw [d1.1]) ?_
    refine d1.2 _ _ (by omega) ?_
    refine ss_X31_code_8 hS ht ?_
    rw [na_eq (by omega) (by omega)]
    have e : (2 : Int) + (c1 : Nat) = ((2 + c1 : Nat) : Int) := by omega
    rw [e]; exact k
  rw [ht]
  exact z
def CT (h : hp) (m n : Nat) (xs : List Nat) (c : Nat) : Prop :=
  (m = 0 → CL h n xs c) ∧ (m = 1 → ∃ a, xs = [a] ∧ Cd h n a c) ∧ (m = 112 ∨ m = 117 → ∃ p q b c1 c2, xs = [p, q, b] ∧ c = c1 + c2 ∧ Pd h (n + 7) p c1 ∧ Pd h (n + 7) q c2) ∧ (m = 113 ∨ m = 118 → ∃ q b, xs = [q, b] ∧ Pd h (n + 7) q c) ∧ (m = 119 → ∃ p q c1 c2, xs = [p, q] ∧ c = c1 + c2 ∧ Pd h (n + 7) p c1 ∧ Pd h (n + 7) q c2)
theorem Cd_mono {h : hp} {n n2 a c : Nat} (hn : n ≤ n2) (k : Cd h n a c) : Cd h n2 a c := ⟨k.1, fun d Q hd => k.2 d Q (by omega)⟩
theorem CT_1 {h : hp} {n a c : Nat} (k : Cd h n a c) : CT h 1 n [a] c := ⟨fun z => by omega, fun _ => ⟨a, rfl, k⟩, fun z => by omega, fun z => by omega, fun z => by omega⟩
theorem code_step {h : hp} {lo hi k a : Nat} {l r : zT} (hk : ok1 k l r) (hR : RT h lo hi (zB k l r) [a]) : ∃ K, hT h a = (K, 0) ∧ (K = 20 ∨ K = 21 ∨ K = 23 ∨ K = 24 ∨ K = 25 ∨ K = 26 ∨ K = 27) := by
  have hq : (100 ≤ k ∧ k ≤ 107) ∨ k = 114 ∨ (130 ≤ k ∧ k ≤ 135) := by
    rcases hk with ⟨q, -⟩ | ⟨q, -⟩ | ⟨q, -⟩ | ⟨q, -⟩ | ⟨q, -⟩ | ⟨q, -⟩ <;> omega
  clear hk
  unfold RT at hR
  rw [if_neg (by omega), if_neg (by omega), if_neg (by omega), if_neg (by omega)] at hR
  obtain ⟨b, e, -, -, hR⟩ := hR
  cases e
  split at hR
  · exact ⟨24, hR.1, by decide⟩
  split at hR
  · exact ⟨23, hR.1, by decide⟩
  split at hR
  · exact ⟨25, hR.1, by decide⟩
  split at hR
  · exact ⟨26, hR.1, by decide⟩
  split at hR
  · exact ⟨27, hR.1, by decide⟩
  rw [if_neg (by omega), if_neg (by omega), if_neg (by omega)] at hR
  split at hR
  · exact ⟨20, hR.1, by decide⟩
  · exact ⟨21, hR.1, by decide⟩
