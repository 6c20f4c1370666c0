/-! x: how many instructions a part has -/
def Cd (h : hp) (n x c : Nat) : Prop := (hT h x).1 ∈ [20, 21, 23, 24, 25, 26, 27, 29, 30, 31, 32] ∧ ∀ (d : Nat) (Q : qt), n ≤ d → Q (.inl (some (vI (c : Nat)))) h → vsel [(20, 289), (21, 289), (23, 289), (24, 289), (25, 289), (26, 289), (27, 289), (29, 351), (30, 351), (31, 364), (32, 371)] (hT h x).1 fun y => Wc d y [vR (some x)] h Q
def Pd (h : hp) (n p c : Nat) : Prop := hT h p = (5, 0) ∧ ∀ (d : Nat) (Q : qt), n ≤ d → Q (.inl (some (vI (c : Nat)))) h → Wc d 234 [vR (some p)] h Q
def CL (h : hp) (n : Nat) : List Nat → Nat → Prop
  | [], c => c = 0
  | x :: ys, c => ∃ c1 c2, c = c1 + c2 ∧ Cd h n x c1 ∧ CL h n ys c2
theorem RL_73 {h : hp} {l arr : Nat} {xs : List Nat} (hL : RL h l xs arr) : xs.length ≤ 244 := by
  obtain ⟨z1, z2, z3, z4, z5, z6⟩ := hL
  rcases z6 with ⟨-, y⟩ | ⟨y1, y2, y3, cap, y4, y5, y6, y7, y8⟩
  · rw [y]; decide
  · omega
theorem code_loop {h : hp} (hS : St h) {p l arr n d : Nat} {Q : qt} (hp : hT h p = (5, 0)) (hl : hR h p 0 = some l) (hn : n ≤ d + 5) : ∀ (ys pre : List Nat) (c acc : Nat) (v3 : av), RL h l (pre ++ ys) arr → CL h n ys c → acc + c ≤ 1000 → Q (.inl (some (vI ((acc + c : Nat))))) h → Wp (d + 5) C_X5_code Q 4 [vR (some p), vI (acc : Nat), vI (pre.length : Nat), v3] [] h := by
  intro ys
  induction ys with
  | nil =>
    intro pre c acc v3 hL hC hb k
    refine ss_X5_code_4 hS hp ?_
    rw [hl, ofR_some]
    refine ip (by rw [hL.1]) ?_
    refine c_size hS hL ?_
    refine ss_X5_code_14 hS hp ?_
    refine im (by simp) ?_
    have hC' : c = 0 := hC
    rw [hC'] at k
    exact k
  | cons x ys ih =>
    intro pre c acc v3 hL hC hb k
    obtain ⟨c1, c2, e1, e2, e3⟩ := hC
    have h73 := RL_73 hL
    have hlen : (pre ++ x :: ys).length = pre.length + ys.length + 1 := by simp; omega
    refine ss_X5_code_4 hS hp ?_
    rw [hl, ofR_some]
    refine ip (by rw [hL.1]) ?_
    refine c_size hS hL ?_
    refine ss_X5_code_14 hS hp ?_
    refine ip (by omega) ?_
    rw [hl, ofR_some]
    refine ip (by rw [hL.1]) ?_
    refine c_get hS hL (by omega) ?_
    have hg : (pre ++ x :: ys).getD pre.length 0 = x := by simp
    rw [hg]
    refine ss_X5_code_27 hS hp ?_
    refine ⟨Or.inr ⟨x, rfl, e2.1⟩, ?_⟩
    refine e2.2 (d + 5) _ hn ?_
    refine ss_X5_code_36 hS hp ?_
    rw [na_eq (by omega) (by omega), na_eq (by omega) (by omega)]
    have q := ih (pre ++ [x]) c2 (acc + c1) (vR (some x)) (by rw [List.append_assoc]; exact hL) e3 (by omega) (by rw [Nat.add_assoc, ← e1]; exact k)
    rw [List.length_append] at q
    exact q
theorem Pd_of {h : hp} (hS : St h) {lo hi p n c : Nat} {ys : List Nat} (hp : RPt h lo hi p ys) (hC : CL h n ys c) (hc : c ≤ 1000) : Pd h (n + 7) p c := by
  obtain ⟨z1, z2, z3, l, arr, z4, z5, z6, z7, z8⟩ := hp
  refine ⟨z3, fun d Q hd k => ?_⟩
  obtain ⟨d, rfl⟩ : ∃ e, d = e + 5 + 1 := ⟨d - 6, by omega⟩
  refine se_X5_code hS z3 ?_
  exact code_loop hS z3 z4 (by omega) ys [] c 0 vU z7 hC (by omega) (by rw [Nat.zero_add]; exact k)
theorem Cd_one {h : hp} (hS : St h) {a n : Nat} {K : Nat} (ht : hT h a = (K, 0)) (hK : K = 20 ∨ K = 21 ∨ K = 23 ∨ K = 24 ∨ K = 25 ∨ K = 26 ∨ K = 27) (hn : 1 ≤ n) : Cd h n a 1 := by
  refine ⟨by rw [ht]; rcases hK with e | e | e | e | e | e | e <;> subst e <;> decide, fun d Q hd k => ?_⟩
  obtain ⟨d, rfl⟩ : ∃ e, d = e + 1 := ⟨d - 1, by omega⟩
  have hm : (hT h a).1 ∈ [20, 21, 23, 24, 25, 26, 27, 29, 30, 31, 32] := by rw [ht]; rcases hK with e | e | e | e | e | e | e <;> subst e <;> decide
  have z : Wc (d + 1) 289 [vR (some a)] h Q := se_X18_code hS hm k
  rw [ht]
  rcases hK with e | e | e | e | e | e | e <;> subst e <;> exact z
