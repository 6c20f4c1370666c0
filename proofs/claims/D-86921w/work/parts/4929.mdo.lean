/-! m DOES STEPS -/
def pMd (a j : Nat) : Prop := (a = 116 ∧ (j = 35 ∨ (44 ≤ j ∧ j ≤ 53))) ∨ (134 ≤ a ∧ a ≤ 141)
/-- what a step of m may change -/
def FMd (h h' : hp) : Prop := FX pMd h h' ∧ hN h' = hN h ∧ hU h' = hU h
theorem FMd_refl {h : hp} (hS : St h) : FMd h h := ⟨FX_refl hS, rfl, rfl⟩
theorem FMd_trans {h h1 h2 : hp} (a : FMd h h1) (b : FMd h1 h2) : FMd h h2 := ⟨FX_trans a.1 b.1, b.2.1.trans a.2.1, b.2.2.trans a.2.2⟩
theorem FMd_St {h h' : hp} (a : FMd h h') : St h' := a.1.2.2.1
theorem FMd_sI {h h' : hp} (a : FMd h h') {c j : Nat} {x : Int} (hc : pMd c j) : FMd h (sI h' c j x) :=
  ⟨FX_sI a.1 (Or.inl hc) (by unfold pMd at hc; omega), a.2.1, a.2.2⟩
theorem FMd_sL {h h' : hp} (a : FMd h h') {c j : Nat} {x : Int} (hc : pMd c j) : FMd h (sL h' c j x) :=
  ⟨FX_sL a.1 (Or.inl hc), a.2.1, a.2.2⟩
theorem FMd_FI {mj as : List Nat} {h h' : hp} (a : FI [] mj as h h') (hS : St h) (ho : okA as = true) (hp : ∀ c j, pG [] mj as c j = true → pMd c j) : FMd h h' :=
  ⟨FX_mono (FX_FI a hS ho) (fun c j _ z => hp c j z), a.1, a.2.1⟩
theorem FMd_Fre {h h' : hp} (a : Fre h h') (hS : St h) : FMd h h' := FMd_FI a hS rfl (fun c j z => by
  unfold pG at z
  unfold pMd
  simp at z
  omega)
/-- m has seen nothing, nothing is barred -/
def Mz (h : hp) : Prop := hI h 116 47 = 0 ∧ (∀ id, id < 16 → hI h 141 id = 0) ∧ hI h 116 49 = -1
theorem MB_free {h : hp} (z : hI h 116 49 = -1) : MB h bi0 := fun id i => by
  show false = _
  symm; exact decide_eq_false (fun y => by rw [z] at y; omega)
theorem c_seeN {d : Nat} {Q : qt} {h : hp} (hS : St h) (k : ∀ h', FI [] [47, 49] [141] h h' → Mz h' → Q (.inl none) h') : Wc (d + 1) 182 [vR (some 116)] h Q := by
  refine se_X4_seeNothing hS ?_
  have loop : ∀ (m i : Nat) (g : hp), i + m = 16 → FI [] [47, 49] [141] h g → hI g 116 47 = 0 → hI g 116 49 = -1 → (∀ j, j < i → hI g 141 j = 0) → Wp d C_X4_seeNothing Q 12 [vR (some 116), vI (i : Nat)] [] g := by
    intro m
    induction m with
    | zero =>
      intro i g hi F a b c
      have S := FI_St F hS rfl
      refine ss_X4_seeNothing_12 S (im (by omega) ?_)
      exact k g F ⟨a, fun j hj => c j (by omega), b⟩
    | succ m ih =>
      intro i g hi F a b c
      have S := FI_St F hS rfl
      refine ss_X4_seeNothing_12 S (ip (by omega) ⟨by omega, ?_⟩)
      rw [na_eq (by omega) (by omega), Int.toNat_natCast]
      refine ih (i + 1) _ (by omega) (FI_sI F rfl) (by rw [hI_sI, if_neg (by omega)]; exact a) (by rw [hI_sI, if_neg (by omega)]; exact b) (fun j hj => ?_)
      rw [hI_sI]
      by_cases e : j = i
      · rw [if_pos ⟨rfl, e⟩]
      · rw [if_neg (fun z => e z.2)]; exact c j (by omega)
  exact loop 16 0 _ (by omega) (FI_sI (FI_sI (FI_refl h) rfl) rfl) (by simp [hI_sI]) (by simp [hI_sI]) (fun j hj => absurd hj (Nat.not_lt_zero _))
/-- the answer of a step of m -/
def DmQ (h0 : hp) (σ : zS) (v : Nat ⊕ zS) (Q : qt) : Prop := match v with
  | .inl w => ∀ h', FMd h0 h' → MV h' σ → Q (.inl (some (vI (w : Nat)))) h'
  | .inr σ' => ∀ h', FMd h0 h' → MV h' σ' → Q (.inl (some (vI 0))) h'
theorem c_rk {d r n : Nat} {Q : qt} {h : hp} {σ : zS} {e : zT} {P S : List (Nat × Nat)} (hS : St h) (hr : r < 10) (hK : RK h r (P ++ (zk e ++ S))) (hn : nxt zsp S) (hV : MV h σ) (hZ : Mz h) (oe : okE e) (hP : n = P.length) (k1 : ∀ w h' x, ev σ bn0 bi0 e = .inl w → w ≠ 0 → FMd h h' → MV h' σ → hI h' 116 46 = (w : Nat) → (∀ a j, 121 ≤ a → a ≤ 133 → hI h' a j = hI h a j) → Q (.inl (some (vJ x))) h') (k2 : ∀ v h', ev σ bn0 bi0 e = .inr v → FMd h h' → MV h' σ → hI h' 116 46 = 0 → (∀ a j, 121 ≤ a → a ≤ 133 → hI h' a j = hI h a j) → Q (.inl (some (vJ v))) h') : Wc (d + 50) 186 [vR (some 116), vI (r : Nat), vI (n : Nat)] h Q := by
  subst hP
  have fr : ∀ h', Fre h h' → ∀ a j, 121 ≤ a → a ≤ 133 → hI h' a j = hI h a j := fun h' F a j a1 a2 => FI_i F (by unfold pG; simp; omega)
  exact c_reckon hS hr hK hn hV (MB_free hZ.2.2) oe (ns := 0) (by decide) hZ.1 (is := fun _ => 0) (fun id hi => ⟨by decide, hZ.2.1 id hi⟩)
    (fun w h' x hv w0 F b => k1 w h' x hv w0 (FMd_Fre F hS) (MV_FI F rfl rfl hV) b (fr h' F))
    (fun v h' hv F b _ _ => k2 v h' hv (FMd_Fre F hS) (MV_FI F rfl rfl hV) b (fr h' F))
theorem tk_at {h : hp} {r q : Nat} {ts : List (Nat × Nat)} {x : Nat × Nat} (hr : r < 10) (hK : RK h r ts) (ht : ts[q]? = some x) : n_add (n_mul 1600 (r : Nat)) (q : Nat) = ((1600 * r + q : Nat) : Int) ∧ hI h 124 (1600 * r + q) = (x.1 : Nat) ∧ hI h 125 (1600 * r + q) = (x.2 : Nat) ∧ q < 1600 := by
  have hp : q < ts.length := by
    by_cases z : q < ts.length
    · exact z
    · rw [List.getElem?_eq_none (by omega)] at ht; cases ht
  have hl := hK.1
  have e := hK.2.2 q x ht
  exact ⟨ix hr (by omega), e.1, e.2, by omega⟩
theorem and_not {a k : Nat} (ha : a < 2 ^ 26) (hk : k < 26) : ∃ b : Nat, b < 2 ^ 26 ∧ n_and (a : Int) (n_xor (n_shl 1 (k : Int)) (-1)) = (b : Nat) ∧ ∀ j, b.testBit j = (a.testBit j && decide (j ≠ k)) := by
  have e1 : ∀ k : Nat, k < 26 → Int32.ofInt (n_xor (n_shl 1 (k : Int)) (-1)) = Int32.ofNat (2 ^ 32 - (2 ^ k + 1)) := by decide
  have hle : a &&& (2 ^ 32 - (2 ^ k + 1)) < 2 ^ 26 := Nat.lt_of_le_of_lt Nat.and_le_left ha
  refine ⟨a &&& (2 ^ 32 - (2 ^ k + 1)), hle, ?_, fun j => ?_⟩
  · unfold n_and
    rw [e1 k hk, Int32.ofInt_eq_ofNat, show Int32.ofNat a &&& Int32.ofNat (2 ^ 32 - (2 ^ k + 1)) = Int32.ofNat (a &&& (2 ^ 32 - (2 ^ k + 1))) from Int32.toBitVec_inj.1 (by simp)]
    exact Int32.toInt_ofNat_of_lt (by omega)
  · have hk2 : 2 ^ k < 2 ^ 32 := Nat.pow_lt_pow_right (by decide) (by omega)
    rw [Nat.testBit_and, Nat.testBit_two_pow_sub_succ hk2, Nat.testBit_two_pow]
    by_cases hj : j < 32
    · rw [decide_eq_true hj, Bool.true_and]
      congr 1
      by_cases q : k = j
      · rw [decide_eq_true q, decide_eq_false (show ¬ (j ≠ k) from fun z => z q.symm)]; rfl
      · rw [decide_eq_false q, decide_eq_true (show j ≠ k from fun z => q z.symm)]; rfl
    · have : a.testBit j = false := Nat.testBit_lt_two_pow (Nat.lt_of_lt_of_le ha (Nat.pow_le_pow_right (by decide) (by omega)))
      rw [this, Bool.false_and, Bool.false_and]
