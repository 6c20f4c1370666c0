/-! x prints: the small ones -/
theorem nd_nat {x y : Nat} (hx : x < 2147483648) (hy : y < 2147483648) : n_div ((x : Nat) : Int) ((y : Nat) : Int) = ((x / y : Nat) : Int) := by
  unfold n_div
  rw [Int32.toInt_div, Int32.toInt_ofInt_of_le (by omega) (by omega), Int32.toInt_ofInt_of_le (by omega) (by omega), ← Int.ofNat_tdiv]
  have : x / y ≤ x := Nat.div_le_self _ _
  obtain ⟨q, hq⟩ : ∃ q, q = x / y := ⟨_, rfl⟩
  rw [← hq] at this ⊢
  exact Int.bmod_eq_of_le (by omega) (by omega)
theorem nr_nat {x y : Nat} (hx : x < 2147483648) (hy : y < 2147483648) : n_rem ((x : Nat) : Int) ((y : Nat) : Int) = ((x % y : Nat) : Int) := by
  have e := nd_nat hx hy
  unfold n_div at e
  unfold n_rem
  have h1 : x / y ≤ x := Nat.div_le_self _ _
  have h2 : x / y * y ≤ x := Nat.div_mul_le_self _ _
  have h3 : x % y = x - x / y * y := by have := Nat.div_add_mod x y; rw [Nat.mul_comm] at this; omega
  rw [Int32.toInt_sub, Int32.toInt_mul, e, Int32.toInt_ofInt_of_le (by omega) (by omega), Int32.toInt_ofInt_of_le (by omega) (by omega), ← Int.natCast_mul, Int.bmod_eq_of_le (n := ((x / y * y : Nat) : Int)) (by omega) (by omega), Int.bmod_eq_of_le (by omega) (by omega), h3]
  omega
/-! x prints: what it has, whether a blank is due -/
def pPr (a j : Nat) : Prop := a = 83 ∨ (a = 68 ∧ (j = 35 ∨ j = 36))
def Xp (h : hp) (O : List Int) (g : Bool) : Prop := St h ∧ hI h 68 35 = (O.length : Nat) ∧ hI h 68 36 = bI g ∧ Tx h 83 0 O
def FP (h h' : hp) : Prop := FN pPr h h'
theorem FP_refl {h : hp} (hS : St h) : FP h h := FN_refl hS
theorem FP_trans {h h1 h2 : hp} (a : FP h h1) (b : FP h1 h2) : FP h h2 := FN_trans a b
theorem FP_sm {h h' : hp} (a : FP h h') {c : Nat} (h1 : 145 ≤ c) (h2 : c < hN h) : sm h h' c := FX_sm a.1 h2 (fun j z => by unfold pPr at z; omega)
theorem c_emit {d : Nat} {Q : qt} {h : hp} {O : List Int} {g : Bool} {c : Int} (x : Xp h O g) (hc : 32 ≤ c ∧ c ≤ 126) (hl : O.length < 6000) (k : ∀ h', FP h h' → Xp h' (O ++ [c]) g → Q (.inl none) h') : Wc (d + 1) 47 [vR (some 68), vI c] h Q := by
  obtain ⟨hS, x1, x2, x3⟩ := x
  refine se_X0_emit hS ?_
  rw [x1, Int.toNat_natCast, i2b_ok hc, i2b_ok hc, n1k (by omega)]
  have h6 : ((O.length : Nat) : Int) < 6000 := by omega
  rw [if_pos h6]
  refine ⟨⟨by omega, h6⟩, ?_⟩
  have F : FP h (sI (sI h 83 O.length c) 68 35 ((O.length + 1 : Nat) : Int)) := FN_sI (FN_sI (FN_refl hS) (Or.inl rfl) (by decide)) (Or.inr ⟨rfl, Or.inl rfl⟩) (by decide)
  refine k _ F ⟨F.1.2.2.1, by rw [hI_sI, if_pos ⟨rfl, rfl⟩, List.length_append]; rfl, by rw [hI_sI, if_neg (by omega), hI_sI, if_neg (by omega)]; exact x2, Tx_push (by decide) x3⟩
theorem Xp_g {h : hp} {O : List Int} {g g' : Bool} (x : Xp h O g) : Xp (sI h 68 36 (bI g')) O g' ∧ FP h (sI h 68 36 (bI g')) := by
  obtain ⟨hS, x1, x2, x3⟩ := x
  have F : FP h (sI h 68 36 (bI g')) := FN_sI (FN_refl hS) (Or.inr ⟨rfl, Or.inr rfl⟩) (by decide)
  exact ⟨⟨F.1.2.2.1, by rw [hI_sI, if_neg (by omega)]; exact x1, by rw [hI_sI, if_pos ⟨rfl, rfl⟩], Tx_eq (fun j => by rw [hI_sI, if_neg (by omega)]) x3⟩, F⟩
theorem c_blank {d : Nat} {Q : qt} {h : hp} {O : List Int} {g : Bool} (x : Xp h O g) (hl : O.length < 6000) (k : ∀ h', FP h h' → Xp h' (O ++ (if g = true then [] else [32])) false → Q (.inl none) h') : Wc (d + 2) 46 [vR (some 68)] h Q := by
  refine se_X0_blank x.1 ?_
  rw [x.2.2.1]
  cases g with
  | true =>
    refine im (by decide) ?_
    refine ss_X0_blank_13 x.1 ?_
    have := Xp_g (g' := false) x
    exact k _ this.2 (by rw [if_pos rfl, List.append_nil]; exact this.1)
  | false =>
    refine ip rfl (c_emit x (by decide) hl (fun h1 F1 x1 => ?_))
    refine ss_X0_blank_13 x1.1 ?_
    have := Xp_g (g' := false) x1
    exact k _ (FP_trans F1 this.2) (by rw [if_neg (by decide)]; exact this.1)
/-- a word's bytes -/
def oks (c : List Int) : Prop := ∀ y ∈ c, 32 ≤ y ∧ y ≤ 126
theorem psp_n {g : Bool} {x : Nat × Nat} (h : pcl x = false) : psp g x = if g = true then [] else [32] := by unfold psp; rw [h, Bool.or_false]
theorem psp_c {g : Bool} {x : Nat × Nat} (h : pcl x = true) : psp g x = [] := by unfold psp; rw [h, Bool.or_true, if_pos rfl]
theorem c_pSign {d : Nat} {Q : qt} {h : hp} {O : List Int} {g : Bool} {c : Int} {x : Nat × Nat} (X : Xp h O g) (hc : 32 ≤ c ∧ c ≤ 126) (e1 : ptk x = [c]) (e2 : pcl x = false) (e3 : pgu x = false) (hl : (O ++ pbs [x] g).length ≤ 6000) (k : ∀ h', FP h h' → Xp h' (O ++ pbs [x] g) false → Q (.inl none) h') : Wc (d + 3) 48 [vR (some 68), vI c] h Q := by
  have ep : pbs [x] g = (if g = true then [] else [32]) ++ [c] := by show psp g x ++ (ptk x ++ []) = _; rw [psp_n e2, e1]; simp
  rw [ep] at hl k
  refine se_X0_printSign X.1 ?_
  refine c_blank X (by simp at hl; omega) (fun h1 F1 x1 => ?_)
  refine ss_X0_printSign_4 x1.1 ?_
  refine c_emit x1 hc (by simp at hl ⊢; omega) (fun h2 F2 x2 => ?_)
  rw [List.append_assoc] at x2
  exact k h2 (FP_trans F1 F2) x2
theorem c_pOpen {d : Nat} {Q : qt} {h : hp} {O : List Int} {g : Bool} {c : Int} {x : Nat × Nat} (X : Xp h O g) (hc : 32 ≤ c ∧ c ≤ 126) (e1 : ptk x = [c]) (e2 : pcl x = false) (hl : (O ++ pbs [x] g).length ≤ 6000) (k : ∀ h', FP h h' → Xp h' (O ++ pbs [x] g) true → Q (.inl none) h') : Wc (d + 4) 49 [vR (some 68), vI c] h Q := by
  have ep : pbs [x] g = (if g = true then [] else [32]) ++ [c] := by show psp g x ++ (ptk x ++ []) = _; rw [psp_n e2, e1]; simp
  rw [ep] at hl k
  refine se_X0_printOpen X.1 ?_
  refine se_X0_printSign X.1 ?_
  refine c_blank X (by simp at hl; omega) (fun h1 F1 x1 => ?_)
  refine ss_X0_printSign_4 x1.1 ?_
  refine c_emit x1 hc (by simp at hl ⊢; omega) (fun h2 F2 x2 => ?_)
  refine ss_X0_printOpen_5 x2.1 ?_
  rw [List.append_assoc] at x2
  have := Xp_g (g' := true) x2
  exact k _ (FP_trans F1 (FP_trans F2 this.2)) this.1
theorem c_pJoin {d : Nat} {Q : qt} {h : hp} {O : List Int} {g : Bool} {c : Int} {x : Nat × Nat} (X : Xp h O g) (hc : 32 ≤ c ∧ c ≤ 126) (e1 : ptk x = [c]) (e2 : pcl x = true) (hl : (O ++ pbs [x] g).length ≤ 6000) (k : ∀ h', FP h h' → Xp h' (O ++ pbs [x] g) true → Q (.inl none) h') : Wc (d + 2) 50 [vR (some 68), vI c] h Q := by
  have ep : pbs [x] g = [c] := by show psp g x ++ (ptk x ++ []) = _; rw [psp_c e2, e1]; simp
  rw [ep] at hl k
  refine se_X0_printJoined X.1 ?_
  refine c_emit X hc (by simp at hl; omega) (fun h2 F2 x2 => ?_)
  refine ss_X0_printJoined_5 x2.1 ?_
  have := Xp_g (g' := true) x2
  exact k _ (FP_trans F2 this.2) this.1
theorem c_pBehind {d : Nat} {Q : qt} {h : hp} {O : List Int} {g : Bool} {c : Int} {x : Nat × Nat} (X : Xp h O g) (hc : 32 ≤ c ∧ c ≤ 126) (e1 : ptk x = [c]) (e2 : pcl x = true) (hl : (O ++ pbs [x] g).length ≤ 6000) (k : ∀ h', FP h h' → Xp h' (O ++ pbs [x] g) false → Q (.inl none) h') : Wc (d + 2) 52 [vR (some 68), vI c] h Q := by
  have ep : pbs [x] g = [c] := by show psp g x ++ (ptk x ++ []) = _; rw [psp_c e2, e1]; simp
  rw [ep] at hl k
  refine se_X0_printBehind X.1 ?_
  refine c_emit X hc (by simp at hl; omega) (fun h2 F2 x2 => ?_)
  refine ss_X0_printBehind_5 x2.1 ?_
  have := Xp_g (g' := false) x2
  exact k _ (FP_trans F2 this.2) this.1
