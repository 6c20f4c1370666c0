/-! St and frames -/
theorem sxL_lt : ∀ p ∈ sxL, p.1 + 1 < 68 := by decide
theorem tgL_lt : ∀ p ∈ tgL, p.1 < 145 := by decide
theorem rfL_lt : ∀ p ∈ rfL, p.1 < 145 := by decide
/-- the places of references that change -/
def okRf (a j : Nat) : Prop := (a = 68 ∧ j = 29) ∨ a = 72 ∨ (102 ≤ a ∧ a ≤ 115) ∨ 145 ≤ a
theorem rfL_ok : ∀ p ∈ rfL, (p.1 = 68 ∧ p.2.1 ≠ 29) ∨ p.1 = 71 ∨ p.1 = 75 ∨ p.1 = 78 ∨ p.1 = 116 := by decide
theorem St_sI {h : hp} (hS : St h) {a j : Nat} {x : Int} (ha : 68 ≤ a ∧ (a < 85 ∨ 101 < a)) : St (sI h a j x) := by
  refine ⟨hS.1, hS.2.1, hS.2.2.1, fun p hp => ?_, fun k hk => ?_⟩
  · have h1 := sxL_lt p hp
    obtain ⟨e1, e2, e3, e4, e5⟩ := hS.2.2.2.1 p hp
    refine ⟨e1, e2, ?_, e4, fun i hi => ?_⟩
    · rw [hI_sI, if_neg (by omega)]; exact e3
    · rw [hI_sI, if_neg (by omega)]; exact e5 i hi
  · rw [hI_sI, if_neg (by omega)]; exact hS.2.2.2.2 k hk
theorem St_sL {h : hp} (hS : St h) {a j : Nat} {x : Int} : St (sL h a j x) := hS
theorem St_sR {h : hp} (hS : St h) {a j : Nat} {x : Option Nat} (ha : okRf a j) : St (sR h a j x) := by
  refine ⟨hS.1, hS.2.1, fun p hp => ?_, fun p hp => ?_, hS.2.2.2.2⟩
  · have h1 := rfL_ok p hp
    rw [hR_sR, if_neg (by unfold okRf at ha; omega)]
    exact hS.2.2.1 p hp
  · have h1 := sxL_lt p hp
    obtain ⟨e1, e2, e3, e4, e5⟩ := hS.2.2.2.1 p hp
    refine ⟨e1, ?_, e3, e4, e5⟩
    rw [hR_sR, if_neg (by unfold okRf at ha; omega)]
    exact e2
theorem St_new {h : hp} (hS : St h) {k n c : Nat} : St (hNew h k n c) := by
  have h0 := hS.1
  refine ⟨by rw [hN_new]; omega, fun p hp => ?_, fun p hp => ?_, fun p hp => ?_, fun i hi => ?_⟩
  · have := tgL_lt p hp
    rw [hT_new (by omega)]; exact hS.2.1 p hp
  · have := rfL_lt p hp
    rw [hR_new (by omega)]; exact hS.2.2.1 p hp
  · have h1 := sxL_lt p hp
    obtain ⟨e1, e2, e3, e4, e5⟩ := hS.2.2.2.1 p hp
    refine ⟨by rw [hT_new (by omega)]; exact e1, by rw [hR_new (by omega)]; exact e2, by rw [hI_new (by omega)]; exact e3, by rw [hT_new (by omega)]; exact e4, fun j hj => by rw [hI_new (by omega)]; exact e5 j hj⟩
  · rw [hI_new (by omega)]; exact hS.2.2.2.2 i hi
/-- fields xj of x, fields mj of m and the arrays of as may change -/
def pG (xj mj as : List Nat) (a j : Nat) : Bool := (a == 68 && xj.contains j) || ((a == 116 && mj.contains j) || as.contains a)
def okA (as : List Nat) : Bool := as.all (fun a => decide (68 < a) && ((decide (a < 85) || decide (101 < a)) && decide (a < 145)))
def FI (xj mj as : List Nat) (h h' : hp) : Prop := hN h' = hN h ∧ hU h' = hU h ∧ hT h' = hT h ∧ hL h' = hL h ∧ hR h' = hR h ∧ ∀ a j, pG xj mj as a j = false → hI h' a j = hI h a j
theorem FI_refl {xj mj as : List Nat} (h : hp) : FI xj mj as h h := ⟨rfl, rfl, rfl, rfl, rfl, fun _ _ _ => rfl⟩
theorem FI_trans {xj mj as : List Nat} {h h1 h2 : hp} (a : FI xj mj as h h1) (b : FI xj mj as h1 h2) : FI xj mj as h h2 :=
  ⟨b.1.trans a.1, b.2.1.trans a.2.1, b.2.2.1.trans a.2.2.1, b.2.2.2.1.trans a.2.2.2.1, b.2.2.2.2.1.trans a.2.2.2.2.1, fun c j hp => (b.2.2.2.2.2 c j hp).trans (a.2.2.2.2.2 c j hp)⟩
theorem pG_mono {xj mj as xj2 mj2 as2 : List Nat} (h1 : ∀ j ∈ xj, j ∈ xj2) (h2 : ∀ j ∈ mj, j ∈ mj2) (h3 : ∀ j ∈ as, j ∈ as2) {a j : Nat} (hp : pG xj2 mj2 as2 a j = false) : pG xj mj as a j = false := by
  unfold pG at hp ⊢
  simp only [Bool.or_eq_false_iff, Bool.and_eq_false_iff, beq_eq_false_iff_ne, List.contains_eq_mem, decide_eq_false_iff_not] at hp ⊢
  obtain ⟨p1, p2, p3⟩ := hp
  exact ⟨p1.imp id (fun q r => q (h1 _ r)), p2.imp id (fun q r => q (h2 _ r)), fun r => p3 (h3 _ r)⟩
theorem FI_mono {xj mj as xj2 mj2 as2 : List Nat} {h h' : hp} (a : FI xj mj as h h') (h1 : ∀ j ∈ xj, j ∈ xj2) (h2 : ∀ j ∈ mj, j ∈ mj2) (h3 : ∀ j ∈ as, j ∈ as2) : FI xj2 mj2 as2 h h' :=
  ⟨a.1, a.2.1, a.2.2.1, a.2.2.2.1, a.2.2.2.2.1, fun c j hp => a.2.2.2.2.2 c j (pG_mono h1 h2 h3 hp)⟩
theorem FI_sI {xj mj as : List Nat} {h h' : hp} (a : FI xj mj as h h') {b j : Nat} {x : Int} (hp : pG xj mj as b j = true) : FI xj mj as h (sI h' b j x) :=
  ⟨a.1, a.2.1, a.2.2.1, a.2.2.2.1, a.2.2.2.2.1, fun c i hq => by
    rw [hI_sI, if_neg (by rintro ⟨rfl, rfl⟩; rw [hp] at hq; cases hq)]; exact a.2.2.2.2.2 c i hq⟩
theorem FI_i {xj mj as : List Nat} {h h' : hp} (a : FI xj mj as h h') {b j : Nat} (hp : pG xj mj as b j = false) : hI h' b j = hI h b j := a.2.2.2.2.2 b j hp
theorem pG_st {xj mj as : List Nat} (ho : okA as = true) {a j : Nat} (ha : a < 68 ∨ (85 ≤ a ∧ a ≤ 101)) : pG xj mj as a j = false := by
  unfold pG
  simp only [Bool.or_eq_false_iff, Bool.and_eq_false_iff, beq_eq_false_iff_ne, List.contains_eq_mem, decide_eq_false_iff_not]
  refine ⟨Or.inl (by omega), Or.inl (by omega), fun hm => ?_⟩
  have h1 := List.all_eq_true.mp ho a hm
  simp only [Bool.and_eq_true, Bool.or_eq_true, decide_eq_true_eq] at h1
  omega
theorem FI_St {xj mj as : List Nat} {h h' : hp} (a : FI xj mj as h h') (hS : St h) (ho : okA as = true) : St h' := by
  obtain ⟨a1, a2, a3, a4, a5, a6⟩ := a
  refine ⟨by rw [a1]; exact hS.1, by rw [a3]; exact hS.2.1, by rw [a5]; exact hS.2.2.1, fun p hp => ?_, fun k hk => ?_⟩
  · have h1 := sxL_lt p hp
    obtain ⟨e1, e2, e3, e4, e5⟩ := hS.2.2.2.1 p hp
    refine ⟨by rw [a3]; exact e1, by rw [a5]; exact e2, ?_, by rw [a3]; exact e4, fun i hi => ?_⟩
    · rw [a6 _ _ (pG_st ho (by omega))]; exact e3
    · rw [a6 _ _ (pG_st ho (by omega))]; exact e5 i hi
  · rw [a6 _ _ (pG_st ho (by omega))]; exact hS.2.2.2.2 k hk
theorem ip {c A B : Prop} [Decidable c] (hc : c) (k : A) : if c then A else B := by rw [if_pos hc]; exact k
theorem im {c A B : Prop} [Decidable c] (hc : ¬ c) (k : B) : if c then A else B := by rw [if_neg hc]; exact k
/-! short calls -/
def bI (b : Bool) : Int := if b then 1 else 0
theorem bI_t : bI true = 1 := rfl
theorem bI_f : bI false = 0 := rfl
theorem bI_01 (b : Bool) : bI b = 0 ∨ bI b = 1 := by cases b; exact Or.inl rfl; exact Or.inr rfl
theorem bI_z (b : Bool) : (bI b = 0) = (b = false) := by cases b <;> simp [bI]
theorem bI_o (b : Bool) : (bI b = 1) = (b = true) := by cases b <;> simp [bI]
theorem pu_isIn {d : Nat} {Q : qt} {h : hp} {v lo hi : Int} (hS : St h) (k : Q (.inl (some (vI (bI (decide (lo ≤ v) && decide (v ≤ hi)))))) h) : Wc (d + 1) 2 [vJ v, vJ lo, vJ hi] h Q := by
  refine se_X0_isIn hS ?_
  by_cases h1 : v < lo
  · rw [if_pos h1]; rw [decide_eq_false (by omega : ¬ lo ≤ v)] at k; exact k
  · rw [if_neg h1]
    by_cases h2 : hi < v
    · rw [if_pos h2]; rw [decide_eq_false (by omega : ¬ v ≤ hi), Bool.and_false] at k; exact k
    · rw [if_neg h2]; rw [decide_eq_true (by omega : lo ≤ v), decide_eq_true (by omega : v ≤ hi)] at k; exact k
theorem pu_in {d : Nat} {Q : qt} {h : hp} {v lo hi : Int} (hS : St h) (k : Q (.inl (some (vI (bI (decide (lo ≤ v) && decide (v ≤ hi)))))) h) : Wc (d + 1) 108 [vI v, vI lo, vI hi] h Q := by
  refine se_X4_in hS ?_
  by_cases h1 : v < lo
  · rw [if_pos h1]; rw [decide_eq_false (by omega : ¬ lo ≤ v)] at k; exact k
  · rw [if_neg h1]
    by_cases h2 : hi < v
    · rw [if_pos h2]; rw [decide_eq_false (by omega : ¬ v ≤ hi), Bool.and_false] at k; exact k
    · rw [if_neg h2]; rw [decide_eq_true (by omega : lo ≤ v), decide_eq_true (by omega : v ≤ hi)] at k; exact k
theorem pu_isSmall {d : Nat} {Q : qt} {h : hp} {v : Int} (hS : St h) (k : Q (.inl (some (vI (bI (bSm v))))) h) : Wc (d + 1) 7 [vI v] h Q := by
  refine se_X0_isSmall hS ?_
  unfold bSm at k
  by_cases h1 : v < 97
  · rw [if_pos h1]; rw [decide_eq_false (by omega : ¬ 97 ≤ v)] at k; exact k
  · rw [if_neg h1]
    by_cases h2 : 122 < v
    · rw [if_pos h2]; rw [decide_eq_false (by omega : ¬ v ≤ 122), Bool.and_false] at k; exact k
    · rw [if_neg h2]; rw [decide_eq_true (by omega : 97 ≤ v), decide_eq_true (by omega : v ≤ 122)] at k; exact k
theorem pu_isDigit {d : Nat} {Q : qt} {h : hp} {v : Int} (hS : St h) (k : Q (.inl (some (vI (bI (bDg v))))) h) : Wc (d + 1) 8 [vI v] h Q := by
  refine se_X0_isDigit hS ?_
  unfold bDg at k
  by_cases h1 : v < 48
  · rw [if_pos h1]; rw [decide_eq_false (by omega : ¬ 48 ≤ v)] at k; exact k
  · rw [if_neg h1]
    by_cases h2 : 57 < v
    · rw [if_pos h2]; rw [decide_eq_false (by omega : ¬ v ≤ 57), Bool.and_false] at k; exact k
    · rw [if_neg h2]; rw [decide_eq_true (by omega : 48 ≤ v), decide_eq_true (by omega : v ≤ 57)] at k; exact k
theorem pu_mIsLetter {d : Nat} {Q : qt} {h : hp} {v : Int} (hS : St h) (k : Q (.inl (some (vI (bI (bSm v))))) h) : Wc (d + 2) 114 [vI v] h Q :=
  se_X4_isLetter hS (pu_in hS ⟨bI_01 _, k⟩)
theorem pu_mIsDigit {d : Nat} {Q : qt} {h : hp} {v : Int} (hS : St h) (k : Q (.inl (some (vI (bI (bDg v))))) h) : Wc (d + 2) 116 [vI v] h Q :=
  se_X4_isDigit hS (pu_in hS ⟨bI_01 _, k⟩)
theorem pu_isRoutine {d : Nat} {Q : qt} {h : hp} {v : Int} (hS : St h) (k : Q (.inl (some (vI (bI (decide (0 ≤ v) && decide (v ≤ 9)))))) h) : Wc (d + 2) 4 [vI v] h Q :=
  se_X0_isRoutine hS (pu_isIn hS ⟨bI_01 _, k⟩)
theorem pu_isName {d : Nat} {Q : qt} {h : hp} {v : Int} (hS : St h) (k : Q (.inl (some (vI (bI (decide (0 ≤ v) && decide (v ≤ 25)))))) h) : Wc (d + 2) 66 [vI v] h Q :=
  se_X0_isName hS (pu_isIn hS ⟨bI_01 _, k⟩)
theorem pu_isRow {d : Nat} {Q : qt} {h : hp} {v : Int} (hS : St h) (k : Q (.inl (some (vI (bI (decide (0 ≤ v) && decide (v ≤ 5)))))) h) : Wc (d + 2) 70 [vI v] h Q :=
  se_X0_isRow hS (pu_isIn hS ⟨bI_01 _, k⟩)
theorem pu_isPlace {d : Nat} {Q : qt} {h : hp} {v : Int} (hS : St h) (k : Q (.inl (some (vI (bI (decide (0 ≤ v) && decide (v ≤ 7)))))) h) : Wc (d + 2) 89 [vI v] h Q :=
  se_X0_isPlace hS (pu_isIn hS ⟨bI_01 _, k⟩)
theorem pu_mIsRoutine {d : Nat} {Q : qt} {h : hp} {v : Int} (hS : St h) (k : Q (.inl (some (vI (bI (decide (0 ≤ v) && decide (v ≤ 9)))))) h) : Wc (d + 2) 110 [vI v] h Q :=
  se_X4_isRoutine hS (pu_in hS ⟨bI_01 _, k⟩)
theorem pu_mIsPlace {d : Nat} {Q : qt} {h : hp} {v : Int} (hS : St h) (k : Q (.inl (some (vI (bI (decide (0 ≤ v) && decide (v ≤ 7)))))) h) : Wc (d + 2) 223 [vI v] h Q :=
  se_X4_isPlace hS (pu_in hS ⟨bI_01 _, k⟩)
theorem pu_isSum {d : Nat} {Q : qt} {h : hp} {s w : Int} (hS : St h) (k : Q (.inl (some (vI (bI (decide (s = 7) && (decide (w = 43) || (decide (w = 45) || (decide (w = 94) || decide (w = 124))))))))) h) : Wc (d + 1) 165 [vI s, vI w] h Q := by
  refine se_X4_isSum hS ?_
  by_cases h0 : s = 7
  · rw [if_pos h0]
    rw [decide_eq_true h0, Bool.true_and] at k
    by_cases h1 : w = 43
    · rw [if_pos h1]; rw [decide_eq_true h1, Bool.true_or] at k; exact k
    · rw [if_neg h1]; rw [decide_eq_false h1, Bool.false_or] at k
      by_cases h2 : w = 45
      · rw [if_pos h2]; rw [decide_eq_true h2, Bool.true_or] at k; exact k
      · rw [if_neg h2]; rw [decide_eq_false h2, Bool.false_or] at k
        by_cases h3 : w = 94
        · rw [if_pos h3]; rw [decide_eq_true h3, Bool.true_or] at k; exact k
        · rw [if_neg h3]; rw [decide_eq_false h3, Bool.false_or] at k
          by_cases h4 : w = 124
          · rw [if_pos h4]; rw [decide_eq_true h4] at k; exact k
          · rw [if_neg h4]; rw [decide_eq_false h4] at k; exact k
  · rw [if_neg h0]; rw [decide_eq_false h0, Bool.false_and] at k; exact k
theorem pu_twoOf {d : Nat} {Q : qt} {h : hp} {c e : Int} (hS : St h) (k : Q (.inl (some (vI (match bTwo c e with | some i => (i : Int) | none => -1)))) h) : Wc (d + 1) 117 [vI c, vI e] h Q := by
  refine se_X4_twoOf hS ?_
  unfold bTwo at k
  by_cases h1 : e = 61
  · rw [if_pos h1]
    simp only [if_pos h1] at k
    by_cases h2 : c = 43
    · rw [if_pos h2]; simp only [if_pos h2] at k; exact ss_X4_twoOf_37 hS k
    · rw [if_neg h2]; simp only [if_neg h2] at k
      by_cases h3 : c = 45
      · rw [if_pos h3]; simp only [if_pos h3] at k; exact ss_X4_twoOf_37 hS k
      · rw [if_neg h3]; simp only [if_neg h3] at k
        by_cases h4 : c = 94
        · rw [if_pos h4]; simp only [if_pos h4] at k; exact ss_X4_twoOf_37 hS k
        · rw [if_neg h4]; simp only [if_neg h4] at k; exact ss_X4_twoOf_37 hS k
  · rw [if_neg h1]
    simp only [if_neg h1] at k
    have e3 : ∀ {b : Bool}, (¬ (c = 60 ∧ e = 62)) → ¬ (c = 60 ∧ e = 60) → Wp d C_X4_twoOf Q 70 [vI c, vI e] [] h := by
      intro _ n1 n2
      simp only [if_neg n1, if_neg n2] at k
      refine ss_X4_twoOf_70 hS ?_
      by_cases h2 : c = 62
      · rw [if_pos h2]
        by_cases h3 : e = 62
        · rw [if_pos h3]; simp only [if_pos (And.intro h2 h3)] at k; exact ss_X4_twoOf_87 hS k
        · rw [if_neg h3]; simp only [if_neg (fun q : c = 62 ∧ e = 62 => h3 q.2)] at k; exact ss_X4_twoOf_86 hS (ss_X4_twoOf_87 hS k)
      · rw [if_neg h2]; simp only [if_neg (fun q : c = 62 ∧ e = 62 => h2 q.1)] at k; exact ss_X4_twoOf_86 hS (ss_X4_twoOf_87 hS k)
    have e2 : (¬ (c = 60 ∧ e = 62)) → Wp d C_X4_twoOf Q 54 [vI c, vI e] [] h := by
      intro n1
      refine ss_X4_twoOf_54 hS ?_
      by_cases h2 : c = 60
      · rw [if_pos h2]
        by_cases h3 : e = 60
        · rw [if_pos h3]; simp only [if_neg n1, if_pos (And.intro h2 h3)] at k; exact ss_X4_twoOf_87 hS k
        · rw [if_neg h3]; exact e3 (b := true) n1 (fun q => h3 q.2)
      · rw [if_neg h2]; exact e3 (b := true) n1 (fun q => h2 q.1)
    by_cases h2 : c = 60
    · rw [if_pos h2]
      by_cases h3 : e = 62
      · rw [if_pos h3]; simp only [if_pos (And.intro h2 h3)] at k; exact ss_X4_twoOf_87 hS k
      · rw [if_neg h3]; exact e2 (fun q => h3 q.2)
    · rw [if_neg h2]; exact e2 (fun q => h2 q.1)
