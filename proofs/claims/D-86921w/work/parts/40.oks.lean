/-! STEPS THAT ARE READ are good -/
def okE (e : zT) : Prop := zok e 0 ∧ (zdp e ≤ 9 ∧ zlf e)
def okP (p : zT) : Prop := (∃ x, p = zNam x ∧ x < 26) ∨ (∃ x e, p = zB 3 (zL x) e ∧ x < 6 ∧ okE e)
def ok1 (k : Nat) (l r : zT) : Prop :=
  ((k = 100 ∨ k = 101 ∨ k = 114) ∧ (∃ x, l = zL x ∧ x < 26) ∧ okE r ∧ (k ≠ 114 → zhas (zn l) r = false))
  ∨ ((k = 102 ∨ k = 103) ∧ (∃ x, l = zL x ∧ x < 26) ∧ (∃ x, r = zL x ∧ x < 4))
  ∨ ((k = 104 ∨ k = 105) ∧ (∃ x, l = zL x ∧ x < 6) ∧ (∃ j e, r = zB j e (zL 0) ∧ 160 ≤ j ∧ j < 165 ∧ okE e ∧ zhas (26 + zn l) e = false))
  ∨ ((k = 106 ∨ k = 107) ∧ (∃ x, l = zL x ∧ x < 10) ∧ r = zL 0)
  ∨ (k = 133 ∧ okP l ∧ okP r)
  ∨ ((130 ≤ k ∧ k ≤ 135 ∧ k ≠ 133) ∧ okP l ∧ okE r ∧ (zg l == 1 && zhas (zn (zl l)) r) = false)
/-- m: 0 steps, 1 a step, 112 113 117 118 119 what lies within one -/
def okS : zT → Nat → Prop
  | .leaf _, m => m = 0
  | .branch k l r, m =>
    if m = 0 then k = 150 ∧ okS l 1 ∧ okS r 0
    else if m = 112 then k = 112 ∧ okS l 0 ∧ okS r 113
    else if m = 117 then k = 117 ∧ okS l 0 ∧ okS r 118
    else if m = 113 ∨ m = 118 then k = m ∧ okS l 0 ∧ okE r
    else if m = 119 then k = 119 ∧ okS l 0 ∧ okS r 0
    else if k = 108 then okE l ∧ okS r 112
    else if k = 111 then okE l ∧ okS r 117
    else if k = 115 then okE l ∧ okS r 0
    else if k = 116 then okE l ∧ okS r 119
    else ok1 k l r
theorem qEnd_inr2 {q more c o : Nat} {self : Bool} {s t : zT} {L M : List zTk} {c1 o1 : Nat} (h : qEnd q self more c o s L = some (.inr (t, M, c1, o1))) : t = s ∧ M = L.tail ∧ c1 = c + more ∧ c1 ≤ 40 ∧ self = false := by
  unfold qEnd at h
  split at h
  · split at h
    · cases h
    · rename_i z
      split at h
      · cases h
      · rename_i z2; cases h; exact ⟨rfl, rfl, rfl, by omega, by cases self <;> simp_all⟩
  · cases h
theorem pP_ok {L M : List zTk} {p : zT} (hL : Lok L) (h : pP L = .inr (p, M)) : okP p := by
  unfold pP at h
  obtain ⟨o1, o3, -⟩ := Lok_hd hL
  split at h
  · rename_i p1; cases h; exact Or.inl ⟨_, rfl, o1 p1⟩
  · split at h
    · rename_i p3
      split at h
      · cases hE : pE L.tail.tail with
        | inl f => rw [hE] at h; cases h
        | inr q =>
          obtain ⟨e, N⟩ := q
          rw [hE] at h
          have g := pE_good (Lok_tl (Lok_tl hL)) hE
          dsimp only at h
          split at h
          · cases h; exact Or.inr ⟨_, _, rfl, o3 p3, g.2.1, g.2.2.1⟩
          · cases h
      · cases h
    · cases h
theorem ok1_S {k : Nat} {l r : zT} (h : ok1 k l r) : okS (zB k l r) 1 ∧ zc (zB k l r) = 1 ∧ zbr (zB k l r) = 0 := by
  have hk : (100 ≤ k ∧ k ≤ 107) ∨ k = 114 ∨ (130 ≤ k ∧ k ≤ 135) := by
    rcases h with ⟨q, -⟩ | ⟨q, -⟩ | ⟨q, -⟩ | ⟨q, -⟩ | ⟨q, -⟩ | ⟨q, -⟩ <;> omega
  refine ⟨?_, ?_, ?_⟩
  · unfold okS
    rw [if_neg (by decide), if_neg (by decide), if_neg (by decide), if_neg (by decide), if_neg (by decide), if_neg (by omega), if_neg (by omega), if_neg (by omega), if_neg (by omega)]
    exact h
  · unfold zc
    rw [if_neg (by omega), if_neg (by omega), if_neg (by omega), if_neg (by omega)]
  · unfold zbr
    rw [if_neg (by omega), if_neg (by omega), if_neg (by omega)]
theorem pOne_ok {c o : Nat} {L : List zTk} {t : zT} {M : List zTk} {c1 o1 : Nat} (hL : Lok L) (hB : (phs 1 L || phs 3 L) = true ∨ (phs 5 L = true ∧ (pw L ≤ 7 ∨ pw L = 14))) (h : pOne c o L = some (.inr (t, M, c1, o1))) : Lok M ∧ c1 = c + 1 ∧ c1 ≤ 40 ∧ ∃ k l r, t = zB k l r ∧ ok1 k l r := by
  unfold pOne at h
  have T1 := Lok_tl hL
  have T2 := Lok_tl T1
  have T3 := Lok_tl T2
  split at h
  · obtain ⟨p, M1, e1, h⟩ := qE_inr h
    have k1 := pP_ok hL e1
    have g1 := (pP_good hL e1).1
    split at h
    · rename_i p6
      have w6 := (Lok_hd g1).2.2.2.2.2 p6
      split at h
      · obtain ⟨p2, M2, e2, h⟩ := qE_inr h
        have k2 := pP_ok (Lok_tl g1) e2
        have g2 := (pP_good (Lok_tl g1) e2).1
        obtain ⟨a1, a2, a3, a4, a5⟩ := qEnd_inr2 h
        subst a2; exact ⟨Lok_tl g2, a3, a4, _, _, _, a1, Or.inr (Or.inr (Or.inr (Or.inr (Or.inl ⟨rfl, k1, k2⟩))))⟩
      · obtain ⟨e, M2, e2, h⟩ := qE_inr h
        have g2 := pE_good (Lok_tl g1) e2
        obtain ⟨a1, a2, a3, a4, a5⟩ := qEnd_inr2 h
        subst a2; exact ⟨Lok_tl g2.1, a3, a4, _, _, _, a1, Or.inr (Or.inr (Or.inr (Or.inr (Or.inr ⟨by omega, k1, ⟨g2.2.1, g2.2.2.1⟩, a5⟩))))⟩
    · cases h
  · rename_i n13
    have hB2 : phs 5 L = true ∧ (pw L ≤ 7 ∨ pw L = 14) := hB.resolve_left n13
    split at h
    · rename_i hw
      split at h
      · rename_i p1
        have w1 := (Lok_hd T1).1 p1
        obtain ⟨p2, h⟩ := qis_inr h
        obtain ⟨e, M2, e2, h⟩ := qE_inr h
        have g2 := pE_good T3 e2
        obtain ⟨a1, a2, a3, a4, a5⟩ := qEnd_inr2 h
        subst a2
        refine ⟨Lok_tl g2.1, a3, a4, _, _, _, a1, Or.inl ⟨by omega, ⟨_, rfl, w1⟩, ⟨g2.2.1, g2.2.2.1⟩, fun z => ?_⟩⟩
        have z2 : pw L ≠ 14 := by omega
        simp [z2] at a5
        exact a5
      · cases h
    · split at h
      · rename_i hw
        split at h
        · rename_i p1
          have w1 := (Lok_hd T1).1 p1
          split at h
          · rename_i p2
            have w2 := (Lok_hd T2).2.2.1 p2
            obtain ⟨a1, a2, a3, a4, a5⟩ := qEnd_inr2 h
            subst a2; exact ⟨Lok_tl T3, a3, a4, _, _, _, a1, Or.inr (Or.inl ⟨by omega, ⟨_, rfl, w1⟩, ⟨_, rfl, w2⟩⟩)⟩
          · cases h
        · cases h
      · split at h
        · rename_i hw
          split at h
          · rename_i p1
            have w1 := (Lok_hd T1).2.1 p1
            split at h
            · rename_i p2
              simp at p2
              have w2 := (Lok_hd T2).2.2.2.2.1 p2.1
              obtain ⟨e, M2, e2, h⟩ := qE_inr h
              have g2 := pE_good T3 e2
              obtain ⟨a1, a2, a3, a4, a5⟩ := qEnd_inr2 h
              subst a2; exact ⟨Lok_tl g2.1, a3, a4, _, _, _, a1, Or.inr (Or.inr (Or.inl ⟨by omega, ⟨_, rfl, w1⟩, _, _, rfl, by omega, by omega, ⟨g2.2.1, g2.2.2.1⟩, a5⟩))⟩
            · cases h
          · cases h
        · split at h
          · rename_i p1
            split at h
            · cases h
            · obtain ⟨a1, a2, a3, a4, a5⟩ := qEnd_inr2 h
              subst a2; exact ⟨Lok_tl T2, a3, a4, _, _, _, a1, Or.inr (Or.inr (Or.inr (Or.inl ⟨by omega, ⟨_, rfl, by omega⟩, rfl⟩)))⟩
          · cases h
