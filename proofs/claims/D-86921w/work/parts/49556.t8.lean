/-! tests of while and when: at most eight brackets within one another -/
def zt8 : zT → Prop
  | .leaf _ => True
  | .branch k l r =>
    if k = 115 ∨ k = 116 then zdp l ≤ 8 ∧ zt8 r
    else if k = 150 ∨ k = 112 ∨ k = 117 ∨ k = 119 then zt8 l ∧ zt8 r
    else if k = 113 ∨ k = 118 then zt8 l
    else if k = 108 ∨ k = 111 then zt8 r
    else True
theorem pE_d8 {L M : List zTk} {e : zT} (hL : Lok L) (h : pE L = .inr (e, M)) : zdp e ≤ 8 := by
  obtain ⟨c1, c2, c3, c4, c5⟩ := pkE _ 0 0 (zL 0) L e M (by rw [(pE_eq L).1, h]) (by omega) (by omega) hL (fun z => by omega) (fun z => by omega) (fun z => by omega)
  omega
theorem t8_1 {k : Nat} {l r : zT} (h : ok1 k l r) : zt8 (zB k l r) := by
  have hk := ok1_k h
  unfold zt8
  rw [if_neg (by omega), if_neg (by omega), if_neg (by omega), if_neg (by omega)]
  trivial
theorem pS_t8 (f : Nat) : ∀ (m b c o : Nat) (L : List zTk) (t : zT) (M : List zTk) (c1 o1 : Nat), pS f m b c o L = some (.inr (t, M, c1, o1)) → m ≤ 2 → b ≤ 5 → c ≤ 40 → Lok L → (m = 1 → pBeg L = true) → zt8 t := by
  induction f with
  | zero => intro m b c o L t M c1 o1 h; cases h
  | succ f ih =>
    intro m b c o L t M c1 o1 h hm hb hc hL hB
    unfold pS at h
    split at h
    · rename_i m0
      subst m0
      split at h
      · rename_i pB
        split at h
        · cases h
        · obtain ⟨s, M1, c2, o2, e1, h⟩ := qBnd_inr h
          obtain ⟨t2, M2, c3, o3, e2, h⟩ := qBnd_inr h
          cases h
          obtain ⟨-, x2, -, x4, -⟩ := pS_ok _ _ _ _ _ _ _ _ _ _ e1 (by decide) hb hc hL (fun _ => pB)
          exact ⟨ih _ _ _ _ _ _ _ _ _ e1 (by decide) hb hc hL (fun _ => pB), ih _ _ _ _ _ _ _ _ _ e2 (by decide) hb x4 x2 (fun z => absurd z (by decide))⟩
      · cases h; exact trivial
    · split at h
      · rename_i m1
        subst m1
        have hB := hB rfl
        split at h
        · obtain ⟨e, M1, e1, h⟩ := qE_inr h
          have g1 := pE_good (Lok_tl hL) e1
          obtain ⟨p1, M2, c2, o2, e2, h⟩ := qBnd_inr h
          obtain ⟨-, x2, -, x4, -⟩ := pS_ok _ _ _ _ _ _ _ _ _ _ e2 (by decide) hb hc g1.1 (fun z => absurd z (by decide))
          have y1 := ih _ _ _ _ _ _ _ _ _ e2 (by decide) hb hc g1.1 (fun z => absurd z (by decide))
          obtain ⟨q1, h⟩ := qis_inr h
          obtain ⟨p2, M3, c3, o3, e3, h⟩ := qBnd_inr h
          have y2 := ih _ _ _ _ _ _ _ _ _ e3 (by decide) hb x4 (Lok_tl x2) (fun z => absurd z (by decide))
          obtain ⟨q2, h⟩ := qis_inr h
          obtain ⟨e4, M4, e5, h⟩ := qE_inr h
          obtain ⟨v1, v2, v3, v4, v5⟩ := qEnd_inr2 h
          split at v1
          · subst v1; exact ⟨y1, y2⟩
          · subst v1; exact ⟨y1, y2⟩
        · rename_i n1
          split at h
          · obtain ⟨e, M1, e1, h⟩ := qE_inr h
            have g1 := pE_good (Lok_tl hL) e1
            have g8 := pE_d8 (Lok_tl hL) e1
            obtain ⟨p1, M2, c2, o2, e2, h⟩ := qBnd_inr h
            have y1 := ih _ _ _ _ _ _ _ _ _ e2 (by decide) hb hc g1.1 (fun z => absurd z (by decide))
            obtain ⟨v1, v2, v3, v4, v5⟩ := qEnd_inr2 h
            subst v1
            exact ⟨g8, y1⟩
          · rename_i n2
            split at h
            · obtain ⟨e, M1, e1, h⟩ := qE_inr h
              have g1 := pE_good (Lok_tl hL) e1
              have g8 := pE_d8 (Lok_tl hL) e1
              obtain ⟨p1, M2, c2, o2, e2, h⟩ := qBnd_inr h
              obtain ⟨-, x2, -, x4, -⟩ := pS_ok _ _ _ _ _ _ _ _ _ _ e2 (by decide) hb hc g1.1 (fun z => absurd z (by decide))
              have y1 := ih _ _ _ _ _ _ _ _ _ e2 (by decide) hb hc g1.1 (fun z => absurd z (by decide))
              obtain ⟨q1, h⟩ := qis_inr h
              obtain ⟨p2, M3, c3, o3, e3, h⟩ := qBnd_inr h
              have y2 := ih _ _ _ _ _ _ _ _ _ e3 (by decide) hb x4 (Lok_tl x2) (fun z => absurd z (by decide))
              obtain ⟨v1, v2, v3, v4, v5⟩ := qEnd_inr2 h
              subst v1
              exact ⟨g8, y1, y2⟩
            · rename_i n3
              have hB2 : (phs 1 L || phs 3 L) = true ∨ (phs 5 L = true ∧ (pw L ≤ 7 ∨ pw L = 14)) := by
                unfold pBeg at hB
                cases a : (phs 1 L || phs 3 L) with
                | true => exact Or.inl rfl
                | false =>
                  right
                  rw [a] at hB
                  cases a5 : phs 5 L with
                  | false => rw [a5] at hB; cases hB
                  | true =>
                    rw [a5] at hB n1 n2 n3
                    simp at hB n1 n2 n3
                    exact ⟨rfl, by omega⟩
              obtain ⟨w1, w2, w3, k, l, r, w4, w5⟩ := pOne_ok hL hB2 h
              subst w4
              exact t8_1 w5
      · rename_i m0 m1
        have m2 : m = 2 := by omega
        subst m2
        split at h
        · split at h
          · cases h
          · rename_i nb
            obtain ⟨t2, M2, c2, o2, e2, h⟩ := qBnd_inr h
            have y1 := ih _ _ _ _ _ _ _ _ _ e2 (by decide) (by omega) hc (Lok_tl hL) (fun z => absurd z (by decide))
            split at h
            · cases h
              exact y1
            · cases h
        · cases h
theorem pRead_t8 {L : List zTk} {t : zT} (hL : Lok L) (h : pRead L = some (.inr t)) : zt8 t := by
  unfold pRead at h
  cases hp : pS (3 * L.length + 5) 0 0 0 2 L with
  | none => rw [hp] at h; cases h
  | some r =>
    rw [hp] at h
    cases r with
    | inl f => cases h
    | inr p =>
      obtain ⟨t1, M, c, o⟩ := p
      dsimp only at h
      split at h
      · cases h
        exact pS_t8 _ _ _ _ _ _ _ _ _ _ hp (by decide) (by decide) (by decide) hL (fun z => absurd z (by decide))
      · cases h
