/-! the trees of pS are good -/
theorem okS_0 {s t : zT} (h1 : okS s 1) (h2 : okS t 0) : okS (zcons s t) 0 ∧ zc (zcons s t) = zc s + zc t ∧ zbr (zcons s t) = max (zbr s) (zbr t) := ⟨⟨rfl, h1, h2⟩, rfl, rfl⟩
theorem pS_ok (f : Nat) : ∀ (m b c o : Nat) (L : List zTk) (t : zT) (M : List zTk) (c1 o1 : Nat), pS f m b c o L = some (.inr (t, M, c1, o1)) → m ≤ 2 → b ≤ 5 → c ≤ 40 → Lok L → (m = 1 → pBeg L = true) → okS t (if m = 1 then 1 else 0) ∧ Lok M ∧ c1 = c + zc t ∧ c1 ≤ 40 ∧ zbr t + b + (if m = 2 then 1 else 0) ≤ 5 := by
  induction f with
  | zero => intro m b c o L t M c1 o1 h; cases h
  | succ f ih =>
    intro m b c o L t M c1 o1 h hm hb hc hL hB
    unfold pS at h
    split at h
    · rename_i m0
      subst m0
      split at h
      · rename_i pB
        split at h
        · cases h
        · obtain ⟨s, M1, c2, o2, e1, h⟩ := qBnd_inr h
          obtain ⟨t2, M2, c3, o3, e2, h⟩ := qBnd_inr h
          cases h
          obtain ⟨x1, x2, x3, x4, x5⟩ := ih _ _ _ _ _ _ _ _ _ e1 (by decide) hb hc hL (fun _ => pB)
          obtain ⟨y1, y2, y3, y4, y5⟩ := ih _ _ _ _ _ _ _ _ _ e2 (by decide) hb x4 x2 (fun z => absurd z (by decide))
          obtain ⟨z1, z2, z3⟩ := okS_0 x1 y1
          have x5' : zbr s + b ≤ 5 := x5
          have y5' : zbr t2 + b ≤ 5 := y5
          exact ⟨z1, y2, by omega, y4, by show zbr (zcons s t2) + b ≤ 5; omega⟩
      · cases h; exact ⟨rfl, hL, rfl, hc, by show 0 + b ≤ 5; omega⟩
    · split at h
      · rename_i m1
        subst m1
        have hB := hB rfl
        split at h
        · obtain ⟨e, M1, e1, h⟩ := qE_inr h
          have g1 := pE_good (Lok_tl hL) e1
          obtain ⟨p1, M2, c2, o2, e2, h⟩ := qBnd_inr h
          obtain ⟨x1, x2, x3, x4, x5⟩ := ih _ _ _ _ _ _ _ _ _ e2 (by decide) hb hc g1.1 (fun z => absurd z (by decide))
          obtain ⟨q1, h⟩ := qis_inr h
          obtain ⟨p2, M3, c3, o3, e3, h⟩ := qBnd_inr h
          obtain ⟨y1, y2, y3, y4, y5⟩ := ih _ _ _ _ _ _ _ _ _ e3 (by decide) hb x4 (Lok_tl x2) (fun z => absurd z (by decide))
          obtain ⟨q2, h⟩ := qis_inr h
          obtain ⟨e4, M4, e5, h⟩ := qE_inr h
          have g2 := pE_good (Lok_tl y2) e5
          obtain ⟨v1, v2, v3, v4, v5⟩ := qEnd_inr2 h
          subst v2
          have x5' : zbr p1 + b + 1 ≤ 5 := x5
          have y5' : zbr p2 + b + 1 ≤ 5 := y5
          split at v1
          · subst v1
            exact ⟨⟨⟨g1.2.1, g1.2.2.1⟩, rfl, x1, rfl, y1, g2.2.1, g2.2.2.1⟩, Lok_tl g2.1, by show c1 = c + (3 + (zc p1 + zc p2)); omega, v4, by show 1 + max (zbr p1) (zbr p2) + b ≤ 5; omega⟩
          · subst v1
            exact ⟨⟨⟨g1.2.1, g1.2.2.1⟩, rfl, x1, rfl, y1, g2.2.1, g2.2.2.1⟩, Lok_tl g2.1, by show c1 = c + (3 + (zc p1 + zc p2)); omega, v4, by show 1 + max (zbr p1) (zbr p2) + b ≤ 5; omega⟩
        · rename_i n1
          split at h
          · obtain ⟨e, M1, e1, h⟩ := qE_inr h
            have g1 := pE_good (Lok_tl hL) e1
            obtain ⟨p1, M2, c2, o2, e2, h⟩ := qBnd_inr h
            obtain ⟨x1, x2, x3, x4, x5⟩ := ih _ _ _ _ _ _ _ _ _ e2 (by decide) hb hc g1.1 (fun z => absurd z (by decide))
            obtain ⟨v1, v2, v3, v4, v5⟩ := qEnd_inr2 h
            subst v2
            subst v1
            have x5' : zbr p1 + b + 1 ≤ 5 := x5
            exact ⟨⟨⟨g1.2.1, g1.2.2.1⟩, x1⟩, Lok_tl x2, by show c1 = c + (2 + zc p1); omega, v4, by show 1 + zbr p1 + b ≤ 5; omega⟩
          · rename_i n2
            split at h
            · obtain ⟨e, M1, e1, h⟩ := qE_inr h
              have g1 := pE_good (Lok_tl hL) e1
              obtain ⟨p1, M2, c2, o2, e2, h⟩ := qBnd_inr h
              obtain ⟨x1, x2, x3, x4, x5⟩ := ih _ _ _ _ _ _ _ _ _ e2 (by decide) hb hc g1.1 (fun z => absurd z (by decide))
              obtain ⟨q1, h⟩ := qis_inr h
              obtain ⟨p2, M3, c3, o3, e3, h⟩ := qBnd_inr h
              obtain ⟨y1, y2, y3, y4, y5⟩ := ih _ _ _ _ _ _ _ _ _ e3 (by decide) hb x4 (Lok_tl x2) (fun z => absurd z (by decide))
              obtain ⟨v1, v2, v3, v4, v5⟩ := qEnd_inr2 h
              subst v2
              subst v1
              have x5' : zbr p1 + b + 1 ≤ 5 := x5
              have y5' : zbr p2 + b + 1 ≤ 5 := y5
              exact ⟨⟨⟨g1.2.1, g1.2.2.1⟩, rfl, x1, y1⟩, Lok_tl y2, by show c1 = c + (3 + (zc p1 + zc p2)); omega, v4, by show 1 + max (zbr p1) (zbr p2) + b ≤ 5; omega⟩
            · rename_i n3
              have hB2 : (phs 1 L || phs 3 L) = true ∨ (phs 5 L = true ∧ (pw L ≤ 7 ∨ pw L = 14)) := by
                unfold pBeg at hB
                cases a : (phs 1 L || phs 3 L) with
                | true => exact Or.inl rfl
                | false =>
                  right
                  rw [a] at hB
                  cases a5 : phs 5 L with
                  | false => rw [a5] at hB; cases hB
                  | true =>
                    rw [a5] at hB n1 n2 n3
                    simp at hB n1 n2 n3
                    exact ⟨rfl, by omega⟩
              obtain ⟨w1, w2, w3, k, l, r, w4, w5⟩ := pOne_ok hL hB2 h
              subst w4
              obtain ⟨z1, z2, z3⟩ := ok1_S w5
              exact ⟨z1, w1, by omega, w3, by show zbr (zB k l r) + b ≤ 5; omega⟩
      · rename_i m0 m1
        have m2 : m = 2 := by omega
        subst m2
        split at h
        · split at h
          · cases h
          · rename_i nb
            obtain ⟨t2, M2, c2, o2, e2, h⟩ := qBnd_inr h
            obtain ⟨x1, x2, x3, x4, x5⟩ := ih _ _ _ _ _ _ _ _ _ e2 (by decide) (by omega) hc (Lok_tl hL) (fun z => absurd z (by decide))
            split at h
            · cases h
              have x5' : zbr t + (b + 1) ≤ 5 := x5
              exact ⟨x1, Lok_tl x2, x3, x4, by show zbr t + b + 1 ≤ 5; omega⟩
            · cases h
        · cases h
