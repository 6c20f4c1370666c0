/-! a text's steps are all of one sort -/
theorem pOne_g {c o : Nat} {L : List zTk} {t : zT} {M : List zTk} {c1 o1 : Nat} (hL : Lok L) (hB : (phs 1 L || phs 3 L) = true ∨ (phs 5 L = true ∧ (pw L ≤ 7 ∨ pw L = 14))) (h : pOne c o L = some (.inr (t, M, c1, o1))) : o1 = o ∧ ∃ k l r, t = zB k l r ∧ (k = 114 ↔ pFgt L = true) := by
  unfold pOne at h
  split at h
  · rename_i p13
    have nf : pFgt L = false := by
      have : phs 5 L = false := by
        cases L with
        | nil => rfl
        | cons a L => obtain ⟨q, s, w⟩ := a; simp [phs] at p13 ⊢; omega
      unfold pFgt
      rw [this]; rfl
    obtain ⟨p, M1, e1, h⟩ := qE_inr h
    have g1 := (pP_good hL e1).1
    split at h
    · rename_i p6
      have w6 := (Lok_hd g1).2.2.2.2.2 p6
      split at h
      · obtain ⟨p2, M2, e2, h⟩ := qE_inr h
        obtain ⟨a1, a2, a3, a4, a5⟩ := qEnd_inr h
        exact ⟨a4, _, _, _, a1, by rw [nf]; simp⟩
      · obtain ⟨e, M2, e2, h⟩ := qE_inr h
        obtain ⟨a1, a2, a3, a4, a5⟩ := qEnd_inr h
        exact ⟨a4, _, _, _, a1, by rw [nf]; simp; omega⟩
    · cases h
  · rename_i n13
    have hB2 : phs 5 L = true ∧ (pw L ≤ 7 ∨ pw L = 14) := hB.resolve_left n13
    have fg : pFgt L = decide (pw L = 14) := by
      unfold pFgt
      rw [hB2.1, Bool.eq_iff_iff]
      simp
      omega
    split at h
    · split at h
      · obtain ⟨p2, h⟩ := qis_inr h
        obtain ⟨e, M2, e2, h⟩ := qE_inr h
        obtain ⟨a1, a2, a3, a4, a5⟩ := qEnd_inr h
        exact ⟨a4, _, _, _, a1, by rw [fg]; simp; omega⟩
      · cases h
    · split at h
      · split at h
        · split at h
          · obtain ⟨a1, a2, a3, a4, a5⟩ := qEnd_inr h
            exact ⟨a4, _, _, _, a1, by rw [fg]; simp; omega⟩
          · cases h
        · cases h
      · split at h
        · split at h
          · split at h
            · obtain ⟨e, M2, e2, h⟩ := qE_inr h
              obtain ⟨a1, a2, a3, a4, a5⟩ := qEnd_inr h
              exact ⟨a4, _, _, _, a1, by rw [fg]; simp; omega⟩
            · cases h
          · cases h
        · split at h
          · split at h
            · cases h
            · obtain ⟨a1, a2, a3, a4, a5⟩ := qEnd_inr h
              exact ⟨a4, _, _, _, a1, by rw [fg]; simp; omega⟩
          · cases h
theorem zun_of1 {b : Bool} {k : Nat} {l r : zT} (hk : ok1 k l r) (hb : k = 114 ↔ b = true) : zun b (zB k l r) := by
  have := ok1_k hk
  unfold zun
  rw [if_neg (by omega), if_neg (by omega), if_neg (by omega), if_neg (by omega)]
  split
  · rename_i q; exact hb.1 q
  · rename_i q; cases b with
    | false => rfl
    | true => exact absurd (hb.2 rfl) q
theorem pS_uni (f : Nat) : ∀ (m b c o : Nat) (L : List zTk) (t : zT) (M : List zTk) (c1 o1 : Nat), pS f m b c o L = some (.inr (t, M, c1, o1)) → m ≤ 2 → b ≤ 5 → c ≤ 40 → Lok L → (m = 1 → pBeg L = true ∧ pFgt L = (o == 1)) → (m ≠ 0 → o ≤ 1) → o ≤ 2 → o1 ≤ 2 ∧ (o ≤ 1 → o1 = o) ∧ (o1 = 2 → t = zL 0) ∧ (o1 ≤ 1 → zun (o1 == 1) t) := by
  induction f with
  | zero => intro m b c o L t M c1 o1 h; cases h
  | succ f ih =>
    intro m b c o L t M c1 o1 h hm hb hc hL hB ho1 ho2
    unfold pS at h
    split at h
    · rename_i m0
      subst m0
      split at h
      · rename_i pB
        split at h
        · cases h
        · rename_i nO
          obtain ⟨s, M1, c2, o2, e1, h⟩ := qBnd_inr h
          obtain ⟨t2, M2, c3, o3, e2, h⟩ := qBnd_inr h
          cases h
          have K1 := pS_ok f _ _ _ _ _ _ _ _ _ e1 (by decide) hb hc hL (fun _ => pB)
          have ho' : (if pFgt L = true then 1 else 0) ≤ 1 := by split <;> decide
          have X := ih _ _ _ _ _ _ _ _ _ e1 (by decide) hb hc hL (fun _ => ⟨pB, by cases pFgt L <;> rfl⟩) (fun _ => ho') (by omega)
          have x2 := X.2.1 ho'
          have Y := ih _ _ _ _ _ _ _ _ _ e2 (by decide) hb K1.2.2.2.1 K1.2.1 (fun z => absurd z (by decide)) (fun z => absurd rfl z) (by omega)
          have y2 := Y.2.1 (by omega)
          refine ⟨by omega, fun z => ?_, fun z => absurd z (by omega), fun z => ⟨?_, Y.2.2.2 z⟩⟩
          · rw [y2, x2]
            have nO' : (o == 1) = pFgt L := by
              cases q : decide ((o == 1) = pFgt L) with
              | true => exact of_decide_eq_true q
              | false => exact absurd ⟨by omega, of_decide_eq_false q⟩ nO
            rw [← nO']
            have : o = 0 ∨ o = 1 := by omega
            rcases this with q | q <;> subst q <;> rfl
          · rw [y2]; exact X.2.2.2 (by omega)
      · cases h; exact ⟨ho2, fun _ => rfl, fun _ => rfl, fun _ => trivial⟩
    · split at h
      · rename_i m1
        subst m1
        obtain ⟨hB, hF⟩ := hB rfl
        have ho := ho1 (by decide)
        split at h
        · rename_i q8
          obtain ⟨e, M1, e1, h⟩ := qE_inr h
          have g1 := pE_good (Lok_tl hL) e1
          obtain ⟨p1, M2, c2, o2, e2, h⟩ := qBnd_inr h
          have K1 := pS_ok f _ _ _ _ _ _ _ _ _ e2 (by decide) hb hc g1.1 (fun z => absurd z (by decide))
          have X := ih _ _ _ _ _ _ _ _ _ e2 (by decide) hb hc g1.1 (fun z => absurd z (by decide)) (fun _ => ho) ho2
          have x2 := X.2.1 ho
          obtain ⟨q1, h⟩ := qis_inr h
          obtain ⟨p2, M3, c3, o3, e3, h⟩ := qBnd_inr h
          have Y := ih _ _ _ _ _ _ _ _ _ e3 (by decide) hb K1.2.2.2.1 (Lok_tl K1.2.1) (fun z => absurd z (by decide)) (fun _ => by omega) (by omega)
          have y2 := Y.2.1 (by omega)
          obtain ⟨q2, h⟩ := qis_inr h
          obtain ⟨e4, M4, e5, h⟩ := qE_inr h
          obtain ⟨v1, v2, v3, v4, v5⟩ := qEnd_inr h
          have hf : (o1 == 1) = false := by
            have : pFgt L = false := by
              simp at q8
              unfold pFgt
              rw [q8.1]
              simp
              omega
            rw [show o1 = o by omega, ← hF, this]
          have X3 := X.2.2.2 (by omega)
          have Y3 := Y.2.2.2 (by omega)
          rw [show o2 = o1 by omega, hf] at X3
          rw [show o3 = o1 by omega, hf] at Y3
          refine ⟨by omega, fun _ => by omega, fun z => absurd z (by omega), fun _ => ?_⟩
          rw [hf, v1]
          split
          · exact ⟨rfl, X3, Y3⟩
          · exact ⟨rfl, X3, Y3⟩
        · rename_i n1
          split at h
          · rename_i q15
            obtain ⟨e, M1, e1, h⟩ := qE_inr h
            have g1 := pE_good (Lok_tl hL) e1
            obtain ⟨p1, M2, c2, o2, e2, h⟩ := qBnd_inr h
            have X := ih _ _ _ _ _ _ _ _ _ e2 (by decide) hb hc g1.1 (fun z => absurd z (by decide)) (fun _ => ho) ho2
            have x2 := X.2.1 ho
            obtain ⟨v1, v2, v3, v4, v5⟩ := qEnd_inr h
            have hf : (o1 == 1) = true := by
              have : pFgt L = true := by
                simp at q15
                unfold pFgt
                rw [q15.1, q15.2]; rfl
              rw [show o1 = o by omega, ← hF, this]
            have X3 := X.2.2.2 (by omega)
            rw [show o2 = o1 by omega, hf] at X3
            refine ⟨by omega, fun _ => by omega, fun z => absurd z (by omega), fun _ => ?_⟩
            rw [hf, v1]
            exact ⟨rfl, X3⟩
          · rename_i n2
            split at h
            · rename_i q16
              obtain ⟨e, M1, e1, h⟩ := qE_inr h
              have g1 := pE_good (Lok_tl hL) e1
              obtain ⟨p1, M2, c2, o2, e2, h⟩ := qBnd_inr h
              have K1 := pS_ok f _ _ _ _ _ _ _ _ _ e2 (by decide) hb hc g1.1 (fun z => absurd z (by decide))
              have X := ih _ _ _ _ _ _ _ _ _ e2 (by decide) hb hc g1.1 (fun z => absurd z (by decide)) (fun _ => ho) ho2
              have x2 := X.2.1 ho
              obtain ⟨q1, h⟩ := qis_inr h
              obtain ⟨p2, M3, c3, o3, e3, h⟩ := qBnd_inr h
              have Y := ih _ _ _ _ _ _ _ _ _ e3 (by decide) hb K1.2.2.2.1 (Lok_tl K1.2.1) (fun z => absurd z (by decide)) (fun _ => by omega) (by omega)
              have y2 := Y.2.1 (by omega)
              obtain ⟨v1, v2, v3, v4, v5⟩ := qEnd_inr h
              have hf : (o1 == 1) = true := by
                have : pFgt L = true := by
                  simp at q16
                  unfold pFgt
                  rw [q16.1, q16.2]; rfl
                rw [show o1 = o by omega, ← hF, this]
              have X3 := X.2.2.2 (by omega)
              have Y3 := Y.2.2.2 (by omega)
              rw [show o2 = o1 by omega, hf] at X3
              rw [show o3 = o1 by omega, hf] at Y3
              refine ⟨by omega, fun _ => by omega, fun z => absurd z (by omega), fun _ => ?_⟩
              rw [hf, v1]
              exact ⟨rfl, X3, Y3⟩
            · rename_i n3
              have hB2 : (phs 1 L || phs 3 L) = true ∨ (phs 5 L = true ∧ (pw L ≤ 7 ∨ pw L = 14)) := by
                unfold pBeg at hB
                cases a : (phs 1 L || phs 3 L) with
                | true => exact Or.inl rfl
                | false =>
                  right
                  rw [a] at hB
                  cases a5 : phs 5 L with
                  | false => rw [a5] at hB; cases hB
                  | true =>
                    rw [a5] at hB n1 n2 n3
                    simp at hB n1 n2 n3
                    exact ⟨rfl, by omega⟩
              obtain ⟨w1, w2, w3, k, l, r, w4, w5⟩ := pOne_ok hL hB2 h
              obtain ⟨u1, k', l', r', u2, u3⟩ := pOne_g hL hB2 h
              rw [w4] at u2
              cases u2
              refine ⟨by omega, fun _ => u1, fun z => absurd z (by omega), fun _ => ?_⟩
              rw [w4, u1, ← hF]
              exact zun_of1 w5 u3
      · rename_i m0 m1
        have m2 : m = 2 := by omega
        subst m2
        have ho := ho1 (by decide)
        split at h
        · split at h
          · cases h
          · rename_i nb
            obtain ⟨t2, M2, c2, o2, e2, h⟩ := qBnd_inr h
            have X := ih _ _ _ _ _ _ _ _ _ e2 (by decide) (by omega) hc (Lok_tl hL) (fun z => absurd z (by decide)) (fun z => absurd rfl z) ho2
            split at h
            · cases h
              exact X
            · cases h
        · cases h
