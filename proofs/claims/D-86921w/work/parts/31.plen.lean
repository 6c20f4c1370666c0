/-! STEPS THAT ARE READ: lengths -/
theorem qEnd_inr {q more c o : Nat} {self : Bool} {s t : zT} {L M : List zTk} {c1 o1 : Nat} (h : qEnd q self more c o s L = some (.inr (t, M, c1, o1))) : t = s ∧ M = L.tail ∧ c1 = c + more ∧ o1 = o ∧ L.length = L.tail.length + 1 := by
  unfold qEnd at h
  split at h
  · rename_i p
    split at h
    · cases h
    · split at h
      · cases h
      · cases h; exact ⟨rfl, rfl, rfl, rfl, (pis_t p).2.2.2⟩
  · cases h
theorem qE_inr {x : zRes} {k : zT → List zTk → Option zRs} {y : zT × List zTk × Nat × Nat} (h : qE x k = some (.inr y)) : ∃ e M, x = .inr (e, M) ∧ k e M = some (.inr y) := by
  unfold qE at h
  split at h
  · cases h
  · exact ⟨_, _, rfl, h⟩
theorem qBnd_inr {x : Option zRs} {k : zT → List zTk → Nat → Nat → Option zRs} {y : zT × List zTk × Nat × Nat} (h : qBnd x k = some (.inr y)) : ∃ e M c o, x = some (.inr (e, M, c, o)) ∧ k e M c o = some (.inr y) := by
  unfold qBnd at h
  split at h
  · cases h
  · cases h
  · exact ⟨_, _, _, _, rfl, h⟩
theorem qis_inr {s w : Nat} {L : List zTk} {k : List zTk → Option zRs} {y : zT × List zTk × Nat × Nat} (h : qis s w L k = some (.inr y)) : pis s w L = true ∧ k L.tail = some (.inr y) := by
  unfold qis at h
  split at h
  · rename_i p; exact ⟨p, h⟩
  · cases h
theorem pP_len {L M : List zTk} {p : zT} (h : pP L = .inr (p, M)) : M.length < L.length := by
  unfold pP at h
  split at h
  · rename_i p1; cases h; have := (phs_t p1).2; omega
  · split at h
    · rename_i p3
      have hl := (phs_t p3).2
      split at h
      · rename_i p4
        have hl2 := (pis_t p4).2.2.2
        cases hE : pE L.tail.tail with
        | inl f => rw [hE] at h; cases h
        | inr q =>
          obtain ⟨e, N⟩ := q
          rw [hE] at h
          have := (pE_eq L.tail.tail).2 e N hE
          dsimp only at h
          split at h
          · rename_i p5; cases h; have := (pis_t p5).2.2.2; omega
          · cases h
      · cases h
    · cases h
theorem pOne_len {c o : Nat} {L : List zTk} {t : zT} {M : List zTk} {c1 o1 : Nat} (h : pOne c o L = some (.inr (t, M, c1, o1))) : M.length + 2 ≤ L.length ∧ c1 = c + 1 ∧ o1 = o := by
  unfold pOne at h
  split at h
  · obtain ⟨p, M1, e1, h⟩ := qE_inr h
    have l1 := pP_len e1
    split at h
    · rename_i p6
      have l2 := (phs_t p6).2
      split at h
      · obtain ⟨p2, M2, e2, h⟩ := qE_inr h
        have l3 := pP_len e2
        obtain ⟨-, a2, a3, a4, a5⟩ := qEnd_inr h
        subst a2; exact ⟨by omega, a3, a4⟩
      · obtain ⟨e, M2, e2, h⟩ := qE_inr h
        have l3 := (pE_eq _).2 _ _ e2
        obtain ⟨-, a2, a3, a4, a5⟩ := qEnd_inr h
        subst a2; exact ⟨by omega, a3, a4⟩
    · cases h
  · split at h
    · split at h
      · rename_i p1
        have l1 := (phs_t p1).2
        obtain ⟨p2, h⟩ := qis_inr h
        have l2 := (pis_t p2).2.2.2
        obtain ⟨e, M2, e2, h⟩ := qE_inr h
        have l3 := (pE_eq _).2 _ _ e2
        obtain ⟨-, a2, a3, a4, a5⟩ := qEnd_inr h
        have : L.tail.length ≤ L.length := by simp
        subst a2; exact ⟨by omega, a3, a4⟩
      · cases h
    · split at h
      · split at h
        · rename_i p1
          have l1 := (phs_t p1).2
          split at h
          · rename_i p2
            have l2 := (phs_t p2).2
            obtain ⟨-, a2, a3, a4, a5⟩ := qEnd_inr h
            have : L.tail.length ≤ L.length := by simp
            subst a2; exact ⟨by omega, a3, a4⟩
          · cases h
        · cases h
      · split at h
        · split at h
          · rename_i p1
            have l1 := (phs_t p1).2
            split at h
            · rename_i p2
              have l2 := (phs_t (by simp at p2; exact p2.1 : phs 5 L.tail.tail = true)).2
              obtain ⟨e, M2, e2, h⟩ := qE_inr h
              have l3 := (pE_eq _).2 _ _ e2
              obtain ⟨-, a2, a3, a4, a5⟩ := qEnd_inr h
              have : L.tail.length ≤ L.length := by simp
              subst a2; exact ⟨by omega, a3, a4⟩
            · cases h
          · cases h
        · split at h
          · rename_i p1
            have l1 := (phs_t p1).2
            split at h
            · cases h
            · obtain ⟨-, a2, a3, a4, a5⟩ := qEnd_inr h
              have : L.tail.length ≤ L.length := by simp
              subst a2; exact ⟨by omega, a3, a4⟩
          · cases h
theorem pS_len (f : Nat) : ∀ (m b c o : Nat) (L : List zTk) (t : zT) (M : List zTk) (c1 o1 : Nat), pS f m b c o L = some (.inr (t, M, c1, o1)) → M.length ≤ L.length ∧ c ≤ c1 ∧ (m = 1 → M.length + 2 ≤ L.length ∧ c + 1 ≤ c1) ∧ (m ≠ 0 → m ≠ 1 → M.length + 2 ≤ L.length) := by
  induction f with
  | zero => intro m b c o L t M c1 o1 h; cases h
  | succ f ih =>
    intro m b c o L t M c1 o1 h
    unfold pS at h
    split at h
    · rename_i m0
      subst m0
      split at h
      · split at h
        · cases h
        · obtain ⟨s, M1, c2, o2, e1, h⟩ := qBnd_inr h
          obtain ⟨t2, M2, c3, o3, e2, h⟩ := qBnd_inr h
          cases h
          obtain ⟨-, -, a3, -⟩ := ih _ _ _ _ _ _ _ _ _ e1
          obtain ⟨b1, b2, -, -⟩ := ih _ _ _ _ _ _ _ _ _ e2
          have := a3 rfl
          exact ⟨by omega, by omega, fun z => by omega, fun z => absurd rfl z⟩
      · cases h; exact ⟨Nat.le_refl _, Nat.le_refl _, fun z => by omega, fun z => absurd rfl z⟩
    · split at h
      · rename_i m1
        subst m1
        have key : M.length + 2 ≤ L.length ∧ c + 1 ≤ c1 := by
          split at h
          · rename_i p
            have hl := (phs_t (by simp at p; exact p.1 : phs 5 L = true)).2
            obtain ⟨e, M1, e1, h⟩ := qE_inr h
            have l1 := (pE_eq _).2 _ _ e1
            obtain ⟨p1, M2, c2, o2, e2, h⟩ := qBnd_inr h
            obtain ⟨a1, a2, -, -⟩ := ih _ _ _ _ _ _ _ _ _ e2
            obtain ⟨q1, h⟩ := qis_inr h
            have l2 := (pis_t q1).2.2.2
            obtain ⟨p2, M3, c3, o3, e3, h⟩ := qBnd_inr h
            obtain ⟨b1, b2, -, -⟩ := ih _ _ _ _ _ _ _ _ _ e3
            obtain ⟨q2, h⟩ := qis_inr h
            have l3 := (pis_t q2).2.2.2
            obtain ⟨e4, M4, e5, h⟩ := qE_inr h
            have l4 := (pE_eq _).2 _ _ e5
            obtain ⟨-, v2, v3, v4, v5⟩ := qEnd_inr h
            subst v2; exact ⟨by omega, by omega⟩
          · split at h
            · rename_i p
              have hl := (phs_t (by simp at p; exact p.1 : phs 5 L = true)).2
              obtain ⟨e, M1, e1, h⟩ := qE_inr h
              have l1 := (pE_eq _).2 _ _ e1
              obtain ⟨p1, M2, c2, o2, e2, h⟩ := qBnd_inr h
              obtain ⟨a1, a2, -, -⟩ := ih _ _ _ _ _ _ _ _ _ e2
              obtain ⟨-, v2, v3, v4, v5⟩ := qEnd_inr h
              subst v2; exact ⟨by omega, by omega⟩
            · split at h
              · rename_i p
                have hl := (phs_t (by simp at p; exact p.1 : phs 5 L = true)).2
                obtain ⟨e, M1, e1, h⟩ := qE_inr h
                have l1 := (pE_eq _).2 _ _ e1
                obtain ⟨p1, M2, c2, o2, e2, h⟩ := qBnd_inr h
                obtain ⟨a1, a2, -, -⟩ := ih _ _ _ _ _ _ _ _ _ e2
                obtain ⟨q1, h⟩ := qis_inr h
                have l2 := (pis_t q1).2.2.2
                obtain ⟨p2, M3, c3, o3, e3, h⟩ := qBnd_inr h
                obtain ⟨b1, b2, -, -⟩ := ih _ _ _ _ _ _ _ _ _ e3
                obtain ⟨-, v2, v3, v4, v5⟩ := qEnd_inr h
                subst v2; exact ⟨by omega, by omega⟩
              · obtain ⟨a1, a2, -⟩ := pOne_len h
                exact ⟨a1, by omega⟩
        exact ⟨by omega, by omega, fun _ => key, fun _ z => absurd rfl z⟩
      · rename_i m0 m1
        have key : M.length + 2 ≤ L.length ∧ c ≤ c1 := by
          split at h
          · rename_i p
            have hl := (pis_t p).2.2.2
            split at h
            · cases h
            · obtain ⟨t2, M2, c2, o2, e2, h⟩ := qBnd_inr h
              obtain ⟨a1, a2, -, -⟩ := ih _ _ _ _ _ _ _ _ _ e2
              split at h
              · rename_i p2
                cases h
                have l2 := (pis_t p2).2.2.2
                exact ⟨by omega, a2⟩
              · cases h
          · cases h
        exact ⟨by omega, key.2, fun z => absurd z m1, fun _ _ => key.1⟩
