/-! STEPS THAT ARE READ: the reading ends -/
theorem qEnd_tot {q more c o : Nat} {self : Bool} {s : zT} {L : List zTk} : qEnd q self more c o s L ≠ none := by
  unfold qEnd qno
  split
  · split
    · intro z; cases z
    · split <;> (intro z; cases z)
  · intro z; cases z
theorem qno_tot {k : Nat} {L : List zTk} : qno k L ≠ none := by intro z; cases z
theorem qE_tot {x : zRes} {k : zT → List zTk → Option zRs} (h : ∀ e M, x = .inr (e, M) → k e M ≠ none) : qE x k ≠ none := by
  unfold qE
  split
  · intro z; cases z
  · exact h _ _ rfl
theorem qBnd_tot {x : Option zRs} {k : zT → List zTk → Nat → Nat → Option zRs} (h0 : x ≠ none) (h : ∀ e M c o, x = some (.inr (e, M, c, o)) → k e M c o ≠ none) : qBnd x k ≠ none := by
  unfold qBnd
  split
  · exact absurd rfl h0
  · intro z; cases z
  · exact h _ _ _ _ rfl
theorem qis_tot {s w : Nat} {L : List zTk} {k : List zTk → Option zRs} (h : pis s w L = true → k L.tail ≠ none) : qis s w L k ≠ none := by
  unfold qis
  split
  · rename_i p; exact h p
  · exact qno_tot
theorem pOne_tot {c o : Nat} {L : List zTk} : pOne c o L ≠ none := by
  unfold pOne
  split
  · refine qE_tot fun p M _ => ?_
    split
    · split
      · exact qE_tot fun _ _ _ => qEnd_tot
      · exact qE_tot fun _ _ _ => qEnd_tot
    · exact qno_tot
  · split
    · split
      · exact qis_tot fun _ => qE_tot fun _ _ _ => qEnd_tot
      · exact qno_tot
    · split
      · split
        · split
          · exact qEnd_tot
          · exact qno_tot
        · exact qno_tot
      · split
        · split
          · split
            · exact qE_tot fun _ _ _ => qEnd_tot
            · exact qno_tot
          · exact qno_tot
        · split
          · split
            · exact qno_tot
            · exact qEnd_tot
          · exact qno_tot
theorem pS_tot (f : Nat) : ∀ (m b c o : Nat) (L : List zTk), m ≤ 2 → 3 * L.length + 3 ≤ f + m → pS f m b c o L ≠ none := by
  induction f with
  | zero => intro m b c o L hm hf; omega
  | succ f ih =>
    intro m b c o L hm hf
    unfold pS
    split
    · rename_i m0
      subst m0
      split
      · split
        · exact qno_tot
        · refine qBnd_tot (ih _ _ _ _ _ (by decide) (by omega)) fun s M c1 o1 e1 => ?_
          have l1 := ((pS_len f _ _ _ _ _ _ _ _ _ e1).2.2.1 rfl).1
          refine qBnd_tot (ih _ _ _ _ _ (by decide) (by omega)) fun t M2 c2 o2 e2 => ?_
          intro z; cases z
      · intro z; cases z
    · split
      · rename_i m1
        subst m1
        split
        · rename_i p
          have hl := (phs_t (by simp at p; exact p.1 : phs 5 L = true)).2
          refine qE_tot fun e M e1 => ?_
          have l1 := (pE_eq _).2 _ _ e1
          refine qBnd_tot (ih _ _ _ _ _ (by decide) (by omega)) fun p M1 c1 o1 e2 => ?_
          have l2 := (pS_len f _ _ _ _ _ _ _ _ _ e2).1
          refine qis_tot fun q1 => ?_
          have l3 := (pis_t q1).2.2.2
          refine qBnd_tot (ih _ _ _ _ _ (by decide) (by omega)) fun p2 M3 c3 o3 e3 => ?_
          refine qis_tot fun q2 => ?_
          exact qE_tot fun _ _ _ => qEnd_tot
        · split
          · rename_i p
            have hl := (phs_t (by simp at p; exact p.1 : phs 5 L = true)).2
            refine qE_tot fun e M e1 => ?_
            have l1 := (pE_eq _).2 _ _ e1
            refine qBnd_tot (ih _ _ _ _ _ (by decide) (by omega)) fun p M1 c1 o1 e2 => ?_
            exact qEnd_tot
          · split
            · rename_i p
              have hl := (phs_t (by simp at p; exact p.1 : phs 5 L = true)).2
              refine qE_tot fun e M e1 => ?_
              have l1 := (pE_eq _).2 _ _ e1
              refine qBnd_tot (ih _ _ _ _ _ (by decide) (by omega)) fun p M1 c1 o1 e2 => ?_
              have l2 := (pS_len f _ _ _ _ _ _ _ _ _ e2).1
              refine qis_tot fun q1 => ?_
              have l3 := (pis_t q1).2.2.2
              refine qBnd_tot (ih _ _ _ _ _ (by decide) (by omega)) fun p2 M3 c3 o3 e3 => ?_
              exact qEnd_tot
            · exact pOne_tot
      · rename_i m0 m1
        have m2 : m = 2 := by omega
        subst m2
        split
        · rename_i p
          have hl := (pis_t p).2.2.2
          split
          · exact qno_tot
          · refine qBnd_tot (ih _ _ _ _ _ (by decide) (by omega)) fun t M c1 o1 e1 => ?_
            split
            · intro z; cases z
            · exact qno_tot
        · exact qno_tot
/-- the steps of a text: never none -/
theorem pS_read (L : List zTk) : ∃ r, pS (3 * L.length + 5) 0 0 0 2 L = some r := by
  cases h : pS (3 * L.length + 5) 0 0 0 2 L with
  | none => exact absurd h (pS_tot _ _ _ _ _ _ (by decide) (by omega))
  | some r => exact ⟨r, rfl⟩
