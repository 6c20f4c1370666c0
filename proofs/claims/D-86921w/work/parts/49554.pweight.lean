/-! THE WEIGHT of steps that are read, and of a text -/
theorem pOne_w {c o : Nat} {L : List zTk} {t : zT} {M : List zTk} {c1 o1 : Nat} (hL : Lok L) (hb : pBeg L = true) (hn : phs 5 L = true → pw L ≠ 8 ∧ pw L ≠ 11 ∧ pw L ≠ 15 ∧ pw L ≠ 16) (h : pOne c o L = some (.inr (t, M, c1, o1))) : zW (zk t) + wL M = wL L := by
  unfold pOne at h
  split at h
  · obtain ⟨p, M1, e1, h⟩ := qE_inr h
    have l1 := pP_w e1
    split at h
    · rename_i p6
      have l2 := hw p6
      split at h
      · rename_i k3
        rw [k3] at l2
        obtain ⟨p2, M2, e2, h⟩ := qE_inr h
        have l3 := pP_w e2
        obtain ⟨a1, a2⟩ := qEnd_w h
        subst a1
        show zW (zk p ++ (6, 3) :: (zk p2 ++ [(7, 59)])) + _ = _
        rw [zW_app, zWc, zW_app, zWc, zWn, w7]
        omega
      · rename_i k3
        obtain ⟨e, M2, e2, h⟩ := qE_inr h
        have l3 := pE_w e2
        obtain ⟨a1, a2⟩ := qEnd_w h
        subst a1
        have ez : zW (zk (zB (130 + pw M1) p e)) = zW (zk p) + (zpw (6, pw M1) + (zW (zk e) + 2)) ∨ 10 ≤ pw M1 := by
          by_cases w10 : pw M1 < 10
          · left
            have : zk (zB (130 + pw M1) p e) = zk p ++ (6, pw M1) :: (zk e ++ [(7, 59)]) := by
              have : pw M1 = 0 ∨ pw M1 = 1 ∨ pw M1 = 2 ∨ pw M1 = 4 ∨ pw M1 = 5 ∨ pw M1 = 6 ∨ pw M1 = 7 ∨ pw M1 = 8 ∨ pw M1 = 9 := by omega
              rcases this with q | q | q | q | q | q | q | q | q <;> rw [q] <;> rfl
            rw [this, zW_app, zWc, zW_app, zWc, zWn, w7]
          · right; omega
        rcases ez with ez | ez
        · rw [ez]; omega
        · exfalso
          have := (Lok_hd (pP_good hL e1).1).2.2.2.2.2 p6
          omega
    · cases h
  · rename_i n13
    have h5 : phs 5 L = true := by
      unfold pBeg at hb
      cases a : phs 1 L with
      | true => rw [a] at n13; simp at n13
      | false =>
        cases b : phs 3 L with
        | true => rw [a, b] at n13; simp at n13
        | false =>
          rw [a, b] at hb
          simp at hb
          exact hb.1
    have l0 := hw h5
    rw [w5] at l0
    split at h
    · rename_i kk
      split at h
      · rename_i p1
        have l1 := hw p1
        rw [w1] at l1
        obtain ⟨p2, h⟩ := qis_inr h
        have l2 := iw p2
        rw [w7] at l2
        obtain ⟨e, M2, e2, h⟩ := qE_inr h
        have l3 := pE_w e2
        obtain ⟨a1, a2⟩ := qEnd_w h
        subst a1
        have ez : zk (zB (100 + pw L) (zL (pw L.tail)) e) = (5, pw L) :: (1, pw L.tail) :: (7, 61) :: (zk e ++ [(7, 59)]) := by
          rcases kk with q | q | q <;> rw [q] <;> rfl
        rw [ez, zWc, zWc, zWc, zW_app, zWc, zWn, w5, w1, w7, w7]
        omega
      · cases h
    · split at h
      · rename_i kk
        split at h
        · rename_i p1
          have l1 := hw p1
          rw [w1] at l1
          split at h
          · rename_i p2
            have l2 := hw p2
            rw [w4] at l2
            obtain ⟨a1, a2⟩ := qEnd_w h
            subst a1
            have ez : zk (zB (100 + pw L) (zL (pw L.tail)) (zL (pw L.tail.tail))) = [(5, pw L), (1, pw L.tail), (4, pw L.tail.tail), (7, 59)] := by
              rcases kk with q | q <;> rw [q] <;> rfl
            rw [ez, zWc, zWc, zWc, zWc, zWn, w5, w1, w4, w7]
            omega
          · cases h
        · cases h
      · split at h
        · rename_i kk
          split at h
          · rename_i p1
            have l1 := hw p1
            rw [w3] at l1
            split at h
            · rename_i p2
              have p2' : phs 5 L.tail.tail = true ∧ 17 ≤ pw L.tail.tail := by simpa using p2
              have l2 := hw p2'.1
              rw [w5] at l2
              obtain ⟨e, M2, e2, h⟩ := qE_inr h
              have l3 := pE_w e2
              obtain ⟨a1, a2⟩ := qEnd_w h
              subst a1
              have ej : zk (zB (143 + pw L.tail.tail) e (zL 0)) = (5, pw L.tail.tail) :: zk e := by
                conv => lhs; unfold zk
                repeat rw [if_neg (by omega)]
                rw [show 143 + pw L.tail.tail - 143 = pw L.tail.tail by omega]
              have ez : zk (zB (100 + pw L) (zL (pw L.tail)) (zB (143 + pw L.tail.tail) e (zL 0))) = (5, pw L) :: (3, pw L.tail) :: (zk (zB (143 + pw L.tail.tail) e (zL 0)) ++ [(7, 59)]) := by
                rcases kk with q | q <;> rw [q] <;> rfl
              rw [ez, ej, zWc, zWc, zW_app, zWc, zWc, zWn, w5, w5, w3, w7]
              omega
            · cases h
          · cases h
        · rename_i k1 k2 k3
          split at h
          · rename_i p1
            have l1 := hw p1
            split at h
            · cases h
            · obtain ⟨a1, a2⟩ := qEnd_w h
              subst a1
              have kk : pw L = 6 ∨ pw L = 7 ∨ pw L = 8 ∨ pw L = 11 ∨ pw L = 15 ∨ pw L = 16 := by
                unfold pBeg at hb
                simp [h5] at hb n13
                rw [n13.1, n13.2] at hb
                simp at hb
                omega
              have hn' := hn h5
              have kk' : pw L = 6 ∨ pw L = 7 := by omega
              have ez : zk (zB (100 + pw L) (zL (pw L.tail)) (zL 0)) = [(5, pw L), (2, pw L.tail), (7, 59)] := by
                rcases kk' with q | q <;> rw [q] <;> rfl
              rw [ez, zWc, zWc, zWc, zWn, w5, w7]
              omega
          · cases h
