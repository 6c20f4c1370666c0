/-! THE WEIGHT of what is read: that of its tokens -/
def wL (L : List zTk) : Nat := zW (L.map (fun t => t.2))
theorem hw {s : Nat} {L : List zTk} (h : phs s L = true) : wL L = zpw (s, pw L) + wL L.tail := by
  cases L with
  | nil => cases h
  | cons x T =>
    obtain ⟨q, a, b⟩ := x
    have e : a = s := by simpa [phs] using h
    subst e
    rfl
theorem iw {s w : Nat} {L : List zTk} (h : pis s w L = true) : wL L = zpw (s, w) + wL L.tail := by
  have p := pis_t h
  rw [hw p.2.1, p.2.2.1]
theorem w7 (c : Nat) : zpw (7, c) = 2 := rfl
theorem w5 (c : Nat) : zpw (5, c) = 7 := rfl
theorem w1 (c : Nat) : zpw (1, c) = 2 := rfl
theorem w3 (c : Nat) : zpw (3, c) = 2 := rfl
theorem w4 (c : Nat) : zpw (4, c) = 2 := rfl
theorem w8 (c : Nat) : zpw (8, c) = 2 := rfl
theorem zWc (x : Nat × Nat) (A : List (Nat × Nat)) : zW (x :: A) = zpw x + zW A := rfl
theorem zWn : zW [] = 0 := rfl
def zlw (m : Nat) (acc : zT) : Nat := if m = 1 ∨ m = 3 then zW (zk acc) else if m = 5 then 2 else 0
theorem zlw_1 (acc : zT) : zlw 1 acc = zW (zk acc) := rfl
theorem zlw_3 (acc : zT) : zlw 3 acc = zW (zk acc) := rfl
theorem zlw_5 (acc : zT) : zlw 5 acc = 2 := rfl
theorem zlw_0 (acc : zT) : zlw 0 acc = 0 := rfl
theorem zlw_2 (acc : zT) : zlw 2 acc = 0 := rfl
theorem zlw_4 (acc : zT) : zlw 4 acc = 0 := rfl
theorem pwE (f : Nat) : ∀ (m w : Nat) (acc : zT) (L : List zTk) (e : zT) (M : List zTk), pX f m w acc L = some (.inr (e, M)) → m ≤ 5 → (m = 5 → ∃ x, acc = zL x) → zW (zk e) + wL M = wL L + zlw m acc := by
  induction f with
  | zero => intro m w acc L e M h; cases h
  | succ f ih =>
    intro m w acc L e M h hm a5
    have hcases : m = 0 ∨ m = 1 ∨ m = 2 ∨ m = 3 ∨ m = 4 ∨ m = 5 := by omega
    rcases hcases with q | q | q | q | q | q <;> subst q
    · obtain ⟨e1, M1, b1, b2⟩ := pBnd_inr (show pBnd (pX f 2 w (zL 0) L) (fun e M => pX f 1 w e M) = _ from h)
      have i1 := ih 2 w _ L e1 M1 b1 (by omega) (fun z => by omega)
      have i2 := ih 1 w e1 M1 e M b2 (by omega) (fun z => by omega)
      rw [zlw_2] at i1; rw [zlw_1] at i2; rw [zlw_0]
      omega
    · have h' : (if pSum L then pBnd (pX f 2 w (zL 0) L.tail) fun e M => pX f 1 w (zB (pw L) acc e) M else some (.inr (acc, L))) = some (.inr (e, M)) := h
      rw [zlw_1]
      split at h'
      · rename_i hp
        have hs2 : phs 7 L = true ∧ zsum (pw L) = true := by simpa [pSum] using hp
        obtain ⟨e1, M1, b1, b2⟩ := pBnd_inr h'
        have i1 := ih 2 w _ _ e1 M1 b1 (by omega) (fun z => by omega)
        have i2 := ih 1 w _ M1 e M b2 (by omega) (fun z => by omega)
        have l := hw hs2.1
        rw [w7] at l
        rw [zlw_2] at i1
        rw [zlw_1, (zk_two (Or.inl hs2.2)).1, zW_app, zWc, w7] at i2
        omega
      · cases h'; omega
    · obtain ⟨e1, M1, b1, b2⟩ := pBnd_inr (show pBnd (pX f 4 w (zL 0) L) (fun e M => pX f 3 w e M) = _ from h)
      have i1 := ih 4 w _ L e1 M1 b1 (by omega) (fun z => by omega)
      have i2 := ih 3 w e1 M1 e M b2 (by omega) (fun z => by omega)
      rw [zlw_4] at i1; rw [zlw_3] at i2; rw [zlw_2]
      omega
    · have h' : (if pPro L then pBnd (pX f 4 w (zL 0) L.tail) fun e M => pX f 3 w (zB (pw L) acc e) M else some (.inr (acc, L))) = some (.inr (e, M)) := h
      rw [zlw_3]
      split at h'
      · rename_i hp
        have hs2 : phs 7 L = true ∧ zpro (pw L) = true := by simpa [pPro] using hp
        obtain ⟨e1, M1, b1, b2⟩ := pBnd_inr h'
        have i1 := ih 4 w _ _ e1 M1 b1 (by omega) (fun z => by omega)
        have i2 := ih 3 w _ M1 e M b2 (by omega) (fun z => by omega)
        have l := hw hs2.1
        rw [w7] at l
        rw [zlw_4] at i1
        rw [zlw_3, (zk_two (Or.inr hs2.2)).1, zW_app, zWc, w7] at i2
        omega
      · cases h'; omega
    · have h' : (if phs 2 L then some (.inr (zNum (pw L), L.tail))
          else if phs 1 L then some (.inr (zNam (pw L), L.tail))
          else if phs 3 L then pX f 5 w (zL (pw L)) L.tail
          else if pis 7 35 L then (if phs 3 L.tail then some (.inr (zB 35 (zL (pw L.tail)) (zL 0), L.tail.tail)) else pno 1 L.tail)
          else if pis 7 45 L then (if w = 8 then pno 2 L else pBnd (pX f 4 (w + 1) (zL 0) L.tail) fun e M => some (.inr (zB 8 e (zL 0), M)))
          else if pis 7 40 L then (if w = 8 then pno 2 L else pBnd (pX f 0 (w + 1) (zL 0) L.tail) fun e M =>
            if pis 7 60 M || pis 7 61 M then pBnd (pX f 0 (w + 1) (zL 0) M.tail) fun e2 M2 => pex 41 (zB (pw M) e e2) M2
            else pex 41 (zB 40 e (zL 0)) M)
          else pno 1 L) = some (.inr (e, M)) := h
      rw [zlw_4]
      split at h'
      · rename_i p
        cases h'
        have l := hw p
        show zpw (2, pw L) + 0 + wL L.tail = _
        omega
      split at h'
      · rename_i p
        cases h'
        have l := hw p
        show zpw (1, pw L) + 0 + wL L.tail = _
        omega
      split at h'
      · rename_i p
        have l := hw p
        rw [w3] at l
        have i := ih 5 w _ _ e M h' (by omega) (fun _ => ⟨_, rfl⟩)
        rw [zlw_5] at i
        omega
      split at h'
      · rename_i p
        have l := iw p
        split at h'
        · rename_i p2
          cases h'
          have l2 := hw p2
          show zpw (7, 35) + (zpw (3, pw L.tail) + 0) + wL L.tail.tail = _
          omega
        · cases h'
      split at h'
      · rename_i p
        have l := iw p
        rw [w7] at l
        split at h'
        · cases h'
        · obtain ⟨e1, M1, b1, b2⟩ := pBnd_inr h'
          cases b2
          have i := ih 4 _ _ _ e1 _ b1 (by omega) (fun z => by omega)
          rw [zlw_4] at i
          rw [(zk_minus e1).1, zWc, w8]
          omega
      split at h'
      · rename_i p
        have l := iw p
        rw [w7] at l
        split at h'
        · cases h'
        · obtain ⟨e1, M1, b1, b2⟩ := pBnd_inr h'
          have i1 := ih 0 _ _ _ e1 M1 b1 (by omega) (fun z => by omega)
          rw [zlw_0] at i1
          have pe : ∀ {e2 : zT} {M2 : List zTk}, pex 41 e2 M2 = some (.inr (e, M)) → e = e2 ∧ wL M2 = 2 + wL M := by
            intro e2 M2 u
            unfold pex at u
            split at u
            · rename_i q; cases u; exact ⟨rfl, by rw [iw q, w7]⟩
            · cases u
          have b2' : (if pis 7 60 M1 || pis 7 61 M1 then pBnd (pX f 0 (w + 1) (zL 0) M1.tail) fun e2 M2 => pex 41 (zB (pw M1) e1 e2) M2 else pex 41 (zB 40 e1 (zL 0)) M1) = some (.inr (e, M)) := b2
          split at b2'
          · rename_i p2
            have hk : pw M1 = 60 ∨ pw M1 = 61 := by
              rcases Bool.or_eq_true _ _ ▸ p2 with z | z
              · exact Or.inl (pis_t z).2.2.1
              · exact Or.inr (pis_t z).2.2.1
            have l2 : wL M1 = 2 + wL M1.tail := by
              rcases Bool.or_eq_true _ _ ▸ p2 with z | z <;> rw [iw z, w7]
            obtain ⟨e2, M2, u1, u2⟩ := pBnd_inr b2'
            obtain ⟨v1, v2⟩ := pe u2
            subst v1
            have i2 := ih 0 _ _ _ e2 M2 u1 (by omega) (fun z => by omega)
            rw [zlw_0] at i2
            rw [(zk_cmp hk).1, zWc, zW_app, zWc, zW_app, zWc, zWn, w7, w7, w7]
            omega
          · obtain ⟨v1, v2⟩ := pe b2'
            subst v1
            rw [(zk_paren e1).1, zWc, zW_app, zWc, zWn, w7, w7]
            omega
      · cases h'
    · have h' : (if pis 7 91 L then (if w = 8 then pno 2 L else pBnd (pX f 0 (w + 1) (zL 0) L.tail) fun e M => pex 93 (zB 3 acc e) M) else pno 1 L) = some (.inr (e, M)) := h
      rw [zlw_5]
      split at h'
      · rename_i p
        have l := iw p
        rw [w7] at l
        split at h'
        · cases h'
        · obtain ⟨e1, M1, b1, b2⟩ := pBnd_inr h'
          have i1 := ih 0 _ _ _ e1 M1 b1 (by omega) (fun z => by omega)
          rw [zlw_0] at i1
          obtain ⟨x, x1⟩ := a5 rfl
          subst x1
          unfold pex at b2
          split at b2
          · rename_i q
            cases b2
            have l2 := iw q
            rw [w7] at l2
            show zpw (3, x) + (zpw (7, 91) + zW (zk e1 ++ [(7, 93)])) + _ = _
            rw [zW_app, zWc, zWn, w3, w7, w7]
            omega
          · cases b2
      · cases h'
theorem pE_w {L M : List zTk} {e : zT} (h : pE L = .inr (e, M)) : zW (zk e) + wL M = wL L := by
  have := pwE _ 0 0 (zL 0) L e M (by rw [(pE_eq L).1, h]) (by omega) (fun z => by omega)
  rw [zlw_0] at this
  omega
theorem pP_w {L M : List zTk} {p : zT} (h : pP L = .inr (p, M)) : zW (zk p) + wL M = wL L := by
  unfold pP at h
  split at h
  · rename_i p1
    cases h
    have l := hw p1
    show zpw (1, pw L) + 0 + wL L.tail = _
    omega
  · split at h
    · rename_i p3
      have l := hw p3
      rw [w3] at l
      split at h
      · rename_i p4
        have l2 := iw p4
        rw [w7] at l2
        cases hE : pE L.tail.tail with
        | inl f => rw [hE] at h; cases h
        | inr q =>
          obtain ⟨e, N⟩ := q
          rw [hE] at h
          have l3 := pE_w hE
          dsimp only at h
          split at h
          · rename_i p5
            cases h
            have l4 := iw p5
            rw [w7] at l4
            show zpw (3, pw L) + (zpw (7, 91) + zW (zk e ++ [(7, 93)])) + _ = _
            rw [zW_app, zWc, zWn, w3, w7, w7]
            omega
          · cases h
      · cases h
    · cases h
theorem qEnd_w {q more c o : Nat} {self : Bool} {s t : zT} {L M : List zTk} {c1 o1 : Nat} (h : qEnd q self more c o s L = some (.inr (t, M, c1, o1))) : t = s ∧ wL L = 2 + wL M := by
  unfold qEnd at h
  split at h
  · rename_i p
    split at h
    · cases h
    · split at h
      · cases h
      · cases h; exact ⟨rfl, by rw [iw p, w7]⟩
  · cases h
