/-! READING ENDS -/
def prk (m : Nat) : Nat := if m = 0 then 3 else if m = 2 then 2 else if m = 4 then 1 else 0
def PTs (f : Nat) : Prop := ∀ (m w : Nat) (acc : zT) (L : List zTk), m ≤ 5 → 4 * L.length + prk m < f → ∃ r, pX f m w acc L = some r ∧ ∀ e M, r = .inr (e, M) → M.length ≤ L.length ∧ (m = 0 ∨ m = 2 ∨ m = 4 ∨ m = 5 → M.length < L.length)
theorem pBnd_tot {o : Option zRes} {k : zT → List zTk → Option zRes} {n n1 : Nat} (h1 : ∃ r, o = some r ∧ ∀ e M, r = .inr (e, M) → M.length < n1) (h2 : ∀ e M, M.length < n1 → ∃ r, k e M = some r ∧ ∀ e2 M2, r = .inr (e2, M2) → M2.length < n) : ∃ r, pBnd o k = some r ∧ ∀ e M, r = .inr (e, M) → M.length < n := by
  obtain ⟨r, e1, e2⟩ := h1
  subst e1
  cases r with
  | inl f => exact ⟨.inl f, rfl, fun e M q => by cases q⟩
  | inr p => obtain ⟨e, M⟩ := p; exact h2 e M (e2 e M rfl)
theorem pex_tot {c n : Nat} {e : zT} {L : List zTk} (h : L.length ≤ n) : ∃ r, pex c e L = some r ∧ ∀ e2 M, r = .inr (e2, M) → M.length < n ∨ L = [] := by
  unfold pex
  split
  · rename_i q
    refine ⟨_, rfl, fun e2 M z => ?_⟩
    cases z
    have := (pis_t q).2.2.2
    left; omega
  · exact ⟨_, rfl, fun e2 M z => by cases z⟩
theorem pex_tot2 {c n : Nat} {e : zT} {L : List zTk} (h : L.length < n) : ∃ r, pex c e L = some r ∧ ∀ e2 M, r = .inr (e2, M) → M.length < n := by
  unfold pex
  split
  · rename_i q
    refine ⟨_, rfl, fun e2 M z => ?_⟩
    cases z
    have := (pis_t q).2.2.2
    omega
  · exact ⟨_, rfl, fun e2 M z => by cases z⟩
theorem px_tot (f : Nat) : PTs f := by
  induction f with
  | zero => intro m w acc L _ h; exact absurd h (Nat.not_lt_zero _)
  | succ f ih =>
    intro m w acc L hm hf
    have hcases : m = 0 ∨ m = 1 ∨ m = 2 ∨ m = 3 ∨ m = 4 ∨ m = 5 := by omega
    have sub : ∀ (m w : Nat) (acc : zT) (M : List zTk) (n : Nat), m ≤ 5 → 4 * M.length + prk m < f → M.length < n → ∃ r, pX f m w acc M = some r ∧ ∀ e M2, r = .inr (e, M2) → M2.length < n := by
      intro m w acc M n q1 q2 q3
      obtain ⟨r, e1, e2⟩ := ih m w acc M q1 q2
      exact ⟨r, e1, fun e M2 z => by have := (e2 e M2 z).1; omega⟩
    have sub2 : ∀ (m w : Nat) (acc : zT) (M : List zTk), (m = 2 ∨ m = 4) → 4 * M.length + prk m < f → ∃ r, pX f m w acc M = some r ∧ ∀ e M2, r = .inr (e, M2) → M2.length < M.length := by
      intro m w acc M q1 q2
      obtain ⟨r, e1, e2⟩ := ih m w acc M (by omega) q2
      exact ⟨r, e1, fun e M2 z => (e2 e M2 z).2 (by omega)⟩
    rcases hcases with q | q | q | q | q | q <;> subst q
    · have : ∃ r, pBnd (pX f 2 w (zL 0) L) (fun e M => pX f 1 w e M) = some r ∧ ∀ e M, r = .inr (e, M) → M.length < L.length :=
        pBnd_tot (sub2 2 w _ L (Or.inl rfl) (by simp [prk] at hf ⊢; omega)) (fun e M hM => sub 1 w e M _ (by omega) (by simp [prk] at hf ⊢; omega) hM)
      obtain ⟨r, e1, e2⟩ := this
      exact ⟨r, e1, fun e M z => ⟨by have := e2 e M z; omega, fun _ => e2 e M z⟩⟩
    · show ∃ r, (if pSum L then pBnd (pX f 2 w (zL 0) L.tail) fun e M => pX f 1 w (zB (pw L) acc e) M else some (.inr (acc, L))) = some r ∧ _
      cases hp : pSum L with
      | false => rw [if_neg (by decide)]; exact ⟨_, rfl, fun e M z => by cases z; exact ⟨Nat.le_refl _, fun z => by omega⟩⟩
      | true =>
        rw [if_pos rfl]
        have hl := (phs_t (show phs 7 L = true by simp [pSum] at hp; exact hp.1)).2
        have : ∃ r, pBnd (pX f 2 w (zL 0) L.tail) (fun e M => pX f 1 w (zB (pw L) acc e) M) = some r ∧ ∀ e M, r = .inr (e, M) → M.length < L.tail.length :=
          pBnd_tot (sub2 2 w _ L.tail (Or.inl rfl) (by simp [prk] at hf ⊢; omega)) (fun e M hM => sub 1 w _ M _ (by omega) (by simp [prk] at hf ⊢; omega) hM)
        obtain ⟨r, e1, e2⟩ := this
        exact ⟨r, e1, fun e M z => ⟨by have := e2 e M z; omega, fun z => by omega⟩⟩
    · have : ∃ r, pBnd (pX f 4 w (zL 0) L) (fun e M => pX f 3 w e M) = some r ∧ ∀ e M, r = .inr (e, M) → M.length < L.length :=
        pBnd_tot (sub2 4 w _ L (Or.inr rfl) (by simp [prk] at hf ⊢; omega)) (fun e M hM => sub 3 w e M _ (by omega) (by simp [prk] at hf ⊢; omega) hM)
      obtain ⟨r, e1, e2⟩ := this
      exact ⟨r, e1, fun e M z => ⟨by have := e2 e M z; omega, fun _ => e2 e M z⟩⟩
    · show ∃ r, (if pPro L then pBnd (pX f 4 w (zL 0) L.tail) fun e M => pX f 3 w (zB (pw L) acc e) M else some (.inr (acc, L))) = some r ∧ _
      cases hp : pPro L with
      | false => rw [if_neg (by decide)]; exact ⟨_, rfl, fun e M z => by cases z; exact ⟨Nat.le_refl _, fun z => by omega⟩⟩
      | true =>
        rw [if_pos rfl]
        have hl := (phs_t (show phs 7 L = true by simp [pPro] at hp; exact hp.1)).2
        have : ∃ r, pBnd (pX f 4 w (zL 0) L.tail) (fun e M => pX f 3 w (zB (pw L) acc e) M) = some r ∧ ∀ e M, r = .inr (e, M) → M.length < L.tail.length :=
          pBnd_tot (sub2 4 w _ L.tail (Or.inr rfl) (by simp [prk] at hf ⊢; omega)) (fun e M hM => sub 3 w _ M _ (by omega) (by simp [prk] at hf ⊢; omega) hM)
        obtain ⟨r, e1, e2⟩ := this
        exact ⟨r, e1, fun e M z => ⟨by have := e2 e M z; omega, fun z => by omega⟩⟩
    · have goal : ∃ r, pX (f + 1) 4 w acc L = some r ∧ ∀ e M, r = .inr (e, M) → M.length < L.length := by
        show ∃ r, (if phs 2 L then some (.inr (zNum (pw L), L.tail))
          else if phs 1 L then some (.inr (zNam (pw L), L.tail))
          else if phs 3 L then pX f 5 w (zL (pw L)) L.tail
          else if pis 7 35 L then (if phs 3 L.tail then some (.inr (zB 35 (zL (pw L.tail)) (zL 0), L.tail.tail)) else pno 1 L.tail)
          else if pis 7 45 L then (if w = 8 then pno 2 L else pBnd (pX f 4 (w + 1) (zL 0) L.tail) fun e M => some (.inr (zB 8 e (zL 0), M)))
          else if pis 7 40 L then (if w = 8 then pno 2 L else pBnd (pX f 0 (w + 1) (zL 0) L.tail) fun e M =>
            if pis 7 60 M || pis 7 61 M then pBnd (pX f 0 (w + 1) (zL 0) M.tail) fun e2 M2 => pex 41 (zB (pw M) e e2) M2
            else pex 41 (zB 40 e (zL 0)) M)
          else pno 1 L) = some r ∧ _
        split
        · rename_i p; have hl := (phs_t p).2; exact ⟨_, rfl, fun e M z => by cases z; omega⟩
        split
        · rename_i p; have hl := (phs_t p).2; exact ⟨_, rfl, fun e M z => by cases z; omega⟩
        split
        · rename_i p; have hl := (phs_t p).2
          exact sub 5 w _ L.tail _ (by omega) (by simp [prk] at hf ⊢; omega) (by omega)
        split
        · rename_i p; have hl := (pis_t p).2.2.2
          split
          · rename_i p2; have hl2 := (phs_t p2).2; exact ⟨_, rfl, fun e M z => by cases z; omega⟩
          · exact ⟨_, rfl, fun e M z => by cases z⟩
        split
        · rename_i p; have hl := (pis_t p).2.2.2
          split
          · exact ⟨_, rfl, fun e M z => by cases z⟩
          · exact pBnd_tot (sub 4 (w + 1) _ L.tail L.length (by omega) (by simp [prk] at hf ⊢; omega) (by omega)) (fun e M hM => ⟨_, rfl, fun e2 M2 z => by cases z; exact hM⟩)
        split
        · rename_i p; have hl := (pis_t p).2.2.2
          split
          · exact ⟨_, rfl, fun e M z => by cases z⟩
          · refine pBnd_tot (sub 0 (w + 1) _ L.tail L.length (by omega) (by simp [prk] at hf ⊢; omega) (by omega)) (fun e M hM => ?_)
            split
            · rename_i p2
              have hl2 : M.length = M.tail.length + 1 := by
                rcases Bool.or_eq_true _ _ ▸ p2 with z | z <;> exact (pis_t z).2.2.2
              exact pBnd_tot (sub 0 (w + 1) _ M.tail L.length (by omega) (by simp [prk] at hf ⊢; omega) (by omega)) (fun e2 M2 hM2 => pex_tot2 hM2)
            · exact pex_tot2 hM
        · exact ⟨_, rfl, fun e M z => by cases z⟩
      obtain ⟨r, e1, e2⟩ := goal
      exact ⟨r, e1, fun e M z => ⟨by have := e2 e M z; omega, fun _ => e2 e M z⟩⟩
    · have goal : ∃ r, pX (f + 1) 5 w acc L = some r ∧ ∀ e M, r = .inr (e, M) → M.length < L.length := by
        show ∃ r, (if pis 7 91 L then (if w = 8 then pno 2 L else pBnd (pX f 0 (w + 1) (zL 0) L.tail) fun e M => pex 93 (zB 3 acc e) M) else pno 1 L) = some r ∧ _
        split
        · rename_i p; have hl := (pis_t p).2.2.2
          split
          · exact ⟨_, rfl, fun e M z => by cases z⟩
          · exact pBnd_tot (sub 0 (w + 1) _ L.tail L.length (by omega) (by simp [prk] at hf ⊢; omega) (by omega)) (fun e M hM => pex_tot2 hM)
        · exact ⟨_, rfl, fun e M z => by cases z⟩
      obtain ⟨r, e1, e2⟩ := goal
      exact ⟨r, e1, fun e M z => ⟨by have := e2 e M z; omega, fun _ => e2 e M z⟩⟩
theorem pE_eq (L : List zTk) : pX (4 * L.length + 8) 0 0 (zL 0) L = some (pE L) ∧ ∀ e M, pE L = .inr (e, M) → M.length < L.length := by
  obtain ⟨r, e1, e2⟩ := px_tot (4 * L.length + 8) 0 0 (zL 0) L (by omega) (by simp [prk])
  have : pE L = r := by unfold pE; rw [e1]; rfl
  rw [this]
  exact ⟨e1, fun e M z => (e2 e M z).2 (Or.inl rfl)⟩
