/-! THE WEIGHT of a text -/
theorem pS_w (f : Nat) : ∀ (m b c o : Nat) (L : List zTk) (t : zT) (M : List zTk) (c1 o1 : Nat), pS f m b c o L = some (.inr (t, M, c1, o1)) → Lok L → (m = 1 → pBeg L = true) → m ≤ 2 → Lok M ∧ zW (zk t) + (if m = 2 then 4 else 0) + wL M = wL L := by
  induction f with
  | zero => intro m b c o L t M c1 o1 h; cases h
  | succ f ih =>
    intro m b c o L t M c1 o1 h hL hb hm
    unfold pS at h
    split at h
    · rename_i m0
      subst m0
      split at h
      · rename_i pb
        split at h
        · cases h
        · obtain ⟨s, M1, c2, o2, e1, h⟩ := qBnd_inr h
          obtain ⟨t2, M2, c3, o3, e2, h⟩ := qBnd_inr h
          cases h
          obtain ⟨a1, a2⟩ := ih 1 _ _ _ _ _ _ _ _ e1 hL (fun _ => pb) (by omega)
          obtain ⟨b1, b2⟩ := ih 0 _ _ _ _ _ _ _ _ e2 a1 (fun z => by omega) (by omega)
          refine ⟨b1, ?_⟩
          show zW (zk s ++ zk t2) + 0 + _ = _
          rw [zW_app]
          rw [if_neg (by decide)] at a2 b2
          omega
      · cases h
        refine ⟨hL, ?_⟩
        show 0 + 0 + wL L = wL L
        omega
    · split at h
      · rename_i m1
        subst m1
        have hb := hb rfl
        rw [if_neg (by decide)]
        split at h
        · rename_i p
          have p' : phs 5 L = true ∧ (pw L = 8 ∨ pw L = 11) := by simpa using p
          have l0 := hw p'.1
          rw [w5] at l0
          obtain ⟨e, M1, e1, h⟩ := qE_inr h
          have l1 := pE_w e1
          have g1 := (pE_good (Lok_tl hL) e1).1
          obtain ⟨p1, M2, c2, o2, e2, h⟩ := qBnd_inr h
          obtain ⟨a1, a2⟩ := ih 2 _ _ _ _ _ _ _ _ e2 g1 (fun z => by omega) (by omega)
          obtain ⟨q1, h⟩ := qis_inr h
          have l2 := iw q1
          rw [w5] at l2
          obtain ⟨p2, M3, c3, o3, e3, h⟩ := qBnd_inr h
          obtain ⟨b1, b2⟩ := ih 2 _ _ _ _ _ _ _ _ e3 (Lok_tl a1) (fun z => by omega) (by omega)
          obtain ⟨q2, h⟩ := qis_inr h
          have l3 := iw q2
          rw [w5] at l3
          obtain ⟨e4, M4, e5, h⟩ := qE_inr h
          have l4 := pE_w e5
          have g2 := (pE_good (Lok_tl b1) e5).1
          obtain ⟨v1, v2⟩ := qEnd_w h
          obtain ⟨-, v3, -⟩ := qEnd_inr h
          rw [if_pos rfl] at a2 b2
          have ez : zW (zk t) = 7 + (zW (zk e) + (2 + (zW (zk p1) + (2 + (7 + (2 + (zW (zk p2) + (2 + (7 + (zW (zk e4) + 2)))))))))) := by
            rw [v1]
            rcases p'.2 with q | q <;> rw [q]
            · rw [if_pos rfl, zk_fk (Or.inl ⟨rfl, rfl, rfl⟩)]
              simp only [zWc, zW_app, zWn, w5, w7, Nat.add_zero]
            · rw [if_neg (by decide), zk_fk (Or.inr ⟨rfl, rfl, rfl⟩)]
              simp only [zWc, zW_app, zWn, w5, w7, Nat.add_zero]
          refine ⟨by rw [v3]; exact Lok_tl g2, ?_⟩
          rw [ez]
          omega
        · rename_i n1
          split at h
          · rename_i p
            have p' : phs 5 L = true ∧ pw L = 15 := by simpa using p
            have l0 := hw p'.1
            rw [w5] at l0
            obtain ⟨e, M1, e1, h⟩ := qE_inr h
            have l1 := pE_w e1
            have g1 := (pE_good (Lok_tl hL) e1).1
            obtain ⟨p1, M2, c2, o2, e2, h⟩ := qBnd_inr h
            obtain ⟨a1, a2⟩ := ih 2 _ _ _ _ _ _ _ _ e2 g1 (fun z => by omega) (by omega)
            obtain ⟨v1, v2⟩ := qEnd_w h
            obtain ⟨-, v3, -⟩ := qEnd_inr h
            rw [if_pos rfl] at a2
            have ez : zW (zk t) = 7 + (zW (zk e) + (2 + (zW (zk p1) + (2 + 2)))) := by
              rw [v1, zk_wh]
              simp only [zWc, zW_app, zWn, w5, w7, Nat.add_zero]
            refine ⟨by rw [v3]; exact Lok_tl a1, ?_⟩
            rw [ez]
            omega
          · rename_i n2
            split at h
            · rename_i p
              have p' : phs 5 L = true ∧ pw L = 16 := by simpa using p
              have l0 := hw p'.1
              rw [w5] at l0
              obtain ⟨e, M1, e1, h⟩ := qE_inr h
              have l1 := pE_w e1
              have g1 := (pE_good (Lok_tl hL) e1).1
              obtain ⟨p1, M2, c2, o2, e2, h⟩ := qBnd_inr h
              obtain ⟨a1, a2⟩ := ih 2 _ _ _ _ _ _ _ _ e2 g1 (fun z => by omega) (by omega)
              obtain ⟨q1, h⟩ := qis_inr h
              have l2 := iw q1
              rw [w5] at l2
              obtain ⟨p2, M3, c3, o3, e3, h⟩ := qBnd_inr h
              obtain ⟨b1, b2⟩ := ih 2 _ _ _ _ _ _ _ _ e3 (Lok_tl a1) (fun z => by omega) (by omega)
              obtain ⟨v1, v2⟩ := qEnd_w h
              obtain ⟨-, v3, -⟩ := qEnd_inr h
              rw [if_pos rfl] at a2 b2
              have ez : zW (zk t) = 7 + (zW (zk e) + (2 + (zW (zk p1) + (2 + (7 + (2 + (zW (zk p2) + (2 + 2)))))))) := by
                rw [v1, zk_wn]
                simp only [zWc, zW_app, zWn, w5, w7, Nat.add_zero]
              refine ⟨by rw [v3]; exact Lok_tl b1, ?_⟩
              rw [ez]
              omega
            · rename_i n3
              have hn : phs 5 L = true → pw L ≠ 8 ∧ pw L ≠ 11 ∧ pw L ≠ 15 ∧ pw L ≠ 16 := by
                intro h5
                simp [h5] at n1 n2 n3
                exact ⟨n1.1, n1.2, n2, n3⟩
              refine ⟨?_, by have := pOne_w hL hb hn h; omega⟩
              have hB : (phs 1 L || phs 3 L) = true ∨ (phs 5 L = true ∧ (pw L ≤ 7 ∨ pw L = 14)) := by
                unfold pBeg at hb
                cases a : (phs 1 L || phs 3 L) with
                | true => exact Or.inl rfl
                | false =>
                  rw [a, Bool.false_or] at hb
                  have hb' : phs 5 L = true ∧ ((pw L ≤ 8 ∨ pw L = 11) ∨ (14 ≤ pw L ∧ pw L ≤ 16)) := by simpa using hb
                  have := hn hb'.1
                  exact Or.inr ⟨hb'.1, by omega⟩
              exact (pOne_ok hL hB h).1
      · rename_i m0 m1
        have m2 : m = 2 := by omega
        subst m2
        rw [if_pos rfl]
        split at h
        · rename_i p
          have l := iw p
          rw [w7] at l
          split at h
          · cases h
          · obtain ⟨t2, M2, c2, o2, e2, h⟩ := qBnd_inr h
            obtain ⟨a1, a2⟩ := ih 0 _ _ _ _ _ _ _ _ e2 (Lok_tl hL) (fun z => by omega) (by omega)
            rw [if_neg (by decide)] at a2
            split at h
            · rename_i p2
              cases h
              have l2 := iw p2
              rw [w7] at l2
              exact ⟨Lok_tl a1, by omega⟩
            · cases h
        · cases h

/-! bytes of a text weigh at most four each -/
theorem bNum_v : ∀ (k a : Nat) (v : List Int), ∃ j, v.length = (bNum k a v).2.length + j ∧ (bNum k a v).1 < (a + 1) * 10 ^ j := by
  intro k
  induction k with
  | zero => intro a v; exact ⟨0, rfl, by show a < (a + 1) * 10 ^ 0; omega⟩
  | succ k ih =>
    intro a v
    cases v with
    | nil => exact ⟨0, rfl, by show a < (a + 1) * 10 ^ 0; omega⟩
    | cons c t =>
      unfold bNum
      by_cases q : bDg c = true
      · rw [if_pos q]
        obtain ⟨j, j1, j2⟩ := ih (10 * a + (c - 48).toNat) t
        refine ⟨j + 1, by rw [List.length_cons, j1]; omega, Nat.lt_of_lt_of_le j2 ?_⟩
        have hc : (c - 48).toNat ≤ 9 := by unfold bDg at q; simp at q; omega
        rw [Nat.pow_succ, Nat.mul_comm (10 ^ j) 10, ← Nat.mul_assoc]
        exact Nat.mul_le_mul_right _ (by omega)
      · rw [if_neg q]; exact ⟨0, rfl, by show a < (a + 1) * 10 ^ 0; omega⟩
theorem ptp_10 : ∀ (f n i k : Nat), n < 10 ^ k → i < k → ∃ j, j < k ∧ ptp f n (10 ^ i) = 10 ^ j := by
  intro f
  induction f with
  | zero => intro n i k _ hi; exact ⟨i, hi, rfl⟩
  | succ f ih =>
    intro n i k hn hi
    unfold ptp
    by_cases q : 9 < n / 10 ^ i
    · rw [if_pos q]
      have p0 : 0 < 10 ^ i := Nat.pow_pos (by decide)
      have h1 : 10 * 10 ^ i ≤ n := (Nat.le_div_iff_mul_le p0).mp q
      have h2 : 10 ^ (i + 1) ≤ n := by rw [Nat.pow_succ]; omega
      have h3 : i + 1 < k := by
        by_cases y : i + 1 < k
        · exact y
        · have : 10 ^ k ≤ 10 ^ (i + 1) := Nat.pow_le_pow_right (by decide) (by omega)
          omega
      rw [show 10 * 10 ^ i = 10 ^ (i + 1) by rw [Nat.pow_succ, Nat.mul_comm]]
      exact ih n (i + 1) k hn h3
    · rw [if_neg q]; exact ⟨i, hi, rfl⟩
theorem pdg_10 : ∀ (j f n : Nat), (pdg f n (10 ^ j)).length ≤ j + 1 := by
  intro j
  induction j with
  | zero =>
    intro f n
    cases f with
    | zero => exact Nat.zero_le _
    | succ f =>
      unfold pdg
      rw [if_pos (by decide)]
      have : pdg f n (10 ^ 0 / 10) = [] := by
        cases f with
        | zero => rfl
        | succ f => unfold pdg; rw [if_neg (by decide)]
      rw [this]
      exact Nat.le_refl _
  | succ j ih =>
    intro f n
    cases f with
    | zero => exact Nat.zero_le _
    | succ f =>
      unfold pdg
      rw [if_pos (Nat.pow_pos (by decide)), Nat.pow_succ, Nat.mul_div_cancel _ (by decide), List.length_cons]
      have := ih f n
      omega
theorem pnm_len {n k : Nat} (h : n < 10 ^ k) (hk : 0 < k) : (pnm n).length ≤ k := by
  obtain ⟨j, j1, j2⟩ := ptp_10 10 n 0 k h hk
  unfold pnm
  rw [show (1 : Nat) = 10 ^ 0 by rfl, j2]
  have := pdg_10 j 11 n
  omega
theorem bWord_ln : ∀ v : List Int, v.length = (bWord v).1.length + (bWord v).2.length := by
  intro v
  induction v with
  | nil => rfl
  | cons c v ih =>
    unfold bWord
    split
    · show v.length + 1 = (bWord v).1.length + 1 + (bWord v).2.length; omega
    · simp
theorem bTok_w (c : Int) (r : List Int) : zpw ((bTok c r).1, (bTok c r).2.1) + 4 * (bTok c r).2.2.length ≤ 4 * (r.length + 1) := by
  unfold bTok
  by_cases a : bSm c = true
  · rw [if_pos a]
    by_cases b : (bWord r).1 = []
    · rw [if_pos b]
      show 2 + 4 * r.length ≤ _
      omega
    · rw [if_neg b]
      have l := bWord_ln r
      have l1 : 0 < (bWord r).1.length := List.length_pos_iff.mpr b
      split
      · show 7 + 4 * (bWord r).2.length ≤ _
        omega
      · have : zpw (0, 0) = 4 := by decide
        show zpw (0, 0) + 4 * (bWord r).2.length ≤ _
        omega
  rw [if_neg a]
  by_cases b : bDg c = true
  · rw [if_pos b]
    obtain ⟨j, j1, j2⟩ := bNum_v 8 (c - 48).toNat r
    have hc : (c - 48).toNat ≤ 9 := by unfold bDg at b; simp at b; omega
    have n10 : (bNum 8 (c - 48).toNat r).1 < 10 ^ (j + 1) := by
      refine Nat.lt_of_lt_of_le j2 ?_
      rw [Nat.pow_succ, Nat.mul_comm]
      exact Nat.mul_le_mul_left _ (by omega)
    have := pnm_len n10 (by omega)
    show (pnm (bNum 8 (c - 48).toNat r).1).length + 1 + 4 * (bNum 8 (c - 48).toNat r).2.length ≤ _
    omega
  rw [if_neg b]
  by_cases d : bCp c = true
  · rw [if_pos d]
    have : zpw (0, 0) = 4 := by decide
    split
    · show 2 + 4 * r.length ≤ _
      omega
    · split
      · show 2 + 4 * r.length ≤ _
        omega
      · show zpw (0, 0) + 4 * r.length ≤ _
        omega
  rw [if_neg d]
  cases r with
  | nil => show 2 + 0 ≤ 4; decide
  | cons e q =>
    dsimp only
    split
    · rename_i i hi
      have h2 : i < 6 := by
        unfold bTwo at hi
        (repeat' split at hi) <;> cases hi <;> decide
      have h3 : zpw (6, i) = 3 := by
        have : i = 0 ∨ i = 1 ∨ i = 2 ∨ i = 3 ∨ i = 4 ∨ i = 5 := by omega
        rcases this with y | y | y | y | y | y <;> subst y <;> rfl
      show zpw (6, i) + 4 * q.length ≤ 4 * (q.length + 1 + 1)
      omega
    · show 2 + 4 * (q.length + 1) ≤ 4 * (q.length + 1 + 1)
      omega
theorem bLex_w : ∀ (f : Nat) (u : List Int), wL (bLex f u) ≤ 4 * u.length := by
  intro f
  induction f with
  | zero => intro u; exact Nat.zero_le _
  | succ f ih =>
    intro u
    unfold bLex
    have hs := bSkip_len u
    cases e : bSkip u with
    | nil => exact Nat.zero_le _
    | cons c r =>
      rw [e, List.length_cons] at hs
      have h1 := bTok_w c r
      have h2 := ih (bTok c r).2.2
      show zpw ((bTok c r).1, (bTok c r).2.1) + wL (bLex f (bTok c r).2.2) ≤ _
      omega
theorem pRead_w {u : List Int} {t : zT} (ok : okb u) (h : pRead (lex u) = some (.inr t)) : zW (zk t) ≤ 4 * u.length := by
  have lok : Lok (lex u) := lex_ok _ u (Nat.le_refl _) ok
  unfold pRead at h
  cases hp : pS (3 * (lex u).length + 5) 0 0 0 2 (lex u) with
  | none => rw [hp] at h; cases h
  | some r =>
    rw [hp] at h
    cases r with
    | inl f => cases h
    | inr p =>
      obtain ⟨t1, M, c, o⟩ := p
      dsimp only at h
      split at h
      · cases h
        have w := (pS_w _ 0 _ _ _ _ _ _ _ _ hp lok (fun z => by omega) (by omega)).2
        rw [if_neg (by decide)] at w
        have l : wL (lex u) ≤ 4 * u.length := bLex_w _ u
        omega
      · cases h
