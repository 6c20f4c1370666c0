/-! x's tokens against the pure ones -/
theorem bWord_len (v : List Int) : (bWord v).1.length + (bWord v).2.length = v.length := by
  have := congrArg List.length (bWord_app v)
  rwa [List.length_append] at this
theorem bTok_len (c : Int) (r : List Int) : (bTok c r).2.2.length ≤ r.length := by
  unfold bTok
  have h1 := bWord_len r
  have h2 := bNum_len 8 (c - 48).toNat r
  split
  · split
    · exact Nat.le_refl _
    · split <;> (show (bWord r).2.length ≤ _; omega)
  · split
    · exact h2
    · split
      · split
        · exact Nat.le_refl _
        · split <;> exact Nat.le_refl _
      · split
        · exact Nat.le_refl _
        · split
          · exact Nat.le_succ _
          · exact Nat.le_refl _
theorem bSkip_len (u : List Int) : (bSkip u).length ≤ u.length := by
  induction u with
  | nil => exact Nat.le_refl _
  | cons c u ih =>
    unfold bSkip
    split
    · exact Nat.le_trans ih (Nat.le_succ _)
    · exact Nat.le_refl _
theorem bSkip_skip (u : List Int) : bSkip (bSkip u) = bSkip u := by
  induction u with
  | nil => rfl
  | cons c u ih =>
    by_cases hc : c = 32
    · rw [show bSkip (c :: u) = bSkip u by rw [bSkip, if_pos hc]]; exact ih
    · have e : bSkip (c :: u) = c :: u := by rw [bSkip, if_neg hc]
      rw [e, e]
theorem bLex_fuel : ∀ (f g : Nat) (t : List Int), t.length < f → t.length < g → bLex f t = bLex g t := by
  intro f
  induction f with
  | zero => intro g t h; exact absurd h (Nat.not_lt_zero _)
  | succ f ih =>
    intro g t h1 h2
    cases g with
    | zero => exact absurd h2 (Nat.not_lt_zero _)
    | succ g =>
      unfold bLex
      have hs := bSkip_len t
      cases e : bSkip t with
      | nil => rfl
      | cons c r =>
        rw [e, List.length_cons] at hs
        have hl := bTok_len c r
        show _ :: bLex f _ = _ :: bLex g _
        rw [ih g _ (by omega) (by omega)]
theorem lex_nil : lex [] = [] := rfl
theorem lex_cons {c : Int} {r : List Int} (hc : c ≠ 32) : lex (c :: r) = (r.length + 1, (bTok c r).1, (bTok c r).2.1) :: lex (bTok c r).2.2 := by
  have hl := bTok_len c r
  have e : bSkip (c :: r) = c :: r := by rw [bSkip, if_neg hc]
  show bLex ((c :: r).length + 1) (c :: r) = _
  unfold bLex
  rw [e]
  show _ :: bLex (c :: r).length _ = _ :: bLex _ _
  rw [bLex_fuel (c :: r).length ((bTok c r).2.2.length + 1) _ (by rw [List.length_cons]; omega) (by omega)]
theorem lex_skip (u : List Int) : lex (bSkip u) = lex u := by
  have hs := bSkip_len u
  show bLex _ _ = bLex _ _
  rw [bLex_fuel _ (u.length + 1) _ (Nat.lt_succ_self _) (by omega)]
  unfold bLex
  rw [bSkip_skip]
theorem lex_len (n : Nat) : ∀ u : List Int, u.length ≤ n → (lex u).length ≤ u.length := by
  induction n with
  | zero => intro u h; cases u with
    | nil => exact Nat.le_refl _
    | cons c r => simp at h
  | succ n ih =>
    intro u h
    rw [← lex_skip]
    have hs := bSkip_len u
    cases e : bSkip u with
    | nil => exact Nat.zero_le _
    | cons c r =>
      rw [e, List.length_cons] at hs
      by_cases hc : c = 32
      · exfalso
        have h2 := bSkip_skip u
        rw [e, bSkip, if_pos hc] at h2
        have h3 := bSkip_len r
        rw [h2, List.length_cons] at h3
        omega
      · rw [lex_cons hc, List.length_cons]
        have hl := bTok_len c r
        have := ih (bTok c r).2.2 (by omega)
        omega
/-- x looks at the first of the tokens L -/
def Lx (h : hp) (L : List zTk) : Prop := ∃ u, Cl h u ∧ L = lex u
theorem Lx_un {h : hp} {L : List zTk} (hL : Lx h L) : (L = [] ∧ hI h 68 4 = 0 ∧ hI h 68 3 = hI h 68 1) ∨ ∃ (b e : Nat) (c : Int) (r : List Int), hI h 68 3 = b ∧ hI h 68 2 = e ∧ Tq h b (c :: r) ∧ Tq h e (bTok c r).2.2 ∧ Cso h c r ∧ c ≠ 32 ∧ L = (r.length + 1, (bTok c r).1, (bTok c r).2.1) :: lex (bTok c r).2.2 := by
  obtain ⟨u, hC, e⟩ := hL
  cases u with
  | nil => exact Or.inl ⟨e, hC.2, hC.1⟩
  | cons c r =>
    obtain ⟨hc, b, q, h1, h2, h3, h4, h5⟩ := hC
    exact Or.inr ⟨b, q, c, r, h1, h2, h3, h4, h5, hc, by rw [e, lex_cons hc]⟩
theorem c_adv {d : Nat} {Q : qt} {h : hp} {L : List zTk} (hS : St h) (hL : Lx h L) (hn : L ≠ []) (k : ∀ h', FI [2, 3, 4, 5] [] [] h h' → Lx h' L.tail → Q (.inl none) h') : Wc (d + 4) 5 [vR (some 68)] h Q := by
  rcases Lx_un hL with ⟨e, -⟩ | ⟨b, e, c, r, h1, h2, h3, h4, h5, hc, eL⟩
  · exact absurd e hn
  · refine c_next hS h2 h4 fun h' hF hC => k h' hF ⟨_, hC, ?_⟩
    rw [eL, List.tail_cons, lex_skip]
theorem Tq_hd {h : hp} {b : Nat} {c : Int} {r : List Int} (hT : Tq h b (c :: r)) : hI h 69 b = c ∧ b < 600 ∧ 32 ≤ c ∧ c ≤ 126 := by
  have h1 := hT.2.1
  rw [List.length_cons] at h1
  have h2 := hT.2.2.2 c (List.mem_cons_self ..)
  exact ⟨hT.2.2.1.1, by omega, h2.1, h2.2⟩
/-! sorts of a token -/
theorem bT_sm {c : Int} {r : List Int} (h1 : bSm c = true) : (bTok c r).1 = 0 ∨ (bTok c r).1 = 1 ∨ (bTok c r).1 = 5 := by
  unfold bTok
  rw [if_pos h1]
  split
  · exact Or.inr (Or.inl rfl)
  · split
    · exact Or.inr (Or.inr rfl)
    · exact Or.inl rfl
theorem bT_cp {c : Int} {r : List Int} (h1 : ¬ bSm c = true) (h2 : ¬ bDg c = true) (h3 : bCp c = true) : (c ≤ 70 ∧ bTok c r = (3, (c - 65).toNat, r)) ∨ (83 ≤ c ∧ c ≤ 86 ∧ bTok c r = (4, (c - 83).toNat, r)) ∨ (70 < c ∧ ¬ (83 ≤ c ∧ c ≤ 86) ∧ bTok c r = (0, 0, r)) := by
  unfold bTok
  rw [if_neg h1, if_neg h2, if_pos h3]
  split
  · exact Or.inl ⟨by assumption, rfl⟩
  · split
    · rename_i q; exact Or.inr (Or.inl ⟨q.1, q.2, rfl⟩)
    · exact Or.inr (Or.inr ⟨by omega, by assumption, rfl⟩)
theorem bT_ot {c : Int} {r : List Int} (h1 : ¬ bSm c = true) (h2 : ¬ bDg c = true) (h3 : ¬ bCp c = true) : (∃ e q i, r = e :: q ∧ bTwo c e = some i ∧ bTok c r = (6, i, q)) ∨ bTok c r = (7, c.toNat, r) := by
  cases h : bTwo c (hdc r) with
  | none => exact Or.inr (bTok_one h1 h2 h3 h)
  | some i => exact Or.inl (bTok_two h1 h2 h3 (by rw [h]; rfl))
theorem c_isSign {d : Nat} {Q : qt} {h : hp} {L : List zTk} {v : Nat} (hS : St h) (hL : Lx h L) (k : Q (.inl (some (vI (bI (pis 7 v L))))) h) : Wc (d + 1) 22 [vR (some 68), vI (v : Nat)] h Q := by
  refine se_X0_isSign hS ?_
  rcases Lx_un hL with ⟨e, e4, -⟩ | ⟨b, e, c, r, h1, h2, h3, h4, h5, hc, eL⟩
  · rw [if_neg (by omega)]; rw [e] at k; exact k
  · obtain ⟨t1, t2, t3, t4⟩ := Tq_hd h3
    have hpis : pis 7 v L = ((bTok c r).1 == 7 && (bTok c r).2.1 == v) := by rw [eL]; rfl
    rw [hpis] at k
    have fin0 : (bTok c r).1 ≠ 7 → hI h 68 4 ≠ 4 → (if hI h 68 4 = 4 then ((0 ≤ hI h 68 3 ∧ hI h 68 3 < 600) ∧ (if hI h 69 (hI h 68 3).toNat = v then Q (.inl (some (vI 1))) h else Q (.inl (some (vI 0))) h)) else Q (.inl (some (vI 0))) h) := by
      intro n1 n2
      rw [if_neg n2]
      rw [show ((bTok c r).1 == 7) = false by simpa using n1, Bool.false_and] at k
      exact k
    unfold Cso at h5
    by_cases c1 : bSm c = true
    · rw [if_pos c1] at h5
      exact fin0 (by rcases bT_sm (r := r) c1 with q | q | q <;> omega) (by omega)
    · rw [if_neg c1] at h5
      by_cases c2 : bDg c = true
      · rw [if_pos c2] at h5
        exact fin0 (by rw [bTok_dg c1 c2]; simp) (by omega)
      · rw [if_neg c2] at h5
        by_cases c3 : bCp c = true
        · rw [if_pos c3] at h5
          exact fin0 (by rcases bT_cp (r := r) c1 c2 c3 with ⟨-, q⟩ | ⟨-, -, q⟩ | ⟨-, -, q⟩ <;> (rw [q]; simp)) (by omega)
        · rw [if_neg c3] at h5
          rcases bT_ot (r := r) c1 c2 c3 with ⟨x, y, i, -, -, q⟩ | q
          · rw [q, if_pos (by simp)] at h5
            exact fin0 (by rw [q]; simp) (by omega)
          · rw [q, if_neg (by simp)] at h5
            rw [if_pos h5, h1, Int.toNat_natCast, t1]
            refine ⟨by omega, ?_⟩
            rw [q] at k
            by_cases hv : c = v
            · rw [if_pos hv]
              rw [show (c.toNat == v) = true by simp; omega] at k
              exact k
            · rw [if_neg hv]
              rw [show (c.toNat == v) = false by simp; omega] at k
              exact k
theorem Lx_pos {h : hp} {L : List zTk} (hL : Lx h L) : hI h 68 3 = hI h 68 1 - (pq L : Nat) := by
  rcases Lx_un hL with ⟨e, -, e3⟩ | ⟨b, e, c, r, h1, h2, h3, h4, h5, hc, eL⟩
  · rw [e3, e]; simp [pq]
  · rw [eL, h1, h3.1]; simp [pq]
theorem Lx_hd {h : hp} {L : List zTk} (hL : Lx h L) (hn : L ≠ []) : ∃ b : Nat, hI h 68 3 = b ∧ b < 600 ∧ (phs 7 L = true → hI h 69 b = (pw L : Nat)) ∧ (phs 1 L = true → hI h 69 b = (pw L : Nat) + 97 ∧ pw L < 26) ∧ (phs 3 L = true → hI h 69 b = (pw L : Nat) + 65 ∧ pw L < 6) ∧ (phs 4 L = true → hI h 69 b = (pw L : Nat) + 83 ∧ pw L < 4) := by
  rcases Lx_un hL with ⟨e, -⟩ | ⟨b, e, c, r, h1, h2, h3, h4, h5, hc, eL⟩
  · exact absurd e hn
  · obtain ⟨t1, t2, t3, t4⟩ := Tq_hd h3
    refine ⟨b, h1, t2, ?_⟩
    rw [eL, t1]
    simp only [phs, pw, beq_iff_eq]
    by_cases c1 : bSm c = true
    · have hr := bSm_iff.mp c1
      rcases bT_sm (r := r) c1 with q | q | q
      · rw [q]; refine ⟨fun z => by omega, fun z => by omega, fun z => by omega, fun z => by omega⟩
      · have hw : (bTok c r).2.1 = (c - 97).toNat := by
          unfold bTok at q ⊢
          rw [if_pos c1] at q ⊢
          split
          · rfl
          · rename_i n0; rw [if_neg n0] at q; split at q <;> simp at q
        rw [q, hw]; refine ⟨fun z => by omega, fun z => ⟨by omega, by omega⟩, fun z => by omega, fun z => by omega⟩
      · rw [q]; refine ⟨fun z => by omega, fun z => by omega, fun z => by omega, fun z => by omega⟩
    · by_cases c2 : bDg c = true
      · rw [bTok_dg c1 c2]; refine ⟨fun z => by omega, fun z => by omega, fun z => by omega, fun z => by omega⟩
      · by_cases c3 : bCp c = true
        · have hr := bCp_iff.mp c3
          rcases bT_cp (r := r) c1 c2 c3 with ⟨q0, q⟩ | ⟨q0, q1, q⟩ | ⟨q0, q1, q⟩ <;> rw [q] <;> dsimp only <;> exact ⟨fun z => by omega, fun z => by omega, fun z => ⟨by omega, by omega⟩, fun z => ⟨by omega, by omega⟩⟩
        · rcases bT_ot (r := r) c1 c2 c3 with ⟨x, y, i, -, -, q⟩ | q <;> rw [q] <;> dsimp only
          · exact ⟨fun z => by omega, fun z => by omega, fun z => by omega, fun z => by omega⟩
          · exact ⟨fun z => by omega, fun z => by omega, fun z => by omega, fun z => by omega⟩
theorem c_isName {d : Nat} {Q : qt} {h : hp} {L : List zTk} (hS : St h) (hL : Lx h L) (k : Q (.inl (some (vI (bI (phs 1 L))))) h) : Wc (d + 1) 10 [vR (some 68)] h Q := by
  refine se_X0_isNameToken hS ?_
  rcases Lx_un hL with ⟨e, e4, -⟩ | ⟨b, e, c, r, h1, h2, h3, h4, h5, hc, eL⟩
  · rw [if_neg (by omega)]; rw [e] at k; exact k
  · obtain ⟨t1, t2, t3, t4⟩ := Tq_hd h3
    have hpis : phs 1 L = ((bTok c r).1 == 1) := by rw [eL]; rfl
    rw [hpis] at k
    unfold Cso at h5
    by_cases c1 : bSm c = true
    · rw [if_pos c1] at h5
      rw [if_pos h5, h1, h2]
      have e1 := h3.1
      have e2 := h4.1
      have e3 := h4.2.1
      rw [e1, bTok_sm c1] at e2
      rw [bTok_sm c1] at e3
      have hw := bWord_len r
      rw [List.length_cons] at e2
      rw [ns_eq (by omega) (by omega)]
      by_cases hz : (bWord r).1 = []
      · have hz2 : (bWord r).1.length = 0 := by rw [hz]; rfl
        rw [if_pos (by omega)]
        rw [show (bTok c r).1 = 1 by unfold bTok; rw [if_pos c1, if_pos hz]] at k
        exact k
      · have hz2 : (bWord r).1.length ≠ 0 := fun q => hz (List.length_eq_zero_iff.mp q)
        rw [if_neg (by omega)]
        rw [show ((bTok c r).1 == 1) = false by unfold bTok; rw [if_pos c1, if_neg hz]; split <;> rfl] at k
        exact k
    · rw [if_neg c1] at h5
      have hn : hI h 68 4 ≠ 1 ∧ (bTok c r).1 ≠ 1 := by
        by_cases c2 : bDg c = true
        · rw [if_pos c2] at h5; rw [bTok_dg c1 c2]; exact ⟨by omega, by simp⟩
        · rw [if_neg c2] at h5
          by_cases c3 : bCp c = true
          · rw [if_pos c3] at h5
            exact ⟨by omega, by rcases bT_cp (r := r) c1 c2 c3 with ⟨-, q⟩ | ⟨-, -, q⟩ | ⟨-, -, q⟩ <;> (rw [q]; simp)⟩
          · rw [if_neg c3] at h5
            rcases bT_ot (r := r) c1 c2 c3 with ⟨x, y, i, -, -, q⟩ | q
            · rw [q, if_pos (by simp)] at h5; rw [q]; exact ⟨by omega, by simp⟩
            · rw [q, if_neg (by simp)] at h5; rw [q]; exact ⟨by omega, by simp⟩
      rw [if_neg hn.1]
      rw [show ((bTok c r).1 == 1) = false by simpa using hn.2] at k
      exact k
theorem c_isRowT {d : Nat} {Q : qt} {h : hp} {L : List zTk} (hS : St h) (hL : Lx h L) (k : Q (.inl (some (vI (bI (phs 3 L))))) h) : Wc (d + 1) 11 [vR (some 68)] h Q := by
  refine se_X0_isRowToken hS ?_
  rcases Lx_un hL with ⟨e, e4, -⟩ | ⟨b, e, c, r, h1, h2, h3, h4, h5, hc, eL⟩
  · rw [if_neg (by omega)]; rw [e] at k; exact k
  · obtain ⟨t1, t2, t3, t4⟩ := Tq_hd h3
    have hpis : phs 3 L = ((bTok c r).1 == 3) := by rw [eL]; rfl
    rw [hpis] at k
    unfold Cso at h5
    have fin0 : (bTok c r).1 ≠ 3 → hI h 68 4 ≠ 3 → (if hI h 68 4 = 3 then ((0 ≤ hI h 68 3 ∧ hI h 68 3 < 600) ∧ (if 70 < hI h 69 (hI h 68 3).toNat then Q (.inl (some (vI 0))) h else Q (.inl (some (vI 1))) h)) else Q (.inl (some (vI 0))) h) := by
      intro n1 n2
      rw [if_neg n2]
      rw [show ((bTok c r).1 == 3) = false by simpa using n1] at k
      exact k
    by_cases c1 : bSm c = true
    · rw [if_pos c1] at h5
      exact fin0 (by rcases bT_sm (r := r) c1 with q | q | q <;> omega) (by omega)
    · rw [if_neg c1] at h5
      by_cases c2 : bDg c = true
      · rw [if_pos c2] at h5
        exact fin0 (by rw [bTok_dg c1 c2]; simp) (by omega)
      · rw [if_neg c2] at h5
        by_cases c3 : bCp c = true
        · rw [if_pos c3] at h5
          rw [if_pos h5, h1, Int.toNat_natCast, t1]
          refine ⟨by omega, ?_⟩
          rcases bT_cp (r := r) c1 c2 c3 with ⟨q0, q⟩ | ⟨q0, q1, q⟩ | ⟨q0, q1, q⟩ <;> rw [q] at k
          · rw [if_neg (by omega)]; exact k
          · rw [if_pos (by omega)]; exact k
          · rw [if_pos (by omega)]; exact k
        · rw [if_neg c3] at h5
          rcases bT_ot (r := r) c1 c2 c3 with ⟨x, y, i, -, -, q⟩ | q
          · rw [q, if_pos (by simp)] at h5
            exact fin0 (by rw [q]; simp) (by omega)
          · rw [q, if_neg (by simp)] at h5
            exact fin0 (by rw [q]; simp) (by omega)
/-- the sort as x has it -/
theorem Lx_num {h : hp} {L : List zTk} (hL : Lx h L) : (hI h 68 4 = 2 ↔ phs 2 L = true) ∧ (phs 2 L = true → hI h 68 5 = (pw L : Nat)) ∧ (hI h 68 4 = 0 ↔ L = []) := by
  rcases Lx_un hL with ⟨e, e4, -⟩ | ⟨b, e, c, r, h1, h2, h3, h4, h5, hc, eL⟩
  · rw [e, e4]; simp [phs]
  · rw [eL]
    simp only [phs, pw, beq_iff_eq]
    unfold Cso at h5
    by_cases c1 : bSm c = true
    · rw [if_pos c1] at h5
      rw [h5]
      rcases bT_sm (r := r) c1 with q | q | q <;> rw [q] <;> simp
    · rw [if_neg c1] at h5
      by_cases c2 : bDg c = true
      · rw [if_pos c2] at h5
        rw [h5.1, bTok_dg c1 c2]
        refine ⟨by simp, fun _ => ?_, by simp⟩
        rw [h5.2, bTok_dg c1 c2]
      · rw [if_neg c2] at h5
        by_cases c3 : bCp c = true
        · rw [if_pos c3] at h5
          rw [h5]
          rcases bT_cp (r := r) c1 c2 c3 with ⟨-, q⟩ | ⟨-, -, q⟩ | ⟨-, -, q⟩ <;> rw [q] <;> simp
        · rw [if_neg c3] at h5
          rcases bT_ot (r := r) c1 c2 c3 with ⟨x, y, i, -, -, q⟩ | q
          · rw [q, if_pos (by simp)] at h5; rw [h5, q]; simp
          · rw [q, if_neg (by simp)] at h5; rw [h5, q]; simp
