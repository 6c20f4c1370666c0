/-! x LOOKS AT WORDS -/
theorem dropN_get {l : List Nat} {k c : Nat} {t : List Nat} (h : l.drop k = c :: t) : k < l.length ∧ l.getD k 0 = c ∧ l.drop (k + 1) = t := by
  have h1 : k < l.length := by
    by_cases q : k < l.length
    · exact q
    · rw [List.drop_eq_nil_of_le (by omega)] at h; cases h
  refine ⟨h1, ?_, ?_⟩
  · rw [List.getD_eq_getElem?_getD, ← List.head?_drop, h]; rfl
  · rw [← List.tail_drop, h]; rfl
theorem iw_loop {d : Nat} {Q : qt} {h : hp} {a b : Nat} {bs : List Nat} (hS : St h) (hB : Ss h a bs) (hl : bs.length < 1000) (hlt : ∀ x ∈ bs, x < 128) (h3 : hI h 68 3 = (b : Nat)) : ∀ (ws : List Int) (cs : List Nat) (k : Nat), bs.drop k = cs → ws.length = cs.length → Tx h 69 (b + k) ws → b + k + ws.length ≤ 600 →
    Q (.inl (some (vI (bI (decide (ws = cs.map Int.ofNat)))))) h → Wp (d + 4) C_X0_isWord Q 32 [vR (some 68), vR (some a), vI 1, vI (k : Nat)] [] h := by
  intro ws
  induction ws with
  | nil =>
    intro cs k e1 e2 _ _ z
    have hcs : cs = [] := List.length_eq_zero_iff.mp e2.symm
    rw [hcs] at e1 z
    have hk : bs.length ≤ k := by
      by_cases q : k < bs.length
      · rw [List.drop_eq_getElem_cons q] at e1; cases e1
      · omega
    refine ss_X0_isWord_32 hS ?_
    rw [if_neg (by decide), ofR_some, hB.1, if_pos rfl]
    refine c_strLen hS hB hl ?_
    refine ss_X0_isWord_41 hS ?_
    rw [if_neg (by omega)]
    exact ⟨Or.inr rfl, z⟩
  | cons w ws ih =>
    intro cs k e1 e2 ht hb z
    cases cs with
    | nil => cases e2
    | cons c cs =>
      rw [List.length_cons, List.length_cons] at e2
      rw [List.length_cons] at hb
      obtain ⟨g1, g2, g3⟩ := dropN_get e1
      refine ss_X0_isWord_32 hS ?_
      rw [if_neg (by decide), ofR_some, hB.1, if_pos rfl]
      refine c_strLen hS hB hl ?_
      refine ss_X0_isWord_41 hS ?_
      rw [if_pos (by omega), h3, na_eq (by omega) (by omega), show ((b : Int) + (k : Nat)).toNat = b + k by omega, ht.1, ofR_some, hB.1, if_pos rfl]
      refine ⟨by omega, ?_⟩
      refine c_charAt hS hB hl g1 hlt ?_
      rw [g2]
      refine ss_X0_isWord_60 hS ?_
      rw [na_eq (by omega) (by omega)]
      by_cases q : w = ((c : Nat) : Int)
      · rw [if_pos q]
        refine ih cs (k + 1) g3 (by omega) (by rw [← Nat.add_assoc]; exact ht.2) (by omega) ?_
        have : decide (w :: ws = (c :: cs).map Int.ofNat) = decide (ws = cs.map Int.ofNat) := by
          rw [List.map_cons]
          by_cases q2 : ws = cs.map Int.ofNat
          · rw [decide_eq_true q2, decide_eq_true (by rw [q2, q]; rfl)]
          · rw [decide_eq_false q2, decide_eq_false (fun z => q2 (List.cons.inj z).2)]
        rw [this] at z
        exact z
      · rw [if_neg q]
        rw [decide_eq_false (fun y => q (by rw [List.map_cons] at y; exact (List.cons.inj y).1))] at z
        refine ss_X0_isWord_32 hS ?_
        refine ip rfl ?_
        exact ⟨Or.inl rfl, z⟩
theorem kIdx : ∀ i, i < 22 → bKeys.findIdx? (· == bKeys.getD i []) = some i := by decide
theorem kIdx2 {w : List Int} {i : Nat} (h : bKeys.findIdx? (· == w) = some i) : i < 22 ∧ bKeys.getD i [] = w := by
  obtain ⟨h1, h2, -⟩ := List.findIdx?_eq_some_iff_getElem.mp h
  refine ⟨h1, ?_⟩
  rw [List.getD_eq_getElem?_getD, List.getElem?_eq_getElem h1]
  simpa using h2
theorem kLen : ∀ i, i < 22 → 2 ≤ (bKeys.getD i []).length := by decide
theorem c_isWord {d : Nat} {Q : qt} {h : hp} {L : List zTk} {a i : Nat} {bs : List Nat} (hS : St h) (hL : Lx h L) (hB : Ss h a bs) (hi : i < 22) (hk : bKeys.getD i [] = bs.map Int.ofNat) (hlt : ∀ x ∈ bs, x < 128) (k : Q (.inl (some (vI (bI (pis 5 i L))))) h) : Wc (d + 5) 13 [vR (some 68), vR (some a)] h Q := by
  have hkl := kLen i hi
  rw [hk, List.length_map] at hkl
  have hl : bs.length < 1000 := by
    have : ∀ i, i < 22 → (bKeys.getD i []).length < 1000 := by decide
    have := this i hi
    rwa [hk, List.length_map] at this
  refine se_X0_isWord hS ?_
  have no : pis 5 i L = false → Wp (d + 4) C_X0_isWord Q 32 [vR (some 68), vR (some a), vI 0, vI 0] [] h := by
    intro q
    refine ss_X0_isWord_32 hS ?_
    refine ip rfl ?_
    rw [q] at k
    exact ⟨Or.inl rfl, k⟩
  rcases Lx_un hL with ⟨e, e4, -⟩ | ⟨b, e, c, r, h1, h2, h3, h4, h5, hc, eL⟩
  · rw [if_neg (by omega)]; exact no (by rw [e]; rfl)
  · obtain ⟨t1, t2, t3, t4⟩ := Tq_hd h3
    have hpis : pis 5 i L = ((bTok c r).1 == 5 && (bTok c r).2.1 == i) := by rw [eL]; rfl
    unfold Cso at h5
    by_cases c1 : bSm c = true
    · rw [if_pos c1] at h5
      rw [if_pos h5, ofR_some, hB.1, if_pos rfl]
      refine c_strLen hS hB hl ?_
      refine ss_X0_isWord_21 hS ?_
      have e1 := h3.1
      have e2 := h4.1
      have e3 := h4.2.1
      rw [e1, bTok_sm c1] at e2
      rw [bTok_sm c1] at e3
      have hw := bWord_len r
      rw [List.length_cons] at e2
      have h32 := h3.2.1
      rw [List.length_cons] at h32
      rw [h1, h2, ns_eq (by omega) (by omega)]
      by_cases hn : (bWord r).1.length + 1 = bs.length
      · rw [if_pos (by omega)]
        refine iw_loop hS hB hl hlt h1 (c :: (bWord r).1) bs 0 (List.drop_zero ..) (by rw [List.length_cons]; exact hn) ?_ (by rw [List.length_cons]; omega) ?_
        · refine Tx_take (v := (bWord r).2) ?_
          rw [List.cons_append, bWord_app, Nat.add_zero]
          exact h3.2.2.1
        · have hz : (bWord r).1 ≠ [] := fun q => by rw [q] at hn; simp at hn; omega
          have et : bTok c r = (match bKeys.findIdx? (· == c :: (bWord r).1) with | some i => (5, i, (bWord r).2) | none => (0, 0, (bWord r).2)) := by unfold bTok; rw [if_pos c1, if_neg hz]; rfl
          by_cases hq : c :: (bWord r).1 = bs.map Int.ofNat
          · rw [decide_eq_true hq]
            have hf : bKeys.findIdx? (· == c :: (bWord r).1) = some i := by rw [hq, ← hk]; exact kIdx i hi
            rw [hf] at et
            rw [hpis, et] at k
            simpa using k
          · rw [decide_eq_false hq]
            have hf : ¬ bKeys.findIdx? (· == c :: (bWord r).1) = some i := fun q => hq (by rw [← (kIdx2 q).2, hk])
            have : pis 5 i L = false := by
              rw [hpis, et]
              cases hj : bKeys.findIdx? (· == c :: (bWord r).1) with
              | none => rfl
              | some j =>
                have : j ≠ i := fun q => hf (by rw [hj, q])
                simp [this]
            rw [this] at k
            exact k
      · rw [if_neg (by omega)]
        refine no ?_
        rw [hpis]
        by_cases hz : (bWord r).1 = []
        · have : bTok c r = (1, (c - 97).toNat, r) := by unfold bTok; rw [if_pos c1, if_pos hz]
          rw [this]; rfl
        · have et : bTok c r = (match bKeys.findIdx? (· == c :: (bWord r).1) with | some i => (5, i, (bWord r).2) | none => (0, 0, (bWord r).2)) := by unfold bTok; rw [if_pos c1, if_neg hz]; rfl
          rw [et]
          cases hj : bKeys.findIdx? (· == c :: (bWord r).1) with
          | none => rfl
          | some j =>
            have : j ≠ i := by
              intro q
              subst q
              have := (kIdx2 hj).2
              rw [hk] at this
              have := congrArg List.length this
              rw [List.length_map, List.length_cons] at this
              omega
            simp [this]
    · rw [if_neg c1] at h5
      have hn : hI h 68 4 ≠ 1 ∧ (bTok c r).1 ≠ 5 := by
        by_cases c2 : bDg c = true
        · rw [if_pos c2] at h5; rw [bTok_dg c1 c2]; exact ⟨by omega, by simp⟩
        · rw [if_neg c2] at h5
          by_cases c3 : bCp c = true
          · rw [if_pos c3] at h5
            exact ⟨by omega, by rcases bT_cp (r := r) c1 c2 c3 with ⟨-, q⟩ | ⟨-, -, q⟩ | ⟨-, -, q⟩ <;> (rw [q]; simp)⟩
          · rw [if_neg c3] at h5
            rcases bT_ot (r := r) c1 c2 c3 with ⟨x, y, i, -, -, q⟩ | q
            · rw [q, if_pos (by simp)] at h5; rw [q]; exact ⟨by omega, by simp⟩
            · rw [q, if_neg (by simp)] at h5; rw [q]; exact ⟨by omega, by simp⟩
      rw [if_neg hn.1]
      exact no (by rw [hpis]; simp [hn.2])
theorem c_isPair {d : Nat} {Q : qt} {h : hp} {L : List zTk} {a i x y : Nat} (hS : St h) (hL : Lx h L) (hB : Ss h a [x, y]) (hx : x < 128 ∧ y < 128) (hu : ∀ c e : Int, bTwo c e = some i ↔ c = x ∧ e = y) (k : Q (.inl (some (vI (bI (pis 6 i L))))) h) : Wc (d + 5) 29 [vR (some 68), vR (some a)] h Q := by
  refine se_X0_isPair hS ?_
  have hlt : ∀ b ∈ [x, y], b < 128 := by intro b hb; simp at hb; omega
  rcases Lx_un hL with ⟨e, e4, -⟩ | ⟨b, e, c, r, h1, h2, h3, h4, h5, hc, eL⟩
  · rw [if_neg (by omega)]; rw [e] at k; exact k
  · obtain ⟨t1, t2, t3, t4⟩ := Tq_hd h3
    have hpis : pis 6 i L = ((bTok c r).1 == 6 && (bTok c r).2.1 == i) := by rw [eL]; rfl
    have no : (bTok c r).1 ≠ 6 → hI h 68 4 ≠ 5 → (if hI h 68 4 = 5 then ((0 ≤ hI h 68 3 ∧ hI h 68 3 < 600) ∧ (ofR (some a) fun a1 => if (hT h a1).1 = 45 then (cI (Wc (d + 4)) 411 [vR (some a), vI 0] h (fun x3 h2 => Wp (d + 4) C_X0_isPair Q 22 [vR (some 68), vR (some a)] [vI x3, vI (hI h 69 ((hI h 68 3).toNat))] h2) (fun e4 h5 => Q (.inr e4) h5)) else False)) else (Q (.inl (some (vI 0))) h)) := by
      intro n1 n2
      rw [if_neg n2]
      rw [hpis, show ((bTok c r).1 == 6) = false by simpa using n1, Bool.false_and] at k
      exact k
    unfold Cso at h5
    by_cases c1 : bSm c = true
    · rw [if_pos c1] at h5
      exact no (by rcases bT_sm (r := r) c1 with q | q | q <;> omega) (by omega)
    · rw [if_neg c1] at h5
      by_cases c2 : bDg c = true
      · rw [if_pos c2] at h5
        exact no (by rw [bTok_dg c1 c2]; simp) (by omega)
      · rw [if_neg c2] at h5
        by_cases c3 : bCp c = true
        · rw [if_pos c3] at h5
          exact no (by rcases bT_cp (r := r) c1 c2 c3 with ⟨-, q⟩ | ⟨-, -, q⟩ | ⟨-, -, q⟩ <;> (rw [q]; simp)) (by omega)
        · rw [if_neg c3] at h5
          rcases bT_ot (r := r) c1 c2 c3 with ⟨e2, q2, j, er, ej, q⟩ | q
          · rw [q, if_pos (by simp)] at h5
            rw [if_pos h5, h1, Int.toNat_natCast, t1, ofR_some, hB.1, if_pos rfl]
            refine ⟨by omega, ?_⟩
            refine c_charAt (i := 0) hS hB (by show 2 < 1000; decide) (by simp) hlt ?_
            refine ss_X0_isPair_22 hS ?_
            show (if c = ((x : Nat) : Int) then _ else _)
            have hl := h3.2.1
            rw [er, List.length_cons, List.length_cons] at hl
            have ht2 : hI h 69 (b + 1) = e2 := by have := h3.2.2.1.2; rw [er] at this; exact this.1
            by_cases hcx : c = ((x : Nat) : Int)
            · rw [if_pos hcx, h1, na_eq (by omega) (by omega), show ((b : Int) + 1).toNat = b + 1 by omega, ht2, ofR_some, hB.1, if_pos rfl]
              refine ⟨by omega, ?_⟩
              refine c_charAt (i := 1) hS hB (by show 2 < 1000; decide) (by simp) hlt ?_
              refine ss_X0_isPair_41 hS ?_
              show (if e2 = ((y : Nat) : Int) then _ else _)
              by_cases hey : e2 = ((y : Nat) : Int)
              · rw [if_pos hey]
                have : some j = some i := by rw [← ej]; exact (hu c e2).mpr ⟨hcx, hey⟩
                cases this
                have hb : pis 6 i L = true := by rw [hpis, q]; simp
                rw [hb] at k
                exact k
              · rw [if_neg hey]
                have : j ≠ i := fun z => hey ((hu c e2).mp (by rw [ej, z])).2
                have hb : pis 6 i L = false := by rw [hpis, q]; simp [this]
                rw [hb] at k
                exact k
            · rw [if_neg hcx]
              have : j ≠ i := fun z => hcx ((hu c e2).mp (by rw [ej, z])).1
              have hb : pis 6 i L = false := by rw [hpis, q]; simp [this]
              rw [hb] at k
              exact k
          · rw [q, if_neg (by simp)] at h5
            exact no (by rw [q]; simp) (by omega)
