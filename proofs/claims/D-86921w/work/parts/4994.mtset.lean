/-! m turns: its helpers -/
theorem nk {a k : Nat} (h : a < 100000) (hk : k < 100000) : n_add ((a : Nat) : Int) ((k : Nat) : Int) = ((a + k : Nat) : Int) := by rw [na_eq (by omega) (by omega)]; omega
theorem st_loop {d r e n : Nat} {Q : qt} {h : hp} {ts B : List (Nat × Nat)} {v2 : Int} (hS : St h) (hr : r < 10) (hK : RK h r ts) : ∀ (A P : List (Nat × Nat)) (f : Nat) (b : Bool), ts = P ++ (A ++ B) → f = P.length → e = f + A.length → Q (.inl (some (vI (bI (b || tin n A))))) h → Wp (d + 2) C_X4_standsIn Q 6 [vR (some 116), vI (r : Nat), vI v2, vI (e : Nat), vI (n : Nat), vI (bI b), vI (f : Nat)] [] h := by
  intro A
  induction A with
  | nil =>
    intro P f b et ef ee k
    have ee' : e = f := by rw [ee]; simp
    rw [show tin n [] = false from rfl, Bool.or_false] at k
    exact ss_X4_standsIn_6 hS (im (by omega) ⟨by cases b <;> decide, k⟩)
  | cons x A ih =>
    intro P f b et ef ee k
    rw [List.length_cons] at ee
    have f16 : f < 1600 := by
      have := hK.1
      rw [et] at this
      simp only [List.length_append, List.length_cons] at this
      omega
    have hx : ts[f]? = some x := by rw [et, ef]; simp
    have nx : ∀ b', (b' || tin n A) = (b || tin n (x :: A)) → Wp (d + 2) C_X4_standsIn Q 6 [vR (some 116), vI (r : Nat), vI v2, vI (e : Nat), vI (n : Nat), vI (bI b'), vI ((f + 1 : Nat) : Int)] [] h := fun b' eb => ih (P ++ [x]) (f + 1) b' (by rw [et]; simp) (by rw [ef]; simp) (by omega) (by rw [eb]; exact k)
    have e2 : tin n (x :: A) = (decide (x = (1, n)) || tin n A) := rfl
    refine ss_X4_standsIn_6 hS (ip (by omega) ?_)
    cases b with
    | true =>
      refine im (by decide) ?_
      rw [n1k (by omega)]
      exact nx true rfl
    | false =>
      refine ip rfl (c_isTok (s := 1) hS hr hK ?_)
      rw [hx]
      refine ss_X4_standsIn_27 hS ?_
      rw [n1k (by omega)]
      by_cases c : x = (1, n)
      · rw [show decide (some x = some (1, n)) = true by rw [c]; simp]
        exact im (by decide) (nx true (by rw [e2, c]; simp))
      · rw [show decide (some x = some (1, n)) = false by simp [c]]
        exact ip rfl (nx false (by rw [e2]; simp [c]))
theorem c_stands {d r e f n : Nat} {Q : qt} {h : hp} {ts P A B : List (Nat × Nat)} (hS : St h) (hr : r < 10) (hK : RK h r ts) (et : ts = P ++ (A ++ B)) (ef : f = P.length) (ee : e = f + A.length) (k : Q (.inl (some (vI (bI (tin n A))))) h) : Wc (d + 3) 162 [vR (some 116), vI (r : Nat), vI (f : Nat), vI (e : Nat), vI (n : Nat)] h Q :=
  se_X4_standsIn hS (st_loop (b := false) hS hr hK A P f et ef ee k)
theorem c_isSum {d : Nat} {Q : qt} {h : hp} {x : Nat × Nat} (hS : St h) (k : Q (.inl (some (vI (bI (tsu x))))) h) : Wc (d + 1) 165 [vI (x.1 : Nat), vI (x.2 : Nat)] h Q := by
  obtain ⟨a, b⟩ := x
  refine se_X4_isSum hS ?_
  have e : tsu (a, b) = (decide (a = 7) && zsum b) := rfl
  rw [e] at k
  by_cases c : a = 7
  · subst c
    refine ip rfl ?_
    have e2 : (decide (7 = 7) && zsum b) = zsum b := rfl
    rw [e2] at k
    by_cases c1 : b = 43
    · subst c1; exact ip rfl k
    refine im (by show ¬ ((b : Nat) : Int) = 43; omega) ?_
    by_cases c2 : b = 45
    · subst c2; exact ip rfl k
    refine im (by show ¬ ((b : Nat) : Int) = 45; omega) ?_
    by_cases c3 : b = 94
    · subst c3; exact ip rfl k
    refine im (by show ¬ ((b : Nat) : Int) = 94; omega) ?_
    by_cases c4 : b = 124
    · subst c4; exact ip rfl k
    refine im (by show ¬ ((b : Nat) : Int) = 124; omega) ?_
    have : zsum b = false := by unfold zsum; simp [c1, c2, c3, c4]
    rw [this] at k
    exact k
  · refine im (by show ¬ ((a : Nat) : Int) = 7; omega) ?_
    rw [show (decide (a = 7) && zsum b) = false by simp [c]] at k
    exact k
theorem su_loop {d r e : Nat} {Q : qt} {h : hp} {ts B : List (Nat × Nat)} {v2 : Int} (hS : St h) (hr : r < 10) (hK : RK h r ts) : ∀ (A P : List (Nat × Nat)) (f n : Nat) (o : Int) (w7 w8 : av), ts = P ++ (A ++ B) → f = P.length → e = f + A.length → n ≤ f → -(f : Int) ≤ o → o ≤ f → Q (.inl (some (vI ((n + tsm A o : Nat) : Int)))) h → Wp (d + 2) C_X4_sumsOf Q 9 [vR (some 116), vI (r : Nat), vI v2, vI (e : Nat), vI o, vI (n : Nat), vI (f : Nat), w7, w8] [] h := by
  intro A
  induction A with
  | nil =>
    intro P f n o w7 w8 et ef ee hn o1 o2 k
    have ee' : e = f := by rw [ee]; simp
    exact ss_X4_sumsOf_9 hS (im (by omega) k)
  | cons x A ih =>
    intro P f n o w7 w8 et ef ee hn o1 o2 k
    rw [List.length_cons] at ee
    have f16 : f < 1600 := by
      have := hK.1
      rw [et] at this
      simp only [List.length_append, List.length_cons] at this
      omega
    have hx : ts[f]? = some x := by rw [et, ef]; simp
    have tb : tst2 x = 1 ∨ tst2 x = -1 ∨ tst2 x = 0 := by unfold tst2; split; simp; split <;> simp
    have nx : ∀ (w7 w8 : av) (n' : Nat), n' = n + (if o = 0 ∧ tsu x = true then 1 else 0) → Wp (d + 2) C_X4_sumsOf Q 9 [vR (some 116), vI (r : Nat), vI v2, vI (e : Nat), vI (o + tst2 x), vI (n' : Nat), vI ((f + 1 : Nat) : Int), w7, w8] [] h := by
      intro w7 w8 n' en
      refine ih (P ++ [x]) (f + 1) n' (o + tst2 x) w7 w8 (by rw [et]; simp) (by rw [ef]; simp) (by omega) (by split at en <;> omega) (by omega) (by omega) ?_
      rw [en]
      have e2 : tsm (x :: A) o = (if o = 0 ∧ tsu x = true then 1 else 0) + tsm A (o + tst2 x) := rfl
      rw [e2, ← Nat.add_assoc] at k
      exact k
    have e1k : n_add ((f : Nat) : Int) 1 = ((f + 1 : Nat) : Int) := n1k (by omega)
    have hi1 : (0 : Int) ≤ ((1600 * r + f : Nat) : Int) ∧ ((1600 * r + f : Nat) : Int) < 16000 := by omega
    have p129 : ∀ (op cl : Bool) (m : Nat), tst2 x = (if op = true then 1 else if cl = true then -1 else 0) → m = (if o = 0 ∧ tsu x = true then 1 else 0) → Wp (d + 2) C_X4_sumsOf Q 129 [vR (some 116), vI (r : Nat), vI v2, vI (e : Nat), vI o, vI (n : Nat), vI (f : Nat), vI (bI op), vI (bI cl)] [vI (m : Nat), vI (n : Nat)] h := by
      intro op cl m et2 em
      have m1 : m ≤ 1 := by split at em <;> omega
      refine ss_X4_sumsOf_129 hS ?_
      rw [nk (by omega) (by omega)]
      cases op with
      | true =>
        refine im (by decide) (ss_X4_sumsOf_153 hS ?_)
        rw [e1k, na_eq (by omega) (by omega)]
        have := nx (vI (bI true)) (vI (bI cl)) (n + m) (by rw [em])
        rw [et2] at this
        exact this
      | false =>
        refine ip rfl ?_
        cases cl with
        | true =>
          refine im (by decide) (ss_X4_sumsOf_153 hS ?_)
          rw [e1k, na_eq (by omega) (by omega)]
          have := nx (vI (bI false)) (vI (bI true)) (n + m) (by rw [em])
          rw [et2] at this
          exact this
        | false =>
          refine ip rfl (ss_X4_sumsOf_153 hS ?_)
          rw [e1k, na_eq (by omega) (by omega)]
          have := nx (vI (bI false)) (vI (bI false)) (n + m) (by rw [em])
          rw [et2] at this
          exact this
    have p83 : ∀ (op cl : Bool) (w8 : av), tst2 x = (if op = true then 1 else if cl = true then -1 else 0) → Wp (d + 2) C_X4_sumsOf Q 83 [vR (some 116), vI (r : Nat), vI v2, vI (e : Nat), vI o, vI (n : Nat), vI (f : Nat), vI (bI op), w8] [vI (bI cl)] h := by
      intro op cl w8 et2
      refine ss_X4_sumsOf_83 hS ?_
      by_cases o0 : o = 0
      · refine ip o0 ?_
        have q : ∀ K : Int → hp → Prop, K (bI (tsu x)) h → cI (Wc (d + 2)) 165 [vI (x.1 : Nat), vI (x.2 : Nat)] h K (fun e h' => Q (.inr e) h') := fun K kk => c_isSum hS kk
        have p121 : Wp (d + 2) C_X4_sumsOf Q 121 [vR (some 116), vI (r : Nat), vI v2, vI (e : Nat), vI o, vI (n : Nat), vI (f : Nat), vI (bI op), vI (bI cl)] [vI (bI (tsu x)), vI (n : Nat)] h := by
          refine ss_X4_sumsOf_121 hS ?_
          cases hs : tsu x with
          | true => exact im (by decide) (p129 op cl 1 et2 (by rw [if_pos ⟨o0, hs⟩]))
          | false => exact ip rfl (ss_X4_sumsOf_128 hS (p129 op cl 0 et2 (by rw [if_neg (fun z => by rw [hs] at z; exact absurd z.2 (by decide))])))
        clear nx p129
        obtain ⟨t1, t2, t3, -⟩ := tk_at (q := f) (x := x) hr hK hx
        rw [t1, Int.toNat_natCast, t2, t3]
        exact ⟨hi1, hi1, q _ p121⟩
      · exact im o0 (ss_X4_sumsOf_128 hS (p129 op cl 0 et2 (by rw [if_neg (fun z => o0 z.1)])))
    have p48 : ∀ (op : Bool), op = decide (x = (7, 40) ∨ x = (7, 91)) → Wp (d + 2) C_X4_sumsOf Q 48 [vR (some 116), vI (r : Nat), vI v2, vI (e : Nat), vI o, vI (n : Nat), vI (f : Nat), w7, w8] [vI (bI op)] h := by
      intro op eo
      have t2 : ∀ cl : Bool, cl = decide (x = (7, 41) ∨ x = (7, 93)) → tst2 x = (if op = true then 1 else if cl = true then -1 else 0) := by
        intro cl ec
        rw [eo, ec]
        unfold tst2
        simp only [decide_eq_true_eq]
      refine ss_X4_sumsOf_48 hS (c_isTok (s := 7) (w := 41) hS hr hK ?_)
      rw [hx]
      refine ss_X4_sumsOf_61 hS ?_
      by_cases c1 : x = (7, 41)
      · rw [show decide (some x = some (7, 41)) = true by rw [c1]; simp]
        exact im (by decide) (ss_X4_sumsOf_78 hS (p83 op true w8 (t2 true (by simp [c1]))))
      · rw [show decide (some x = some (7, 41)) = false by simp [c1]]
        refine ip rfl (c_isTok (s := 7) (w := 93) hS hr hK ?_)
        rw [hx]
        refine ss_X4_sumsOf_75 hS ?_
        by_cases c2 : x = (7, 93)
        · rw [show decide (some x = some (7, 93)) = true by rw [c2]; simp]
          exact im (by decide) (ss_X4_sumsOf_78 hS (p83 op true w8 (t2 true (by simp [c2]))))
        · rw [show decide (some x = some (7, 93)) = false by simp [c2]]
          exact ip rfl (p83 op false w8 (t2 false (by simp [c1, c2])))
    refine ss_X4_sumsOf_9 hS (ip (by omega) (c_isTok (s := 7) (w := 40) hS hr hK ?_))
    rw [hx]
    refine ss_X4_sumsOf_26 hS ?_
    by_cases c1 : x = (7, 40)
    · rw [show decide (some x = some (7, 40)) = true by rw [c1]; simp]
      exact im (by decide) (ss_X4_sumsOf_43 hS (p48 true (by simp [c1])))
    · rw [show decide (some x = some (7, 40)) = false by simp [c1]]
      refine ip rfl (c_isTok (s := 7) (w := 91) hS hr hK ?_)
      rw [hx]
      refine ss_X4_sumsOf_40 hS ?_
      by_cases c2 : x = (7, 91)
      · rw [show decide (some x = some (7, 91)) = true by rw [c2]; simp]
        exact im (by decide) (ss_X4_sumsOf_43 hS (p48 true (by simp [c2])))
      · rw [show decide (some x = some (7, 91)) = false by simp [c2]]
        exact ip rfl (p48 false (by simp [c1, c2]))
theorem c_sums {d r e f : Nat} {Q : qt} {h : hp} {ts P A B : List (Nat × Nat)} (hS : St h) (hr : r < 10) (hK : RK h r ts) (et : ts = P ++ (A ++ B)) (ef : f = P.length) (ee : e = f + A.length) (k : Q (.inl (some (vI ((tsm A 0 : Nat) : Int)))) h) : Wc (d + 3) 164 [vR (some 116), vI (r : Nat), vI (f : Nat), vI (e : Nat)] h Q := by
  refine se_X4_sumsOf hS (su_loop (n := 0) (o := 0) hS hr hK A P f _ _ et ef ee (Nat.zero_le _) (by omega) (by omega) ?_)
  rw [Nat.zero_add]
  exact k
/-! what it emits -/
theorem e_sign {d c : Nat} {Q : qt} {h : hp} {T : List (Nat × Nat)} (hS : St h) (N : Nt h T) (hl : T.length < 1600) (k : ∀ h', FEm h h' → Nt h' (T ++ [(7, c)]) → Q (.inl none) h') : Wc (d + 2) 169 [vR (some 116), vI (c : Nat)] h Q :=
  se_X4_emitSign hS (c_emitM (s := 7) hS N hl k)
theorem ap2 {T : List (Nat × Nat)} {a b : Nat × Nat} : T ++ [a] ++ [b] = T ++ [a, b] := by simp
theorem e_let {d kk n : Nat} {Q : qt} {h : hp} {T : List (Nat × Nat)} (hS : St h) (N : Nt h T) (hl : T.length + 3 ≤ 1600) (k : ∀ h', FEm h h' → Nt h' (T ++ [(5, kk), (1, n), (7, 61)]) → Q (.inl none) h') : Wc (d + 3) 170 [vR (some 116), vI (kk : Nat), vI (n : Nat)] h Q := by
  refine se_X4_emitLet hS (c_emitM (s := 5) hS N (by omega) (fun h1 F1 N1 => ?_))
  have S1 := FEm_St F1 hS
  refine ss_X4_emitLet_6 S1 (c_emitM (s := 1) S1 N1 (by simp; omega) (fun h2 F2 N2 => ?_))
  have S2 := FEm_St F2 S1
  refine ss_X4_emitLet_12 S2 (e_sign (c := 61) S2 N2 (by simp; omega) (fun h3 F3 N3 => k h3 (FI_trans F1 (FI_trans F2 F3)) ?_))
  simp only [List.append_assoc, List.cons_append, List.nil_append] at N3
  exact N3
theorem e_push {d n : Nat} {Q : qt} {h : hp} {T : List (Nat × Nat)} (hS : St h) (N : Nt h T) (hl : T.length + 4 ≤ 1600) (k : ∀ h', FEm h h' → Nt h' (T ++ [(5, 2), (1, n), (4, 3), (7, 59)]) → Q (.inl none) h') : Wc (d + 3) 168 [vR (some 116), vI (n : Nat)] h Q := by
  refine se_X4_emitPushed hS (c_emitM (s := 5) (w := 2) hS N (by omega) (fun h1 F1 N1 => ?_))
  have S1 := FEm_St F1 hS
  refine ss_X4_emitPushed_6 S1 (c_emitM (s := 1) S1 N1 (by simp; omega) (fun h2 F2 N2 => ?_))
  have S2 := FEm_St F2 S1
  refine ss_X4_emitPushed_12 S2 (c_emitM (s := 4) (w := 3) S2 N2 (by simp; omega) (fun h3 F3 N3 => ?_))
  have S3 := FEm_St F3 S2
  refine ss_X4_emitPushed_18 S3 (e_sign (c := 59) S3 N3 (by simp; omega) (fun h4 F4 N4 => k h4 (FI_trans F1 (FI_trans F2 (FI_trans F3 F4))) ?_))
  simp only [List.append_assoc, List.cons_append, List.nil_append] at N4
  exact N4
theorem e_gone {d n : Nat} {Q : qt} {h : hp} {T : List (Nat × Nat)} (hS : St h) (N : Nt h T) (hl : T.length + 5 ≤ 1600) (k : ∀ h', FEm h h' → Nt h' (T ++ [(5, 1), (1, n), (7, 61), (2, 0), (7, 59)]) → Q (.inl none) h') : Wc (d + 4) 171 [vR (some 116), vI (n : Nat)] h Q := by
  refine se_X4_emitGone hS (e_let (kk := 1) hS N (by omega) (fun h1 F1 N1 => ?_))
  have S1 := FEm_St F1 hS
  refine ss_X4_emitGone_6 S1 (c_emitM (s := 2) (w := 0) S1 N1 (by simp; omega) (fun h2 F2 N2 => ?_))
  have S2 := FEm_St F2 S1
  refine ss_X4_emitGone_12 S2 (e_sign (c := 59) S2 N2 (by simp; omega) (fun h4 F4 N4 => k h4 (FI_trans F1 (FI_trans F2 F4)) ?_))
  simp only [List.append_assoc, List.cons_append, List.nil_append] at N4
  exact N4
theorem e_none {d n : Nat} {Q : qt} {h : hp} {T : List (Nat × Nat)} (hS : St h) (N : Nt h T) (hl : T.length + 5 ≤ 1600) (k : ∀ h', FEm h h' → Nt h' (T ++ [(7, 40), (1, n), (7, 61), (2, 0), (7, 41)]) → Q (.inl none) h') : Wc (d + 3) 172 [vR (some 116), vI (n : Nat)] h Q := by
  refine se_X4_emitIsNone hS (e_sign (c := 40) hS N (by omega) (fun h1 F1 N1 => ?_))
  have S1 := FEm_St F1 hS
  refine ss_X4_emitIsNone_6 S1 (c_emitM (s := 1) S1 N1 (by simp; omega) (fun h2 F2 N2 => ?_))
  have S2 := FEm_St F2 S1
  refine ss_X4_emitIsNone_12 S2 (e_sign (c := 61) S2 N2 (by simp; omega) (fun h3 F3 N3 => ?_))
  have S3 := FEm_St F3 S2
  refine ss_X4_emitIsNone_18 S3 (c_emitM (s := 2) (w := 0) S3 N3 (by simp; omega) (fun h4 F4 N4 => ?_))
  have S4 := FEm_St F4 S3
  refine ss_X4_emitIsNone_24 S4 (e_sign (c := 41) S4 N4 (by simp; omega) (fun h5 F5 N5 => k h5 (FI_trans F1 (FI_trans F2 (FI_trans F3 (FI_trans F4 F5)))) ?_))
  simp only [List.append_assoc, List.cons_append, List.nil_append] at N5
  exact N5
theorem e_noneOf {d r e f : Nat} {Q : qt} {h : hp} {ts P A B T : List (Nat × Nat)} (hS : St h) (hr : r < 10) (hK : RK h r ts) (et : ts = P ++ (A ++ B)) (ef : f = P.length) (ee : e = f + A.length) (N : Nt h T) (hl : T.length + A.length + 4 ≤ 1600) (k : ∀ h', FEm h h' → Nt h' (T ++ ((7, 40) :: (A ++ [(7, 61), (2, 0), (7, 41)]))) → Q (.inl none) h') : Wc (d + 3) 173 [vR (some 116), vI (r : Nat), vI (f : Nat), vI (e : Nat)] h Q := by
  refine se_X4_emitIsNoneOf hS (e_sign (c := 40) hS N (by omega) (fun h1 F1 N1 => ?_))
  have S1 := FEm_St F1 hS
  refine ss_X4_emitIsNoneOf_6 S1 (c_copies S1 hr (FEm_RK F1 hK) et ef ee N1 (by simp; omega) (fun h2 F2 N2 => ?_))
  have S2 := FEm_St F2 S1
  refine ss_X4_emitIsNoneOf_13 S2 (e_sign (c := 61) S2 N2 (by simp; omega) (fun h3 F3 N3 => ?_))
  have S3 := FEm_St F3 S2
  refine ss_X4_emitIsNoneOf_19 S3 (c_emitM (s := 2) (w := 0) S3 N3 (by simp; omega) (fun h4 F4 N4 => ?_))
  have S4 := FEm_St F4 S3
  refine ss_X4_emitIsNoneOf_25 S4 (e_sign (c := 41) S4 N4 (by simp; omega) (fun h5 F5 N5 => k h5 (FI_trans F1 (FI_trans F2 (FI_trans F3 (FI_trans F4 F5)))) ?_))
  simp only [List.append_assoc, List.cons_append, List.nil_append] at N5
  exact N5
