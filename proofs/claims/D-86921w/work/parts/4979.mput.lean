/-! m prints a token, and all -/
theorem m_num {d n : Nat} {Q : qt} {h : hp} {O : List Int} {v4 : av} (X : Ym h O) (hn : n < 1000000000) (hl : O.length + (pnm n).length ≤ 12000) (k : ∀ h', FY h h' → Ym h' (O ++ pnm n) → Q (.inl none) h') : Wp (d + 2) C_X4_putToken Q 155 [vR (some 116), vI 2, vI (n : Nat), vI 1, v4] [] h := by
  have p0 := ptp_b 10 n 1 (by decide) (by decide) hn
  have lp2 : ∀ (f p : Nat) (h2 : hp) (O2 : List Int), p < 10 ^ f → p ≤ 1000000000 → FY h h2 → Ym h2 O2 → O2.length + (pdg f n p).length ≤ 12000 → (∀ h', FY h h' → Ym h' (O2 ++ pdg f n p) → Q (.inl none) h') → Wp (d + 2) C_X4_putToken Q 171 [vR (some 116), vI 2, vI (n : Nat), vI (p : Nat), v4] [] h2 := by
    intro f
    induction f with
    | zero =>
      intro p h2 O2 hp0 _ F2 x2 _ q
      have : p = 0 := by simpa using hp0
      subst this
      refine ss_X4_putToken_171 x2.1 (im (by decide) (ss_X4_putToken_263 x2.1 ?_))
      exact q h2 F2 (by show Ym h2 (O2 ++ []); rw [List.append_nil]; exact x2)
    | succ f ih =>
      intro p h2 O2 hp0 hp1 F2 x2 l2 q
      unfold pdg at l2 q
      by_cases p1 : 0 < p
      · rw [if_pos p1] at l2 q
        have q10 : n / p % 10 < 10 := Nat.mod_lt _ (by decide)
        have qn : n / p ≤ n := Nat.div_le_self _ _
        refine ss_X4_putToken_171 x2.1 (ip (by omega) ⟨by omega, ?_⟩)
        rw [nd_nat (by omega) (by omega), show (10 : Int) = ((10 : Nat) : Int) by rfl, nr_nat (by omega) (by decide), na_eq (by omega) (by omega), show (48 : Int) + ((n / p % 10 : Nat) : Int) = ((48 + n / p % 10 : Nat) : Int) by omega]
        refine c_write x2 (by omega) (by simp at l2; omega) (fun h3 F3 x3 => ?_)
        refine ss_X4_putToken_188 x3.1 ?_
        rw [show (10 : Int) = ((10 : Nat) : Int) by rfl, nd_nat (by omega) (by decide)]
        have d10 : p / 10 ≤ p := Nat.div_le_self _ _
        refine ih (p / 10) h3 _ (by rw [Nat.pow_succ] at hp0; omega) (by omega) (FY_trans F2 F3) x3 (by simp at l2 ⊢; omega) (fun h' F' x' => q h' F' ?_)
        rw [List.append_assoc] at x'
        exact x'
      · rw [if_neg p1] at q
        have : p = 0 := by omega
        subst this
        refine ss_X4_putToken_171 x2.1 (im (by decide) (ss_X4_putToken_263 x2.1 ?_))
        exact q h2 F2 (by rw [List.append_nil]; exact x2)
  have lp1 : ∀ (f p : Nat), n / p < 10 ^ (f + 1) → 0 < p → p ≤ 1000000000 → Wp (d + 2) C_X4_putToken Q 171 [vR (some 116), vI 2, vI (n : Nat), vI (ptp f n p : Nat), v4] [] h → Wp (d + 2) C_X4_putToken Q 155 [vR (some 116), vI 2, vI (n : Nat), vI (p : Nat), v4] [] h := by
    intro f
    induction f with
    | zero =>
      intro p h9 p1 p2 q
      refine ss_X4_putToken_155 X.1 ⟨by omega, ?_⟩
      rw [nd_nat (by omega) (by omega)]
      exact im (by omega) q
    | succ f ih =>
      intro p h9 p1 p2 q
      refine ss_X4_putToken_155 X.1 ⟨by omega, ?_⟩
      rw [nd_nat (by omega) (by omega)]
      unfold ptp at q
      by_cases c : 9 < n / p
      · rw [if_pos c] at q
        have c10 : 10 * p ≤ n := (Nat.le_div_iff_mul_le p1).mp c
        refine ip (by omega) ?_
        rw [nm_eq (by omega) (by omega), show ((p : Nat) : Int) * 10 = ((10 * p : Nat) : Int) by omega]
        refine ih (10 * p) ?_ (by omega) (by omega) q
        rw [Nat.mul_comm, ← Nat.div_div_eq_div_mul]
        rw [Nat.pow_succ] at h9
        omega
      · rw [if_neg c] at q
        exact im (by omega) q
  refine lp1 10 1 (by rw [Nat.div_one]; exact Nat.lt_trans hn (by decide)) (by decide) (by decide) ?_
  exact lp2 11 _ h O (Nat.lt_of_le_of_lt p0.2 (by decide)) p0.2 (FN_refl X.1) X hl k
theorem c_put {d : Nat} {Q : qt} {h : hp} {O : List Int} {x : Nat × Nat} (X : Ym h O) (ok : okt x) (hl : O.length + (ptk x).length ≤ 12000) (k : ∀ h', FY h h' → Ym h' (O ++ ptk x) → Q (.inl none) h') : Wc (d + 6) 150 [vR (some 116), vI (x.1 : Nat), vI (x.2 : Nat)] h Q := by
  obtain ⟨s, w⟩ := x
  have hS := X.1
  refine se_X4_putToken hS ?_
  dsimp only at ok hl k ⊢
  have one : ∀ (pc : Nat) {c : Int} {v1 v3 v4 : av}, ptk (s, w) = [c] → True := fun _ _ _ _ _ _ => trivial
  rcases ok with ⟨a, b⟩ | ⟨a, b⟩ | ⟨a, b⟩ | ⟨a, b⟩ | ⟨a, b⟩ | ⟨a, b⟩ | ⟨a, b, c, -⟩ <;> dsimp only at a b
  · subst a
    refine ip rfl ?_
    rw [n97 b]
    refine c_write X (by omega) (by have : (ptk (1, w)).length = 1 := rfl; omega) (fun h1 F1 X1 => ?_)
    exact ss_X4_putToken_13 X1.1 (ss_X4_putToken_263 X1.1 (k h1 F1 X1))
  · subst a
    refine im (by decide) (im (by decide) (im (by decide) (im (by decide) (im (by decide) (im (by decide) (ip rfl ?_))))))
    exact m_num X b hl k
  · subst a
    refine im (by decide) (ip rfl ?_)
    rw [n65 (by omega)]
    refine c_write X (by omega) (by have : (ptk (3, w)).length = 1 := rfl; omega) (fun h1 F1 X1 => ?_)
    exact ss_X4_putToken_29 X1.1 (ss_X4_putToken_263 X1.1 (k h1 F1 X1))
  · subst a
    refine im (by decide) (im (by decide) (ip rfl ?_))
    rw [n83 (by omega)]
    refine c_write X (by omega) (by have : (ptk (4, w)).length = 1 := rfl; omega) (fun h1 F1 X1 => ?_)
    exact ss_X4_putToken_45 X1.1 (ss_X4_putToken_263 X1.1 (k h1 F1 X1))
  · subst a
    refine im (by decide) (im (by decide) (im (by decide) (im (by decide) (im (by decide) (im (by decide) (im (by decide) ?_))))))
    obtain ⟨e1, e2⟩ := pkb_S6 w b
    have e3 : ptk (5, w) = bsI (tkw (S6.drop (skq S6 w))) := e1
    have e4 : (bsI (tkw (S6.drop (skq S6 w)))).length = (tkw (S6.drop (skq S6 w))).length := List.length_map _
    rw [e3] at hl k
    refine m_skip hS S6.length 0 w (by omega) (by omega) (by rw [List.drop_zero]; omega) ?_
    rw [List.drop_zero, Nat.zero_add]
    exact m_word (S6.length - skq S6 w) _ h O (by omega) (S6_32 w b) X (by omega) k
  · subst a
    refine im (by decide) (im (by decide) (im (by decide) (im (by decide) (im (by decide) (ip rfl ?_)))))
    have two : ∀ (c1 c2 : Int), 32 ≤ c1 ∧ c1 ≤ 126 → 32 ≤ c2 ∧ c2 ≤ 126 → ptk (6, w) = [c1, c2] → (∀ (h1 : hp), St h1 → Wp (d + 5) C_X4_putToken Q 142 [vR (some 116), vI 6, vI (w : Nat), vU, vU] [vI c2, vR (some 116)] h1 → Wp (d + 5) C_X4_putToken Q 119 [vR (some 116), vI 6, vI (w : Nat), vU, vU] [] h1) → Wp (d + 5) C_X4_putToken Q 116 [vR (some 116), vI 6, vI (w : Nat), vU, vU] [vI c1, vR (some 116)] h := by
      intro c1 c2 h1 h2 e nx
      rw [e] at hl k
      refine ss_X4_putToken_116 hS ?_
      refine c_write X h1 (by simp at hl; omega) (fun g1 F1 X1 => nx g1 X1.1 ?_)
      refine ss_X4_putToken_142 X1.1 ?_
      refine c_write X1 h2 (by simp at hl ⊢; omega) (fun g2 F2 X2 => ?_)
      refine ss_X4_putToken_145 X2.1 (ss_X4_putToken_263 X2.1 (k g2 (FY_trans F1 F2) ?_))
      rw [List.append_assoc] at X2
      exact X2
    have : w = 0 ∨ w = 1 ∨ w = 2 ∨ w = 3 ∨ w = 4 ∨ w = 5 := by omega
    rcases this with q | q | q | q | q | q <;> subst q
    · exact ip rfl (two 43 61 (by decide) (by decide) rfl (fun h1 S1 z => ss_X4_putToken_119 S1 (im (by decide) z)))
    · exact im (by decide) (ip rfl (two 45 61 (by decide) (by decide) rfl (fun h1 S1 z => ss_X4_putToken_119 S1 (im (by decide) z))))
    · exact im (by decide) (im (by decide) (ip rfl (two 94 61 (by decide) (by decide) rfl (fun h1 S1 z => ss_X4_putToken_119 S1 (im (by decide) z)))))
    · exact im (by decide) (im (by decide) (im (by decide) (im (by decide) (two 60 62 (by decide) (by decide) rfl (fun h1 S1 z => ss_X4_putToken_119 S1 (ip (by decide) (im (by decide) z)))))))
    · exact im (by decide) (im (by decide) (im (by decide) (im (by decide) (two 60 60 (by decide) (by decide) rfl (fun h1 S1 z => ss_X4_putToken_119 S1 (ip (by decide) (ip (by decide) z)))))))
    · exact im (by decide) (im (by decide) (im (by decide) (ip rfl (two 62 62 (by decide) (by decide) rfl (fun h1 S1 z => ss_X4_putToken_119 S1 (ip (by decide) (im (by decide) z)))))))
  · have w1 : Wp (d + 5) C_X4_putToken Q 60 [vR (some 116), vI (s : Nat), vI (w : Nat), vU, vU] [] h := by
      have e : ptk (s, w) = [((w : Nat) : Int)] := by rcases a with a | a <;> subst a <;> rfl
      rw [e] at hl k
      refine ss_X4_putToken_60 hS ?_
      refine c_write X (by omega) (by simp at hl; omega) (fun h1 F1 X1 => ?_)
      exact ss_X4_putToken_65 X1.1 (ss_X4_putToken_263 X1.1 (k h1 F1 X1))
    rcases a with a | a <;> subst a
    · exact im (by decide) (im (by decide) (im (by decide) (ip rfl w1)))
    · exact im (by decide) (im (by decide) (im (by decide) (im (by decide) (ip rfl w1))))
theorem m_pr {d r : Nat} {Q : qt} {ts : List (Nat × Nat)} (hr : r < 10) (ok : oka ts) : ∀ (n j : Nat) (g : Bool) (h : hp) (O : List Int) (v4 v5 v6 : av), j + n = ts.length → RK h r ts → Ym h O → O.length + (pbs (ts.drop j) g).length ≤ 12000 → (∀ h', FY h h' → Ym h' (O ++ pbs (ts.drop j) g) → Q (.inl (some (vI ((O ++ pbs (ts.drop j) g).length : Nat)))) h') → Wp (d + 6) C_X4_print Q 30 [vR (some 116), vI (r : Nat), vI (bI g), vI (j : Nat), v4, v5, v6] [] h := by
  intro n
  induction n with
  | zero =>
    intro j g h O v4 v5 v6 e K X hl k
    rw [List.drop_eq_nil_of_le (by omega)] at k
    have k' := k h (FN_refl X.1) (by show Ym h (O ++ []); rw [List.append_nil]; exact X)
    refine ss_X4_print_30 X.1 ⟨by omega, ?_⟩
    rw [Int.toNat_natCast, K.2.1, X.2.1]
    refine im (by omega) ?_
    have e0 : (O ++ pbs [] g).length = O.length := by show (O ++ []).length = _; simp
    rw [e0] at k'
    exact k'
  | succ n ih =>
    intro j g h O v4 v5 v6 e K X hl k
    have hS := X.1
    have hj : j < ts.length := by omega
    have ed : ts.drop j = ts[j] :: ts.drop (j + 1) := List.drop_eq_getElem_cons hj
    obtain ⟨x, ex⟩ : ∃ x, x = ts[j] := ⟨_, rfl⟩
    have okx : okt x := by rw [ex]; exact ok _ (List.getElem_mem hj)
    rw [← ex] at ed
    rw [ed] at hl k
    have e1 : pbs (x :: ts.drop (j + 1)) g = psp g x ++ (ptk x ++ pbs (ts.drop (j + 1)) (pgu x)) := rfl
    rw [e1] at hl k
    have hlen := K.1
    have tk := tk_at hr K (show ts[j]? = some x by rw [List.getElem?_eq_getElem hj, ex])
    obtain ⟨t1, t2, t3, t4⟩ := tk
    have n16 := r16 hr t4
    refine ss_X4_print_30 hS ⟨by omega, ?_⟩
    rw [Int.toNat_natCast, K.2.1, t1, Int.toNat_natCast, t2, t3]
    clear t1
    have fin : ∀ (h1 : hp) (O1 : List Int) (v6 : Int), FY h h1 → Ym h1 O1 → O1 = O ++ psp g x → Wp (d + 6) C_X4_print Q 125 [vR (some 116), vI (r : Nat), vI (bI g), vI (j : Nat), vI (x.1 : Nat), vI (x.2 : Nat), vI v6] [] h1 := by
      intro h1 O1 v6 F1 X1 e1
      refine ss_X4_print_125 X1.1 ?_
      refine c_put X1 okx (by rw [e1]; simp at hl ⊢; omega) (fun h2 F2 X2 => ?_)
      have F12 := FY_trans F1 F2
      have nx : ∀ (v6 : Int), Wp (d + 6) C_X4_print Q 173 [vR (some 116), vI (r : Nat), vI (bI g), vI (j : Nat), vI (x.1 : Nat), vI (x.2 : Nat), vI v6] [vI (bI (pgu x))] h2 := by
        intro v6
        refine ss_X4_print_173 X2.1 ?_
        rw [n1k (by omega)]
        have K2 : RK h2 r ts := RK_eq (fun i => F68 F12.1 hS (by decide) (by unfold pMp; omega)) (fun i => F68 F12.1 hS (by decide) (by unfold pMp; omega)) (fun i => F68 F12.1 hS (by decide) (by unfold pMp; omega)) K
        refine ih (j + 1) (pgu x) h2 _ _ _ _ (by omega) K2 X2 (by rw [e1]; simp at hl ⊢; omega) (fun h' F' X' => ?_)
        have := k h' (FY_trans F12 F')
        rw [e1] at X' ⊢
        rw [show O ++ psp g x ++ ptk x ++ pbs (ts.drop (j + 1)) (pgu x) = O ++ (psp g x ++ (ptk x ++ pbs (ts.drop (j + 1)) (pgu x))) by simp] at X' ⊢
        exact this X'
      refine ss_X4_print_133 X2.1 ?_
      obtain ⟨s, w⟩ := x
      dsimp only at nx ⊢
      by_cases s8 : s = 8
      · subst s8
        refine ip rfl (ss_X4_print_168 X2.1 ?_)
        exact nx v6
      refine im (by omega) ?_
      by_cases s7 : s = 7
      · subst s7
        refine ip rfl ?_
        by_cases w1 : w = 91
        · subst w1
          exact ip rfl (ss_X4_print_168 X2.1 (nx v6))
        refine im (by omega) ?_
        by_cases w2 : w = 40
        · subst w2
          exact ip rfl (ss_X4_print_168 X2.1 (nx v6))
        refine im (by omega) ?_
        by_cases w3 : w = 35
        · subst w3
          exact ip rfl (ss_X4_print_168 X2.1 (nx v6))
        refine im (by omega) (ss_X4_print_172 X2.1 ?_)
        have e0 : pgu (7, w) = false := by
          unfold pgu
          simp [w1, w2, w3]
        rw [e0] at nx
        exact nx v6
      · refine im (by omega) (ss_X4_print_172 X2.1 ?_)
        have e0 : pgu (s, w) = false := by
          unfold pgu
          simp [s8, s7]
        rw [e0] at nx
        exact nx v6
    have p108 : ∀ (v6 : av), Wp (d + 6) C_X4_print Q 108 [vR (some 116), vI (r : Nat), vI (bI g), vI (j : Nat), vI (x.1 : Nat), vI (x.2 : Nat), v6] [vI (bI (pcl x))] h := by
      intro v6
      refine ss_X4_print_108 hS ?_
      cases hg : g with
      | true =>
        rw [hg] at fin
        refine im (by decide) (fin h O _ (FN_refl hS) X ?_)
        unfold psp
        rw [Bool.true_or, if_pos rfl, List.append_nil]
      | false =>
        rw [hg] at fin hl
        refine ip rfl ?_
        cases hc : pcl x with
        | true =>
          refine im (by decide) (fin h O _ (FN_refl hS) X ?_)
          rw [psp_c hc, List.append_nil]
        | false =>
          have es : psp false x = [32] := by rw [psp_n hc]; rfl
          refine ip rfl (c_write X (by decide) (by rw [es] at hl; simp at hl; omega) (fun h1 F1 X1 => fin h1 _ _ F1 X1 (by rw [es])))
    refine ip (by omega) ⟨n16, n16, ?_⟩
    obtain ⟨s, w⟩ := x
    dsimp only at p108 ⊢
    by_cases s7 : s = 7
    · subst s7
      refine ip rfl ?_
      by_cases w1 : w = 59
      · subst w1
        exact ip rfl (ss_X4_print_103 hS (p108 _))
      refine im (by omega) ?_
      by_cases w2 : w = 93
      · subst w2
        exact ip rfl (ss_X4_print_103 hS (p108 _))
      refine im (by omega) ?_
      by_cases w3 : w = 41
      · subst w3
        exact ip rfl (ss_X4_print_103 hS (p108 _))
      refine im (by omega) ?_
      by_cases w4 : w = 91
      · subst w4
        exact ip rfl (ss_X4_print_103 hS (p108 _))
      refine im (by omega) (ss_X4_print_107 hS ?_)
      have e0 : pcl (7, w) = false := by
        unfold pcl
        simp [w1, w2, w3, w4]
      rw [e0] at p108
      exact p108 _
    · refine im (by omega) (ss_X4_print_107 hS ?_)
      have e0 : pcl (s, w) = false := by
        unfold pcl
        simp [s7]
      rw [e0] at p108
      exact p108 _
