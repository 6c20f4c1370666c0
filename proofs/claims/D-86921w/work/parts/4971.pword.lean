/-! x prints words and numbers -/
def bsI (bs : List Nat) : List Int := bs.map (fun b => ((b : Nat) : Int))
theorem bsI_drop {bs : List Nat} {i : Nat} (hi : i < bs.length) : bsI (bs.drop i) = ((bs.getD i 0 : Nat) : Int) :: bsI (bs.drop (i + 1)) := by
  rw [List.drop_eq_getElem_cons hi]
  show ((bs[i] : Nat) : Int) :: _ = _
  rw [List.getD_eq_getElem?_getD, List.getElem?_eq_getElem hi]
  rfl
theorem c_pWord {d a : Nat} {Q : qt} {h : hp} {O : List Int} {g : Bool} {bs : List Nat} {x : Nat × Nat} (X : Xp h O g) (hB : ∀ {h}, St h → Ss h a bs) (hl1 : bs.length < 1000) (l0 : 0 < bs.length) (hb : ∀ b ∈ bs, 32 ≤ b ∧ b ≤ 126) (e1 : ptk x = bsI bs) (e2 : pcl x = false) (hl : (O ++ pbs [x] g).length ≤ 6000) (k : ∀ h', FP h h' → Xp h' (O ++ pbs [x] g) false → Q (.inl none) h') : Wc (d + 6) 45 [vR (some 68), vR (some a)] h Q := by
  have ep : pbs [x] g = (if g = true then [] else [32]) ++ bsI bs := by show psp g x ++ (ptk x ++ []) = _; rw [psp_n e2, e1]; simp
  rw [ep] at hl k
  refine se_X0_printWord X.1 ?_
  have lb : (bsI bs).length = bs.length := List.length_map _
  refine c_blank X (by simp [lb] at hl; omega) (fun h1 F1 x1 => ?_)
  refine ss_X0_printWord_4 x1.1 ?_
  have loop : ∀ (n i : Nat) (h2 : hp) (O2 : List Int), i + n = bs.length → FP h h2 → Xp h2 O2 false → O2.length + n ≤ 6000 → (∀ h', FP h h' → Xp h' (O2 ++ bsI (bs.drop i)) false → Q (.inl none) h') → Wp (d + 5) C_X0_printWord Q 6 [vR (some 68), vR (some a), vI (i : Nat)] [] h2 := by
    intro n
    induction n with
    | zero =>
      intro i h2 O2 e F2 x2 _ q
      have B := hB x2.1
      refine ss_X0_printWord_6 x2.1 ?_
      rw [ofR_some]
      refine ip (by rw [B.1]) (c_strLen x2.1 B hl1 ?_)
      refine ss_X0_printWord_11 x2.1 (im (by omega) ?_)
      have := q h2 F2
      rw [List.drop_eq_nil_of_le (by omega)] at this
      exact this (by show Xp h2 (O2 ++ []) false; rw [List.append_nil]; exact x2)
    | succ n ih =>
      intro i h2 O2 e F2 x2 l2 q
      have B := hB x2.1
      have hi : i < bs.length := by omega
      have bm : bs.getD i 0 ∈ bs := by rw [List.getD_eq_getElem?_getD, List.getElem?_eq_getElem hi]; exact List.getElem_mem hi
      have bi := hb _ bm
      refine ss_X0_printWord_6 x2.1 ?_
      rw [ofR_some]
      refine ip (by rw [B.1]) (c_strLen x2.1 B hl1 ?_)
      refine ss_X0_printWord_11 x2.1 (ip (by omega) ?_)
      rw [ofR_some]
      refine ip (by rw [B.1]) (c_charAt x2.1 B hl1 hi (fun b hb' => by have := hb b hb'; omega) ?_)
      refine ss_X0_printWord_20 x2.1 ?_
      refine c_emit x2 (by omega) (by omega) (fun h3 F3 x3 => ?_)
      refine ss_X0_printWord_23 x3.1 ?_
      rw [n1k (by omega)]
      refine ih (i + 1) h3 _ (by omega) (FP_trans F2 F3) x3 (by simp; omega) (fun h' F' x' => q h' F' ?_)
      rw [bsI_drop hi]
      rw [List.append_assoc] at x'
      exact x'
  refine loop bs.length 0 h1 _ (by omega) F1 x1 (by simp [lb] at hl ⊢; omega) (fun h' F' x' => k h' F' ?_)
  rw [List.drop_zero, List.append_assoc] at x'
  exact x'
theorem ptp_b : ∀ (f n p : Nat), 0 < p → p ≤ 1000000000 → n < 1000000000 → 0 < ptp f n p ∧ ptp f n p ≤ 1000000000 := by
  intro f
  induction f with
  | zero => intro n p h1 h2 _; exact ⟨h1, h2⟩
  | succ f ih =>
    intro n p h1 h2 h3
    unfold ptp
    by_cases q : 9 < n / p
    · rw [if_pos q]
      have : 10 * p ≤ n := (Nat.le_div_iff_mul_le h1).mp q
      exact ih n (10 * p) (by omega) (by omega) h3
    · rw [if_neg q]; exact ⟨h1, h2⟩
theorem pdg_len : ∀ (f n p : Nat), (pdg f n p).length ≤ f := by
  intro f
  induction f with
  | zero => intro n p; exact Nat.le_refl _
  | succ f ih =>
    intro n p
    unfold pdg
    split
    · have := ih n (p / 10); simp; omega
    · simp
theorem c_pNum {d n : Nat} {Q : qt} {h : hp} {O : List Int} {g : Bool} (X : Xp h O g) (hn : n < 1000000000) (hl : (O ++ pbs [(2, n)] g).length ≤ 6000) (k : ∀ h', FP h h' → Xp h' (O ++ pbs [(2, n)] g) false → Q (.inl none) h') : Wc (d + 3) 51 [vR (some 68), vI (n : Nat)] h Q := by
  have ep : pbs [(2, n)] g = (if g = true then [] else [32]) ++ pnm n := by show psp g (2, n) ++ (ptk (2, n) ++ []) = _; rw [psp_n rfl, List.append_nil]; rfl
  rw [ep] at hl k
  have p0 := ptp_b 10 n 1 (by decide) (by decide) hn
  have l0 : 0 < (pnm n).length := by
    unfold pnm
    unfold pdg
    rw [if_pos p0.1]
    simp
  refine se_X0_printNumber X.1 ?_
  refine c_blank X (by simp at hl; omega) (fun h1 F1 x1 => ?_)
  refine ss_X0_printNumber_4 x1.1 ?_
  have lp2 : ∀ (f p : Nat) (h2 : hp) (O2 : List Int) (v2 : Int), p < 10 ^ f → p ≤ 1000000000 → FP h h2 → Xp h2 O2 false → O2.length + (pdg f n p).length ≤ 6000 → (∀ h', FP h h' → Xp h' (O2 ++ pdg f n p) false → Q (.inl none) h') → Wp (d + 2) C_X0_printNumber Q 24 [vR (some 68), vI (n : Nat), vI v2, vI (p : Nat)] [] h2 := by
    intro f
    induction f with
    | zero =>
      intro p h2 O2 v2 hp0 _ F2 x2 _ q
      have : p = 0 := by simpa using hp0
      subst this
      refine ss_X0_printNumber_24 x2.1 (im (by decide) ?_)
      exact q h2 F2 (by show Xp h2 (O2 ++ []) false; rw [List.append_nil]; exact x2)
    | succ f ih =>
      intro p h2 O2 v2 hp0 hp1 F2 x2 l2 q
      unfold pdg at l2 q
      by_cases p1 : 0 < p
      · rw [if_pos p1] at l2 q
        have q10 : n / p % 10 < 10 := Nat.mod_lt _ (by decide)
        have qn : n / p ≤ n := Nat.div_le_self _ _
        refine ss_X0_printNumber_24 x2.1 (ip (by omega) ⟨by omega, ?_⟩)
        rw [nd_nat (by omega) (by omega), show (10 : Int) = ((10 : Nat) : Int) by rfl, nr_nat (by omega) (by decide), na_eq (by omega) (by omega), show (48 : Int) + ((n / p % 10 : Nat) : Int) = ((48 + n / p % 10 : Nat) : Int) by omega]
        refine c_emit x2 (by omega) (by simp at l2; omega) (fun h3 F3 x3 => ?_)
        refine ss_X0_printNumber_41 x3.1 ?_
        rw [show (10 : Int) = ((10 : Nat) : Int) by rfl, nd_nat (by omega) (by decide)]
        have d10 : p / 10 ≤ p := Nat.div_le_self _ _
        refine ih (p / 10) h3 _ _ (by rw [Nat.pow_succ] at hp0; omega) (by omega) (FP_trans F2 F3) x3 (by simp at l2 ⊢; omega) (fun h' F' x' => q h' F' ?_)
        rw [List.append_assoc] at x'
        exact x'
      · rw [if_neg p1] at q
        have : p = 0 := by omega
        subst this
        refine ss_X0_printNumber_24 x2.1 (im (by decide) ?_)
        exact q h2 F2 (by rw [List.append_nil]; exact x2)
  have lp1 : ∀ (f p : Nat), n / p < 10 ^ (f + 1) → 0 < p → p ≤ 1000000000 → Wp (d + 2) C_X0_printNumber Q 24 [vR (some 68), vI (n : Nat), vI (ptp f n p : Nat), vI (ptp f n p : Nat)] [] h1 → Wp (d + 2) C_X0_printNumber Q 6 [vR (some 68), vI (n : Nat), vI (p : Nat), vU] [] h1 := by
    intro f
    induction f with
    | zero =>
      intro p h9 p1 p2 q
      refine ss_X0_printNumber_6 x1.1 ⟨by omega, ?_⟩
      rw [nd_nat (by omega) (by omega)]
      exact im (by omega) q
    | succ f ih =>
      intro p h9 p1 p2 q
      refine ss_X0_printNumber_6 x1.1 ⟨by omega, ?_⟩
      rw [nd_nat (by omega) (by omega)]
      unfold ptp at q
      by_cases c : 9 < n / p
      · rw [if_pos c] at q
        have c10 : 10 * p ≤ n := (Nat.le_div_iff_mul_le p1).mp c
        refine ip (by omega) ?_
        rw [nm_eq (by omega) (by omega), show ((p : Nat) : Int) * 10 = ((10 * p : Nat) : Int) by omega]
        refine ih (10 * p) ?_ (by omega) (by omega) q
        rw [Nat.mul_comm, ← Nat.div_div_eq_div_mul]
        rw [Nat.pow_succ] at h9
        omega
      · rw [if_neg c] at q
        exact im (by omega) q
  refine lp1 10 1 (by rw [Nat.div_one]; exact Nat.lt_trans hn (by decide)) (by decide) (by decide) ?_
  refine lp2 11 _ h1 _ _ (Nat.lt_of_le_of_lt p0.2 (by decide)) p0.2 F1 x1 (by unfold pnm at hl; simp at hl ⊢; omega) (fun h' F' x' => k h' F' ?_)
  rw [List.append_assoc] at x'
  exact x'
