/-! x LOOKS AT TOKENS -/
def Tx (h : hp) (a : Nat) : Nat → List Int → Prop
  | _, [] => True
  | p, c :: u => hI h a p = c ∧ Tx h a (p + 1) u
theorem Tx_eq {h h' : hp} {a : Nat} (e : ∀ j, hI h' a j = hI h a j) : ∀ {p : Nat} {u : List Int}, Tx h a p u → Tx h' a p u := by
  intro p u
  induction u generalizing p with
  | nil => intro _; trivial
  | cons c u ih => intro k; exact ⟨(e p).trans k.1, ih k.2⟩
theorem Tx_app {h : hp} {a : Nat} {v : List Int} : ∀ {p : Nat} {u : List Int}, Tx h a p (u ++ v) → Tx h a (p + u.length) v := by
  intro p u
  induction u generalizing p with
  | nil => intro k; exact k
  | cons c u ih => intro k; have := ih k.2; rw [List.length_cons]; rw [show p + (u.length + 1) = p + 1 + u.length by omega]; exact this
theorem Tx_get {h : hp} {a : Nat} : ∀ {p : Nat} {u : List Int} (j : Nat) (hj : j < u.length), Tx h a p u → hI h a (p + j) = u[j] := by
  intro p u
  induction u generalizing p with
  | nil => intro j hj; simp at hj
  | cons c u ih =>
    intro j hj k
    cases j with
    | zero => exact k.1
    | succ j => have := ih j (by simpa using hj) k.2; rw [show p + (j + 1) = p + 1 + j by omega]; exact this
def hdc : List Int → Int
  | [] => -1
  | c :: _ => c
def okb (u : List Int) : Prop := ∀ c ∈ u, 32 ≤ c ∧ c ≤ 126
theorem okb_tl {c : Int} {u : List Int} (h : okb (c :: u)) : okb u := fun x hx => h x (List.mem_cons_of_mem _ hx)
/-- the tape from p on is u, and no more -/
def Tq (h : hp) (p : Nat) (u : List Int) : Prop := hI h 68 1 = ((p + u.length : Nat) : Int) ∧ p + u.length ≤ 600 ∧ Tx h 69 p u ∧ okb u
theorem Tq_tl {h : hp} {p : Nat} {c : Int} {u : List Int} (k : Tq h p (c :: u)) : Tq h (p + 1) u := by
  obtain ⟨k1, k2, k3, k4⟩ := k
  rw [List.length_cons] at k1 k2
  exact ⟨by rw [k1]; congr 1; omega, by omega, k3.2, okb_tl k4⟩
theorem Tq_sI {h : hp} {p : Nat} {u : List Int} (k : Tq h p u) {j : Nat} {x : Int} (hj : j ≠ 1) : Tq (sI h 68 j x) p u :=
  ⟨by rw [hI_sI, if_neg (by omega)]; exact k.1, k.2.1, Tx_eq (fun i => by rw [hI_sI, if_neg (by omega)]) k.2.2.1, k.2.2.2⟩
theorem Tq_FI {h h' : hp} {js : List Nat} (hF : FI js [] [] h h') (hj : js.contains 1 = false) {p : Nat} {u : List Int} (k : Tq h p u) : Tq h' p u :=
  ⟨by rw [FI_i hF (by unfold pG; rw [hj]; rfl)]; exact k.1, k.2.1, Tx_eq (fun i => FI_i hF rfl) k.2.2.1, k.2.2.2⟩
theorem Tq_app {h : hp} {p : Nat} {u v : List Int} (k : Tq h p (u ++ v)) : Tq h (p + u.length) v := by
  obtain ⟨k1, k2, k3, k4⟩ := k
  rw [List.length_append] at k1 k2
  exact ⟨by rw [k1]; congr 1; omega, by omega, Tx_app k3, fun c hc => k4 c (List.mem_append_right _ hc)⟩
theorem c_byteAt {d : Nat} {Q : qt} {h : hp} {p : Nat} {u : List Int} (hS : St h) (hT : Tq h p u) (k : Q (.inl (some (vI (hdc u)))) h) : Wc (d + 1) 6 [vR (some 68), vI (p : Nat)] h Q := by
  refine se_X0_byteAt hS ?_
  obtain ⟨h1, h2, h3, h4⟩ := hT
  cases u with
  | nil => rw [if_neg (by rw [h1]; simp)]; exact k
  | cons c r =>
    rw [List.length_cons] at h1 h2
    rw [if_pos (by rw [h1]; omega)]
    refine ⟨by omega, ?_⟩
    rw [Int.toNat_natCast, h3.1]
    exact k
theorem bWord_app (v : List Int) : (bWord v).1 ++ (bWord v).2 = v := by
  induction v with
  | nil => rfl
  | cons c v ih =>
    unfold bWord
    split
    · rw [List.cons_append, ih]
    · rfl
theorem nx_word {d : Nat} {Q : qt} {c : Int} {w2 w3 : av} (v : List Int) : ∀ {h : hp} {q : Nat}, St h → hI h 68 2 = (q : Nat) → Tq h q v →
    (∀ h', FI [2] [] [] h h' → hI h' 68 2 = ((q + (bWord v).1.length : Nat) : Int) → Q (.inl none) h') → Wp (d + 2) C_X0_next Q 75 [vR (some 68), vI c, w2, w3] [] h := by
  induction v with
  | nil =>
    intro h q hS h2 hT k
    refine ss_X0_next_75 hS ?_
    rw [h2]
    refine c_byteAt hS hT ?_
    refine ss_X0_next_83 hS ?_
    refine pu_isSmall hS ?_
    refine ss_X0_next_86 hS ?_
    refine ip rfl ?_
    exact ss_X0_next_306 hS (k h (FI_refl h) h2)
  | cons e v ih =>
    intro h q hS h2 hT k
    refine ss_X0_next_75 hS ?_
    rw [h2]
    refine c_byteAt hS hT ?_
    refine ss_X0_next_83 hS ?_
    refine pu_isSmall hS ?_
    refine ss_X0_next_86 hS ?_
    by_cases he : bSm e = true
    · rw [if_neg (by show ¬ bI (bSm e) = 0; rw [he]; decide), h2]
      have hq := hT.2.1
      rw [List.length_cons] at hq
      rw [na_eq (by omega) (by omega)]
      refine ih (St_sI hS (by omega)) (q := q + 1) (by rw [hI_sI, if_pos ⟨rfl, rfl⟩]; rfl) (Tq_sI (Tq_tl hT) (by omega)) fun h' hF h2' => ?_
      refine k h' (FI_trans (FI_sI (FI_refl h) rfl) hF) ?_
      rw [h2']
      simp only [bWord, he, if_true, List.length_cons]
      congr 1; omega
    · rw [if_pos (by show bI (bSm e) = 0; rw [Bool.eq_false_iff.mpr he]; rfl)]
      refine ss_X0_next_306 hS (k h (FI_refl h) ?_)
      rw [h2]; simp [bWord, he]
theorem bNum_len : ∀ (k a : Nat) (v : List Int), (bNum k a v).2.length ≤ v.length := by
  intro k
  induction k with
  | zero => intro a v; exact Nat.le_refl _
  | succ k ih =>
    intro a v
    cases v with
    | nil => exact Nat.le_refl _
    | cons c v =>
      unfold bNum
      split
      · exact Nat.le_trans (ih _ _) (Nat.le_succ _)
      · exact Nat.le_refl _
theorem bNum_suf : ∀ (k a : Nat) (v : List Int), ∃ pre, v = pre ++ (bNum k a v).2 := by
  intro k
  induction k with
  | zero => intro a v; exact ⟨[], rfl⟩
  | succ k ih =>
    intro a v
    cases v with
    | nil => exact ⟨[], rfl⟩
    | cons c v =>
      unfold bNum
      split
      · obtain ⟨pre, hp⟩ := ih (10 * a + (c - 48).toNat) v
        exact ⟨c :: pre, by rw [List.cons_append, ← hp]⟩
      · exact ⟨[], rfl⟩
theorem bDg_iff {c : Int} : bDg c = true ↔ 48 ≤ c ∧ c ≤ 57 := by simp [bDg]
theorem bSm_iff {c : Int} : bSm c = true ↔ 97 ≤ c ∧ c ≤ 122 := by simp [bSm]
theorem bCp_iff {c : Int} : bCp c = true ↔ 65 ≤ c ∧ c ≤ 90 := by simp [bCp]
theorem nx_num {d : Nat} {Q : qt} {c : Int} {w2 w3 : av} {b : Nat} (v : List Int) : ∀ {h : hp} {q n a : Nat}, St h → hI h 68 2 = (q : Nat) → hI h 68 3 = (b : Nat) → hI h 68 5 = (a : Nat) → q + n = b + 9 → n ≤ 8 → a < 10 ^ (9 - n) → Tq h q v →
    (∀ h', FI [2, 5] [] [] h h' → hI h' 68 2 + (bNum n a v).2.length = hI h 68 1 → hI h' 68 5 = ((bNum n a v).1 : Nat) → Q (.inl none) h') → Wp (d + 2) C_X0_next Q 122 [vR (some 68), vI c, w2, w3] [] h := by
  induction v with
  | nil =>
    intro h q n a hS h2 h3 h5 hq hn ha hT k
    refine ss_X0_next_122 hS ?_
    rw [h2]
    refine c_byteAt hS hT ?_
    refine ss_X0_next_130 hS ?_
    refine pu_isDigit hS ?_
    refine ss_X0_next_133 hS ?_
    refine ip rfl ?_
    refine ss_X0_next_306 hS (k h (FI_refl h) ?_ ?_)
    · rw [h2, hT.1]; cases n <;> simp [bNum]
    · rw [h5]; cases n <;> rfl
  | cons e v ih =>
    intro h q n a hS h2 h3 h5 hq hn ha hT k
    refine ss_X0_next_122 hS ?_
    rw [h2]
    refine c_byteAt hS hT ?_
    refine ss_X0_next_130 hS ?_
    refine pu_isDigit hS ?_
    refine ss_X0_next_133 hS ?_
    have hl := hT.2.1
    rw [List.length_cons] at hl
    by_cases he : bDg e = true
    · rw [if_neg (by show ¬ bI (bDg e) = 0; rw [he]; decide), h2, h3, ns_eq (by omega) (by omega)]
      have hr := bDg_iff.mp he
      cases n with
      | zero =>
        rw [if_neg (by omega)]
        refine ss_X0_next_306 hS (k h (FI_refl h) ?_ ?_)
        · rw [h2, hT.1]; simp [bNum]
        · rw [h5]; rfl
      | succ n =>
        rw [if_pos (by omega)]
        refine c_byteAt hS hT ?_
        refine ss_X0_next_166 hS ?_
        have h9 : a < 10 ^ 8 := Nat.lt_of_lt_of_le ha (Nat.pow_le_pow_right (by decide) (by omega))
        have h8 : (10 : Nat) ^ 8 = 100000000 := by decide
        rw [h8] at h9
        show Wp (d + 2) C_X0_next Q 122 [vR (some 68), vI c, w2, w3] [] (sI (sI h 68 5 (n_sub (n_add (n_mul 10 (hI h 68 5)) e) 48)) 68 2 (n_add (hI h 68 2) 1))
        rw [h5, h2, nm_eq (by omega) (by omega), na_eq (by omega) (by omega), ns_eq (by omega) (by omega), na_eq (by omega) (by omega)]
        refine ih (St_sI (St_sI hS (by omega)) (by omega)) (q := q + 1) (n := n) (a := 10 * a + (e - 48).toNat) (by rw [hI_sI, if_pos ⟨rfl, rfl⟩]; rfl) (by rw [hI_sI, if_neg (by omega), hI_sI, if_neg (by omega)]; exact h3) (by rw [hI_sI, if_neg (by omega), hI_sI, if_pos ⟨rfl, rfl⟩]; omega) (by omega) (by omega) ?_ (Tq_sI (Tq_sI (Tq_tl hT) (by omega)) (by omega)) fun h' hF e2 e5 => ?_
        · have : (10 : Nat) ^ (9 - n) = 10 * 10 ^ (9 - (n + 1)) := by rw [show 9 - n = (9 - (n + 1)) + 1 by omega, Nat.pow_succ]; omega
          rw [this]
          have h7 : (e - 48).toNat < 10 := by omega
          omega
        · have hs : bNum (n + 1) a (e :: v) = bNum n (10 * a + (e - 48).toNat) v := by simp [bNum, he]
          refine k h' (FI_trans (FI_sI (FI_sI (FI_refl h) rfl) rfl) hF) ?_ ?_
          · rw [hs, e2]; rw [hI_sI, if_neg (by omega), hI_sI, if_neg (by omega)]
          · rw [hs, e5]
    · rw [if_pos (by show bI (bDg e) = 0; rw [Bool.eq_false_iff.mpr he]; rfl)]
      refine ss_X0_next_306 hS (k h (FI_refl h) ?_ ?_)
      · rw [h2, hT.1]; cases n <;> simp [bNum, he] <;> omega
      · rw [h5]; cases n <;> simp [bNum, he]
theorem nx_two {d : Nat} {Q : qt} {h : hp} {c e : Int} {w2 w3 : av} (hS : St h) (k1 : (bTwo c e).isSome = true → Wp d C_X0_next Q 274 [vR (some 68), vI c, vI e, w3] [vI 1] h) (k0 : bTwo c e = none → Wp d C_X0_next Q 274 [vR (some 68), vI c, vI e, w3] [vI 0] h) : Wp d C_X0_next Q 214 [vR (some 68), vI c, w2, w3] [vI e] h := by
  refine ss_X0_next_214 hS ?_
  repeat' (first | split | refine ss_X0_next_239 hS ?_ | refine ss_X0_next_257 hS ?_ | refine ss_X0_next_269 hS ?_ | refine ss_X0_next_273 hS ?_)
  all_goals (first | exact k1 (by simp_all [bTwo]) | exact k0 (by simp_all [bTwo]))
def Cso (h : hp) (c : Int) (r : List Int) : Prop :=
  if bSm c = true then hI h 68 4 = 1
  else if bDg c = true then hI h 68 4 = 2 ∧ hI h 68 5 = ((bTok c r).2.1 : Nat)
  else if bCp c = true then hI h 68 4 = 3
  else if (bTok c r).1 = 6 then hI h 68 4 = 5 else hI h 68 4 = 4
/-- x looks at the token that begins with the first of u -/
def Cl (h : hp) : List Int → Prop
  | [] => hI h 68 3 = hI h 68 1 ∧ hI h 68 4 = 0
  | c :: r => c ≠ 32 ∧ ∃ b e : Nat, hI h 68 3 = b ∧ hI h 68 2 = e ∧ Tq h b (c :: r) ∧ Tq h e (bTok c r).2.2 ∧ Cso h c r
theorem bTok_sm {c : Int} {r : List Int} (hc : bSm c = true) : (bTok c r).2.2 = (bWord r).2 := by
  unfold bTok
  rw [if_pos hc]
  split
  · rename_i h0; have := bWord_app r; rw [h0, List.nil_append] at this; exact this.symm
  · split <;> rfl
theorem bTok_dg {c : Int} {r : List Int} (h1 : ¬ bSm c = true) (hc : bDg c = true) : bTok c r = (2, (bNum 8 (c - 48).toNat r).1, (bNum 8 (c - 48).toNat r).2) := by
  unfold bTok
  rw [if_neg h1, if_pos hc]
theorem bTok_cp {c : Int} {r : List Int} (h1 : ¬ bSm c = true) (h2 : ¬ bDg c = true) (hc : bCp c = true) : (bTok c r).2.2 = r := by
  unfold bTok
  rw [if_neg h1, if_neg h2, if_pos hc]
  split
  · rfl
  · split <;> rfl
theorem bTok_two {c : Int} {r : List Int} (h1 : ¬ bSm c = true) (h2 : ¬ bDg c = true) (h3 : ¬ bCp c = true) (h : (bTwo c (hdc r)).isSome = true) : ∃ e q i, r = e :: q ∧ bTwo c e = some i ∧ bTok c r = (6, i, q) := by
  cases r with
  | nil => simp [bTwo, hdc] at h
  | cons e q =>
    obtain ⟨i, hi⟩ := Option.isSome_iff_exists.mp h
    refine ⟨e, q, i, rfl, hi, ?_⟩
    unfold bTok
    rw [if_neg h1, if_neg h2, if_neg h3]
    have hi' : bTwo c e = some i := hi
    simp only [hi']
theorem bTok_one {c : Int} {r : List Int} (h1 : ¬ bSm c = true) (h2 : ¬ bDg c = true) (h3 : ¬ bCp c = true) (h : bTwo c (hdc r) = none) : bTok c r = (7, c.toNat, r) := by
  unfold bTok
  rw [if_neg h1, if_neg h2, if_neg h3]
  cases r with
  | nil => rfl
  | cons e q => have h' : bTwo c e = none := h; simp only [h']
theorem nx_tok {d : Nat} {Q : qt} {c : Int} {r : List Int} {w1 w2 w3 : av} {b : Nat} {h : hp} (hS : St h) (h2 : hI h 68 2 = (b : Nat)) (h3 : hI h 68 3 = (b : Nat)) (hT : Tq h b (c :: r)) (hc : c ≠ 32)
    (k : ∀ h', FI [2, 3, 4, 5] [] [] h h' → Cl h' (c :: r) → Q (.inl none) h') : Wp (d + 3) C_X0_next Q 42 [vR (some 68), w1, w2, w3] [vI c] h := by
  have hok := hT.2.2.2 c (List.mem_cons_self ..)
  have hl := hT.2.1
  rw [List.length_cons] at hl
  refine ss_X0_next_42 hS ?_
  rw [if_neg (by omega), h2, na_eq (by omega) (by omega)]
  have hS1 : St (sI h 68 2 (b + 1)) := St_sI hS (by omega)
  have hT1 : Tq (sI h 68 2 (b + 1)) (b + 1) r := Tq_sI (Tq_tl hT) (by omega)
  refine pu_isSmall hS1 ?_
  refine ss_X0_next_67 hS1 ?_
  by_cases c1 : bSm c = true
  · rw [if_neg (by show ¬ bI (bSm c) = 0; rw [c1]; decide)]
    refine nx_word r (St_sI hS1 (by omega)) (q := b + 1) (by rw [hI_sI, if_neg (by omega), hI_sI, if_pos ⟨rfl, rfl⟩]; rfl) (Tq_sI hT1 (by omega)) fun h' hF e2 => ?_
    have hF2 : FI [2, 3, 4, 5] [] [] h h' := FI_trans (FI_sI (FI_sI (FI_refl h) rfl) rfl) (FI_mono hF (by decide) (by decide) (by decide))
    refine k h' hF2 ⟨hc, b, b + 1 + (bWord r).1.length, ?_, e2, Tq_FI hF2 rfl hT, ?_, ?_⟩
    · rw [FI_i hF rfl, hI_sI, if_neg (by omega), hI_sI, if_neg (by omega)]; exact h3
    · rw [bTok_sm c1]
      refine Tq_app ?_
      rw [bWord_app]
      exact Tq_FI hF2 rfl (Tq_tl hT)
    · unfold Cso
      rw [if_pos c1, FI_i hF rfl, hI_sI, if_pos ⟨rfl, rfl⟩]
  · rw [if_pos (by show bI (bSm c) = 0; rw [Bool.eq_false_iff.mpr c1]; rfl)]
    refine pu_isDigit hS1 ?_
    refine ss_X0_next_106 hS1 ?_
    by_cases c2 : bDg c = true
    · rw [if_neg (by show ¬ bI (bDg c) = 0; rw [c2]; decide)]
      have hr := bDg_iff.mp c2
      rw [ns_eq (by omega) (by omega)]
      refine nx_num (b := b) r (St_sI (St_sI hS1 (by omega)) (by omega)) (q := b + 1) (n := 8) (a := (c - 48).toNat) ?_ ?_ ?_ (by omega) (by omega) (by simp; omega) (Tq_sI (Tq_sI hT1 (by omega)) (by omega)) fun h' hF e2 e5 => ?_
      · rw [hI_sI, if_neg (by omega), hI_sI, if_neg (by omega), hI_sI, if_pos ⟨rfl, rfl⟩]; rfl
      · rw [hI_sI, if_neg (by omega), hI_sI, if_neg (by omega), hI_sI, if_neg (by omega)]; exact h3
      · rw [hI_sI, if_pos ⟨rfl, rfl⟩]; omega
      · have hF2 : FI [2, 3, 4, 5] [] [] h h' := FI_trans (FI_sI (FI_sI (FI_sI (FI_refl h) rfl) rfl) rfl) (FI_mono hF (by decide) (by decide) (by decide))
        have hN1 : hI (sI (sI (sI h 68 2 (b + 1)) 68 4 2) 68 5 (c - 48)) 68 1 = ((b + (c :: r).length : Nat) : Int) := by
          rw [hI_sI, if_neg (by omega), hI_sI, if_neg (by omega), hI_sI, if_neg (by omega)]; exact hT.1
        have hbl := bNum_len 8 (c - 48).toNat r
        rw [hN1, List.length_cons] at e2
        refine k h' hF2 ⟨hc, b, b + 1 + (r.length - (bNum 8 (c - 48).toNat r).2.length), ?_, by omega, Tq_FI hF2 rfl hT, ?_, ?_⟩
        · rw [FI_i hF rfl, hI_sI, if_neg (by omega), hI_sI, if_neg (by omega), hI_sI, if_neg (by omega)]; exact h3
        · rw [bTok_dg c1 c2]
          obtain ⟨pre, hpre⟩ := bNum_suf 8 (c - 48).toNat r
          have hT2 := Tq_FI hF2 rfl (Tq_tl hT)
          rw [hpre] at hT2
          have := Tq_app hT2
          have hl2 := congrArg List.length hpre
          rw [List.length_append] at hl2
          rw [show r.length - (bNum 8 (c - 48).toNat r).2.length = pre.length by omega]
          exact this
        · unfold Cso
          rw [if_neg c1, if_pos c2, bTok_dg c1 c2]
          refine ⟨?_, e5⟩
          rw [FI_i hF rfl, hI_sI, if_neg (by omega), hI_sI, if_pos ⟨rfl, rfl⟩]
    · rw [if_pos (by show bI (bDg c) = 0; rw [Bool.eq_false_iff.mpr c2]; rfl)]
      have k206 : ¬ bCp c = true → Wp (d + 3) C_X0_next Q 206 [vR (some 68), vI c, w2, w3] [] (sI h 68 2 (b + 1)) := by
        intro c3
        refine ss_X0_next_206 hS1 ?_
        rw [hI_sI, if_pos ⟨rfl, rfl⟩]
        refine c_byteAt (p := b + 1) hS1 hT1 ?_
        refine nx_two hS1 (fun t2 => ?_) (fun t2 => ?_)
        · refine ss_X0_next_274 hS1 ?_
          rw [if_neg (by decide)]
          refine ss_X0_next_285 hS1 ?_
          rw [if_neg (by decide)]
          refine ss_X0_next_302 (St_sI hS1 (by omega)) ?_
          rw [hI_sI, if_pos ⟨rfl, rfl⟩]
          obtain ⟨e, q, i, er, ei, et⟩ := bTok_two c1 c2 c3 t2
          subst er
          rw [List.length_cons] at hl
          rw [na_eq (by omega) (by omega)]
          refine ss_X0_next_306 (St_sI (St_sI hS1 (by omega)) (by omega)) (k _ (FI_sI (FI_sI (FI_sI (FI_refl h) rfl) rfl) rfl) ⟨hc, b, b + 2, ?_, ?_, ?_, ?_, ?_⟩)
          · rw [hI_sI, if_neg (by omega), hI_sI, if_neg (by omega), hI_sI, if_neg (by omega)]; exact h3
          · rw [hI_sI, if_pos ⟨rfl, rfl⟩]; omega
          · exact Tq_sI (Tq_sI (Tq_sI hT (by omega)) (by omega)) (by omega)
          · rw [et]; exact Tq_sI (Tq_sI (Tq_tl hT1) (by omega)) (by omega)
          · unfold Cso
            rw [if_neg c1, if_neg c2, if_neg c3, et, if_pos rfl, hI_sI, if_neg (by omega), hI_sI, if_pos ⟨rfl, rfl⟩]
        · refine ss_X0_next_274 hS1 ?_
          refine ip rfl ?_
          refine ss_X0_next_285 hS1 ?_
          refine ip rfl ?_
          refine ss_X0_next_302 (St_sI hS1 (by omega)) ?_
          rw [hI_sI, if_pos ⟨rfl, rfl⟩]
          have et := bTok_one c1 c2 c3 t2
          rw [na_eq (by omega) (by omega)]
          refine ss_X0_next_306 (St_sI (St_sI hS1 (by omega)) (by omega)) (k _ (FI_sI (FI_sI (FI_sI (FI_refl h) rfl) rfl) rfl) ⟨hc, b, b + 1, ?_, ?_, ?_, ?_, ?_⟩)
          · rw [hI_sI, if_neg (by omega), hI_sI, if_neg (by omega), hI_sI, if_neg (by omega)]; exact h3
          · rw [hI_sI, if_pos ⟨rfl, rfl⟩]; omega
          · exact Tq_sI (Tq_sI (Tq_sI hT (by omega)) (by omega)) (by omega)
          · rw [et]; exact Tq_sI (Tq_sI hT1 (by omega)) (by omega)
          · unfold Cso
            rw [if_neg c1, if_neg c2, if_neg c3, et, if_neg (show ¬ (7 : Nat) = 6 by decide), hI_sI, if_neg (by omega), hI_sI, if_pos ⟨rfl, rfl⟩]
      by_cases c3 : bCp c = true
      · have hr := bCp_iff.mp c3
        rw [if_neg (by omega), if_neg (by omega)]
        refine ss_X0_next_306 (St_sI hS1 (by omega)) (k _ (FI_sI (FI_sI (FI_refl h) rfl) rfl) ⟨hc, b, b + 1, ?_, ?_, ?_, ?_, ?_⟩)
        · rw [hI_sI, if_neg (by omega), hI_sI, if_neg (by omega)]; exact h3
        · rw [hI_sI, if_neg (by omega), hI_sI, if_pos ⟨rfl, rfl⟩]; rfl
        · exact Tq_sI (Tq_sI hT (by omega)) (by omega)
        · rw [bTok_cp c1 c2 c3]; exact Tq_sI hT1 (by omega)
        · unfold Cso
          rw [if_neg c1, if_neg c2, if_pos c3, hI_sI, if_pos ⟨rfl, rfl⟩]
      · have hr : ¬ (65 ≤ c ∧ c ≤ 90) := fun q => c3 (bCp_iff.mpr q)
        by_cases q : c < 65
        · rw [if_pos q]; exact k206 c3
        · rw [if_neg q, if_pos (by omega)]; exact k206 c3
theorem nx_skip {d : Nat} {Q : qt} {w1 w2 w3 : av} (u : List Int) : ∀ {h : hp} {p : Nat}, St h → hI h 68 2 = (p : Nat) → Tq h p u →
    (∀ h', FI [2, 3, 4, 5] [] [] h h' → Cl h' (bSkip u) → Q (.inl none) h') → Wp (d + 3) C_X0_next Q 0 [vR (some 68), vU, vU, vU] [] h := by
  induction u with
  | nil =>
    intro h p hS h2 hT k
    refine ss_X0_next_0 hS ?_
    rw [h2]
    refine c_byteAt hS hT ?_
    refine ss_X0_next_8 hS ?_
    rw [if_neg (by decide), h2]
    have hS1 : St (sI h 68 3 p) := St_sI hS (by omega)
    refine c_byteAt hS1 (Tq_sI hT (by omega)) ?_
    refine ss_X0_next_42 hS1 ?_
    rw [if_pos (by decide)]
    refine k _ (FI_sI (FI_sI (FI_refl h) rfl) rfl) ⟨?_, ?_⟩
    · rw [hI_sI, if_neg (by omega), hI_sI, if_pos ⟨rfl, rfl⟩, hI_sI, if_neg (by omega), hI_sI, if_neg (by omega), hT.1]; rfl
    · rw [hI_sI, if_pos ⟨rfl, rfl⟩]
  | cons c r ih =>
    intro h p hS h2 hT k
    refine ss_X0_next_0 hS ?_
    rw [h2]
    refine c_byteAt hS hT ?_
    refine ss_X0_next_8 hS ?_
    have hl := hT.2.1
    rw [List.length_cons] at hl
    by_cases hc : c = 32
    · refine ip hc ?_
      rw [h2, na_eq (by omega) (by omega)]
      refine ih (St_sI hS (by omega)) (p := p + 1) (by rw [hI_sI, if_pos ⟨rfl, rfl⟩]; rfl) (Tq_sI (Tq_tl hT) (by omega)) fun h' hF hC => ?_
      refine k h' (FI_trans (FI_sI (FI_refl h) rfl) hF) ?_
      unfold bSkip; rw [if_pos hc]; exact hC
    · refine im hc ?_
      rw [h2]
      have hS1 : St (sI h 68 3 p) := St_sI hS (by omega)
      refine c_byteAt hS1 (Tq_sI hT (by omega)) ?_
      refine nx_tok (b := p) hS1 (by rw [hI_sI, if_neg (by omega)]; exact h2) (by rw [hI_sI, if_pos ⟨rfl, rfl⟩]) (Tq_sI hT (by omega)) hc fun h' hF hC => ?_
      refine k h' (FI_trans (FI_sI (FI_refl h) rfl) hF) ?_
      unfold bSkip; rw [if_neg hc]; exact hC
theorem c_next {d : Nat} {Q : qt} {h : hp} {p : Nat} {u : List Int} (hS : St h) (h2 : hI h 68 2 = (p : Nat)) (hT : Tq h p u) (k : ∀ h', FI [2, 3, 4, 5] [] [] h h' → Cl h' (bSkip u) → Q (.inl none) h') : Wc (d + 4) 5 [vR (some 68)] h Q :=
  Wc_of cs_X0_next rfl (nx_skip (w1 := vU) (w2 := vU) (w3 := vU) u hS h2 hT k)
