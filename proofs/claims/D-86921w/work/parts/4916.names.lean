/-! x: names, braces -/
theorem RE_kind {h : hp} {lo hi : Nat} {e : zT} {a : Nat} (z : RE h lo hi e a) : (hT h a).1 ∈ [8, 9, 10, 11, 12, 14, 15, 16, 17] := by
  cases e with
  | leaf n => exact z.elim
  | branch k l r =>
    obtain ⟨-, -, z⟩ := z
    split at z
    · rw [z.1]; decide
    split at z
    · rw [z.1]; decide
    split at z
    · rw [z.1]; decide
    split at z
    · rw [z.1]; decide
    split at z
    · rw [z.1]; decide
    split at z
    · rw [z.1]; decide
    · rw [z.1]
      split
      · simp
      · split <;> simp
theorem zil_ht {t : zT} (h : zil t = true) : zht t = 0 := by
  cases t with
  | leaf n => rfl
  | branch k l r => cases h
theorem zht_len : ∀ (e : zT) (lv : Nat), zok e lv → zlf e → zht e ≤ (zk e).length := by
  intro e
  induction e with
  | leaf n => intro lv h; exact h.elim
  | branch c l r ihl ihr =>
    intro lv h f
    have hz : zht (.branch c l r) = max (zht l) (zht r) + 1 := rfl
    rw [hz]
    by_cases k1 : c = 1
    · subst k1
      have f' : zil l = true ∧ zil r = true := f
      rw [zil_ht f'.1, zil_ht f'.2]; show 0 + 1 ≤ 1; omega
    by_cases k2 : c = 2
    · subst k2
      have f' : zil l = true ∧ zil r = true := f
      rw [zil_ht f'.1, zil_ht f'.2]; show 0 + 1 ≤ 1; omega
    by_cases k35 : c = 35
    · subst k35
      have f' : zil l = true ∧ zil r = true := f
      rw [zil_ht f'.1, zil_ht f'.2]; show 0 + 1 ≤ 2; omega
    by_cases k3 : c = 3
    · subst k3
      have f' : zil l = true ∧ zlf r := f
      rw [zil_ht f'.1]
      have := ihr 0 h.2 f'.2
      show _ ≤ ((3, zn l) :: (7, 91) :: (zk r ++ [(7, 93)])).length
      simp; omega
    by_cases k8 : c = 8
    · subst k8
      have f' : zlf l ∧ zil r = true := f
      rw [zil_ht f'.2]
      have := ihl 2 h f'.1
      show _ ≤ ((8, 45) :: zk l).length
      simp; omega
    by_cases k40 : c = 40
    · subst k40
      have f' : zlf l ∧ zil r = true := f
      rw [zil_ht f'.2]
      have := ihl 0 h f'.1
      show _ ≤ ((7, 40) :: (zk l ++ [(7, 41)])).length
      simp; omega
    obtain ⟨hc, v, w, h1, h2⟩ := two_k h k1 k2 k35 k3 k8 k40
    have f' : zlf l ∧ zlf r := by
      unfold zlf at f
      rw [if_neg (by omega), if_neg (by omega), if_neg (by omega)] at f
      exact f
    have i1 := ihl v h1 f'.1
    have i2 := ihr w h2 f'.2
    have e1 : ((7, 40) :: (zk l ++ (7, c) :: (zk r ++ [(7, 41)]))).length = (zk l).length + (zk r).length + 3 := by simp; omega
    have e2 : (zk l ++ (7, c) :: zk r).length = (zk l).length + (zk r).length + 1 := by simp; omega
    have e3 : (zk l).length + (zk r).length + 1 ≤ (zk (.branch c l r)).length := by
      rcases hc with q | q | q | q | q | q | q | q | q | q <;> subst q
      · show _ ≤ ((7, 40) :: (zk l ++ (7, 60) :: (zk r ++ [(7, 41)]))).length; rw [e1]; omega
      · show _ ≤ ((7, 40) :: (zk l ++ (7, 61) :: (zk r ++ [(7, 41)]))).length; rw [e1]; omega
      all_goals exact Nat.le_of_eq e2.symm
    omega
theorem zbits_lt : ∀ (e : zT) (lv : Nat), zok e lv → zbits e < 2 ^ 26 := by
  intro e
  induction e with
  | leaf n => intro lv h; exact h.elim
  | branch c l r ihl ihr =>
    intro lv h
    by_cases k1 : c = 1
    · subst k1
      have h' : zn l < 26 := h
      show 2 ^ zn l < 2 ^ 26
      exact Nat.pow_lt_pow_right (by decide) h'
    by_cases k2 : c = 2
    · subst k2; show 0 < 2 ^ 26; decide
    by_cases k35 : c = 35
    · subst k35; show 0 < 2 ^ 26; decide
    by_cases k3 : c = 3
    · subst k3; exact ihr 0 h.2
    by_cases k8 : c = 8
    · subst k8; exact ihl 2 h
    by_cases k40 : c = 40
    · subst k40; exact ihl 0 h
    obtain ⟨hc, v, w, h1, h2⟩ := two_k h k1 k2 k35 k3 k8 k40
    have e1 := Nat.or_lt_two_pow (ihl v h1) (ihr w h2)
    rcases hc with q | q | q | q | q | q | q | q | q | q <;> subst q <;> exact e1
theorem or26 {a b : Nat} (ha : a < 2 ^ 26) (hb : b < 2 ^ 26) : n_or (a : Int) (b : Int) = ((a ||| b : Nat) : Int) ∧ a ||| b < 2 ^ 26 := ⟨or_nat (by omega) (by omega), Nat.or_lt_two_pow ha hb⟩
theorem mod_or {x n : Nat} : (if x.testBit n = true then x % 2 ^ n ||| 2 ^ n else x % 2 ^ n) = x % 2 ^ (n + 1) := by
  refine Nat.eq_of_testBit_eq fun i => ?_
  rw [Nat.testBit_mod_two_pow]
  cases hb : x.testBit n with
  | true =>
    rw [if_pos rfl, Nat.testBit_or, Nat.testBit_mod_two_pow, Nat.testBit_two_pow]
    by_cases h1 : i < n
    · rw [decide_eq_true h1, decide_eq_true (show i < n + 1 by omega), decide_eq_false (show ¬ n = i by omega), Bool.or_false]
    · by_cases h2 : n = i
      · subst h2; rw [hb, decide_eq_true rfl, Bool.or_true, decide_eq_true (show n < n + 1 by omega)]; rfl
      · rw [decide_eq_false h1, decide_eq_false (show ¬ i < n + 1 by omega), decide_eq_false h2]; rfl
  | false =>
    rw [if_neg (by decide), Nat.testBit_mod_two_pow]
    by_cases h1 : i < n
    · rw [decide_eq_true h1, decide_eq_true (show i < n + 1 by omega)]
    · by_cases h2 : n = i
      · subst h2; rw [hb, Bool.and_false, Bool.and_false]
      · rw [decide_eq_false h1, decide_eq_false (show ¬ i < n + 1 by omega)]
/-- the names of an expression -/
theorem c_enames {d : Nat} {Q : qt} {h : hp} {lo hi a lv : Nat} {e : zT} (hS : St h) (hE : RE h lo hi e a) (hz : zok e lv) (hd : zht e < d) (k : Q (.inl (some (vI (zbits e : Nat)))) h) : Wc (d + 1) 252 [vR (some a)] h Q := by
  have hk := RE_kind hE
  have hb := zbits_lt e lv hz
  have loop : ∀ n v : Nat, v + n = 26 → Wp d C_X7_names Q 4 [vR (some a), vI ((zbits e % 2 ^ v : Nat) : Int), vI (v : Nat)] [] h := by
    intro n
    induction n with
    | zero =>
      intro v hv
      have e26 : v = 26 := by omega
      subst e26
      refine ss_X7_names_4 hS hk (im (by decide) ?_)
      rw [Nat.mod_eq_of_lt hb]
      exact k
    | succ n ih =>
      intro v hv
      refine ss_X7_names_4 hS hk (ip (by omega) ?_)
      refine c_has hS (by omega) hE hz hd ?_
      refine ss_X7_names_16 hS hk ?_
      have hv1 := ih (v + 1) (by omega)
      rw [← mod_or] at hv1
      have hm : zbits e % 2 ^ v < 2 ^ 26 := Nat.lt_of_le_of_lt (Nat.mod_le _ _) hb
      rw [na_eq (by omega) (by omega)]
      rw [zbits_has e lv v hz (by omega)] at hv1
      cases hh : zhas v e with
      | true =>
        rw [hh, if_pos rfl] at hv1
        refine im (by decide) ?_
        rw [bit_or hm (by omega)]
        exact hv1
      | false =>
        rw [hh, if_neg (by decide)] at hv1
        refine ip rfl ?_
        have e0 := (or26 hm (show 0 < 2 ^ 26 by decide)).1
        rw [Nat.or_zero] at e0
        rw [show (0 : Int) = ((0 : Nat) : Int) from rfl, e0]
        exact hv1
  refine se_X7_names hS hk ?_
  have q := loop 26 0 rfl
  rw [Nat.pow_zero, Nat.mod_one] at q
  exact q
abbrev VEn : List (Nat × Nat) := [(8, 252), (9, 252), (10, 252), (11, 252), (12, 252), (14, 252), (15, 252), (16, 252), (17, 252)]
theorem v_enames {d : Nat} {Q : qt} {h : hp} {lo hi a : Nat} {e : zT} (hS : St h) (hE : RE h lo hi e a) (hz : okE e) (hd : (zk e).length + 2 ≤ d) (k : Q (.inl (some (vI (zbits e : Nat)))) h) : vsel VEn (hT h a).1 fun y => Wc d y [vR (some a)] h Q := by
  obtain ⟨d, rfl⟩ : ∃ e, d = e + 1 := ⟨d - 1, by omega⟩
  have hk := RE_kind hE
  have hl := zht_len e 0 hz.1 hz.2.2
  refine vsel_of (y := 252) ?_ (c_enames hS hE hz.1 (by omega) k)
  have hk' : (hT h a).1 = 8 ∨ (hT h a).1 = 9 ∨ (hT h a).1 = 10 ∨ (hT h a).1 = 11 ∨ (hT h a).1 = 12 ∨ (hT h a).1 = 14 ∨ (hT h a).1 = 15 ∨ (hT h a).1 = 16 ∨ (hT h a).1 = 17 := by simpa using hk
  rcases hk' with e | e | e | e | e | e | e | e | e <;> rw [e] <;> rfl
theorem RPl_un {h : hp} {lo hi a : Nat} {p : zT} (oP : okP p) (z : RPl h lo hi p a) : hT h a = (6, 0) ∧ ((∃ x, p = zNam x ∧ x < 26 ∧ hI h a 0 = (x : Nat) ∧ hR h a 2 = none) ∨ (∃ x e b, p = zB 3 (zL x) e ∧ x < 6 ∧ okE e ∧ hI h a 0 = -1 ∧ hI h a 1 = (x : Nat) ∧ hR h a 2 = some b ∧ RE h lo hi e b)) := by
  obtain ⟨-, -, z3, z4⟩ := z
  refine ⟨z3, ?_⟩
  rcases oP with ⟨x, e, hx⟩ | ⟨x, e, q, hx, oe⟩
  · subst e
    rcases z4 with ⟨-, y2, -, y4⟩ | ⟨y1, -⟩
    · exact Or.inl ⟨x, rfl, hx, y2, y4⟩
    · exact absurd (show (1 : Nat) = 3 from y1) (by decide)
  · subst q
    rcases z4 with ⟨y1, -⟩ | ⟨-, y2, y3, b, y4, y5⟩
    · exact absurd (show (3 : Nat) = 1 from y1) (by decide)
    · exact Or.inr ⟨x, e, b, rfl, hx, oe, y2, y3, y4, y5⟩
theorem shl26 {x : Nat} (hx : x < 26) : n_shl 1 (x : Int) = ((2 ^ x : Nat) : Int) ∧ 2 ^ x < 2 ^ 26 := ⟨shl1 x (by omega), Nat.pow_lt_pow_right (by decide) hx⟩
theorem c_pnames {d : Nat} {Q : qt} {h : hp} {lo hi a : Nat} {p : zT} (hS : St h) (oP : okP p) (hP : RPl h lo hi p a) (hd : (zk p).length + 3 ≤ d) (k : Q (.inl (some (vI (zbits p : Nat)))) h) : Wc d 244 [vR (some a)] h Q := by
  obtain ⟨d, rfl⟩ : ∃ e, d = e + 1 := ⟨d - 1, by omega⟩
  obtain ⟨t, u⟩ := RPl_un oP hP
  refine se_X6_names hS t ?_
  obtain ⟨d, rfl⟩ : ∃ e, d = e + 1 := ⟨d - 1, by omega⟩
  refine se_X6_isName hS t ?_
  rcases u with ⟨x, e, hx, y1, y2⟩ | ⟨x, e, b, q, hx, oe, y1, y2, y3, y4⟩
  · subst e
    rw [y1]
    refine im (by omega) ?_
    refine ss_X6_names_4 hS t (im (by decide) ?_)
    rw [y1, (shl26 hx).1]
    exact k
  · subst q
    rw [y1]
    refine ip (by decide) ?_
    refine ss_X6_names_4 hS t (ip rfl ?_)
    rw [y3, ofR_some]
    have el : (zk (zB 3 (zL x) e)).length = (zk e).length + 3 := by show ((3, x) :: (7, 91) :: (zk e ++ [(7, 93)])).length = _; simp
    exact v_enames hS y4 oe (by omega) k
theorem zbP_lt {p : zT} (oP : okP p) : zbits p < 2 ^ 26 := by
  rcases oP with ⟨x, e, hx⟩ | ⟨x, e, q, hx, oe⟩
  · subst e; exact (shl26 hx).2
  · subst q; exact zbits_lt e 0 oe.1
