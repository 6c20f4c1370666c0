/-! steps without others within, as they lie in the heap -/
theorem RT_1 {h : hp} {lo hi k a : Nat} {l r : zT} (hk : ok1 k l r) (z : RT h lo hi (zB k l r) [a]) :
    ((k = 100 ∨ k = 101) ∧ ∃ x b, l = zL x ∧ x < 26 ∧ okE r ∧ zhas x r = false ∧ hT h a = (24, 0) ∧ hI h a 0 = (x : Nat) ∧ hI h a 2 = (if k = 100 then 1 else 0) ∧ hR h a 1 = some b ∧ RE h lo hi r b)
    ∨ (k = 114 ∧ ∃ x b, l = zL x ∧ x < 26 ∧ okE r ∧ hT h a = (23, 0) ∧ hI h a 0 = (x : Nat) ∧ hR h a 1 = some b ∧ RE h lo hi r b)
    ∨ ((k = 102 ∨ k = 103) ∧ ∃ x y, l = zL x ∧ r = zL y ∧ x < 26 ∧ y < 4 ∧ hT h a = (25, 0) ∧ hI h a 0 = (x : Nat) ∧ hI h a 1 = (y : Nat) ∧ hI h a 2 = (if k = 102 then 1 else 0))
    ∨ ((k = 104 ∨ k = 105) ∧ ∃ x j e b, l = zL x ∧ r = zB j e (zL 0) ∧ x < 6 ∧ 160 ≤ j ∧ j < 165 ∧ okE e ∧ zhas (26 + x) e = false ∧ hT h a = (26, 0) ∧ hI h a 0 = (x : Nat) ∧ hI h a 1 = (j : Int) - 160 ∧ hI h a 3 = (if k = 104 then 1 else 0) ∧ hR h a 2 = some b ∧ RE h lo hi e b)
    ∨ ((k = 106 ∨ k = 107) ∧ ∃ x, l = zL x ∧ r = zL 0 ∧ x < 10 ∧ hT h a = (27, 0) ∧ hI h a 0 = (x : Nat) ∧ hI h a 1 = (if k = 106 then 1 else 0))
    ∨ (k = 133 ∧ ∃ b c, okP l ∧ okP r ∧ hT h a = (20, 0) ∧ hR h a 0 = some b ∧ hR h a 1 = some c ∧ RPl h lo hi l b ∧ RPl h lo hi r c)
    ∨ ((130 ≤ k ∧ k ≤ 135 ∧ k ≠ 133) ∧ ∃ b c, okP l ∧ okE r ∧ (zg l == 1 && zhas (zn (zl l)) r) = false ∧ hT h a = (21, 0) ∧ hI h a 1 = how k ∧ hR h a 0 = some b ∧ hR h a 2 = some c ∧ RPl h lo hi l b ∧ RE h lo hi r c) := by
  have hq := ok1_k hk
  unfold RT at z
  rw [if_neg (by omega), if_neg (by omega), if_neg (by omega), if_neg (by omega)] at z
  obtain ⟨a', e, -, -, z⟩ := z
  cases e
  rcases hk with ⟨q, ⟨x, e, hx⟩, o, hh⟩ | ⟨q, ⟨x, e, hx⟩, y, e2, hy⟩ | ⟨q, ⟨x, e, hx⟩, j, f, e2, j1, j2, o, hh⟩ | ⟨q, ⟨x, e, hx⟩, e2⟩ | ⟨q, o1, o2⟩ | ⟨q, o1, o2, hh⟩
  · subst e
    by_cases k4 : k = 114
    · subst k4
      rw [if_neg (by omega), if_pos rfl] at z
      obtain ⟨z1, z2, b, z3, z4⟩ := z
      exact Or.inr (Or.inl ⟨rfl, x, b, rfl, hx, o, z1, z2, z3, z4⟩)
    · rw [if_pos (by omega)] at z
      obtain ⟨z1, z2, z3, b, z4, z5⟩ := z
      exact Or.inl ⟨by omega, x, b, rfl, hx, o, hh k4, z1, z2, z3, z4, z5⟩
  · subst e; subst e2
    rw [if_neg (by omega), if_neg (by omega), if_pos (by omega)] at z
    exact Or.inr (Or.inr (Or.inl ⟨q, x, y, rfl, rfl, hx, hy, z⟩))
  · subst e; subst e2
    rw [if_neg (by omega), if_neg (by omega), if_neg (by omega), if_pos (by omega)] at z
    obtain ⟨z1, z2, z3, z4, b, z5, z6⟩ := z
    exact Or.inr (Or.inr (Or.inr (Or.inl ⟨q, x, j, f, b, rfl, rfl, hx, j1, j2, o, hh, z1, z2, z3, z4, z5, z6⟩)))
  · subst e; subst e2
    rw [if_neg (by omega), if_neg (by omega), if_neg (by omega), if_neg (by omega), if_pos (by omega)] at z
    exact Or.inr (Or.inr (Or.inr (Or.inr (Or.inl ⟨q, x, rfl, rfl, hx, z⟩))))
  · subst q
    rw [if_neg (by omega), if_neg (by omega), if_neg (by omega), if_neg (by omega), if_neg (by omega), if_neg (by omega), if_neg (by omega), if_neg (by omega), if_pos rfl] at z
    obtain ⟨z1, b, c, z2, z3, z4, z5⟩ := z
    exact Or.inr (Or.inr (Or.inr (Or.inr (Or.inr (Or.inl ⟨rfl, b, c, o1, o2, z1, z2, z3, z4, z5⟩)))))
  · rw [if_neg (by omega), if_neg (by omega), if_neg (by omega), if_neg (by omega), if_neg (by omega), if_neg (by omega), if_neg (by omega), if_neg (by omega), if_neg (by omega)] at z
    obtain ⟨z1, z2, b, c, z3, z4, z5, z6⟩ := z
    exact Or.inr (Or.inr (Or.inr (Or.inr (Or.inr (Or.inr ⟨q, b, c, o1, o2, hh, z1, z2, z3, z4, z5, z6⟩)))))
theorem zbS_lt : ∀ t : zT, (okS t 0 → zbits t < 2 ^ 26) ∧ (okS t 1 → zbits t < 2 ^ 26) := by
  have H := ok_ind (P0 := fun t => zbits t < 2 ^ 26) (P1 := fun t => zbits t < 2 ^ 26) (fun v => by show 0 < 2 ^ 26; decide)
    (fun s t _ _ i1 i2 => Nat.or_lt_two_pow i1 i2)
    (fun e s t e2 o1 _ _ o2 i1 i2 => Nat.or_lt_two_pow (zbits_lt e 0 o1.1) (Nat.or_lt_two_pow i1 (Nat.or_lt_two_pow i2 (zbits_lt e2 0 o2.1))))
    (fun e s t e2 o1 _ _ o2 i1 i2 => Nat.or_lt_two_pow (zbits_lt e 0 o1.1) (Nat.or_lt_two_pow i1 (Nat.or_lt_two_pow i2 (zbits_lt e2 0 o2.1))))
    (fun e s o1 _ i1 => Nat.or_lt_two_pow (zbits_lt e 0 o1.1) i1)
    (fun e s t o1 _ _ i1 i2 => Nat.or_lt_two_pow (zbits_lt e 0 o1.1) (Nat.or_lt_two_pow i1 i2))
    (fun k l r hk => by
      rcases hk with ⟨q, ⟨x, e, hx⟩, o, -⟩ | ⟨q, ⟨x, e, hx⟩, y, e2, -⟩ | ⟨q, ⟨x, e, hx⟩, j, f, e2, j1, j2, o, -⟩ | ⟨q, ⟨x, e, hx⟩, e2⟩ | ⟨q, o1, o2⟩ | ⟨q, o1, o2, -⟩
      · subst e
        have := Nat.or_lt_two_pow (shl26 hx).2 (zbits_lt r 0 o.1)
        rcases q with q | q | q <;> subst q <;> exact this
      · subst e; subst e2
        rcases q with q | q <;> subst q <;> exact (shl26 hx).2
      · subst e; subst e2
        have h1 : zbits (zB j f (zL 0)) < 2 ^ 26 := by
          have : j = 160 ∨ j = 161 ∨ j = 162 ∨ j = 163 ∨ j = 164 := by omega
          have e0 := Nat.or_lt_two_pow (zbits_lt f 0 o.1) (show 0 < 2 ^ 26 by decide)
          rcases this with y | y | y | y | y <;> subst y <;> exact e0
        have h2 := Nat.or_lt_two_pow (show 0 < 2 ^ 26 by decide) h1
        rcases q with q | q <;> subst q <;> exact h2
      · subst e; subst e2
        have h2 := Nat.or_lt_two_pow (show 0 < 2 ^ 26 by decide) (show 0 < 2 ^ 26 by decide)
        rcases q with q | q <;> subst q <;> exact h2
      · subst q; exact Nat.or_lt_two_pow (zbP_lt o1) (zbP_lt o2)
      · have h2 := Nat.or_lt_two_pow (zbP_lt o1) (zbits_lt r 0 o2.1)
        have : k = 130 ∨ k = 131 ∨ k = 132 ∨ k = 134 ∨ k = 135 := by omega
        rcases this with y | y | y | y | y <;> subst y <;> exact h2)
  exact fun t => ⟨(H t).1, (H t).2.1⟩
def nmS (h : hp) (lo hi : Nat) (t : zT) : Prop := ∀ (a d : Nat) (Q : qt), RT h lo hi t [a] → (zk t).length + 8 * zbr t + 20 ≤ d → zbr t ≤ 1000 → Q (.inl (some (vI (zbits t : Nat)))) h → vsel [(20, 297), (21, 304), (23, 319), (24, 324), (25, 331), (26, 338), (27, 347), (29, 353), (30, 353), (31, 366), (32, 373)] (hT h a).1 fun y => Wc d y [vR (some a)] h Q
def nmL (h : hp) (lo hi : Nat) (t : zT) : Prop := ∀ (p l arr : Nat) (ys pre : List Nat) (acc : Nat) (v3 : av) (d : Nat) (Q : qt), hT h p = (5, 0) → hR h p 0 = some l → RL h l (pre ++ ys) arr → RT h lo hi t ys → (zk t).length + 8 * zbr t + 21 ≤ d → zbr t ≤ 1000 → acc < 2 ^ 26 → Q (.inl (some (vI ((acc ||| zbits t : Nat) : Int)))) h → Wp d C_X5_names Q 4 [vR (some p), vI (acc : Nat), vI (pre.length : Nat), v3] [] h
def nmP (h : hp) (lo hi : Nat) (t : zT) : Prop := ∀ (p : Nat) (ys : List Nat) (d : Nat) (Q : qt), RPt h lo hi p ys → RT h lo hi t ys → (zk t).length + 8 * zbr t + 22 ≤ d → zbr t ≤ 1000 → Q (.inl (some (vI (zbits t : Nat)))) h → Wc d 236 [vR (some p)] h Q
theorem nmP_of {h : hp} {lo hi : Nat} {t : zT} (hS : St h) (k : nmL h lo hi t) : nmP h lo hi t := by
  intro p ys d Q hp hR0 hd h1k kk
  obtain ⟨z1, z2, z3, l, arr, z4, z5, z6, z7, z8⟩ := hp
  obtain ⟨d, rfl⟩ : ∃ e, d = e + 1 := ⟨d - 1, by omega⟩
  refine se_X5_names hS z3 ?_
  exact k p l arr ys [] 0 vU d Q z3 z4 z7 hR0 (by omega) h1k (by decide) (by rw [Nat.zero_or]; exact kk)
theorem nm_nil {h : hp} {lo hi : Nat} (hS : St h) (v : Nat) : nmL h lo hi (.leaf v) := by
  intro p l arr ys pre acc v3 d Q hp hl hL hR0 hd h1k ha kk
  have hy : ys = [] := hR0
  subst hy
  obtain ⟨d, rfl⟩ : ∃ e, d = e + 1 := ⟨d - 1, by omega⟩
  refine ss_X5_names_4 hS hp ?_
  rw [hl, ofR_some]
  refine ip (by rw [hL.1]) ?_
  refine c_size hS hL ?_
  refine ss_X5_names_14 hS hp (im (by simp) ?_)
  rw [show acc ||| zbits (.leaf v) = acc from Nat.or_zero acc] at kk
  exact kk
theorem nm_cons {h : hp} {lo hi : Nat} (hS : St h) {s t : zT} (os : okS s 1) (i1 : nmS h lo hi s) (i2 : nmL h lo hi t) : nmL h lo hi (zB 150 s t) := by
  intro p l arr ys pre acc v3 d Q hp hl hL hR0 hd h1k ha kk
  obtain ⟨x, ys', e, r1, r2⟩ := RT_cons hR0
  subst e
  have hzb : zbr (zB 150 s t) = max (zbr s) (zbr t) := rfl
  rw [hzb] at h1k
  rw [zk_150, List.length_append, hzb] at hd
  obtain ⟨d, rfl⟩ : ∃ e, d = e + 5 := ⟨d - 5, by omega⟩
  have h73 := RL_73 hL
  have hlen : (pre ++ x :: ys').length = pre.length + ys'.length + 1 := by simp; omega
  refine ss_X5_names_4 hS hp ?_
  rw [hl, ofR_some]
  refine ip (by rw [hL.1]) ?_
  refine c_size hS hL ?_
  refine ss_X5_names_14 hS hp (ip (by omega) ?_)
  rw [hl, ofR_some]
  refine ip (by rw [hL.1]) ?_
  refine c_get hS hL (by omega) ?_
  have hg : (pre ++ x :: ys').getD pre.length 0 = x := by simp
  rw [hg]
  refine ss_X5_names_27 hS hp ?_
  refine ⟨Or.inr ⟨x, rfl, RT_kind s os x r1⟩, ?_⟩
  rw [ofR_some]
  refine i1 x _ _ r1 (by omega) (by omega) ?_
  refine ss_X5_names_36 hS hp ?_
  have b1 := or26 ha ((zbS_lt s).2 os)
  rw [b1.1, na_eq (by omega) (by omega)]
  have q := i2 p l arr ys' (pre ++ [x]) (acc ||| zbits s) (vR (some x)) (d + 5) Q hp hl (by rw [List.append_assoc]; exact hL) r2 (by omega) (by omega) b1.2 (by rw [Nat.or_assoc]; exact kk)
  rw [List.length_append] at q
  exact q
def brS (h : hp) (lo hi : Nat) (t : zT) : Prop := ∀ (a d : Nat) (Q : qt), RT h lo hi t [a] → (zk t).length + 8 * zbr t + 20 ≤ d → zbr t ≤ 1000 → Q (.inl (some (vI (zbr t : Nat)))) h → vsel [(20, 291), (21, 291), (23, 291), (24, 291), (25, 291), (26, 291), (27, 291), (29, 352), (30, 352), (31, 365), (32, 372)] (hT h a).1 fun y => Wc d y [vR (some a)] h Q
def brL (h : hp) (lo hi : Nat) (t : zT) : Prop := ∀ (p l arr : Nat) (ys pre : List Nat) (acc : Nat) (v3 : av) (d : Nat) (Q : qt), hT h p = (5, 0) → hR h p 0 = some l → RL h l (pre ++ ys) arr → RT h lo hi t ys → (zk t).length + 8 * zbr t + 21 ≤ d → zbr t ≤ 1000 → True → Q (.inl (some (vI ((max acc (zbr t) : Nat) : Int)))) h → Wp d C_X5_braces Q 4 [vR (some p), vI (acc : Nat), vI (pre.length : Nat), v3] [] h
def brP (h : hp) (lo hi : Nat) (t : zT) : Prop := ∀ (p : Nat) (ys : List Nat) (d : Nat) (Q : qt), RPt h lo hi p ys → RT h lo hi t ys → (zk t).length + 8 * zbr t + 22 ≤ d → zbr t ≤ 1000 → Q (.inl (some (vI (zbr t : Nat)))) h → Wc d 235 [vR (some p)] h Q
theorem brP_of {h : hp} {lo hi : Nat} {t : zT} (hS : St h) (k : brL h lo hi t) : brP h lo hi t := by
  intro p ys d Q hp hR0 hd h1k kk
  obtain ⟨z1, z2, z3, l, arr, z4, z5, z6, z7, z8⟩ := hp
  obtain ⟨d, rfl⟩ : ∃ e, d = e + 1 := ⟨d - 1, by omega⟩
  refine se_X5_braces hS z3 ?_
  exact k p l arr ys [] 0 vU d Q z3 z4 z7 hR0 (by omega) h1k trivial (by rw [Nat.max_eq_right (Nat.zero_le _)]; exact kk)
theorem br_nil {h : hp} {lo hi : Nat} (hS : St h) (v : Nat) : brL h lo hi (.leaf v) := by
  intro p l arr ys pre acc v3 d Q hp hl hL hR0 hd h1k ha kk
  have hy : ys = [] := hR0
  subst hy
  obtain ⟨d, rfl⟩ : ∃ e, d = e + 1 := ⟨d - 1, by omega⟩
  refine ss_X5_braces_4 hS hp ?_
  rw [hl, ofR_some]
  refine ip (by rw [hL.1]) ?_
  refine c_size hS hL ?_
  refine ss_X5_braces_14 hS hp (im (by simp) ?_)
  rw [show max acc (zbr (.leaf v)) = acc from Nat.max_eq_left (Nat.zero_le acc)] at kk
  exact kk
theorem br_cons {h : hp} {lo hi : Nat} (hS : St h) {s t : zT} (os : okS s 1) (i1 : brS h lo hi s) (i2 : brL h lo hi t) : brL h lo hi (zB 150 s t) := by
  intro p l arr ys pre acc v3 d Q hp hl hL hR0 hd h1k ha kk
  obtain ⟨x, ys', e, r1, r2⟩ := RT_cons hR0
  subst e
  have hzb : zbr (zB 150 s t) = max (zbr s) (zbr t) := rfl
  rw [hzb] at h1k
  rw [zk_150, List.length_append, hzb] at hd
  obtain ⟨d, rfl⟩ : ∃ e, d = e + 5 := ⟨d - 5, by omega⟩
  have h73 := RL_73 hL
  have hlen : (pre ++ x :: ys').length = pre.length + ys'.length + 1 := by simp; omega
  refine ss_X5_braces_4 hS hp ?_
  rw [hl, ofR_some]
  refine ip (by rw [hL.1]) ?_
  refine c_size hS hL ?_
  refine ss_X5_braces_14 hS hp (ip (by omega) ?_)
  rw [hl, ofR_some]
  refine ip (by rw [hL.1]) ?_
  refine c_get hS hL (by omega) ?_
  have hg : (pre ++ x :: ys').getD pre.length 0 = x := by simp
  rw [hg]
  refine ss_X5_braces_27 hS hp ?_
  refine ⟨Or.inr ⟨x, rfl, RT_kind s os x r1⟩, ?_⟩
  rw [ofR_some]
  refine i1 x _ _ r1 (by omega) (by omega) ?_
  refine ss_X5_braces_36 hS hp ?_
  refine pu_max hS ?_
  refine ss_X5_braces_39 hS hp ?_
  rw [na_eq (by omega) (by omega)]
  have em : (if ((acc : Nat) : Int) < ((zbr s : Nat) : Int) then ((zbr s : Nat) : Int) else ((acc : Nat) : Int)) = ((max acc (zbr s) : Nat) : Int) := by
    split <;> omega
  rw [em]
  have q := i2 p l arr ys' (pre ++ [x]) (max acc (zbr s)) (vR (some x)) (d + 5) Q hp hl (by rw [List.append_assoc]; exact hL) r2 (by omega) (by omega) trivial (by rw [Nat.max_assoc]; exact kk)
  rw [List.length_append] at q
  exact q
theorem nm_108 {h : hp} {lo hi : Nat} (hS : St h) {e s t e2 : zT} (o1 : okE e) (os : okS s 0) (ot : okS t 0) (o2 : okE e2) (i1 : nmP h lo hi s) (i2 : nmP h lo hi t) : nmS h lo hi (zB 108 e (zB 112 s (zB 113 t e2))) := by
  intro a d Q hR0 hd h1k kk
  obtain ⟨x1, x2, hta, eb, p, q, ec, ys, zs, f0, f1, f2, f3, re, rp1, rt1, rp2, rt2, re2⟩ := RT_fk (Or.inl ⟨rfl, rfl, rfl⟩) hR0
  have hta' : hT h a = (29, 0) := hta
  have hlen : (zk (zB 108 e (zB 112 s (zB 113 t e2)))).length = (zk e).length + (zk s).length + (zk t).length + (zk e2).length + 8 := by rw [zk_fk (Or.inl ⟨rfl, rfl, rfl⟩)]; simp; omega
  have hbr : zbr (zB 108 e (zB 112 s (zB 113 t e2))) = 1 + max (zbr s) (zbr t) := rfl
  rw [hbr] at h1k
  rw [hlen, hbr] at hd
  have ht2 : (hT h a).1 ∈ [29, 30] := by rw [hta']; decide
  obtain ⟨d, rfl⟩ : ∃ e, d = e + 1 := ⟨d - 1, by omega⟩
  have c1 := or26 (zbits_lt e 0 o1.1) ((zbS_lt s).1 os)
  have c2 := or26 c1.2 ((zbS_lt t).1 ot)
  have c3 := or26 c2.2 (zbits_lt e2 0 o2.1)
  refine vsel_of (y := 353) (by rw [hta']; rfl) (se_X28_names hS ht2 ?_)
  rw [f0, ofR_some]
  refine v_enames hS re o1 (by omega) ?_
  refine ss_X28_names_7 hS ht2 ?_
  rw [f1, ofR_some]
  refine ip (by rw [rp1.2.2.1]) ?_
  refine i1 p ys _ _ rp1 rt1 (by omega) (by omega) ?_
  refine ss_X28_names_14 hS ht2 ?_
  rw [f2, ofR_some, c1.1]
  refine ip (by rw [rp2.2.2.1]) ?_
  refine i2 q zs _ _ rp2 rt2 (by omega) (by omega) ?_
  refine ss_X28_names_22 hS ht2 ?_
  rw [f3, ofR_some, c2.1]
  refine v_enames hS re2 o2 (by omega) ?_
  refine ss_X28_names_30 hS ht2 ?_
  rw [c3.1, Nat.or_assoc, Nat.or_assoc]
  exact kk
theorem br_108 {h : hp} {lo hi : Nat} (hS : St h) {e s t e2 : zT} (i1 : brP h lo hi s) (i2 : brP h lo hi t) : brS h lo hi (zB 108 e (zB 112 s (zB 113 t e2))) := by
  intro a d Q hR0 hd h1k kk
  obtain ⟨x1, x2, hta, eb, p, q, ec, ys, zs, f0, f1, f2, f3, re, rp1, rt1, rp2, rt2, re2⟩ := RT_fk (Or.inl ⟨rfl, rfl, rfl⟩) hR0
  have hta' : hT h a = (29, 0) := hta
  have hlen : (zk (zB 108 e (zB 112 s (zB 113 t e2)))).length = (zk e).length + (zk s).length + (zk t).length + (zk e2).length + 8 := by rw [zk_fk (Or.inl ⟨rfl, rfl, rfl⟩)]; simp; omega
  have hbr : zbr (zB 108 e (zB 112 s (zB 113 t e2))) = 1 + max (zbr s) (zbr t) := rfl
  rw [hbr] at kk
  rw [hbr] at h1k
  rw [hlen, hbr] at hd
  have ht2 : (hT h a).1 ∈ [29, 30] := by rw [hta']; decide
  obtain ⟨d, rfl⟩ : ∃ e, d = e + 1 := ⟨d - 1, by omega⟩
  refine vsel_of (y := 352) (by rw [hta']; rfl) (se_X28_braces hS ht2 ?_)
  rw [f1, ofR_some]
  refine ip (by rw [rp1.2.2.1]) ?_
  refine i1 p ys _ _ rp1 rt1 (by omega) (by omega) ?_
  refine ss_X28_braces_8 hS ht2 ?_
  rw [f2, ofR_some]
  refine ip (by rw [rp2.2.2.1]) ?_
  refine i2 q zs _ _ rp2 rt2 (by omega) (by omega) ?_
  refine ss_X28_braces_15 hS ht2 ?_
  obtain ⟨d, rfl⟩ : ∃ e, d = e + 1 := ⟨d - 1, by omega⟩
  refine pu_max hS ?_
  refine ss_X28_braces_18 hS ht2 ?_
  have em : (if ((zbr s : Nat) : Int) < ((zbr t : Nat) : Int) then ((zbr t : Nat) : Int) else ((zbr s : Nat) : Int)) = ((max (zbr s) (zbr t) : Nat) : Int) := by
    split <;> omega
  rw [em, na_eq (by omega) (by omega)]
  exact kk
theorem nm_111 {h : hp} {lo hi : Nat} (hS : St h) {e s t e2 : zT} (o1 : okE e) (os : okS s 0) (ot : okS t 0) (o2 : okE e2) (i1 : nmP h lo hi s) (i2 : nmP h lo hi t) : nmS h lo hi (zB 111 e (zB 117 s (zB 118 t e2))) := by
  intro a d Q hR0 hd h1k kk
  obtain ⟨x1, x2, hta, eb, p, q, ec, ys, zs, f0, f1, f2, f3, re, rp1, rt1, rp2, rt2, re2⟩ := RT_fk (Or.inr ⟨rfl, rfl, rfl⟩) hR0
  have hta' : hT h a = (30, 0) := hta
  have hlen : (zk (zB 111 e (zB 117 s (zB 118 t e2)))).length = (zk e).length + (zk s).length + (zk t).length + (zk e2).length + 8 := by rw [zk_fk (Or.inr ⟨rfl, rfl, rfl⟩)]; simp; omega
  have hbr : zbr (zB 111 e (zB 117 s (zB 118 t e2))) = 1 + max (zbr s) (zbr t) := rfl
  rw [hbr] at h1k
  rw [hlen, hbr] at hd
  have ht2 : (hT h a).1 ∈ [29, 30] := by rw [hta']; decide
  obtain ⟨d, rfl⟩ : ∃ e, d = e + 1 := ⟨d - 1, by omega⟩
  have c1 := or26 (zbits_lt e 0 o1.1) ((zbS_lt s).1 os)
  have c2 := or26 c1.2 ((zbS_lt t).1 ot)
  have c3 := or26 c2.2 (zbits_lt e2 0 o2.1)
  refine vsel_of (y := 353) (by rw [hta']; rfl) (se_X28_names hS ht2 ?_)
  rw [f0, ofR_some]
  refine v_enames hS re o1 (by omega) ?_
  refine ss_X28_names_7 hS ht2 ?_
  rw [f1, ofR_some]
  refine ip (by rw [rp1.2.2.1]) ?_
  refine i1 p ys _ _ rp1 rt1 (by omega) (by omega) ?_
  refine ss_X28_names_14 hS ht2 ?_
  rw [f2, ofR_some, c1.1]
  refine ip (by rw [rp2.2.2.1]) ?_
  refine i2 q zs _ _ rp2 rt2 (by omega) (by omega) ?_
  refine ss_X28_names_22 hS ht2 ?_
  rw [f3, ofR_some, c2.1]
  refine v_enames hS re2 o2 (by omega) ?_
  refine ss_X28_names_30 hS ht2 ?_
  rw [c3.1, Nat.or_assoc, Nat.or_assoc]
  exact kk
theorem br_111 {h : hp} {lo hi : Nat} (hS : St h) {e s t e2 : zT} (i1 : brP h lo hi s) (i2 : brP h lo hi t) : brS h lo hi (zB 111 e (zB 117 s (zB 118 t e2))) := by
  intro a d Q hR0 hd h1k kk
  obtain ⟨x1, x2, hta, eb, p, q, ec, ys, zs, f0, f1, f2, f3, re, rp1, rt1, rp2, rt2, re2⟩ := RT_fk (Or.inr ⟨rfl, rfl, rfl⟩) hR0
  have hta' : hT h a = (30, 0) := hta
  have hlen : (zk (zB 111 e (zB 117 s (zB 118 t e2)))).length = (zk e).length + (zk s).length + (zk t).length + (zk e2).length + 8 := by rw [zk_fk (Or.inr ⟨rfl, rfl, rfl⟩)]; simp; omega
  have hbr : zbr (zB 111 e (zB 117 s (zB 118 t e2))) = 1 + max (zbr s) (zbr t) := rfl
  rw [hbr] at kk
  rw [hbr] at h1k
  rw [hlen, hbr] at hd
  have ht2 : (hT h a).1 ∈ [29, 30] := by rw [hta']; decide
  obtain ⟨d, rfl⟩ : ∃ e, d = e + 1 := ⟨d - 1, by omega⟩
  refine vsel_of (y := 352) (by rw [hta']; rfl) (se_X28_braces hS ht2 ?_)
  rw [f1, ofR_some]
  refine ip (by rw [rp1.2.2.1]) ?_
  refine i1 p ys _ _ rp1 rt1 (by omega) (by omega) ?_
  refine ss_X28_braces_8 hS ht2 ?_
  rw [f2, ofR_some]
  refine ip (by rw [rp2.2.2.1]) ?_
  refine i2 q zs _ _ rp2 rt2 (by omega) (by omega) ?_
  refine ss_X28_braces_15 hS ht2 ?_
  obtain ⟨d, rfl⟩ : ∃ e, d = e + 1 := ⟨d - 1, by omega⟩
  refine pu_max hS ?_
  refine ss_X28_braces_18 hS ht2 ?_
  have em : (if ((zbr s : Nat) : Int) < ((zbr t : Nat) : Int) then ((zbr t : Nat) : Int) else ((zbr s : Nat) : Int)) = ((max (zbr s) (zbr t) : Nat) : Int) := by
    split <;> omega
  rw [em, na_eq (by omega) (by omega)]
  exact kk
theorem nm_115 {h : hp} {lo hi : Nat} (hS : St h) {e s : zT} (o1 : okE e) (os : okS s 0) (i1 : nmP h lo hi s) : nmS h lo hi (zB 115 e s) := by
  intro a d Q hR0 hd h1k kk
  obtain ⟨x1, x2, hta, eb, p, ys, f0, f1, re, rp1, rt1⟩ := RT_wh hR0
  have hlen : (zk (zB 115 e s)).length = (zk e).length + (zk s).length + 4 := by rw [zk_wh]; simp; omega
  have hbr : zbr (zB 115 e s) = 1 + zbr s := rfl
  rw [hbr] at h1k
  rw [hlen, hbr] at hd
  obtain ⟨d, rfl⟩ : ∃ e, d = e + 1 := ⟨d - 1, by omega⟩
  have c1 := or26 (zbits_lt e 0 o1.1) ((zbS_lt s).1 os)
  refine vsel_of (y := 366) (by rw [hta]; rfl) (se_X31_names hS hta ?_)
  rw [f0, ofR_some]
  refine v_enames hS re o1 (by omega) ?_
  refine ss_X31_names_7 hS hta ?_
  rw [f1, ofR_some]
  refine ip (by rw [rp1.2.2.1]) ?_
  refine i1 p ys _ _ rp1 rt1 (by omega) (by omega) ?_
  refine ss_X31_names_14 hS hta ?_
  rw [c1.1]
  exact kk
theorem br_115 {h : hp} {lo hi : Nat} (hS : St h) {e s : zT} (i1 : brP h lo hi s) : brS h lo hi (zB 115 e s) := by
  intro a d Q hR0 hd h1k kk
  obtain ⟨x1, x2, hta, eb, p, ys, f0, f1, re, rp1, rt1⟩ := RT_wh hR0
  have hlen : (zk (zB 115 e s)).length = (zk e).length + (zk s).length + 4 := by rw [zk_wh]; simp; omega
  have hbr : zbr (zB 115 e s) = 1 + zbr s := rfl
  rw [hbr] at kk
  rw [hbr] at h1k
  rw [hlen, hbr] at hd
  obtain ⟨d, rfl⟩ : ∃ e, d = e + 1 := ⟨d - 1, by omega⟩
  refine vsel_of (y := 365) (by rw [hta]; rfl) (se_X31_braces hS hta ?_)
  rw [f1, ofR_some]
  refine ip (by rw [rp1.2.2.1]) ?_
  refine i1 p ys _ _ rp1 rt1 (by omega) (by omega) ?_
  refine ss_X31_braces_8 hS hta ?_
  rw [na_eq (by omega) (by omega)]
  exact kk
theorem nm_116 {h : hp} {lo hi : Nat} (hS : St h) {e s t : zT} (o1 : okE e) (os : okS s 0) (ot : okS t 0) (i1 : nmP h lo hi s) (i2 : nmP h lo hi t) : nmS h lo hi (zB 116 e (zB 119 s t)) := by
  intro a d Q hR0 hd h1k kk
  obtain ⟨x1, x2, hta, eb, p, q, ys, zs, f0, f1, f2, re, rp1, rt1, rp2, rt2⟩ := RT_wn hR0
  have hlen : (zk (zB 116 e (zB 119 s t))).length = (zk e).length + (zk s).length + (zk t).length + 7 := by rw [zk_wn]; simp; omega
  have hbr : zbr (zB 116 e (zB 119 s t)) = 1 + max (zbr s) (zbr t) := rfl
  rw [hbr] at h1k
  rw [hlen, hbr] at hd
  obtain ⟨d, rfl⟩ : ∃ e, d = e + 1 := ⟨d - 1, by omega⟩
  have c1 := or26 (zbits_lt e 0 o1.1) ((zbS_lt s).1 os)
  have c2 := or26 c1.2 ((zbS_lt t).1 ot)
  refine vsel_of (y := 373) (by rw [hta]; rfl) (se_X32_names hS hta ?_)
  rw [f0, ofR_some]
  refine v_enames hS re o1 (by omega) ?_
  refine ss_X32_names_7 hS hta ?_
  rw [f1, ofR_some]
  refine ip (by rw [rp1.2.2.1]) ?_
  refine i1 p ys _ _ rp1 rt1 (by omega) (by omega) ?_
  refine ss_X32_names_14 hS hta ?_
  rw [f2, ofR_some, c1.1]
  refine ip (by rw [rp2.2.2.1]) ?_
  refine i2 q zs _ _ rp2 rt2 (by omega) (by omega) ?_
  refine ss_X32_names_22 hS hta ?_
  rw [c2.1, Nat.or_assoc]
  exact kk
theorem br_116 {h : hp} {lo hi : Nat} (hS : St h) {e s t : zT} (i1 : brP h lo hi s) (i2 : brP h lo hi t) : brS h lo hi (zB 116 e (zB 119 s t)) := by
  intro a d Q hR0 hd h1k kk
  obtain ⟨x1, x2, hta, eb, p, q, ys, zs, f0, f1, f2, re, rp1, rt1, rp2, rt2⟩ := RT_wn hR0
  have hlen : (zk (zB 116 e (zB 119 s t))).length = (zk e).length + (zk s).length + (zk t).length + 7 := by rw [zk_wn]; simp; omega
  have hbr : zbr (zB 116 e (zB 119 s t)) = 1 + max (zbr s) (zbr t) := rfl
  rw [hbr] at kk
  rw [hbr] at h1k
  rw [hlen, hbr] at hd
  obtain ⟨d, rfl⟩ : ∃ e, d = e + 1 := ⟨d - 1, by omega⟩
  refine vsel_of (y := 372) (by rw [hta]; rfl) (se_X32_braces hS hta ?_)
  rw [f1, ofR_some]
  refine ip (by rw [rp1.2.2.1]) ?_
  refine i1 p ys _ _ rp1 rt1 (by omega) (by omega) ?_
  refine ss_X32_braces_8 hS hta ?_
  rw [f2, ofR_some]
  refine ip (by rw [rp2.2.2.1]) ?_
  refine i2 q zs _ _ rp2 rt2 (by omega) (by omega) ?_
  refine ss_X32_braces_15 hS hta ?_
  obtain ⟨d, rfl⟩ : ∃ e, d = e + 1 := ⟨d - 1, by omega⟩
  refine pu_max hS ?_
  refine ss_X32_braces_18 hS hta ?_
  have em : (if ((zbr s : Nat) : Int) < ((zbr t : Nat) : Int) then ((zbr t : Nat) : Int) else ((zbr s : Nat) : Int)) = ((max (zbr s) (zbr t) : Nat) : Int) := by
    split <;> omega
  rw [em, na_eq (by omega) (by omega)]
  exact kk
theorem nm_1 {h : hp} {lo hi k : Nat} (hS : St h) {l r : zT} (hk : ok1 k l r) : nmS h lo hi (zB k l r) := by
  intro a d Q hR0 hd h1k kk
  obtain ⟨d, rfl⟩ : ∃ e, d = e + 1 := ⟨d - 1, by omega⟩
  rcases RT_1 hk hR0 with ⟨q, x, b, e, hx, oe, -, t, y0, y2, y1, re⟩ | ⟨q, x, b, e, hx, oe, t, y0, y1, re⟩ | ⟨q, x, y, e, e2, hx, hy, t, y0, y1, y2⟩ | ⟨q, x, j, f, b, e, e2, hx, j1, j2, oe, -, t, y0, y1, y3, y2, re⟩ | ⟨q, x, e, e2, hx, t, y0, y1⟩ | ⟨q, b, c, oP, oR, t, y0, y1, p1, p2⟩ | ⟨q, b, c, oP, oe, -, t, y1, y0, y2, p1, re⟩
  · subst e
    have hl : (zk r).length + 4 ≤ (zk (zB k (zL x) r)).length := by
      rcases q with q | q <;> subst q <;> (show _ ≤ ((_ : Nat × Nat) :: (1, x) :: (7, 61) :: (zk r ++ [(7, 59)])).length) <;> simp
    refine vsel_of (y := 324) (by rw [t]; rfl) (se_X24_names hS t ?_)
    rw [y1, ofR_some]
    refine v_enames hS re oe (by omega) ?_
    refine ss_X24_names_13 hS t ?_
    rw [y0, (shl26 hx).1, (or26 (shl26 hx).2 (zbits_lt r 0 oe.1)).1]
    rcases q with q | q <;> subst q <;> exact kk
  · subst e; subst q
    have hl : (zk r).length + 4 ≤ (zk (zB 114 (zL x) r)).length := by
      show _ ≤ ((5, 14) :: (1, x) :: (7, 61) :: (zk r ++ [(7, 59)])).length; simp
    refine vsel_of (y := 319) (by rw [t]; rfl) (se_X23_names hS t ?_)
    rw [y1, ofR_some]
    refine v_enames hS re oe (by omega) ?_
    refine ss_X23_names_13 hS t ?_
    rw [y0, (shl26 hx).1, (or26 (shl26 hx).2 (zbits_lt r 0 oe.1)).1]
    exact kk
  · subst e; subst e2
    refine vsel_of (y := 331) (by rw [t]; rfl) (se_X25_names hS t ?_)
    rw [y0, (shl26 hx).1]
    rcases q with q | q <;> subst q <;> exact kk
  · subst e; subst e2
    have ej : zk (zB j f (zL 0)) = (5, j - 143) :: zk f ∧ zbits (zB j f (zL 0)) = zbits f ||| 0 := by
      have : j = 160 ∨ j = 161 ∨ j = 162 ∨ j = 163 ∨ j = 164 := by omega
      rcases this with y | y | y | y | y <;> subst y <;> exact ⟨rfl, rfl⟩
    have hl : (zk (zB k (zL x) (zB j f (zL 0)))).length = (zk (zB j f (zL 0))).length + 3 ∧ zbits (zB k (zL x) (zB j f (zL 0))) = 0 ||| zbits (zB j f (zL 0)) := by
      rcases q with q | q <;> subst q <;> exact ⟨by show ((_ : Nat × Nat) :: (3, x) :: (zk (zB j f (zL 0)) ++ [(7, 59)])).length = _; simp, rfl⟩
    rw [hl.2, ej.2, Nat.zero_or, Nat.or_zero] at kk
    rw [hl.1, ej.1, List.length_cons] at hd
    refine vsel_of (y := 338) (by rw [t]; rfl) (se_X26_names hS t ?_)
    rw [y2, ofR_some]
    exact v_enames hS re oe (by omega) kk
  · subst e; subst e2
    refine vsel_of (y := 347) (by rw [t]; rfl) (se_X27_names hS t ?_)
    rcases q with q | q <;> subst q
    · rw [show zbits (zB 106 (zL x) (zL 0)) = 0 from Nat.or_zero 0] at kk; exact kk
    · rw [show zbits (zB 107 (zL x) (zL 0)) = 0 from Nat.or_zero 0] at kk; exact kk
  · subst q
    have hl : (zk (zB 133 l r)).length = (zk l).length + (zk r).length + 2 := by show (zk l ++ (6, 3) :: (zk r ++ [(7, 59)])).length = _; simp; omega
    rw [hl] at hd
    refine vsel_of (y := 297) (by rw [t]; rfl) (se_X20_names hS t ?_)
    rw [y0, ofR_some]
    refine ip (by rw [p1.2.2.1]) ?_
    refine c_pnames hS oP p1 (by omega) ?_
    refine ss_X20_names_7 hS t ?_
    rw [y1, ofR_some]
    refine ip (by rw [p2.2.2.1]) ?_
    refine c_pnames hS oR p2 (by omega) ?_
    refine ss_X20_names_14 hS t ?_
    rw [(or26 (zbP_lt oP) (zbP_lt oR)).1]
    exact kk
  · have hl := (zk_chg hk q.1).1
    have hl2 : (zk (zB k l r)).length = (zk l).length + (zk r).length + 2 := by rw [hl]; simp; omega
    rw [hl2] at hd
    refine vsel_of (y := 304) (by rw [t]; rfl) (se_X21_names hS t ?_)
    rw [y0, ofR_some]
    refine ip (by rw [p1.2.2.1]) ?_
    refine c_pnames hS oP p1 (by omega) ?_
    refine ss_X21_names_7 hS t ?_
    rw [y2, ofR_some]
    refine v_enames hS re oe (by omega) ?_
    refine ss_X21_names_14 hS t ?_
    rw [(or26 (zbP_lt oP) (zbits_lt r 0 oe.1)).1]
    have : k = 130 ∨ k = 131 ∨ k = 132 ∨ k = 134 ∨ k = 135 := by omega
    rcases this with y | y | y | y | y <;> subst y <;> exact kk
theorem br_1 {h : hp} {lo hi k : Nat} (hS : St h) {l r : zT} (hk : ok1 k l r) : brS h lo hi (zB k l r) := by
  intro a d Q hR0 hd h1k kk
  obtain ⟨d, rfl⟩ : ∃ e, d = e + 1 := ⟨d - 1, by omega⟩
  rw [(ok1_S hk).2.2] at kk
  have hm := RT_kind _ (ok1_S hk).1 a hR0
  obtain ⟨K, t1, t2⟩ := code_step hk hR0
  have z : Wc (d + 1) 291 [vR (some a)] h Q := se_X18_braces hS hm kk
  rw [t1]
  rcases t2 with e | e | e | e | e | e | e <;> subst e <;> exact z
theorem nb_all {h : hp} {lo hi : Nat} (hS : St h) : ∀ t : zT, okS t 0 → nmL h lo hi t ∧ brL h lo hi t := by
  have H := ok_ind (P0 := fun t => nmL h lo hi t ∧ brL h lo hi t) (P1 := fun t => nmS h lo hi t ∧ brS h lo hi t) (fun v => ⟨nm_nil hS v, br_nil hS v⟩)
    (fun s t os _ i1 i2 => ⟨nm_cons hS os i1.1 i2.1, br_cons hS os i1.2 i2.2⟩)
    (fun e s t e2 o1 os ot o2 i1 i2 => ⟨nm_108 hS o1 os ot o2 (nmP_of hS i1.1) (nmP_of hS i2.1), br_108 hS (brP_of hS i1.2) (brP_of hS i2.2)⟩)
    (fun e s t e2 o1 os ot o2 i1 i2 => ⟨nm_111 hS o1 os ot o2 (nmP_of hS i1.1) (nmP_of hS i2.1), br_111 hS (brP_of hS i1.2) (brP_of hS i2.2)⟩)
    (fun e s o1 os i1 => ⟨nm_115 hS o1 os (nmP_of hS i1.1), br_115 hS (brP_of hS i1.2)⟩)
    (fun e s t o1 os ot i1 i2 => ⟨nm_116 hS o1 os ot (nmP_of hS i1.1) (nmP_of hS i2.1), br_116 hS (brP_of hS i1.2) (brP_of hS i2.2)⟩)
    (fun k l r hk => ⟨nm_1 hS hk, br_1 hS hk⟩)
  exact fun t => (H t).1
/-- Part.names, Part.braces -/
theorem c_names {h : hp} {lo hi p d : Nat} {t : zT} {ys : List Nat} {Q : qt} (hS : St h) (ok : okS t 0) (hp : RPt h lo hi p ys) (hR0 : RT h lo hi t ys) (hl : (zk t).length ≤ 1600) (hb : zbr t ≤ 5) (k : Q (.inl (some (vI (zbits t : Nat)))) h) : Wc (d + 1700) 236 [vR (some p)] h Q := nmP_of hS (nb_all hS t ok).1 p ys _ Q hp hR0 (by omega) (by omega) k
theorem c_braces {h : hp} {lo hi p d : Nat} {t : zT} {ys : List Nat} {Q : qt} (hS : St h) (ok : okS t 0) (hp : RPt h lo hi p ys) (hR0 : RT h lo hi t ys) (hl : (zk t).length ≤ 1600) (hb : zbr t ≤ 5) (k : Q (.inl (some (vI (zbr t : Nat)))) h) : Wc (d + 1700) 235 [vR (some p)] h Q := brP_of hS (nb_all hS t ok).2 p ys _ Q hp hR0 (by omega) (by omega) k
