/-! THE ROUTINES in both -/
def RI (h : hp) (r : Nat) : Option zT → Prop
  | none => hR h 72 r = none ∧ hI h 121 r = 0
  | some t => okS t 0 ∧ zun (zord t) t ∧ zc t ≤ 40 ∧ zbr t ≤ 5 ∧ (zk t).length ≤ 1600 ∧ (∃ rc, hR h 72 r = some rc ∧ XR h t rc) ∧ MR h r t (bI (zord t))
def RIs (h : hp) (ρ : Nat → Option zT) : Prop := ∀ r, r < 10 → RI h r (ρ r)
/-! m: told, over the tokens -/
def tst (x : Nat × Nat) (o : Nat) : Nat := if x = (7, 123) then o + 1 else if x = (7, 125) then o - 1 else o
def tw (x : Nat × Nat) (o : Nat) : Nat := if tst x o = 0 ∧ x = (7, 59) then 1 else 0
def tf : List (Nat × Nat) → Nat × Nat × Nat × Nat → Nat × Nat × Nat × Nat
  | [], z => z
  | x :: A, z => tf A (tst x z.1, max z.2.1 (tst x z.1), z.2.2.1 + tw x z.1, z.2.2.2 ||| (if x.1 = 1 then 2 ^ x.2 else 0))
theorem tf_app (B : List (Nat × Nat)) : ∀ (A : List (Nat × Nat)) (z : Nat × Nat × Nat × Nat), tf (A ++ B) z = tf B (tf A z) := by
  intro A
  induction A with
  | nil => intro z; rfl
  | cons x A ih => intro z; exact ih _
theorem tw_n {x : Nat × Nat} {o : Nat} (hx : x ≠ (7, 59)) : tw x o = 0 := by unfold tw; rw [if_neg (fun z => hx z.2)]
theorem tw_59 {o : Nat} : tw (7, 59) o = if o = 0 then 1 else 0 := by
  have e : tst (7, 59) o = o := rfl
  unfold tw
  rw [e]
  by_cases q : o = 0
  · rw [if_pos ⟨q, rfl⟩, if_pos q]
  · rw [if_neg (fun z => q z.1), if_neg q]
theorem tf_c {x : Nat × Nat} {A : List (Nat × Nat)} {o m s n : Nat} (hx : nB x) (hm : o ≤ m) : tf (x :: A) (o, m, s, n) = tf A (o, m, s, n ||| (if x.1 = 1 then 2 ^ x.2 else 0)) := by
  show tf A (tst x o, max m (tst x o), s + tw x o, _) = _
  have e : tst x o = o := by unfold tst; rw [if_neg hx.2.1, if_neg hx.2.2]
  rw [e, Nat.max_eq_left hm, tw_n hx.1, Nat.add_zero]
theorem tf_59 {A : List (Nat × Nat)} {o m s n : Nat} (hm : o ≤ m) : tf ((7, 59) :: A) (o, m, s, n) = tf A (o, m, s + (if o = 0 then 1 else 0), n) := by
  show tf A (o, max m o, s + tw (7, 59) o, n ||| 0) = _
  rw [Nat.max_eq_left hm, Nat.or_zero, tw_59]
theorem tf_op {A : List (Nat × Nat)} {o m s n : Nat} : tf ((7, 123) :: A) (o, m, s, n) = tf A (o + 1, max m (o + 1), s, n) := by
  show tf A (o + 1, max m (o + 1), s + tw (7, 123) o, n ||| 0) = _
  rw [tw_n (by decide), Nat.or_zero]
  rfl
theorem tf_cl {A : List (Nat × Nat)} {o m s n : Nat} (hm : o ≤ m) : tf ((7, 125) :: A) (o + 1, m, s, n) = tf A (o, m, s, n) := by
  show tf A (o + 1 - 1, max m (o + 1 - 1), s + tw (7, 125) (o + 1), n ||| 0) = _
  rw [tw_n (by decide), Nat.or_zero, Nat.add_sub_cancel, Nat.max_eq_left hm]
  rfl
theorem tf_e : ∀ (e : zT) (lv : Nat) (B : List (Nat × Nat)) (o m s n : Nat), zok e lv → o ≤ m → tf (zk e ++ B) (o, m, s, n) = tf B (o, m, s, n ||| zbits e) := by
  intro e
  induction e with
  | leaf n => intro lv B o m s n h; exact h.elim
  | branch c l r ihl ihr =>
    intro lv B o m s n h hm
    by_cases k1 : c = 1
    · subst k1
      show tf ((1, zn l) :: B) _ = _
      rw [tf_c (nB_1 (by decide)) hm]; rfl
    by_cases k2 : c = 2
    · subst k2
      show tf ((2, zn l) :: B) _ = _
      rw [tf_c (nB_1 (by decide)) hm]; rfl
    by_cases k35 : c = 35
    · subst k35
      show tf ((7, 35) :: (3, zn l) :: B) _ = _
      rw [tf_c (nB_7 (by decide)) hm, tf_c (nB_1 (by decide)) hm]
      show tf B (o, m, s, n ||| 0 ||| 0) = tf B (o, m, s, n ||| 0)
      rw [Nat.or_zero]
    by_cases k3 : c = 3
    · subst k3
      show tf ((3, zn l) :: (7, 91) :: (zk r ++ [(7, 93)]) ++ B) _ = _
      rw [List.cons_append, List.cons_append, List.append_assoc, tf_c (nB_1 (by decide)) hm, tf_c (nB_7 (by decide)) hm, ihr 0 _ _ _ _ _ h.2 hm, List.singleton_append, tf_c (nB_7 (by decide)) hm]
      show tf B (o, m, s, n ||| 0 ||| 0 ||| zbits r ||| 0) = tf B (o, m, s, n ||| zbits r)
      rw [Nat.or_zero, Nat.or_zero, Nat.or_zero]
    by_cases k8 : c = 8
    · subst k8
      show tf ((8, 45) :: zk l ++ B) _ = _
      rw [List.cons_append, tf_c (nB_1 (by decide)) hm, ihl 2 _ _ _ _ _ h hm]
      show tf B (o, m, s, n ||| 0 ||| zbits l) = tf B (o, m, s, n ||| zbits l)
      rw [Nat.or_zero]
    by_cases k40 : c = 40
    · subst k40
      show tf ((7, 40) :: (zk l ++ [(7, 41)]) ++ B) _ = _
      rw [List.cons_append, List.append_assoc, tf_c (nB_7 (by decide)) hm, ihl 0 _ _ _ _ _ h hm, List.singleton_append, tf_c (nB_7 (by decide)) hm]
      show tf B (o, m, s, n ||| 0 ||| zbits l ||| 0) = tf B (o, m, s, n ||| zbits l)
      rw [Nat.or_zero, Nat.or_zero]
    obtain ⟨hc, v, w, h1, h2⟩ := two_k h k1 k2 k35 k3 k8 k40
    have cmp : ∀ c : Nat, nB (7, c) → tf ((7, 40) :: (zk l ++ (7, c) :: (zk r ++ [(7, 41)])) ++ B) (o, m, s, n) = tf B (o, m, s, n ||| (zbits l ||| zbits r)) := by
      intro c hc
      rw [List.cons_append, List.append_assoc, tf_c (nB_7 (by decide)) hm, ihl v _ _ _ _ _ h1 hm, List.cons_append, tf_c hc hm, List.append_assoc, ihr w _ _ _ _ _ h2 hm, List.singleton_append, tf_c (nB_7 (by decide)) hm]
      show tf B (o, m, s, n ||| 0 ||| zbits l ||| 0 ||| zbits r ||| 0) = _
      rw [Nat.or_zero, Nat.or_zero, Nat.or_zero, Nat.or_assoc]
    have two : ∀ c : Nat, nB (7, c) → tf (zk l ++ (7, c) :: zk r ++ B) (o, m, s, n) = tf B (o, m, s, n ||| (zbits l ||| zbits r)) := by
      intro c hc
      rw [List.append_assoc, ihl v _ _ _ _ _ h1 hm, List.cons_append, tf_c hc hm, ihr w _ _ _ _ _ h2 hm]
      show tf B (o, m, s, n ||| zbits l ||| 0 ||| zbits r) = _
      rw [Nat.or_zero, Nat.or_assoc]
    rcases hc with q | q | q | q | q | q | q | q | q | q <;> subst q
    · exact cmp 60 (nB_7 (by decide))
    · exact cmp 61 (nB_7 (by decide))
    · exact two 43 (nB_7 (by decide))
    · exact two 45 (nB_7 (by decide))
    · exact two 94 (nB_7 (by decide))
    · exact two 124 (nB_7 (by decide))
    · exact two 42 (nB_7 (by decide))
    · exact two 47 (nB_7 (by decide))
    · exact two 37 (nB_7 (by decide))
    · exact two 38 (nB_7 (by decide))
theorem tf_p {p : zT} (oP : okP p) (B : List (Nat × Nat)) {o m s n : Nat} (hm : o ≤ m) : tf (zk p ++ B) (o, m, s, n) = tf B (o, m, s, n ||| zbits p) := by
  rcases oP with ⟨x, e, hx⟩ | ⟨x, e, q, hx, oe⟩
  · subst e
    show tf ((1, x) :: B) _ = _
    rw [tf_c (nB_1 (by decide)) hm]; rfl
  · subst q
    show tf ((3, x) :: (7, 91) :: (zk e ++ [(7, 93)]) ++ B) _ = _
    rw [List.cons_append, List.cons_append, List.append_assoc, tf_c (nB_1 (by decide)) hm, tf_c (nB_7 (by decide)) hm, tf_e e 0 _ _ _ _ _ oe.1 hm, List.singleton_append, tf_c (nB_7 (by decide)) hm]
    show tf B (o, m, s, n ||| 0 ||| 0 ||| zbits e ||| 0) = tf B (o, m, s, n ||| zbits e)
    rw [Nat.or_zero, Nat.or_zero, Nat.or_zero]
/-- how many steps, no braces open -/
def tn (o k : Nat) : Nat := if o = 0 then k else 0
theorem tf_t : ∀ t : zT, (okS t 0 → ∀ (B : List (Nat × Nat)) (o m s n : Nat), o ≤ m → tf (zk t ++ B) (o, m, s, n) = tf B (o, max m (o + zbr t), s + tn o (zls t).length, n ||| zbits t)) ∧ (okS t 1 → ∀ (B : List (Nat × Nat)) (o m s n : Nat), o ≤ m → tf (zk t ++ B) (o, m, s, n) = tf B (o, max m (o + zbr t), s + tn o 1, n ||| zbits t)) := by
  have c5 : ∀ {x : Nat} {A : List (Nat × Nat)} {o m s n : Nat}, o ≤ m → tf ((5, x) :: A) (o, m, s, n) = tf A (o, m, s, n) := by
    intro x A o m s n hm
    rw [tf_c (nB_1 (by decide)) hm]
    show tf A (o, m, s, n ||| 0) = _
    rw [Nat.or_zero]
  have fk : ∀ {k k2 k3 : Nat} {e s t e2 : zT}, ((k = 108 ∧ k2 = 112 ∧ k3 = 113) ∨ (k = 111 ∧ k2 = 117 ∧ k3 = 118)) → okE e → okE e2 → (∀ (B : List (Nat × Nat)) (o m s' n : Nat), o ≤ m → tf (zk s ++ B) (o, m, s', n) = tf B (o, max m (o + zbr s), s' + tn o (zls s).length, n ||| zbits s)) → (∀ (B : List (Nat × Nat)) (o m s' n : Nat), o ≤ m → tf (zk t ++ B) (o, m, s', n) = tf B (o, max m (o + zbr t), s' + tn o (zls t).length, n ||| zbits t)) → ∀ (B : List (Nat × Nat)) (o m s' n : Nat), o ≤ m → tf (zk (zB k e (zB k2 s (zB k3 t e2))) ++ B) (o, m, s', n) = tf B (o, max m (o + (1 + max (zbr s) (zbr t))), s' + tn o 1, n ||| (zbits e ||| (zbits s ||| (zbits t ||| zbits e2)))) := by
    intro k k2 k3 e s t e2 hk o1 o2 i1 i2 B o m s' n hm
    rw [zk_fk hk]
    simp only [List.cons_append, List.append_assoc, List.singleton_append]
    rw [c5 hm, tf_e e 0 _ _ _ _ _ o1.1 hm, tf_op, i1 _ _ _ _ _ (by omega), tf_cl (by omega), c5 (by omega), tf_op, i2 _ _ _ _ _ (by omega), tf_cl (by omega), c5 (by omega), tf_e e2 0 _ _ _ _ _ o2.1 (by omega)]
    simp only [List.nil_append]
    rw [tf_59 (by omega)]
    congr 1
    refine Prod.ext rfl (Prod.ext ?_ (Prod.ext ?_ ?_))
    · show max (max (max (max m (o + 1)) (o + 1 + zbr s)) (o + 1)) (o + 1 + zbr t) = max m (o + (1 + max (zbr s) (zbr t)))
      omega
    · show s' + tn (o + 1) _ + tn (o + 1) _ + (if o = 0 then 1 else 0) = s' + tn o 1
      unfold tn
      rw [if_neg (by omega), if_neg (by omega)]; omega
    · show n ||| zbits e ||| zbits s ||| zbits t ||| zbits e2 = _
      rw [Nat.or_assoc, Nat.or_assoc, Nat.or_assoc]
  have H := ok_ind (P0 := fun t => ∀ (B : List (Nat × Nat)) (o m s n : Nat), o ≤ m → tf (zk t ++ B) (o, m, s, n) = tf B (o, max m (o + zbr t), s + tn o (zls t).length, n ||| zbits t)) (P1 := fun t => ∀ (B : List (Nat × Nat)) (o m s n : Nat), o ≤ m → tf (zk t ++ B) (o, m, s, n) = tf B (o, max m (o + zbr t), s + tn o 1, n ||| zbits t))
    (fun v B o m s n hm => by
      show tf B (o, m, s, n) = tf B (o, max m (o + 0), s + tn o 0, n ||| 0)
      rw [Nat.or_zero, Nat.add_zero, Nat.max_eq_left hm, show tn o 0 = 0 by unfold tn; split <;> rfl, Nat.add_zero])
    (fun u t _ _ i1 i2 B o m s n hm => by
      rw [zk_150, List.append_assoc, i1 _ _ _ _ _ hm, i2 _ _ _ _ _ (by omega)]
      congr 1
      refine Prod.ext rfl (Prod.ext ?_ (Prod.ext ?_ ?_))
      · show max (max m (o + zbr u)) (o + zbr t) = max m (o + max (zbr u) (zbr t)); omega
      · show s + tn o 1 + tn o (zls t).length = s + tn o ((zls t).length + 1)
        unfold tn; split <;> omega
      · show n ||| zbits u ||| zbits t = n ||| (zbits u ||| zbits t); rw [Nat.or_assoc])
    (fun e s t e2 o1 _ _ o2 i1 i2 => fk (Or.inl ⟨rfl, rfl, rfl⟩) o1 o2 i1 i2)
    (fun e s t e2 o1 _ _ o2 i1 i2 => fk (Or.inr ⟨rfl, rfl, rfl⟩) o1 o2 i1 i2)
    (fun e s o1 _ i1 B o m s' n hm => by
      rw [zk_wh]
      simp only [List.cons_append, List.append_assoc, List.nil_append]
      rw [c5 hm, tf_e e 0 _ _ _ _ _ o1.1 hm, tf_op, i1 _ _ _ _ _ (by omega), tf_cl (by omega), tf_59 (by omega)]
      congr 1
      refine Prod.ext rfl (Prod.ext ?_ (Prod.ext ?_ ?_))
      · show max (max m (o + 1)) (o + 1 + zbr s) = max m (o + (1 + zbr s)); omega
      · show s' + tn (o + 1) _ + (if o = 0 then 1 else 0) = s' + tn o 1
        unfold tn; rw [if_neg (by omega)]; omega
      · show n ||| zbits e ||| zbits s = n ||| (zbits e ||| zbits s); rw [Nat.or_assoc])
    (fun e s t o1 _ _ i1 i2 B o m s' n hm => by
      rw [zk_wn]
      simp only [List.cons_append, List.append_assoc, List.nil_append]
      rw [c5 hm, tf_e e 0 _ _ _ _ _ o1.1 hm, tf_op, i1 _ _ _ _ _ (by omega), tf_cl (by omega), c5 (by omega), tf_op, i2 _ _ _ _ _ (by omega), tf_cl (by omega), tf_59 (by omega)]
      congr 1
      refine Prod.ext rfl (Prod.ext ?_ (Prod.ext ?_ ?_))
      · show max (max (max (max m (o + 1)) (o + 1 + zbr s)) (o + 1)) (o + 1 + zbr t) = max m (o + (1 + max (zbr s) (zbr t))); omega
      · show s' + tn (o + 1) _ + tn (o + 1) _ + (if o = 0 then 1 else 0) = s' + tn o 1
        unfold tn; rw [if_neg (by omega), if_neg (by omega)]; omega
      · show n ||| zbits e ||| zbits s ||| zbits t = _; rw [Nat.or_assoc, Nat.or_assoc]; rfl)
    (fun k l r hk B o m s n hm => by
      rw [(ok1_S hk).2.2, Nat.add_zero, Nat.max_eq_left hm]
      rcases hk with ⟨q, ⟨x, e, hx⟩, oe, -⟩ | ⟨q, ⟨x, e, hx⟩, y, e2, -⟩ | ⟨q, ⟨x, e, hx⟩, j, f, e2, j1, j2, oe, -⟩ | ⟨q, ⟨x, e, hx⟩, e2⟩ | ⟨q, o1, o2⟩ | ⟨q, o1, o2, -⟩
      · subst e
        have w : zk (zB k (zL x) r) = (5, k - 100) :: (1, x) :: (7, 61) :: (zk r ++ [(7, 59)]) ∧ zbits (zB k (zL x) r) = 2 ^ x ||| zbits r := by rcases q with q | q | q <;> subst q <;> exact ⟨rfl, rfl⟩
        rw [w.1, w.2]
        simp only [List.cons_append, List.append_assoc, List.nil_append]
        rw [c5 hm, tf_c (nB_1 (by decide)) hm, tf_c (nB_7 (by decide)) hm, tf_e r 0 _ _ _ _ _ oe.1 hm, tf_59 hm]
        show tf B (o, m, _, n ||| 2 ^ x ||| 0 ||| zbits r) = _
        rw [Nat.or_zero, Nat.or_assoc]; rfl
      · subst e; subst e2
        have w : zk (zB k (zL x) (zL y)) = [(5, k - 100), (1, x), (4, y), (7, 59)] ∧ zbits (zB k (zL x) (zL y)) = 2 ^ x := by rcases q with q | q <;> subst q <;> exact ⟨rfl, rfl⟩
        rw [w.1, w.2]
        simp only [List.cons_append, List.nil_append]
        rw [c5 hm, tf_c (nB_1 (by decide)) hm, tf_c (nB_1 (by decide)) hm, tf_59 hm]
        show tf B (o, m, _, n ||| 2 ^ x ||| 0) = _
        rw [Nat.or_zero]; rfl
      · subst e; subst e2
        have ej : zk (zB j f (zL 0)) = (5, j - 143) :: zk f ∧ zbits (zB j f (zL 0)) = zbits f ||| 0 := by
          have : j = 160 ∨ j = 161 ∨ j = 162 ∨ j = 163 ∨ j = 164 := by omega
          rcases this with y | y | y | y | y <;> subst y <;> exact ⟨rfl, rfl⟩
        have w : zk (zB k (zL x) (zB j f (zL 0))) = (5, k - 100) :: (3, x) :: (zk (zB j f (zL 0)) ++ [(7, 59)]) ∧ zbits (zB k (zL x) (zB j f (zL 0))) = 0 ||| zbits (zB j f (zL 0)) := by rcases q with q | q <;> subst q <;> exact ⟨rfl, rfl⟩
        rw [w.1, w.2, ej.1, ej.2, Nat.zero_or, Nat.or_zero]
        simp only [List.cons_append, List.append_assoc, List.nil_append]
        rw [c5 hm, tf_c (nB_1 (by decide)) hm]
        show tf _ (o, m, s, n ||| 0) = _
        rw [Nat.or_zero, c5 hm, tf_e f 0 _ _ _ _ _ oe.1 hm, tf_59 hm]; rfl
      · subst e; subst e2
        have w : zk (zB k (zL x) (zL 0)) = [(5, k - 100), (2, x), (7, 59)] ∧ zbits (zB k (zL x) (zL 0)) = 0 ||| 0 := by rcases q with q | q <;> subst q <;> exact ⟨rfl, rfl⟩
        rw [w.1, w.2]
        simp only [List.cons_append, List.nil_append]
        rw [c5 hm, tf_c (nB_1 (by decide)) hm, tf_59 hm]
        show tf B (o, m, _, n ||| 0) = tf B (o, m, _, n ||| 0)
        rw [Nat.or_zero]; rfl
      · subst q
        show tf (zk l ++ (6, 3) :: (zk r ++ [(7, 59)]) ++ B) _ = tf B (o, m, _, n ||| (zbits l ||| zbits r))
        simp only [List.cons_append, List.append_assoc, List.nil_append]
        rw [tf_p o1 _ hm, tf_c (nB_1 (by decide)) hm, tf_p o2 _ hm, tf_59 hm]
        show tf B (o, m, _, n ||| zbits l ||| 0 ||| zbits r) = _
        rw [Nat.or_zero, Nat.or_assoc]; rfl
      · have w : zk (zB k l r) = zk l ++ (6, k - 130) :: (zk r ++ [(7, 59)]) ∧ zbits (zB k l r) = zbits l ||| zbits r := by
          have : k = 130 ∨ k = 131 ∨ k = 132 ∨ k = 134 ∨ k = 135 := by omega
          rcases this with y | y | y | y | y <;> subst y <;> exact ⟨rfl, rfl⟩
        rw [w.1, w.2]
        simp only [List.cons_append, List.append_assoc, List.nil_append]
        rw [tf_p o1 _ hm, tf_c (nB_1 (by decide)) hm, tf_e r 0 _ _ _ _ _ o2.1 hm, tf_59 hm]
        show tf B (o, m, _, n ||| zbits l ||| 0 ||| zbits r) = _
        rw [Nat.or_zero, Nat.or_assoc]; rfl)
  exact fun t => ⟨(H t).1, (H t).2.1⟩
theorem tf_whole {t : zT} (ok : okS t 0) : tf (zk t) (0, 0, 0, 0) = (0, zbr t, (zls t).length, zbits t) := by
  have q := (tf_t t).1 ok [] 0 0 0 0 (Nat.le_refl _)
  rw [List.append_nil] at q
  rw [q]
  show (0, max 0 (0 + zbr t), 0 + (if 0 = 0 then (zls t).length else 0), 0 ||| zbits t) = _
  rw [if_pos rfl, Nat.zero_or, Nat.zero_add, Nat.zero_add, Nat.max_eq_right (Nat.zero_le _)]
