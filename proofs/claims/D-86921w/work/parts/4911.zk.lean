/-! the tokens of good trees -/
def nB (t : Nat × Nat) : Prop := t ≠ (7, 59) ∧ t ≠ (7, 123) ∧ t ≠ (7, 125)
theorem nB_1 {a b : Nat} (h : a ≠ 7) : nB (a, b) := ⟨fun z => by cases z; exact h rfl, fun z => by cases z; exact h rfl, fun z => by cases z; exact h rfl⟩
theorem nB_7 {b : Nat} (h : b < 59 ∨ (59 < b ∧ b < 123) ∨ b = 124) : nB (7, b) := ⟨fun z => by cases z; omega, fun z => by cases z; omega, fun z => by cases z; omega⟩
theorem mem_2 {A B : List (Nat × Nat)} {p : Nat × Nat → Prop} (h1 : ∀ t ∈ A, p t) (h2 : ∀ t ∈ B, p t) : ∀ t ∈ A ++ B, p t := fun t ht => (List.mem_append.mp ht).elim (h1 t) (h2 t)
theorem mem_c {x : Nat × Nat} {B : List (Nat × Nat)} {p : Nat × Nat → Prop} (h1 : p x) (h2 : ∀ t ∈ B, p t) : ∀ t ∈ x :: B, p t := fun t ht => (List.mem_cons.mp ht).elim (fun e => e ▸ h1) (h2 t)
theorem mem_n {p : Nat × Nat → Prop} : ∀ t ∈ ([] : List (Nat × Nat)), p t := fun t ht => by cases ht
theorem zkE_nB : ∀ (e : zT) (lv : Nat), zok e lv → ∀ t ∈ zk e, nB t := by
  intro e
  induction e with
  | leaf n => intro lv h; exact h.elim
  | branch c l r ihl ihr =>
    intro lv h
    by_cases k1 : c = 1
    · subst k1; exact mem_c (nB_1 (by decide)) mem_n
    by_cases k2 : c = 2
    · subst k2; exact mem_c (nB_1 (by decide)) mem_n
    by_cases k35 : c = 35
    · subst k35; exact mem_c (nB_7 (by decide)) (mem_c (nB_1 (by decide)) mem_n)
    by_cases k3 : c = 3
    · subst k3; exact mem_c (nB_1 (by decide)) (mem_c (nB_7 (by decide)) (mem_2 (ihr 0 h.2) (mem_c (nB_7 (by decide)) mem_n)))
    by_cases k8 : c = 8
    · subst k8; exact mem_c (nB_1 (by decide)) (ihl 2 h)
    by_cases k40 : c = 40
    · subst k40; exact mem_c (nB_7 (by decide)) (mem_2 (ihl 0 h) (mem_c (nB_7 (by decide)) mem_n))
    obtain ⟨hc, v, w, h1, h2⟩ := two_k h k1 k2 k35 k3 k8 k40
    rcases hc with q | q | q | q | q | q | q | q | q | q <;> subst q
    · exact mem_c (nB_7 (by decide)) (mem_2 (ihl v h1) (mem_c (nB_7 (by decide)) (mem_2 (ihr w h2) (mem_c (nB_7 (by decide)) mem_n))))
    · exact mem_c (nB_7 (by decide)) (mem_2 (ihl v h1) (mem_c (nB_7 (by decide)) (mem_2 (ihr w h2) (mem_c (nB_7 (by decide)) mem_n))))
    all_goals exact mem_2 (ihl v h1) (mem_c (nB_7 (by decide)) (ihr w h2))
theorem Bl_c {op cl o o' : Nat} {t : Nat × Nat} {A : List (Nat × Nat)} (h1 : t ≠ (7, op)) (h2 : t ≠ (7, cl)) (k : Bl op cl o A o') : Bl op cl o (t :: A) o' := by
  show (if t = (7, op) then _ else if t = (7, cl) then _ else _)
  exact im h1 (im h2 k)
theorem Bl_op {op cl o o' : Nat} {A : List (Nat × Nat)} (k : Bl op cl (o + 1) A o') : Bl op cl o ((7, op) :: A) o' := by
  show (if (7, op) = (7, op) then _ else _)
  exact ip rfl k
theorem Bl_cl {op cl o o' : Nat} {A : List (Nat × Nat)} (hn : op ≠ cl) (ho : 1 ≤ o) (k : Bl op cl o A o') : Bl op cl (o + 1) ((7, cl) :: A) o' := by
  show (if (7, cl) = (7, op) then _ else if (7, cl) = (7, cl) then 1 < o + 1 ∧ Bl op cl (o + 1 - 1) A o' else _)
  exact im (fun z => by cases z; exact hn rfl) (ip rfl ⟨by omega, k⟩)
theorem Bl_0 {op cl o : Nat} : Bl op cl o [] o := rfl
theorem Sk_0 {sg o : Nat} : Sk sg o [] o := rfl
/-- brackets of an expression -/
theorem zkE_br : ∀ (e : zT) (lv o : Nat), zok e lv → 1 ≤ o → Bl 91 93 o (zk e) o := by
  intro e
  induction e with
  | leaf n => intro lv o h; exact h.elim
  | branch c l r ihl ihr =>
    intro lv o h ho
    have d7 : ∀ {a b : Nat}, a ≠ 7 → ((a, b) : Nat × Nat) ≠ (7, 91) ∧ ((a, b) : Nat × Nat) ≠ (7, 93) := fun q => ⟨fun z => by cases z; exact q rfl, fun z => by cases z; exact q rfl⟩
    by_cases k1 : c = 1
    · subst k1; exact Bl_c (d7 (by decide)).1 (d7 (by decide)).2 Bl_0
    by_cases k2 : c = 2
    · subst k2; exact Bl_c (d7 (by decide)).1 (d7 (by decide)).2 Bl_0
    by_cases k35 : c = 35
    · subst k35; exact Bl_c (by decide) (by decide) (Bl_c (d7 (by decide)).1 (d7 (by decide)).2 Bl_0)
    by_cases k3 : c = 3
    · subst k3
      refine Bl_c (d7 (by decide)).1 (d7 (by decide)).2 (Bl_op ?_)
      exact Bl_app (Bl_cl (by decide) ho Bl_0) (ihr 0 (o + 1) h.2 (by omega))
    by_cases k8 : c = 8
    · subst k8; exact Bl_c (by decide) (by decide) (ihl 2 o h ho)
    by_cases k40 : c = 40
    · subst k40; exact Bl_c (by decide) (by decide) (Bl_app (Bl_c (by decide) (by decide) Bl_0) (ihl 0 o h ho))
    obtain ⟨hc, v, w, h1, h2⟩ := two_k h k1 k2 k35 k3 k8 k40
    rcases hc with q | q | q | q | q | q | q | q | q | q <;> subst q
    · exact Bl_c (by decide) (by decide) (Bl_app (Bl_c (by decide) (by decide) (Bl_app (Bl_c (by decide) (by decide) Bl_0) (ihr w o h2 ho))) (ihl v o h1 ho))
    · exact Bl_c (by decide) (by decide) (Bl_app (Bl_c (by decide) (by decide) (Bl_app (Bl_c (by decide) (by decide) Bl_0) (ihr w o h2 ho))) (ihl v o h1 ho))
    all_goals exact Bl_app (Bl_c (by decide) (by decide) (ihr w o h2 ho)) (ihl v o h1 ho)
theorem zkP_nB {p : zT} (h : okP p) : ∀ t ∈ zk p, nB t := by
  rcases h with ⟨x, e, -⟩ | ⟨x, e, q, -, q2⟩
  · subst e; exact mem_c (nB_1 (by decide)) mem_n
  · subst q; exact mem_c (nB_1 (by decide)) (mem_c (nB_7 (by decide)) (mem_2 (zkE_nB e 0 q2.1) (mem_c (nB_7 (by decide)) mem_n)))
theorem zk_key {k : Nat} {l r : zT} (h : ok1 k l r) (hk : k < 130) : ∃ A, zk (zB k l r) = (5, k - 100) :: (A ++ [(7, 59)]) ∧ ∀ t ∈ A, nB t := by
  rcases h with ⟨q, ⟨x, e, -⟩, o, -⟩ | ⟨q, ⟨x, e, -⟩, y, e2, -⟩ | ⟨q, ⟨x, e, -⟩, j, f, e2, j1, j2, o, -⟩ | ⟨q, ⟨x, e, -⟩, e2⟩ | ⟨q, -⟩ | ⟨q, -⟩
  · subst e
    have ez : zk (zB k (zL x) r) = (5, k - 100) :: ((1, x) :: (7, 61) :: zk r ++ [(7, 59)]) := by rcases q with q | q | q <;> subst q <;> rfl
    exact ⟨_, ez, mem_c (nB_1 (by decide)) (mem_c (nB_7 (by decide)) (zkE_nB r 0 o.1))⟩
  · subst e; subst e2
    have ez : zk (zB k (zL x) (zL y)) = (5, k - 100) :: ([(1, x), (4, y)] ++ [(7, 59)]) := by rcases q with q | q <;> subst q <;> rfl
    exact ⟨_, ez, mem_c (nB_1 (by decide)) (mem_c (nB_1 (by decide)) mem_n)⟩
  · subst e; subst e2
    have ej : zk (zB j f (zL 0)) = (5, j - 143) :: zk f := by
      have : j = 160 ∨ j = 161 ∨ j = 162 ∨ j = 163 ∨ j = 164 := by omega
      rcases this with y | y | y | y | y <;> subst y <;> rfl
    have ez : zk (zB k (zL x) (zB j f (zL 0))) = (5, k - 100) :: ((3, x) :: zk (zB j f (zL 0)) ++ [(7, 59)]) := by rcases q with q | q <;> subst q <;> rfl
    rw [ej] at ez
    exact ⟨_, ez, mem_c (nB_1 (by decide)) (mem_c (nB_1 (by decide)) (zkE_nB f 0 o.1))⟩
  · subst e; subst e2
    have ez : zk (zB k (zL x) (zL 0)) = (5, k - 100) :: ([(2, x)] ++ [(7, 59)]) := by rcases q with q | q <;> subst q <;> rfl
    exact ⟨_, ez, mem_c (nB_1 (by decide)) mem_n⟩
  · omega
  · omega
theorem zk_chg {k : Nat} {l r : zT} (h : ok1 k l r) (hk : 130 ≤ k) : zk (zB k l r) = zk l ++ (6, k - 130) :: (zk r ++ [(7, 59)]) ∧ okP l ∧ ∀ t ∈ zk r, nB t := by
  rcases h with ⟨q, -⟩ | ⟨q, -⟩ | ⟨q, -⟩ | ⟨q, -⟩ | ⟨q, o1, o2⟩ | ⟨q, o1, o2, -⟩
  · omega
  · omega
  · omega
  · omega
  · subst q; exact ⟨rfl, o1, zkP_nB o2⟩
  · refine ⟨?_, o1, zkE_nB r 0 o2.1⟩
    have : k = 130 ∨ k = 131 ∨ k = 132 ∨ k = 134 ∨ k = 135 := by omega
    rcases this with y | y | y | y | y <;> subst y <;> rfl
theorem Sk_nB {o : Nat} {A : List (Nat × Nat)} (h : ∀ t ∈ A, nB t) : Sk 59 o A o ∧ Sk 123 o A o ∧ Bl 123 125 o A o :=
  ⟨Sk_plain (fun t ht => ⟨(h t ht).2.1, (h t ht).2.2, (h t ht).1⟩), Sk_plain (fun t ht => ⟨(h t ht).2.1, (h t ht).2.2, (h t ht).2.1⟩), Bl_plain (fun t ht => ⟨(h t ht).2.1, (h t ht).2.2⟩)⟩
theorem Bl_59 {o : Nat} : Bl 123 125 o [(7, 59)] o := Bl_c (by decide) (by decide) Bl_0
def zw1 (k : Nat) : Nat := if k = 108 then 9 else 12
def zw2 (k : Nat) : Nat := if k = 108 then 10 else 13
theorem zk_fk {k k2 k3 : Nat} {e s t e2 : zT} (hk : (k = 108 ∧ k2 = 112 ∧ k3 = 113) ∨ (k = 111 ∧ k2 = 117 ∧ k3 = 118)) : zk (zB k e (zB k2 s (zB k3 t e2))) = (5, k - 100) :: (zk e ++ (7, 123) :: (zk s ++ (7, 125) :: (5, zw1 k) :: (7, 123) :: (zk t ++ (7, 125) :: (5, zw2 k) :: (zk e2 ++ [(7, 59)])))) := by
  rcases hk with ⟨rfl, rfl, rfl⟩ | ⟨rfl, rfl, rfl⟩ <;> rfl
theorem zk_wh (e s : zT) : zk (zB 115 e s) = (5, 15) :: (zk e ++ (7, 123) :: (zk s ++ [(7, 125), (7, 59)])) := rfl
theorem zk_wn (e s t : zT) : zk (zB 116 e (zB 119 s t)) = (5, 16) :: (zk e ++ (7, 123) :: (zk s ++ (7, 125) :: (5, 9) :: (7, 123) :: (zk t ++ [(7, 125), (7, 59)]))) := rfl
theorem zk_150 (s t : zT) : zk (zB 150 s t) = zk s ++ zk t := rfl
/-- braces of steps -/
theorem zk_br : ∀ t : zT, (okS t 0 → ∀ o, 1 ≤ o → Bl 123 125 o (zk t) o) ∧ (okS t 1 → ∀ o, 1 ≤ o → Bl 123 125 o (zk t) o) := by
  have fk : ∀ {k k2 k3 : Nat} {e s t e2 : zT}, ((k = 108 ∧ k2 = 112 ∧ k3 = 113) ∨ (k = 111 ∧ k2 = 117 ∧ k3 = 118)) → okE e → okE e2 → (∀ o, 1 ≤ o → Bl 123 125 o (zk s) o) → (∀ o, 1 ≤ o → Bl 123 125 o (zk t) o) → ∀ o, 1 ≤ o → Bl 123 125 o (zk (zB k e (zB k2 s (zB k3 t e2)))) o := by
    intro k k2 k3 e s t e2 hk o1 o2 i1 i2 o ho
    rw [zk_fk hk]
    have b5 : ∀ {x : Nat} {A : List (Nat × Nat)} {p q : Nat}, Bl 123 125 p A q → Bl 123 125 p ((5, x) :: A) q := fun z => Bl_c (nB_1 (by decide)).2.1 (nB_1 (by decide)).2.2 z
    have x1 := Bl_app Bl_59 (Sk_nB (o := o) (zkE_nB e2 0 o2.1)).2.2
    have x2 := Bl_app (Bl_cl (by decide) ho (b5 (x := zw2 k) x1)) (i2 (o + 1) (by omega))
    have x3 := Bl_app (Bl_cl (by decide) ho (b5 (x := zw1 k) (Bl_op x2))) (i1 (o + 1) (by omega))
    exact b5 (Bl_app (Bl_op x3) (Sk_nB (zkE_nB e 0 o1.1)).2.2)
  have H := ok_ind (P0 := fun t => ∀ o, 1 ≤ o → Bl 123 125 o (zk t) o) (P1 := fun t => ∀ o, 1 ≤ o → Bl 123 125 o (zk t) o) (fun v o _ => rfl)
    (fun s t _ _ i1 i2 o ho => by rw [zk_150]; exact Bl_app (i2 o ho) (i1 o ho))
    (fun e s t e2 o1 _ _ o2 i1 i2 => fk (Or.inl ⟨rfl, rfl, rfl⟩) o1 o2 i1 i2)
    (fun e s t e2 o1 _ _ o2 i1 i2 => fk (Or.inr ⟨rfl, rfl, rfl⟩) o1 o2 i1 i2)
    (fun e s o1 _ i1 o ho => by
      rw [zk_wh]
      exact Bl_c (by decide) (by decide) (Bl_app (Bl_op (Bl_app (Bl_cl (by decide) ho Bl_59) (i1 (o + 1) (by omega)))) (Sk_nB (zkE_nB e 0 o1.1)).2.2))
    (fun e s t o1 _ _ i1 i2 o ho => by
      rw [zk_wn]
      exact Bl_c (by decide) (by decide) (Bl_app (Bl_op (Bl_app (Bl_cl (by decide) ho (Bl_c (by decide) (by decide) (Bl_op (Bl_app (Bl_cl (by decide) ho Bl_59) (i2 (o + 1) (by omega)))))) (i1 (o + 1) (by omega)))) (Sk_nB (zkE_nB e 0 o1.1)).2.2))
    (fun k l r hk o ho => by
      by_cases q : k < 130
      · obtain ⟨A, e, hA⟩ := zk_key hk q
        rw [e]
        exact Bl_c (nB_1 (by decide)).2.1 (nB_1 (by decide)).2.2 (Bl_app Bl_59 (Sk_nB hA).2.2)
      · obtain ⟨e, oP, hA⟩ := zk_chg hk (by omega)
        rw [e]
        exact Bl_app (Bl_c (nB_1 (by decide)).2.1 (nB_1 (by decide)).2.2 (Bl_app Bl_59 (Sk_nB hA).2.2)) (Sk_nB (zkP_nB oP)).2.2)
  exact fun t => ⟨(H t).1, (H t).2.1⟩
theorem Sk_c {sg o o' : Nat} {t : Nat × Nat} {A : List (Nat × Nat)} (h0 : t ≠ (7, sg)) (h1 : t ≠ (7, 123)) (h2 : t ≠ (7, 125)) (k : Sk sg o A o') : Sk sg o (t :: A) o' := ⟨fun q => h0 q.2, im h1 (im h2 k)⟩
theorem Sk_b {sg : Nat} {A B : List (Nat × Nat)} (hs : sg ≠ 123) (hA : Bl 123 125 1 A 1) (k : Sk sg 0 B 0) : Sk sg 0 ((7, 123) :: (A ++ (7, 125) :: B)) 0 := by
  refine ⟨fun q => hs (by have := q.2; cases this; rfl), ip rfl ?_⟩
  have x : Sk sg 1 ((7, 125) :: B) 0 := ⟨fun q => absurd q.1 (by decide), im (by decide) (ip rfl ⟨by decide, k⟩)⟩
  exact Sk_app x (Sk_Bl (by decide) hA)
/-- a whole step up to its ; -/
theorem zk_sk : ∀ t : zT, okS t 1 → ∃ x A, zk t = (x :: A) ++ [(7, 59)] ∧ Sk 59 0 (x :: A) 0 ∧ x.1 ≠ 7 := by
  have fk : ∀ {k k2 k3 : Nat} {e s t e2 : zT}, ((k = 108 ∧ k2 = 112 ∧ k3 = 113) ∨ (k = 111 ∧ k2 = 117 ∧ k3 = 118)) → okE e → okE e2 → okS s 0 → okS t 0 → ∃ x A, zk (zB k e (zB k2 s (zB k3 t e2))) = (x :: A) ++ [(7, 59)] ∧ Sk 59 0 (x :: A) 0 ∧ x.1 ≠ 7 := by
    intro k k2 k3 e s t e2 hk o1 o2 i1 i2
    refine ⟨(5, k - 100), zk e ++ (7, 123) :: (zk s ++ (7, 125) :: (5, zw1 k) :: (7, 123) :: (zk t ++ (7, 125) :: (5, zw2 k) :: zk e2)), by rw [zk_fk hk]; simp, ?_, by show 5 ≠ 7; decide⟩
    have b5 : ∀ {x : Nat} {A : List (Nat × Nat)}, Sk 59 0 A 0 → Sk 59 0 ((5, x) :: A) 0 := fun z => Sk_c (nB_1 (by decide)).1 (nB_1 (by decide)).2.1 (nB_1 (by decide)).2.2 z
    exact b5 (Sk_app (Sk_b (by decide) ((zk_br s).1 i1 1 (by decide)) (b5 (Sk_b (by decide) ((zk_br t).1 i2 1 (by decide)) (b5 (Sk_nB (zkE_nB e2 0 o2.1)).1)))) (Sk_nB (zkE_nB e 0 o1.1)).1)
  have H := ok_ind (P0 := fun _ => True) (P1 := fun t => ∃ x A, zk t = (x :: A) ++ [(7, 59)] ∧ Sk 59 0 (x :: A) 0 ∧ x.1 ≠ 7) (fun _ => trivial) (fun _ _ _ _ _ _ => trivial)
    (fun e s t e2 o1 i1 i2 o2 _ _ => fk (Or.inl ⟨rfl, rfl, rfl⟩) o1 o2 i1 i2)
    (fun e s t e2 o1 i1 i2 o2 _ _ => fk (Or.inr ⟨rfl, rfl, rfl⟩) o1 o2 i1 i2)
    (fun e s o1 i1 _ => ⟨(5, 15), zk e ++ (7, 123) :: (zk s ++ [(7, 125)]), by rw [zk_wh]; simp, Sk_c (by decide) (by decide) (by decide) (Sk_app (Sk_b (by decide) ((zk_br s).1 i1 1 (by decide)) Sk_0) (Sk_nB (zkE_nB e 0 o1.1)).1), by decide⟩)
    (fun e s t o1 i1 i2 _ _ => ⟨(5, 16), zk e ++ (7, 123) :: (zk s ++ (7, 125) :: (5, 9) :: (7, 123) :: (zk t ++ [(7, 125)])), by rw [zk_wn]; simp, Sk_c (by decide) (by decide) (by decide) (Sk_app (Sk_b (by decide) ((zk_br s).1 i1 1 (by decide)) (Sk_c (by decide) (by decide) (by decide) (Sk_b (by decide) ((zk_br t).1 i2 1 (by decide)) Sk_0))) (Sk_nB (zkE_nB e 0 o1.1)).1), by decide⟩)
    (fun k l r hk => by
      by_cases q : k < 130
      · obtain ⟨A, e, hA⟩ := zk_key hk q
        exact ⟨(5, k - 100), A, e, Sk_c (nB_1 (by decide)).1 (nB_1 (by decide)).2.1 (nB_1 (by decide)).2.2 (Sk_nB hA).1, by show 5 ≠ 7; decide⟩
      · obtain ⟨e, oP, hA⟩ := zk_chg hk (by omega)
        have b6 : Sk 59 0 ((6, k - 130) :: zk r) 0 := Sk_c (nB_1 (by decide)).1 (nB_1 (by decide)).2.1 (nB_1 (by decide)).2.2 (Sk_nB hA).1
        have hP := (Sk_nB (o := 0) (zkP_nB oP)).1
        rcases oP with ⟨x, y, -⟩ | ⟨x, f, y, -, -⟩
        · subst y
          exact ⟨(1, x), (6, k - 130) :: zk r, by rw [e]; rfl, Sk_app b6 hP, by show 1 ≠ 7; decide⟩
        · subst y
          have hQ : Sk 59 0 (((3, x) :: (7, 91) :: (zk f ++ [(7, 93)])) ++ (6, k - 130) :: zk r) 0 := Sk_app b6 hP
          rw [List.cons_append] at hQ
          refine ⟨(3, x), (7, 91) :: (zk f ++ [(7, 93)]) ++ (6, k - 130) :: zk r, ?_, hQ, by show 3 ≠ 7; decide⟩
          rw [e]
          show ((3, x) :: (7, 91) :: (zk f ++ [(7, 93)])) ++ _ = _
          simp)
  exact fun t => (H t).2.1
