/-! the tokens of a tree are good ones; what is printed is bytes -/
def sg7 (c : Nat) : Bool := [35, 37, 38, 40, 41, 42, 43, 45, 47, 59, 60, 61, 91, 93, 94, 123, 124, 125].contains c
def okt (x : Nat × Nat) : Prop := (x.1 = 1 ∧ x.2 < 26) ∨ (x.1 = 2 ∧ x.2 < 1000000000) ∨ (x.1 = 3 ∧ x.2 < 6) ∨ (x.1 = 4 ∧ x.2 < 4) ∨ (x.1 = 5 ∧ x.2 < 22) ∨ (x.1 = 6 ∧ x.2 < 6) ∨ ((x.1 = 7 ∨ x.1 = 8) ∧ 33 ≤ x.2 ∧ x.2 ≤ 126 ∧ (x.1 = 7 → sg7 x.2 = true) ∧ (x.1 = 8 → x.2 = 45))
theorem okt_7 {c : Nat} (h1 : 33 ≤ c ∧ sg7 c = true) (h2 : c ≤ 126) : okt (7, c) := Or.inr (Or.inr (Or.inr (Or.inr (Or.inr (Or.inr ⟨Or.inl rfl, h1.1, h2, fun _ => h1.2, fun z => absurd (show (7 : Nat) = 8 from z) (by decide)⟩)))))
theorem okt_5 {c : Nat} (h : c < 22) : okt (5, c) := Or.inr (Or.inr (Or.inr (Or.inr (Or.inl ⟨rfl, h⟩))))
theorem okt_1 {c : Nat} (h : c < 26) : okt (1, c) := Or.inl ⟨rfl, h⟩
theorem okt_2 {c : Nat} (h : c < 1000000000) : okt (2, c) := Or.inr (Or.inl ⟨rfl, h⟩)
theorem okt_3 {c : Nat} (h : c < 6) : okt (3, c) := Or.inr (Or.inr (Or.inl ⟨rfl, h⟩))
theorem okt_4 {c : Nat} (h : c < 4) : okt (4, c) := Or.inr (Or.inr (Or.inr (Or.inl ⟨rfl, h⟩)))
theorem okt_6 {c : Nat} (h : c < 6) : okt (6, c) := Or.inr (Or.inr (Or.inr (Or.inr (Or.inr (Or.inl ⟨rfl, h⟩)))))
def oka (A : List (Nat × Nat)) : Prop := ∀ x ∈ A, okt x
theorem oka_n : oka [] := fun x h => by cases h
theorem oka_c {x : Nat × Nat} {A : List (Nat × Nat)} (h : okt x) (k : oka A) : oka (x :: A) := fun y hy => by
  rcases List.mem_cons.mp hy with e | e
  · rw [e]; exact h
  · exact k y e
theorem oka_a {A B : List (Nat × Nat)} (h : oka A) (k : oka B) : oka (A ++ B) := fun y hy => by
  rcases List.mem_append.mp hy with e | e
  · exact h y e
  · exact k y e
theorem zk_okt : ∀ (e : zT) (lv : Nat), zok e lv → oka (zk e) := by
  intro e
  induction e with
  | leaf n => intro lv h; exact h.elim
  | branch c l r ihl ihr =>
    intro lv hz
    by_cases k2 : c = 2
    · subst k2
      have hz' : zn l < 1000000000 := hz
      exact oka_c (okt_2 hz') oka_n
    by_cases k1 : c = 1
    · subst k1
      have hz' : zn l < 26 := hz
      exact oka_c (okt_1 hz') oka_n
    by_cases k35 : c = 35
    · subst k35
      have hz' : zn l < 6 := hz
      exact oka_c (okt_7 (by decide) (by decide)) (oka_c (okt_3 hz') oka_n)
    by_cases k3 : c = 3
    · subst k3
      have hz' : zn l < 6 ∧ zok r 0 := hz
      exact oka_c (okt_3 hz'.1) (oka_c (okt_7 (by decide) (by decide)) (oka_a (ihr 0 hz'.2) (oka_c (okt_7 (by decide) (by decide)) oka_n)))
    by_cases k8 : c = 8
    · subst k8
      exact oka_c (Or.inr (Or.inr (Or.inr (Or.inr (Or.inr (Or.inr ⟨Or.inr rfl, by decide, by decide, fun z => absurd (show (8 : Nat) = 7 from z) (by decide), fun _ => rfl⟩)))))) (ihl 2 hz)
    by_cases k40 : c = 40
    · subst k40
      exact oka_c (okt_7 (by decide) (by decide)) (oka_a (ihl 0 hz) (oka_c (okt_7 (by decide) (by decide)) oka_n))
    obtain ⟨hc, lv1, lv2, y1, y2⟩ := two_k hz k1 k2 k35 k3 k8 k40
    have a1 := ihl lv1 y1
    have a2 := ihr lv2 y2
    rcases hc with q | q | q | q | q | q | q | q | q | q <;> subst q
    · exact oka_c (okt_7 (by decide) (by decide)) (oka_a a1 (oka_c (okt_7 (by decide) (by decide)) (oka_a a2 (oka_c (okt_7 (by decide) (by decide)) oka_n))))
    · exact oka_c (okt_7 (by decide) (by decide)) (oka_a a1 (oka_c (okt_7 (by decide) (by decide)) (oka_a a2 (oka_c (okt_7 (by decide) (by decide)) oka_n))))
    all_goals exact oka_a a1 (oka_c (okt_7 (by decide) (by decide)) a2)
theorem zk_okp {p : zT} (ok : okP p) : oka (zk p) := by
  rcases ok with ⟨x, e1, hx⟩ | ⟨x, e, e1, hx, oe⟩
  · subst e1
    exact oka_c (okt_1 hx) oka_n
  · subst e1
    exact oka_c (okt_3 hx) (oka_c (okt_7 (by decide) (by decide)) (oka_a (zk_okt e 0 oe.1) (oka_c (okt_7 (by decide) (by decide)) oka_n)))
theorem zk_ok : ∀ t : zT, (okS t 0 → oka (zk t)) ∧ (okS t 1 → oka (zk t)) := by
  have s7 : ∀ {c : Nat}, (33 ≤ c ∧ sg7 c = true) → c ≤ 126 → okt (7, c) := fun h1 h2 => okt_7 h1 h2
  have fk : ∀ {k k2 k3 : Nat} {e s t e2 : zT}, ((k = 108 ∧ k2 = 112 ∧ k3 = 113) ∨ (k = 111 ∧ k2 = 117 ∧ k3 = 118)) → okE e → okE e2 → oka (zk s) → oka (zk t) → oka (zk (zB k e (zB k2 s (zB k3 t e2)))) := by
    intro k k2 k3 e s t e2 hk o1 o2 i1 i2
    rw [zk_fk hk]
    have w : k - 100 < 22 ∧ zw1 k < 22 ∧ zw2 k < 22 := by
      rcases hk with ⟨q, -, -⟩ | ⟨q, -, -⟩ <;> subst q <;> decide
    exact oka_c (okt_5 w.1) (oka_a (zk_okt e 0 o1.1) (oka_c (s7 (by decide) (by decide)) (oka_a i1 (oka_c (s7 (by decide) (by decide)) (oka_c (okt_5 w.2.1) (oka_c (s7 (by decide) (by decide)) (oka_a i2 (oka_c (s7 (by decide) (by decide)) (oka_c (okt_5 w.2.2) (oka_a (zk_okt e2 0 o2.1) (oka_c (s7 (by decide) (by decide)) oka_n)))))))))))
  have H := ok_ind (P0 := fun t => oka (zk t)) (P1 := fun t => oka (zk t)) (fun v => oka_n)
    (fun s t _ _ i1 i2 => by rw [zk_150]; exact oka_a i1 i2)
    (fun e s t e2 o1 _ _ o2 i1 i2 => fk (Or.inl ⟨rfl, rfl, rfl⟩) o1 o2 i1 i2)
    (fun e s t e2 o1 _ _ o2 i1 i2 => fk (Or.inr ⟨rfl, rfl, rfl⟩) o1 o2 i1 i2)
    (fun e s o1 _ i1 => by
      rw [zk_wh]
      exact oka_c (okt_5 (by decide)) (oka_a (zk_okt e 0 o1.1) (oka_c (s7 (by decide) (by decide)) (oka_a i1 (oka_c (s7 (by decide) (by decide)) (oka_c (s7 (by decide) (by decide)) oka_n))))))
    (fun e s t o1 _ _ i1 i2 => by
      rw [zk_wn]
      exact oka_c (okt_5 (by decide)) (oka_a (zk_okt e 0 o1.1) (oka_c (s7 (by decide) (by decide)) (oka_a i1 (oka_c (s7 (by decide) (by decide)) (oka_c (okt_5 (by decide)) (oka_c (s7 (by decide) (by decide)) (oka_a i2 (oka_c (s7 (by decide) (by decide)) (oka_c (s7 (by decide) (by decide)) oka_n))))))))))
    (fun k l r hk => by
      rcases hk with ⟨q, ⟨x, e, hx⟩, oe, -⟩ | ⟨q, ⟨x, e, hx⟩, y, e2, hy⟩ | ⟨q, ⟨x, e, hx⟩, j, f, e2, j1, j2, oe, -⟩ | ⟨q, ⟨x, e, hx⟩, e2⟩ | ⟨q, o1, o2⟩ | ⟨q, o1, o2, -⟩
      · subst e
        have w : zk (zB k (zL x) r) = (5, k - 100) :: (1, x) :: (7, 61) :: (zk r ++ [(7, 59)]) := by rcases q with q | q | q <;> subst q <;> rfl
        rw [w]
        exact oka_c (okt_5 (by omega)) (oka_c (okt_1 hx) (oka_c (s7 (by decide) (by decide)) (oka_a (zk_okt r 0 oe.1) (oka_c (s7 (by decide) (by decide)) oka_n))))
      · subst e; subst e2
        have w : zk (zB k (zL x) (zL y)) = [(5, k - 100), (1, x), (4, y), (7, 59)] := by rcases q with q | q <;> subst q <;> rfl
        rw [w]
        exact oka_c (okt_5 (by omega)) (oka_c (okt_1 hx) (oka_c (okt_4 hy) (oka_c (s7 (by decide) (by decide)) oka_n)))
      · subst e; subst e2
        have ej : zk (zB j f (zL 0)) = (5, j - 143) :: zk f := by
          have : j = 160 ∨ j = 161 ∨ j = 162 ∨ j = 163 ∨ j = 164 := by omega
          rcases this with y | y | y | y | y <;> subst y <;> rfl
        have w : zk (zB k (zL x) (zB j f (zL 0))) = (5, k - 100) :: (3, x) :: (zk (zB j f (zL 0)) ++ [(7, 59)]) := by rcases q with q | q <;> subst q <;> rfl
        rw [w, ej]
        exact oka_c (okt_5 (by omega)) (oka_c (okt_3 hx) (oka_c (okt_5 (by omega)) (oka_a (zk_okt f 0 oe.1) (oka_c (s7 (by decide) (by decide)) oka_n))))
      · subst e; subst e2
        have w : zk (zB k (zL x) (zL 0)) = [(5, k - 100), (2, x), (7, 59)] := by rcases q with q | q <;> subst q <;> rfl
        rw [w]
        exact oka_c (okt_5 (by omega)) (oka_c (okt_2 (by omega)) (oka_c (s7 (by decide) (by decide)) oka_n))
      · subst q
        show oka (zk l ++ (6, 3) :: (zk r ++ [(7, 59)]))
        exact oka_a (zk_okp o1) (oka_c (okt_6 (by decide)) (oka_a (zk_okp o2) (oka_c (s7 (by decide) (by decide)) oka_n)))
      · have w : zk (zB k l r) = zk l ++ (6, k - 130) :: (zk r ++ [(7, 59)]) := by
          have : k = 130 ∨ k = 131 ∨ k = 132 ∨ k = 134 ∨ k = 135 := by omega
          rcases this with y | y | y | y | y <;> subst y <;> rfl
        rw [w]
        exact oka_a (zk_okp o1) (oka_c (okt_6 (by omega)) (oka_a (zk_okt r 0 o2.1) (oka_c (s7 (by decide) (by decide)) oka_n))))
  exact fun t => ⟨(H t).1, (H t).2.1⟩
theorem pdg_ok : ∀ (f n p : Nat), okb (pdg f n p) := by
  intro f
  induction f with
  | zero => intro n p c hc; cases hc
  | succ f ih =>
    intro n p
    unfold pdg
    split
    · intro c hc
      have : n / p % 10 < 10 := Nat.mod_lt _ (by decide)
      rcases List.mem_cons.mp hc with e | e
      · rw [e]; omega
      · exact ih n (p / 10) c e
    · intro c hc; cases hc
theorem pkb_ok : ∀ w, w < 22 → okb (pkb w) := by
  have : ∀ w, w < 22 → ∀ c ∈ pkb w, 32 ≤ c ∧ c ≤ 126 := by decide
  exact this
theorem ptk_ok {x : Nat × Nat} (h : okt x) : okb (ptk x) := by
  obtain ⟨s, w⟩ := x
  have one : ∀ {y : Nat}, 32 ≤ y → y ≤ 126 → okb [((y : Nat) : Int)] := fun h1 h2 c hc => by rw [List.mem_singleton.mp hc]; omega
  rcases h with ⟨a, b⟩ | ⟨a, b⟩ | ⟨a, b⟩ | ⟨a, b⟩ | ⟨a, b⟩ | ⟨a, b⟩ | ⟨a, b, c, -⟩ <;> dsimp only at a b
  · subst a; exact one (by omega) (by omega)
  · subst a; exact pdg_ok _ _ _
  · subst a; exact one (by omega) (by omega)
  · subst a; exact one (by omega) (by omega)
  · subst a; exact pkb_ok w b
  · subst a
    have : w = 0 ∨ w = 1 ∨ w = 2 ∨ w = 3 ∨ w = 4 ∨ w = 5 := by omega
    rcases this with q | q | q | q | q | q <;> subst q <;> unfold okb <;> decide
  · rcases a with a | a <;> subst a
    · exact one (by omega) c
    · exact one (by omega) c
theorem pbs_ok : ∀ (A : List (Nat × Nat)) (g : Bool), oka A → okb (pbs A g) := by
  intro A
  induction A with
  | nil => intro g _ c hc; cases hc
  | cons x A ih =>
    intro g h c hc
    have hc' : c ∈ psp g x ++ (ptk x ++ pbs A (pgu x)) := hc
    rcases List.mem_append.mp hc' with e | e
    · unfold psp at e
      split at e
      · cases e
      · rw [List.mem_singleton.mp e]; decide
    · rcases List.mem_append.mp e with e | e
      · exact ptk_ok (h x (List.mem_cons_self ..)) c e
      · exact ih (pgu x) (fun y hy => h y (List.mem_cons_of_mem _ hy)) c e
theorem pkb_len : ∀ w, w < 22 → (pkb w).length ≤ 6 := by decide
theorem pbs_len : ∀ (A : List (Nat × Nat)) (g : Bool), oka A → (pbs A g).length ≤ zW A := by
  intro A
  induction A with
  | nil => intro g _; exact Nat.le_refl _
  | cons x A ih =>
    intro g h
    have i := ih (pgu x) (fun y hy => h y (List.mem_cons_of_mem _ hy))
    have hx := h x (List.mem_cons_self ..)
    have s1 : (psp g x).length ≤ 1 := by unfold psp; split <;> simp
    have p1 : (ptk x).length + 1 ≤ zpw x := by
      unfold zpw
      by_cases q : x.1 = 5
      · rw [if_pos q]
        obtain ⟨s, w⟩ := x
        have q' : s = 5 := q
        subst q'
        have : w < 22 := by
          rcases hx with ⟨a, -⟩ | ⟨a, -⟩ | ⟨a, -⟩ | ⟨a, -⟩ | ⟨-, b⟩ | ⟨a, -⟩ | ⟨a, -⟩
          · exact absurd (show (5 : Nat) = 1 from a) (by decide)
          · exact absurd (show (5 : Nat) = 2 from a) (by decide)
          · exact absurd (show (5 : Nat) = 3 from a) (by decide)
          · exact absurd (show (5 : Nat) = 4 from a) (by decide)
          · exact b
          · exact absurd (show (5 : Nat) = 6 from a) (by decide)
          · exact absurd (show (5 : Nat) = 7 ∨ (5 : Nat) = 8 from a) (by decide)
        have := pkb_len w this
        show (pkb w).length + 1 ≤ 7
        omega
      · rw [if_neg q]; exact Nat.le_refl _
    show (psp g x ++ (ptk x ++ pbs A (pgu x))).length ≤ zpw x + zW A
    rw [List.length_append, List.length_append]
    omega
