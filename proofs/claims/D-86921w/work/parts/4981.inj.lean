/-! two routines that print alike are alike -/
def est (y : Nat × Nat) : Prop := y.1 = 1 ∨ y.1 = 2 ∨ y.1 = 3 ∨ y.1 = 8 ∨ y = (7, 40) ∨ y = (7, 35)
/-- behind a minus an expression begins -/
def okm : List (Nat × Nat) → Prop
  | [] => True
  | x :: A => (x = (7, 45) ∨ x = (8, 45) → ∃ y B, A = y :: B ∧ est y) ∧ okm A
theorem okm_app : ∀ {A B : List (Nat × Nat)}, okm A → okm B → okm (A ++ B) := by
  intro A B
  induction A with
  | nil => intro _ b; exact b
  | cons x A ih =>
    intro a b
    refine ⟨fun z => ?_, ih a.2 b⟩
    obtain ⟨y, C, e, q⟩ := a.1 z
    exact ⟨y, C ++ B, by rw [e]; rfl, q⟩
theorem okm_c {x : Nat × Nat} {A : List (Nat × Nat)} (h : ¬ (x = (7, 45) ∨ x = (8, 45))) (a : okm A) : okm (x :: A) := ⟨fun z => absurd z h, a⟩
theorem zk_est : ∀ (e : zT) (lv : Nat), zok e lv → ∃ y B, zk e = y :: B ∧ est y := by
  intro e
  induction e with
  | leaf n => intro lv h; exact h.elim
  | branch c l r ihl ihr =>
    intro lv hz
    by_cases k2 : c = 2
    · subst k2; exact ⟨_, _, rfl, Or.inr (Or.inl rfl)⟩
    by_cases k1 : c = 1
    · subst k1; exact ⟨_, _, rfl, Or.inl rfl⟩
    by_cases k35 : c = 35
    · subst k35; exact ⟨_, _, rfl, Or.inr (Or.inr (Or.inr (Or.inr (Or.inr rfl))))⟩
    by_cases k3 : c = 3
    · subst k3; exact ⟨_, _, rfl, Or.inr (Or.inr (Or.inl rfl))⟩
    by_cases k8 : c = 8
    · subst k8; exact ⟨_, _, rfl, Or.inr (Or.inr (Or.inr (Or.inl rfl)))⟩
    by_cases k40 : c = 40
    · subst k40; exact ⟨_, _, rfl, Or.inr (Or.inr (Or.inr (Or.inr (Or.inl rfl))))⟩
    obtain ⟨hc, lv1, lv2, y1, y2⟩ := two_k hz k1 k2 k35 k3 k8 k40
    obtain ⟨y, B, e1, q⟩ := ihl lv1 y1
    rcases hc with z | z | z | z | z | z | z | z | z | z <;> subst z
    · exact ⟨_, _, rfl, Or.inr (Or.inr (Or.inr (Or.inr (Or.inl rfl))))⟩
    · exact ⟨_, _, rfl, Or.inr (Or.inr (Or.inr (Or.inr (Or.inl rfl))))⟩
    all_goals exact ⟨y, B ++ (7, _) :: zk r, by show zk l ++ _ = _; rw [e1]; rfl, q⟩
theorem zk_okm : ∀ (e : zT) (lv : Nat), zok e lv → okm (zk e) := by
  intro e
  induction e with
  | leaf n => intro lv h; exact h.elim
  | branch c l r ihl ihr =>
    intro lv hz
    by_cases k2 : c = 2
    · subst k2; exact okm_c (by simp) trivial
    by_cases k1 : c = 1
    · subst k1; exact okm_c (by simp) trivial
    by_cases k35 : c = 35
    · subst k35; exact okm_c (by simp) (okm_c (by simp) trivial)
    by_cases k3 : c = 3
    · subst k3
      have hz' : zn l < 6 ∧ zok r 0 := hz
      exact okm_c (by simp) (okm_c (by simp) (okm_app (ihr 0 hz'.2) (okm_c (by simp) trivial)))
    by_cases k8 : c = 8
    · subst k8
      exact ⟨fun _ => zk_est l 2 hz, ihl 2 hz⟩
    by_cases k40 : c = 40
    · subst k40
      exact okm_c (by simp) (okm_app (ihl 0 hz) (okm_c (by simp) trivial))
    obtain ⟨hc, lv1, lv2, y1, y2⟩ := two_k hz k1 k2 k35 k3 k8 k40
    have a1 := ihl lv1 y1
    have a2 := ihr lv2 y2
    have es := zk_est r lv2 y2
    rcases hc with z | z | z | z | z | z | z | z | z | z <;> subst z
    · exact okm_c (by simp) (okm_app a1 (okm_c (by simp) (okm_app a2 (okm_c (by simp) trivial))))
    · exact okm_c (by simp) (okm_app a1 (okm_c (by simp) (okm_app a2 (okm_c (by simp) trivial))))
    all_goals exact okm_app a1 ⟨fun _ => es, a2⟩
theorem zk_okmp {p : zT} (ok : okP p) : okm (zk p) := by
  rcases ok with ⟨x, e1, hx⟩ | ⟨x, e, e1, hx, oe⟩
  · subst e1
    exact okm_c (by simp) trivial
  · subst e1
    exact okm_c (by simp) (okm_c (by simp) (okm_app (zk_okm e 0 oe.1) (okm_c (by simp) trivial)))
theorem zk_m : ∀ t : zT, (okS t 0 → okm (zk t)) ∧ (okS t 1 → okm (zk t)) := by
  have fk : ∀ {k k2 k3 : Nat} {e s t e2 : zT}, ((k = 108 ∧ k2 = 112 ∧ k3 = 113) ∨ (k = 111 ∧ k2 = 117 ∧ k3 = 118)) → okE e → okE e2 → okm (zk s) → okm (zk t) → okm (zk (zB k e (zB k2 s (zB k3 t e2)))) := by
    intro k k2 k3 e s t e2 hk o1 o2 i1 i2
    rw [zk_fk hk]
    exact okm_c (by simp) (okm_app (zk_okm e 0 o1.1) (okm_c (by simp) (okm_app i1 (okm_c (by simp) (okm_c (by simp) (okm_c (by simp) (okm_app i2 (okm_c (by simp) (okm_c (by simp) (okm_app (zk_okm e2 0 o2.1) (okm_c (by simp) trivial)))))))))))
  have H := ok_ind (P0 := fun t => okm (zk t)) (P1 := fun t => okm (zk t)) (fun v => trivial)
    (fun s t _ _ i1 i2 => by rw [zk_150]; exact okm_app i1 i2)
    (fun e s t e2 o1 _ _ o2 i1 i2 => fk (Or.inl ⟨rfl, rfl, rfl⟩) o1 o2 i1 i2)
    (fun e s t e2 o1 _ _ o2 i1 i2 => fk (Or.inr ⟨rfl, rfl, rfl⟩) o1 o2 i1 i2)
    (fun e s o1 _ i1 => by
      rw [zk_wh]
      exact okm_c (by simp) (okm_app (zk_okm e 0 o1.1) (okm_c (by simp) (okm_app i1 (okm_c (by simp) (okm_c (by simp) trivial))))))
    (fun e s t o1 _ _ i1 i2 => by
      rw [zk_wn]
      exact okm_c (by simp) (okm_app (zk_okm e 0 o1.1) (okm_c (by simp) (okm_app i1 (okm_c (by simp) (okm_c (by simp) (okm_c (by simp) (okm_app i2 (okm_c (by simp) (okm_c (by simp) trivial))))))))))
    (fun k l r hk => by
      rcases hk with ⟨q, ⟨x, e, hx⟩, oe, -⟩ | ⟨q, ⟨x, e, hx⟩, y, e2, hy⟩ | ⟨q, ⟨x, e, hx⟩, j, f, e2, j1, j2, oe, -⟩ | ⟨q, ⟨x, e, hx⟩, e2⟩ | ⟨q, o1, o2⟩ | ⟨q, o1, o2, -⟩
      · subst e
        have w : zk (zB k (zL x) r) = (5, k - 100) :: (1, x) :: (7, 61) :: (zk r ++ [(7, 59)]) := by rcases q with q | q | q <;> subst q <;> rfl
        rw [w]
        exact okm_c (by simp) (okm_c (by simp) (okm_c (by simp) (okm_app (zk_okm r 0 oe.1) (okm_c (by simp) trivial))))
      · subst e; subst e2
        have w : zk (zB k (zL x) (zL y)) = [(5, k - 100), (1, x), (4, y), (7, 59)] := by rcases q with q | q <;> subst q <;> rfl
        rw [w]
        exact okm_c (by simp) (okm_c (by simp) (okm_c (by simp) (okm_c (by simp) trivial)))
      · subst e; subst e2
        have ej : zk (zB j f (zL 0)) = (5, j - 143) :: zk f := by
          have : j = 160 ∨ j = 161 ∨ j = 162 ∨ j = 163 ∨ j = 164 := by omega
          rcases this with y | y | y | y | y <;> subst y <;> rfl
        have w : zk (zB k (zL x) (zB j f (zL 0))) = (5, k - 100) :: (3, x) :: (zk (zB j f (zL 0)) ++ [(7, 59)]) := by rcases q with q | q <;> subst q <;> rfl
        rw [w, ej]
        exact okm_c (by simp) (okm_c (by simp) (okm_c (by simp) (okm_app (zk_okm f 0 oe.1) (okm_c (by simp) trivial))))
      · subst e; subst e2
        have w : zk (zB k (zL x) (zL 0)) = [(5, k - 100), (2, x), (7, 59)] := by rcases q with q | q <;> subst q <;> rfl
        rw [w]
        exact okm_c (by simp) (okm_c (by simp) (okm_c (by simp) trivial))
      · subst q
        show okm (zk l ++ (6, 3) :: (zk r ++ [(7, 59)]))
        exact okm_app (zk_okmp o1) (okm_c (by simp) (okm_app (zk_okmp o2) (okm_c (by simp) trivial)))
      · have w : zk (zB k l r) = zk l ++ (6, k - 130) :: (zk r ++ [(7, 59)]) := by
          have : k = 130 ∨ k = 131 ∨ k = 132 ∨ k = 134 ∨ k = 135 := by omega
          rcases this with y | y | y | y | y <;> subst y <;> rfl
        rw [w]
        exact okm_app (zk_okmp o1) (okm_c (by simp) (okm_app (zk_okm r 0 o2.1) (okm_c (by simp) trivial))))
  exact fun t => ⟨(H t).1, (H t).2.1⟩
/-- the longest beginning of a kind -/
theorem pre_eq {p : Int → Bool} : ∀ {u v R S : List Int}, (∀ c ∈ u, p c = true) → (∀ c ∈ v, p c = true) → (R = [] ∨ ∃ c R', R = c :: R' ∧ p c = false) → (S = [] ∨ ∃ c S', S = c :: S' ∧ p c = false) → u ++ R = v ++ S → u = v ∧ R = S := by
  intro u
  induction u with
  | nil =>
    intro v R S _ hv hR hS e
    cases v with
    | nil => exact ⟨rfl, e⟩
    | cons c v =>
      exfalso
      have e' : R = c :: (v ++ S) := e
      rcases hR with z | ⟨c', R', z, q⟩
      · rw [z] at e'; cases e'
      · rw [z] at e'
        have := (List.cons.inj e').1
        rw [this, hv c (List.mem_cons_self ..)] at q
        cases q
  | cons b u ih =>
    intro v R S hu hv hR hS e
    cases v with
    | nil =>
      exfalso
      have e' : b :: (u ++ R) = S := e
      rcases hS with z | ⟨c', S', z, q⟩
      · rw [z] at e'; cases e'
      · rw [z] at e'
        have := (List.cons.inj e').1
        rw [← this, hu b (List.mem_cons_self ..)] at q
        cases q
    | cons c v =>
      have e' : b :: (u ++ R) = c :: (v ++ S) := e
      obtain ⟨e1, e2⟩ := List.cons.inj e'
      obtain ⟨i1, i2⟩ := ih (fun c hc => hu c (List.mem_cons_of_mem _ hc)) (fun c hc => hv c (List.mem_cons_of_mem _ hc)) hR hS e2
      exact ⟨by rw [e1, i1], i2⟩
