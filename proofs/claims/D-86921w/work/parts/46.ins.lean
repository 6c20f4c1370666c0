/-! INSTRUCTIONS of a tree. An entry: 0 a step alone, 1 2 3 those of a step with others within (9: not joined yet); the step; where its code begins; where its tokens do -/
abbrev zEn : Type := Nat × zT × Nat × Nat
def zi : zT → zT × Nat × Nat → Nat → Nat → List zEn
  | .leaf _, _, _, _ => []
  | .branch k l r, u, b, p =>
    if k = 150 then zi l u b p ++ zi r u (b + zc l) (p + (zk l).length)
    else if k = 112 ∨ k = 117 then zi l u b (p + 1) ++ (2, u) :: zi r u (b + zc l + 1) (p + (zk l).length + 3)
    else if k = 113 ∨ k = 118 then zi l u b (p + 1) ++ [(3, u)]
    else if k = 108 ∨ k = 111 ∨ k = 116 then (1, .branch k l r, b, p) :: zi r (.branch k l r, b, p) (b + 1) (p + (zk l).length + 1)
    else if k = 115 then (1, .branch k l r, b, p) :: (zi r (.branch k l r, b, p) (b + 1) (p + (zk l).length + 2) ++ [(3, .branch k l r, b, p)])
    else if k = 119 then zi l u b (p + 1) ++ (2, u) :: (zi r u (b + zc l + 1) (p + (zk l).length + 4) ++ [(3, u)])
    else [(0, .branch k l r, b, p)]
/-- where the second of the three is -/
def zm (t : zT) (b : Nat) : Nat := b + 1 + zc (if zg t = 115 then zr t else zl (zr t))
/-- where the last is -/
def ze (t : zT) (b : Nat) : Nat := b + zc t - 1
theorem zi_150 (s t : zT) (u : zT × Nat × Nat) (b p : Nat) : zi (zB 150 s t) u b p = zi s u b p ++ zi t u (b + zc s) (p + (zk s).length) := by
  conv => lhs; unfold zi
  rw [if_pos rfl]
theorem zi_fk {k k2 k3 : Nat} {e s t e2 : zT} (hk : (k = 108 ∧ k2 = 112 ∧ k3 = 113) ∨ (k = 111 ∧ k2 = 117 ∧ k3 = 118)) (u : zT × Nat × Nat) (b p : Nat) : zi (zB k e (zB k2 s (zB k3 t e2))) u b p = (1, zB k e (zB k2 s (zB k3 t e2)), b, p) :: (zi s (zB k e (zB k2 s (zB k3 t e2)), b, p) (b + 1) (p + (zk e).length + 1 + 1) ++ (2, zB k e (zB k2 s (zB k3 t e2)), b, p) :: (zi t (zB k e (zB k2 s (zB k3 t e2)), b, p) (b + 1 + zc s + 1) (p + (zk e).length + 1 + (zk s).length + 3 + 1) ++ [(3, zB k e (zB k2 s (zB k3 t e2)), b, p)])) := by
  conv => lhs; unfold zi
  rw [if_neg (by omega), if_neg (by omega), if_neg (by omega), if_pos (by omega)]
  congr 1
  conv => lhs; unfold zi
  rw [if_neg (by omega), if_pos (by omega)]
  congr 2
  conv => lhs; unfold zi
  rw [if_neg (by omega), if_neg (by omega), if_pos (by omega)]
theorem zi_wh (e s : zT) (u : zT × Nat × Nat) (b p : Nat) : zi (zB 115 e s) u b p = (1, zB 115 e s, b, p) :: (zi s (zB 115 e s, b, p) (b + 1) (p + (zk e).length + 2) ++ [(3, zB 115 e s, b, p)]) := by
  conv => lhs; unfold zi
  rw [if_neg (by omega), if_neg (by omega), if_neg (by omega), if_neg (by omega), if_pos rfl]
theorem zi_wn (e s t : zT) (u : zT × Nat × Nat) (b p : Nat) : zi (zB 116 e (zB 119 s t)) u b p = (1, zB 116 e (zB 119 s t), b, p) :: (zi s (zB 116 e (zB 119 s t), b, p) (b + 1) (p + (zk e).length + 1 + 1) ++ (2, zB 116 e (zB 119 s t), b, p) :: (zi t (zB 116 e (zB 119 s t), b, p) (b + 1 + zc s + 1) (p + (zk e).length + 1 + (zk s).length + 4) ++ [(3, zB 116 e (zB 119 s t), b, p)])) := by
  conv => lhs; unfold zi
  rw [if_neg (by omega), if_neg (by omega), if_neg (by omega), if_pos (by omega)]
  rfl
theorem ok1_k {k : Nat} {l r : zT} (h : ok1 k l r) : (100 ≤ k ∧ k ≤ 107) ∨ k = 114 ∨ (130 ≤ k ∧ k ≤ 135) := by
  rcases h with ⟨q, -⟩ | ⟨q, -⟩ | ⟨q, -⟩ | ⟨q, -⟩ | ⟨q, -⟩ | ⟨q, -⟩ <;> omega
theorem zi_one {k : Nat} {l r : zT} (h : ok1 k l r) (u : zT × Nat × Nat) (b p : Nat) : zi (zB k l r) u b p = [(0, zB k l r, b, p)] := by
  have := ok1_k h
  conv => lhs; unfold zi
  rw [if_neg (by omega), if_neg (by omega), if_neg (by omega), if_neg (by omega), if_neg (by omega), if_neg (by omega)]
theorem zc_fk {k k2 k3 : Nat} {e s t e2 : zT} (hk : (k = 108 ∧ k2 = 112 ∧ k3 = 113) ∨ (k = 111 ∧ k2 = 117 ∧ k3 = 118)) : zc (zB k e (zB k2 s (zB k3 t e2))) = 3 + (zc s + zc t) := by
  rcases hk with ⟨rfl, rfl, rfl⟩ | ⟨rfl, rfl, rfl⟩ <;> rfl
theorem zi_len : ∀ t : zT, (okS t 0 → ∀ u b p, (zi t u b p).length = zc t) ∧ (okS t 1 → ∀ u b p, (zi t u b p).length = zc t) := by
  have H := ok_ind (P0 := fun t => ∀ u b p, (zi t u b p).length = zc t) (P1 := fun t => ∀ u b p, (zi t u b p).length = zc t) (fun v u b p => rfl)
    (fun s t _ _ i1 i2 u b p => by rw [zi_150, List.length_append, i1, i2]; rfl)
    (fun e a b e2 _ _ _ _ i1 i2 u c p => by rw [zi_fk (Or.inl ⟨rfl, rfl, rfl⟩), zc_fk (Or.inl ⟨rfl, rfl, rfl⟩)]; simp only [List.length_cons, List.length_append, List.length_nil, i1, i2]; omega)
    (fun e a b e2 _ _ _ _ i1 i2 u c p => by rw [zi_fk (Or.inr ⟨rfl, rfl, rfl⟩), zc_fk (Or.inr ⟨rfl, rfl, rfl⟩)]; simp only [List.length_cons, List.length_append, List.length_nil, i1, i2]; omega)
    (fun e a _ _ i1 u c p => by rw [zi_wh, show zc (zB 115 e a) = 2 + zc a from rfl]; simp only [List.length_cons, List.length_append, List.length_nil, i1]; omega)
    (fun e a b _ _ _ i1 i2 u c p => by rw [zi_wn, show zc (zB 116 e (zB 119 a b)) = 3 + (zc a + zc b) from rfl]; simp only [List.length_cons, List.length_append, List.length_nil, i1, i2]; omega)
    (fun k l r h u b p => by rw [zi_one h, (ok1_S h).2.1]; rfl)
  exact fun t => ⟨(H t).1, (H t).2.1⟩
/-! they lie in the heap -/
def RCe (h : hp) (lo hi : Nat) (e : zEn) (c : Nat) : Prop :=
  if e.1 = 0 then hT h c = (if zg e.2.1 = 106 ∨ zg e.2.1 = 107 then 35 else 36, 0) ∧ ∃ a, hR h c 0 = some a ∧ RT h lo hi e.2.1 [a]
  else hT h c = (37, 0) ∧ (∃ a, hR h c 0 = some a ∧ RT h lo hi e.2.1 [a]) ∧ (if e.1 = 9 then hI h c 1 = (e.2.2.1 : Nat) else hI h c 1 = (if zg e.2.1 = 108 then (e.1 : Int) - 1 else (e.1 : Int) + 2) ∧ hI h c 2 = (e.2.2.1 : Nat) ∧ hI h c 3 = (zm e.2.1 e.2.2.1 : Nat) ∧ hI h c 4 = (ze e.2.1 e.2.2.1 : Nat))
def RC (h : hp) (lo hi : Nat) : List zEn → List Nat → Prop
  | [], ys => ys = []
  | e :: es, ys => ∃ c cs, ys = c :: cs ∧ RCe h lo hi e c ∧ RC h lo hi es cs
theorem RCe_eq {h h' : hp} {lo hi c : Nat} {e : zEn} (hl : 145 ≤ lo) (hn : hN h ≤ hN h') (hs : ∀ c, lo ≤ c → c < hi → imm (hT h c).1 → sm h h' c) (hc : sm h h' c) (z : RCe h lo hi e c) : RCe h' lo hi e c := by
  unfold RCe at z ⊢
  by_cases q : e.1 = 0
  · rw [if_pos q] at z ⊢
    obtain ⟨z1, a, z2, z3⟩ := z
    exact ⟨hc.1.trans z1, a, (hc.2.2.2 0).trans z2, RT_eq hl hn hs z3⟩
  · rw [if_neg q] at z ⊢
    obtain ⟨z1, ⟨a, z2, z3⟩, z4⟩ := z
    refine ⟨hc.1.trans z1, ⟨a, (hc.2.2.2 0).trans z2, RT_eq hl hn hs z3⟩, ?_⟩
    by_cases q9 : e.1 = 9
    · rw [if_pos q9] at z4 ⊢
      exact (hc.2.1 1).trans z4
    · rw [if_neg q9] at z4 ⊢
      exact ⟨(hc.2.1 1).trans z4.1, (hc.2.1 2).trans z4.2.1, (hc.2.1 3).trans z4.2.2.1, (hc.2.1 4).trans z4.2.2.2⟩
theorem RC_eq {h h' : hp} {lo hi : Nat} (hl : 145 ≤ lo) (hn : hN h ≤ hN h') (hs : ∀ c, lo ≤ c → c < hi → imm (hT h c).1 → sm h h' c) : ∀ {es : List zEn} {ys : List Nat}, (∀ c ∈ ys, sm h h' c) → RC h lo hi es ys → RC h' lo hi es ys := by
  intro es
  induction es with
  | nil => intro ys _ z; exact z
  | cons e es ih =>
    intro ys hc z
    obtain ⟨c, cs, e1, z1, z2⟩ := z
    subst e1
    exact ⟨c, cs, rfl, RCe_eq hl hn hs (hc c (List.mem_cons_self ..)) z1, ih (fun x hx => hc x (List.mem_cons_of_mem _ hx)) z2⟩
theorem RC_app {h : hp} {lo hi : Nat} {fs : List zEn} {zs : List Nat} (w : RC h lo hi fs zs) : ∀ {es : List zEn} {ys : List Nat}, RC h lo hi es ys → RC h lo hi (es ++ fs) (ys ++ zs) := by
  intro es
  induction es with
  | nil => intro ys z; rw [show ys = [] from z]; exact w
  | cons e es ih =>
    intro ys z
    obtain ⟨c, cs, e1, z1, z2⟩ := z
    subst e1
    exact ⟨c, cs ++ zs, rfl, z1, ih z2⟩
theorem RC_len {h : hp} {lo hi : Nat} : ∀ {es : List zEn} {ys : List Nat}, RC h lo hi es ys → ys.length = es.length := by
  intro es
  induction es with
  | nil => intro ys z; rw [show ys = [] from z]; rfl
  | cons e es ih =>
    intro ys z
    obtain ⟨c, cs, e1, z1, z2⟩ := z
    subst e1
    rw [List.length_cons, List.length_cons, ih z2]
theorem RC_mono {h : hp} {lo hi lo2 hi2 : Nat} (h1 : lo2 ≤ lo) (h2 : hi ≤ hi2) : ∀ {es : List zEn} {ys : List Nat}, RC h lo hi es ys → RC h lo2 hi2 es ys := by
  intro es
  induction es with
  | nil => intro ys z; exact z
  | cons e es ih =>
    intro ys z
    obtain ⟨c, cs, e1, z1, z2⟩ := z
    refine ⟨c, cs, e1, ?_, ih z2⟩
    unfold RCe at z1 ⊢
    by_cases q : e.1 = 0
    · rw [if_pos q] at z1 ⊢
      obtain ⟨y1, a, y2, y3⟩ := z1
      exact ⟨y1, a, y2, RT_mono h1 h2 y3⟩
    · rw [if_neg q] at z1 ⊢
      obtain ⟨y1, ⟨a, y2, y3⟩, y4⟩ := z1
      exact ⟨y1, ⟨a, y2, RT_mono h1 h2 y3⟩, y4⟩
theorem RC_get {h : hp} {lo hi : Nat} : ∀ {es : List zEn} {ys : List Nat} {i : Nat} {e : zEn}, RC h lo hi es ys → es[i]? = some e → RCe h lo hi e (ys.getD i 0) := by
  intro es
  induction es with
  | nil => intro ys i e _ z; simp at z
  | cons f es ih =>
    intro ys i e z q
    obtain ⟨c, cs, e1, z1, z2⟩ := z
    subst e1
    cases i with
    | zero => simp at q; subst q; simpa using z1
    | succ i => simp at q; simpa using ih z2 q
theorem RL_arr {h : hp} {l arr : Nat} {xs : List Nat} (hS : St h) (z : RL h l xs arr) : arr < hN h ∧ (hT h arr).1 = 106 := by
  have := hS.1
  rcases z.2.2.2.2.2 with ⟨a, -⟩ | ⟨a1, a2, a3, cap, a4, -⟩
  · exact ⟨by omega, by rw [a, stt_1 hS]⟩
  · exact ⟨a2, by rw [a4]⟩
/-- a list that nothing has touched -/
theorem RL_sm {h h' : hp} {l arr : Nat} {xs : List Nat} (hS : St h) (hn : hN h ≤ hN h') (hs : ∀ c, c = l ∨ c = arr ∨ c ∈ xs → sm h h' c) (z : RL h l xs arr) : RL h' l xs arr :=
  RL_eq hn (fun c hc => hs c (hc.imp id (fun q => Or.inl q.1))) (fun x hx => by rw [(hs x (Or.inr (Or.inr hx))).1]; exact (z.2.2.2.1 x hx).2) z
