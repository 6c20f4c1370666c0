/-! induction on good trees: P0 steps, P1 a step -/
theorem ok_ind {P0 P1 : zT → Prop} (h0 : ∀ v, P0 (.leaf v)) (h150 : ∀ s t, okS s 1 → okS t 0 → P1 s → P0 t → P0 (zB 150 s t))
    (h108 : ∀ e a b e2, okE e → okS a 0 → okS b 0 → okE e2 → P0 a → P0 b → P1 (zB 108 e (zB 112 a (zB 113 b e2))))
    (h111 : ∀ e a b e2, okE e → okS a 0 → okS b 0 → okE e2 → P0 a → P0 b → P1 (zB 111 e (zB 117 a (zB 118 b e2))))
    (h115 : ∀ e a, okE e → okS a 0 → P0 a → P1 (zB 115 e a))
    (h116 : ∀ e a b, okE e → okS a 0 → okS b 0 → P0 a → P0 b → P1 (zB 116 e (zB 119 a b)))
    (h1 : ∀ k l r, ok1 k l r → P1 (zB k l r)) : ∀ t : zT, (okS t 0 → P0 t) ∧ (okS t 1 → P1 t) ∧ (okS t 112 → ∃ a b e, t = zB 112 a (zB 113 b e) ∧ okS a 0 ∧ okS b 0 ∧ okE e ∧ P0 a ∧ P0 b) ∧ (okS t 117 → ∃ a b e, t = zB 117 a (zB 118 b e) ∧ okS a 0 ∧ okS b 0 ∧ okE e ∧ P0 a ∧ P0 b) ∧ (okS t 113 → ∃ b e, t = zB 113 b e ∧ okS b 0 ∧ okE e ∧ P0 b) ∧ (okS t 118 → ∃ b e, t = zB 118 b e ∧ okS b 0 ∧ okE e ∧ P0 b) ∧ (okS t 119 → ∃ a b, t = zB 119 a b ∧ okS a 0 ∧ okS b 0 ∧ P0 a ∧ P0 b) := by
  intro t
  induction t with
  | leaf v => exact ⟨fun _ => h0 v, fun z => absurd (show 1 = 0 from z) (by decide), fun z => absurd (show 112 = 0 from z) (by decide), fun z => absurd (show 117 = 0 from z) (by decide), fun z => absurd (show 113 = 0 from z) (by decide), fun z => absurd (show 118 = 0 from z) (by decide), fun z => absurd (show 119 = 0 from z) (by decide)⟩
  | branch k l r ihl ihr =>
    refine ⟨fun z => ?_, fun z => ?_, fun z => ?_, fun z => ?_, fun z => ?_, fun z => ?_, fun z => ?_⟩
    · unfold okS at z
      rw [if_pos rfl] at z
      obtain ⟨e, z1, z2⟩ := z
      subst e
      exact h150 l r z1 z2 (ihl.2.1 z1) (ihr.1 z2)
    · unfold okS at z
      rw [if_neg (by decide), if_neg (by decide), if_neg (by decide), if_neg (by decide), if_neg (by decide)] at z
      by_cases k1 : k = 108
      · subst k1
        rw [if_pos rfl] at z
        obtain ⟨a, b, e, e1, o1, o2, o3, p1, p2⟩ := ihr.2.2.1 z.2
        subst e1
        exact h108 l a b e z.1 o1 o2 o3 p1 p2
      rw [if_neg k1] at z
      by_cases k2 : k = 111
      · subst k2
        rw [if_pos rfl] at z
        obtain ⟨a, b, e, e1, o1, o2, o3, p1, p2⟩ := ihr.2.2.2.1 z.2
        subst e1
        exact h111 l a b e z.1 o1 o2 o3 p1 p2
      rw [if_neg k2] at z
      by_cases k3 : k = 115
      · subst k3
        rw [if_pos rfl] at z
        exact h115 l r z.1 z.2 (ihr.1 z.2)
      rw [if_neg k3] at z
      by_cases k4 : k = 116
      · subst k4
        rw [if_pos rfl] at z
        obtain ⟨a, b, e1, o1, o2, p1, p2⟩ := ihr.2.2.2.2.2.2 z.2
        subst e1
        exact h116 l a b z.1 o1 o2 p1 p2
      rw [if_neg k4] at z
      exact h1 k l r z
    · unfold okS at z
      rw [if_neg (by decide), if_pos rfl] at z
      obtain ⟨e, z1, z2⟩ := z
      obtain ⟨b, e2, q1, q2, q3, q4⟩ := ihr.2.2.2.2.1 z2
      subst e; subst q1
      exact ⟨l, b, e2, rfl, z1, q2, q3, ihl.1 z1, q4⟩
    · unfold okS at z
      rw [if_neg (by decide), if_neg (by decide), if_pos rfl] at z
      obtain ⟨e, z1, z2⟩ := z
      obtain ⟨b, e2, q1, q2, q3, q4⟩ := ihr.2.2.2.2.2.1 z2
      subst e; subst q1
      exact ⟨l, b, e2, rfl, z1, q2, q3, ihl.1 z1, q4⟩
    · unfold okS at z
      rw [if_neg (by decide), if_neg (by decide), if_neg (by decide), if_pos (by decide)] at z
      obtain ⟨e, z1, z2⟩ := z
      subst e
      exact ⟨l, r, rfl, z1, z2, ihl.1 z1⟩
    · unfold okS at z
      rw [if_neg (by decide), if_neg (by decide), if_neg (by decide), if_pos (by decide)] at z
      obtain ⟨e, z1, z2⟩ := z
      subst e
      exact ⟨l, r, rfl, z1, z2, ihl.1 z1⟩
    · unfold okS at z
      rw [if_neg (by decide), if_neg (by decide), if_neg (by decide), if_neg (by decide), if_pos rfl] at z
      obtain ⟨e, z1, z2⟩ := z
      subst e
      exact ⟨l, r, rfl, z1, z2, ihl.1 z1, ihr.1 z2⟩
/-! what lies in the heap, flat -/
theorem RT_cons {h : hp} {lo hi : Nat} {s t : zT} {xs : List Nat} (hR : RT h lo hi (zB 150 s t) xs) : ∃ x ys, xs = x :: ys ∧ RT h lo hi s [x] ∧ RT h lo hi t ys := by
  unfold RT at hR
  rw [if_pos rfl] at hR
  exact hR
theorem RT_fk {h : hp} {lo hi k k2 k3 a : Nat} {e s t e2 : zT} (hk : (k = 108 ∧ k2 = 112 ∧ k3 = 113) ∨ (k = 111 ∧ k2 = 117 ∧ k3 = 118)) (hR0 : RT h lo hi (zB k e (zB k2 s (zB k3 t e2))) [a]) : lo ≤ a ∧ a < hi ∧ hT h a = (if k = 108 then 29 else 30, 0) ∧ ∃ b p q c ys zs, hR h a 0 = some b ∧ hR h a 1 = some p ∧ hR h a 2 = some q ∧ hR h a 3 = some c ∧ RE h lo hi e b ∧ RPt h lo hi p ys ∧ RT h lo hi s ys ∧ RPt h lo hi q zs ∧ RT h lo hi t zs ∧ RE h lo hi e2 c := by
  unfold RT at hR0
  rw [if_neg (by omega), if_neg (by omega), if_neg (by omega), if_neg (by omega)] at hR0
  obtain ⟨x, e0, x1, x2, hR0⟩ := hR0
  cases e0
  rw [if_neg (by omega), if_neg (by omega), if_neg (by omega), if_neg (by omega), if_neg (by omega), if_pos (by omega)] at hR0
  obtain ⟨ht, b, p, q, c, f0, f1, f2, f3, re, rt⟩ := hR0
  unfold RT at rt
  rw [if_neg (by omega), if_pos (by omega)] at rt
  obtain ⟨p', q', b', ys, e3, r1, r2, r3⟩ := rt
  cases e3
  unfold RT at r3
  rw [if_neg (by omega), if_neg (by omega), if_pos (by omega)] at r3
  obtain ⟨q', b', zs, e4, s1, s2, s3⟩ := r3
  cases e4
  exact ⟨x1, x2, ht, b, p, q, c, ys, zs, f0, f1, f2, f3, re, r1, r2, s1, s2, s3⟩
theorem RT_wh {h : hp} {lo hi a : Nat} {e s : zT} (hR0 : RT h lo hi (zB 115 e s) [a]) : lo ≤ a ∧ a < hi ∧ hT h a = (31, 0) ∧ ∃ b p ys, hR h a 0 = some b ∧ hR h a 1 = some p ∧ RE h lo hi e b ∧ RPt h lo hi p ys ∧ RT h lo hi s ys := by
  unfold RT at hR0
  rw [if_neg (by omega), if_neg (by omega), if_neg (by omega), if_neg (by omega)] at hR0
  obtain ⟨x, e0, x1, x2, hR0⟩ := hR0
  cases e0
  rw [if_neg (by omega), if_neg (by omega), if_neg (by omega), if_neg (by omega), if_neg (by omega), if_neg (by omega), if_pos rfl] at hR0
  exact ⟨x1, x2, hR0⟩
theorem RT_wn {h : hp} {lo hi a : Nat} {e s t : zT} (hR0 : RT h lo hi (zB 116 e (zB 119 s t)) [a]) : lo ≤ a ∧ a < hi ∧ hT h a = (32, 0) ∧ ∃ b p q ys zs, hR h a 0 = some b ∧ hR h a 1 = some p ∧ hR h a 2 = some q ∧ RE h lo hi e b ∧ RPt h lo hi p ys ∧ RT h lo hi s ys ∧ RPt h lo hi q zs ∧ RT h lo hi t zs := by
  unfold RT at hR0
  rw [if_neg (by omega), if_neg (by omega), if_neg (by omega), if_neg (by omega)] at hR0
  obtain ⟨x, e0, x1, x2, hR0⟩ := hR0
  cases e0
  rw [if_neg (by omega), if_neg (by omega), if_neg (by omega), if_neg (by omega), if_neg (by omega), if_neg (by omega), if_neg (by omega), if_pos rfl] at hR0
  obtain ⟨ht, b, p, q, f0, f1, f2, re, rt⟩ := hR0
  unfold RT at rt
  rw [if_neg (by omega), if_neg (by omega), if_neg (by omega), if_pos rfl] at rt
  obtain ⟨p', q', ys, zs, e3, r1, r2, r3, r4⟩ := rt
  cases e3
  exact ⟨x1, x2, ht, b, p, q, ys, zs, f0, f1, f2, re, r1, r2, r3, r4⟩
/-! all steps of one sort: b whether they are ordinary -/
def zun (b : Bool) : zT → Prop
  | .leaf _ => True
  | .branch k l r =>
    if k = 150 ∨ k = 112 ∨ k = 117 ∨ k = 119 then zun b l ∧ zun b r
    else if k = 113 ∨ k = 118 then zun b l
    else if k = 108 ∨ k = 111 then b = false ∧ zun b r
    else if k = 115 ∨ k = 116 then b = true ∧ zun b r
    else if k = 114 then b = true
    else b = false
