/-! WALKING an ordinary routine, in plain: why it stops (0: it does not), the state, how many moves -/
abbrev wR : Type := Nat × zS × Nat
def wh (g : zS → Nat → wR) (e : zT) (L : Nat) : Nat → zS → Nat → wR
  | 0, σ, c => (16, σ, c)
  | n + 1, σ, c => if c = L then (16, σ, c) else match ev σ bn0 bi0 e with
    | .inl w => (w, σ, c + 1)
    | .inr v => if v = 0 then (0, σ, c + 1) else if (g σ (c + 1)).1 = 0 then wh g e L n (g σ (c + 1)).2.1 (g σ (c + 1)).2.2 else g σ (c + 1)
def wk (L : Nat) : zT → Bool → zS → Nat → wR
  | .leaf _, _, σ, c => (0, σ, c)
  | .branch k l r, b, σ, c =>
    if k = 150 then (if (wk L l true σ c).1 = 0 then wk L r true (wk L l true σ c).2.1 (wk L l true σ c).2.2 else wk L l true σ c)
    else if k = 119 then (if b = true then wk L l true σ c else wk L r true σ c)
    else if k = 114 then (if c = L then (16, σ, c) else match ev σ bn0 bi0 r with
      | .inl w => (w, σ, c + 1)
      | .inr v => (0, su (su σ 0 (zn l) 1) 1 (zn l) (l_l2i v), c + 1))
    else if k = 115 then wh (fun σ c => wk L r true σ c) l L (L + 1 - c) σ c
    else if k = 116 then (if c = L then (16, σ, c) else match ev σ bn0 bi0 l with
      | .inl w => (w, σ, c + 1)
      | .inr v => wk L r (decide (v ≠ 0)) σ (c + 1))
    else (0, σ, c)
theorem wk_150 (L : Nat) (s t : zT) (σ : zS) (c : Nat) : wk L (zB 150 s t) true σ c = if (wk L s true σ c).1 = 0 then wk L t true (wk L s true σ c).2.1 (wk L s true σ c).2.2 else wk L s true σ c := by
  conv => lhs; unfold wk
  rw [if_pos rfl]
theorem wk_114 (L x : Nat) (r : zT) (σ : zS) (c : Nat) : wk L (zB 114 (zL x) r) true σ c = (if c = L then (16, σ, c) else match ev σ bn0 bi0 r with
      | .inl w => (w, σ, c + 1)
      | .inr v => (0, su (su σ 0 x 1) 1 x (l_l2i v), c + 1)) := by
  conv => lhs; unfold wk
  rw [if_neg (by decide), if_neg (by decide), if_pos rfl]; rfl
theorem wk_115 (L : Nat) (e s : zT) (σ : zS) (c : Nat) : wk L (zB 115 e s) true σ c = wh (fun σ c => wk L s true σ c) e L (L + 1 - c) σ c := by
  conv => lhs; unfold wk
  rw [if_neg (by decide), if_neg (by decide), if_neg (by decide), if_pos rfl]
theorem wk_116 (L : Nat) (e s t : zT) (σ : zS) (c : Nat) : wk L (zB 116 e (zB 119 s t)) true σ c = (if c = L then (16, σ, c) else match ev σ bn0 bi0 e with
      | .inl w => (w, σ, c + 1)
      | .inr v => if v = 0 then wk L t true σ (c + 1) else wk L s true σ (c + 1)) := by
  have e9 : ∀ b σ c, wk L (zB 119 s t) b σ c = if b = true then wk L s true σ c else wk L t true σ c := by
    intro b σ c
    conv => lhs; unfold wk
    rw [if_neg (by decide), if_pos rfl]
  conv => lhs; unfold wk
  rw [if_neg (by decide), if_neg (by decide), if_neg (by decide), if_neg (by decide), if_pos rfl]
  by_cases q : c = L
  · rw [if_pos q, if_pos q]
  · rw [if_neg q, if_neg q]
    cases ev σ bn0 bi0 e with
    | inl w => rfl
    | inr v =>
      dsimp only
      rw [e9]
      by_cases v0 : v = 0
      · rw [decide_eq_false (fun y => y v0), if_neg (by decide), if_pos v0]
      · rw [decide_eq_true v0, if_pos rfl, if_neg v0]
/-- a walk through a tree of this kind -/
def Wok (L : Nat) (g : zS → Nat → wR) : Prop := ∀ σ c, c ≤ L → c ≤ (g σ c).2.2 ∧ (g σ c).2.2 ≤ L ∧ (g σ c).1 < 17 ∧ (Zk σ → Zk (g σ c).2.1)
theorem wh_ok {L : Nat} {g : zS → Nat → wR} {e : zT} (oe : okE e) (hg : Wok L g) : ∀ n, Wok L (wh g e L n) := by
  intro n
  induction n with
  | zero => intro σ c hc; exact ⟨Nat.le_refl _, hc, by show 16 < 17; decide, id⟩
  | succ n ih =>
    intro σ c hc
    unfold wh
    by_cases q : c = L
    · rw [if_pos q]; exact ⟨Nat.le_refl _, hc, by show 16 < 17; decide, id⟩
    rw [if_neg q]
    cases hv : ev σ bn0 bi0 e with
    | inl w => exact ⟨by show c ≤ c + 1; omega, by show c + 1 ≤ L; omega, (ev_nz e 0 w oe.1 hv).2, id⟩
    | inr v =>
      dsimp only
      by_cases v0 : v = 0
      · rw [if_pos v0]; exact ⟨by show c ≤ c + 1; omega, by show c + 1 ≤ L; omega, by show 0 < 17; decide, id⟩
      rw [if_neg v0]
      obtain ⟨g1, g2, g3, g4⟩ := hg σ (c + 1) (by omega)
      by_cases y : (g σ (c + 1)).1 = 0
      · rw [if_pos y]
        obtain ⟨i1, i2, i3, i4⟩ := ih (g σ (c + 1)).2.1 (g σ (c + 1)).2.2 g2
        exact ⟨by omega, i2, i3, fun z => i4 (g4 z)⟩
      · rw [if_neg y]
        exact ⟨by omega, g2, g3, g4⟩
theorem Zk_set {σ : zS} {x : Nat} {v : Int} (z : Zk σ) : Zk (su (su σ 0 x 1) 1 x (l_l2i v)) := Zk_1 (l2i2 v) (Zk_o (Or.inl rfl) z)
theorem wk_ok (L : Nat) : ∀ t : zT, (okS t 0 → zun true t → Wok L (fun σ c => wk L t true σ c)) ∧ (okS t 1 → zun true t → Wok L (fun σ c => wk L t true σ c)) := by
  have H := ok_ind (P0 := fun t => zun true t → Wok L (fun σ c => wk L t true σ c)) (P1 := fun t => zun true t → Wok L (fun σ c => wk L t true σ c))
    (fun v u σ c hc => ⟨Nat.le_refl _, hc, by show 0 < 17; decide, id⟩)
    (fun s t o1 o2 i1 i2 u σ c hc => by
      dsimp only
      rw [wk_150]
      obtain ⟨a1, a2, a3, a4⟩ := i1 u.1 σ c hc
      dsimp only at a1 a2 a3 a4
      by_cases y : (wk L s true σ c).1 = 0
      · rw [if_pos y]
        obtain ⟨b1, b2, b3, b4⟩ := i2 u.2 _ _ a2
        exact ⟨Nat.le_trans a1 b1, b2, b3, fun z => b4 (a4 z)⟩
      · rw [if_neg y]; exact ⟨a1, a2, a3, a4⟩)
    (fun e a b e2 _ _ _ _ _ _ u => absurd (show true = false ∧ _ from u).1 (by decide))
    (fun e a b e2 _ _ _ _ _ _ u => absurd (show true = false ∧ _ from u).1 (by decide))
    (fun e a oe oa ia u σ c hc => by
      dsimp only
      rw [wk_115]
      exact wh_ok oe (ia (show true = true ∧ zun true a from u).2) _ σ c hc)
    (fun e a b oe oa ob ia ib u σ c hc => by
      dsimp only
      have u' : true = true ∧ zun true a ∧ zun true b := u
      rw [wk_116]
      by_cases q : c = L
      · rw [if_pos q]; exact ⟨Nat.le_refl _, hc, by show 16 < 17; decide, id⟩
      rw [if_neg q]
      cases hv : ev σ bn0 bi0 e with
      | inl w => exact ⟨by show c ≤ c + 1; omega, by show c + 1 ≤ L; omega, (ev_nz e 0 w oe.1 hv).2, id⟩
      | inr v =>
        dsimp only
        by_cases v0 : v = 0
        · rw [if_pos v0]
          obtain ⟨b1, b2, b3, b4⟩ := ib u'.2.2 σ (c + 1) (by omega)
          exact ⟨Nat.le_trans (Nat.le_succ c) b1, b2, b3, b4⟩
        · rw [if_neg v0]
          obtain ⟨b1, b2, b3, b4⟩ := ia u'.2.1 σ (c + 1) (by omega)
          exact ⟨Nat.le_trans (Nat.le_succ c) b1, b2, b3, b4⟩)
    (fun k l r h u σ c hc => by
      dsimp only
      by_cases q : k = 114
      · subst q
        obtain ⟨x, el, oe⟩ : ∃ x, l = zL x ∧ okE r := by
          rcases h with ⟨-, ⟨x, y1, -⟩, y2, -⟩ | ⟨y, -⟩ | ⟨y, -⟩ | ⟨y, -⟩ | ⟨y, -⟩ | ⟨y, -⟩
          · exact ⟨x, y1, y2⟩
          · omega
          · omega
          · omega
          · omega
          · omega
        subst el
        rw [wk_114]
        by_cases q : c = L
        · rw [if_pos q]; exact ⟨Nat.le_refl _, hc, by show 16 < 17; decide, id⟩
        rw [if_neg q]
        cases hv : ev σ bn0 bi0 r with
        | inl w => exact ⟨by show c ≤ c + 1; omega, by show c + 1 ≤ L; omega, (ev_nz r 0 w oe.1 hv).2, id⟩
        | inr v => exact ⟨by show c ≤ c + 1; omega, by show c + 1 ≤ L; omega, by show 0 < 17; decide, Zk_set⟩
      · exfalso
        have hk := ok1_k h
        unfold zun at u
        rw [if_neg (by omega), if_neg (by omega), if_neg (by omega), if_neg (by omega), if_neg q] at u
        cases u)
  exact fun t => ⟨(H t).1, (H t).2.1⟩
