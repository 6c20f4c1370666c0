/-! places; bars against what was seen -/
def Br (σ : zS) (bn : Nat → Bool) (bi : Nat → Nat → Bool) (e : zT) : Prop := (∃ k, (zbits e).testBit k = true ∧ bn k = true) ∨ ∃ id i, (evS σ e id).testBit i = true ∧ bi id i = true
theorem Br_or {σ : zS} {bn : Nat → Bool} {bi : Nat → Nat → Bool} {e l r : zT} (h1 : zbits e = zbits l ||| zbits r) (h2 : ∀ id, evS σ e id = evS σ l id ||| evS σ r id) : Br σ bn bi e ↔ Br σ bn bi l ∨ Br σ bn bi r := by
  unfold Br
  rw [h1]
  constructor
  · rintro (⟨k, a, b⟩ | ⟨id, i, a, b⟩)
    · rw [Nat.testBit_or, Bool.or_eq_true] at a
      rcases a with a | a
      · exact Or.inl (Or.inl ⟨k, a, b⟩)
      · exact Or.inr (Or.inl ⟨k, a, b⟩)
    · rw [h2, Nat.testBit_or, Bool.or_eq_true] at a
      rcases a with a | a
      · exact Or.inl (Or.inr ⟨id, i, a, b⟩)
      · exact Or.inr (Or.inr ⟨id, i, a, b⟩)
  · rintro ((⟨k, a, b⟩ | ⟨id, i, a, b⟩) | (⟨k, a, b⟩ | ⟨id, i, a, b⟩))
    · exact Or.inl ⟨k, by rw [Nat.testBit_or, a, Bool.true_or], b⟩
    · exact Or.inr ⟨id, i, by rw [h2, Nat.testBit_or, a, Bool.true_or], b⟩
    · exact Or.inl ⟨k, by rw [Nat.testBit_or, a, Bool.or_true], b⟩
    · exact Or.inr ⟨id, i, by rw [h2, Nat.testBit_or, a, Bool.or_true], b⟩
theorem ev_bar {σ : zS} {bn : Nat → Bool} {bi : Nat → Nat → Bool} : ∀ (e : zT) (lv : Nat) (v : Int), zok e lv → ev σ bn0 bi0 e = .inr v → (Br σ bn bi e → ev σ bn bi e = .inl 6) ∧ (¬ Br σ bn bi e → ev σ bn bi e = .inr v) := by
  intro e
  induction e with
  | leaf n => intro lv v z; exact z.elim
  | branch c l r ihl ihr =>
    intro lv v z h
    by_cases k2 : c = 2
    · subst k2
      refine ⟨?_, fun _ => h⟩
      rintro (⟨k, a, b⟩ | ⟨id, i, a, b⟩)
      · exact absurd a (by show ¬ (0 : Nat).testBit k = true; rw [Nat.zero_testBit]; decide)
      · exact absurd a (by show ¬ (0 : Nat).testBit i = true; rw [Nat.zero_testBit]; decide)
    by_cases k1 : c = 1
    · subst k1
      have e0 : ∀ bn bi, ev σ bn bi (zB 1 l r) = (if σ 0 (zn l) = 0 then .inl 1 else if bn (zn l) = true then .inl 6 else .inr (σ 1 (zn l))) := fun _ _ => rfl
      rw [e0] at h ⊢
      split at h
      · cases h
      rename_i q
      rw [if_neg q]
      rw [if_neg Bool.false_ne_true] at h
      constructor
      · rintro (⟨k, a, b⟩ | ⟨id, i, a, b⟩)
        · have a' : (2 ^ zn l).testBit k = true := a
          rw [Nat.testBit_two_pow, decide_eq_true_eq] at a'
          subst a'; rw [if_pos b]
        · exact absurd a (by show ¬ (0 : Nat).testBit i = true; rw [Nat.zero_testBit]; decide)
      · intro nb
        rw [if_neg (fun b => nb (Or.inl ⟨zn l, by show (2 ^ zn l).testBit (zn l) = true; rw [Nat.testBit_two_pow, decide_eq_true rfl], b⟩))]
        exact h
    by_cases k35 : c = 35
    · subst k35
      refine ⟨?_, fun _ => h⟩
      rintro (⟨k, a, b⟩ | ⟨id, i, a, b⟩)
      · exact absurd a (by show ¬ (0 : Nat).testBit k = true; rw [Nat.zero_testBit]; decide)
      · exact absurd a (by show ¬ (0 : Nat).testBit i = true; rw [Nat.zero_testBit]; decide)
    by_cases k3 : c = 3
    · subst k3
      have e0 : ∀ bn bi, ev σ bn bi (zB 3 l r) = (match ev σ bn bi r with
        | .inl w => .inl w
        | .inr i => if σ 2 (zn l) < 0 then .inl 2 else if i < 0 ∨ σ 4 (σ 2 (zn l)).toNat ≤ i then .inl 3 else if bi (σ 2 (zn l)).toNat i.toNat = true then .inl 6 else .inr (σ 5 (12 * (σ 2 (zn l)).toNat + i.toNat))) := fun _ _ => rfl
      rw [e0] at h ⊢
      cases hr : ev σ bn0 bi0 r with
      | inl w => rw [hr] at h; cases h
      | inr i =>
        rw [hr] at h
        dsimp only at h
        split at h
        · cases h
        rename_i q1
        split at h
        · cases h
        rename_i q2
        rw [if_neg Bool.false_ne_true] at h
        obtain ⟨i1, i2⟩ := ihr 0 i z.2 hr
        have es : ∀ id', evS σ (zB 3 l r) id' = evS σ r id' ||| (if σ 2 (zn l) = (id' : Nat) then 2 ^ i.toNat else 0) := by
          intro id'
          show evS σ r id' ||| (match ev σ bn0 bi0 r with
            | .inl _ => 0
            | .inr i => if σ 2 (zn l) = (id' : Nat) then 2 ^ i.toNat else 0) = _
          rw [hr]
        obtain ⟨id, hid⟩ : ∃ id : Nat, σ 2 (zn l) = (id : Nat) := ⟨(σ 2 (zn l)).toNat, by omega⟩
        have up : Br σ bn bi r → Br σ bn bi (zB 3 l r) := by
          rintro (⟨k, a, b⟩ | ⟨id', j, a, b⟩)
          · exact Or.inl ⟨k, a, b⟩
          · exact Or.inr ⟨id', j, by rw [es, Nat.testBit_or, a, Bool.true_or], b⟩
        have dn : Br σ bn bi (zB 3 l r) → Br σ bn bi r ∨ bi id i.toNat = true := by
          rintro (⟨k, a, b⟩ | ⟨id', j, a, b⟩)
          · exact Or.inl (Or.inl ⟨k, a, b⟩)
          · rw [es, Nat.testBit_or, Bool.or_eq_true] at a
            rcases a with a | a
            · exact Or.inl (Or.inr ⟨id', j, a, b⟩)
            · split at a
              · rename_i q
                rw [Nat.testBit_two_pow, decide_eq_true_eq] at a
                have : id' = id := by omega
                subst this; subst a; exact Or.inr b
              · rw [Nat.zero_testBit] at a; cases a
        by_cases br : Br σ bn bi r
        · rw [i1 br]
          exact ⟨fun _ => rfl, fun nb => absurd (up br) nb⟩
        · rw [i2 br]
          dsimp only
          rw [if_neg q1, if_neg q2, hid, Int.toNat_natCast]
          rw [hid, Int.toNat_natCast] at h
          constructor
          · intro b
            rcases dn b with b | b
            · exact absurd b br
            · rw [if_pos b]
          · intro nb
            rw [if_neg (fun b => nb (Or.inr ⟨id, i.toNat, by rw [es, if_pos hid, Nat.testBit_or, Nat.testBit_two_pow, decide_eq_true rfl, Bool.or_true], b⟩))]
            exact h
    by_cases k8 : c = 8
    · subst k8
      have e0 : ∀ bn bi, ev σ bn bi (zB 8 l r) = (match ev σ bn bi l with
        | .inl w => .inl w
        | .inr v => .inr (l_neg v)) := fun _ _ => rfl
      rw [e0] at h ⊢
      have bb : Br σ bn bi (zB 8 l r) ↔ Br σ bn bi l := Iff.rfl
      cases hl : ev σ bn0 bi0 l with
      | inl w => rw [hl] at h; cases h
      | inr i =>
        rw [hl] at h
        obtain ⟨i1, i2⟩ := ihl 2 i z hl
        exact ⟨fun b => by rw [i1 (bb.mp b)], fun b => by rw [i2 (fun y => b (bb.mpr y))]; exact h⟩
    by_cases k40 : c = 40
    · subst k40
      exact ihl 0 v z h
    obtain ⟨hc, lv1, lv2, z1, z2⟩ := two_k z k1 k2 k35 k3 k8 k40
    have e0 : ∀ bn bi, ev σ bn bi (zB c l r) = (match ev σ bn bi l with
      | .inl w => .inl w
      | .inr x => (match ev σ bn bi r with
        | .inl w => .inl w
        | .inr y => rk c x y)) := by
      intro bn bi
      conv => lhs; unfold ev
      rw [if_neg k2, if_neg k1, if_neg k35, if_neg k3, if_neg k8, if_neg k40]
      rfl
    have bb : Br σ bn bi (zB c l r) ↔ Br σ bn bi l ∨ Br σ bn bi r := by
      refine Br_or ?_ (fun id => ?_)
      · conv => lhs; unfold zbits
        rw [if_neg k1, if_neg (by omega), if_neg k3, if_neg (by omega), if_neg (by omega), if_neg (by omega)]
      · conv => lhs; unfold evS
        rw [if_neg (by omega), if_neg k3, if_neg (by omega)]
    rw [e0] at h ⊢
    rw [bb]
    cases hl : ev σ bn0 bi0 l with
    | inl w => rw [hl] at h; cases h
    | inr x =>
      rw [hl] at h
      dsimp only at h
      cases hr : ev σ bn0 bi0 r with
      | inl w => rw [hr] at h; cases h
      | inr y =>
        rw [hr] at h
        dsimp only at h
        obtain ⟨a1, a2⟩ := ihl lv1 x z1 hl
        obtain ⟨b1, b2⟩ := ihr lv2 y z2 hr
        by_cases bl : Br σ bn bi l
        · rw [a1 bl]
          exact ⟨fun _ => rfl, fun nb => absurd (Or.inl bl) nb⟩
        · rw [a2 bl]
          dsimp only
          by_cases br : Br σ bn bi r
          · rw [b1 br]
            exact ⟨fun _ => rfl, fun nb => absurd (Or.inr br) nb⟩
          · rw [b2 br]
            exact ⟨fun b => absurd b (fun w => w.elim bl br), fun _ => h⟩
/-- a barred name that is not there bars nothing -/
theorem ev_nob {σ : zS} {bn : Nat → Bool} {bi : Nat → Nat → Bool} : ∀ (e : zT) (lv : Nat), zok e lv → (∀ k, bn k = true → zhas k e = false) → ev σ bn bi e = ev σ bn0 bi e := by
  intro e
  induction e with
  | leaf n => intro lv z; exact z.elim
  | branch c l r ihl ihr =>
    intro lv z hb
    by_cases k2 : c = 2
    · subst k2; rfl
    by_cases k1 : c = 1
    · subst k1
      show (if σ 0 (zn l) = 0 then _ else if bn (zn l) = true then _ else _) = (if σ 0 (zn l) = 0 then _ else if bn0 (zn l) = true then _ else _)
      have : ¬ bn (zn l) = true := fun q => by
        have := hb _ q
        have h1 : (zn l == zn l) = false := this
        simp at h1
      rw [if_neg this, if_neg Bool.false_ne_true]
    by_cases k35 : c = 35
    · subst k35; rfl
    by_cases k3 : c = 3
    · subst k3
      have e1 := ihr 0 z.2 (fun k q => by
        have h1 : (k == 26 + zn l || zhas k r) = false := hb k q
        rw [Bool.or_eq_false_iff] at h1; exact h1.2)
      show (match ev σ bn bi r with
        | .inl w => _
        | .inr i => _) = (match ev σ bn0 bi r with
        | .inl w => _
        | .inr i => _)
      rw [e1]
    by_cases k8 : c = 8
    · subst k8
      have e1 := ihl 2 z hb
      show (match ev σ bn bi l with
        | .inl w => _
        | .inr i => _) = (match ev σ bn0 bi l with
        | .inl w => _
        | .inr i => _)
      rw [e1]
    by_cases k40 : c = 40
    · subst k40
      exact ihl 0 z hb
    obtain ⟨hc, lv1, lv2, z1, z2⟩ := two_k z k1 k2 k35 k3 k8 k40
    have hz : ∀ k, zhas k (zB c l r) = (zhas k l || zhas k r) := by
      intro k
      conv => lhs; unfold zhas
      rw [if_neg k1, if_neg k2, if_neg k35, if_neg k3, if_neg (by omega)]
    have e1 := ihl lv1 z1 (fun k q => by have := hb k q; rw [hz, Bool.or_eq_false_iff] at this; exact this.1)
    have e2 := ihr lv2 z2 (fun k q => by have := hb k q; rw [hz, Bool.or_eq_false_iff] at this; exact this.2)
    have e0 : ∀ bn bi, ev σ bn bi (zB c l r) = (match ev σ bn bi l with
      | .inl w => .inl w
      | .inr x => (match ev σ bn bi r with
        | .inl w => .inl w
        | .inr y => rk c x y)) := by
      intro bn bi
      conv => lhs; unfold ev
      rw [if_neg k2, if_neg k1, if_neg k35, if_neg k3, if_neg k8, if_neg k40]
      rfl
    rw [e0, e0, e1, e2]
