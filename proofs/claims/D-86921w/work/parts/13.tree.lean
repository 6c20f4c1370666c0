/-! TREES IN THE HEAP, and what reading leaves alone -/
def pxf (a j : Nat) : Prop := a = 68 ∧ (j = 2 ∨ j = 3 ∨ j = 4 ∨ j = 5)
/-- cell a is the same -/
def sm (h h' : hp) (a : Nat) : Prop := hT h' a = hT h a ∧ (∀ j, hI h' a j = hI h a j) ∧ (∀ j, hL h' a j = hL h a j) ∧ ∀ j, hR h' a j = hR h a j
def FA (h h' : hp) : Prop := hN h ≤ hN h' ∧ hU h ≤ hU h' ∧ ∀ a, a < hN h → hT h' a = hT h a ∧ (∀ j, pxf a j ∨ hI h' a j = hI h a j) ∧ (∀ j, hL h' a j = hL h a j) ∧ ∀ j, hR h' a j = hR h a j
theorem FA_refl (h : hp) : FA h h := ⟨Nat.le_refl _, Nat.le_refl _, fun _ _ => ⟨rfl, fun _ => Or.inr rfl, fun _ => rfl, fun _ => rfl⟩⟩
theorem FA_trans {h h1 h2 : hp} (a : FA h h1) (b : FA h1 h2) : FA h h2 := by
  refine ⟨Nat.le_trans a.1 b.1, Nat.le_trans a.2.1 b.2.1, fun c hc => ?_⟩
  obtain ⟨a1, a2, a3, a4⟩ := a.2.2 c hc
  obtain ⟨b1, b2, b3, b4⟩ := b.2.2 c (Nat.lt_of_lt_of_le hc a.1)
  refine ⟨b1.trans a1, fun j => ?_, fun j => (b3 j).trans (a3 j), fun j => (b4 j).trans (a4 j)⟩
  rcases a2 j with q | q
  · exact Or.inl q
  · rcases b2 j with z | z
    · exact Or.inl z
    · exact Or.inr (z.trans q)
theorem FA_sm {h h' : hp} (a : FA h h') {c : Nat} (hc : c < hN h) (h68 : c ≠ 68) : sm h h' c := by
  obtain ⟨a1, a2, a3, a4⟩ := a.2.2 c hc
  exact ⟨a1, fun j => (a2 j).resolve_left (fun q => h68 q.1), a3, a4⟩
theorem FA_FI {h h' : hp} (a : FI [2, 3, 4, 5] [] [] h h') : FA h h' := by
  obtain ⟨a1, a2, a3, a4, a5, a6⟩ := a
  refine ⟨by omega, by omega, fun c _ => ⟨by rw [a3], fun j => ?_, fun j => by rw [a4], fun j => by rw [a5]⟩⟩
  by_cases q : pG [2, 3, 4, 5] [] [] c j = false
  · exact Or.inr (a6 c j q)
  · left
    unfold pG at q
    simp at q
    unfold pxf
    omega
theorem FA_sI {h h' : hp} (a : FA h h') {c j : Nat} {x : Int} (hc : pxf c j ∨ hN h ≤ c) : FA h (sI h' c j x) := by
  refine ⟨a.1, a.2.1, fun b hb => ?_⟩
  obtain ⟨a1, a2, a3, a4⟩ := a.2.2 b hb
  refine ⟨a1, fun i => ?_, a3, a4⟩
  rw [hI_sI]
  by_cases q : b = c ∧ i = j
  · rcases hc with z | z
    · left; rw [q.1, q.2]; exact z
    · exact absurd q.1 (by omega)
  · rw [if_neg q]; exact a2 i
theorem FA_sR {h h' : hp} (a : FA h h') {c j : Nat} {x : Option Nat} (hc : hN h ≤ c) : FA h (sR h' c j x) := by
  refine ⟨a.1, a.2.1, fun b hb => ?_⟩
  obtain ⟨a1, a2, a3, a4⟩ := a.2.2 b hb
  refine ⟨a1, a2, a3, fun i => ?_⟩
  rw [hR_sR, if_neg (by omega)]; exact a4 i
theorem FA_new {h h' : hp} (a : FA h h') {k n c : Nat} : FA h (hNew h' k n c) := by
  have h1 := a.1
  have h2 := a.2.1
  refine ⟨by rw [hN_new]; omega, by rw [hU_new]; omega, fun b hb => ?_⟩
  obtain ⟨a1, a2, a3, a4⟩ := a.2.2 b hb
  rw [hT_new (by omega)]
  exact ⟨a1, fun i => by rw [hI_new (by omega)]; exact a2 i, fun i => by rw [hL_new (by omega)]; exact a3 i, fun i => by rw [hR_new (by omega)]; exact a4 i⟩
theorem FA_i {h h' : hp} (a : FA h h') (hS : St h) {b j : Nat} (hb : b < 145) (hp : ¬ pxf b j) : hI h' b j = hI h b j := ((a.2.2 b (Nat.lt_of_lt_of_le hb hS.1)).2.1 j).resolve_left hp
theorem FA_St {h h' : hp} (a : FA h h') (hS : St h) : St h' := by
  have h0 := hS.1
  have h1 := a.1
  refine ⟨by omega, fun p hp => ?_, fun p hp => ?_, fun p hp => ?_, fun k hk => ?_⟩
  · rw [(a.2.2 p.1 (by have := tgL_lt p hp; omega)).1]; exact hS.2.1 p hp
  · rw [(a.2.2 p.1 (by have := rfL_lt p hp; omega)).2.2.2]; exact hS.2.2.1 p hp
  · have hl := sxL_lt p hp
    obtain ⟨e1, e2, e3, e4, e5⟩ := hS.2.2.2.1 p hp
    refine ⟨by rw [(a.2.2 p.1 (by omega)).1]; exact e1, by rw [(a.2.2 p.1 (by omega)).2.2.2]; exact e2, ?_, by rw [(a.2.2 (p.1 + 1) (by omega)).1]; exact e4, fun j hj => ?_⟩
    · rw [FA_i a hS (by omega) (by unfold pxf; omega)]; exact e3
    · rw [FA_i a hS (by omega) (by unfold pxf; omega)]; exact e5 j hj
  · rw [FA_i a hS (by omega) (by unfold pxf; omega)]; exact hS.2.2.2.2 k hk
theorem FA_n {h h' : hp} (a : FA h h') (hS : St h) : hI h' 68 1 = hI h 68 1 := FA_i a hS (by omega) (by unfold pxf; omega)
/-- cell c outside of lo .. hi was written -/
def wr (h h' : hp) (c : Nat) : Prop := hN h' = hN h ∧ ∀ b, b ≠ c → sm h h' b
theorem sm_refl (h : hp) (a : Nat) : sm h h a := ⟨rfl, fun _ => rfl, fun _ => rfl, fun _ => rfl⟩
theorem sm_trans {h h1 h2 : hp} {a : Nat} (p : sm h h1 a) (q : sm h1 h2 a) : sm h h2 a := ⟨q.1.trans p.1, fun j => (q.2.1 j).trans (p.2.1 j), fun j => (q.2.2.1 j).trans (p.2.2.1 j), fun j => (q.2.2.2 j).trans (p.2.2.2 j)⟩
theorem sm_sI {h h' : hp} {b c j : Nat} {x : Int} (p : sm h h' b) (hb : b ≠ c) : sm h (sI h' c j x) b := ⟨p.1, fun i => by rw [hI_sI, if_neg (by omega)]; exact p.2.1 i, p.2.2.1, p.2.2.2⟩
theorem sm_sR {h h' : hp} {b c j : Nat} {x : Option Nat} (p : sm h h' b) (hb : b ≠ c) : sm h (sR h' c j x) b := ⟨p.1, p.2.1, p.2.2.1, fun i => by rw [hR_sR, if_neg (by omega)]; exact p.2.2.2 i⟩
theorem sm_new {h h' : hp} {b k n c : Nat} (p : sm h h' b) (hb : b < hN h') : sm h (hNew h' k n c) b := ⟨by rw [hT_new (by omega)]; exact p.1, fun i => by rw [hI_new (by omega)]; exact p.2.1 i, fun i => by rw [hL_new (by omega)]; exact p.2.2.1 i, fun i => by rw [hR_new (by omega)]; exact p.2.2.2 i⟩
/-- what cells are never changed once they are made -/
def imm (k : Nat) : Prop := (5 ≤ k ∧ k ≤ 44) ∨ k = 106
/-- the expression e lies at a, all of it within lo .. hi -/
def RE (h : hp) (lo hi : Nat) : zT → Nat → Prop
  | .leaf _, _ => False
  | .branch k l r, a => lo ≤ a ∧ a < hi ∧
    (if k = 2 then hT h a = (8, 0) ∧ hI h a 0 = (zn l : Nat)
    else if k = 1 then hT h a = (9, 0) ∧ hI h a 0 = (zn l : Nat)
    else if k = 35 then hT h a = (11, 0) ∧ hI h a 0 = (zn l : Nat)
    else if k = 3 then hT h a = (10, 0) ∧ hI h a 0 = (zn l : Nat) ∧ ∃ b, hR h a 1 = some b ∧ RE h lo hi r b
    else if k = 8 then hT h a = (12, 0) ∧ ∃ b, hR h a 0 = some b ∧ RE h lo hi l b
    else if k = 40 then hT h a = (15, 0) ∧ ∃ b, hR h a 0 = some b ∧ RE h lo hi l b
    else hT h a = (if k = 60 ∨ k = 61 then 14 else if zpro k = true then 16 else 17, 0) ∧ hI h a 2 = (k : Nat) ∧ ∃ b c, hR h a 0 = some b ∧ hR h a 1 = some c ∧ RE h lo hi l b ∧ RE h lo hi r c)
theorem RE_mono {h : hp} {lo hi lo2 hi2 : Nat} (h1 : lo2 ≤ lo) (h2 : hi ≤ hi2) : ∀ {e : zT} {a : Nat}, RE h lo hi e a → RE h lo2 hi2 e a := by
  intro e
  induction e with
  | leaf n => intro a k; exact k
  | branch k l r ihl ihr =>
    intro a z
    obtain ⟨z1, z2, z3⟩ := z
    refine ⟨by omega, by omega, ?_⟩
    by_cases k2 : k = 2
    · rw [if_pos k2] at z3 ⊢; exact z3
    rw [if_neg k2] at z3 ⊢
    by_cases k1 : k = 1
    · rw [if_pos k1] at z3 ⊢; exact z3
    rw [if_neg k1] at z3 ⊢
    by_cases k35 : k = 35
    · rw [if_pos k35] at z3 ⊢; exact z3
    rw [if_neg k35] at z3 ⊢
    by_cases k3 : k = 3
    · rw [if_pos k3] at z3 ⊢; obtain ⟨y1, y2, b, y3, y4⟩ := z3; exact ⟨y1, y2, b, y3, ihr y4⟩
    rw [if_neg k3] at z3 ⊢
    by_cases k8 : k = 8
    · rw [if_pos k8] at z3 ⊢; obtain ⟨y1, b, y3, y4⟩ := z3; exact ⟨y1, b, y3, ihl y4⟩
    rw [if_neg k8] at z3 ⊢
    by_cases k40 : k = 40
    · rw [if_pos k40] at z3 ⊢; obtain ⟨y1, b, y3, y4⟩ := z3; exact ⟨y1, b, y3, ihl y4⟩
    rw [if_neg k40] at z3 ⊢
    obtain ⟨y1, y2, b, c, y3, y4, y5, y6⟩ := z3; exact ⟨y1, y2, b, c, y3, y4, ihl y5, ihr y6⟩
theorem imm_in {k : Nat} (h1 : 5 ≤ k) (h2 : k ≤ 44) : imm k := Or.inl ⟨h1, h2⟩
theorem RE_eq {h h' : hp} {lo hi : Nat} (hs : ∀ c, lo ≤ c → c < hi → imm (hT h c).1 → sm h h' c) : ∀ {e : zT} {a : Nat}, RE h lo hi e a → RE h' lo hi e a := by
  intro e
  induction e with
  | leaf n => intro a k; exact k
  | branch k l r ihl ihr =>
    intro a z
    obtain ⟨z1, z2, z3⟩ := z
    refine ⟨z1, z2, ?_⟩
    by_cases k2 : k = 2
    · rw [if_pos k2] at z3 ⊢; obtain ⟨y1, y2⟩ := z3; have q := hs a z1 z2 (by rw [y1]; exact imm_in (by decide) (by decide)); exact ⟨q.1.trans y1, (q.2.1 0).trans y2⟩
    rw [if_neg k2] at z3 ⊢
    by_cases k1 : k = 1
    · rw [if_pos k1] at z3 ⊢; obtain ⟨y1, y2⟩ := z3; have q := hs a z1 z2 (by rw [y1]; exact imm_in (by decide) (by decide)); exact ⟨q.1.trans y1, (q.2.1 0).trans y2⟩
    rw [if_neg k1] at z3 ⊢
    by_cases k35 : k = 35
    · rw [if_pos k35] at z3 ⊢; obtain ⟨y1, y2⟩ := z3; have q := hs a z1 z2 (by rw [y1]; exact imm_in (by decide) (by decide)); exact ⟨q.1.trans y1, (q.2.1 0).trans y2⟩
    rw [if_neg k35] at z3 ⊢
    by_cases k3 : k = 3
    · rw [if_pos k3] at z3 ⊢; obtain ⟨y1, y2, b, y3, y4⟩ := z3; have q := hs a z1 z2 (by rw [y1]; exact imm_in (by decide) (by decide)); exact ⟨q.1.trans y1, (q.2.1 0).trans y2, b, (q.2.2.2 1).trans y3, ihr y4⟩
    rw [if_neg k3] at z3 ⊢
    by_cases k8 : k = 8
    · rw [if_pos k8] at z3 ⊢; obtain ⟨y1, b, y3, y4⟩ := z3; have q := hs a z1 z2 (by rw [y1]; exact imm_in (by decide) (by decide)); exact ⟨q.1.trans y1, b, (q.2.2.2 0).trans y3, ihl y4⟩
    rw [if_neg k8] at z3 ⊢
    by_cases k40 : k = 40
    · rw [if_pos k40] at z3 ⊢; obtain ⟨y1, b, y3, y4⟩ := z3; have q := hs a z1 z2 (by rw [y1]; exact imm_in (by decide) (by decide)); exact ⟨q.1.trans y1, b, (q.2.2.2 0).trans y3, ihl y4⟩
    rw [if_neg k40] at z3 ⊢
    obtain ⟨y1, y2, b, c, y3, y4, y5, y6⟩ := z3; have q := hs a z1 z2 (by rw [y1]; exact imm_in (by split; decide; split <;> decide) (by split; decide; split <;> decide)); exact ⟨q.1.trans y1, (q.2.1 2).trans y2, b, c, (q.2.2.2 0).trans y3, (q.2.2.2 1).trans y4, ihl y5, ihr y6⟩
/-- an expression has a tag of its own -/
theorem RE_tag {h : hp} {lo hi : Nat} {e : zT} {a : Nat} (z : RE h lo hi e a) : lo ≤ a ∧ a < hi := by
  cases e with
  | leaf n => exact z.elim
  | branch k l r => exact ⟨z.1, z.2.1⟩
theorem RE_FA {h h' : hp} {lo hi : Nat} (a : FA h h') (hl : 145 ≤ lo) (hh : hi ≤ hN h) {e : zT} {b : Nat} (z : RE h lo hi e b) : RE h' lo hi e b :=
  RE_eq (fun c h1 h2 _ => FA_sm a (by omega) (by omega)) z
/-! the constructors of expressions -/
theorem c_i7 {d : Nat} {Q : qt} {h : hp} {o : Nat} (hS : St h) (ht : (hT h o).1 ∈ [8, 9, 10, 11, 12, 14, 15, 16, 17]) (k : Q (.inl none) h) : Wc (d + 1) 251 [vR (some o)] h Q := se_X7_init hS ht k
theorem c_i8 {d : Nat} {Q : qt} {h : hp} {o : Nat} {v : Int} (hS : St h) (ht : hT h o = (8, 0)) (k : Q (.inl none) (sI h o 0 v)) : Wc (d + 2) 253 [vR (some o), vI v] h Q :=
  se_X8_init hS ht (c_i7 hS (by rw [ht]; decide) (ss_X8_init_4 hS ht k))
theorem c_i9 {d : Nat} {Q : qt} {h : hp} {o : Nat} {v : Int} (hS : St h) (ht : hT h o = (9, 0)) (k : Q (.inl none) (sI h o 0 v)) : Wc (d + 2) 257 [vR (some o), vI v] h Q :=
  se_X9_init hS ht (c_i7 hS (by rw [ht]; decide) (ss_X9_init_4 hS ht k))
theorem c_i11 {d : Nat} {Q : qt} {h : hp} {o : Nat} {v : Int} (hS : St h) (ht : hT h o = (11, 0)) (k : Q (.inl none) (sI h o 0 v)) : Wc (d + 2) 265 [vR (some o), vI v] h Q :=
  se_X11_init hS ht (c_i7 hS (by rw [ht]; decide) (ss_X11_init_4 hS ht k))
theorem c_i10 {d : Nat} {Q : qt} {h : hp} {o : Nat} {v : Int} {r : Option Nat} (hS : St h) (ht : hT h o = (10, 0)) (k : Q (.inl none) (sR (sI h o 0 v) o 1 r)) : Wc (d + 2) 261 [vR (some o), vI v, vR r] h Q :=
  se_X10_init hS ht (c_i7 hS (by rw [ht]; decide) (ss_X10_init_4 hS ht k))
theorem c_i12 {d : Nat} {Q : qt} {h : hp} {o : Nat} {r : Option Nat} (hS : St h) (ht : hT h o = (12, 0)) (k : Q (.inl none) (sR h o 0 r)) : Wc (d + 2) 269 [vR (some o), vR r] h Q :=
  se_X12_init hS ht (c_i7 hS (by rw [ht]; decide) (ss_X12_init_4 hS ht k))
theorem c_i15 {d : Nat} {Q : qt} {h : hp} {o : Nat} {r : Option Nat} (hS : St h) (ht : hT h o = (15, 0)) (k : Q (.inl none) (sR h o 0 r)) : Wc (d + 2) 280 [vR (some o), vR r] h Q :=
  se_X15_init hS ht (c_i7 hS (by rw [ht]; decide) (ss_X15_init_4 hS ht k))
theorem c_i13 {d : Nat} {Q : qt} {h : hp} {o : Nat} {v : Int} {r s : Option Nat} (hS : St h) (ht : (hT h o).1 ∈ [14, 16, 17]) (k : Q (.inl none) (sR (sI (sR h o 0 r) o 2 v) o 1 s)) : Wc (d + 2) 273 [vR (some o), vR r, vI v, vR s] h Q :=
  se_X13_init hS ht (c_i7 hS (by revert ht; simp; omega) (ss_X13_init_4 hS ht k))
theorem c_i17 {d : Nat} {Q : qt} {h : hp} {o : Nat} {v : Int} {r s : Option Nat} (hS : St h) (ht : hT h o = (17, 0)) (k : Q (.inl none) (sR (sI (sR h o 0 r) o 2 v) o 1 s)) : Wc (d + 3) 286 [vR (some o), vR r, vI v, vR s] h Q :=
  se_X17_init hS ht (c_i13 hS (by rw [ht]; decide) k)
theorem c_i16 {d : Nat} {Q : qt} {h : hp} {o : Nat} {v : Int} {r s : Option Nat} (hS : St h) (ht : hT h o = (16, 0)) (k : Q (.inl none) (sR (sI (sR h o 0 r) o 2 v) o 1 s)) : Wc (d + 3) 284 [vR (some o), vR r, vI v, vR s] h Q :=
  se_X16_init hS ht (c_i13 hS (by rw [ht]; decide) k)
theorem c_i14 {d : Nat} {Q : qt} {h : hp} {o : Nat} {v : Int} {r s : Option Nat} (hS : St h) (ht : hT h o = (14, 0)) (k : Q (.inl none) (sR (sI (sR h o 0 r) o 2 v) o 1 s)) : Wc (d + 3) 277 [vR (some o), vR r, vI v, vR s] h Q :=
  se_X14_init hS ht (c_i13 hS (by rw [ht]; decide) k)
