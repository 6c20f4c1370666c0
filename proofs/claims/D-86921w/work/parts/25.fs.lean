/-! x READS STEPS: what it leaves alone -/
def psf (a j : Nat) : Prop := a = 68 ∧ (j = 2 ∨ j = 3 ∨ j = 4 ∨ j = 5 ∨ j = 9 ∨ j = 10)
def FS (h h' : hp) : Prop := hN h ≤ hN h' ∧ hU h ≤ hU h' ∧ ∀ a, a < hN h → hT h' a = hT h a ∧ (∀ j, psf a j ∨ hI h' a j = hI h a j) ∧ (∀ j, hL h' a j = hL h a j) ∧ ∀ j, hR h' a j = hR h a j
theorem FS_refl (h : hp) : FS h h := ⟨Nat.le_refl _, Nat.le_refl _, fun _ _ => ⟨rfl, fun _ => Or.inr rfl, fun _ => rfl, fun _ => rfl⟩⟩
theorem FS_trans {h h1 h2 : hp} (a : FS h h1) (b : FS h1 h2) : FS h h2 := by
  refine ⟨Nat.le_trans a.1 b.1, Nat.le_trans a.2.1 b.2.1, fun c hc => ?_⟩
  obtain ⟨a1, a2, a3, a4⟩ := a.2.2 c hc
  obtain ⟨b1, b2, b3, b4⟩ := b.2.2 c (Nat.lt_of_lt_of_le hc a.1)
  refine ⟨b1.trans a1, fun j => ?_, fun j => (b3 j).trans (a3 j), fun j => (b4 j).trans (a4 j)⟩
  rcases a2 j with q | q
  · exact Or.inl q
  · rcases b2 j with z | z
    · exact Or.inl z
    · exact Or.inr (z.trans q)
theorem FS_sm {h h' : hp} (a : FS h h') {c : Nat} (hc : c < hN h) (h68 : c ≠ 68) : sm h h' c := by
  obtain ⟨a1, a2, a3, a4⟩ := a.2.2 c hc
  exact ⟨a1, fun j => (a2 j).resolve_left (fun q => h68 q.1), a3, a4⟩
theorem FS_FA {h h' : hp} (a : FA h h') : FS h h' := ⟨a.1, a.2.1, fun c hc => ⟨(a.2.2 c hc).1, fun j => ((a.2.2 c hc).2.1 j).imp (fun q => ⟨q.1, by have := q.2; omega⟩) id, (a.2.2 c hc).2.2.1, (a.2.2 c hc).2.2.2⟩⟩
theorem FS_sI {h h' : hp} (a : FS h h') {c j : Nat} {x : Int} (hc : psf c j ∨ hN h ≤ c) : FS h (sI h' c j x) := by
  refine ⟨a.1, a.2.1, fun b hb => ?_⟩
  obtain ⟨a1, a2, a3, a4⟩ := a.2.2 b hb
  refine ⟨a1, fun i => ?_, a3, a4⟩
  rw [hI_sI]
  by_cases q : b = c ∧ i = j
  · rcases hc with z | z
    · left; rw [q.1, q.2]; exact z
    · exact absurd q.1 (by omega)
  · rw [if_neg q]; exact a2 i
theorem FS_sR {h h' : hp} (a : FS h h') {c j : Nat} {x : Option Nat} (hc : hN h ≤ c) : FS h (sR h' c j x) := by
  refine ⟨a.1, a.2.1, fun b hb => ?_⟩
  obtain ⟨a1, a2, a3, a4⟩ := a.2.2 b hb
  refine ⟨a1, a2, a3, fun i => ?_⟩
  rw [hR_sR, if_neg (by omega)]; exact a4 i
theorem FS_new {h h' : hp} (a : FS h h') {k n c : Nat} : FS h (hNew h' k n c) := by
  have h1 := a.1
  have h2 := a.2.1
  refine ⟨by rw [hN_new]; omega, by rw [hU_new]; omega, fun b hb => ?_⟩
  obtain ⟨a1, a2, a3, a4⟩ := a.2.2 b hb
  rw [hT_new (by omega)]
  exact ⟨a1, fun i => by rw [hI_new (by omega)]; exact a2 i, fun i => by rw [hL_new (by omega)]; exact a3 i, fun i => by rw [hR_new (by omega)]; exact a4 i⟩
theorem FS_i {h h' : hp} (a : FS h h') (hS : St h) {b j : Nat} (hb : b < 145) (hp : ¬ psf b j) : hI h' b j = hI h b j := ((a.2.2 b (Nat.lt_of_lt_of_le hb hS.1)).2.1 j).resolve_left hp
theorem FS_St {h h' : hp} (a : FS h h') (hS : St h) : St h' := by
  have h0 := hS.1
  have h1 := a.1
  refine ⟨by omega, fun p hp => ?_, fun p hp => ?_, fun p hp => ?_, fun k hk => ?_⟩
  · rw [(a.2.2 p.1 (by have := tgL_lt p hp; omega)).1]; exact hS.2.1 p hp
  · rw [(a.2.2 p.1 (by have := rfL_lt p hp; omega)).2.2.2]; exact hS.2.2.1 p hp
  · have hl := sxL_lt p hp
    obtain ⟨e1, e2, e3, e4, e5⟩ := hS.2.2.2.1 p hp
    refine ⟨by rw [(a.2.2 p.1 (by omega)).1]; exact e1, by rw [(a.2.2 p.1 (by omega)).2.2.2]; exact e2, ?_, by rw [(a.2.2 (p.1 + 1) (by omega)).1]; exact e4, fun j hj => ?_⟩
    · rw [FS_i a hS (by omega) (by unfold psf; omega)]; exact e3
    · rw [FS_i a hS (by omega) (by unfold psf; omega)]; exact e5 j hj
  · rw [FS_i a hS (by omega) (by unfold psf; omega)]; exact hS.2.2.2.2 k hk
theorem FS_n {h h' : hp} (a : FS h h') (hS : St h) : hI h' 68 1 = hI h 68 1 := FS_i a hS (by omega) (by unfold psf; omega)
theorem RE_FS {h h' : hp} {lo hi : Nat} (a : FS h h') (hl : 145 ≤ lo) (hh : hi ≤ hN h) {e : zT} {b : Nat} (z : RE h lo hi e b) : RE h' lo hi e b :=
  RE_eq (fun c h1 h2 _ => FS_sm a (by omega) (by omega)) z
theorem RL_eq {h h' : hp} {l : Nat} {xs : List Nat} {arr : Nat} (hn : hN h ≤ hN h') (hs : ∀ c, c = l ∨ c = arr ∧ 145 ≤ arr → sm h h' c) (hx : ∀ x ∈ xs, (hT h' x).1 ≤ 37) (z : RL h l xs arr) : RL h' l xs arr := by
  obtain ⟨z1, z2, z3, z4, z5, z6⟩ := z
  have q := hs l (Or.inl rfl)
  refine ⟨q.1.trans z1, (q.2.2.2 1).trans z2, (q.2.1 2).trans z3, fun x hxm => ⟨by have := (z4 x hxm).1; omega, hx x hxm⟩, (q.2.1 0).trans z5, ?_⟩
  rcases z6 with z | ⟨a1, a2, a3, cap, a4, a5, a6, a7, a8⟩
  · exact Or.inl z
  · have q2 := hs arr (Or.inr ⟨rfl, a1⟩)
    exact Or.inr ⟨a1, by omega, a3, cap, q2.1.trans a4, a5, a6, a7, fun j hj => (q2.2.2.2 j).trans (a8 j hj)⟩
theorem RT_mem {h : hp} {lo hi : Nat} : ∀ {t : zT} {xs : List Nat}, RT h lo hi t xs → ∀ x ∈ xs, lo ≤ x ∧ x < hi ∧ 5 ≤ (hT h x).1 ∧ (hT h x).1 ≤ 37 := by
  intro t
  induction t with
  | leaf n => intro xs z x hx; rw [show xs = [] from z] at hx; cases hx
  | branch k l r ihl ihr =>
    intro xs z x hx
    unfold RT at z
    have tagE : ∀ {e : zT} {b : Nat}, RE h lo hi e b → lo ≤ b ∧ b < hi ∧ 5 ≤ (hT h b).1 ∧ (hT h b).1 ≤ 37 := by
      intro e b q
      cases e with
      | leaf n => exact q.elim
      | branch k2 l2 r2 =>
        obtain ⟨q1, q2, q3⟩ := q
        refine ⟨q1, q2, ?_⟩
        repeat' (split at q3)
        all_goals (rw [q3.1]; first | decide | (split <;> (try split) <;> decide))
    by_cases k150 : k = 150
    · rw [if_pos k150] at z
      obtain ⟨y, ys, e, z1, z2⟩ := z
      rw [e] at hx
      rcases List.mem_cons.mp hx with q | q
      · rw [q]; exact ihl z1 y (List.mem_singleton.mpr rfl)
      · exact ihr z2 x q
    rw [if_neg k150] at z
    by_cases k112 : k = 112 ∨ k = 117
    · rw [if_pos k112] at z
      obtain ⟨p, q, b, ys, e, z1, z2, z3⟩ := z
      rw [e] at hx
      rcases List.mem_cons.mp hx with y | y
      · rw [y]; exact ⟨z1.1, z1.2.1, by rw [z1.2.2.1]; decide, by rw [z1.2.2.1]; decide⟩
      · exact ihr z3 x y
    rw [if_neg k112] at z
    by_cases k113 : k = 113 ∨ k = 118
    · rw [if_pos k113] at z
      obtain ⟨q, b, ys, e, z1, z2, z3⟩ := z
      rw [e] at hx
      rcases List.mem_cons.mp hx with y | y
      · rw [y]; exact ⟨z1.1, z1.2.1, by rw [z1.2.2.1]; decide, by rw [z1.2.2.1]; decide⟩
      · rw [List.mem_singleton.mp y]; exact tagE z3
    rw [if_neg k113] at z
    by_cases k119 : k = 119
    · rw [if_pos k119] at z
      obtain ⟨p, q, ys, zs, e, z1, z2, z3, z4⟩ := z
      rw [e] at hx
      rcases List.mem_cons.mp hx with y | y
      · rw [y]; exact ⟨z1.1, z1.2.1, by rw [z1.2.2.1]; decide, by rw [z1.2.2.1]; decide⟩
      · rw [List.mem_singleton.mp y]; exact ⟨z3.1, z3.2.1, by rw [z3.2.2.1]; decide, by rw [z3.2.2.1]; decide⟩
    rw [if_neg k119] at z
    obtain ⟨a, e, z1, z2, y⟩ := z
    rw [e] at hx
    rw [List.mem_singleton.mp hx]
    refine ⟨z1, z2, ?_⟩
    by_cases k100 : k = 100 ∨ k = 101
    · rw [if_pos k100] at y
      rw [y.1]; exact ⟨by decide, by decide⟩
    rw [if_neg k100] at y
    by_cases k114 : k = 114
    · rw [if_pos k114] at y
      rw [y.1]; exact ⟨by decide, by decide⟩
    rw [if_neg k114] at y
    by_cases k102 : k = 102 ∨ k = 103
    · rw [if_pos k102] at y
      rw [y.1]; exact ⟨by decide, by decide⟩
    rw [if_neg k102] at y
    by_cases k104 : k = 104 ∨ k = 105
    · rw [if_pos k104] at y
      rw [y.1]; exact ⟨by decide, by decide⟩
    rw [if_neg k104] at y
    by_cases k106 : k = 106 ∨ k = 107
    · rw [if_pos k106] at y
      rw [y.1]; exact ⟨by decide, by decide⟩
    rw [if_neg k106] at y
    by_cases k108 : k = 108 ∨ k = 111
    · rw [if_pos k108] at y
      rw [y.1]; split <;> exact ⟨by decide, by decide⟩
    rw [if_neg k108] at y
    by_cases k115 : k = 115
    · rw [if_pos k115] at y
      rw [y.1]; exact ⟨by decide, by decide⟩
    rw [if_neg k115] at y
    by_cases k116 : k = 116
    · rw [if_pos k116] at y
      rw [y.1]; exact ⟨by decide, by decide⟩
    rw [if_neg k116] at y
    by_cases k133 : k = 133
    · rw [if_pos k133] at y
      rw [y.1]; exact ⟨by decide, by decide⟩
    rw [if_neg k133] at y
    rw [y.1]; exact ⟨by decide, by decide⟩
theorem RT_mono {h : hp} {lo hi lo2 hi2 : Nat} (h1 : lo2 ≤ lo) (h2 : hi ≤ hi2) : ∀ {t : zT} {xs : List Nat}, RT h lo hi t xs → RT h lo2 hi2 t xs := by
  intro t
  induction t with
  | leaf n => intro xs z; exact z
  | branch k l r ihl ihr =>
    intro xs z
    unfold RT at z ⊢
    by_cases k150 : k = 150
    · rw [if_pos k150] at z ⊢; obtain ⟨y, ys, e, z1, z2⟩ := z; exact ⟨y, ys, e, ihl z1, ihr z2⟩
    rw [if_neg k150] at z ⊢
    by_cases k112 : k = 112 ∨ k = 117
    · rw [if_pos k112] at z ⊢; obtain ⟨p, q, b, ys, e, z1, z2, z3⟩ := z; exact ⟨p, q, b, ys, e, RPt_mono h1 h2 z1, ihl z2, ihr z3⟩
    rw [if_neg k112] at z ⊢
    by_cases k113 : k = 113 ∨ k = 118
    · rw [if_pos k113] at z ⊢; obtain ⟨q, b, ys, e, z1, z2, z3⟩ := z; exact ⟨q, b, ys, e, RPt_mono h1 h2 z1, ihl z2, RE_mono h1 h2 z3⟩
    rw [if_neg k113] at z ⊢
    by_cases k119 : k = 119
    · rw [if_pos k119] at z ⊢; obtain ⟨p, q, ys, zs, e, z1, z2, z3, z4⟩ := z; exact ⟨p, q, ys, zs, e, RPt_mono h1 h2 z1, ihl z2, RPt_mono h1 h2 z3, ihr z4⟩
    rw [if_neg k119] at z ⊢
    obtain ⟨a, e, z1, z2, y⟩ := z
    refine ⟨a, e, by omega, by omega, ?_⟩
    by_cases k100 : k = 100 ∨ k = 101
    · rw [if_pos k100] at y ⊢
      obtain ⟨a1, a2, a3, b, a4, a5⟩ := y; exact ⟨a1, a2, a3, b, a4, RE_mono h1 h2 a5⟩
    rw [if_neg k100] at y ⊢
    by_cases k114 : k = 114
    · rw [if_pos k114] at y ⊢
      obtain ⟨a1, a2, b, a4, a5⟩ := y; exact ⟨a1, a2, b, a4, RE_mono h1 h2 a5⟩
    rw [if_neg k114] at y ⊢
    by_cases k102 : k = 102 ∨ k = 103
    · rw [if_pos k102] at y ⊢
      exact y
    rw [if_neg k102] at y ⊢
    by_cases k104 : k = 104 ∨ k = 105
    · rw [if_pos k104] at y ⊢
      obtain ⟨a1, a2, a3, a6, b, a4, a5⟩ := y; exact ⟨a1, a2, a3, a6, b, a4, RE_mono h1 h2 a5⟩
    rw [if_neg k104] at y ⊢
    by_cases k106 : k = 106 ∨ k = 107
    · rw [if_pos k106] at y ⊢
      exact y
    rw [if_neg k106] at y ⊢
    by_cases k108 : k = 108 ∨ k = 111
    · rw [if_pos k108] at y ⊢
      obtain ⟨a1, b, p, q, c, b1, b2, b3, b4, b5, b6⟩ := y; exact ⟨a1, b, p, q, c, b1, b2, b3, b4, RE_mono h1 h2 b5, ihr b6⟩
    rw [if_neg k108] at y ⊢
    by_cases k115 : k = 115
    · rw [if_pos k115] at y ⊢
      obtain ⟨a1, b, p, ys, b1, b2, b3, b4, b5⟩ := y; exact ⟨a1, b, p, ys, b1, b2, RE_mono h1 h2 b3, RPt_mono h1 h2 b4, ihr b5⟩
    rw [if_neg k115] at y ⊢
    by_cases k116 : k = 116
    · rw [if_pos k116] at y ⊢
      obtain ⟨a1, b, p, q, b1, b2, b3, b4, b5⟩ := y; exact ⟨a1, b, p, q, b1, b2, b3, RE_mono h1 h2 b4, ihr b5⟩
    rw [if_neg k116] at y ⊢
    by_cases k133 : k = 133
    · rw [if_pos k133] at y ⊢
      obtain ⟨a1, b, c, b1, b2, b3, b4⟩ := y; exact ⟨a1, b, c, b1, b2, RPl_mono h1 h2 b3, RPl_mono h1 h2 b4⟩
    rw [if_neg k133] at y ⊢
    obtain ⟨a1, a2, b, c, b1, b2, b3, b4⟩ := y; exact ⟨a1, a2, b, c, b1, b2, RPl_mono h1 h2 b3, RE_mono h1 h2 b4⟩
theorem RPt_eq {h h' : hp} {lo hi : Nat} (hl : 145 ≤ lo) (hn : hN h ≤ hN h') (hs : ∀ c, lo ≤ c → c < hi → imm (hT h c).1 → sm h h' c) {p : Nat} {ys : List Nat} (hy : ∀ y ∈ ys, (hT h' y).1 ≤ 37) (z : RPt h lo hi p ys) : RPt h' lo hi p ys := by
  obtain ⟨z1, z2, z3, l, arr, z4, z5, z6, z7, z8⟩ := z
  have q := hs p z1 z2 (by rw [z3]; exact imm_in (by decide) (by decide))
  refine ⟨z1, z2, q.1.trans z3, l, arr, (q.2.2.2 0).trans z4, z5, z6, RL_eq hn (fun c hc => ?_) hy z7, z8⟩
  rcases hc with e | ⟨e, e2⟩
  · rw [e]; exact hs l z5 z6 (by rw [z7.1]; exact imm_in (by decide) (by decide))
  · rw [e]
    rcases z7.2.2.2.2.2 with ⟨w, -⟩ | ⟨-, -, -, cap, w, -⟩
    · omega
    · rcases z8 with v | v
      · omega
      · exact hs arr v.1 v.2 (by rw [w]; exact Or.inr rfl)
theorem RT_eq {h h' : hp} {lo hi : Nat} (hl : 145 ≤ lo) (hn : hN h ≤ hN h') (hs : ∀ c, lo ≤ c → c < hi → imm (hT h c).1 → sm h h' c) : ∀ {t : zT} {xs : List Nat}, RT h lo hi t xs → RT h' lo hi t xs := by
  have hm : ∀ {t : zT} {xs : List Nat}, RT h lo hi t xs → ∀ x ∈ xs, (hT h' x).1 ≤ 37 := by
    intro t xs z x hx
    obtain ⟨m1, m2, m3, m4⟩ := RT_mem z x hx
    rw [(hs x m1 m2 (imm_in m3 (by omega))).1]; exact m4
  intro t
  induction t with
  | leaf n => intro xs z; exact z
  | branch k l r ihl ihr =>
    intro xs z
    unfold RT at z ⊢
    by_cases k150 : k = 150
    · rw [if_pos k150] at z ⊢; obtain ⟨y, ys, e, z1, z2⟩ := z; exact ⟨y, ys, e, ihl z1, ihr z2⟩
    rw [if_neg k150] at z ⊢
    by_cases k112 : k = 112 ∨ k = 117
    · rw [if_pos k112] at z ⊢; obtain ⟨p, q, b, ys, e, z1, z2, z3⟩ := z; exact ⟨p, q, b, ys, e, RPt_eq hl hn hs (hm z2) z1, ihl z2, ihr z3⟩
    rw [if_neg k112] at z ⊢
    by_cases k113 : k = 113 ∨ k = 118
    · rw [if_pos k113] at z ⊢; obtain ⟨q, b, ys, e, z1, z2, z3⟩ := z; exact ⟨q, b, ys, e, RPt_eq hl hn hs (hm z2) z1, ihl z2, RE_eq hs z3⟩
    rw [if_neg k113] at z ⊢
    by_cases k119 : k = 119
    · rw [if_pos k119] at z ⊢; obtain ⟨p, q, ys, zs, e, z1, z2, z3, z4⟩ := z; exact ⟨p, q, ys, zs, e, RPt_eq hl hn hs (hm z2) z1, ihl z2, RPt_eq hl hn hs (hm z4) z3, ihr z4⟩
    rw [if_neg k119] at z ⊢
    obtain ⟨a, e, z1, z2, y⟩ := z
    refine ⟨a, e, z1, z2, ?_⟩
    by_cases k100 : k = 100 ∨ k = 101
    · rw [if_pos k100] at y ⊢
      obtain ⟨a1, a2, a3, b, a4, a5⟩ := y; have q := hs a z1 z2 (by rw [a1]; exact imm_in (by decide) (by decide)); exact ⟨q.1.trans a1, (q.2.1 0).trans a2, (q.2.1 2).trans a3, b, (q.2.2.2 1).trans a4, RE_eq hs a5⟩
    rw [if_neg k100] at y ⊢
    by_cases k114 : k = 114
    · rw [if_pos k114] at y ⊢
      obtain ⟨a1, a2, b, a4, a5⟩ := y; have q := hs a z1 z2 (by rw [a1]; exact imm_in (by decide) (by decide)); exact ⟨q.1.trans a1, (q.2.1 0).trans a2, b, (q.2.2.2 1).trans a4, RE_eq hs a5⟩
    rw [if_neg k114] at y ⊢
    by_cases k102 : k = 102 ∨ k = 103
    · rw [if_pos k102] at y ⊢
      obtain ⟨a1, a2, a3, a4⟩ := y; have q := hs a z1 z2 (by rw [a1]; exact imm_in (by decide) (by decide)); exact ⟨q.1.trans a1, (q.2.1 0).trans a2, (q.2.1 1).trans a3, (q.2.1 2).trans a4⟩
    rw [if_neg k102] at y ⊢
    by_cases k104 : k = 104 ∨ k = 105
    · rw [if_pos k104] at y ⊢
      obtain ⟨a1, a2, a3, a6, b, a4, a5⟩ := y; have q := hs a z1 z2 (by rw [a1]; exact imm_in (by decide) (by decide)); exact ⟨q.1.trans a1, (q.2.1 0).trans a2, (q.2.1 1).trans a3, (q.2.1 3).trans a6, b, (q.2.2.2 2).trans a4, RE_eq hs a5⟩
    rw [if_neg k104] at y ⊢
    by_cases k106 : k = 106 ∨ k = 107
    · rw [if_pos k106] at y ⊢
      obtain ⟨a1, a2, a3⟩ := y; have q := hs a z1 z2 (by rw [a1]; exact imm_in (by decide) (by decide)); exact ⟨q.1.trans a1, (q.2.1 0).trans a2, (q.2.1 1).trans a3⟩
    rw [if_neg k106] at y ⊢
    by_cases k108 : k = 108 ∨ k = 111
    · rw [if_pos k108] at y ⊢
      obtain ⟨a1, b, p, w, c, b1, b2, b3, b4, b5, b6⟩ := y; have q := hs a z1 z2 (by rw [a1]; exact imm_in (by split <;> decide) (by split <;> decide)); exact ⟨q.1.trans a1, b, p, w, c, (q.2.2.2 0).trans b1, (q.2.2.2 1).trans b2, (q.2.2.2 2).trans b3, (q.2.2.2 3).trans b4, RE_eq hs b5, ihr b6⟩
    rw [if_neg k108] at y ⊢
    by_cases k115 : k = 115
    · rw [if_pos k115] at y ⊢
      obtain ⟨a1, b, p, ys, b1, b2, b3, b4, b5⟩ := y; have q := hs a z1 z2 (by rw [a1]; exact imm_in (by decide) (by decide)); exact ⟨q.1.trans a1, b, p, ys, (q.2.2.2 0).trans b1, (q.2.2.2 1).trans b2, RE_eq hs b3, RPt_eq hl hn hs (hm b5) b4, ihr b5⟩
    rw [if_neg k115] at y ⊢
    by_cases k116 : k = 116
    · rw [if_pos k116] at y ⊢
      obtain ⟨a1, b, p, w, b1, b2, b3, b4, b5⟩ := y; have q := hs a z1 z2 (by rw [a1]; exact imm_in (by decide) (by decide)); exact ⟨q.1.trans a1, b, p, w, (q.2.2.2 0).trans b1, (q.2.2.2 1).trans b2, (q.2.2.2 2).trans b3, RE_eq hs b4, ihr b5⟩
    rw [if_neg k116] at y ⊢
    by_cases k133 : k = 133
    · rw [if_pos k133] at y ⊢
      obtain ⟨a1, b, c, b1, b2, b3, b4⟩ := y; have q := hs a z1 z2 (by rw [a1]; exact imm_in (by decide) (by decide)); exact ⟨q.1.trans a1, b, c, (q.2.2.2 0).trans b1, (q.2.2.2 1).trans b2, RPl_eq hs b3, RPl_eq hs b4⟩
    rw [if_neg k133] at y ⊢
    obtain ⟨a1, a2, b, c, b1, b2, b3, b4⟩ := y; have q := hs a z1 z2 (by rw [a1]; exact imm_in (by decide) (by decide)); exact ⟨q.1.trans a1, (q.2.1 1).trans a2, b, c, (q.2.2.2 0).trans b1, (q.2.2.2 2).trans b2, RPl_eq hs b3, RE_eq hs b4⟩
