/-! x: new cells; a list in the making -/
def Fw (n : Nat) (h h' : hp) : Prop := hN h ≤ hN h' ∧ hU h ≤ hU h' ∧ hU h' ≤ hU h + n ∧ St h' ∧ ∀ c, c < hN h → sm h h' c
theorem Fw_refl {h : hp} (hS : St h) : Fw 0 h h := ⟨Nat.le_refl _, Nat.le_refl _, Nat.le_refl _, hS, fun c _ => sm_refl _ _⟩
theorem Fw_trans {n m : Nat} {h h1 h2 : hp} (a : Fw n h h1) (b : Fw m h1 h2) : Fw (n + m) h h2 := by
  obtain ⟨a1, a2, a3, a4, a5⟩ := a
  obtain ⟨b1, b2, b3, b4, b5⟩ := b
  exact ⟨by omega, by omega, by omega, b4, fun c hc => sm_trans (a5 c hc) (b5 c (by omega))⟩
theorem Fw_mono {n m : Nat} {h h1 : hp} (a : Fw n h h1) (hn : n ≤ m) : Fw m h h1 := ⟨a.1, a.2.1, by have := a.2.2.1; omega, a.2.2.2⟩
theorem Fw_new {h : hp} (hS : St h) {k n c : Nat} : Fw (c + 13) h (hNew h k n c) := ⟨by rw [hN_new]; omega, by rw [hU_new]; omega, by rw [hU_new]; omega, St_new hS, fun b hb => sm_new (sm_refl _ _) hb⟩
theorem Fw_sI {n : Nat} {h h' : hp} (a : Fw n h h') (hS : St h) {c j : Nat} {x : Int} (hc : hN h ≤ c) : Fw n h (sI h' c j x) := by
  have h145 := hS.1
  exact ⟨a.1, a.2.1, a.2.2.1, St_sI a.2.2.2.1 (by omega), fun b hb => sm_sI (a.2.2.2.2 b hb) (by omega)⟩
theorem Fw_sR {n : Nat} {h h' : hp} (a : Fw n h h') (hS : St h) {c j : Nat} {x : Option Nat} (hc : hN h ≤ c) : Fw n h (sR h' c j x) := by
  have h145 := hS.1
  exact ⟨a.1, a.2.1, a.2.2.1, St_sR a.2.2.2.1 (by unfold okRf; omega), fun b hb => sm_sR (a.2.2.2.2 b hb) (by omega)⟩
/-- cells of the old range or new ones -/
def PX (lo hi : Nat) (h h' : hp) (c : Nat) : Prop := (lo ≤ c ∧ c < hi) ∨ (hN h ≤ c ∧ c < hN h')
def AP (h0 : hp) (P0 : Nat → Prop) (h : hp) (l arr : Nat) (c : Nat) : Prop := (P0 c ∨ (hN h0 ≤ c ∧ c < hN h)) ∧ c ≠ l ∧ c ≠ arr
def LM (h0 : hp) (P0 : Nat → Prop) (h : hp) (l arr : Nat) (S : List zT) (xs : List Nat) : Prop := hN h0 ≤ l ∧ l < hN h ∧ RL h l xs arr ∧ (arr = 1 ∨ (hN h0 ≤ arr ∧ arr < hN h)) ∧ RTp h (AP h0 P0 h l arr) (zol S) xs
theorem LM_Fw {n : Nat} {h0 h h1 : hp} {P0 : Nat → Prop} {l arr : Nat} {S : List zT} {xs : List Nat} (hP : ∀ c, P0 c → 145 ≤ c ∧ c < hN h0) (hS0 : St h0) (h01 : hN h0 ≤ hN h) (m : LM h0 P0 h l arr S xs) (a : Fw n h h1) : LM h0 P0 h1 l arr S xs := by
  obtain ⟨m1, m2, m3, m4, m5⟩ := m
  have h145 := hS0.1
  have a1 := a.1
  have lx : ∀ x ∈ xs, x < hN h := fun x hx => (m3.2.2.2.1 x hx).1
  refine ⟨m1, by omega, RL_eq a1 (fun c hc => a.2.2.2.2 c ?_) (fun x hx => ?_) m3, m4.imp id (fun z => ⟨z.1, by omega⟩), RTp_eq a1 (fun c hc => ?_) m5⟩
  · rcases hc with e | ⟨e, e2⟩
    · rw [e]; exact m2
    · rw [e]
      rcases m4 with z | z
      · omega
      · exact z.2
  · rw [(a.2.2.2.2 x (lx x hx)).1]; exact (m3.2.2.2.1 x hx).2
  · obtain ⟨c1, c2, c3⟩ := hc
    have hcn : c < hN h := by
      rcases c1 with z | z
      · have := (hP c z).2; omega
      · exact z.2
    exact ⟨⟨c1.imp id (fun z => ⟨z.1, by omega⟩), c2, c3⟩, a.2.2.2.2 c hcn⟩
/-- what an add to the list leaves alone -/
def Fl (N : Nat) (h0 h h' : hp) (l arr : Nat) : Prop := hN h ≤ hN h' ∧ hU h ≤ hU h' ∧ hU h' ≤ hU h + N ∧ St h' ∧ ∀ c, c < hN h → c ≠ l → (c ≠ arr ∨ c < hN h0) → sm h h' c
theorem LM_add {N d : Nat} {Q : qt} {h0 h : hp} {P0 : Nat → Prop} {l arr x : Nat} {S : List zT} {s : zT} {xs : List Nat} (hP : ∀ c, P0 c → 145 ≤ c ∧ c < hN h0) (hS0 : St h0) (h01 : hN h0 ≤ hN h) (hS : St h) (m : LM h0 P0 h l arr S xs) (hx : RTp h (AP h0 P0 h l arr) s [x]) (ht : (hT h x).1 ≤ 37) (hN0 : xs.length + xs.length / 2 + 23 ≤ N) (hbu : hU h + N ≤ BUD) (h162 : xs.length ≤ 162)
    (k : ∀ h' arr', Fl N h0 h h' l arr → LM h0 P0 h' l arr' (S ++ [s]) (xs ++ [x]) → (arr' = arr ∨ hN h ≤ arr') → Q (.inl (some (vI 1))) h') : Wc (d + 8) 401 [vR (some l), vR (some x)] h Q := by
  obtain ⟨m1, m2, m3, m4, m5⟩ := m
  have h145 := hS0.1
  have px := RTp_P hx x (List.mem_singleton.mpr rfl)
  have hxn : x < hN h := by
    rcases px.1 with z | z
    · have := (hP x z).2; omega
    · exact z.2
  refine c_addG hS (by omega) m2 m3 ⟨hxn, ht⟩ px.2.1 hN0 hbu h162 (fun h' arr' r1 r2 r3 r4 r5 r6 => ?_)
  have hn' : hN h ≤ hN h' := by omega
  have na1 : arr = 1 → arr' ≠ arr := by
    intro z y
    rcases r1.2.2.2.2.2 with ⟨-, w⟩ | ⟨w, -⟩
    · simp at w
    · omega
  have fr : ∀ c, AP h0 P0 h l arr c → AP h0 P0 h' l arr' c ∧ sm h h' c := by
    intro c ⟨c1, c2, c3⟩
    have hcn : c < hN h := by
      rcases c1 with z | z
      · have := (hP c z).2; omega
      · exact z.2
    exact ⟨⟨c1.imp id (fun z => ⟨z.1, by omega⟩), c2, by omega⟩, r3 c hcn c2 (Or.inl c3)⟩
  refine k h' arr' ⟨hn', r4, r5, r6, fun c c1 c2 c3 => r3 c c1 c2 ?_⟩ ⟨m1, by omega, r1, ?_, RTp_app (RTp_eq hn' fr hx) (RTp_eq hn' fr m5)⟩ (by omega)
  · rcases c3 with z | z
    · exact Or.inl z
    · rcases m4 with y | y
      · exact Or.inr (na1 y)
      · exact Or.inl (by omega)
  · rcases m4 with y | y
    · have := na1 y; right; omega
    · right; omega
/-- a new part with an empty list -/
theorem LM_new {h : hp} (hS : St h) (P0 : Nat → Prop) : ∃ g, g = sR (sR (sI (hNew (hNew h 5 0 1) 44 0 3) (hN h + 1) 0 0) (hN h + 1) 1 (some 1)) (hN h) 0 (some (hN h + 1)) ∧ Fw 30 h g ∧ hN g = hN h + 2 ∧ hT g (hN h) = (5, 0) ∧ hR g (hN h) 0 = some (hN h + 1) ∧ LM h P0 g (hN h + 1) 1 [] [] := by
  have h145 := hS.1
  have hn1 : hN (hNew h 5 0 1) = hN h + 1 := hN_new
  refine ⟨_, rfl, ?_, ?_, ?_, ?_, by omega, ?_, ?_, Or.inl rfl, rfl⟩
  · exact Fw_sR (Fw_sR (Fw_sI (Fw_trans (Fw_new hS (k := 5) (n := 0) (c := 1)) (Fw_new (St_new hS) (k := 44) (n := 0) (c := 3))) hS (by omega)) hS (by omega)) hS (Nat.le_refl _)
  · show hN h + 1 + 1 = hN h + 2; omega
  · rw [hT_sR, hT_sR, hT_sI, hT_new (by rw [hn1]; omega), hT_newa rfl]
  · rw [hR_sR, if_pos ⟨rfl, rfl⟩]
  · show hN h + 1 < hN h + 1 + 1; omega
  · refine ⟨?_, ?_, ?_, fun x hx => (by cases hx), ?_, Or.inl ⟨rfl, rfl⟩⟩
    · rw [hT_sR, hT_sR, hT_sI, hT_newa hn1.symm]
    · rw [hR_sR, if_neg (by omega), hR_sR, if_pos ⟨rfl, rfl⟩]
    · rw [hI_sR, hI_sR, hI_sI, if_neg (by omega), hI_newa hn1.symm]; rfl
    · rw [hI_sR, hI_sR, hI_sI, if_pos ⟨rfl, rfl⟩]; rfl
/-! steps in the heap, made -/
theorem mkp_24 {k : Nat} (hk : k = 100 ∨ k = 101) {h : hp} {P : Nat → Prop} {l r : zT} {a b : Nat} (p : P a) (t : hT h a = (24, 0)) (i0 : hI h a 0 = (zn l : Nat)) (i2 : hI h a 2 = if k = 100 then 1 else 0) (r1 : hR h a 1 = some b) (e : REp h P r b) : RTp h P (zB k l r) [a] := by
  show RTp h P (.branch k l r) [a]
  unfold RTp
  rw [if_neg (by omega), if_neg (by omega), if_neg (by omega), if_neg (by omega)]
  refine ⟨a, rfl, p, ?_⟩
  rw [if_pos hk]
  exact ⟨t, i0, i2, b, r1, e⟩
theorem mkp_25 {k : Nat} (hk : k = 102 ∨ k = 103) {h : hp} {P : Nat → Prop} {l r : zT} {a : Nat} (p : P a) (t : hT h a = (25, 0)) (i0 : hI h a 0 = (zn l : Nat)) (i1 : hI h a 1 = (zn r : Nat)) (i2 : hI h a 2 = if k = 102 then 1 else 0) : RTp h P (zB k l r) [a] := by
  show RTp h P (.branch k l r) [a]
  unfold RTp
  rw [if_neg (by omega), if_neg (by omega), if_neg (by omega), if_neg (by omega)]
  refine ⟨a, rfl, p, ?_⟩
  rw [if_neg (by omega), if_neg (by omega), if_pos hk]
  exact ⟨t, i0, i1, i2⟩
theorem mkp_26 {k : Nat} (hk : k = 104 ∨ k = 105) {h : hp} {P : Nat → Prop} {l r : zT} {a b : Nat} (p : P a) (t : hT h a = (26, 0)) (i0 : hI h a 0 = (zn l : Nat)) (i1 : hI h a 1 = (zg r : Int) - 160) (i3 : hI h a 3 = if k = 104 then 1 else 0) (r1 : hR h a 2 = some b) (e : REp h P (zl r) b) : RTp h P (zB k l r) [a] := by
  show RTp h P (.branch k l r) [a]
  unfold RTp
  rw [if_neg (by omega), if_neg (by omega), if_neg (by omega), if_neg (by omega)]
  refine ⟨a, rfl, p, ?_⟩
  rw [if_neg (by omega), if_neg (by omega), if_neg (by omega), if_pos hk]
  exact ⟨t, i0, i1, i3, b, r1, e⟩
theorem mkp_27 {k : Nat} (hk : k = 106 ∨ k = 107) {h : hp} {P : Nat → Prop} {l r : zT} {a : Nat} (p : P a) (t : hT h a = (27, 0)) (i0 : hI h a 0 = (zn l : Nat)) (i1 : hI h a 1 = if k = 106 then 1 else 0) : RTp h P (zB k l r) [a] := by
  show RTp h P (.branch k l r) [a]
  unfold RTp
  rw [if_neg (by omega), if_neg (by omega), if_neg (by omega), if_neg (by omega)]
  refine ⟨a, rfl, p, ?_⟩
  rw [if_neg (by omega), if_neg (by omega), if_neg (by omega), if_neg (by omega), if_pos hk]
  exact ⟨t, i0, i1⟩
theorem mkp_20 {h : hp} {P : Nat → Prop} {l r : zT} {a b c : Nat} (p : P a) (t : hT h a = (20, 0)) (r0 : hR h a 0 = some b) (r1 : hR h a 1 = some c) (e : RPlp h P l b) (e2 : RPlp h P r c) : RTp h P (zB 133 l r) [a] := by
  show RTp h P (.branch 133 l r) [a]
  unfold RTp
  rw [if_neg (by decide), if_neg (by decide), if_neg (by decide), if_neg (by decide)]
  refine ⟨a, rfl, p, ?_⟩
  rw [if_neg (by decide), if_neg (by decide), if_neg (by decide), if_neg (by decide), if_neg (by decide), if_neg (by decide), if_neg (by decide), if_neg (by decide), if_pos rfl]
  exact ⟨t, b, c, r0, r1, e, e2⟩
theorem mkp_21 {k : Nat} (hk : 130 ≤ k ∧ k ≤ 135 ∧ k ≠ 133) {h : hp} {P : Nat → Prop} {l r : zT} {a b c : Nat} (p : P a) (t : hT h a = (21, 0)) (i1 : hI h a 1 = how k) (r0 : hR h a 0 = some b) (r2 : hR h a 2 = some c) (e : RPlp h P l b) (e2 : REp h P r c) : RTp h P (zB k l r) [a] := by
  show RTp h P (.branch k l r) [a]
  unfold RTp
  rw [if_neg (by omega), if_neg (by omega), if_neg (by omega), if_neg (by omega)]
  refine ⟨a, rfl, p, ?_⟩
  rw [if_neg (by omega), if_neg (by omega), if_neg (by omega), if_neg (by omega), if_neg (by omega), if_neg (by omega), if_neg (by omega), if_neg (by omega), if_neg (by omega)]
  exact ⟨t, i1, b, c, r0, r2, e, e2⟩
theorem mkp_fk {k k2 k3 : Nat} {e s t e2 : zT} (hk : (k = 108 ∧ k2 = 112 ∧ k3 = 113) ∨ (k = 111 ∧ k2 = 117 ∧ k3 = 118)) {h : hp} {P : Nat → Prop} {a b p q c : Nat} {ys zs : List Nat} (pa : P a) (ht : hT h a = (if k = 108 then 29 else 30, 0)) (r0 : hR h a 0 = some b) (r1 : hR h a 1 = some p) (r2 : hR h a 2 = some q) (r3 : hR h a 3 = some c) (re : REp h P e b) (rp : RPtp h P p ys) (rs : RTp h P s ys) (rq : RPtp h P q zs) (rt : RTp h P t zs) (re2 : REp h P e2 c) : RTp h P (zB k e (zB k2 s (zB k3 t e2))) [a] := by
  show RTp h P (.branch k e (.branch k2 s (.branch k3 t e2))) [a]
  unfold RTp
  rw [if_neg (by omega), if_neg (by omega), if_neg (by omega), if_neg (by omega)]
  refine ⟨a, rfl, pa, ?_⟩
  rw [if_neg (by omega), if_neg (by omega), if_neg (by omega), if_neg (by omega), if_neg (by omega), if_pos (by omega)]
  refine ⟨ht, b, p, q, c, r0, r1, r2, r3, re, ?_⟩
  unfold RTp
  rw [if_neg (by omega), if_pos (by omega)]
  refine ⟨p, q, c, ys, rfl, rp, rs, ?_⟩
  unfold RTp
  rw [if_neg (by omega), if_neg (by omega), if_pos (by omega)]
  exact ⟨q, c, zs, rfl, rq, rt, re2⟩
