/-! m LAYS the instructions of a tree -/
/-- what it does -/
def dz (e : zEn) : Int := if e.1 = 0 then (if zg e.2.1 < 130 then (zg e.2.1 : Int) - 100 else (zg e.2.1 : Int) - 110)
  else if e.1 = 1 then (zg e.2.1 : Int) - 100
  else if e.1 = 2 then (if zg e.2.1 = 108 then 9 else if zg e.2.1 = 111 then 13 else 31)
  else (if zg e.2.1 = 108 then 10 else if zg e.2.1 = 111 then 12 else if zg e.2.1 = 116 then 32 else 30)
/-- where what it is of begins -/
def oz (e : zEn) : Int := if e.1 = 0 ∧ zg e.2.1 < 130 then (e.2.2.2 : Int) + 1 else (e.2.2.2 : Int)
/-- where its E begins -/
def ez (e : zEn) : Int := if e.1 = 0 then (if zg e.2.1 < 130 then (e.2.2.2 : Int) + 3 else (e.2.2.2 : Int) + ((zk (zl e.2.1)).length : Nat) + 1) else (e.2.2.2 : Int) + 1
/-- where the other E begins -/
def lz (e : zEn) : Int := if zg e.2.1 = 108 ∨ zg e.2.1 = 111 then (e.2.2.2 : Int) + ((zk (zl e.2.1)).length + (zk (zl (zr e.2.1))).length + (zk (zl (zr (zr e.2.1)))).length + 7 : Nat) else (e.2.2.2 : Int) + 1
def ME (h : hp) (r i : Nat) (e : zEn) : Prop := hI h 127 (40 * r + i) = dz e ∧ hI h 128 (40 * r + i) = oz e ∧ hI h 129 (40 * r + i) = ez e ∧ (e.1 ≠ 0 → hI h 130 (40 * r + i) = lz e ∧ hI h 131 (40 * r + i) = (e.2.2.1 : Nat) ∧ hI h 132 (40 * r + i) = (zm e.2.1 e.2.2.1 : Nat) ∧ hI h 133 (40 * r + i) = (ze e.2.1 e.2.2.1 : Nat))
def MEs (h : hp) (r b : Nat) (es : List zEn) : Prop := ∀ i e, es[i]? = some e → ME h r (b + i) e
def sx (h h' : hp) (x : Nat) : Prop := ∀ a, 127 ≤ a → a ≤ 133 → hI h' a x = hI h a x
theorem sx_trans {h h1 h2 : hp} {x : Nat} (a : sx h h1 x) (b : sx h1 h2 x) : sx h h2 x := fun c c1 c2 => (b c c1 c2).trans (a c c1 c2)
theorem ME_eq {h h' : hp} {r i : Nat} {e : zEn} (s : sx h h' (40 * r + i)) (k : ME h r i e) : ME h' r i e := by
  obtain ⟨k1, k2, k3, k4⟩ := k
  exact ⟨(s 127 (by decide) (by decide)).trans k1, (s 128 (by decide) (by decide)).trans k2, (s 129 (by decide) (by decide)).trans k3, fun q => ⟨(s 130 (by decide) (by decide)).trans (k4 q).1, (s 131 (by decide) (by decide)).trans (k4 q).2.1, (s 132 (by decide) (by decide)).trans (k4 q).2.2.1, (s 133 (by decide) (by decide)).trans (k4 q).2.2.2⟩⟩
theorem MEs_nil {h : hp} {r b : Nat} : MEs h r b [] := fun i e q => by simp at q
theorem MEs_cons {h : hp} {r b : Nat} {e : zEn} {es : List zEn} (k1 : ME h r b e) (k2 : MEs h r (b + 1) es) : MEs h r b (e :: es) := by
  intro i f q
  cases i with
  | zero => simp at q; subst q; exact k1
  | succ i => simp at q; have := k2 i f q; rw [show b + 1 + i = b + (i + 1) by omega] at this; exact this
theorem MEs_app {h : hp} {r b : Nat} {es fs : List zEn} (k1 : MEs h r b es) (k2 : MEs h r (b + es.length) fs) : MEs h r b (es ++ fs) := by
  intro i f q
  by_cases hi : i < es.length
  · rw [List.getElem?_append_left hi] at q; exact k1 i f q
  · rw [List.getElem?_append_right (by omega)] at q
    have := k2 _ f q
    rw [show b + es.length + (i - es.length) = b + i by omega] at this; exact this
theorem MEs_eq {h h' : hp} {r b : Nat} {es : List zEn} (s : ∀ i, i < es.length → sx h h' (40 * r + (b + i))) (k : MEs h r b es) : MEs h' r b es := by
  intro i e q
  have hi : i < es.length := by
    by_cases z : i < es.length
    · exact z
    · rw [List.getElem?_eq_none (by omega)] at q; cases q
  exact ME_eq (s i hi) (k i e q)
/-- the instructions of r from b on, n of them, may change -/
def Fm (h h' : hp) (r b n : Nat) : Prop := FI [] [] [126, 127, 128, 129, 130, 131, 132, 133] h h' ∧ (∀ j, j ≠ r → hI h' 126 j = hI h 126 j) ∧ ∀ x, (x < 40 * r + b ∨ 40 * r + b + n ≤ x) → sx h h' x
theorem Fm_trans {h h1 h2 : hp} {r b n c m : Nat} (a : Fm h h1 r b n) (k : Fm h1 h2 r c m) (q1 : b ≤ c) (q2 : c + m ≤ b + n) : Fm h h2 r b n :=
  ⟨FI_trans a.1 k.1, fun j hj => (k.2.1 j hj).trans (a.2.1 j hj), fun x hx => sx_trans (a.2.2 x hx) (k.2.2 x (by omega))⟩
theorem Fm_mono {h h1 : hp} {r b n c m : Nat} (a : Fm h h1 r b n) (q1 : c ≤ b) (q2 : b + n ≤ c + m) : Fm h h1 r c m := ⟨a.1, a.2.1, fun x hx => a.2.2 x (by omega)⟩
theorem Fm_St {h h' : hp} {r b n : Nat} (a : Fm h h' r b n) (hS : St h) : St h' := FI_St a.1 hS rfl
theorem Fm_RK {h h' : hp} {r b n q : Nat} {ts : List (Nat × Nat)} (a : Fm h h' r b n) (k : RK h q ts) : RK h' q ts := RK_eq (fun j => FI_i a.1 rfl) (fun j => FI_i a.1 rfl) (fun j => FI_i a.1 rfl) k
theorem sx_sI {h h' : hp} {x a j : Nat} {v : Int} (k : sx h h' x) (hj : x ≠ j ∨ a < 127 ∨ 133 < a) : sx h (sI h' a j v) x := fun c c1 c2 => by rw [hI_sI, if_neg (by omega)]; exact k c c1 c2
theorem sx_refl (h : hp) (x : Nat) : sx h h x := fun _ _ _ => rfl
/-- one is added -/
theorem c_adds2 {d : Nat} {Q : qt} {h : hp} {r i : Nat} {v2 v3 v4 : Int} (hS : St h) (hr : r < 10) (hi : hI h 126 r = (i : Nat)) (h40 : i < 40) (k : ∀ h', Fm h h' r i 1 → hI h' 126 r = ((i + 1 : Nat) : Int) → hI h' 127 (40 * r + i) = v2 → hI h' 128 (40 * r + i) = v3 → hI h' 129 (40 * r + i) = v4 → Q (.inl (some (vI (i : Nat)))) h') : Wc (d + 1) 142 [vR (some 116), vI (r : Nat), vI v2, vI v3, vI v4] h Q := by
  refine c_adds hS hr hi h40 (k _ ⟨FI_sI (FI_sI (FI_sI (FI_sI (FI_refl h) rfl) rfl) rfl) rfl, fun j hj => ?_, fun x hx => ?_⟩ ?_ ?_ ?_ ?_)
  · rw [hI_sI, if_neg (by omega), hI_sI, if_neg (by omega), hI_sI, if_neg (by omega), hI_sI, if_neg (by omega)]
  · exact sx_sI (sx_sI (sx_sI (sx_sI (sx_refl _ _) (by omega)) (by omega)) (by omega)) (by omega)
  · rw [hI_sI, if_pos ⟨rfl, rfl⟩]
  · rw [hI_sI, if_neg (by omega), hI_sI, if_neg (by omega), hI_sI, if_neg (by omega), hI_sI, if_pos ⟨rfl, rfl⟩]
  · rw [hI_sI, if_neg (by omega), hI_sI, if_neg (by omega), hI_sI, if_pos ⟨rfl, rfl⟩]
  · rw [hI_sI, if_neg (by omega), hI_sI, if_pos ⟨rfl, rfl⟩]
theorem hI_jn {h : hp} {x a y : Nat} {f l i j k : Int} : hI (jn h x f l i j k) a y = if y = x then (if a = 129 then f else if a = 130 then l else if a = 131 then i else if a = 132 then j else if a = 133 then k else hI h a y) else hI h a y := by
  unfold jn
  by_cases q : y = x
  · rw [if_pos q, hI_sI, hI_sI, hI_sI, hI_sI, hI_sI]
    by_cases a1 : a = 133
    · rw [if_pos ⟨a1, q⟩, if_neg (by omega), if_neg (by omega), if_neg (by omega), if_neg (by omega), if_pos a1]
    rw [if_neg (fun z => a1 z.1)]
    by_cases a2 : a = 132
    · rw [if_pos ⟨a2, q⟩, if_neg (by omega), if_neg (by omega), if_neg (by omega), if_pos a2]
    rw [if_neg (fun z => a2 z.1)]
    by_cases a3 : a = 131
    · rw [if_pos ⟨a3, q⟩, if_neg (by omega), if_neg (by omega), if_pos a3]
    rw [if_neg (fun z => a3 z.1)]
    by_cases a4 : a = 130
    · rw [if_pos ⟨a4, q⟩, if_neg (by omega), if_pos a4]
    rw [if_neg (fun z => a4 z.1)]
    by_cases a5 : a = 129
    · rw [if_pos ⟨a5, q⟩, if_pos a5]
    rw [if_neg (fun z => a5 z.1), if_neg a5, if_neg a4, if_neg a3, if_neg a2, if_neg a1]
  · rw [if_neg q, hI_sI, if_neg (fun z => q z.2), hI_sI, if_neg (fun z => q z.2), hI_sI, if_neg (fun z => q z.2), hI_sI, if_neg (fun z => q z.2), hI_sI, if_neg (fun z => q z.2)]
theorem FI_jn {as : List Nat} {h h' : hp} {x : Nat} {f l i j k : Int} (a : FI [] [] as h h') (h1 : pG [] [] as 129 x = true) (h2 : pG [] [] as 130 x = true) (h3 : pG [] [] as 131 x = true) (h4 : pG [] [] as 132 x = true) (h5 : pG [] [] as 133 x = true) : FI [] [] as h (jn h' x f l i j k) := FI_sI (FI_sI (FI_sI (FI_sI (FI_sI a h1) h2) h3) h4) h5
/-- the three of them know one another -/
theorem c_joins2 {d : Nat} {Q : qt} {h : hp} {r i j k : Nat} {f l : Int} (hS : St h) (hr : r < 10) (hij : i < j ∧ j ≤ k) (hk : k < 40) (kk : ∀ h', FI [] [] [126, 127, 128, 129, 130, 131, 132, 133] h h' → (∀ y, hI h' 126 y = hI h 126 y) → (∀ y, hI h' 127 y = hI h 127 y) → (∀ y, hI h' 128 y = hI h 128 y) → (∀ x, x ≠ 40 * r + i → x ≠ 40 * r + j → x ≠ 40 * r + k → sx h h' x) → (∀ x, (x = 40 * r + i ∨ x = 40 * r + j ∨ x = 40 * r + k) → hI h' 129 x = f ∧ hI h' 130 x = l ∧ hI h' 131 x = (i : Nat) ∧ hI h' 132 x = (j : Nat) ∧ hI h' 133 x = (k : Nat)) → Q (.inl none) h') : Wc (d + 1) 144 [vR (some 116), vI (r : Nat), vI (i : Nat), vI (j : Nat), vI (k : Nat), vI f, vI l] h Q := by
  refine c_joins hS hr (by omega) (by omega) hk (kk _ (FI_jn (FI_jn (FI_jn (FI_refl h) rfl rfl rfl rfl rfl) rfl rfl rfl rfl rfl) rfl rfl rfl rfl rfl) (fun y => ?_) (fun y => ?_) (fun y => ?_) (fun x x1 x2 x3 a a1 a2 => ?_) (fun x hx => ?_))
  · rw [hI_jn, hI_jn, hI_jn]; simp
  · rw [hI_jn, hI_jn, hI_jn]; simp
  · rw [hI_jn, hI_jn, hI_jn]; simp
  · rw [hI_jn, if_neg x3, hI_jn, if_neg x2, hI_jn, if_neg x1]
  · have g : ∀ (a : Nat) (v : Int), (∀ z : Int, (if a = 129 then f else if a = 130 then l else if a = 131 then ((i : Nat) : Int) else if a = 132 then ((j : Nat) : Int) else if a = 133 then ((k : Nat) : Int) else z) = v) → hI (jn (jn (jn h (40 * r + i) f l i j k) (40 * r + j) f l i j k) (40 * r + k) f l i j k) a x = v := by
      intro a v hv
      rw [hI_jn]
      by_cases y3 : x = 40 * r + k
      · rw [if_pos y3]; exact hv _
      · rw [if_neg y3, hI_jn]
        by_cases y2 : x = 40 * r + j
        · rw [if_pos y2]; exact hv _
        · rw [if_neg y2, hI_jn, if_pos (by omega)]; exact hv _
    exact ⟨g 129 _ (fun _ => rfl), g 130 _ (fun _ => rfl), g 131 _ (fun _ => rfl), g 132 _ (fun _ => rfl), g 133 _ (fun _ => rfl)⟩
