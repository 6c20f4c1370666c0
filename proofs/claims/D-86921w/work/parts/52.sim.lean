/-! SIMULATION: the abstract machine against the machine -/
abbrev gp : Type := Nat × Heap × (Nat → ClassId) × (Nat → Nat → Nat) × (Nat → ClassId) × (Nat → Nat)
def gB (g : gp) : Nat := g.1
def gH (g : gp) : Heap := g.2.1
def gC (g : gp) : Nat → ClassId := g.2.2.1
def gF (g : gp) : Nat → Nat → Nat := g.2.2.2.1
def gA (g : gp) : Nat → ClassId := g.2.2.2.2.1
def gE (g : gp) : Nat → Nat := g.2.2.2.2.2
def phi (g : gp) (a : Nat) : Nat := if a < 68 then gE g a else gB g + (a - 68)
def cr (g : gp) (r : Option Nat) : Value := va_rf (r.map (phi g))
def cv (g : gp) : av → Value
  | .inl x => .int (Int32.ofInt x)
  | .inr (.inl x) => .long (Int64.ofInt x)
  | .inr (.inr (.inl r)) => cr g r
  | .inr (.inr (.inr _)) => .null
def in32 (x : Int) : Prop := (Int32.ofInt x).toInt = x
def in64 (x : Int) : Prop := (Int64.ofInt x).toInt = x
def okv : av → Prop
  | .inl x => in32 x
  | .inr (.inl x) => in64 x
  | _ => True
def okL (l : List av) : Prop := ∀ v ∈ l, okv v
theorem okL_nil : okL [] := fun _ h => absurd h List.not_mem_nil
theorem okL_cons {v : av} {l : List av} (h1 : okv v) (h2 : okL l) : okL (v :: l) := fun w hw => by
  rcases List.mem_cons.mp hw with e | e
  · rw [e]; exact h1
  · exact h2 w e
theorem okL.hd {v : av} {l : List av} (h : okL (v :: l)) : okv v := h v List.mem_cons_self
theorem okL.tl {v : av} {l : List av} (h : okL (v :: l)) : okL l := fun w hw => h w (List.mem_cons_of_mem _ hw)
theorem okL.gl {ls : List av} (h : okL ls) : ∀ i, okv (gL ls i) := by
  induction ls with
  | nil => intro i; exact trivial
  | cons v r ih =>
    intro i
    cases i with
    | zero => exact h.hd
    | succ i => exact ih h.tl i
theorem okL.tL {ls : List av} (h : okL ls) {v : av} (hv : okv v) : ∀ i, okL (tL ls i v) := by
  induction ls with
  | nil => intro i; exact okL_nil
  | cons w r ih =>
    intro i
    cases i with
    | zero => exact okL_cons hv h.tl
    | succ i => exact okL_cons h.hd (ih h.tl i)
theorem in32_s (z : Int) : in32 (s32 z) := by
  unfold in32 s32
  rw [Int32.toInt_ofInt]
  exact Int.bmod_bmod ..
theorem in64_s (z : Int) : in64 (s64 z) := by
  unfold in64 s64
  rw [Int64.toInt_ofInt]
  exact Int.bmod_bmod ..
theorem in32_t (w : Int32) : in32 w.toInt := by unfold in32; rw [Int32.ofInt_toInt]
theorem in64_t (w : Int64) : in64 w.toInt := by unfold in64; rw [Int64.ofInt_toInt]
theorem of_s32 (z : Int) : Int32.ofInt (s32 z) = Int32.ofInt z := by
  apply Int32.toInt_inj.mp
  rw [Int32.toInt_ofInt, Int32.toInt_ofInt]
  exact Int.bmod_bmod ..
theorem of_s64 (z : Int) : Int64.ofInt (s64 z) = Int64.ofInt z := by
  apply Int64.toInt_inj.mp
  rw [Int64.toInt_ofInt, Int64.toInt_ofInt]
  exact Int.bmod_bmod ..
theorem in32_eq {x y : Int} (hx : in32 x) (hy : in32 y) : (Int32.ofInt x = Int32.ofInt y) ↔ x = y :=
  ⟨fun h => by rw [← hx, ← hy, h], fun h => by rw [h]⟩
theorem in32_lt {x y : Int} (hx : in32 x) (hy : in32 y) : (Int32.ofInt x < Int32.ofInt y) ↔ x < y := by
  rw [Int32.lt_iff_toInt_lt, hx, hy]
theorem in32_le {x y : Int} (hx : in32 x) (hy : in32 y) : (Int32.ofInt x ≤ Int32.ofInt y) ↔ x ≤ y := by
  rw [Int32.le_iff_toInt_le, hx, hy]
theorem in32_lit {x : Int} (h : -2147483648 ≤ x ∧ x ≤ 2147483647) : in32 x := by
  unfold in32
  exact Int32.toInt_ofInt_of_le (by have := h.1; simpa using this) (by have := h.2; omega)
theorem in64_of32 {x : Int} (h : in32 x) : in64 x := by
  unfold in64
  have h1 := (Int32.ofInt x).le_toInt
  have h2 := (Int32.ofInt x).toInt_lt
  rw [h] at h1 h2
  exact Int64.toInt_ofInt_of_le (by omega) (by omega)
theorem in32_bnd {x : Int} (h : in32 x) : -2147483648 ≤ x ∧ x ≤ 2147483647 := by
  have h1 := (Int32.ofInt x).le_toInt
  have h2 := (Int32.ofInt x).toInt_lt
  rw [h] at h1 h2
  omega
/-! locals -/
def clm (g : gp) : Nat → List av → List (Nat × Value)
  | _, [] => []
  | i, .inl x :: r => (i, .int (Int32.ofInt x)) :: clm g (i + 1) r
  | i, .inr (.inl x) :: r => (match r with
    | .inr (.inr (.inr _)) :: _ => [(i, Value.long (Int64.ofInt x))]
    | _ => []) ++ clm g (i + 1) r
  | i, .inr (.inr (.inl q)) :: r => (i, cr g q) :: clm g (i + 1) r
  | i, .inr (.inr (.inr _)) :: r => clm g (i + 1) r
theorem clm_ge {g : gp} : ∀ (ls : List av) (i : Nat) (q : Nat × Value), q ∈ clm g i ls → i ≤ q.1 := by
  intro ls
  induction ls with
  | nil => intro i q h; exact absurd h List.not_mem_nil
  | cons v r ih =>
    intro i q h
    rcases v with x | x | x | x
    · rcases List.mem_cons.mp h with e | e
      · rw [e]; exact Nat.le_refl _
      · have := ih _ _ e; omega
    · rcases List.mem_append.mp h with e | e
      · split at e
        · rw [List.mem_singleton.mp e]; exact Nat.le_refl _
        · exact absurd e List.not_mem_nil
      · have := ih _ _ e; omega
    · rcases List.mem_cons.mp h with e | e
      · rw [e]; exact Nat.le_refl _
      · have := ih _ _ e; omega
    · have := ih _ _ h; omega
theorem clm_i {g : gp} {x : Int} : ∀ (ls : List av) (i k : Nat), gL ls i = vI x → (k + i, Value.int (Int32.ofInt x)) ∈ clm g k ls := by
  intro ls
  induction ls with
  | nil => intro i k h; cases h
  | cons v r ih =>
    intro i k h
    cases i with
    | zero =>
      have e : v = vI x := h
      rw [e]
      exact List.mem_cons_self
    | succ i =>
      have h1 := ih i (k + 1) h
      rw [show k + 1 + i = k + (i + 1) by omega] at h1
      rcases v with y | y | y | y
      · exact List.mem_cons_of_mem _ h1
      · exact List.mem_append_right _ h1
      · exact List.mem_cons_of_mem _ h1
      · exact h1
theorem clm_r {g : gp} {x : Option Nat} : ∀ (ls : List av) (i k : Nat), gL ls i = vR x → (k + i, cr g x) ∈ clm g k ls := by
  intro ls
  induction ls with
  | nil => intro i k h; cases h
  | cons v r ih =>
    intro i k h
    cases i with
    | zero =>
      have e : v = vR x := h
      rw [e]
      exact List.mem_cons_self
    | succ i =>
      have h1 := ih i (k + 1) h
      rw [show k + 1 + i = k + (i + 1) by omega] at h1
      rcases v with y | y | y | y
      · exact List.mem_cons_of_mem _ h1
      · exact List.mem_append_right _ h1
      · exact List.mem_cons_of_mem _ h1
      · exact h1
theorem clm_j {g : gp} {x : Int} : ∀ (ls : List av) (i k : Nat), gL ls i = vJ x → gL ls (i + 1) = vU → i + 1 < ls.length → (k + i, Value.long (Int64.ofInt x)) ∈ clm g k ls := by
  intro ls
  induction ls with
  | nil => intro i k h; cases h
  | cons v r ih =>
    intro i k h h2 hl
    cases i with
    | zero =>
      have e : v = vJ x := h
      rw [e]
      cases r with
      | nil => simp at hl
      | cons w r2 =>
        have e2 : w = vU := h2
        rw [e2]
        exact List.mem_append_left _ List.mem_cons_self
    | succ i =>
      have h1 := ih i (k + 1) h h2 (by simpa using hl)
      rw [show k + 1 + i = k + (i + 1) by omega] at h1
      rcases v with y | y | y | y
      · exact List.mem_cons_of_mem _ h1
      · exact List.mem_append_right _ h1
      · exact List.mem_cons_of_mem _ h1
      · exact h1
/-- the claim at a place comes from the value there -/
theorem clm_inv {g : gp} : ∀ (ls : List av) (k : Nat) (q : Nat × Value), q ∈ clm g k ls → ∃ i, q.1 = k + i ∧ i < ls.length ∧ ((∃ x, gL ls i = vI x ∧ q.2 = .int (Int32.ofInt x)) ∨ (∃ x, gL ls i = vR x ∧ q.2 = cr g x) ∨ ∃ x, gL ls i = vJ x ∧ gL ls (i + 1) = vU ∧ i + 1 < ls.length ∧ q.2 = .long (Int64.ofInt x)) := by
  intro ls
  induction ls with
  | nil => intro k q h; exact absurd h List.not_mem_nil
  | cons v r ih =>
    intro k q h
    have step : q ∈ clm g (k + 1) r → ∃ i, q.1 = k + i ∧ i < (v :: r).length ∧ ((∃ x, gL (v :: r) i = vI x ∧ q.2 = .int (Int32.ofInt x)) ∨ (∃ x, gL (v :: r) i = vR x ∧ q.2 = cr g x) ∨ ∃ x, gL (v :: r) i = vJ x ∧ gL (v :: r) (i + 1) = vU ∧ i + 1 < (v :: r).length ∧ q.2 = .long (Int64.ofInt x)) := by
      intro e
      obtain ⟨i, h1, h2, h3⟩ := ih _ _ e
      refine ⟨i + 1, by omega, by simp; omega, ?_⟩
      rcases h3 with ⟨x, a, b⟩ | ⟨x, a, b⟩ | ⟨x, a, b, c, d⟩
      · exact Or.inl ⟨x, a, b⟩
      · exact Or.inr (Or.inl ⟨x, a, b⟩)
      · exact Or.inr (Or.inr ⟨x, a, b, by simp; omega, d⟩)
    rcases v with x | x | x | x
    · rcases List.mem_cons.mp h with e | e
      · exact ⟨0, by rw [e]; rfl, by simp, Or.inl ⟨x, rfl, by rw [e]⟩⟩
      · exact step e
    · rcases List.mem_append.mp h with e | e
      · cases r with
        | nil => exact absurd e List.not_mem_nil
        | cons w r2 =>
          rcases w with w | w | w | w
          · exact absurd e List.not_mem_nil
          · exact absurd e List.not_mem_nil
          · exact absurd e List.not_mem_nil
          · have e2 := List.mem_singleton.mp e
            exact ⟨0, by rw [e2]; rfl, by simp, Or.inr (Or.inr ⟨x, rfl, rfl, by simp, by rw [e2]⟩)⟩
      · exact step e
    · rcases List.mem_cons.mp h with e | e
      · exact ⟨0, by rw [e]; rfl, by simp, Or.inr (Or.inl ⟨x, rfl, by rw [e]⟩)⟩
      · exact step e
    · exact step h
theorem gL_tL_ne {v : av} : ∀ (ls : List av) (i j : Nat), i ≠ j → gL (tL ls i v) j = gL ls j := by
  intro ls
  induction ls with
  | nil => intro i j _; rfl
  | cons w r ih =>
    intro i j h
    cases i with
    | zero => cases j with
      | zero => exact absurd rfl h
      | succ j => rfl
    | succ i => cases j with
      | zero => rfl
      | succ j => exact ih i j (fun e => h (by rw [e]))
theorem gL_tL_eq {v : av} : ∀ (ls : List av) (i : Nat), i < ls.length → gL (tL ls i v) i = v := by
  intro ls
  induction ls with
  | nil => intro i h; simp at h
  | cons w r ih =>
    intro i h
    cases i with
    | zero => rfl
    | succ i => exact ih i (by simpa using h)
theorem tL_length {v : av} : ∀ (ls : List av) (i : Nat), (tL ls i v).length = ls.length := by
  intro ls
  induction ls with
  | nil => intro i; rfl
  | cons w r ih =>
    intro i
    cases i with
    | zero => rfl
    | succ i => simp [tL, ih i]
def lsR (g : gp) (ls : List av) (L : Array Slot) (n : Nat) : Prop := lv_has L n (clm g 0 ls) ∧ ls.length = n
theorem lsR.i {g : gp} {ls : List av} {L : Array Slot} {n i : Nat} {x : Int} (h : lsR g ls L n) (hi : gL ls i = vI x) : L[i]? = some (.val (.int (Int32.ofInt x))) := by
  have := h.1.2.2 _ (clm_i (g := g) ls i 0 hi)
  simpa using this
theorem lsR.r {g : gp} {ls : List av} {L : Array Slot} {n i : Nat} {x : Option Nat} (h : lsR g ls L n) (hi : gL ls i = vR x) : L[i]? = some (.val (cr g x)) := by
  have := h.1.2.2 _ (clm_r (g := g) ls i 0 hi)
  simpa using this
theorem lsR.j {g : gp} {ls : List av} {L : Array Slot} {n i : Nat} {x : Int} (h : lsR g ls L n) (hi : gL ls i = vJ x) (h2 : gL ls (i + 1) = vU) (hl : i + 1 < ls.length) : L[i]? = some (.val (.long (Int64.ofInt x))) := by
  have := h.1.2.2 _ (clm_j (g := g) ls i 0 hi h2 hl)
  simpa using this
theorem cr_cat (g : gp) (r : Option Nat) : (cr g r).category = 1 := by cases r <;> rfl
theorem cv_cat {g : gp} {v : av} (h : cat1 v = true) : (cv g v).category = 1 := by
  rcases v with x | x | x | x
  · rfl
  · cases h
  · exact cr_cat g x
  · cases h
/-- behind a store of one slot -/
theorem lsR.st1 {g : gp} {ls : List av} {L L' : Array Slot} {n i : Nat} {v : av} (h : lsR g ls L n) (hi : i < ls.length) (hv : cat1 v = true) (h2 : lv_has L' n ((i, cv g v) :: (clm g 0 ls).filter (fun q => !(q.1 == i) && !(q.1 + 1 == i && q.2.category == 2)))) : lsR g (tL ls i v) L' n := by
  refine ⟨⟨h2.1, h2.2.1, fun q hq => h2.2.2 q ?_⟩, by rw [tL_length]; exact h.2⟩
  obtain ⟨j, e1, e2, e3⟩ := clm_inv _ _ _ hq
  rw [Nat.zero_add] at e1
  rw [tL_length] at e2 e3
  by_cases hj : i = j
  · subst hj
    rw [gL_tL_eq _ _ hi] at e3
    refine List.mem_cons.mpr (Or.inl ?_)
    rcases v with x | x | x | x
    · rcases e3 with ⟨y, a, b⟩ | ⟨y, a, b⟩ | ⟨y, a, -⟩
      · cases a; exact Prod.ext e1 b
      · cases a
      · cases a
    · cases hv
    · rcases e3 with ⟨y, a, b⟩ | ⟨y, a, b⟩ | ⟨y, a, -⟩
      · cases a
      · cases a; exact Prod.ext e1 b
      · cases a
    · cases hv
  · rw [gL_tL_ne _ _ _ hj] at e3
    refine List.mem_cons_of_mem _ (List.mem_filter.mpr ⟨?_, ?_⟩)
    · have key : (0 + j, q.2) ∈ clm g 0 ls := by
        rcases e3 with ⟨y, a, b⟩ | ⟨y, a, b⟩ | ⟨y, a, b, c, d⟩
        · rw [b]; exact clm_i ls j 0 a
        · rw [b]; exact clm_r ls j 0 a
        · rw [d]
          have hne : i ≠ j + 1 := by
            intro e
            rw [e, gL_tL_eq _ _ (by omega)] at b
            rw [b] at hv
            cases hv
          rw [gL_tL_ne _ _ _ hne] at b
          exact clm_j ls j 0 a b c
      rw [Nat.zero_add, ← e1] at key
      exact key
    · simp only [Bool.and_eq_true, Bool.not_eq_true', beq_eq_false_iff_ne, ne_eq, Bool.and_eq_false_iff]
      refine ⟨by omega, ?_⟩
      by_cases hq1 : q.1 + 1 = i
      · right
        rcases e3 with ⟨y, a, b⟩ | ⟨y, a, b⟩ | ⟨y, a, b, c, d⟩
        · rw [b]; exact (by decide : ¬ (1 : Nat) = 2)
        · rw [b, cr_cat]; decide
        · exfalso
          rw [show j + 1 = i by omega, gL_tL_eq _ _ hi] at b
          rw [b] at hv
          cases hv
      · left; exact hq1
/-- behind a store of two -/
theorem lsR.st2 {g : gp} {ls : List av} {L L' : Array Slot} {n i : Nat} {x : Int} (h : lsR g ls L n) (hi : i + 1 < ls.length) (h2 : lv_has L' n ((i, Value.long (Int64.ofInt x)) :: (clm g 0 ls).filter (fun q => !(q.1 == i) && (!(q.1 == i + 1) && !(q.1 + 1 == i && q.2.category == 2))))) : lsR g (tL (tL ls i (vJ x)) (i + 1) vU) L' n := by
  refine ⟨⟨h2.1, h2.2.1, fun q hq => h2.2.2 q ?_⟩, by rw [tL_length, tL_length]; exact h.2⟩
  obtain ⟨j, e1, e2, e3⟩ := clm_inv _ _ _ hq
  rw [Nat.zero_add] at e1
  rw [tL_length, tL_length] at e2 e3
  have hi1 : i + 1 < (tL ls i (vJ x)).length := by rw [tL_length]; exact hi
  by_cases h1 : i + 1 = j
  · subst h1
    rw [gL_tL_eq _ _ hi1] at e3
    rcases e3 with ⟨y, a, b⟩ | ⟨y, a, b⟩ | ⟨y, a, -⟩ <;> cases a
  · rw [gL_tL_ne _ _ _ h1] at e3
    by_cases hj : i = j
    · subst hj
      rw [gL_tL_eq _ _ (by omega)] at e3
      refine List.mem_cons.mpr (Or.inl ?_)
      rcases e3 with ⟨y, a, b⟩ | ⟨y, a, b⟩ | ⟨y, a, b, c, d⟩
      · cases a
      · cases a
      · cases a; exact Prod.ext e1 d
    · rw [gL_tL_ne _ _ _ hj] at e3
      refine List.mem_cons_of_mem _ (List.mem_filter.mpr ⟨?_, ?_⟩)
      · have key : (0 + j, q.2) ∈ clm g 0 ls := by
          rcases e3 with ⟨y, a, b⟩ | ⟨y, a, b⟩ | ⟨y, a, b, c, d⟩
          · rw [b]; exact clm_i ls j 0 a
          · rw [b]; exact clm_r ls j 0 a
          · rw [d]
            have hne : i ≠ j + 1 := by
              intro e
              rw [gL_tL_ne _ _ _ (show i + 1 ≠ j + 1 by omega), ← e, gL_tL_eq _ _ (by omega)] at b
              cases b
            rw [gL_tL_ne _ _ _ (show i + 1 ≠ j + 1 by omega), gL_tL_ne _ _ _ hne] at b
            exact clm_j ls j 0 a b c
        rw [Nat.zero_add, ← e1] at key
        exact key
      · simp only [Bool.and_eq_true, Bool.not_eq_true', beq_eq_false_iff_ne, ne_eq, Bool.and_eq_false_iff]
        refine ⟨by omega, by omega, ?_⟩
        by_cases hq1 : q.1 + 1 = i
        · right
          rcases e3 with ⟨y, a, b⟩ | ⟨y, a, b⟩ | ⟨y, a, b, c, d⟩
          · rw [b]; exact (by decide : ¬ (1 : Nat) = 2)
          · rw [b, cr_cat]; decide
          · exfalso
            rw [gL_tL_ne _ _ _ (show i + 1 ≠ j + 1 by omega), show j + 1 = i by omega, gL_tL_eq _ _ (by omega)] at b
            cases b
        · left; exact hq1
/-! the heap -/
def fv (g : gp) (h : hp) (a j : Nat) : Nat → Value
  | 0 => .int (Int32.ofInt (hI h a j))
  | 1 => .long (Int64.ofInt (hL h a j))
  | _ => cr g (hR h a j)
/-- array kinds: what their elements are -/
def ak : Nat → Nat
  | 105 => 1
  | 106 => 2
  | 107 => 2
  | 108 => 2
  | 109 => 2
  | 112 => 2
  | _ => 0
def kc (k : Nat) : vw_C := kclL.getD k ("", kT0, 0)
def cOK (g : gp) (h : hp) (a : Nat) (cell : Cell) : Prop :=
  cell.vm ≠ .unknown ∧ cell.vm.isStatics = false ∧ (68 ≤ a → cell.vm = .none) ∧
  ((hT h a).1 < 64 → cell.cls = gC g (hT h a).1 ∧ ∀ j, j < (kc (hT h a).1).2.2 → (trk (hT h a).1 j → cell.slots[gF g (hT h a).1 j]? = some (fv g h a j (fk (hT h a).1 j))) ∧ gF g (hT h a).1 j < cell.slots.size) ∧
  (100 ≤ (hT h a).1 → cell.cls = gA g (hT h a).1 ∧ cell.slots.size = (hT h a).2 ∧ ∀ j, j < (hT h a).2 → cell.slots[j]? = some (fv g h a j (ak (hT h a).1)))
def Rep (g : gp) (h : hp) (H : Heap) : Prop :=
  68 ≤ hN h ∧ H.size = gB g + (hN h - 68) ∧ (∀ q : Nat, q < gB g → H[q]? = (gH g)[q]?) ∧ ∀ a, a < hN h → (hT h a).1 < 64 ∨ 100 ≤ (hT h a).1 → ∃ cell, H[phi g a]? = some cell ∧ cOK g h a cell
/-- what an array of chars, bytes, shorts may hold -/
def rng (k : Nat) (x : Int) : Prop := (k = 101 → fits .char (.int (Int32.ofInt x)) = true) ∧ (k = 102 → fits .byte (.int (Int32.ofInt x)) = true) ∧ (k = 103 → fits .short (.int (Int32.ofInt x)) = true)
theorem rng_0 (k : Nat) : rng k 0 := ⟨fun _ => by decide, fun _ => by decide, fun _ => by decide⟩
theorem rng_lt {k : Nat} {x : Int} (h : k < 101 ∨ 103 < k) : rng k x := ⟨fun e => by omega, fun e => by omega, fun e => by omega⟩
theorem rng_b (x : Int) : rng 102 (n_i2b x) := by
  refine ⟨fun e => by omega, fun _ => ?_, fun e => by omega⟩
  unfold n_i2b
  rw [Int32.ofInt_toInt]
  have h1 := (Int32.ofInt x).toInt8.le_toInt
  have h2 := (Int32.ofInt x).toInt8.toInt_lt
  simp only [fits, Bool.and_eq_true, decide_eq_true_eq, Int32.le_iff_toInt_le, Int8.toInt_toInt32, show (-128 : Int32).toInt = -128 from by decide, show (127 : Int32).toInt = 127 from by decide]
  omega
theorem rng_s (x : Int) : rng 103 (n_i2s x) := by
  refine ⟨fun e => by omega, fun e => by omega, fun _ => ?_⟩
  unfold n_i2s
  rw [Int32.ofInt_toInt]
  have h1 := (Int32.ofInt x).toInt16.le_toInt
  have h2 := (Int32.ofInt x).toInt16.toInt_lt
  simp only [fits, Bool.and_eq_true, decide_eq_true_eq, Int32.le_iff_toInt_le, Int16.toInt_toInt32, show (-32768 : Int32).toInt = -32768 from by decide, show (32767 : Int32).toInt = 32767 from by decide]
  omega
theorem rng_c (x : Int) : rng 101 (n_i2c x) := by
  refine ⟨fun _ => ?_, fun e => by omega, fun e => by omega⟩
  unfold n_i2c
  rw [Int32.ofInt_toInt]
  have h : ∀ u : UInt32, u.toNat < 65536 → (u.toInt32).toInt = u.toNat := fun u hu => by
    show (u.toBitVec).toInt = _
    have hm : u.toBitVec.toNat = u.toNat := rfl
    rw [BitVec.toInt_eq_toNat_cond, hm, if_pos (by omega)]
  have h3 : ((Int32.ofInt x).toUInt32 % 65536).toNat < 65536 := by
    rw [UInt32.toNat_mod]
    exact Nat.mod_lt _ (by decide)
  have e1 : (0 : Int32).toInt = 0 := (by decide)
  have e2 : (65535 : Int32).toInt = 65535 := (by decide)
  simp only [fits, Bool.and_eq_true, decide_eq_true_eq]
  rw [Int32.le_iff_toInt_le, Int32.le_iff_toInt_le, h _ h3, e1, e2]
  omega
def WFh (h : hp) : Prop := (∀ a, hN h ≤ a → (hT h a).1 = 98) ∧ (∀ a j, in32 (hI h a j)) ∧ (∀ a j, in64 (hL h a j)) ∧ 68 ≤ hN h ∧ (∀ a, a < 68 → (hT h a).1 = 45 ∨ (hT h a).1 = 98 ∨ 110 ≤ (hT h a).1) ∧ ∀ a j, rng (hT h a).1 (hI h a j)
def gOK (g : gp) : Prop := (∀ b, b < 68 → gE g b < gB g) ∧ ∀ (k : Nat) (q : vw_C), kclL[k]? = some q → ∀ x y, x < q.2.2 → y < q.2.2 → x ≠ y → gF g k x ≠ gF g k y
theorem phi_inj {g : gp} (hg : gOK g) {a b : Nat} (ha : 68 ≤ a) (h : phi g b = phi g a) : b = a := by
  unfold phi at h
  rw [if_neg (show ¬ a < 68 by omega)] at h
  by_cases hb : b < 68
  · rw [if_pos hb] at h
    have := hg.1 b hb
    omega
  · rw [if_neg hb] at h
    omega
theorem phi_ge {g : gp} {a : Nat} (ha : 68 ≤ a) : gB g ≤ phi g a := by
  unfold phi
  rw [if_neg (show ¬ a < 68 by omega)]
  omega
theorem phi_inj2 {g : gp} (hg : gOK g) {a b : Nat} (hc : a = b ∨ 68 ≤ a ∨ 68 ≤ b) (h : phi g a = phi g b) : a = b := by
  rcases hc with e | e | e
  · exact e
  · exact (phi_inj hg e h.symm).symm
  · exact phi_inj hg e h
theorem WFh.lt {h : hp} (w : WFh h) {a : Nat} (ha : (hT h a).1 < 64 ∨ 100 ≤ (hT h a).1) : a < hN h := by
  rcases Nat.lt_or_ge a (hN h) with q | q
  · exact q
  · have := w.1 a q
    omega
theorem Rep.cell {g : gp} {h : hp} {H : Heap} (r : Rep g h H) (w : WFh h) {a : Nat} (ha : (hT h a).1 < 64 ∨ 100 ≤ (hT h a).1) : ∃ cell, H[phi g a]? = some cell ∧ cOK g h a cell := r.2.2.2 a (w.lt ha) ha
theorem fv_congr {g : gp} {h h' : hp} {a j : Nat} (e1 : hI h' a j = hI h a j) (e2 : hL h' a j = hL h a j) (e3 : hR h' a j = hR h a j) (t : Nat) : fv g h' a j t = fv g h a j t := by
  rcases t with _ | _ | t
  · simp only [fv, e1]
  · simp only [fv, e2]
  · simp only [fv, e3]
theorem cOK.congr {g : gp} {h h' : hp} {a : Nat} {cell : Cell} (k : cOK g h a cell) (ht : hT h' a = hT h a) (e : ∀ j, hI h' a j = hI h a j ∧ hL h' a j = hL h a j ∧ hR h' a j = hR h a j) : cOK g h' a cell := by
  obtain ⟨k1, k2, k3, k4, k5⟩ := k
  refine ⟨k1, k2, k3, fun q => ?_, fun q => ?_⟩
  · rw [ht] at q ⊢
    refine ⟨(k4 q).1, fun j hj => ⟨fun t => ?_, ((k4 q).2 j hj).2⟩⟩
    rw [fv_congr (e j).1 (e j).2.1 (e j).2.2]
    exact ((k4 q).2 j hj).1 t
  · rw [ht] at q ⊢
    refine ⟨(k5 q).1, (k5 q).2.1, fun j hj => ?_⟩
    rw [fv_congr (e j).1 (e j).2.1 (e j).2.2]
    exact (k5 q).2.2 j hj
/-- one cell of the class's own has changed -/
theorem Rep.upd {g : gp} (hg : gOK g) {h h' : hp} {H H' : Heap} (r : Rep g h H) {a : Nat} (ha : 68 ≤ a) (en : hN h' = hN h) (et : hT h' = hT h) (eo : ∀ b, b ≠ a → ∀ j, hI h' b j = hI h b j ∧ hL h' b j = hL h b j ∧ hR h' b j = hR h b j)
    {cell' : Cell} (e1 : H'[phi g a]? = some cell') (hc : cOK g h' a cell') (e2 : H'.size = H.size) (e3 : ∀ q, q ≠ phi g a → H'[q]? = H[q]?) : Rep g h' H' := by
  obtain ⟨r0, r1, r2, r3⟩ := r
  refine ⟨by rw [en]; exact r0, by rw [e2, en]; exact r1, fun q hq => ?_, fun b hb ht => ?_⟩
  · rw [e3 q (by have := phi_ge (g := g) ha; omega)]
    exact r2 q hq
  · by_cases hba : b = a
    · subst hba
      exact ⟨cell', e1, hc⟩
    · rw [et] at ht
      rw [en] at hb
      obtain ⟨cell, q1, q2⟩ := r3 b hb ht
      refine ⟨cell, ?_, q2.congr (by rw [et]) (eo b hba)⟩
      rw [e3 _ (fun e => hba (phi_inj hg ha e))]
      exact q1
theorem up2_self {α : Type} (f : Nat → Nat → α) (a j : Nat) (x : α) : up2 f a j x a j = x := by simp [up2]
theorem up2_ne {α : Type} (f : Nat → Nat → α) {a j b k : Nat} (x : α) (h : ¬ (b = a ∧ k = j)) : up2 f a j x b k = f b k := by simp [up2, h]
theorem WFh.sI {h : hp} (w : WFh h) {a j : Nat} {x : Int} (hx : in32 x) (hr : rng (hT h a).1 x) : WFh (sI h a j x) := by
  refine ⟨w.1, fun b k => ?_, w.2.2.1, w.2.2.2.1, w.2.2.2.2.1, fun b k => ?_⟩
  · show in32 (up2 (hI h) a j x b k)
    unfold up2
    split
    · exact hx
    · exact w.2.1 b k
  · show rng (hT h b).1 (up2 (hI h) a j x b k)
    unfold up2
    split
    · rename_i e
      rw [e.1]; exact hr
    · exact w.2.2.2.2.2 b k
theorem WFh.sL {h : hp} (w : WFh h) {a j : Nat} {x : Int} (hx : in64 x) : WFh (sL h a j x) := by
  refine ⟨w.1, w.2.1, fun b k => ?_, w.2.2.2⟩
  show in64 (up2 (hL h) a j x b k)
  unfold up2
  split
  · exact hx
  · exact w.2.2.1 b k
theorem WFh.sR {h : hp} (w : WFh h) {a j : Nat} {x : Option Nat} : WFh (sR h a j x) := w
theorem in32_0 : in32 0 := in32_lit (by decide)
theorem in64_0 : in64 0 := in64_of32 in32_0
theorem WFh.new {h : hp} (w : WFh h) {k n c : Nat} : WFh (hNew h k n c) := by
  refine ⟨fun a ha => ?_, fun b i => ?_, fun b i => ?_, show 68 ≤ hN h + 1 from Nat.le_succ_of_le w.2.2.2.1, fun a ha => ?_, fun b i => ?_⟩
  · have ha' : hN h + 1 ≤ a := ha
    show (up1 (hT h) (hN h) (k, n) a).1 = 98
    unfold up1
    rw [if_neg (by omega)]
    exact w.1 a (by omega)
  · show in32 (up1 (hI h) (hN h) (fun _ => 0) b i)
    unfold up1
    split
    · exact in32_0
    · exact w.2.1 b i
  · show in64 (up1 (hL h) (hN h) (fun _ => 0) b i)
    unfold up1
    split
    · exact in64_0
    · exact w.2.2.1 b i
  · show (up1 (hT h) (hN h) (k, n) a).1 = 45 ∨ (up1 (hT h) (hN h) (k, n) a).1 = 98 ∨ 110 ≤ (up1 (hT h) (hN h) (k, n) a).1
    unfold up1
    rw [if_neg (by have := w.2.2.2.1; omega)]
    exact w.2.2.2.2.1 a ha
  · show rng (up1 (hT h) (hN h) (k, n) b).1 (up1 (hI h) (hN h) (fun _ => 0) b i)
    unfold up1
    split
    · exact rng_0 _
    · exact w.2.2.2.2.2 b i
/-- a new cell -/
theorem Rep.new {g : gp} {h : hp} {H H' : Heap} (hg : gOK g) (r : Rep g h H) {k n c : Nat} {cell : Cell} (e1 : H'[H.size]? = some cell) (e2 : H'.size = H.size + 1) (e3 : ∀ q, q < H.size → H'[q]? = H[q]?) (hc : cOK g (hNew h k n c) (hN h) cell) : Rep g (hNew h k n c) H' ∧ phi g (hN h) = H.size := by
  obtain ⟨r0, r1, r2, r3⟩ := r
  have hp : phi g (hN h) = H.size := by
    unfold phi
    rw [if_neg (by omega), r1]
  refine ⟨⟨show 68 ≤ hN h + 1 by omega, ?_, fun q hq => ?_, fun b hb ht => ?_⟩, hp⟩
  · rw [e2, r1]
    show _ = gB g + (hN h + 1 - 68)
    omega
  · rw [e3 q (by omega)]
    exact r2 q hq
  · have hb' : b < hN h + 1 := hb
    by_cases hbn : b = hN h
    · subst hbn
      exact ⟨cell, by rw [hp]; exact e1, hc⟩
    · have et : hT (hNew h k n c) b = hT h b := by
        show up1 (hT h) (hN h) (k, n) b = hT h b
        unfold up1
        rw [if_neg hbn]
      rw [et] at ht
      obtain ⟨cell2, q1, q2⟩ := r3 b (by omega) ht
      have hlt : phi g b < H.size := (Array.getElem?_eq_some_iff.mp q1).1
      refine ⟨cell2, by rw [e3 _ hlt]; exact q1, q2.congr et (fun j => ⟨?_, ?_, ?_⟩)⟩
      · show up1 (hI h) (hN h) (fun _ => 0) b j = _
        unfold up1
        rw [if_neg hbn]
      · show up1 (hL h) (hN h) (fun _ => 0) b j = _
        unfold up1
        rw [if_neg hbn]
      · show up1 (hR h) (hN h) (fun _ => none) b j = _
        unfold up1
        rw [if_neg hbn]
