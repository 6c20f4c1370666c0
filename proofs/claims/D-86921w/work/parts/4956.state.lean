/-! THE WHOLE STATE: x's parts, m's parts, and what is good -/
abbrev zK : Type := Nat × Nat × Bool × zF × Int
abbrev zA : Type := (Nat → Option zT) × zS × Option zK × Int × List Int × (Int × Int) × List Int × Int
def XIr (h : hp) (r : Nat) : Option zT → Prop
  | none => hR h 72 r = none
  | some t => ∃ rc, hR h 72 r = some rc ∧ XR h t rc
def MIr (h : hp) (r : Nat) : Option zT → Prop
  | none => hI h 121 r = 0
  | some t => MR h r t (bI (zord t))
def Gt (t : zT) : Prop := okS t 0 ∧ zun (zord t) t ∧ zc t ≤ 40 ∧ zbr t ≤ 5 ∧ (zk t).length ≤ 1600 ∧ zW (zk t) ≤ (if zord t = true then 2400 else 6000) ∧ zt8 t
def XRu (h : hp) : Option zK → Prop
  | none => hI h 68 19 = -1
  | some k => Xr h k.1 k.2.1 k.2.2.1 k.2.2.2.1 ∧ hI h 68 22 = k.2.2.2.2
def MRu (h : hp) : Option zK → Prop
  | none => hI h 116 54 = 0
  | some k => hI h 116 54 = 1 ∧ Mr h k.1 k.2.1 k.2.2.1 k.2.2.2.1 ∧ hI h 116 58 = k.2.2.2.2
def Xc1 (h : hp) (R : Nat → Option zT) : Prop := ∀ r, r < 10 → XIr h r (R r)
def Xc2 (h : hp) (σ : zS) : Prop := ∃ ρ, XZ h σ ρ
def Xc5 (h : hp) (w : Int) : Prop := hI h 68 23 = w
def Xc7 (h : hp) (f : Int × Int) : Prop := hI h 68 6 = f.1 ∧ hI h 68 7 = f.2
def Xc8 (h : hp) (o : List Int) : Prop := hI h 68 37 = (o.length : Nat) ∧ Tx h 82 0 o
def Xc9 (h : hp) (l : Int) : Prop := hI h 68 39 = l
def Mc1 (h : hp) (R : Nat → Option zT) : Prop := ∀ r, r < 10 → MIr h r (R r)
def Mc5 (h : hp) (w : Int) : Prop := hI h 116 62 = w
def Mc7 (h : hp) (f : Int × Int) : Prop := hI h 116 12 = f.1 ∧ hI h 116 13 = f.2
def Mc8 (h : hp) (o : List Int) : Prop := hI h 116 3 = (o.length : Nat) ∧ Tx h 118 0 o
def Mc9 (h : hp) (l : Int) : Prop := hI h 116 64 = l
def IX (h : hp) (s : zA) : Prop := Xc1 h s.1 ∧ Xc2 h s.2.1 ∧ XFr h ∧ XRu h s.2.2.1 ∧ Xc5 h s.2.2.2.1 ∧ Tq h 0 s.2.2.2.2.1 ∧ Xc7 h s.2.2.2.2.2.1 ∧ Xc8 h s.2.2.2.2.2.2.1 ∧ Xc9 h s.2.2.2.2.2.2.2
def IM (h : hp) (s : zA) : Prop := Mc1 h s.1 ∧ MV h s.2.1 ∧ MRu h s.2.2.1 ∧ Mc5 h s.2.2.2.1 ∧ Mq h 0 s.2.2.2.2.1 ∧ Mc7 h s.2.2.2.2.2.1 ∧ Mc8 h s.2.2.2.2.2.2.1 ∧ Mc9 h s.2.2.2.2.2.2.2
def Gk (R : Nat → Option zT) (k : Option zK) : Prop := match k with
  | none => True
  | some k => Rn R k.1 k.2.1 k.2.2.1 k.2.2.2.1 ∧ s32 k.2.2.2.2 = k.2.2.2.2
def Gd (s : zA) : Prop := (∀ r t, r < 10 → s.1 r = some t → Gt t) ∧ Zk s.2.1 ∧ Gk s.1 s.2.2.1 ∧ okb s.2.2.2.2.2.2.1 ∧ s.2.2.2.2.2.2.1.length ≤ 6000
theorem RIs_of {h : hp} {R : Nat → Option zT} (x : Xc1 h R) (m : Mc1 h R) (g : ∀ r t, r < 10 → R r = some t → Gt t) : RIs h R := by
  intro r hr
  have x1 := x r hr
  have m1 := m r hr
  have g1 := g r
  cases e : R r with
  | none => rw [e] at x1 m1; exact ⟨x1, m1⟩
  | some t =>
    rw [e] at x1 m1
    obtain ⟨a, b, c, d, f, -⟩ := g1 t hr e
    exact ⟨a, b, c, d, f, x1, m1⟩
/-! what each part looks at -/
theorem Xc1_p {p : Nat → Nat → Prop} {h h' : hp} {R : Nat → Option zT} (a : FX p h h') (hS : St h) (h1 : ∀ j, ¬ p 72 j) (h2 : ∀ c j, 145 ≤ c → c < hN h → imm (hT h c).1 → ¬ p c j) (z : Xc1 h R) : Xc1 h' R := by
  intro r hr
  have z1 := z r hr
  have e := (FX_at a (c := 72) (j := r) (Nat.lt_of_lt_of_le (by decide) hS.1) (h1 r)).2.2
  cases q : R r with
  | none => rw [q] at z1; exact e.trans z1
  | some t =>
    rw [q] at z1
    obtain ⟨rc, z2, z3⟩ := z1
    exact ⟨rc, e.trans z2, XR_eq a.1 (fun c c1 c2 c3 => FX_sm a c2 (fun j => h2 c j c1 c2 c3)) z3⟩
theorem Xc2_p {p : Nat → Nat → Prop} {h h' : hp} {σ : zS} (a : FX p h h') (hS : St h) (h1 : ∀ c j, c = 73 ∨ c = 74 ∨ c = 76 ∨ c = 77 ∨ (102 ≤ c ∧ c ≤ 115) → ¬ p c j) (h2 : ∀ c j, 145 ≤ c → c < hN h → 101 ≤ (hT h c).1 → (hT h c).1 ≤ 105 → ¬ p c j) (z : Xc2 h σ) : Xc2 h' σ := by
  obtain ⟨ρ, ⟨x, b⟩, c, d⟩ := z
  have h0 := hS.1
  have s : ∀ c, c = 73 ∨ c = 74 ∨ c = 76 ∨ c = 77 ∨ (102 ≤ c ∧ c ≤ 115) → sm h h' c := fun c c1 => FX_sm a (by omega) (fun j => h1 c j c1)
  refine ⟨ρ, ⟨fun k hk => by rw [(s 73 (by omega)).2.1, (s 74 (by omega)).2.1]; exact x k hk, XRw_eq a.1 (fun _ => rfl) (fun _ => rfl) (fun _ => rfl) (fun _ => rfl) (fun k hk => (s _ (by omega)).2.2.2 0) (fun y y1 y2 y3 y4 => FX_sm a y2 (fun j => h2 y j y1 y2 y3 y4)) b⟩, fun s' hs => by rw [(s 77 (by omega)).2.1]; exact c s' hs, fun j hj => by rw [(s 76 (by omega)).2.1]; exact d j hj⟩
theorem F68 {p : Nat → Nat → Prop} {h h' : hp} (a : FX p h h') (hS : St h) {c j : Nat} (hc : c < 145) (hp : ¬ p c j) : hI h' c j = hI h c j := (FX_at a (Nat.lt_of_lt_of_le hc hS.1) hp).1
theorem XFr_p {p : Nat → Nat → Prop} {h h' : hp} (a : FX p h h') (hS : St h) (h1 : ¬ p 68 28) (h2 : ¬ p 68 29) (z : XFr h) : XFr h' := ⟨(F68 a hS (by decide) h1).trans z.1, (FX_at a (c := 68) (Nat.lt_of_lt_of_le (by decide) hS.1) h2).2.2.trans z.2⟩
theorem XRu_e {h h' : hp} {k : Option zK} (e : ∀ c j, (c = 68 ∧ 19 ≤ j ∧ j ≤ 24 ∧ j ≠ 23) ∨ c = 79 ∨ c = 80 ∨ c = 81 → hI h' c j = hI h c j) (z : XRu h k) : XRu h' k := by
  cases k with
  | none => exact (e 68 19 (by omega)).trans z
  | some k =>
    obtain ⟨⟨m1, m2, m3, m4, m5⟩, m6⟩ := z
    exact ⟨⟨(e 68 19 (by omega)).trans m1, (e 68 20 (by omega)).trans m2, (e 68 21 (by omega)).trans m3, (e 68 24 (by omega)).trans m4, XFm_eq (fun j _ => ⟨e 79 j (by omega), e 80 j (by omega), e 81 j (by omega)⟩) m5⟩, (e 68 22 (by omega)).trans m6⟩
theorem XRu_p {p : Nat → Nat → Prop} {h h' : hp} {k : Option zK} (a : FX p h h') (hS : St h) (h1 : ∀ c j, (c = 68 ∧ 19 ≤ j ∧ j ≤ 24 ∧ j ≠ 23) ∨ c = 79 ∨ c = 80 ∨ c = 81 → ¬ p c j) (z : XRu h k) : XRu h' k := by
  exact XRu_e (fun c j hc => F68 a hS (by omega) (h1 c j hc)) z
theorem Xc5_p {p : Nat → Nat → Prop} {h h' : hp} {w : Int} (a : FX p h h') (hS : St h) (h1 : ¬ p 68 23) (z : Xc5 h w) : Xc5 h' w := (F68 a hS (by decide) h1).trans z
theorem Tq_p {p : Nat → Nat → Prop} {h h' : hp} {u : List Int} (a : FX p h h') (hS : St h) (h1 : ¬ p 68 1) (h2 : ∀ j, ¬ p 69 j) (z : Tq h 0 u) : Tq h' 0 u := ⟨(F68 a hS (by decide) h1).trans z.1, z.2.1, Tx_eq (fun j => F68 a hS (by decide) (h2 j)) z.2.2.1, z.2.2.2⟩
theorem Xc7_p {p : Nat → Nat → Prop} {h h' : hp} {f : Int × Int} (a : FX p h h') (hS : St h) (h1 : ¬ p 68 6) (h2 : ¬ p 68 7) (z : Xc7 h f) : Xc7 h' f := ⟨(F68 a hS (by decide) h1).trans z.1, (F68 a hS (by decide) h2).trans z.2⟩
theorem Xc8_p {p : Nat → Nat → Prop} {h h' : hp} {o : List Int} (a : FX p h h') (hS : St h) (h1 : ¬ p 68 37) (h2 : ∀ j, ¬ p 82 j) (z : Xc8 h o) : Xc8 h' o := ⟨(F68 a hS (by decide) h1).trans z.1, Tx_eq (fun j => F68 a hS (by decide) (h2 j)) z.2⟩
theorem Xc9_p {p : Nat → Nat → Prop} {h h' : hp} {l : Int} (a : FX p h h') (hS : St h) (h1 : ¬ p 68 39) (z : Xc9 h l) : Xc9 h' l := (F68 a hS (by decide) h1).trans z
theorem Mc1_p {p : Nat → Nat → Prop} {h h' : hp} {R : Nat → Option zT} (a : FX p h h') (hS : St h) (h1 : ∀ c j, 121 ≤ c ∧ c ≤ 133 → ¬ p c j) (z : Mc1 h R) : Mc1 h' R := by
  intro r hr
  have z1 := z r hr
  have e : ∀ c j, 121 ≤ c → c ≤ 133 → hI h' c j = hI h c j := fun c j c1 c2 => F68 a hS (by omega) (h1 c j ⟨c1, c2⟩)
  cases q : R r with
  | none => rw [q] at z1; exact (e 121 r (by decide) (by decide)).trans z1
  | some t =>
    rw [q] at z1
    obtain ⟨b1, b2, b3, b4, b5⟩ := z1
    exact ⟨(e 121 r (by decide) (by decide)).trans b1, (e 122 r (by decide) (by decide)).trans b2, RK_eq (fun j => e 123 j (by decide) (by decide)) (fun j => e 124 j (by decide) (by decide)) (fun j => e 125 j (by decide) (by decide)) b3, (e 126 r (by decide) (by decide)).trans b4, MEs_eq (fun i _ c c1 c2 => e c _ (by omega) (by omega)) b5⟩
theorem MV_p2 {p : Nat → Nat → Prop} {h h' : hp} {σ : zS} (a : FX p h h') (hS : St h) (h1 : ∀ c j, (c = 116 ∧ j = 35) ∨ (134 ≤ c ∧ c ≤ 140) → ¬ p c j) (z : MV h σ) : MV h' σ := by
  have h0 := hS.1
  have e : ∀ c j, (c = 116 ∧ j = 35) ∨ (134 ≤ c ∧ c ≤ 140) → hI h' c j = hI h c j ∧ hL h' c j = hL h c j := fun c j hc => by
    have := FX_at a (c := c) (j := j) (by omega) (h1 c j hc)
    exact ⟨this.1, this.2.1⟩
  obtain ⟨⟨th, a1, a2, a3⟩, c1, c2, c3, c4, c5, c6⟩ := z
  refine ⟨⟨th, a1, (e 116 35 (by omega)).1.trans a2, a3⟩, fun k hk q => (e 134 k (by omega)).1.trans (c1 k hk q), fun k hk => ?_, fun id hi => ?_, fun j hj => (e 138 j (by omega)).2.trans (c4 j hj), fun s hs => (e 139 s (by omega)).1.trans (c5 s hs), fun j hj => (e 140 j (by omega)).1.trans (c6 j hj)⟩
  · rw [(e 135 k (by omega)).1]; exact c2 k hk
  · rw [(e 136 id (by omega)).1, (e 137 id (by omega)).1]; exact c3 id hi
theorem MRu_p {p : Nat → Nat → Prop} {h h' : hp} {k : Option zK} (a : FX p h h') (hS : St h) (h1 : ∀ c j, (c = 116 ∧ 54 ≤ j ∧ j ≤ 59) ∨ c = 142 ∨ c = 143 → ¬ p c j) (z : MRu h k) : MRu h' k := by
  have e : ∀ c j, (c = 116 ∧ 54 ≤ j ∧ j ≤ 59) ∨ c = 142 ∨ c = 143 → hI h' c j = hI h c j := fun c j hc => F68 a hS (by omega) (h1 c j hc)
  cases k with
  | none => exact (e 116 54 (by omega)).trans z
  | some k =>
    obtain ⟨m0, ⟨m1, m2, m3, m4, m5⟩, m6⟩ := z
    exact ⟨(e 116 54 (by omega)).trans m0, ⟨(e 116 55 (by omega)).trans m1, (e 116 56 (by omega)).trans m2, (e 116 57 (by omega)).trans m3, (e 116 59 (by omega)).trans m4, MFr_eq (fun j _ => ⟨e 142 j (by omega), e 143 j (by omega)⟩) m5⟩, (e 116 58 (by omega)).trans m6⟩
theorem Mc5_p {p : Nat → Nat → Prop} {h h' : hp} {w : Int} (a : FX p h h') (hS : St h) (h1 : ¬ p 116 62) (z : Mc5 h w) : Mc5 h' w := (F68 a hS (by decide) h1).trans z
theorem Mq_p {p : Nat → Nat → Prop} {h h' : hp} {u : List Int} (a : FX p h h') (hS : St h) (h1 : ¬ p 116 1) (h2 : ∀ j, ¬ p 117 j) (z : Mq h 0 u) : Mq h' 0 u := ⟨(F68 a hS (by decide) h1).trans z.1, z.2.1, Tx_eq (fun j => F68 a hS (by decide) (h2 j)) z.2.2.1, z.2.2.2⟩
theorem Mc7_p {p : Nat → Nat → Prop} {h h' : hp} {f : Int × Int} (a : FX p h h') (hS : St h) (h1 : ¬ p 116 12) (h2 : ¬ p 116 13) (z : Mc7 h f) : Mc7 h' f := ⟨(F68 a hS (by decide) h1).trans z.1, (F68 a hS (by decide) h2).trans z.2⟩
theorem Mc8_p {p : Nat → Nat → Prop} {h h' : hp} {o : List Int} (a : FX p h h') (hS : St h) (h1 : ¬ p 116 3) (h2 : ∀ j, ¬ p 118 j) (z : Mc8 h o) : Mc8 h' o := ⟨(F68 a hS (by decide) h1).trans z.1, Tx_eq (fun j => F68 a hS (by decide) (h2 j)) z.2⟩
theorem Mc9_p {p : Nat → Nat → Prop} {h h' : hp} {l : Int} (a : FX p h h') (hS : St h) (h1 : ¬ p 116 64) (z : Mc9 h l) : Mc9 h' l := (F68 a hS (by decide) h1).trans z
/-! the two sides do not meet -/
def xpl (a _j : Nat) : Prop := (1 ≤ a ∧ a < 116) ∨ 145 ≤ a
def mpl (a _j : Nat) : Prop := 116 ≤ a ∧ a < 145
theorem IM_x {h h' : hp} {s : zA} (a : FX xpl h h') (hS : St h) (z : IM h s) : IM h' s := by
  obtain ⟨z1, z2, z3, z4, z5, z6, z7, z8⟩ := z
  have n : ∀ c j, 116 ≤ c → c < 145 → ¬ xpl c j := fun c j c1 c2 => by unfold xpl; omega
  exact ⟨Mc1_p a hS (fun c j hc => n c j (by omega) (by omega)) z1, MV_p2 a hS (fun c j hc => n c j (by omega) (by omega)) z2, MRu_p a hS (fun c j hc => n c j (by omega) (by omega)) z3, Mc5_p a hS (n _ _ (by decide) (by decide)) z4, Mq_p a hS (n _ _ (by decide) (by decide)) (fun j => n _ _ (by decide) (by decide)) z5, Mc7_p a hS (n _ _ (by decide) (by decide)) (n _ _ (by decide) (by decide)) z6, Mc8_p a hS (n _ _ (by decide) (by decide)) (fun j => n _ _ (by decide) (by decide)) z7, Mc9_p a hS (n _ _ (by decide) (by decide)) z8⟩
theorem IX_m {h h' : hp} {s : zA} (a : FX mpl h h') (hS : St h) (z : IX h s) : IX h' s := by
  obtain ⟨z1, z2, z3, z4, z5, z6, z7, z8, z9⟩ := z
  have n : ∀ c j, c < 116 ∨ 145 ≤ c → ¬ mpl c j := fun c j c1 => by unfold mpl; omega
  exact ⟨Xc1_p a hS (fun j => n _ _ (by decide)) (fun c j c1 _ _ => n c j (Or.inr c1)) z1, Xc2_p a hS (fun c j hc => n c j (by omega)) (fun c j c1 _ _ _ => n c j (Or.inr c1)) z2, XFr_p a hS (n _ _ (by decide)) (n _ _ (by decide)) z3, XRu_p a hS (fun c j hc => n c j (by omega)) z4, Xc5_p a hS (n _ _ (by decide)) z5, Tq_p a hS (n _ _ (by decide)) (fun j => n _ _ (by decide)) z6, Xc7_p a hS (n _ _ (by decide)) (n _ _ (by decide)) z7, Xc8_p a hS (n _ _ (by decide)) (fun j => n _ _ (by decide)) z8, Xc9_p a hS (n _ _ (by decide)) z9⟩
/-- the script stays -/
def Kp (h h' : hp) : Prop := St h' ∧ hT h' 0 = hT h 0 ∧ ∀ j, hI h' 0 j = hI h 0 j
theorem Kp_trans {h h1 h2 : hp} (a : Kp h h1) (b : Kp h1 h2) : Kp h h2 := ⟨b.1, b.2.1.trans a.2.1, fun j => (b.2.2 j).trans (a.2.2 j)⟩
theorem Kp_p {p : Nat → Nat → Prop} {h h' : hp} (a : FX p h h') (hS : St h) (hp : ∀ j, ¬ p 0 j) : Kp h h' := ⟨a.2.2.1, (a.2.2.2 0 (Nat.lt_of_lt_of_le (by decide) hS.1)).1, fun j => F68 a hS (by decide) (hp j)⟩
/-- the state ahead of the n-th call -/
def IN (n : Nat) (h : hp) : Prop := ∃ s, St h ∧ IX h s ∧ IM h s ∧ Gd s ∧ hU h ≤ 200000 + 100000 * n
/-- a call of x and a call of m answer alike -/
def avk : av → Nat
  | .inl _ => 0
  | .inr (.inl _) => 1
  | _ => 2
/-- item, digest and get answer a long -/
def pk (y : Nat) : Nat := if y = 71 ∨ y = 87 ∨ y = 94 then 1 else 0
def Pair (y z : Nat) (ax am : List av) (n : Nat) (h : hp) : Prop := ∃ v : av, avk v = pk y ∧ ∀ (d : Nat) (Q : qt), (∀ h1, Kp h h1 → (∀ Q2 : qt, (∀ h2, Kp h h2 → IN (n + 1) h2 → Q2 (.inl (some v)) h2) → Wc (d + 2000) z am h1 Q2) → Q (.inl (some v)) h1) → Wc (d + 2000) y ax h Q
theorem pair_of {y z n : Nat} {ax am : List av} {h : hp} {s : zA} (v : av) (s' : zA) (Gx : Prop) (hS : St h) (m : IM h s) (hU0 : hU h ≤ 200000 + 100000 * n)
    (X : ∀ (d : Nat) (Q : qt), (∀ h1, FX xpl h h1 → hU h1 ≤ hU h + 100000 → IX h1 s' → Gx → Q (.inl (some v)) h1) → Wc (d + 2000) y ax h Q)
    (M : ∀ (d : Nat) (h1 : hp) (Q : qt), St h1 → IM h1 s → IX h1 s' → Gx → (∀ h2, FX mpl h1 h2 → hU h2 = hU h1 → IM h2 s' → Gd s' → Q (.inl (some v)) h2) → Wc (d + 2000) z am h1 Q) (hav : avk v = pk y := by rfl) : Pair y z ax am n h := by
  refine ⟨v, hav, fun d Q k => X d Q (fun h1 F1 U1 X1 g' => ?_)⟩
  have S1 : St h1 := F1.2.2.1
  have K1 : Kp h h1 := Kp_p F1 hS (fun j => by unfold xpl; omega)
  refine k h1 K1 (fun Q2 k2 => ?_)
  refine M d h1 Q2 S1 (IM_x F1 hS m) X1 g' (fun h2 F2 U2 M2 g2 => ?_)
  refine k2 h2 (Kp_trans K1 (Kp_p F2 S1 (fun j => by unfold mpl; omega))) ⟨s', F2.2.2.1, IX_m F2 S1 X1, M2, g2, by omega⟩
theorem pair_eq {y z n : Nat} {ax am : List av} {h : hp} {s : zA} (v : av) (hS : St h) (x : IX h s) (m : IM h s) (g : Gd s) (hU0 : hU h ≤ 200000 + 100000 * n)
    (X : ∀ (d : Nat) (Q : qt), Q (.inl (some v)) h → Wc (d + 2000) y ax h Q) (M : ∀ (d : Nat) (Q : qt), Q (.inl (some v)) h → Wc (d + 2000) z am h Q) (hav : avk v = pk y := by rfl) : Pair y z ax am n h := by
  refine ⟨v, hav, fun d Q k => X d Q ?_⟩
  have K : Kp h h := ⟨hS, rfl, fun _ => rfl⟩
  exact k h K (fun Q2 k2 => M d Q2 (k2 h K ⟨s, hS, x, m, g, by omega⟩))
