/-! the digits tell the number -/
def dv (a : Nat) (l : List Int) : Nat := l.foldl (fun a c => 10 * a + (c - 48).toNat) a
theorem dv_pdg : ∀ (j f n a : Nat), j < f → dv a (pdg f n (10 ^ j)) = a * 10 ^ (j + 1) + n % 10 ^ (j + 1) := by
  intro j
  induction j with
  | zero =>
    intro f n a hf
    obtain ⟨f, rfl⟩ : ∃ e, f = e + 1 := ⟨f - 1, by omega⟩
    unfold pdg
    rw [if_pos (by decide)]
    have : pdg f n (10 ^ 0 / 10) = [] := by
      cases f with
      | zero => rfl
      | succ f => unfold pdg; rw [if_neg (by decide)]
    rw [this]
    show 10 * a + ((((48 + n / 10 ^ 0 % 10 : Nat) : Int)) - 48).toNat = _
    rw [show (((48 + n / 10 ^ 0 % 10 : Nat) : Int) - 48).toNat = n / 10 ^ 0 % 10 by omega, Nat.pow_zero, Nat.div_one]
    rw [Nat.zero_add, Nat.pow_one, Nat.mul_comm]
  | succ j ih =>
    intro f n a hf
    obtain ⟨f, rfl⟩ : ∃ e, f = e + 1 := ⟨f - 1, by omega⟩
    unfold pdg
    rw [if_pos (Nat.pow_pos (by decide))]
    show dv (10 * a + ((((48 + n / 10 ^ (j + 1) % 10 : Nat) : Int)) - 48).toNat) (pdg f n (10 ^ (j + 1) / 10)) = _
    rw [show (((48 + n / 10 ^ (j + 1) % 10 : Nat) : Int) - 48).toNat = n / 10 ^ (j + 1) % 10 by omega]
    rw [show 10 ^ (j + 1) / 10 = 10 ^ j by rw [Nat.pow_succ, Nat.mul_div_cancel _ (by decide)]]
    rw [ih f n _ (by omega)]
    rw [Nat.pow_succ 10 (j + 1), Nat.mod_mul]
    generalize 10 ^ (j + 1) = m
    generalize n / m % 10 = q
    generalize n % m = s
    rw [Nat.add_mul, Nat.mul_comm 10 a, Nat.mul_assoc, Nat.mul_comm 10 m, Nat.mul_comm q m]
    omega
theorem ptp_fin : ∀ (f n p : Nat), 0 < p → n / p < 10 ^ (f + 1) → n / ptp f n p ≤ 9 := by
  intro f
  induction f with
  | zero => intro n p _ h; show n / p ≤ 9; omega
  | succ f ih =>
    intro n p hp0 h
    unfold ptp
    by_cases q : 9 < n / p
    · rw [if_pos q]
      refine ih n (10 * p) (by omega) ?_
      rw [Nat.mul_comm, ← Nat.div_div_eq_div_mul]
      rw [Nat.pow_succ] at h
      omega
    · rw [if_neg q]; omega
theorem dv_pnm {n : Nat} (hn : n < 1000000000) : dv 0 (pnm n) = n := by
  obtain ⟨j, j1, j2⟩ := ptp_10 10 n 0 9 (by exact hn) (by decide)
  have f9 := ptp_fin 10 n 1 (by decide) (by rw [Nat.div_one]; exact Nat.lt_trans hn (by decide))
  rw [show (10 : Nat) ^ 0 = 1 by rfl] at j2
  unfold pnm
  rw [j2] at f9 ⊢
  rw [dv_pdg j 11 n 0 (by omega), Nat.zero_mul, Nat.zero_add]
  refine Nat.mod_eq_of_lt ?_
  rw [Nat.pow_succ, Nat.mul_comm]
  have p0 : 0 < 10 ^ j := Nat.pow_pos (by decide)
  exact (Nat.div_lt_iff_lt_mul p0).mp (Nat.lt_succ_of_le f9)
theorem pnm_inj {n m : Nat} (hn : n < 1000000000) (hm : m < 1000000000) (e : pnm n = pnm m) : n = m := by
  rw [← dv_pnm hn, ← dv_pnm hm, e]
theorem pdg_dg : ∀ (f n p : Nat), ∀ c ∈ pdg f n p, bDg c = true := by
  intro f
  induction f with
  | zero => intro n p c hc; cases hc
  | succ f ih =>
    intro n p c hc
    unfold pdg at hc
    split at hc
    · have : n / p % 10 < 10 := Nat.mod_lt _ (by decide)
      rcases List.mem_cons.mp hc with e | e
      · rw [e]; unfold bDg; rw [decide_eq_true (by omega), decide_eq_true (by omega)]; rfl
      · exact ih n (p / 10) c e
    · cases hc
theorem pnm_ne (n : Nat) (hn : n < 1000000000) : ∃ c u, pnm n = c :: u := by
  have p0 := ptp_b 10 n 1 (by decide) (by decide) hn
  unfold pnm pdg
  rw [if_pos p0.1]
  exact ⟨_, _, rfl⟩
theorem pkb_sm : ∀ w, w < 22 → (∀ c ∈ pkb w, bSm c = true) ∧ 2 ≤ (pkb w).length := by decide
theorem pkb_inj : ∀ w, w < 22 → ∀ v, v < 22 → pkb w = pkb v → w = v := by decide
theorem ppr_f : ∀ w, w < 6 → ∃ p q, ppr w = [p, q] ∧ (p = 43 ∨ p = 45 ∨ p = 94 ∨ p = 60 ∨ p = 62) ∧ (q = 61 ∨ q = 60 ∨ q = 62) := by
  intro w hw
  have : w = 0 ∨ w = 1 ∨ w = 2 ∨ w = 3 ∨ w = 4 ∨ w = 5 := by omega
  rcases this with y | y | y | y | y | y <;> subst y
  · exact ⟨43, 61, rfl, by decide, by decide⟩
  · exact ⟨45, 61, rfl, by decide, by decide⟩
  · exact ⟨94, 61, rfl, by decide, by decide⟩
  · exact ⟨60, 62, rfl, by decide, by decide⟩
  · exact ⟨60, 60, rfl, by decide, by decide⟩
  · exact ⟨62, 62, rfl, by decide, by decide⟩
theorem ppr_inj : ∀ w, w < 6 → ∀ v, v < 6 → ppr w = ppr v → w = v := by decide
def sgc (c : Int) : Prop := (33 ≤ c ∧ c ≤ 47) ∨ (58 ≤ c ∧ c ≤ 64) ∨ (91 ≤ c ∧ c ≤ 96) ∨ (123 ≤ c ∧ c ≤ 126)
theorem sg7_c {w : Nat} (h : sg7 w = true) : sgc ((w : Nat) : Int) := by
  have : w = 35 ∨ w = 37 ∨ w = 38 ∨ w = 40 ∨ w = 41 ∨ w = 42 ∨ w = 43 ∨ w = 45 ∨ w = 47 ∨ w = 59 ∨ w = 60 ∨ w = 61 ∨ w = 91 ∨ w = 93 ∨ w = 94 ∨ w = 123 ∨ w = 124 ∨ w = 125 := by
    unfold sg7 at h
    simpa using h
  unfold sgc
  omega
/-- the first byte tells the sort -/
def fcl (x : Nat × Nat) (c : Int) : Prop := ((x.1 = 1 ∨ x.1 = 5) ∧ 97 ≤ c ∧ c ≤ 122) ∨ (x.1 = 2 ∧ 48 ≤ c ∧ c ≤ 57) ∨ (x.1 = 3 ∧ 65 ≤ c ∧ c ≤ 70) ∨ (x.1 = 4 ∧ 83 ≤ c ∧ c ≤ 86) ∨ ((x.1 = 6 ∨ x.1 = 7 ∨ x.1 = 8) ∧ sgc c)
theorem ptk_f {x : Nat × Nat} (h : okt x) : ∃ c u, ptk x = c :: u ∧ fcl x c := by
  obtain ⟨s, w⟩ := x
  rcases h with ⟨a, b⟩ | ⟨a, b⟩ | ⟨a, b⟩ | ⟨a, b⟩ | ⟨a, b⟩ | ⟨a, b⟩ | ⟨a, b, c, d, e⟩ <;> dsimp only at a b
  · subst a; exact ⟨_, _, rfl, Or.inl ⟨Or.inl rfl, by omega, by omega⟩⟩
  · subst a
    obtain ⟨c, u, e⟩ := pnm_ne w b
    refine ⟨c, u, e, Or.inr (Or.inl ⟨rfl, ?_⟩)⟩
    have := pdg_dg 11 w (ptp 10 w 1) c (by show c ∈ pnm w; rw [e]; exact List.mem_cons_self ..)
    unfold bDg at this
    simpa using this
  · subst a; exact ⟨_, _, rfl, Or.inr (Or.inr (Or.inl ⟨rfl, by omega, by omega⟩))⟩
  · subst a; exact ⟨_, _, rfl, Or.inr (Or.inr (Or.inr (Or.inl ⟨rfl, by omega, by omega⟩)))⟩
  · subst a
    obtain ⟨k1, k2⟩ := pkb_sm w b
    cases e : pkb w with
    | nil => rw [e] at k2; exact absurd k2 (by decide)
    | cons c u =>
      refine ⟨c, u, e, Or.inl ⟨Or.inr rfl, ?_⟩⟩
      have := k1 c (by rw [e]; exact List.mem_cons_self ..)
      unfold bSm at this
      simpa using this
  · subst a
    obtain ⟨p, q, e, h1, -⟩ := ppr_f w b
    exact ⟨p, [q], e, Or.inr (Or.inr (Or.inr (Or.inr ⟨Or.inl rfl, by unfold sgc; omega⟩)))⟩
  · rcases a with a | a
    · subst a
      exact ⟨_, _, rfl, Or.inr (Or.inr (Or.inr (Or.inr ⟨Or.inr (Or.inl rfl), sg7_c (d rfl)⟩)))⟩
    · subst a
      have := e rfl
      dsimp only at this
      subst this
      exact ⟨_, _, rfl, Or.inr (Or.inr (Or.inr (Or.inr ⟨Or.inr (Or.inr rfl), by show sgc 45; unfold sgc; omega⟩)))⟩

/-! cutting off the first token -/
def sepc (c : Int) : Prop := c = 32 ∨ c = 59 ∨ c = 93 ∨ c = 41 ∨ c = 91
theorem pbs_sep {A : List (Nat × Nat)} : pbs A false = [] ∨ ∃ c R, pbs A false = c :: R ∧ sepc c := by
  cases A with
  | nil => exact Or.inl rfl
  | cons y A =>
    right
    cases hc : pcl y with
    | false => exact ⟨32, _, by show psp false y ++ _ = _; rw [psp_n hc]; rfl, Or.inl rfl⟩
    | true =>
      obtain ⟨s, w⟩ := y
      unfold pcl at hc
      simp at hc
      obtain ⟨h1, h2⟩ := hc
      subst h1
      refine ⟨(w : Nat), _, by show psp false (7, w) ++ ([((w : Nat) : Int)] ++ _) = _; rw [psp_c (by unfold pcl; simp; omega)]; rfl, ?_⟩
      unfold sepc
      omega
theorem sep_t {A : List (Nat × Nat)} {p : Int → Bool} (h : ∀ c, sepc c → p c = false) : pbs A false = [] ∨ ∃ c R, pbs A false = c :: R ∧ p c = false := by
  rcases pbs_sep (A := A) with e | ⟨c, R, e, q⟩
  · exact Or.inl e
  · exact Or.inr ⟨c, R, e, h c q⟩
theorem est_f {y : Nat × Nat} (h : okt y) (e : est y) : ∃ c u, ptk y = c :: u ∧ c ≠ 61 ∧ c ≠ 60 ∧ c ≠ 62 ∧ c ≠ 32 ∧ pcl y = false := by
  obtain ⟨c, u, e1, f⟩ := ptk_f h
  refine ⟨c, u, e1, ?_⟩
  rcases e with z | z | z | z | z | z
  · have hp : pcl y = false := by unfold pcl; rw [z]; rfl
    rcases f with ⟨a, b⟩ | ⟨a, b⟩ | ⟨a, b⟩ | ⟨a, b⟩ | ⟨a, b⟩
    · exact ⟨by omega, by omega, by omega, by omega, hp⟩
    all_goals omega
  · have hp : pcl y = false := by unfold pcl; rw [z]; rfl
    rcases f with ⟨a, b⟩ | ⟨a, b⟩ | ⟨a, b⟩ | ⟨a, b⟩ | ⟨a, b⟩
    · omega
    · exact ⟨by omega, by omega, by omega, by omega, hp⟩
    all_goals omega
  · have hp : pcl y = false := by unfold pcl; rw [z]; rfl
    rcases f with ⟨a, b⟩ | ⟨a, b⟩ | ⟨a, b⟩ | ⟨a, b⟩ | ⟨a, b⟩
    · omega
    · omega
    · exact ⟨by omega, by omega, by omega, by omega, hp⟩
    all_goals omega
  · have hp : pcl y = false := by unfold pcl; rw [z]; rfl
    obtain ⟨s, w⟩ := y
    have z' : s = 8 := z
    subst z'
    have w45 : w = 45 := by
      rcases h with ⟨a, -⟩ | ⟨a, -⟩ | ⟨a, -⟩ | ⟨a, -⟩ | ⟨a, -⟩ | ⟨a, -⟩ | ⟨-, -, -, -, q⟩
      all_goals first | exact q rfl | (dsimp only at a; omega)
    subst w45
    have : c = 45 := (List.cons.inj (show [(45 : Int)] = c :: u from e1)).1.symm
    exact ⟨by omega, by omega, by omega, by omega, hp⟩
  · subst z
    have : c = 40 := (List.cons.inj (show [(40 : Int)] = c :: u from e1)).1.symm
    exact ⟨by omega, by omega, by omega, by omega, rfl⟩
  · subst z
    have : c = 35 := (List.cons.inj (show [(35 : Int)] = c :: u from e1)).1.symm
    exact ⟨by omega, by omega, by omega, by omega, rfl⟩
/-- behind a minus -/
theorem min_t {x : Nat × Nat} {A : List (Nat × Nat)} (o : oka (x :: A)) (m : okm (x :: A)) (h : x = (7, 45) ∨ x = (8, 45)) : ∃ c R, pbs A (pgu x) = c :: R ∧ c ≠ 61 ∧ c ≠ 60 ∧ c ≠ 62 ∧ (c = 32 ↔ x = (7, 45)) := by
  obtain ⟨y, B, e, es⟩ := m.1 h
  subst e
  obtain ⟨c, u, e1, n1, n2, n3, n4, n5⟩ := est_f (o y (List.mem_cons_of_mem _ (List.mem_cons_self ..))) es
  rcases h with h | h <;> subst h
  · refine ⟨32, ptk y ++ pbs B (pgu y), ?_, by decide, by decide, by decide, ⟨fun _ => rfl, fun _ => rfl⟩⟩
    show psp false y ++ _ = _
    rw [psp_n n5]; rfl
  · refine ⟨c, u ++ pbs B (pgu y), ?_, n1, n2, n3, ⟨fun z => absurd z n4, fun z => absurd z (by decide)⟩⟩
    show psp true y ++ (ptk y ++ _) = _
    rw [psp_n n5, e1]; rfl
