/-! CALLS THAT ONLY LOOK -/
theorem rg_t {a b v : Int} (h : a ≤ v ∧ v ≤ b) : (decide (a ≤ v) && decide (v ≤ b)) = true := by rw [decide_eq_true h.1, decide_eq_true h.2]; rfl
theorem rg_f {a b v : Int} (h : ¬ (a ≤ v ∧ v ≤ b)) : (decide (a ≤ v) && decide (v ≤ b)) = false := by
  rw [Bool.eq_false_iff]
  intro z
  rw [Bool.and_eq_true, decide_eq_true_eq, decide_eq_true_eq] at z
  exact h z
theorem i12 {id q : Nat} (h1 : id < 14) (h2 : q < 12) : n_add (n_mul 12 ((id : Nat) : Int)) ((q : Nat) : Int) = ((12 * id + q : Nat) : Int) := by rw [nm_eq (by omega) (by omega), na_eq (by omega) (by omega)]; omega
theorem i30 {r q : Nat} (h1 : r < 4) (h2 : q < 30) : n_add (n_mul 30 ((r : Nat) : Int)) ((q : Nat) : Int) = ((30 * r + q : Nat) : Int) := by rw [nm_eq (by omega) (by omega), na_eq (by omega) (by omega)]; omega
theorem op_fault {n : Nat} {h : hp} {a : Int} (I : IN n h) : Pair 39 145 [vR (some 68), vI a] [vR (some 116), vI a] n h := by
  obtain ⟨⟨R, σ, K, w, T, F, O, L⟩, hS, x, m, g, u⟩ := I
  obtain ⟨x1, x2, x3, x4, x5, x6, x7, x8, x9⟩ := id x
  obtain ⟨m1, m2, m4, m5, m6, m7, m8, m9⟩ := id m
  by_cases a0 : a = 0
  · exact pair_eq (vI F.1) hS x m g u (fun d Q k => se_X0_fault hS (ip a0 (by rw [x7.1]; exact k))) (fun d Q k => se_X4_fault hS (ip a0 (by rw [m7.1]; exact k)))
  by_cases a1 : a = 1
  · exact pair_eq (vI F.2) hS x m g u (fun d Q k => se_X0_fault hS (im a0 (ip a1 (by rw [x7.2]; exact k)))) (fun d Q k => se_X4_fault hS (im a0 (ip a1 (by rw [m7.2]; exact k))))
  exact pair_eq (vI (-1)) hS x m g u (fun d Q k => se_X0_fault hS (im a0 (im a1 k))) (fun d Q k => se_X4_fault hS (im a0 (im a1 k)))
theorem op_failed {n : Nat} {h : hp} (I : IN n h) : Pair 96 229 [vR (some 68)] [vR (some 116)] n h := by
  obtain ⟨⟨R, σ, K, w, T, F, O, L⟩, hS, x, m, g, u⟩ := I
  obtain ⟨x1, x2, x3, x4, x5, x6, x7, x8, x9⟩ := id x
  obtain ⟨m1, m2, m4, m5, m6, m7, m8, m9⟩ := id m
  have e1 : hI h 68 39 = L := x9
  have e2 : hI h 116 64 = L := m9
  exact pair_eq (vI L) hS x m g u (fun d Q k => se_X0_failed hS (by rw [e1]; exact k)) (fun d Q k => se_X4_failed hS (by rw [e2]; exact k))
theorem op_has {n : Nat} {h : hp} {a : Int} (I : IN n h) : Pair 67 214 [vR (some 68), vI a] [vR (some 116), vI a] n h := by
  obtain ⟨⟨R, σ, K, w, T, F, O, L⟩, hS, x, m, g, u⟩ := I
  obtain ⟨x1, ⟨ρ, x2⟩, x3, x4, x5, x6, x7, x8, x9⟩ := id x
  obtain ⟨m1, m2, m4, m5, m6, m7, m8, m9⟩ := id m
  dsimp only at x2 m2
  by_cases ha : 0 ≤ a ∧ a ≤ 25
  · obtain ⟨r, rfl⟩ : ∃ r : Nat, a = (r : Nat) := ⟨a.toNat, by omega⟩
    have hr : r < 26 := by omega
    refine pair_eq (vI (σ 0 r)) hS x m g u (fun d Q k => ?_) (fun d Q k => ?_)
    · refine se_X0_has hS (pu_isName hS ?_)
      refine ss_X0_has_4 hS ?_
      rw [rg_t ha]
      refine im (by decide) ⟨by omega, ?_⟩
      obtain ⟨e1, e2, -⟩ := x2.1.1 r hr
      rw [Int.toNat_natCast, e1]
      rcases e2 with e | e <;> rw [e] at k ⊢
      · exact ip rfl k
      · exact im (by decide) k
    · refine se_X4_has hS (pu_in hS ?_)
      refine ss_X4_has_7 hS ?_
      rw [rg_t ha, MV_bit m2 hr]
      exact im (by decide) k
  · refine pair_eq (vI (-1)) hS x m g u (fun d Q k => ?_) (fun d Q k => ?_)
    · refine se_X0_has hS (pu_isName hS ?_)
      refine ss_X0_has_4 hS ?_
      rw [rg_f ha]
      exact ip rfl k
    · refine se_X4_has hS (pu_in hS ?_)
      refine ss_X4_has_7 hS ?_
      rw [rg_f ha]
      exact ip rfl k
theorem op_value {n : Nat} {h : hp} {a : Int} (I : IN n h) : Pair 68 215 [vR (some 68), vI a] [vR (some 116), vI a] n h := by
  obtain ⟨⟨R, σ, K, w, T, F, O, L⟩, hS, x, m, g, u⟩ := I
  obtain ⟨x1, ⟨ρ, x2⟩, x3, x4, x5, x6, x7, x8, x9⟩ := id x
  obtain ⟨m1, m2, m4, m5, m6, m7, m8, m9⟩ := id m
  dsimp only at x2 m2
  by_cases ha : 0 ≤ a ∧ a ≤ 25
  · obtain ⟨r, rfl⟩ : ∃ r : Nat, a = (r : Nat) := ⟨a.toNat, by omega⟩
    have hr : r < 26 := by omega
    obtain ⟨e1, e2, e3⟩ := x2.1.1 r hr
    refine pair_eq (vI (if σ 0 r = 0 then 0 else σ 1 r)) hS x m g u (fun d Q k => ?_) (fun d Q k => ?_)
    · refine se_X0_value hS (pu_isName hS ?_)
      refine ss_X0_value_4 hS ?_
      rw [rg_t ha]
      refine im (by decide) ⟨by omega, ?_⟩
      rw [Int.toNat_natCast, e1]
      rcases e2 with e | e
      · rw [if_pos e] at k
        exact ip e k
      · rw [if_neg (by omega)] at k
        refine im (by omega) ⟨by omega, ?_⟩
        rw [e3 e]; exact k
    · refine se_X4_value hS (pu_in hS ?_)
      refine ss_X4_value_7 hS ?_
      rw [rg_t ha, MV_bit m2 hr]
      refine im (by decide) ?_
      rcases e2 with e | e
      · rw [if_pos e] at k
        exact im (by omega) k
      · rw [if_neg (by omega)] at k
        refine ip e ⟨by omega, ?_⟩
        rw [Int.toNat_natCast, m2.2.1 r hr e]; exact k
  · refine pair_eq (vI 0) hS x m g u (fun d Q k => ?_) (fun d Q k => ?_)
    · refine se_X0_value hS (pu_isName hS ?_)
      refine ss_X0_value_4 hS ?_
      rw [rg_f ha]
      exact ip rfl k
    · refine se_X4_value hS (pu_in hS ?_)
      refine ss_X4_value_7 hS ?_
      rw [rg_f ha]
      exact ip rfl k
theorem op_height {n : Nat} {h : hp} {a : Int} (I : IN n h) : Pair 72 218 [vR (some 68), vI a] [vR (some 116), vI a] n h := by
  obtain ⟨⟨R, σ, K, w, T, F, O, L⟩, hS, x, m, g, u⟩ := I
  obtain ⟨x1, ⟨ρ, x2⟩, x3, x4, x5, x6, x7, x8, x9⟩ := id x
  obtain ⟨m1, m2, m4, m5, m6, m7, m8, m9⟩ := id m
  dsimp only at x2 m2
  by_cases ha : 0 ≤ a ∧ a ≤ 3
  · obtain ⟨r, rfl⟩ : ∃ r : Nat, a = (r : Nat) := ⟨a.toNat, by omega⟩
    have hr : r < 4 := by omega
    have e1 : hI h 77 r = σ 6 r := (x2.2.1 r hr).1
    have e2 : hI h 139 r = σ 6 r := m2.2.2.2.2.2.1 r hr
    refine pair_eq (vI (σ 6 r)) hS x m g u (fun d Q k => ?_) (fun d Q k => ?_)
    · refine se_X0_height hS (pu_isIn hS ?_)
      refine ss_X0_height_9 hS ?_
      rw [rg_t ha, Int.toNat_natCast, e1]
      exact im (by decide) ⟨by omega, k⟩
    · refine se_X4_height hS (pu_in hS ?_)
      refine ss_X4_height_6 hS ?_
      rw [rg_t ha, Int.toNat_natCast, e2]
      exact im (by decide) ⟨by omega, k⟩
  · refine pair_eq (vI (-1)) hS x m g u (fun d Q k => ?_) (fun d Q k => ?_)
    · refine se_X0_height hS (pu_isIn hS ?_)
      refine ss_X0_height_9 hS ?_
      rw [rg_f ha]
      exact ip rfl k
    · refine se_X4_height hS (pu_in hS ?_)
      refine ss_X4_height_6 hS ?_
      rw [rg_f ha]
      exact ip rfl k
theorem op_piled {n : Nat} {h : hp} {a b : Int} (I : IN n h) : Pair 73 219 [vR (some 68), vI a, vI b] [vR (some 116), vI a, vI b] n h := by
  obtain ⟨⟨R, σ, K, w, T, F, O, L⟩, hS, x, m, g, u⟩ := I
  obtain ⟨x1, ⟨ρ, x2⟩, x3, x4, x5, x6, x7, x8, x9⟩ := id x
  obtain ⟨m1, m2, m4, m5, m6, m7, m8, m9⟩ := id m
  dsimp only at x2 m2
  by_cases ha : 0 ≤ a ∧ a ≤ 3
  · obtain ⟨r, rfl⟩ : ∃ r : Nat, a = (r : Nat) := ⟨a.toNat, by omega⟩
    have hr : r < 4 := by omega
    obtain ⟨e1, e3, e4⟩ := x2.2.1 r hr
    have e2 : hI h 139 r = σ 6 r := m2.2.2.2.2.2.1 r hr
    have es : n_sub (σ 6 r) 1 = σ 6 r - 1 := ns_eq (by omega) (by omega)
    by_cases hb : 0 ≤ b ∧ b ≤ σ 6 r - 1
    · obtain ⟨q, rfl⟩ : ∃ q : Nat, b = (q : Nat) := ⟨b.toNat, by omega⟩
      have hj : 30 * r + q < 120 := by omega
      refine pair_eq (vI (σ 7 (30 * r + q))) hS x m g u (fun d Q k => ?_) (fun d Q k => ?_)
      · refine se_X0_piled hS (pu_isIn hS ?_)
        refine ss_X0_piled_9 hS ?_
        rw [rg_t ha, Int.toNat_natCast, e1, es]
        refine im (by decide) ⟨by omega, pu_isIn hS ?_⟩
        refine ss_X0_piled_27 hS ?_
        rw [rg_t hb, i30 hr (by omega), Int.toNat_natCast, x2.2.2 _ hj]
        exact im (by decide) ⟨by omega, k⟩
      · refine se_X4_piled hS (pu_in hS ?_)
        refine ss_X4_piled_6 hS ?_
        rw [rg_t ha, Int.toNat_natCast, e2, es]
        refine im (by decide) ⟨by omega, pu_in hS ?_⟩
        refine ss_X4_piled_22 hS ?_
        rw [rg_t hb, i30 hr (by omega), Int.toNat_natCast, m2.2.2.2.2.2.2 _ hj]
        exact im (by decide) ⟨by omega, k⟩
    · refine pair_eq (vI 0) hS x m g u (fun d Q k => ?_) (fun d Q k => ?_)
      · refine se_X0_piled hS (pu_isIn hS ?_)
        refine ss_X0_piled_9 hS ?_
        rw [rg_t ha, Int.toNat_natCast, e1, es]
        refine im (by decide) ⟨by omega, pu_isIn hS ?_⟩
        refine ss_X0_piled_27 hS ?_
        rw [rg_f hb]
        exact ip rfl k
      · refine se_X4_piled hS (pu_in hS ?_)
        refine ss_X4_piled_6 hS ?_
        rw [rg_t ha, Int.toNat_natCast, e2, es]
        refine im (by decide) ⟨by omega, pu_in hS ?_⟩
        refine ss_X4_piled_22 hS ?_
        rw [rg_f hb]
        exact ip rfl k
  · refine pair_eq (vI 0) hS x m g u (fun d Q k => ?_) (fun d Q k => ?_)
    · refine se_X0_piled hS (pu_isIn hS ?_)
      refine ss_X0_piled_9 hS ?_
      rw [rg_f ha]
      exact ip rfl k
    · refine se_X4_piled hS (pu_in hS ?_)
      refine ss_X4_piled_6 hS ?_
      rw [rg_f ha]
      exact ip rfl k
theorem op_out {n : Nat} {h : hp} {a : Int} (I : IN n h) : Pair 53 151 [vR (some 68), vI a] [vR (some 116), vI a] n h := by
  obtain ⟨⟨R, σ, K, w, T, F, O, L⟩, hS, x, m, g, u⟩ := I
  obtain ⟨x1, x2, x3, x4, x5, x6, x7, x8, x9⟩ := id x
  obtain ⟨m1, m2, m4, m5, m6, m7, m8, m9⟩ := id m
  have gO : O.length ≤ 6000 := g.2.2.2.2
  have e1 : hI h 68 37 = (O.length : Nat) := x8.1
  have e2 : hI h 116 3 = (O.length : Nat) := m8.1
  have es : n_sub ((O.length : Nat) : Int) 1 = (O.length : Nat) - 1 := ns_eq (by omega) (by omega)
  by_cases ha : 0 ≤ a ∧ a ≤ ((O.length : Nat) : Int) - 1
  · obtain ⟨r, rfl⟩ : ∃ r : Nat, a = (r : Nat) := ⟨a.toNat, by omega⟩
    have hr : r < O.length := by omega
    have f1 := Tx_get r hr x8.2
    have f2 := Tx_get r hr m8.2
    rw [Nat.zero_add] at f1 f2
    refine pair_eq (vI O[r]) hS x m g u (fun d Q k => ?_) (fun d Q k => ?_)
    · refine se_X0_out hS ?_
      rw [e1, es]
      refine pu_isIn hS ?_
      refine ss_X0_out_13 hS ?_
      rw [rg_t ha, Int.toNat_natCast, f1]
      exact im (by decide) ⟨by omega, k⟩
    · refine se_X4_out hS ?_
      rw [e2, es]
      refine pu_in hS ?_
      refine ss_X4_out_11 hS ?_
      rw [rg_t ha, Int.toNat_natCast, f2]
      exact im (by decide) ⟨by omega, k⟩
  · refine pair_eq (vI (-1)) hS x m g u (fun d Q k => ?_) (fun d Q k => ?_)
    · refine se_X0_out hS ?_
      rw [e1, es]
      refine pu_isIn hS ?_
      refine ss_X0_out_13 hS ?_
      rw [rg_f ha]
      exact ip rfl k
    · refine se_X4_out hS ?_
      rw [e2, es]
      refine pu_in hS ?_
      refine ss_X4_out_11 hS ?_
      rw [rg_f ha]
      exact ip rfl k
theorem op_row {n : Nat} {h : hp} {a b : Int} (I : IN n h) : Pair 69 216 [vR (some 68), vI a, vI b] [vR (some 116), vI a, vI b] n h := by
  obtain ⟨⟨R, σ, K, w, T, F, O, L⟩, hS, x, m, g, u⟩ := I
  obtain ⟨x1, ⟨ρ, x2⟩, x3, x4, x5, x6, x7, x8, x9⟩ := id x
  obtain ⟨m1, m2, m4, m5, m6, m7, m8, m9⟩ := id m
  dsimp only at x2 m2
  by_cases ha : 0 ≤ a ∧ a ≤ 5
  · obtain ⟨r, rfl⟩ : ∃ r : Nat, a = (r : Nat) := ⟨a.toNat, by omega⟩
    have hr : r < 6 := by omega
    by_cases hb : 0 ≤ b ∧ b ≤ 1
    · obtain ⟨m21, m22, m23⟩ := m2.2.2.1 r (by omega)
      have xs : ∀ (d : Nat) (Q : qt), (σ 2 r < 0 → Q (.inl (some (vI (-2)))) h) → (0 ≤ σ 2 r → b = 0 → Q (.inl (some (vI (σ 3 (σ 2 r).toNat)))) h) → (0 ≤ σ 2 r → b = 1 → Q (.inl (some (vI (σ 4 (σ 2 r).toNat)))) h) → Wc (d + 2000) 69 [vR (some 68), vI (r : Nat), vI b] h Q := by
        intro d Q k1 k2 k3
        refine se_X0_row hS (pu_isRow hS ?_)
        refine ss_X0_row_4 hS ?_
        rw [rg_t ha]
        refine im (by decide) (pu_isIn hS ?_)
        refine ss_X0_row_14 hS ?_
        rw [rg_t hb, Int.toNat_natCast, ho_r hS hr, ofR_some]
        have t3 := ho_t hS (k := r) (by omega)
        refine im (by decide) ⟨by omega, by rw [t3]; simp, ?_⟩
        rcases x2.1.2.1 r (by omega) with ⟨y1, y2⟩ | ⟨id, y0, y1, y2, -⟩
        · exact ip y2 (k1 (by omega))
        · refine im (by rw [y2]; simp) ?_
          by_cases b0 : b = 0
          · refine ip b0 ⟨by omega, ?_⟩
            rw [ofR_some]
            refine ip (by rw [t3]) ?_
            exact c_hkd hS x2.1 (by omega) (by omega) (ss_X0_row_49 hS (k2 (by omega) b0))
          · refine im b0 ⟨by omega, ?_⟩
            rw [ofR_some]
            refine ip (by rw [t3]) ?_
            exact c_hsz hS x2.1 (by omega) (by omega) (k3 (by omega) (by omega))
      have ms : ∀ (d : Nat) (Q : qt), (σ 2 r < 0 → Q (.inl (some (vI (-2)))) h) → (0 ≤ σ 2 r → b = 0 → Q (.inl (some (vI (σ 3 (σ 2 r).toNat)))) h) → (0 ≤ σ 2 r → b = 1 → Q (.inl (some (vI (σ 4 (σ 2 r).toNat)))) h) → Wc (d + 2000) 216 [vR (some 116), vI (r : Nat), vI b] h Q := by
        intro d Q k1 k2 k3
        refine se_X4_row hS (pu_in hS ?_)
        refine ss_X4_row_6 hS ?_
        rw [rg_t ha]
        refine im (by decide) (pu_in hS ?_)
        refine ss_X4_row_15 hS ?_
        rw [rg_t hb, Int.toNat_natCast, m21]
        refine im (by decide) ⟨by omega, ?_⟩
        by_cases y : σ 2 r < 0
        · exact ip y (k1 y)
        · obtain ⟨e3, e4, -⟩ := m2.2.2.2.1 (σ 2 r).toNat (by omega)
          refine im y ?_
          rw [e3, e4]
          by_cases b0 : b = 0
          · exact ip b0 ⟨by omega, by omega, k2 (by omega) b0⟩
          · exact im b0 ⟨by omega, by omega, k3 (by omega) (by omega)⟩
      by_cases y : σ 2 r < 0
      · exact pair_eq (vI (-2)) hS x m g u (fun d Q k => xs d Q (fun _ => k) (fun z => by omega) (fun z => by omega)) (fun d Q k => ms d Q (fun _ => k) (fun z => by omega) (fun z => by omega))
      · by_cases b0 : b = 0
        · exact pair_eq (vI (σ 3 (σ 2 r).toNat)) hS x m g u (fun d Q k => xs d Q (fun z => absurd z y) (fun _ _ => k) (fun _ z => by omega)) (fun d Q k => ms d Q (fun z => absurd z y) (fun _ _ => k) (fun _ z => by omega))
        · exact pair_eq (vI (σ 4 (σ 2 r).toNat)) hS x m g u (fun d Q k => xs d Q (fun z => absurd z y) (fun _ z => absurd z b0) (fun _ _ => k)) (fun d Q k => ms d Q (fun z => absurd z y) (fun _ z => absurd z b0) (fun _ _ => k))
    · refine pair_eq (vI (-1)) hS x m g u (fun d Q k => ?_) (fun d Q k => ?_)
      · refine se_X0_row hS (pu_isRow hS ?_)
        refine ss_X0_row_4 hS ?_
        rw [rg_t ha]
        refine im (by decide) (pu_isIn hS ?_)
        refine ss_X0_row_14 hS ?_
        rw [rg_f hb]
        exact ip rfl k
      · refine se_X4_row hS (pu_in hS ?_)
        refine ss_X4_row_6 hS ?_
        rw [rg_t ha]
        refine im (by decide) (pu_in hS ?_)
        refine ss_X4_row_15 hS ?_
        rw [rg_f hb]
        exact ip rfl k
  · refine pair_eq (vI (-1)) hS x m g u (fun d Q k => ?_) (fun d Q k => ?_)
    · refine se_X0_row hS (pu_isRow hS ?_)
      refine ss_X0_row_4 hS ?_
      rw [rg_f ha]
      exact ip rfl k
    · refine se_X4_row hS (pu_in hS ?_)
      refine ss_X4_row_6 hS ?_
      rw [rg_f ha]
      exact ip rfl k
theorem op_item {n : Nat} {h : hp} {a b : Int} (I : IN n h) : Pair 71 217 [vR (some 68), vI a, vI b] [vR (some 116), vI a, vI b] n h := by
  obtain ⟨⟨R, σ, K, w, T, F, O, L⟩, hS, x, m, g, u⟩ := I
  obtain ⟨x1, ⟨ρ, x2⟩, x3, x4, x5, x6, x7, x8, x9⟩ := id x
  obtain ⟨m1, m2, m4, m5, m6, m7, m8, m9⟩ := id m
  dsimp only at x2 m2
  by_cases ha : 0 ≤ a ∧ a ≤ 5
  · obtain ⟨r, rfl⟩ : ∃ r : Nat, a = (r : Nat) := ⟨a.toNat, by omega⟩
    have hr : r < 6 := by omega
    obtain ⟨m21, m22, m23⟩ := m2.2.2.1 r (by omega)
    have t3 := ho_t hS (k := r) (by omega)
    rcases x2.1.2.1 r (by omega) with ⟨y1, y2⟩ | ⟨id, y0, y1, y2, -⟩
    · refine pair_eq (vJ 0) hS x m g u (fun d Q k => ?_) (fun d Q k => ?_)
      · refine se_X0_item hS (pu_isRow hS ?_)
        refine ss_X0_item_4 hS ?_
        rw [rg_t ha, Int.toNat_natCast, ho_r hS hr, ofR_some]
        exact im (by decide) ⟨by omega, by rw [t3]; simp, ip y2 k⟩
      · refine se_X4_item hS (pu_in hS ?_)
        refine ss_X4_item_6 hS ?_
        rw [rg_t ha, Int.toNat_natCast, m21]
        exact im (by decide) ⟨by omega, ip (by omega) k⟩
    · obtain ⟨e3, e4, e5, e6⟩ := m2.2.2.2.1 id (by omega)
      have es : n_sub (σ 4 id) 1 = σ 4 id - 1 := ns_eq (by omega) (by omega)
      have eid : (σ 2 r).toNat = id := by rw [y1, Int.toNat_natCast]
      by_cases hb : 0 ≤ b ∧ b ≤ σ 4 id - 1
      · obtain ⟨q, rfl⟩ : ∃ q : Nat, b = (q : Nat) := ⟨b.toNat, by omega⟩
        refine pair_eq (vJ (σ 5 (12 * id + q))) hS x m g u (fun d Q k => ?_) (fun d Q k => ?_)
        · refine se_X0_item hS (pu_isRow hS ?_)
          refine ss_X0_item_4 hS ?_
          rw [rg_t ha, Int.toNat_natCast, ho_r hS hr, ofR_some]
          refine im (by decide) ⟨by omega, by rw [t3]; simp, im (by rw [y2]; simp) ⟨by omega, ?_⟩⟩
          rw [ofR_some]
          refine ip (by rw [t3]) (c_hsz hS x2.1 (by omega) (by omega) ?_)
          refine ss_X0_item_31 hS ?_
          rw [eid, es]
          refine pu_isIn hS ?_
          refine ss_X0_item_37 hS ?_
          rw [rg_t hb, Int.toNat_natCast, ho_r hS hr, ofR_some]
          refine im (by decide) ⟨by omega, ip (by rw [t3]) ?_⟩
          refine c_hgt hS x2.1 (by omega) (by omega) (by rw [eid]; omega) ?_
          rw [eid]
          exact ss_X0_item_50 hS k
        · refine se_X4_item hS (pu_in hS ?_)
          refine ss_X4_item_6 hS ?_
          rw [rg_t ha, Int.toNat_natCast, m21, eid, e4, es]
          refine im (by decide) ⟨by omega, im (by omega) ⟨by omega, by omega, ?_⟩⟩
          refine pu_in hS ?_
          refine ss_X4_item_36 hS ?_
          rw [rg_t hb, Int.toNat_natCast, m21, y1, i12 y0 (by omega), Int.toNat_natCast, m2.2.2.2.2.1 _ (by omega)]
          exact im (by decide) ⟨by omega, by omega, k⟩
      · refine pair_eq (vJ 0) hS x m g u (fun d Q k => ?_) (fun d Q k => ?_)
        · refine se_X0_item hS (pu_isRow hS ?_)
          refine ss_X0_item_4 hS ?_
          rw [rg_t ha, Int.toNat_natCast, ho_r hS hr, ofR_some]
          refine im (by decide) ⟨by omega, by rw [t3]; simp, im (by rw [y2]; simp) ⟨by omega, ?_⟩⟩
          rw [ofR_some]
          refine ip (by rw [t3]) (c_hsz hS x2.1 (by omega) (by omega) ?_)
          refine ss_X0_item_31 hS ?_
          rw [eid, es]
          refine pu_isIn hS ?_
          refine ss_X0_item_37 hS ?_
          rw [rg_f hb]
          exact ip rfl k
        · refine se_X4_item hS (pu_in hS ?_)
          refine ss_X4_item_6 hS ?_
          rw [rg_t ha, Int.toNat_natCast, m21, eid, e4, es]
          refine im (by decide) ⟨by omega, im (by omega) ⟨by omega, by omega, ?_⟩⟩
          refine pu_in hS ?_
          refine ss_X4_item_36 hS ?_
          rw [rg_f hb]
          exact ip rfl k
  · refine pair_eq (vJ 0) hS x m g u (fun d Q k => ?_) (fun d Q k => ?_)
    · refine se_X0_item hS (pu_isRow hS ?_)
      refine ss_X0_item_4 hS ?_
      rw [rg_f ha]
      exact ip rfl k
    · refine se_X4_item hS (pu_in hS ?_)
      refine ss_X4_item_6 hS ?_
      rw [rg_f ha]
      exact ip rfl k
