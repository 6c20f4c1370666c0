/-! the bench: get, copy -/
theorem IM_64 {h : hp} {R : Nat → Option zT} {σ : zS} {K : Option zK} {w : Int} {T O : List Int} {F : Int × Int} {L L' : Int} (hS : St h) (x : IM h (R, σ, K, w, T, F, O, L)) : IM (sI h 116 64 L') (R, σ, K, w, T, F, O, L') := by
  have F5 : FX (fun a j => a = 116 ∧ j = 64) h (sI h 116 64 L') := FX_sI (FX_refl hS) (Or.inl ⟨rfl, rfl⟩) (by decide)
  obtain ⟨m1, m2, m4, m5, m6, m7, m8, m9⟩ := x
  exact ⟨Mc1_p F5 hS (fun c j hc => by omega) m1, MV_p2 F5 hS (fun c j hc => by omega) m2, MRu_p F5 hS (fun c j hc => by omega) m4, Mc5_p F5 hS (by omega) m5, Mq_p F5 hS (by omega) (fun j => by omega) m6, Mc7_p F5 hS (by omega) (by omega) m7, Mc8_p F5 hS (by omega) (fun j => by omega) m8, by show hI (sI h 116 64 L') 116 64 = L'; rw [hI_sI, if_pos ⟨rfl, rfl⟩]⟩
theorem op_get {n : Nat} {h : hp} {a b c : Int} (hn : n < 64) (I : IN n h) : Pair 94 228 [vR (some 68), vI a, vI b, vI c] [vR (some 116), vI a, vI b, vI c] n h := by
  obtain ⟨⟨R, σ, K, w, T, F, O, L⟩, hS, x, m, g, u⟩ := I
  obtain ⟨x1, ⟨ρ, x2⟩, x3, x4, x5, x6, x7, x8, x9⟩ := id x
  dsimp only at x2
  have S1 : St (sI h 68 39 (-1)) := St_sI hS (by decide)
  have fin : ∀ (v L' : Int), (∀ (d : Nat) (Q : qt), (∀ h', FX (pRw h) h h' → hU h' ≤ hU h + 600 → Xc2 h' σ → Xc9 h' L' → Q (.inl (some (vJ v))) h') → Wc (d + 2000) 94 [vR (some 68), vI a, vI b, vI c] h Q) → (∀ (d : Nat) (h1 : hp) (Q : qt), St h1 → MV h1 σ → Q (.inl (some (vJ v))) (sI h1 116 64 L') → Wc (d + 2000) 228 [vR (some 116), vI a, vI b, vI c] h1 Q) → Pair 94 228 [vR (some 68), vI a, vI b, vI c] [vR (some 116), vI a, vI b, vI c] n h := by
    intro v L' kx km
    refine pair_of (s := (R, σ, K, w, T, F, O, L)) (vJ v) (R, σ, K, w, T, F, O, L') True hS m u (fun d Q kk => kx d Q (fun h' F5 U5 z2 z9 => ?_)) (fun d h1 Q S1 M1 X1 _ kk => km d h1 Q S1 M1.2.1 ?_)
    · exact kk h' (xpl_rw F5) (by omega) (IX_rw hS F5 x z2 z9) trivial
    · exact kk _ (FX_sI (FX_refl S1) (Or.inl (by unfold mpl; omega)) (by decide)) rfl (IM_64 S1 M1) ⟨g.1, g.2.1, g.2.2⟩
  have F1 : FX (pRw h) h (sI h 68 39 (-1)) := FX_sI (FX_refl hS) (Or.inl (Or.inr ⟨rfl, rfl⟩)) (by decide)
  have e9 : ∀ (h' : hp) (y : Int), Xc9 (sI h' 68 39 y) y := fun h' y => by show hI (sI h' 68 39 y) 68 39 = y; rw [hI_sI, if_pos ⟨rfl, rfl⟩]
  by_cases ha : 0 ≤ a ∧ a ≤ 7
  · obtain ⟨q, rfl⟩ : ∃ r : Nat, a = (r : Nat) := ⟨a.toNat, by omega⟩
    have hq : q < 8 := by omega
    by_cases hb : 0 ≤ b ∧ b ≤ 4
    · have bud : hU h + 600 ≤ BUD := by unfold BUD; omega
      obtain ⟨g0, eg⟩ : ∃ g0, g0 = sI (sI h 68 39 (-1)) 68 39 0 := ⟨_, rfl⟩
      have Sg : St g0 := by rw [eg]; exact St_sI S1 (by decide)
      have Fg : FX (pRw h) h g0 := by rw [eg]; exact FX_sI F1 (Or.inl (Or.inr ⟨rfl, rfl⟩)) (by decide)
      have Zg : XZ g0 σ ρ := by rw [eg]; exact XZ_sI (XZ_sI x2)
      have Ug : hU g0 = hU h := by rw [eg]; rfl
      have rg : ∀ k, hR g0 k 0 = hR h k 0 := fun k => by rw [eg]; rfl
      have afx : ∀ (h' : hp) (y : Int), FX (fun _ _ => False) g0 h' → hU h' ≤ hU h + 600 → FX (pRw h) h (sI h' 68 39 y) ∧ hU (sI h' 68 39 y) ≤ hU h + 600 ∧ Xc2 (sI h' 68 39 y) σ := by
        intro h' y F5 U5
        refine ⟨FX_sI (FX_trans Fg (FX_mono F5 (fun _ _ _ z => z.elim))) (Or.inl (Or.inr ⟨rfl, rfl⟩)) (by decide), U5, ?_⟩
        obtain ⟨ρ', z⟩ := Xc2_p F5 Sg (fun _ _ _ => id) (fun _ _ _ _ _ _ => id) ⟨ρ, Zg⟩
        exact ⟨ρ', XZ_sI z⟩
      have xs : ∀ (d : Nat) (Q : qt), (σ 2 (6 + q) < 0 → ∀ h', FX (fun _ _ => False) g0 h' → hU h' ≤ hU h + 600 → Q (.inl (some (vJ 0))) (sI h' 68 39 (-11))) → (∀ id : Nat, σ 2 (6 + q) = (id : Nat) → σ 3 id ≠ b → ∀ h', FX (fun _ _ => False) g0 h' → hU h' ≤ hU h + 600 → Q (.inl (some (vJ 0))) (sI h' 68 39 (-12))) → (∀ id : Nat, σ 2 (6 + q) = (id : Nat) → σ 3 id = b → ¬ (0 ≤ c ∧ c < σ 4 id) → ∀ h', FX (fun _ _ => False) g0 h' → hU h' ≤ hU h + 600 → Q (.inl (some (vJ 0))) (sI h' 68 39 (-13))) → (∀ id : Nat, σ 2 (6 + q) = (id : Nat) → σ 3 id = b → 0 ≤ c → c < σ 4 id → Q (.inl (some (vJ (σ 5 (12 * id + c.toNat))))) g0) → Wc (d + 2000) 94 [vR (some 68), vI (q : Nat), vI b, vI c] h Q := by
        intro d Q k0 k1 k2 k3
        refine se_X0_get hS (pu_isPlace S1 ?_)
        refine ss_X0_get_9 S1 ?_
        rw [rg_t ha]
        refine im (by decide) (pu_isIn S1 ?_)
        refine ss_X0_get_21 S1 ?_
        rw [rg_t hb, Int.toNat_natCast, ho_b S1 hq, ofR_some]
        refine im (by decide) ⟨by omega, by rw [ho_t S1 (by omega)]; simp, ?_⟩
        rw [← eg, show hR (sI h 68 39 (-1)) (102 + (6 + q)) 0 = hR g0 (102 + (6 + q)) 0 by rw [eg]; rfl]
        refine c_taken Sg Zg (by omega) hb.1 hb.2 (by rw [Ug]; exact bud) (fun y e h' v => ?_) (fun id y z e h' v => ?_) (fun id y z w' e h' v => ?_) (fun id y z c0 c1 => ?_)
        · have F5 : FX (fun _ _ => False) g0 h' := FX_vmx Sg v
          obtain ⟨v1, v2⟩ := vmx_t v
          exact ⟨by rw [v1]; simp, ip v1 (ss_X0_get_46 F5.2.2.1 (k0 y h' F5 (by omega)))⟩
        · have F5 : FX (fun _ _ => False) g0 h' := FX_vmx Sg v
          obtain ⟨v1, v2⟩ := vmx_t v
          exact ⟨by rw [v1]; simp, im (by rw [v1]; decide) ⟨by rw [v1]; simp, ip v1 (ss_X0_get_57 F5.2.2.1 (k1 id y z h' F5 (by omega)))⟩⟩
        · have F5 : FX (fun _ _ => False) g0 h' := FX_vmx Sg v
          obtain ⟨v1, v2⟩ := vmx_t v
          exact ⟨by rw [v1]; simp, im (by rw [v1]; decide) ⟨by rw [v1]; simp, im (by rw [v1]; decide) ⟨by rw [v1]; simp, ip v1 (ss_X0_get_68 F5.2.2.1 (k2 id y z w' h' F5 (by omega)))⟩⟩⟩
        · exact k3 id y z c0 c1
      have ms : ∀ (d : Nat) (h1 : hp) (Q : qt), St h1 → MV h1 σ → (σ 2 (6 + q) < 0 → Q (.inl (some (vJ 0))) (sI h1 116 64 (-11))) → (∀ id : Nat, σ 2 (6 + q) = (id : Nat) → σ 3 id ≠ b → Q (.inl (some (vJ 0))) (sI h1 116 64 (-12))) → (∀ id : Nat, σ 2 (6 + q) = (id : Nat) → σ 3 id = b → ¬ (0 ≤ c ∧ c < σ 4 id) → Q (.inl (some (vJ 0))) (sI h1 116 64 (-13))) → (∀ id : Nat, σ 2 (6 + q) = (id : Nat) → σ 3 id = b → 0 ≤ c → c < σ 4 id → Q (.inl (some (vJ (σ 5 (12 * id + c.toNat))))) (sI h1 116 64 0)) → Wc (d + 2000) 228 [vR (some 116), vI (q : Nat), vI b, vI c] h1 Q := by
        intro d h1 Q S1 m2 k0 k1 k2 k3
        refine se_X4_get S1 ?_
        refine c_hind S1 m2 hq hb.1 hb.2 (fun y => ?_) (fun id _ y z => ?_) (fun id _ y z w' => ?_) (fun id hid y z c0 c1 => ?_)
        · exact ss_X4_get_8 S1 (im (by decide) (k0 y))
        · exact ss_X4_get_8 S1 (im (by decide) (k1 id y z))
        · exact ss_X4_get_8 S1 (im (by decide) (k2 id y z w'))
        · obtain ⟨p1, p2, p3, p4⟩ := m2.2.2.2.1 id (by omega)
          have k4 := k3 id y z c0 c1
          obtain ⟨j, rfl⟩ : ∃ j : Nat, c = (j : Nat) := ⟨c.toNat, by omega⟩
          rw [Int.toNat_natCast] at k4
          refine ss_X4_get_8 S1 (ip rfl ⟨by rw [n6 hq]; omega, ?_⟩)
          rw [n6 hq, Int.toNat_natCast, (m2.2.2.1 (6 + q) (by omega)).1, y, i12 hid (by omega), Int.toNat_natCast, m2.2.2.2.2.1 _ (by omega)]
          exact ⟨by omega, k4⟩
      by_cases y : σ 2 (6 + q) < 0
      · exact fin 0 (-11) (fun d Q k => xs d Q (fun _ h' F5 U5 => k _ (afx h' _ F5 U5).1 (afx h' _ F5 U5).2.1 (afx h' _ F5 U5).2.2 (e9 _ _)) (fun id z => by omega) (fun id z => by omega) (fun id z => by omega)) (fun d h1 Q S1 m2 k => ms d h1 Q S1 m2 (fun _ => k) (fun id z => by omega) (fun id z => by omega) (fun id z => by omega))
      obtain ⟨id, eid⟩ : ∃ id : Nat, σ 2 (6 + q) = (id : Nat) := ⟨(σ 2 (6 + q)).toNat, by omega⟩
      have ue : ∀ id' : Nat, σ 2 (6 + q) = (id' : Nat) → id' = id := fun id' z => by omega
      by_cases z3 : σ 3 id = b
      · by_cases zc : 0 ≤ c ∧ c < σ 4 id
        · refine fin (σ 5 (12 * id + c.toNat)) 0 (fun d Q k => xs d Q (fun z => absurd z y) (fun id' z z' => by rw [ue id' z] at z'; exact absurd z3 z') (fun id' z _ z' => by rw [ue id' z] at z'; exact absurd zc z') (fun id' z _ _ _ => ?_)) (fun d h1 Q S1 m2 k => ms d h1 Q S1 m2 (fun z => absurd z y) (fun id' z z' => by rw [ue id' z] at z'; exact absurd z3 z') (fun id' z _ z' => by rw [ue id' z] at z'; exact absurd zc z') (fun id' z _ _ _ => ?_))
          · rw [ue id' z]
            exact k g0 Fg (by omega) ⟨ρ, Zg⟩ (by rw [eg]; exact e9 _ _)
          · rw [ue id' z]; exact k
        · exact fin 0 (-13) (fun d Q k => xs d Q (fun z => absurd z y) (fun id' z z' => by rw [ue id' z] at z'; exact absurd z3 z') (fun _ _ _ _ h' F5 U5 => k _ (afx h' _ F5 U5).1 (afx h' _ F5 U5).2.1 (afx h' _ F5 U5).2.2 (e9 _ _)) (fun id' z _ c0 c1 => by rw [ue id' z] at c1; exact absurd ⟨c0, c1⟩ zc)) (fun d h1 Q S1 m2 k => ms d h1 Q S1 m2 (fun z => absurd z y) (fun id' z z' => by rw [ue id' z] at z'; exact absurd z3 z') (fun _ _ _ _ => k) (fun id' z _ c0 c1 => by rw [ue id' z] at c1; exact absurd ⟨c0, c1⟩ zc))
      · exact fin 0 (-12) (fun d Q k => xs d Q (fun z => absurd z y) (fun _ _ _ h' F5 U5 => k _ (afx h' _ F5 U5).1 (afx h' _ F5 U5).2.1 (afx h' _ F5 U5).2.2 (e9 _ _)) (fun id' z z' => by rw [ue id' z] at z'; exact absurd z' z3) (fun id' z z' => by rw [ue id' z] at z'; exact absurd z' z3)) (fun d h1 Q S1 m2 k => ms d h1 Q S1 m2 (fun z => absurd z y) (fun _ _ _ => k) (fun id' z z' => by rw [ue id' z] at z'; exact absurd z' z3) (fun id' z z' => by rw [ue id' z] at z'; exact absurd z' z3))
    · refine fin 0 (-1) (fun d Q k => ?_) (fun d h1 Q S2 m2 k => ?_)
      · refine se_X0_get hS (pu_isPlace S1 ?_)
        refine ss_X0_get_9 S1 ?_
        rw [rg_t ha]
        refine im (by decide) (pu_isIn S1 ?_)
        refine ss_X0_get_21 S1 ?_
        rw [rg_f hb]
        exact ip rfl (k _ F1 (by show hU h ≤ _; omega) ⟨ρ, XZ_sI x2⟩ (e9 _ _))
      · refine se_X4_get S2 (se_X4_hinders S2 (pu_mIsPlace S2 ?_))
        refine ss_X4_hinders_4 S2 ?_
        rw [rg_t ha]
        refine im (by decide) (pu_in S2 ?_)
        refine ss_X4_hinders_13 S2 ?_
        rw [rg_f hb]
        exact ip rfl (ss_X4_get_8 S2 (im (by decide) k))
  · refine fin 0 (-1) (fun d Q k => ?_) (fun d h1 Q S2 m2 k => ?_)
    · refine se_X0_get hS (pu_isPlace S1 ?_)
      refine ss_X0_get_9 S1 ?_
      rw [rg_f ha]
      exact ip rfl (k _ F1 (by show hU h ≤ _; omega) ⟨ρ, XZ_sI x2⟩ (e9 _ _))
    · refine se_X4_get S2 (se_X4_hinders S2 (pu_mIsPlace S2 ?_))
      refine ss_X4_hinders_4 S2 ?_
      rw [rg_f ha]
      exact ip rfl (ss_X4_get_8 S2 (im (by decide) k))
