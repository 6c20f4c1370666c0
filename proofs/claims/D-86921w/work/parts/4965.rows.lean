/-! the bench: lay, set, get -/
theorem vmx_t {h h' : hp} {k e : Nat} (v : vmx k h e h') : (hT h' e).1 = k ∧ hU h' ≤ hU h + 600 := ⟨by rw [v.2.2.2.2.2.1], v.2.2.2.2.1⟩
theorem sm_gn {h : hp} {k n c o : Nat} {v w : Option Nat} (a : Nat) : sm (sR (hNew (sR h o 0 w) k n c) o 0 v) (sR (hNew h k n c) o 0 v) a := by
  refine ⟨rfl, fun j => rfl, fun j => rfl, fun j => ?_⟩
  rw [hR_sR, hR_sR]
  by_cases y : a = o ∧ j = 0
  · rw [if_pos y, if_pos y]
  · rw [if_neg y, if_neg y]
    by_cases z : a = hN h
    · rw [hR_newa z, hR_newa (h := sR h o 0 w) z]
    · rw [hR_new z, hR_new (h := sR h o 0 w) z, hR_sR, if_neg y]
theorem hN_gn {h : hp} {k n c o : Nat} {v w : Option Nat} : hN (sR (hNew h k n c) o 0 v) = hN (sR (hNew (sR h o 0 w) k n c) o 0 v) := rfl
theorem op_lay {n : Nat} {h : hp} {a b c : Int} (hn : n < 64) (I : IN n h) : Pair 88 222 [vR (some 68), vI a, vI b, vI c] [vR (some 116), vI a, vI b, vI c] n h := by
  obtain ⟨⟨R, σ, K, w, T, F, O, L⟩, hS, x, m, g, u⟩ := I
  obtain ⟨x1, ⟨ρ, x2⟩, x3, x4, x5, x6, x7, x8, x9⟩ := id x
  dsimp only at x2
  by_cases ha : 0 ≤ a ∧ a ≤ 7
  · obtain ⟨q, rfl⟩ : ∃ r : Nat, a = (r : Nat) := ⟨a.toNat, by omega⟩
    have hq : q < 8 := by omega
    by_cases hb : 0 ≤ b ∧ b ≤ 4
    · have x16 : ∀ (d : Nat) (Q : qt), Wp (d + 1999) C_X0_lay Q 16 [vR (some 68), vI (q : Nat), vI b, vI c, vU] [vI (bI true)] h → Wc (d + 2000) 88 [vR (some 68), vI (q : Nat), vI b, vI c] h Q := by
        intro d Q k
        refine se_X0_lay hS (pu_isPlace hS ?_)
        refine ss_X0_lay_4 hS ?_
        rw [rg_t ha]
        refine im (by decide) (pu_isIn hS ?_)
        rw [rg_t hb]
        exact k
      have m13 : ∀ (d : Nat) (h1 : hp) (Q : qt), St h1 → Wp (d + 1999) C_X4_lay Q 13 [vR (some 116), vI (q : Nat), vI b, vI c] [vI (bI true)] h1 → Wc (d + 2000) 222 [vR (some 116), vI (q : Nat), vI b, vI c] h1 Q := by
        intro d h1 Q S1 k
        refine se_X4_lay S1 (pu_mIsPlace S1 ?_)
        refine ss_X4_lay_4 S1 ?_
        rw [rg_t ha]
        refine im (by decide) (pu_in S1 ?_)
        rw [rg_t hb]
        exact k
      by_cases c12 : 12 < c
      · exact pair_eq (vI (-1)) hS x m g u (fun d Q k => x16 d Q (ss_X0_lay_16 hS (im (by decide) (ip c12 k)))) (fun d Q k => m13 d h Q hS (ss_X4_lay_13 hS (im (by decide) (ip c12 k))))
      · by_cases c0 : c < 0
        · refine pair_of (s := (R, σ, K, w, T, F, O, L)) (vI (-15)) (R, σ, K, w, T, F, O, L) True hS m u (fun d Q kk => x16 d Q ?_) (fun d h1 Q S1 M1 X1 _ kk => m13 d h1 Q S1 ?_)
          · refine ss_X0_lay_16 hS (im (by decide) (im c12 ⟨by omega, ?_⟩))
            rw [Int.toNat_natCast, ho_b hS hq, ofR_some]
            have t3 := ho_t hS (k := 6 + q) (by omega)
            refine ip (by rw [t3]) ?_
            have bud : hU h + 600 ≤ BUD := by unfold BUD; omega
            have thr : ∀ e1 h2, vmx 63 h e1 h2 → (hT h2 e1).1 ∈ [63] ∧ (if (hT h2 e1).1 = 63 then Wp (d + 1999) C_X0_lay Q 41 [vR (some 68), vI (q : Nat), vI b, vI c, vU] [vR (some e1)] h2 else Q (.inr e1) h2) := by
              intro e1 h2 v
              have F5 : FX (fun _ _ => False) h h2 := FX_vmx hS v
              obtain ⟨v1, v2⟩ := vmx_t v
              refine ⟨by rw [v1]; simp, ip v1 ?_⟩
              refine ss_X0_lay_41 F5.2.2.1 ?_
              exact kk h2 (FX_mono F5 (fun _ _ _ z => z.elim)) (by omega) (IX_no hS F5 x) trivial
            refine se_X3_make hS t3 ?_
            have : b = 0 ∨ b = 1 ∨ b = 2 ∨ b = 3 ∨ b = 4 := by omega
            rcases this with e | e | e | e | e <;> subst e
            · exact ip rfl (ip c0 ⟨bud, thr⟩)
            · exact im (by decide) (ip rfl (ip c0 ⟨bud, thr⟩))
            · exact im (by decide) (im (by decide) (ip rfl (ip c0 ⟨bud, thr⟩)))
            · exact im (by decide) (im (by decide) (im (by decide) (ip rfl (ip c0 ⟨bud, thr⟩))))
            · exact im (by decide) (im (by decide) (im (by decide) (im (by decide) (ip c0 ⟨bud, thr⟩))))
          · exact ss_X4_lay_13 S1 (im (by decide) (im c12 (ip c0 (kk h1 (FX_refl S1) rfl M1 g))))
        · obtain ⟨N, rfl⟩ : ∃ r : Nat, c = (r : Nat) := ⟨c.toNat, by omega⟩
          have hN2 : N ≤ 12 := by omega
          obtain ⟨σ1, e1⟩ : ∃ σ1, σ1 = su σ 2 (6 + q) (-1) := ⟨_, rfl⟩
          have g1 : σ1 2 (6 + q) < 0 := by rw [e1, su_at]; decide
          obtain ⟨n1, n2, -⟩ := nid_ok (σ := σ1) (k0 := 6 + q) (by omega) g1
          have gd : Gd (R, sNR σ1 (6 + q) (nid σ1) b N, K, w, T, F, O, L) := ⟨g.1, Zk_new (by rw [e1]; exact Zk_o (Or.inr (Or.inl rfl)) g.2.1), g.2.2⟩
          refine pair_of (s := (R, σ, K, w, T, F, O, L)) (vI (N : Nat)) (R, sNR σ1 (6 + q) (nid σ1) b N, K, w, T, F, O, L) True hS m u (fun d Q kk => x16 d Q ?_) (fun d h1 Q S1 M1 X1 _ kk => m13 d h1 Q S1 ?_)
          · refine ss_X0_lay_16 hS (im (by decide) (im c12 ⟨by omega, ?_⟩))
            rw [Int.toNat_natCast, ho_b hS hq, ofR_some]
            have t3 := ho_t hS (k := 6 + q) (by omega)
            refine ip (by rw [t3]) ?_
            refine c_make hS (by omega) hb.1 hb.2 hN2 (by unfold BUD; omega) ?_
            have F5 : FX pHo h (sR (hNew h (kt b) N N) (102 + (6 + q)) 0 (some (hN h))) := FX_sR (FX_new (FX_refl hS)) (Or.inl (by unfold pHo; omega)) (by unfold okRf; omega)
            refine ss_X0_lay_38 F5.2.2.1 ?_
            refine kk _ (FX_mono F5 (fun c j _ z => by unfold pHo at z; unfold xpl; omega)) (by rw [hU_sR, hU_new]; omega) (IX_ho hS F5 x ⟨rn ρ (nid σ1) (hN h), ?_⟩) trivial
            have Z1 : XZ (sR h (102 + (6 + q)) 0 none) σ1 ρ := by rw [e1]; exact XZ_gone x2
            have Z2 := XZ_new (kd := b) (n := N) (St_sR hS (by unfold okRf; omega)) (show 6 + q < 14 by omega) hb.1 hb.2 hN2 n1 (fun j hj _ => n2 j hj) Z1
            rw [hN_sR] at Z2
            exact XZ_68 (fun a _ => sm_gn a) hN_gn Z2
          · refine ss_X4_lay_13 S1 (im (by decide) (im c12 (im c0 ⟨by rw [n6 hq]; omega, ?_⟩)))
            rw [n6 hq, Int.toNat_natCast]
            have m2 : MV h1 σ := M1.2.1
            have S2 : St (sI h1 135 (6 + q) (-1)) := St_sI S1 (by decide)
            have V2 : MV (sI h1 135 (6 + q) (-1)) σ1 := by rw [e1]; exact MV_row (by decide) m2
            refine c_newRow S2 V2 n1 hN2 (fun h' F' V' _ => ?_)
            have S' := FMd_St F'
            refine ss_X4_lay_55 S' ?_
            rw [ofR_some]
            have t5 := stt_135 S'
            refine ⟨⟨by rw [t5]; simp, by omega, by rw [t5]; show ((6 + q : Nat) : Int) < ((14 : Nat) : Int); omega⟩, ?_⟩
            rw [Int.toNat_natCast]
            have V3 := MV_row (k := 6 + q) (v := ((nid σ1 : Nat) : Int)) (by omega) V'
            rw [sN4_R] at V3
            have F5 : FX mVv h1 (sI h' 135 (6 + q) (nid σ1 : Nat)) := FX_sI (FX_trans (FX_sI (FX_refl S1) (Or.inl (by unfold mVv; omega)) (by decide)) (FX_mono F'.1 (fun c j _ z => by unfold pMd at z; unfold mVv; omega))) (Or.inl (by unfold mVv; omega)) (by decide)
            exact kk _ (FX_mono F5 (fun c j _ z => by unfold mVv at z; unfold mpl; omega)) (by show hU h' = _; rw [F'.2.2]; rfl) (IM_v S1 F5 M1 V3) gd
    · refine pair_eq (vI (-1)) hS x m g u (fun d Q k => ?_) (fun d Q k => ?_)
      · refine se_X0_lay hS (pu_isPlace hS ?_)
        refine ss_X0_lay_4 hS ?_
        rw [rg_t ha]
        refine im (by decide) (pu_isIn hS ?_)
        refine ss_X0_lay_16 hS ?_
        rw [rg_f hb]
        exact ip rfl k
      · refine se_X4_lay hS (pu_mIsPlace hS ?_)
        refine ss_X4_lay_4 hS ?_
        rw [rg_t ha]
        refine im (by decide) (pu_in hS ?_)
        refine ss_X4_lay_13 hS ?_
        rw [rg_f hb]
        exact ip rfl k
  · refine pair_eq (vI (-1)) hS x m g u (fun d Q k => ?_) (fun d Q k => ?_)
    · refine se_X0_lay hS (pu_isPlace hS ?_)
      refine ss_X0_lay_4 hS ?_
      rw [rg_f ha]
      exact ip rfl k
    · refine se_X4_lay hS (pu_mIsPlace hS ?_)
      refine ss_X4_lay_4 hS ?_
      rw [rg_f ha]
      exact ip rfl k
