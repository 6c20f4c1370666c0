/-! the bench: alike, lift, put, lay -/
theorem ho_b {h : hp} (hS : St h) {k : Nat} (hk : k < 8) : hR h 78 k = some (102 + (6 + k)) := by
  have : k = 0 ∨ k = 1 ∨ k = 2 ∨ k = 3 ∨ k = 4 ∨ k = 5 ∨ k = 6 ∨ k = 7 := by omega
  rcases this with e | e | e | e | e | e | e | e <;> subst e
  · exact hS.2.2.1 (78, 0, 108) (by simp [rfL])
  · exact hS.2.2.1 (78, 1, 109) (by simp [rfL])
  · exact hS.2.2.1 (78, 2, 110) (by simp [rfL])
  · exact hS.2.2.1 (78, 3, 111) (by simp [rfL])
  · exact hS.2.2.1 (78, 4, 112) (by simp [rfL])
  · exact hS.2.2.1 (78, 5, 113) (by simp [rfL])
  · exact hS.2.2.1 (78, 6, 114) (by simp [rfL])
  · exact hS.2.2.1 (78, 7, 115) (by simp [rfL])
theorem n6 {k : Nat} (h : k < 8) : n_add 6 ((k : Nat) : Int) = ((6 + k : Nat) : Int) := by rw [na_eq (by omega) (by omega)]; omega
theorem op_alike {n : Nat} {h : hp} {a b : Int} (I : IN n h) : Pair 98 231 [vR (some 68), vI a, vI b] [vR (some 116), vI a, vI b] n h := by
  obtain ⟨⟨R, σ, K, w, T, F, O, L⟩, hS, x, m, g, u⟩ := I
  obtain ⟨x1, ⟨ρ, x2⟩, x3, x4, x5, x6, x7, x8, x9⟩ := id x
  obtain ⟨m1, m2, m4, m5, m6, m7, m8, m9⟩ := id m
  dsimp only at x2 m2
  by_cases ha : 0 ≤ a ∧ a ≤ 7
  · obtain ⟨p, rfl⟩ : ∃ r : Nat, a = (r : Nat) := ⟨a.toNat, by omega⟩
    have hp : p < 8 := by omega
    by_cases hb : 0 ≤ b ∧ b ≤ 7
    · obtain ⟨q, rfl⟩ : ∃ r : Nat, b = (r : Nat) := ⟨b.toNat, by omega⟩
      have hq : q < 8 := by omega
      obtain ⟨f1, -, -⟩ := m2.2.2.1 (6 + p) (by omega)
      obtain ⟨f2, -, -⟩ := m2.2.2.1 (6 + q) (by omega)
      have key : (hR h (102 + (6 + p)) 0 = hR h (102 + (6 + q)) 0 ↔ σ 2 (6 + p) = σ 2 (6 + q)) ∧ okc (hR h (102 + (6 + p)) 0) (hR h (102 + (6 + q)) 0) := by
        rcases x2.1.2.1 (6 + p) (by omega) with ⟨u1, u2⟩ | ⟨id, u0, u1, u2, u3⟩ <;> rcases x2.1.2.1 (6 + q) (by omega) with ⟨v1, v2⟩ | ⟨id', v0, v1, v2, v3⟩ <;> rw [u2, v2, u1, v1]
        · exact ⟨⟨fun _ => rfl, fun _ => rfl⟩, fun a b e _ => by cases e⟩
        · exact ⟨⟨fun z => (by cases z), fun z => (by omega)⟩, fun a b e _ => (by cases e)⟩
        · exact ⟨⟨fun z => (by cases z), fun z => (by omega)⟩, fun a b _ e => (by cases e)⟩
        · refine ⟨⟨fun z => ?_, fun z => ?_⟩, fun a b e _ => ?_⟩
          · have := x2.1.2.2 (6 + p) (6 + q) id id' (by omega) (by omega) u1 v1 (Option.some.inj z)
            rw [this]
          · rw [show id = id' by omega]
          · cases e
            have := u3.1
            exact Or.inr (Or.inl (by omega))
      have xs : ∀ (d : Nat) (Q : qt), (if hR h (102 + (6 + p)) 0 = hR h (102 + (6 + q)) 0 then Q (.inl (some (vI 1))) h else Q (.inl (some (vI 0))) h) → Wc (d + 2000) 98 [vR (some 68), vI (p : Nat), vI (q : Nat)] h Q := by
        intro d Q k
        refine se_X0_alike hS (pu_isPlace hS ?_)
        refine ss_X0_alike_4 hS ?_
        rw [rg_t ha]
        refine im (by decide) (pu_isPlace hS ?_)
        refine ss_X0_alike_11 hS ?_
        rw [rg_t hb, Int.toNat_natCast, Int.toNat_natCast, ho_b hS hp, ho_b hS hq, ofR_some]
        refine im (by decide) ⟨by omega, by rw [ho_t hS (by omega)]; simp, by omega, ?_⟩
        rw [ofR_some]
        exact ⟨by rw [ho_t hS (by omega)]; simp, key.2, k⟩
      have ms : ∀ (d : Nat) (Q : qt), (if σ 2 (6 + p) = σ 2 (6 + q) then Q (.inl (some (vI 1))) h else Q (.inl (some (vI 0))) h) → Wc (d + 2000) 231 [vR (some 116), vI (p : Nat), vI (q : Nat)] h Q := by
        intro d Q k
        refine se_X4_alike hS (pu_mIsPlace hS ?_)
        refine ss_X4_alike_4 hS ?_
        rw [rg_t ha]
        refine im (by decide) (pu_mIsPlace hS ?_)
        refine ss_X4_alike_11 hS ?_
        rw [rg_t hb, n6 hp, n6 hq, Int.toNat_natCast, Int.toNat_natCast, f1, f2]
        exact im (by decide) ⟨by omega, by omega, k⟩
      by_cases y : σ 2 (6 + p) = σ 2 (6 + q)
      · exact pair_eq (vI 1) hS x m g u (fun d Q k => xs d Q (ip (key.1.mpr y) k)) (fun d Q k => ms d Q (ip y k))
      · exact pair_eq (vI 0) hS x m g u (fun d Q k => xs d Q (im (fun z => y (key.1.mp z)) k)) (fun d Q k => ms d Q (im y k))
    · refine pair_eq (vI (-1)) hS x m g u (fun d Q k => ?_) (fun d Q k => ?_)
      · refine se_X0_alike hS (pu_isPlace hS ?_)
        refine ss_X0_alike_4 hS ?_
        rw [rg_t ha]
        refine im (by decide) (pu_isPlace hS ?_)
        refine ss_X0_alike_11 hS ?_
        rw [rg_f hb]
        exact ip rfl k
      · refine se_X4_alike hS (pu_mIsPlace hS ?_)
        refine ss_X4_alike_4 hS ?_
        rw [rg_t ha]
        refine im (by decide) (pu_mIsPlace hS ?_)
        refine ss_X4_alike_11 hS ?_
        rw [rg_f hb]
        exact ip rfl k
  · refine pair_eq (vI (-1)) hS x m g u (fun d Q k => ?_) (fun d Q k => ?_)
    · refine se_X0_alike hS (pu_isPlace hS ?_)
      refine ss_X0_alike_4 hS ?_
      rw [rg_f ha]
      exact ip rfl k
    · refine se_X4_alike hS (pu_mIsPlace hS ?_)
      refine ss_X4_alike_4 hS ?_
      rw [rg_f ha]
      exact ip rfl k
/-- a row goes to another place -/
theorem XZ_mv {h : hp} {σ : zS} {ρ : Nat → Nat} {k j : Nat} (hj : j < 14) (z : XZ h σ ρ) : XZ (sR h (102 + k) 0 (hR h (102 + j) 0)) (su σ 2 k (σ 2 j)) ρ := by
  obtain ⟨⟨a, b1, b2⟩, c, d⟩ := z
  have e2 : ∀ i, su σ 2 k (σ 2 j) 2 i = if i = k then σ 2 j else σ 2 i := by
    intro i
    by_cases y : i = k
    · subst y; rw [su_at, if_pos rfl]
    · rw [su_k y, if_neg y]
  have xa : ∀ y id, XA h σ y id → XA (sR h (102 + k) 0 (hR h (102 + j) 0)) (su σ 2 k (σ 2 j)) y id := by
    intro y id q
    obtain ⟨q1, q2, q3, q4, ⟨n, q5, q6, q7⟩, q8⟩ := q
    refine ⟨q1, q2, by rw [su_f (by decide)]; exact q3, by rw [su_f (by decide)]; exact q4, ⟨n, q5, by rw [su_f (by decide)]; exact q6, by rw [su_f (by decide)]; exact q7⟩, fun i hi => ?_⟩
    rw [su_f (by decide)] at hi
    rw [su_f (by decide), su_f (by decide)]
    exact q8 i hi
  refine ⟨⟨fun i hi => by rw [su_f (by decide), su_f (by decide)]; exact a i hi, fun i hi => ?_, fun i i' id id' hi hi' p p' => ?_⟩, fun s hs => by rw [su_f (by decide)]; exact c s hs, fun s hs => by rw [su_f (by decide)]; exact d s hs⟩
  · rw [e2, hR_sR]
    by_cases y : i = k
    · subst y
      rw [if_pos rfl, if_pos ⟨rfl, rfl⟩]
      rcases b1 j hj with q | ⟨id, q1, q2, q3, q4⟩
      · exact Or.inl q
      · exact Or.inr ⟨id, q1, q2, q3, xa _ _ q4⟩
    · rw [if_neg y, if_neg (by omega)]
      rcases b1 i hi with q | ⟨id, q1, q2, q3, q4⟩
      · exact Or.inl q
      · exact Or.inr ⟨id, q1, q2, q3, xa _ _ q4⟩
  · rw [e2] at p p'
    by_cases y : i = k
    · rw [if_pos y] at p
      by_cases y' : i' = k
      · rw [if_pos y'] at p'
        exact b2 j j id id' hj hj p p'
      · rw [if_neg y'] at p'
        exact b2 j i' id id' hj hi' p p'
    · rw [if_neg y] at p
      by_cases y' : i' = k
      · rw [if_pos y'] at p'
        exact b2 i j id id' hi hj p p'
      · rw [if_neg y'] at p'
        exact b2 i i' id id' hi hi' p p'
def pHo (a _j : Nat) : Prop := 102 ≤ a ∧ a ≤ 115
/-- what is left when only a holder has changed -/
theorem IX_ho {h h' : hp} {R : Nat → Option zT} {σ σ' : zS} {K : Option zK} {w : Int} {T O : List Int} {F : Int × Int} {L : Int} (hS : St h) (F5 : FX pHo h h') (x : IX h (R, σ, K, w, T, F, O, L)) (z : Xc2 h' σ') : IX h' (R, σ', K, w, T, F, O, L) := by
  obtain ⟨x1, x2, x3, x4, x5, x6, x7, x8, x9⟩ := x
  exact ⟨Xc1_p F5 hS (fun j => by unfold pHo; omega) (fun c j c1 _ _ => by unfold pHo; omega) x1, z, XFr_p F5 hS (by unfold pHo; omega) (by unfold pHo; omega) x3, XRu_p F5 hS (fun c j hc => by unfold pHo; omega) x4, Xc5_p F5 hS (by unfold pHo; omega) x5, Tq_p F5 hS (by unfold pHo; omega) (fun j => by unfold pHo; omega) x6, Xc7_p F5 hS (by unfold pHo; omega) (by unfold pHo; omega) x7, Xc8_p F5 hS (by unfold pHo; omega) (fun j => by unfold pHo; omega) x8, Xc9_p F5 hS (by unfold pHo; omega) x9⟩
def mVv (a j : Nat) : Prop := (134 ≤ a ∧ a ≤ 141) ∨ a = 144 ∨ (a = 116 ∧ (j = 35 ∨ (44 ≤ j ∧ j ≤ 53)))
theorem IM_v {h h' : hp} {R : Nat → Option zT} {σ σ' : zS} {K : Option zK} {w : Int} {T O : List Int} {F : Int × Int} {L : Int} (hS : St h) (F5 : FX mVv h h') (x : IM h (R, σ, K, w, T, F, O, L)) (z : MV h' σ') : IM h' (R, σ', K, w, T, F, O, L) := by
  obtain ⟨m1, m2, m4, m5, m6, m7, m8, m9⟩ := x
  exact ⟨Mc1_p F5 hS (fun c j hc => by unfold mVv; omega) m1, z, MRu_p F5 hS (fun c j hc => by unfold mVv; omega) m4, Mc5_p F5 hS (by unfold mVv; omega) m5, Mq_p F5 hS (by unfold mVv; omega) (fun j => by unfold mVv; omega) m6, Mc7_p F5 hS (by unfold mVv; omega) (by unfold mVv; omega) m7, Mc8_p F5 hS (by unfold mVv; omega) (fun j => by unfold mVv; omega) m8, Mc9_p F5 hS (by unfold mVv; omega) m9⟩
theorem op_lift {n : Nat} {h : hp} {a b : Int} (I : IN n h) : Pair 90 224 [vR (some 68), vI a, vI b] [vR (some 116), vI a, vI b] n h := by
  obtain ⟨⟨R, σ, K, w, T, F, O, L⟩, hS, x, m, g, u⟩ := I
  obtain ⟨x1, ⟨ρ, x2⟩, x3, x4, x5, x6, x7, x8, x9⟩ := id x
  dsimp only at x2
  by_cases ha : 0 ≤ a ∧ a ≤ 5
  · obtain ⟨r, rfl⟩ : ∃ r : Nat, a = (r : Nat) := ⟨a.toNat, by omega⟩
    have hr : r < 6 := by omega
    by_cases hb : 0 ≤ b ∧ b ≤ 7
    · obtain ⟨q, rfl⟩ : ∃ r : Nat, b = (r : Nat) := ⟨b.toNat, by omega⟩
      have hq : q < 8 := by omega
      have gd : Gd (R, su σ 2 (6 + q) (σ 2 r), K, w, T, F, O, L) := ⟨g.1, Zk_o (Or.inr (Or.inl rfl)) g.2.1, g.2.2⟩
      refine pair_of (s := (R, σ, K, w, T, F, O, L)) (vI (if σ 2 r < 0 then 0 else 1)) (R, su σ 2 (6 + q) (σ 2 r), K, w, T, F, O, L) True hS m u (fun d Q kk => ?_) (fun d h1 Q S1 M1 X1 _ kk => ?_)
      · refine se_X0_lift hS (pu_isRow hS ?_)
        refine ss_X0_lift_4 hS ?_
        rw [rg_t ha]
        refine im (by decide) (pu_isPlace hS ?_)
        refine ss_X0_lift_11 hS ?_
        rw [rg_t hb, Int.toNat_natCast, Int.toNat_natCast, ho_r hS hr, ho_b hS hq, ofR_some]
        have F5 : FX pHo h (sR h (102 + (6 + q)) 0 (hR h (102 + r) 0)) := FX_sR (FX_refl hS) (Or.inl (by unfold pHo; omega)) (by unfold okRf; omega)
        refine im (by decide) ⟨by omega, by omega, by rw [ho_t hS (by omega)]; simp, ?_⟩
        rw [ofR_some]
        refine ⟨by rw [ho_t hS (by omega)]; simp, by omega, ?_⟩
        rw [ho_b F5.2.2.1 hq, ofR_some]
        refine ⟨by rw [ho_t hS (by omega)]; simp, ?_⟩
        rw [show hR (sR h (102 + (6 + q)) 0 (hR h (102 + r) 0)) (102 + (6 + q)) 0 = hR h (102 + r) 0 by rw [hR_sR, if_pos ⟨rfl, rfl⟩]]
        have fin : Q (.inl (some (vI (if σ 2 r < 0 then 0 else 1)))) (sR h (102 + (6 + q)) 0 (hR h (102 + r) 0)) := kk _ (FX_mono F5 (fun c j _ z => by unfold pHo at z; unfold xpl; omega)) (by show hU h ≤ _; omega) (IX_ho hS F5 x ⟨ρ, XZ_mv (by omega) x2⟩) trivial
        rcases x2.1.2.1 r (by omega) with ⟨y1, y2⟩ | ⟨id, y0, y1, y2, -⟩
        · rw [if_pos (by omega)] at fin
          exact ip y2 fin
        · rw [if_neg (by omega)] at fin
          exact im (by rw [y2]; simp) fin
      · have m2 : MV h1 σ := M1.2.1
        obtain ⟨f1, f2, f3⟩ := m2.2.2.1 r (by omega)
        refine se_X4_lift S1 (pu_in S1 ?_)
        refine ss_X4_lift_6 S1 ?_
        rw [rg_t ha]
        refine im (by decide) (pu_mIsPlace S1 ?_)
        refine ss_X4_lift_13 S1 ?_
        rw [rg_t hb, n6 hq, Int.toNat_natCast, Int.toNat_natCast, f1]
        refine im (by decide) ⟨by omega, by omega, by omega, ?_⟩
        rw [show hI (sI h1 135 (6 + q) (σ 2 r)) 135 r = σ 2 r by rw [hI_sI, if_neg (by omega), f1]]
        have F5 : FX mVv h1 (sI h1 135 (6 + q) (σ 2 r)) := FX_sI (FX_refl S1) (Or.inl (by unfold mVv; omega)) (by decide)
        have fin : Q (.inl (some (vI (if σ 2 r < 0 then 0 else 1)))) (sI h1 135 (6 + q) (σ 2 r)) := kk _ (FX_mono F5 (fun c j _ z => by unfold mVv at z; unfold mpl; omega)) rfl (IM_v S1 F5 M1 (MV_row ⟨f2, f3⟩ m2)) gd
        by_cases y : σ 2 r < 0
        · rw [if_pos y] at fin
          exact ip y fin
        · rw [if_neg y] at fin
          exact im y fin
    · refine pair_eq (vI (-1)) hS x m g u (fun d Q k => ?_) (fun d Q k => ?_)
      · refine se_X0_lift hS (pu_isRow hS ?_)
        refine ss_X0_lift_4 hS ?_
        rw [rg_t ha]
        refine im (by decide) (pu_isPlace hS ?_)
        refine ss_X0_lift_11 hS ?_
        rw [rg_f hb]
        exact ip rfl k
      · refine se_X4_lift hS (pu_in hS ?_)
        refine ss_X4_lift_6 hS ?_
        rw [rg_t ha]
        refine im (by decide) (pu_mIsPlace hS ?_)
        refine ss_X4_lift_13 hS ?_
        rw [rg_f hb]
        exact ip rfl k
  · refine pair_eq (vI (-1)) hS x m g u (fun d Q k => ?_) (fun d Q k => ?_)
    · refine se_X0_lift hS (pu_isRow hS ?_)
      refine ss_X0_lift_4 hS ?_
      rw [rg_f ha]
      exact ip rfl k
    · refine se_X4_lift hS (pu_in hS ?_)
      refine ss_X4_lift_6 hS ?_
      rw [rg_f ha]
      exact ip rfl k
theorem op_put {n : Nat} {h : hp} {a b : Int} (I : IN n h) : Pair 91 225 [vR (some 68), vI a, vI b] [vR (some 116), vI a, vI b] n h := by
  obtain ⟨⟨R, σ, K, w, T, F, O, L⟩, hS, x, m, g, u⟩ := I
  obtain ⟨x1, ⟨ρ, x2⟩, x3, x4, x5, x6, x7, x8, x9⟩ := id x
  dsimp only at x2
  by_cases ha : 0 ≤ a ∧ a ≤ 7
  · obtain ⟨q, rfl⟩ : ∃ r : Nat, a = (r : Nat) := ⟨a.toNat, by omega⟩
    have hq : q < 8 := by omega
    by_cases hb : 0 ≤ b ∧ b ≤ 5
    · obtain ⟨r, rfl⟩ : ∃ r : Nat, b = (r : Nat) := ⟨b.toNat, by omega⟩
      have hr : r < 6 := by omega
      have xs : ∀ (d : Nat) (Q : qt), (σ 2 (6 + q) < 0 → Q (.inl (some (vI (-11)))) h) → (0 ≤ σ 2 (6 + q) → Q (.inl (some (vI (σ 4 (σ 2 (6 + q)).toNat)))) (sR h (102 + r) 0 (hR h (102 + (6 + q)) 0))) → Wc (d + 2000) 91 [vR (some 68), vI (q : Nat), vI (r : Nat)] h Q := by
        intro d Q k1 k2
        refine se_X0_put hS (pu_isPlace hS ?_)
        refine ss_X0_put_4 hS ?_
        rw [rg_t ha]
        refine im (by decide) (pu_isRow hS ?_)
        refine ss_X0_put_11 hS ?_
        rw [rg_t hb, Int.toNat_natCast, Int.toNat_natCast, ho_b hS hq, ofR_some]
        refine im (by decide) ⟨by omega, by rw [ho_t hS (by omega)]; simp, ?_⟩
        rcases x2.1.2.1 (6 + q) (by omega) with ⟨y1, y2⟩ | ⟨id, y0, y1, y2, -⟩
        · exact ip y2 (k1 (by omega))
        · refine im (by rw [y2]; simp) ⟨by omega, by omega, ?_⟩
          rw [ofR_some]
          refine ⟨by rw [ho_t hS (by omega)]; simp, ?_⟩
          rw [ho_r hS hr, ofR_some]
          refine ⟨by rw [ho_t hS (by omega)]; simp, by omega, ?_⟩
          have S2 : St (sR h (102 + r) 0 (hR h (102 + (6 + q)) 0)) := St_sR hS (by unfold okRf; omega)
          rw [ho_r S2 hr, ofR_some]
          refine ip (by rw [ho_t hS (by omega)]) ?_
          have Z2 := XZ_mv (k := r) (j := 6 + q) (by omega) x2
          have e2 : su σ 2 r (σ 2 (6 + q)) 2 r = σ 2 (6 + q) := su_at
          refine c_hsz S2 Z2.1 (by omega) (by rw [e2]; omega) ?_
          rw [e2, su_f (by decide)]
          exact k2 (by omega)
      have ms : ∀ (d : Nat) (h1 : hp) (Q : qt), St h1 → MV h1 σ → (σ 2 (6 + q) < 0 → Q (.inl (some (vI (-11)))) h1) → (0 ≤ σ 2 (6 + q) → Q (.inl (some (vI (σ 4 (σ 2 (6 + q)).toNat)))) (sI h1 135 r (σ 2 (6 + q)))) → Wc (d + 2000) 225 [vR (some 116), vI (q : Nat), vI (r : Nat)] h1 Q := by
        intro d h1 Q S1 m2 k1 k2
        obtain ⟨f1, f2, f3⟩ := m2.2.2.1 (6 + q) (by omega)
        refine se_X4_put S1 (pu_mIsPlace S1 ?_)
        refine ss_X4_put_4 S1 ?_
        rw [rg_t ha]
        refine im (by decide) (pu_in S1 ?_)
        refine ss_X4_put_13 S1 ?_
        rw [rg_t hb, n6 hq, Int.toNat_natCast, Int.toNat_natCast, f1]
        refine im (by decide) ⟨by omega, ?_⟩
        by_cases y : σ 2 (6 + q) < 0
        · exact ip y (k1 y)
        · rw [(m2.2.2.2.1 (σ 2 (6 + q)).toNat (by omega)).2.1]
          exact im y ⟨by omega, by omega, by omega, by omega, k2 (by omega)⟩
      by_cases y : σ 2 (6 + q) < 0
      · exact pair_eq (vI (-11)) hS x m g u (fun d Q k => xs d Q (fun _ => k) (fun z => by omega)) (fun d Q k => ms d h Q hS m.2.1 (fun _ => k) (fun z => by omega))
      · have gd : Gd (R, su σ 2 r (σ 2 (6 + q)), K, w, T, F, O, L) := ⟨g.1, Zk_o (Or.inr (Or.inl rfl)) g.2.1, g.2.2⟩
        refine pair_of (s := (R, σ, K, w, T, F, O, L)) (vI (σ 4 (σ 2 (6 + q)).toNat)) (R, su σ 2 r (σ 2 (6 + q)), K, w, T, F, O, L) True hS m u (fun d Q kk => xs d Q (fun z => absurd z y) (fun _ => ?_)) (fun d h1 Q S1 M1 X1 _ kk => ms d h1 Q S1 M1.2.1 (fun z => absurd z y) (fun _ => ?_))
        · have F5 : FX pHo h (sR h (102 + r) 0 (hR h (102 + (6 + q)) 0)) := FX_sR (FX_refl hS) (Or.inl (by unfold pHo; omega)) (by unfold okRf; omega)
          exact kk _ (FX_mono F5 (fun c j _ z => by unfold pHo at z; unfold xpl; omega)) (by show hU h ≤ _; omega) (IX_ho hS F5 x ⟨ρ, XZ_mv (by omega) x2⟩) trivial
        · have m2 : MV h1 σ := M1.2.1
          obtain ⟨f1, f2, f3⟩ := m2.2.2.1 (6 + q) (by omega)
          have F5 : FX mVv h1 (sI h1 135 r (σ 2 (6 + q))) := FX_sI (FX_refl S1) (Or.inl (by unfold mVv; omega)) (by decide)
          exact kk _ (FX_mono F5 (fun c j _ z => by unfold mVv at z; unfold mpl; omega)) rfl (IM_v S1 F5 M1 (MV_row ⟨f2, f3⟩ m2)) gd
    · refine pair_eq (vI (-1)) hS x m g u (fun d Q k => ?_) (fun d Q k => ?_)
      · refine se_X0_put hS (pu_isPlace hS ?_)
        refine ss_X0_put_4 hS ?_
        rw [rg_t ha]
        refine im (by decide) (pu_isRow hS ?_)
        refine ss_X0_put_11 hS ?_
        rw [rg_f hb]
        exact ip rfl k
      · refine se_X4_put hS (pu_mIsPlace hS ?_)
        refine ss_X4_put_4 hS ?_
        rw [rg_t ha]
        refine im (by decide) (pu_in hS ?_)
        refine ss_X4_put_13 hS ?_
        rw [rg_f hb]
        exact ip rfl k
  · refine pair_eq (vI (-1)) hS x m g u (fun d Q k => ?_) (fun d Q k => ?_)
    · refine se_X0_put hS (pu_isPlace hS ?_)
      refine ss_X0_put_4 hS ?_
      rw [rg_f ha]
      exact ip rfl k
    · refine se_X4_put hS (pu_mIsPlace hS ?_)
      refine ss_X4_put_4 hS ?_
      rw [rg_f ha]
      exact ip rfl k
/-- an exception of the machine: only new cells -/
theorem FX_vmx {p : Nat → Nat → Prop} {h h' : hp} {k e : Nat} (hS : St h) (v : vmx k h e h') : FX p h h' := by
  obtain ⟨v1, v2, v3, v4, v5, v6, v7, v8⟩ := v
  have h0 := hS.1
  refine ⟨by omega, v4, ⟨by omega, fun p hp => ?_, fun p hp => ?_, fun p hp => ?_, fun k hk => ?_⟩, fun a ha => ⟨(v7 a ha).1, fun j => Or.inr ⟨(v7 a ha).2.1 j, (v7 a ha).2.2.1 j, (v7 a ha).2.2.2 j⟩⟩⟩
  · have := tgL_lt p hp
    rw [(v7 p.1 (by omega)).1]; exact hS.2.1 p hp
  · have := rfL_lt p hp
    rw [(v7 p.1 (by omega)).2.2.2]; exact hS.2.2.1 p hp
  · have h1 := sxL_lt p hp
    obtain ⟨e1, e2, e3, e4, e5⟩ := hS.2.2.2.1 p hp
    have a1 := v7 p.1 (by omega)
    have a2 := v7 (p.1 + 1) (by omega)
    refine ⟨a1.1.trans e1, (a1.2.2.2 0).trans e2, ?_, ?_, fun i hi => ?_⟩
    · exact (a1.2.1 _).trans e3
    · exact a2.1.trans e4
    · exact (a2.2.1 i).trans (e5 i hi)
  · rw [(v7 (85 + k) (by omega)).2.1]; exact hS.2.2.2.2 k hk
theorem IX_no {h h' : hp} {s : zA} (hS : St h) (F5 : FX (fun _ _ => False) h h') (x : IX h s) : IX h' s := by
  obtain ⟨x1, x2, x3, x4, x5, x6, x7, x8, x9⟩ := x
  exact ⟨Xc1_p F5 hS (fun j => id) (fun c j c1 _ _ => id) x1, Xc2_p F5 hS (fun c j hc => id) (fun c j c1 _ _ _ => id) x2, XFr_p F5 hS id id x3, XRu_p F5 hS (fun c j hc => id) x4, Xc5_p F5 hS id x5, Tq_p F5 hS id (fun j => id) x6, Xc7_p F5 hS id id x7, Xc8_p F5 hS id (fun j => id) x8, Xc9_p F5 hS id x9⟩
