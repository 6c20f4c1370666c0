/-! THE RUN's calls -/
theorem fr_eq {h : hp} : ∀ {F : zF}, XFm h F → MFr h F → ∀ j, j < F.length → hI h 142 j = hI h 79 j ∧ hI h 143 j = hI h 80 j := by
  intro F
  induction F with
  | nil => intro _ _ j hj; simp at hj
  | cons x F ih =>
    intro a b j hj
    by_cases q : j = F.length
    · subst q
      exact ⟨b.1.trans a.1.symm, b.2.1.trans a.2.1.symm⟩
    · exact ih a.2.2.2 b.2.2 j (by simp at hj; omega)
theorem op_told {n : Nat} {h : hp} {a b : Int} (I : IN n h) : Pair 42 147 [vR (some 68), vI a, vI b] [vR (some 116), vI a, vI b] n h := by
  obtain ⟨⟨R, σ, K, w, T, F, O, L⟩, hS, x, m, g, u⟩ := I
  have rI := RIs_of x.1 m.1 g.1
  exact pair_eq (vI (toldV R a b)) hS x m g u (fun d Q k => c_toldX hS rI k) (fun d Q k => c_toldM hS rI k)
theorem op_at {n : Nat} {h : hp} {a : Int} (I : IN n h) : Pair 85 209 [vR (some 68), vI a] [vR (some 116), vI a] n h := by
  obtain ⟨⟨R, σ, K, w, T, F, O, L⟩, hS, x, m, g, u⟩ := I
  obtain ⟨x1, x2, x3, x4, x5, x6, x7, x8, x9⟩ := id x
  obtain ⟨m1, m2, m4, m5, m6, m7, m8, m9⟩ := id m
  dsimp only at x4 m4
  have e1 : hI h 68 23 = w := x5
  have e2 : hI h 116 62 = w := m5
  by_cases ha : 0 ≤ a ∧ a ≤ 5
  · by_cases a5 : a = 5
    · refine pair_eq (vI w) hS x m g u (fun d Q k => ?_) (fun d Q k => ?_)
      · refine se_X0_at hS (pu_isIn hS ?_)
        refine ss_X0_at_9 hS ?_
        rw [rg_t ha, e1]
        exact im (by decide) (ip a5 k)
      · refine se_X4_at hS (pu_in hS ?_)
        refine ss_X4_at_6 hS ?_
        rw [rg_t ha, e2]
        exact im (by decide) (ip a5 k)
    cases K with
    | none =>
      have f1 : hI h 68 19 = -1 := x4
      have f2 : hI h 116 54 = 0 := m4
      refine pair_eq (vI (-2)) hS x m g u (fun d Q k => ?_) (fun d Q k => ?_)
      · refine se_X0_at hS (pu_isIn hS ?_)
        refine ss_X0_at_9 hS ?_
        rw [rg_t ha, f1]
        exact im (by decide) (im a5 (ip (by decide) k))
      · refine se_X4_at hS (pu_in hS ?_)
        refine ss_X4_at_6 hS ?_
        rw [rg_t ha, f2]
        exact im (by decide) (im a5 (ip rfl k))
    | some q =>
      obtain ⟨r, p, w1, F1, c⟩ := q
      obtain ⟨⟨f1, f2, f3, f4, f5⟩, f6⟩ := x4
      obtain ⟨g0, ⟨g1, g2, g3, g4, g5⟩, g6⟩ := m4
      dsimp only at f1 f2 f3 f4 f5 f6 g1 g2 g3 g4 g5 g6
      have fin : ∀ v : Int, (∀ Q : qt, Q (.inl (some (vI v))) h → (if a = 0 then Q (.inl (some (vI (r : Nat)))) h else if a = 1 then Q (.inl (some (vI (p : Nat)))) h else if a = 2 then Q (.inl (some (vI (sg w1)))) h else if a = 3 then Q (.inl (some (vI (F1.length : Nat)))) h else Q (.inl (some (vI c))) h)) → Pair 85 209 [vR (some 68), vI a] [vR (some 116), vI a] n h := by
        intro v kv
        refine pair_eq (vI v) hS x m g u (fun d Q k => ?_) (fun d Q k => ?_)
        · refine se_X0_at hS (pu_isIn hS ?_)
          refine ss_X0_at_9 hS ?_
          rw [rg_t ha, f1, f2, f3, f4, f6]
          exact im (by decide) (im a5 (im (by omega) (kv Q k)))
        · refine se_X4_at hS (pu_in hS ?_)
          refine ss_X4_at_6 hS ?_
          rw [rg_t ha, g0, g1, g2, g3, g4, g6]
          exact im (by decide) (im a5 (im (by decide) (kv Q k)))
      by_cases a0 : a = 0
      · exact fin (r : Nat) (fun Q k => ip a0 k)
      by_cases a1 : a = 1
      · exact fin (p : Nat) (fun Q k => im a0 (ip a1 k))
      by_cases a2 : a = 2
      · exact fin (sg w1) (fun Q k => im a0 (im a1 (ip a2 k)))
      by_cases a3 : a = 3
      · exact fin (F1.length : Nat) (fun Q k => im a0 (im a1 (im a2 (ip a3 k))))
      exact fin c (fun Q k => im a0 (im a1 (im a2 (im a3 k))))
  · refine pair_eq (vI (-1)) hS x m g u (fun d Q k => ?_) (fun d Q k => ?_)
    · refine se_X0_at hS (pu_isIn hS ?_)
      refine ss_X0_at_9 hS ?_
      rw [rg_f ha]
      exact ip rfl k
    · refine se_X4_at hS (pu_in hS ?_)
      refine ss_X4_at_6 hS ?_
      rw [rg_f ha]
      exact ip rfl k
theorem op_frame {n : Nat} {h : hp} {a b : Int} (I : IN n h) : Pair 86 210 [vR (some 68), vI a, vI b] [vR (some 116), vI a, vI b] n h := by
  obtain ⟨⟨R, σ, K, w, T, F, O, L⟩, hS, x, m, g, u⟩ := I
  obtain ⟨x1, x2, x3, x4, x5, x6, x7, x8, x9⟩ := id x
  obtain ⟨m1, m2, m4, m5, m6, m7, m8, m9⟩ := id m
  dsimp only at x4 m4
  cases K with
  | none =>
    have f1 : hI h 68 19 = -1 := x4
    have f2 : hI h 116 54 = 0 := m4
    exact pair_eq (vI (-2)) hS x m g u (fun d Q k => se_X0_frame hS (ip (by rw [f1]; decide) k)) (fun d Q k => se_X4_frame hS (ip f2 k))
  | some q =>
    obtain ⟨r, p, w1, F1, c⟩ := q
    have l12 : F1.length ≤ 12 := g.2.2.1.1.2.2.1
    obtain ⟨⟨f1, f2, f3, f4, f5⟩, f6⟩ := x4
    obtain ⟨g0, ⟨g1, g2, g3, g4, g5⟩, g6⟩ := m4
    dsimp only at f1 f2 f3 f4 f5 f6 g1 g2 g3 g4 g5 g6
    have es : n_sub ((F1.length : Nat) : Int) 1 = (F1.length : Nat) - 1 := ns_eq (by omega) (by omega)
    have x0 : ¬ hI h 68 19 < 0 := by rw [f1]; omega
    have m0 : ¬ hI h 116 54 = 0 := by rw [g0]; decide
    by_cases ha : 0 ≤ a ∧ a ≤ ((F1.length : Nat) : Int) - 1
    · obtain ⟨j, rfl⟩ : ∃ j : Nat, a = (j : Nat) := ⟨a.toNat, by omega⟩
      have hj : j < F1.length := by omega
      obtain ⟨i1, i2⟩ := fr_eq f5 g5 j hj
      by_cases hb : 0 ≤ b ∧ b ≤ 1
      · by_cases b0 : b = 0
        · refine pair_eq (vI (hI h 79 j)) hS x m g u (fun d Q k => ?_) (fun d Q k => ?_)
          · refine se_X0_frame hS (im x0 ?_)
            rw [f4, es]
            refine pu_isIn hS ?_
            refine ss_X0_frame_23 hS ?_
            rw [rg_t ha]
            refine im (by decide) (pu_isIn hS ?_)
            refine ss_X0_frame_33 hS ?_
            rw [rg_t hb, Int.toNat_natCast]
            exact im (by decide) (ip b0 ⟨by omega, k⟩)
          · refine se_X4_frame hS (im m0 ?_)
            rw [g4, es]
            refine pu_in hS ?_
            refine ss_X4_frame_21 hS ?_
            rw [rg_t ha]
            refine im (by decide) (pu_in hS ?_)
            refine ss_X4_frame_30 hS ?_
            rw [rg_t hb, Int.toNat_natCast, i1]
            exact im (by decide) (ip b0 ⟨by omega, k⟩)
        · refine pair_eq (vI (hI h 80 j)) hS x m g u (fun d Q k => ?_) (fun d Q k => ?_)
          · refine se_X0_frame hS (im x0 ?_)
            rw [f4, es]
            refine pu_isIn hS ?_
            refine ss_X0_frame_23 hS ?_
            rw [rg_t ha]
            refine im (by decide) (pu_isIn hS ?_)
            refine ss_X0_frame_33 hS ?_
            rw [rg_t hb, Int.toNat_natCast]
            exact im (by decide) (im b0 ⟨by omega, k⟩)
          · refine se_X4_frame hS (im m0 ?_)
            rw [g4, es]
            refine pu_in hS ?_
            refine ss_X4_frame_21 hS ?_
            rw [rg_t ha]
            refine im (by decide) (pu_in hS ?_)
            refine ss_X4_frame_30 hS ?_
            rw [rg_t hb, Int.toNat_natCast, i2]
            exact im (by decide) (im b0 ⟨by omega, k⟩)
      · refine pair_eq (vI (-1)) hS x m g u (fun d Q k => ?_) (fun d Q k => ?_)
        · refine se_X0_frame hS (im x0 ?_)
          rw [f4, es]
          refine pu_isIn hS ?_
          refine ss_X0_frame_23 hS ?_
          rw [rg_t ha]
          refine im (by decide) (pu_isIn hS ?_)
          refine ss_X0_frame_33 hS ?_
          rw [rg_f hb]
          exact ip rfl k
        · refine se_X4_frame hS (im m0 ?_)
          rw [g4, es]
          refine pu_in hS ?_
          refine ss_X4_frame_21 hS ?_
          rw [rg_t ha]
          refine im (by decide) (pu_in hS ?_)
          refine ss_X4_frame_30 hS ?_
          rw [rg_f hb]
          exact ip rfl k
    · refine pair_eq (vI (-1)) hS x m g u (fun d Q k => ?_) (fun d Q k => ?_)
      · refine se_X0_frame hS (im x0 ?_)
        rw [f4, es]
        refine pu_isIn hS ?_
        refine ss_X0_frame_23 hS ?_
        rw [rg_f ha]
        exact ip rfl k
      · refine se_X4_frame hS (im m0 ?_)
        rw [g4, es]
        refine pu_in hS ?_
        refine ss_X4_frame_21 hS ?_
        rw [rg_f ha]
        exact ip rfl k
/-! steps of the run -/
def toQ (σ : zS) (k : zK) : zQ := ((σ, k.1, k.2.1, k.2.2.1, k.2.2.2.1), k.2.2.2.2)
def ofQ (q : zQ) : zK := (q.1.2.1, q.1.2.2.1, q.1.2.2.2.1, q.1.2.2.2.2, q.2)
theorem IX_run {h h' : hp} {R : Nat → Option zT} {σ : zS} {k : zK} {w w' : Int} {T O : List Int} {F : Int × Int} {L : Int} {q : zQ} {ρ' : Nat → Nat} (hS : St h) (x : IX h (R, σ, some k, w, T, F, O, L)) (a : FX (pXr h) h h') (s : XS h' q ρ') (e : hI h' 68 23 = w') : IX h' (R, q.1.1, some (ofQ q), w', T, F, O, L) := by
  obtain ⟨x1, x2, x3, x4, x5, x6, x7, x8, x9⟩ := x
  refine ⟨Xc1_p a hS (fun j => by unfold pXr pEx; omega) (fun c j c1 _ c3 => by unfold imm at c3; unfold pXr pEx; omega) x1, ⟨ρ', s.2.1⟩, s.1, ⟨s.2.2.1, s.2.2.2⟩, e, Tq_p a hS (by unfold pXr pEx; omega) (fun j => by unfold pXr pEx; omega) x6, Xc7_p a hS (by unfold pXr pEx; omega) (by unfold pXr pEx; omega) x7, Xc8_p a hS (by unfold pXr pEx; omega) (fun j => by unfold pXr pEx; omega) x8, Xc9_p a hS (by unfold pXr pEx; omega) x9⟩
theorem IM_run {h h' : hp} {R : Nat → Option zT} {σ : zS} {k : zK} {w w' : Int} {T O : List Int} {F : Int × Int} {L : Int} {q : zQ} (hS : St h) (x : IM h (R, σ, some k, w, T, F, O, L)) (a : FMr h h') (s : MS h' q) (e : hI h' 116 62 = w') : IM h' (R, q.1.1, some (ofQ q), w', T, F, O, L) := by
  obtain ⟨x1, x2, x4, x5, x6, x7, x8, x9⟩ := x
  refine ⟨Mc1_p a.1 hS (fun c j hc => by unfold pMr pMd; omega) x1, s.1, ⟨(F68 a.1 hS (by decide) (by unfold pMr pMd; omega)).trans x4.1, s.2.1, s.2.2⟩, e, Mq_p a.1 hS (by unfold pMr pMd; omega) (fun j => by unfold pMr pMd; omega) x6, Mc7_p a.1 hS (by unfold pMr pMd; omega) (by unfold pMr pMd; omega) x7, Mc8_p a.1 hS (by unfold pMr pMd; omega) (fun j => by unfold pMr pMd; omega) x8, Mc9_p a.1 hS (by unfold pMr pMd; omega) x9⟩
theorem xpl_r {h h' : hp} (a : FX (pXr h) h h') : FX xpl h h' := FX_mono a (fun c j _ z => by unfold pXr pEx at z; unfold xpl; omega)
theorem mpl_r {h h' : hp} (a : FMr h h') : FX mpl h h' := FX_mono a.1 (fun c j _ z => by unfold pMr pMd at z; unfold mpl; omega)
theorem Gd_run {R : Nat → Option zT} {σ : zS} {k : zK} {w w' : Int} {T O : List Int} {F : Int × Int} {L : Int} {q : zQ} (g : Gd (R, σ, some k, w, T, F, O, L)) (o : OKs R q) : Gd (R, q.1.1, some (ofQ q), w', T, F, O, L) := ⟨g.1, o.1, ⟨o.2.1, o.2.2⟩, g.2.2.2⟩
/-- an answer that is an int -/
def qI (Q : qt) : qt := fun o h' => ∃ x : Int, o = .inl (some (vI x)) ∧ St h' ∧ Q o h'
theorem cI_q {d y : Nat} {as : List av} {h : hp} {Q : qt} {K : Int → hp → Prop} {E : Nat → hp → Prop} (k : Wc d y as h (qI Q)) (hK : ∀ x h', St h' → Q (.inl (some (vI x))) h' → K x h') : cI (Wc d) y as h K E := by
  refine Wc_mono (fun o h' z => ?_) k
  obtain ⟨x, e, S, q⟩ := z
  subst e
  exact hK x h' S q
/-- a number of steps -/
theorem op_many {n y z : Nat} {h : hp} {ax am : List av} {R : Nat → Option zT} {σ : zS} {k : zK} {w : Int} {T O : List Int} {F : Int × Int} {L : Int} {v : Int} (hv : -300 ≤ v ∧ v ≤ 300) (hS : St h) (x : IX h (R, σ, some k, w, T, F, O, L)) (m : IM h (R, σ, some k, w, T, F, O, L)) (g : Gd (R, σ, some k, w, T, F, O, L)) (u : hU h ≤ 200000 + 100000 * n) (hn : n < 64)
    (X : ∀ (d : Nat) (Q : qt), Wc (d + 1999) 76 [vR (some 68), vI (v.natAbs : Nat), vI (bI (decide (v < 0)))] h (qI Q) → Wc (d + 2000) y ax h Q)
    (M : ∀ (d : Nat) (h1 : hp) (Q : qt), St h1 → IM h1 (R, σ, some k, w, T, F, O, L) → Wc (d + 1999) 207 [vR (some 116), vI v] h1 (qI Q) → Wc (d + 2000) z am h1 Q) (hk : pk y = 0 := by rfl) : Pair y z ax am n h := by
  have rI := RIs_of x.1 m.1 g.1
  obtain ⟨ρ, xz⟩ := x.2.1
  have o : OKs R (toQ σ k) := ⟨g.2.1, g.2.2.1.1, g.2.2.1.2⟩
  have xs : XS h (toQ σ k) ρ := ⟨x.2.2.1, xz, x.2.2.2.1.1, x.2.2.2.1.2⟩
  obtain ⟨r, er⟩ : ∃ r, r = rmy R (decide (v < 0)) v.natAbs (toQ σ k) := ⟨_, rfl⟩
  refine pair_of (s := (R, σ, some k, w, T, F, O, L)) (vI (r.1 : Nat)) (R, r.2.1.1.1, some (ofQ r.2.1), ((r.2.2 : Nat) : Int), T, F, O, L) (Gd (R, r.2.1.1.1, some (ofQ r.2.1), ((r.2.2 : Nat) : Int), T, F, O, L)) hS m u (fun d Q kk => X d Q ?_) (fun d h1 Q S1 M1 X1 g1 kk => M d h1 Q S1 M1 ?_) (hav := hk.symm)
  · refine x_many (R := R) (d := d + 356) (by omega) hS rI xs o (by unfold BUD; omega) (fun h' ρ' F' U' X' O' w' => ?_)
    rw [← er] at X' O' w' ⊢
    exact ⟨_, rfl, F'.2.2.1, kk h' (xpl_r F') (by omega) (IX_run hS x F' X' w') (Gd_run g O')⟩
  · have rI1 : RIs h1 R := RIs_of X1.1 M1.1 g.1
    have ms : MS h1 (toQ σ k) := ⟨M1.2.1, M1.2.2.1.2.1, M1.2.2.1.2.2⟩
    refine m_many (R := R) (d := d + 1927) hv S1 rI1 ms o (fun h' F' X' O' w' => ?_)
    rw [← er] at X' w' ⊢
    exact ⟨_, rfl, F'.1.2.2.1, kk h' (mpl_r F') F'.2.2 (IM_run S1 M1 F' X' w') g1⟩
theorem op_run {n : Nat} {h : hp} {a : Int} (I : IN n h) (hn : n < 64) : Pair 83 206 [vR (some 68), vI a] [vR (some 116), vI a] n h := by
  obtain ⟨⟨R, σ, K, w, T, F, O, L⟩, hS, x, m, g, u⟩ := I
  obtain ⟨x1, x2, x3, x4, x5, x6, x7, x8, x9⟩ := id x
  obtain ⟨m1, m2, m4, m5, m6, m7, m8, m9⟩ := id m
  dsimp only at x4 m4
  by_cases ha : -300 ≤ a ∧ a ≤ 300
  · cases K with
    | none =>
      have f1 : hI h 68 19 = -1 := x4
      have f2 : hI h 116 54 = 0 := m4
      refine pair_eq (vI (-2)) hS x m g u (fun d Q k => ?_) (fun d Q k => ?_)
      · refine se_X0_run hS (pu_isIn hS ?_)
        refine ss_X0_run_11 hS ?_
        rw [rg_t ha, f1]
        exact im (by decide) (ip (by decide) k)
      · refine se_X4_run hS (pu_in hS ?_)
        refine ss_X4_run_10 hS ?_
        rw [rg_t ha, f2]
        exact im (by decide) (ip rfl k)
    | some q =>
      have f1 : hI h 68 19 = (q.1 : Nat) := x4.1.1
      refine op_many ha hS x m g u hn (fun d Q k => ?_) (fun d h1 Q S1 M1 k => ?_)
      · refine se_X0_run hS (pu_isIn hS ?_)
        refine ss_X0_run_11 hS ?_
        rw [rg_t ha]
        refine im (by decide) (im (by rw [f1]; omega) ?_)
        refine se_J10_abs hS ?_
        by_cases a0 : a < 0
        · refine ip a0 ?_
          refine ss_X0_run_33 hS (ip a0 ?_)
          rw [decide_eq_true a0] at k
          rw [show n_neg a = ((a.natAbs : Nat) : Int) by unfold n_neg; rw [s32_eq (by omega) (by omega)]; omega]
          exact cI_q k (fun _ _ _ q => q)
        · refine im a0 ?_
          refine ss_X0_run_33 hS (im a0 ?_)
          rw [decide_eq_false a0] at k
          rw [show ((a.natAbs : Nat) : Int) = a by omega] at k
          exact cI_q k (fun _ _ _ q => q)
      · have g0 : hI h1 116 54 = 1 := M1.2.2.1.1
        refine se_X4_run S1 (pu_in S1 ?_)
        refine ss_X4_run_10 S1 ?_
        rw [rg_t ha, g0]
        refine im (by decide) (im (by decide) ?_)
        exact cI_q k (fun x h2 S2 q => ss_X4_run_27 S2 q)
  · refine pair_eq (vI (-1)) hS x m g u (fun d Q k => ?_) (fun d Q k => ?_)
    · refine se_X0_run hS (pu_isIn hS ?_)
      refine ss_X0_run_11 hS ?_
      rw [rg_f ha]
      exact ip rfl k
    · refine se_X4_run hS (pu_in hS ?_)
      refine ss_X4_run_10 hS ?_
      rw [rg_f ha]
      exact ip rfl k

theorem op_goTo {n : Nat} {h : hp} {a : Int} (I : IN n h) (hn : n < 64) : Pair 84 208 [vR (some 68), vI a] [vR (some 116), vI a] n h := by
  obtain ⟨⟨R, σ, K, w, T, F, O, L⟩, hS, x, m, g, u⟩ := I
  obtain ⟨x1, x2, x3, x4, x5, x6, x7, x8, x9⟩ := id x
  obtain ⟨m1, m2, m4, m5, m6, m7, m8, m9⟩ := id m
  dsimp only at x4 m4
  cases K with
  | none =>
    have f1 : hI h 68 19 = -1 := x4
    have f2 : hI h 116 54 = 0 := m4
    exact pair_eq (vI (-2)) hS x m g u (fun d Q k => se_X0_goTo hS (ip (by rw [f1]; decide) k)) (fun d Q k => se_X4_goTo hS (ip f2 k))
  | some q =>
    have f1 : hI h 68 19 = (q.1 : Nat) := x4.1.1
    have f2 : hI h 68 22 = q.2.2.2.2 := x4.2
    have g0 : ∀ {h1 : hp}, IM h1 (R, σ, some q, w, T, F, O, L) → hI h1 116 54 = 1 ∧ hI h1 116 58 = q.2.2.2.2 := fun M1 => ⟨M1.2.2.1.1, M1.2.2.1.2.2⟩
    obtain ⟨v, ev⟩ : ∃ v, v = l_sub a q.2.2.2.2 := ⟨_, rfl⟩
    by_cases ha : -300 ≤ v ∧ v ≤ 300
    · have l2 : l_l2i v = v := s32_eq (by omega) (by omega)
      refine op_many ha hS x m g u hn (fun d Q k => ?_) (fun d h1 Q S1 M1 k => ?_)
      · refine se_X0_goTo hS (im (by rw [f1]; omega) ?_)
        rw [f2, ← ev]
        refine pu_isIn hS ?_
        refine ss_X0_goTo_29 hS ?_
        rw [rg_t ha]
        refine im (by decide) ?_
        refine se_J10_abs_2 hS ?_
        by_cases a0 : v < 0
        · refine ip a0 ?_
          refine ss_X0_goTo_41 hS (ip a0 ?_)
          rw [decide_eq_true a0] at k
          rw [show l_l2i (l_neg v) = ((v.natAbs : Nat) : Int) by unfold l_neg l_l2i; rw [s64_eq (by omega) (by omega), s32_eq (by omega) (by omega)]; omega]
          exact cI_q k (fun _ _ _ q => q)
        · refine im a0 ?_
          refine ss_X0_goTo_41 hS (im a0 ?_)
          rw [decide_eq_false a0] at k
          rw [show ((v.natAbs : Nat) : Int) = v by omega] at k
          rw [l2]
          exact cI_q k (fun _ _ _ q => q)
      · obtain ⟨g0, g1⟩ := g0 M1
        refine se_X4_goTo S1 (im (by rw [g0]; decide) ?_)
        rw [g1, ← ev, l2]
        exact im (by omega) (im (by omega) (cI_q k (fun _ _ _ q => q)))
    · obtain ⟨g0, g1⟩ := g0 m
      refine pair_eq (vI (-1)) hS x m g u (fun d Q k => ?_) (fun d Q k => ?_)
      · refine se_X0_goTo hS (im (by rw [f1]; omega) ?_)
        rw [f2, ← ev]
        refine pu_isIn hS ?_
        refine ss_X0_goTo_29 hS ?_
        rw [rg_f ha]
        exact ip rfl k
      · refine se_X4_goTo hS (im (by rw [g0]; decide) ?_)
        rw [g1, ← ev]
        by_cases v0 : v < -300
        · exact ip v0 k
        · exact im v0 (ip (by omega) k)
theorem op_go {n : Nat} {h : hp} {b : Bool} (I : IN n h) (hn : n < 64) : Pair 75 176 [vR (some 68), vI (bI b)] [vR (some 116), vI (bI b)] n h := by
  obtain ⟨⟨R, σ, K, w, T, F, O, L⟩, hS, x, m, g, u⟩ := I
  obtain ⟨x1, ⟨ρ, xz⟩, x3, x4, x5, x6, x7, x8, x9⟩ := id x
  obtain ⟨m1, m2, m4, m5, m6, m7, m8, m9⟩ := id m
  dsimp only at x4 m4 xz
  cases K with
  | none =>
    have f1 : hI h 68 19 = -1 := x4
    have f2 : hI h 116 54 = 0 := m4
    exact pair_eq (vI (-2)) hS x m g u (fun d Q k => se_X0_go hS (ip (by rw [f1]; decide) k)) (fun d Q k => se_X4_go hS (ip f2 k))
  | some q =>
    have rI := RIs_of x.1 m.1 g.1
    have o : OKs R (toQ σ q) := ⟨g.2.1, g.2.2.1.1, g.2.2.1.2⟩
    have xs : XS h (toQ σ q) ρ := ⟨x3, xz, x4.1, x4.2⟩
    have f1 : hI h 68 19 = (q.1 : Nat) := x4.1.1
    have hin := rgo_in (f := fw q.2.2.1 b) rI (Pr_X xz) g.2.1 g.2.2.1.1
    have e1 : rmy R b 1 (toQ σ q) = match rgo R σ q.1 q.2.1 q.2.2.1 q.2.2.2.1 (fw q.2.2.1 b) with
      | .inl x => (0, toQ σ q, x)
      | .inr o => (1, (o, n_add q.2.2.2.2 (if b = true then -1 else 1)), 0) := by
      unfold rmy toQ
      dsimp only
      cases rgo R σ q.1 q.2.1 q.2.2.1 q.2.2.2.1 (fw q.2.2.1 b) with
      | inl y => rfl
      | inr o => rfl
    have xx : ∀ (d : Nat) (Q : qt), (∀ h' ρ', FX (pXr h) h h' → hU h' ≤ hU h + 25 → XS h' (rmy R b 1 (toQ σ q)).2.1 ρ' → OKs R (rmy R b 1 (toQ σ q)).2.1 → hI h' 68 23 = ((rmy R b 1 (toQ σ q)).2.2 : Nat) → Wp (d + 1999) C_X0_go Q 16 [vR (some 68), vI (bI b)] [vI ((rmy R b 1 (toQ σ q)).1 : Nat)] h') → Wc (d + 2000) 75 [vR (some 68), vI (bI b)] h Q := by
      intro d Q k
      refine se_X0_go hS (im (by rw [f1]; omega) ?_)
      exact x_many (R := R) (b := b) (n := 1) (d := d + 356) (by decide) hS rI xs o (by unfold BUD; omega) (fun h' ρ' F' U' X' O' w' => k h' ρ' F' U' X' O' w')
    rw [e1] at xx
    cases hv : rgo R σ q.1 q.2.1 q.2.2.1 q.2.2.2.1 (fw q.2.2.1 b) with
    | inl y =>
      rw [hv] at xx hin
      dsimp only at xx
      refine pair_of (s := (R, σ, some q, w, T, F, O, L)) (vI (n_sub (-20) (y : Nat))) (R, σ, some q, ((y : Nat) : Int), T, F, O, L) (Gd (R, σ, some q, ((y : Nat) : Int), T, F, O, L)) hS m u (fun d Q kk => xx d Q ?_) (fun d h1 Q S1 M1 X1 g1 kk => ?_)
      · intro h' ρ' F' U' X' O' w'
        refine ss_X0_go_16 F'.2.2.1 (im (by decide) ?_)
        rw [w']
        exact kk h' (xpl_r F') (by omega) (IX_run (q := toQ σ q) hS x F' X' w') (Gd_run (q := toQ σ q) g O')
      · have rI1 : RIs h1 R := RIs_of X1.1 M1.1 g.1
        refine se_X4_go S1 (im (by rw [M1.2.2.1.1]; decide) ?_)
        refine m_goes (b := b) S1 rI1 M1.2.1 g.2.1 g.2.2.1.1 M1.2.2.1.2.1 M1.2.2.1.2.2 g.2.2.1.2 ?_
        dsimp only
        rw [hv]
        intro h2 F2 V2 R2 w2 c2
        refine ss_X4_go_15 F2.1.2.2.1 (ip rfl ?_)
        rw [w2]
        exact kk h2 (mpl_r F2) F2.2.2 (IM_run (q := toQ σ q) S1 M1 F2 ⟨V2, R2, c2⟩ w2) g1
    | inr y =>
      rw [hv] at xx hin
      dsimp only at xx
      refine pair_of (s := (R, σ, some q, w, T, F, O, L)) (vI 1) (R, y.1, some (ofQ (y, n_add q.2.2.2.2 (if b = true then -1 else 1))), 0, T, F, O, L) (Gd (R, y.1, some (ofQ (y, n_add q.2.2.2.2 (if b = true then -1 else 1))), 0, T, F, O, L)) hS m u (fun d Q kk => xx d Q ?_) (fun d h1 Q S1 M1 X1 g1 kk => ?_)
      · intro h' ρ' F' U' X' O' w'
        refine ss_X0_go_16 F'.2.2.1 (ip rfl ?_)
        exact kk h' (xpl_r F') (by omega) (IX_run hS x F' X' w') (Gd_run g O')
      · have rI1 : RIs h1 R := RIs_of X1.1 M1.1 g.1
        refine se_X4_go S1 (im (by rw [M1.2.2.1.1]; decide) ?_)
        refine m_goes (b := b) S1 rI1 M1.2.1 g.2.1 g.2.2.1.1 M1.2.2.1.2.1 M1.2.2.1.2.2 g.2.2.1.2 ?_
        dsimp only
        rw [hv]
        intro h2 F2 V2 R2 w2 c2
        refine ss_X4_go_15 F2.1.2.2.1 (im (by decide) ?_)
        exact kk h2 (mpl_r F2) F2.2.2 (IM_run (q := (y, n_add q.2.2.2.2 (if b = true then -1 else 1))) S1 M1 F2 ⟨V2, R2, c2⟩ w2) g1
