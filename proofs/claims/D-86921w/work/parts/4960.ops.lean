/-! drop, read, walk -/
def rP (R : Nat → Option zT) (r : Nat) (v : Option zT) : Nat → Option zT := fun q => if q = r then v else R q
theorem rP_r (R : Nat → Option zT) (r : Nat) (v : Option zT) : rP R r v r = v := if_pos rfl
theorem rP_q {R : Nat → Option zT} {r q : Nat} {v : Option zT} (h : q ≠ r) : rP R r v q = R q := if_neg h
theorem Xc1_r {p : Nat → Nat → Prop} {h h' : hp} {R : Nat → Option zT} {r : Nat} {v : Option zT} (a : FX p h h') (hS : St h) (h1 : ∀ j, j < 10 → j ≠ r → ¬ p 72 j) (h2 : ∀ c j, 145 ≤ c → c < hN h → imm (hT h c).1 → ¬ p c j) (z : Xc1 h R) (zr : XIr h' r v) : Xc1 h' (rP R r v) := by
  intro q hq
  by_cases e : q = r
  · subst e; rw [rP_r]; exact zr
  · rw [rP_q e]
    have z1 := z q hq
    have e := (FX_at a (c := 72) (j := q) (Nat.lt_of_lt_of_le (by decide) hS.1) (h1 q hq e)).2.2
    cases y : R q with
    | none => rw [y] at z1; exact e.trans z1
    | some t =>
      rw [y] at z1
      obtain ⟨rc, z2, z3⟩ := z1
      exact ⟨rc, e.trans z2, XR_eq a.1 (fun c c1 c2 c3 => FX_sm a c2 (fun j => h2 c j c1 c2 c3)) z3⟩
theorem Mc1_r {h h' : hp} {R : Nat → Option zT} {r : Nat} {v : Option zT} (z : Mc1 h R) (e : ∀ q, q < 10 → q ≠ r → MIr h q (R q) → MIr h' q (R q)) (zr : MIr h' r v) : Mc1 h' (rP R r v) := by
  intro q hq
  by_cases y : q = r
  · subst y; rw [rP_r]; exact zr
  · rw [rP_q y]; exact e q hq y (z q hq)
theorem Gd_1 {R : Nat → Option zT} {r : Nat} {v : Option zT} (g : ∀ r t, r < 10 → R r = some t → Gt t) (gv : ∀ t, v = some t → Gt t) : ∀ q t, q < 10 → rP R r v q = some t → Gt t := by
  intro q t hq e
  by_cases y : q = r
  · subst y; rw [rP_r] at e; exact gv t e
  · rw [rP_q y] at e; exact g q t hq e
theorem op_drop {n : Nat} {h : hp} {a : Int} (I : IN n h) : Pair 40 146 [vR (some 68), vI a] [vR (some 116), vI a] n h := by
  obtain ⟨⟨R, σ, K, w, T, F, O, L⟩, hS, x, m, g, u⟩ := I
  have rI : RIs h R := RIs_of x.1 m.1 g.1
  have mf : ∀ {h1 : hp}, Mc1 h1 R → (∀ r t, r < 10 → R r = some t → hI h1 121 r = 1 ∧ hI h1 126 r = (zc t : Nat)) ∧ ∀ r, r < 10 → R r = none → hI h1 121 r = 0 := by
    intro h1 m1
    refine ⟨fun r t hr e => ?_, fun r hr e => ?_⟩
    · have z := m1 r hr
      rw [e] at z
      exact ⟨z.1, z.2.2.2.1⟩
    · have z := m1 r hr
      rw [e] at z
      exact z
  by_cases hl : lackV R a < 0
  · have nr : ∀ (r : Nat) (t : zT), a = (r : Nat) → r < 10 → R r = some t → False := by
      intro r t e hr e2
      unfold lackV at hl
      rw [if_pos (by omega), e, Int.toNat_natCast, e2] at hl
      exact absurd (show (0 : Int) < 0 from hl) (by decide)
    exact pair_eq (vI (dropV R a)) hS x m g u (fun d Q k => c_dropX hS rI (fun _ => k) (fun r t e hr e2 => (nr r t e hr e2).elim)) (fun d Q k => c_dropM hS (mf m.1).1 (mf m.1).2 (fun _ => k) (fun r t e hr e2 => (nr r t e hr e2).elim))
  · obtain ⟨r, t, ea, hr, eR⟩ : ∃ (r : Nat) (t : zT), a = (r : Nat) ∧ r < 10 ∧ R r = some t := by
      unfold lackV at hl
      by_cases ha : 0 ≤ a ∧ a ≤ 9
      · rw [if_pos ha] at hl
        cases y : R a.toNat with
        | none => rw [y] at hl; exact absurd (by decide) hl
        | some t => exact ⟨a.toNat, t, by omega, by omega, y⟩
      · rw [if_neg ha] at hl; exact absurd (by decide) hl
    subst ea
    obtain ⟨x1, x2, x3, x4, x5, x6, x7, x8, x9⟩ := id x
    refine pair_of (s := (R, σ, K, w, T, F, O, L)) (vI (dropV R ((r : Nat) : Int))) (rP R r none, σ, none, w, T, F, O, L) True hS m u (fun d Q k => ?_) (fun d h1 Q S1 M1 X1 _ k => ?_)
    · refine c_dropX hS rI (fun z => absurd z hl) (fun r' t' e hr' e2 => ?_)
      have er : r' = r := by omega
      subst er
      have F5 : FX (fun a j => (a = 72 ∧ j = r') ∨ (a = 68 ∧ j = 19)) h (sI (sR h 72 r' none) 68 19 (-1)) := FX_sI (FX_sR (FX_refl hS) (Or.inl (Or.inl ⟨rfl, rfl⟩)) (by unfold okRf; omega)) (Or.inl (Or.inr ⟨rfl, rfl⟩)) (by decide)
      refine k _ (FX_mono F5 (fun c j _ z => by unfold xpl; omega)) (by show hU h ≤ _; omega) ⟨Xc1_r F5 hS (fun j _ hj => by omega) (fun c j c1 _ _ => by omega) x1 ?_, Xc2_p F5 hS (fun c j hc => by omega) (fun c j c1 _ _ _ => by omega) x2, XFr_p F5 hS (by omega) (by omega) x3, ?_, Xc5_p F5 hS (by omega) x5, Tq_p F5 hS (by omega) (fun j => by omega) x6, Xc7_p F5 hS (by omega) (by omega) x7, Xc8_p F5 hS (by omega) (fun j => by omega) x8, Xc9_p F5 hS (by omega) x9⟩ trivial
      · show hR (sR h 72 r' none) 72 r' = none
        rw [hR_sR, if_pos ⟨rfl, rfl⟩]
      · show hI (sI (sR h 72 r' none) 68 19 (-1)) 68 19 = -1
        rw [hI_sI, if_pos ⟨rfl, rfl⟩]
    · obtain ⟨m1, m2, m4, m5, m6, m7, m8, m9⟩ := id M1
      refine c_dropM S1 (mf m1).1 (mf m1).2 (fun z => absurd z hl) (fun r' t' e hr' e2 => ?_)
      have er : r' = r := by omega
      subst er
      have F5 : FX (fun a j => (a = 121 ∧ j = r') ∨ (a = 116 ∧ j = 54)) h1 (sI (sI h1 121 r' 0) 116 54 0) := FX_sI (FX_sI (FX_refl S1) (Or.inl (Or.inl ⟨rfl, rfl⟩)) (by decide)) (Or.inl (Or.inr ⟨rfl, rfl⟩)) (by decide)
      refine k _ (FX_mono F5 (fun c j _ z => by unfold mpl; omega)) rfl ⟨Mc1_r m1 (fun q hq hn z => ?_) ?_, MV_p2 F5 S1 (fun c j hc => by omega) m2, ?_, Mc5_p F5 S1 (by omega) m5, Mq_p F5 S1 (by omega) (fun j => by omega) m6, Mc7_p F5 S1 (by omega) (by omega) m7, Mc8_p F5 S1 (by omega) (fun j => by omega) m8, Mc9_p F5 S1 (by omega) m9⟩ ⟨Gd_1 g.1 (fun t e => by cases e), g.2.1, trivial, g.2.2.2⟩
      · have ee : ∀ c j, (c = 121 ∧ j = q) ∨ (122 ≤ c ∧ c ≤ 133) → hI (sI (sI h1 121 r' 0) 116 54 0) c j = hI h1 c j := fun c j hc => F68 F5 S1 (by omega) (by omega)
        cases y : R q with
        | none => rw [y] at z; exact (ee 121 q (by omega)).trans z
        | some t =>
          rw [y] at z
          obtain ⟨b1, b2, b3, b4, b5⟩ := z
          exact ⟨(ee 121 q (by omega)).trans b1, (ee 122 q (by omega)).trans b2, RK_eq (fun j => ee 123 j (by omega)) (fun j => ee 124 j (by omega)) (fun j => ee 125 j (by omega)) b3, (ee 126 q (by omega)).trans b4, MEs_eq (fun i _ c c1 c2 => ee c _ (by omega)) b5⟩
      · show hI (sI (sI h1 121 r' 0) 116 54 0) 121 r' = 0
        rw [hI_sI, if_neg (by omega), hI_sI, if_pos ⟨rfl, rfl⟩]
      · show hI (sI (sI h1 121 r' 0) 116 54 0) 116 54 = 0
        rw [hI_sI, if_pos ⟨rfl, rfl⟩]
def mRd (a j : Nat) : Prop := a = 119 ∨ a = 120 ∨ (a = 116 ∧ (j = 1 ∨ (4 ≤ j ∧ j ≤ 8) ∨ (11 ≤ j ∧ j ≤ 21)))
def mBe (a j : Nat) : Prop := mRd a j ∨ (a = 116 ∧ j = 54) ∨ (121 ≤ a ∧ a ≤ 133)
theorem FX_mRd {h h' : hp} (a : FI [] mjR [119, 120] h h') (hS : St h) : FX mRd h h' := FX_mono (FX_FI a hS rfl) (fun c j _ z => by
  unfold pG at z
  unfold mRd
  simp at z
  omega)
theorem FX_mBe {h h' : hp} {r : Nat} (a : Fr h h' r) (hS : St h) : FX mBe h h' := by
  obtain ⟨h1, f1, f2, -⟩ := a
  have S1 := FI_St f1 hS rfl
  refine FX_trans (FX_mono (FX_mRd f1 hS) (fun c j _ z => Or.inl z)) (FX_mono (FX_FI f2 S1 rfl) (fun c j _ z => Or.inr ?_))
  unfold pG at z
  simp at z
  omega
theorem op_read {n : Nat} {h : hp} {a : Int} (I : IN n h) (hn : n < 64) : Pair 3 109 [vR (some 68), vI a] [vR (some 116), vI a] n h := by
  obtain ⟨⟨R, σ, K, w, T, F, O, L⟩, hS, x, m, g, u⟩ := I
  by_cases ha : 0 ≤ a ∧ a ≤ 9
  · obtain ⟨r, rfl⟩ : ∃ r : Nat, a = (r : Nat) := ⟨a.toNat, by omega⟩
    have hr : r < 10 := by omega
    obtain ⟨x1, x2, x3, x4, x5, x6, x7, x8, x9⟩ := id x
    dsimp only at x6
    have tl : T.length ≤ 600 := by have := x6.2.1; omega
    have t1 : hI h 68 1 = (T.length : Nat) := by rw [x6.1, Nat.zero_add]
    have hb : hU h + 128 * T.length + 5000 ≤ BUD := by unfold BUD; omega
    have lok : Lok (lex T) := lex_ok _ T (Nat.le_refl _) x6.2.2.2
    have x1' : ∀ {p : Nat → Nat → Prop} {h' : hp}, FX p h h' → (∀ c j, p c j → c = 1 ∨ (c = 68 ∧ (j = 1 ∨ j = 2 ∨ j = 3 ∨ j = 4 ∨ j = 5 ∨ j = 6 ∨ j = 7 ∨ j = 9 ∨ j = 10 ∨ j = 19)) ∨ (c = 72 ∧ (j = r ∨ j = 10))) → Xc2 h' σ ∧ XFr h' ∧ Xc5 h' w ∧ Xc8 h' O ∧ Xc9 h' L ∧ FX xpl h h' := by
      intro p h' F5 hp
      have np : ∀ c j, ¬ (c = 1 ∨ (c = 68 ∧ (j = 1 ∨ j = 2 ∨ j = 3 ∨ j = 4 ∨ j = 5 ∨ j = 6 ∨ j = 7 ∨ j = 9 ∨ j = 10 ∨ j = 19)) ∨ (c = 72 ∧ (j = r ∨ j = 10))) → ¬ p c j := fun c j z y => z (hp c j y)
      exact ⟨Xc2_p F5 hS (fun c j hc => np c j (by omega)) (fun c j c1 _ _ _ => np c j (by omega)) x2, XFr_p F5 hS (np _ _ (by omega)) (np _ _ (by omega)) x3, Xc5_p F5 hS (np _ _ (by omega)) x5, Xc8_p F5 hS (np _ _ (by omega)) (fun j => np _ _ (by omega)) x8, Xc9_p F5 hS (np _ _ (by omega)) x9, FX_mono F5 (fun c j _ z => by have := hp c j z; unfold xpl; omega)⟩
    obtain ⟨r0, hr0⟩ : ∃ r0, pRead (lex T) = some r0 := by
      obtain ⟨r0, e⟩ := pS_read (lex T)
      unfold pRead
      rw [e]
      cases r0 with
      | inl f => exact ⟨_, rfl⟩
      | inr p =>
        obtain ⟨t, M, c, o⟩ := p
        dsimp only
        split
        · exact ⟨_, rfl⟩
        · exact ⟨_, rfl⟩
    cases r0 with
    | inl f =>
      obtain ⟨kd, q⟩ := f
      refine pair_of (s := (R, σ, K, w, T, F, O, L)) (vI (n_sub (-10) (kd : Nat))) (R, σ, K, w, [], ((kd : Nat), ((T.length : Nat) : Int) - (q : Nat)), O, L) True hS m u (fun d Q k => ?_) (fun d h1 Q S1 M1 X1 _ k => ?_)
      · refine c_readX (d := d + 1200) hS hr x6 hb (fun kd' q' h' e F5 U5 e6 e7 e1 e19 => ?_) (fun t h' o e => ?_)
        · rw [hr0] at e
          cases e
          have np : ∀ c j, pRd 10 c j → c = 1 ∨ (c = 68 ∧ (j = 1 ∨ j = 2 ∨ j = 3 ∨ j = 4 ∨ j = 5 ∨ j = 6 ∨ j = 7 ∨ j = 9 ∨ j = 10 ∨ j = 19)) ∨ (c = 72 ∧ (j = r ∨ j = 10)) := fun c j z => by unfold pRd at z; omega
          obtain ⟨y2, y3, y5, y8, y9, y0⟩ := x1' F5 np
          have n1 : ∀ c j, ¬ (c = 1 ∨ (c = 68 ∧ (j = 1 ∨ j = 2 ∨ j = 3 ∨ j = 4 ∨ j = 5 ∨ j = 6 ∨ j = 7 ∨ j = 9 ∨ j = 10 ∨ j = 19)) ∨ (c = 72 ∧ j = 10)) → ¬ pRd 10 c j := fun c j z y => by unfold pRd at y; omega
          refine k h' y0 (by omega) ⟨?_, y2, y3, XRu_e (fun c j hc => ?_) x4, y5, ⟨e1, Nat.zero_le 600, trivial, fun c hc => by cases hc⟩, ⟨e6, by rw [e7, t1]⟩, y8, y9⟩ trivial
          · intro r2 hr2
            have z1 := x1 r2 hr2
            have e := (FX_at F5 (c := 72) (j := r2) (Nat.lt_of_lt_of_le (by decide) hS.1) (n1 _ _ (by omega))).2.2
            dsimp only at z1 ⊢
            cases y : R r2 with
            | none => rw [y] at z1; exact e.trans z1
            | some t =>
              rw [y] at z1
              obtain ⟨rc, z2, z3⟩ := z1
              exact ⟨rc, e.trans z2, XR_eq F5.1 (fun c c1 c2 c3 => FX_sm F5 c2 (fun j => n1 _ _ (by omega))) z3⟩
          · by_cases j19 : c = 68 ∧ j = 19
            · rw [j19.1, j19.2]; exact e19
            · exact F68 F5 hS (by omega) (n1 _ _ (by omega))
        · rw [hr0] at e; cases e
      · obtain ⟨m1, m2, m4, m5, m6, m7, m8, m9⟩ := id M1
        dsimp only at m6
        have t2 : hI h1 116 1 = (T.length : Nat) := by rw [m6.1, Nat.zero_add]
        refine c_readM (d := d + 1900) S1 hr m6 (fun kd' q' h' e F5 e6 e7 e1 => ?_) (fun t h' e => ?_)
        · rw [hr0] at e
          cases e
          have F6 := FX_mRd F5 S1
          refine k h' (FX_mono F6 (fun c j _ z => by unfold mRd at z; unfold mpl; omega)) F5.2.1 ⟨Mc1_p F6 S1 (fun c j hc => by unfold mRd; omega) m1, MV_p2 F6 S1 (fun c j hc => by unfold mRd; omega) m2, MRu_p F6 S1 (fun c j hc => by unfold mRd; omega) m4, Mc5_p F6 S1 (by unfold mRd; omega) m5, ⟨e1, Nat.zero_le 600, trivial, fun c hc => by cases hc⟩, ⟨e6, by rw [e7, t2]⟩, Mc8_p F6 S1 (by unfold mRd; omega) (fun j => by unfold mRd; omega) m8, Mc9_p F6 S1 (by unfold mRd; omega) m9⟩ ⟨g.1, g.2.1, g.2.2⟩
        · rw [hr0] at e; cases e
    | inr t =>
      obtain ⟨ok, un, hz, hbr, -⟩ := pRead_good lok hr0
      refine pair_of (s := (R, σ, K, w, T, F, O, L)) (vI (zc t : Nat)) (rP R r (some t), σ, none, w, [], (0, 0), O, L) True hS m u (fun d Q k => ?_) (fun d h1 Q S1 M1 X1 _ k => ?_)
      · refine c_readX (d := d + 1200) hS hr x6 hb (fun kd' q' h' e => ?_) (fun t' h' o e _ _ _ _ F5 U5 xr e72 e6 e7 e1 e19 => ?_)
        · rw [hr0] at e; cases e
        · rw [hr0] at e
          cases e
          have np : ∀ c j, (pRd 10 c j ∨ pRd r c j) → c = 1 ∨ (c = 68 ∧ (j = 1 ∨ j = 2 ∨ j = 3 ∨ j = 4 ∨ j = 5 ∨ j = 6 ∨ j = 7 ∨ j = 9 ∨ j = 10 ∨ j = 19)) ∨ (c = 72 ∧ (j = r ∨ j = 10)) := fun c j z => by unfold pRd at z; omega
          obtain ⟨y2, y3, y5, y8, y9, y0⟩ := x1' F5 np
          exact k h' y0 (by omega) ⟨Xc1_r F5 hS (fun j hj hne z => by have := np _ _ z; omega) (fun c j c1 _ _ z => by have := np _ _ z; omega) x1 ⟨o, e72, xr⟩, y2, y3, e19, y5, ⟨e1, Nat.zero_le 600, trivial, fun c hc => by cases hc⟩, ⟨e6, e7⟩, y8, y9⟩ trivial
      · obtain ⟨m1, m2, m4, m5, m6, m7, m8, m9⟩ := id M1
        dsimp only at m6
        refine c_readM (d := d + 1900) S1 hr m6 (fun kd' q' h' e => ?_) (fun t' h' e F5 mr e6 e7 e1 e54 => ?_)
        · rw [hr0] at e; cases e
        · rw [hr0] at e
          cases e
          have F6 := FX_mBe F5 S1
          have gt : Gt t := ⟨ok, un, hz, hbr, mr.2.2.1.1, by have := pRead_w x6.2.2.2 hr0; split <;> omega, pRead_t8 lok hr0⟩
          have u6 : hU h' = hU h1 := by
            obtain ⟨g1, f1, f2, -⟩ := F5
            rw [f2.2.1, f1.2.1]
          refine k h' (FX_mono F6 (fun c j _ z => by unfold mBe mRd at z; unfold mpl; omega)) u6 ⟨Mc1_r m1 (fun q hq hne z => ?_) mr, MV_p2 F6 S1 (fun c j hc => by unfold mBe mRd; omega) m2, e54, Mc5_p F6 S1 (by unfold mBe mRd; omega) m5, ⟨e1, Nat.zero_le 600, trivial, fun c hc => by cases hc⟩, ⟨e6, e7⟩, Mc8_p F6 S1 (by unfold mBe mRd; omega) (fun j => by unfold mBe mRd; omega) m8, Mc9_p F6 S1 (by unfold mBe mRd; omega) m9⟩ ⟨Gd_1 g.1 (fun t' e => by cases e; exact gt), g.2.1, trivial, g.2.2.2⟩
          have gq := g.1 q
          obtain ⟨g1, f1, f2⟩ := F5
          have F7 := FX_mRd f1 S1
          have ee : ∀ c j, 121 ≤ c ∧ c ≤ 133 → hI g1 c j = hI h1 c j := fun c j hc => F68 F7 S1 (by omega) (by unfold mRd; omega)
          cases y : R q with
          | none =>
            rw [y] at z
            exact ((f2.2.1 q hne).1.trans (ee 121 q (by omega))).trans z
          | some t2 =>
            rw [y] at z
            obtain ⟨b1, b2, b3, b4, b5⟩ := z
            have gt2 := gq t2 hq y
            refine MR_Fb f2 hne gt2.2.2.1 gt2.1 ?_
            exact ⟨(ee 121 q (by omega)).trans b1, (ee 122 q (by omega)).trans b2, RK_eq (fun j => ee 123 j (by omega)) (fun j => ee 124 j (by omega)) (fun j => ee 125 j (by omega)) b3, (ee 126 q (by omega)).trans b4, MEs_eq (fun i _ c c1 c2 => ee c _ (by omega)) b5⟩
  · refine pair_eq (vI (-1)) hS x m g u (fun d Q k => ?_) (fun d Q k => ?_)
    · refine se_X0_read hS (pu_isRoutine hS ?_)
      refine ss_X0_read_4 hS ?_
      rw [rg_f ha]
      exact ip rfl k
    · refine se_X4_read hS (pu_mIsRoutine hS ?_)
      refine ss_X4_read_4 hS ?_
      rw [rg_f ha]
      exact ip rfl k

def pWl (a j : Nat) : Prop := a = 73 ∨ a = 74 ∨ (a = 68 ∧ (j = 31 ∨ j = 32))
theorem Pt_p {p : Nat → Nat → Prop} {h h' : hp} {lo hi q : Nat} {ys xs : List Nat} {t : zT} (hl : 145 ≤ lo) (hh : hi ≤ hN h) (a : FX p h h') (hp : ∀ c j, 145 ≤ c → ¬ p c j) (z1 : RPt h lo hi q ys) (z2 : RT h lo hi t xs) : RPt h' lo hi q ys ∧ RT h' lo hi t xs := by
  have s : ∀ c, lo ≤ c → c < hi → imm (hT h c).1 → sm h h' c := fun c c1 c2 _ => FX_sm a (by omega) (fun j => hp c j (by omega))
  refine ⟨RPt_eq hl a.1 s (fun y hy => ?_) z1, RT_eq hl a.1 s z2⟩
  obtain ⟨-, -, -, l, arr, -, -, -, z7, -⟩ := z1
  have w := z7.2.2.2.1 y hy
  rw [(a.2.2.2 y w.1).1]; exact w.2
theorem op_walk {n : Nat} {h : hp} {a b : Int} (I : IN n h) : Pair 58 211 [vR (some 68), vI a, vI b] [vR (some 116), vI a, vI b] n h := by
  obtain ⟨⟨R, σ, K, w, T, F, O, L⟩, hS, x, m, g, u⟩ := I
  have rI : RIs h R := RIs_of x.1 m.1 g.1
  by_cases ha : 0 ≤ a ∧ a ≤ 9
  · obtain ⟨r, rfl⟩ : ∃ r : Nat, a = (r : Nat) := ⟨a.toNat, by omega⟩
    have hr : r < 10 := by omega
    by_cases hb : 0 ≤ b ∧ b ≤ 400
    · obtain ⟨N, rfl⟩ : ∃ r : Nat, b = (r : Nat) := ⟨b.toNat, by omega⟩
      have hN4 : N ≤ 400 := by omega
      have rIr := rI r hr
      cases hR0 : R r with
      | none =>
        rw [hR0] at rIr
        refine pair_eq (vI (-2)) hS x m g u (fun d Q k => ?_) (fun d Q k => ?_)
        · refine se_X0_walk hS (pu_isRoutine hS ?_)
          refine ss_X0_walk_4 hS ?_
          rw [rg_t ha]
          refine im (by decide) (pu_isIn hS ?_)
          refine ss_X0_walk_16 hS ?_
          rw [rg_t hb, Int.toNat_natCast]
          exact im (by decide) ⟨by omega, ip rIr.1 k⟩
        · refine se_X4_walk hS (pu_mIsRoutine hS ?_)
          refine ss_X4_walk_4 hS ?_
          rw [rg_t ha]
          refine im (by decide) (pu_in hS ?_)
          refine ss_X4_walk_15 hS ?_
          rw [rg_t hb, Int.toNat_natCast]
          exact im (by decide) ⟨by omega, ip rIr.2 k⟩
      | some t =>
        rw [hR0] at rIr
        obtain ⟨ok, un, hz, hbr, hlen, ⟨rc, xr1, xr2⟩, mr1, mr2, mr3, mr4, mr5⟩ := rIr
        have xr2' := xr2
        obtain ⟨z1, z2, z3, lo, hi, p, l, arr, ys, cs, es, a1, a2, a3, a4, a5, a6, a7, a8, a9, a10, a11, a12⟩ := xr2
        have x36 : ∀ (d : Nat) (Q : qt), (Wp (d + 1999) C_X0_walk Q 36 [vR (some 68), vI (r : Nat), vI (N : Nat), vR (some rc), vU] [vI (bI (zord t))] h) → Wc (d + 2000) 58 [vR (some 68), vI (r : Nat), vI (N : Nat)] h Q := by
          intro d Q k
          refine se_X0_walk hS (pu_isRoutine hS ?_)
          refine ss_X0_walk_4 hS ?_
          rw [rg_t ha]
          refine im (by decide) (pu_isIn hS ?_)
          refine ss_X0_walk_16 hS ?_
          rw [rg_t hb, Int.toNat_natCast, xr1, ofR_some]
          exact im (by decide) ⟨by omega, im (by simp) (ip (by rw [z1]) (c_isOrd hS ok un xr2' k))⟩
        have m46 : ∀ (d : Nat) (h1 : hp) (Q : qt), St h1 → MR h1 r t (bI (zord t)) → (zord t = false → Q (.inl (some (vI (-2)))) h1) → (zord t = true → Wp (d + 1999) C_X4_walk Q 46 [vR (some 116), vI (r : Nat), vI (N : Nat), vI 0, vI 0, vU, vU, vU, vU, vU] [] h1) → Wc (d + 2000) 211 [vR (some 116), vI (r : Nat), vI (N : Nat)] h1 Q := by
          intro d h1 Q S1 mr k1 k2
          refine se_X4_walk S1 (pu_mIsRoutine S1 ?_)
          refine ss_X4_walk_4 S1 ?_
          rw [rg_t ha]
          refine im (by decide) (pu_in S1 ?_)
          refine ss_X4_walk_15 S1 ?_
          rw [rg_t hb, Int.toNat_natCast, mr.1, mr.2.1]
          refine im (by decide) ⟨by omega, im (by decide) ⟨by omega, ?_⟩⟩
          cases hz2 : zord t with
          | true => exact im (by decide) (k2 hz2)
          | false => exact ip rfl (k1 hz2)
        cases hz2 : zord t with
        | false =>
          refine pair_eq (vI (-2)) hS x m g u (fun d Q k => x36 d Q ?_) (fun d Q k => m46 d h Q hS ⟨mr1, mr2, mr3, mr4, mr5⟩ (fun _ => k) (fun z => by rw [hz2] at z; cases z))
          rw [hz2]
          exact ss_X0_walk_36 hS (ip rfl k)
        | true =>
          have un' : zun true t := by rw [hz2] at un; exact un
          obtain ⟨v, ev⟩ : ∃ v, v = wk N t true σ 0 := ⟨_, rfl⟩
          have wok := (wk_ok N t).1 ok un' σ 0 (Nat.zero_le _)
          dsimp only at wok
          rw [← ev] at wok
          obtain ⟨x1, ⟨ρ, x2⟩, x3, x4, x5, x6, x7, x8, x9⟩ := id x
          dsimp only at x2
          refine pair_of (s := (R, σ, K, w, T, F, O, L)) (vI (if v.1 = 0 then ((v.2.2 : Nat) : Int) else wv v.1)) (R, v.2.1, K, w, T, F, O, L) True hS m u (fun d Q k => x36 d Q ?_) (fun d h1 Q S1 M1 X1 _ k => ?_)
          · rw [hz2]
            refine ss_X0_walk_36 hS (im (by decide) ?_)
            rw [ofR_some]
            refine ⟨by rw [z1]; simp, ?_⟩
            rw [a3, ofR_some]
            obtain ⟨h0, e0⟩ : ∃ h0, h0 = sI (sI h 68 31 0) 68 32 (N : Nat) := ⟨_, rfl⟩
            have F0 : FX pWl h h0 := by rw [e0]; exact FX_sI (FX_sI (FX_refl hS) (Or.inl (by unfold pWl; omega)) (by decide)) (Or.inl (by unfold pWl; omega)) (by decide)
            have S0 : St h0 := F0.2.2.1
            have n0 : hN h0 = hN h := by rw [e0]; rfl
            have u0 : hU h0 = hU h := by rw [e0]; rfl
            have X0 : Xw h0 ρ N σ 0 := by
              rw [e0]
              exact ⟨XZ_sI (XZ_sI x2), XFr_sI (by decide) (XFr_sI (by decide) x3), by rw [hI_sI, if_neg (by omega), hI_sI, if_pos ⟨rfl, rfl⟩]; rfl, by rw [hI_sI, if_pos ⟨rfl, rfl⟩]⟩
            have P0 := Pt_p a1 a2 F0 (fun c j hc => by unfold pWl; omega) a5 a6
            rw [← e0]
            refine ip (by rw [a5.2.2.1]) ?_
            have fin : ∀ h' v', FWk h0 h' → Xw h' ρ N v.2.1 v.2.2 → v' = (if v.1 = 0 then ((v.2.2 : Nat) : Int) else wv v.1) → Q (.inl (some (vI v'))) h' := by
              intro h' v' F1 X1 e'
              rw [e']
              have F2 : FX pWl h h' := FX_trans F0 (FX_mono F1.1 (fun c j _ z => by unfold pWk at z; unfold pWl; omega))
              exact k h' (FX_mono F2 (fun c j _ z => by unfold pWl at z; unfold xpl; omega)) (by rw [F1.2.2, u0]; omega) ⟨Xc1_p F2 hS (fun j => by unfold pWl; omega) (fun c j c1 _ _ => by unfold pWl; omega) x1, ⟨ρ, X1.1⟩, X1.2.1, XRu_p F2 hS (fun c j hc => by unfold pWl; omega) x4, Xc5_p F2 hS (by unfold pWl; omega) x5, Tq_p F2 hS (by unfold pWl; omega) (fun j => by unfold pWl; omega) x6, Xc7_p F2 hS (by unfold pWl; omega) (by unfold pWl; omega) x7, Xc8_p F2 hS (by unfold pWl; omega) (fun j => by unfold pWl; omega) x8, Xc9_p F2 hS (by unfold pWl; omega) x9⟩ trivial
            refine x_part ((x_walks (L := N) (lo := lo) (hi := hi) a1 hN4 t).1 ok) un' S0 (by omega) X0 (Nat.zero_le _) P0.1 P0.2 (by omega) ?_
            rw [← ev]
            refine ⟨fun y h' F1 X1 => ?_, fun y h' F1 X1 => ?_⟩
            · refine ss_X0_walk_60 (FWk_St F1) ?_
              rw [X1.2.2.1]
              exact fin h' _ F1 X1 (by rw [if_pos y])
            · have S1 := FWk_St F1
              have t2 := rf_t S1 wok.2.2.1
              refine ⟨by rw [t2]; simp, ip (by rw [t2]) ?_⟩
              refine ss_X0_walk_63 S1 ?_
              rw [ofR_some, t2, S1.2.2.2.2 v.1 wok.2.2.1]
              refine ⟨by simp, ?_⟩
              by_cases q : v.1 = 16
              · refine ip (by omega) ?_
                exact fin h' _ F1 X1 (by rw [if_neg y]; unfold wv; rw [if_pos q])
              · refine im (by omega) ?_
                rw [ofR_some, t2, S1.2.2.2.2 v.1 wok.2.2.1]
                refine ⟨by simp, ?_⟩
                exact fin h' _ F1 X1 (by rw [if_neg y]; unfold wv; rw [if_neg q])
          · obtain ⟨m1, m2, m4, m5, m6, m7, m8, m9⟩ := id M1
            have MI := m1 r hr
            dsimp only at MI m2
            rw [hR0] at MI
            have fin : ∀ h' v', FMd h1 h' → MV h' v.2.1 → v' = (if v.1 = 0 then ((v.2.2 : Nat) : Int) else wv v.1) → Q (.inl (some (vI v'))) h' := by
              intro h' v' F1 V1 e'
              rw [e']
              refine k h' (FX_mono F1.1 (fun c j _ z => by unfold pMd at z; unfold mpl; omega)) F1.2.2 ⟨Mc1_p F1.1 S1 (fun c j hc => by unfold pMd; omega) m1, V1, MRu_p F1.1 S1 (fun c j hc => by unfold pMd; omega) m4, Mc5_p F1.1 S1 (by unfold pMd; omega) m5, Mq_p F1.1 S1 (by unfold pMd; omega) (fun j => by unfold pMd; omega) m6, Mc7_p F1.1 S1 (by unfold pMd; omega) (by unfold pMd; omega) m7, Mc8_p F1.1 S1 (by unfold pMd; omega) (fun j => by unfold pMd; omega) m8, Mc9_p F1.1 S1 (by unfold pMd; omega) m9⟩ ⟨g.1, wok.2.2.2 g.2.1, g.2.2⟩
            refine m46 d h1 Q S1 MI (fun z => by rw [hz2] at z; cases z) (fun _ => ?_)
            obtain ⟨mr1, mr2, mr3, mr4, mr5⟩ := MI
            refine (m_walks (L := N) (N := zc t) hr hz hN4 t).1 ok un' (d + 1999) h1 σ 0 0 0 [] [] (t, 0, 0) _ _ _ _ _ Q S1 mr4 m2 (Nat.zero_le _) mr5 (by simpa using mr3) rfl (by omega) (by omega) ?_
            rw [← ev, Nat.zero_add]
            refine ⟨fun y h' w5 w6 w7 w8 w9 F1 V1 => ?_, fun y h' F1 V1 => fin h' _ F1 V1 (by rw [if_neg y])⟩
            refine ss_X4_walk_46 (FMd_St F1) ⟨by omega, ?_⟩
            rw [Int.toNat_natCast, FMk F1 S1 (by decide) (by decide), mr4]
            exact im (by omega) (fin h' _ F1 V1 (by rw [if_pos y]))
    · refine pair_eq (vI (-1)) hS x m g u (fun d Q k => ?_) (fun d Q k => ?_)
      · refine se_X0_walk hS (pu_isRoutine hS ?_)
        refine ss_X0_walk_4 hS ?_
        rw [rg_t ha]
        refine im (by decide) (pu_isIn hS ?_)
        refine ss_X0_walk_16 hS ?_
        rw [rg_f hb]
        exact ip rfl k
      · refine se_X4_walk hS (pu_mIsRoutine hS ?_)
        refine ss_X4_walk_4 hS ?_
        rw [rg_t ha]
        refine im (by decide) (pu_in hS ?_)
        refine ss_X4_walk_15 hS ?_
        rw [rg_f hb]
        exact ip rfl k
  · refine pair_eq (vI (-1)) hS x m g u (fun d Q k => ?_) (fun d Q k => ?_)
    · refine se_X0_walk hS (pu_isRoutine hS ?_)
      refine ss_X0_walk_4 hS ?_
      rw [rg_f ha]
      exact ip rfl k
    · refine se_X4_walk hS (pu_mIsRoutine hS ?_)
      refine ss_X4_walk_4 hS ?_
      rw [rg_f ha]
      exact ip rfl k
