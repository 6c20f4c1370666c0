/-! a routine is put in, mirror -/
theorem Fw_FX {n : Nat} {h h' : hp} (a : Fw n h h') (p : Nat → Nat → Prop) : FX p h h' :=
  ⟨a.1, a.2.1, a.2.2.2.1, fun c hc => ⟨(a.2.2.2.2 c hc).1, fun j => Or.inr ⟨(a.2.2.2.2 c hc).2.1 j, (a.2.2.2.2 c hc).2.2.1 j, (a.2.2.2.2 c hc).2.2.2 j⟩⟩⟩
theorem kX {d n b p : Nat} {Q : qt} {h h1 : hp} {R : Nat → Option zT} {σ : zS} {K : Option zK} {w : Int} {T : List Int} {F : Int × Int} {O : List Int} {L : Int} {t : zT} {ys : List Nat} (hS : St h) (x : IX h (R, σ, K, w, T, F, O, L)) (F1 : Fw n h h1) (hb : b < 10) (g : Gt t) (rp : RPt h1 145 (hN h1) p ys) (rt : RT h1 145 (hN h1) t ys) (hun : n ≤ 90000) (hu : hU h + 100000 ≤ BUD) (k : ∀ h', FX xpl h h' → hU h' ≤ hU h + 100000 → IX h' (rP R b (some t), σ, none, w, T, F, O, L) → Q (.inl (some (vI (zc t : Nat)))) h') : Wc (d + 70) 38 [vR (some 68), vR (some p), vI (b : Nat)] h1 Q := by
  obtain ⟨ok, un, c40, b5, -, -, -⟩ := g
  have un' : zun false t ∨ zun true t := by cases e : zord t with
    | false => rw [e] at un; exact Or.inl un
    | true => rw [e] at un; exact Or.inr un
  have u1 := F1.2.2.1
  refine c_keep F1.2.2.2.1 hb (Nat.le_refl _) (Nat.le_refl _) ok un' c40 b5 rp rt (by omega) (fun h' o xr e72 e19 u2 F2 => ?_)
  obtain ⟨x1, x2, x3, x4, x5, x6, x7, x8, x9⟩ := id x
  have F5 : FX (pKp b) h h' := FX_trans (Fw_FX F1 _) F2
  have np : ∀ c j, ¬ (c = 1 ∨ (c = 68 ∧ j = 19) ∨ (c = 72 ∧ j = b)) → ¬ pKp b c j := fun c j z y => z y
  refine k h' (FX_mono F5 (fun c j _ z => by unfold pKp at z; unfold xpl; omega)) (by omega) ⟨Xc1_r F5 hS (fun j hj hne => np _ _ (by omega)) (fun c j c1 _ _ => np _ _ (by omega)) x1 ⟨o, e72, xr⟩, Xc2_p F5 hS (fun c j hc => np c j (by omega)) (fun c j c1 _ _ _ => np c j (by omega)) x2, XFr_p F5 hS (np _ _ (by omega)) (np _ _ (by omega)) x3, e19, Xc5_p F5 hS (np _ _ (by omega)) x5, Tq_p F5 hS (np _ _ (by omega)) (fun j => np _ _ (by omega)) x6, Xc7_p F5 hS (np _ _ (by omega)) (np _ _ (by omega)) x7, Xc8_p F5 hS (np _ _ (by omega)) (fun j => np _ _ (by omega)) x8, Xc9_p F5 hS (np _ _ (by omega)) x9⟩
theorem kM {d b : Nat} {Q : qt} {h1 h2 : hp} {R : Nat → Option zT} {σ : zS} {K : Option zK} {w : Int} {T : List Int} {F : Int × Int} {O : List Int} {L : Int} {t : zT} (S1 : St h1) (m : IM h1 (R, σ, K, w, T, F, O, L)) (g : Gd (R, σ, K, w, T, F, O, L)) (F1 : FEm h1 h2) (N : Nt h2 (zk t)) (gt : Gt t) (zo : zord t = false) (hb : b < 10) (k : ∀ h3, FX mpl h1 h3 → hU h3 = hU h1 → IM h3 (rP R b (some t), σ, none, w, T, F, O, L) → Gd (rP R b (some t), σ, none, w, T, F, O, L) → Q (.inl (some (vI (zc t : Nat)))) h3) : Wc (d + 40) 137 [vR (some 116), vI (b : Nat), vI 0] h2 Q := by
  obtain ⟨m1, m2, m4, m5, m6, m7, m8, m9⟩ := id m
  obtain ⟨ok, un, c40, b5, l16, -, -⟩ := id gt
  refine c_becomes (FEm_St F1 S1) hb N l16 ok c40 b5 (Or.inl rfl) (fun h' f2 mr e54 => ?_)
  have pB : ∀ c j, ¬ ((c = 116 ∧ (j = 11 ∨ j = 54)) ∨ (119 ≤ c ∧ c ≤ 133)) → ∀ (p : Nat → Nat → Prop), (∀ c j, p c j → (c = 116 ∧ (j = 11 ∨ j = 54)) ∨ (119 ≤ c ∧ c ≤ 133)) → ¬ p c j := fun c j z p hp y => z (hp c j y)
  have F7 : FX (fun c j => (c = 116 ∧ j = 11) ∨ c = 119 ∨ c = 120) h1 h2 := FX_mono (FX_FI F1 S1 rfl) (fun c j _ z => by unfold pG at z; simp at z; omega)
  have F6 : FX (fun c j => (c = 116 ∧ (j = 11 ∨ j = 54)) ∨ (119 ≤ c ∧ c ≤ 133)) h1 h' := by
    refine FX_trans (FX_mono F7 (fun c j _ z => by omega)) (FX_mono (FX_FI f2.1 (FEm_St F1 S1) rfl) (fun c j _ z => ?_))
    unfold pG at z
    simp at z
    omega
  have u6 : hU h' = hU h1 := by rw [f2.1.2.1, F1.2.1]
  have mr' : MR h' b t (bI (zord t)) := by rw [zo]; exact mr
  refine k h' (FX_mono F6 (fun c j _ z => by unfold mpl; omega)) u6 ⟨Mc1_r m1 (fun q hq hne z => ?_) mr', MV_p2 F6 S1 (fun c j hc => by omega) m2, e54, Mc5_p F6 S1 (by omega) m5, Mq_p F6 S1 (by omega) (fun j => by omega) m6, Mc7_p F6 S1 (by omega) (by omega) m7, Mc8_p F6 S1 (by omega) (fun j => by omega) m8, Mc9_p F6 S1 (by omega) m9⟩ ⟨Gd_1 g.1 (fun t' e => by cases e; exact gt), g.2.1, trivial, g.2.2.2⟩
  have gq := g.1 q
  have ee : ∀ c j, 121 ≤ c ∧ c ≤ 133 → hI h2 c j = hI h1 c j := fun c j hc => F68 F7 S1 (by omega) (by omega)
  cases y : R q with
  | none =>
    rw [y] at z
    exact ((f2.2.1 q hne).1.trans (ee 121 q (by omega))).trans z
  | some t2 =>
    rw [y] at z
    obtain ⟨b1, b2, b3, b4, b5⟩ := z
    have gt2 := gq t2 hq y
    refine MR_Fb f2 hne gt2.2.2.1 gt2.1 ?_
    exact ⟨(ee 121 q (by omega)).trans b1, (ee 122 q (by omega)).trans b2, RK_eq (fun j => ee 123 j (by omega)) (fun j => ee 124 j (by omega)) (fun j => ee 125 j (by omega)) b3, (ee 126 q (by omega)).trans b4, MEs_eq (fun i _ c c1 c2 => ee c _ (by omega)) b5⟩
theorem PX_RT {lo hi : Nat} {h h' : hp} {t : zT} {p : Nat} {ys : List Nat} (hl : 145 ≤ lo) (hS : St h) (hh : hi ≤ hN h) (hn : hN h ≤ hN h') (rp : RPtp h' (PX lo hi h h') p ys) (rt : RTp h' (PX lo hi h h') t ys) : RPt h' 145 (hN h') p ys ∧ RT h' 145 (hN h') t ys := by
  have h145 := hS.1
  have f : ∀ c, PX lo hi h h' c → (145 ≤ c ∧ c < hN h') ∧ sm h' h' c := fun c hc => ⟨by rcases hc with z | z <;> omega, sm_refl _ _⟩
  exact ⟨RPt_iff.2 (RPtp_eq (Nat.le_refl _) f (RTp_P rt) rp), RT_iff.2 (RTp_eq (Nat.le_refl _) f rt)⟩
theorem lackV_some {R : Nat → Option zT} {a : Int} (hl : ¬ lackV R a < 0) : ∃ (r : Nat) (t : zT), a = (r : Nat) ∧ r < 10 ∧ R r = some t ∧ lackV R a = 0 := by
  unfold lackV at hl ⊢
  by_cases ha : 0 ≤ a ∧ a ≤ 9
  · rw [if_pos ha] at hl ⊢
    cases y : R a.toNat with
    | none => rw [y] at hl; exact absurd (by decide) hl
    | some t => exact ⟨a.toNat, t, by omega, by omega, y, rfl⟩
  · rw [if_neg ha] at hl; exact absurd (by decide) hl
theorem op_mirror {n : Nat} {h : hp} {a b : Int} (I : IN n h) (hn : n < 64) : Pair 56 154 [vR (some 68), vI a, vI b] [vR (some 116), vI a, vI b] n h := by
  obtain ⟨⟨R, σ, K, w, T, F, O, L⟩, hS, x, m, g, u⟩ := I
  have rI : RIs h R := RIs_of x.1 m.1 g.1
  have hbu : hU h + 100000 ≤ BUD := by unfold BUD; omega
  by_cases hb : 0 ≤ b ∧ b ≤ 9
  · have x16 : ∀ (d : Nat) (Q : qt), Wp (d + 1999) C_X0_mirror Q 16 [vR (some 68), vI a, vI b, vU, vU] [vI (lackV R a)] h → Wc (d + 2000) 56 [vR (some 68), vI a, vI b] h Q := by
      intro d Q k
      refine se_X0_mirror hS (pu_isRoutine hS ?_)
      refine ss_X0_mirror_4 hS ?_
      rw [rg_t hb]
      exact im (by decide) (c_lacks hS rI k)
    by_cases hl : lackV R a < 0
    · refine pair_eq (vI (lackV R a)) hS x m g u (fun d Q k => x16 d Q (ss_X0_mirror_16 hS (ip hl k))) (fun d Q k => ?_)
      refine se_X4_mirror hS (pu_mIsRoutine hS ?_)
      refine ss_X4_mirror_4 hS ?_
      by_cases ha : 0 ≤ a ∧ a ≤ 9
      · obtain ⟨r, rfl⟩ : ∃ r : Nat, a = (r : Nat) := ⟨a.toNat, by omega⟩
        have hr : r < 10 := by omega
        have rIr := rI r hr
        unfold lackV at k hl
        rw [if_pos ha, Int.toNat_natCast] at k hl
        cases hR0 : R r with
        | some t => rw [hR0] at hl; exact absurd (show (0 : Int) < 0 from hl) (by decide)
        | none =>
          rw [hR0] at k rIr
          rw [rg_t ha]
          refine im (by decide) (pu_mIsRoutine hS ?_)
          refine ss_X4_mirror_11 hS ?_
          rw [rg_t hb]
          refine im (by decide) ⟨by omega, ?_⟩
          rw [Int.toNat_natCast]
          exact ip rIr.2 k
      · unfold lackV at k
        rw [if_neg ha] at k
        rw [rg_f ha]
        exact ip rfl k
    · obtain ⟨r, t, ea, hr, eR, lv⟩ := lackV_some hl
      subst ea
      have ha : 0 ≤ ((r : Nat) : Int) ∧ ((r : Nat) : Int) ≤ 9 := by omega
      have rIr := rI r hr
      rw [eR] at rIr
      have gt := g.1 r t hr eR
      obtain ⟨ok, un, hz, hbr, hlen, ⟨rc, xr1, xr2⟩, -⟩ := rIr
      obtain ⟨r2, rfl⟩ : ∃ r : Nat, b = (r : Nat) := ⟨b.toNat, by omega⟩
      have hr2 : r2 < 10 := by omega
      have x36 : ∀ (d : Nat) (Q : qt), Wp (d + 1999) C_X0_mirror Q 36 [vR (some 68), vI (r : Nat), vI (r2 : Nat), vI 0, vR (some rc)] [vI (bI (zord t))] h → Wc (d + 2000) 56 [vR (some 68), vI (r : Nat), vI (r2 : Nat)] h Q := by
        intro d Q k
        refine x16 d Q ?_
        rw [lv]
        refine ss_X0_mirror_16 hS (im (by decide) ⟨by omega, ?_⟩)
        rw [Int.toNat_natCast, xr1, ofR_some]
        exact ip (by rw [xr2.1]) (c_isOrd hS ok un xr2 k)
      have m11 : ∀ (d : Nat) (h1 : hp) (Q : qt), St h1 → MR h1 r t (bI (zord t)) → (zord t = true → Q (.inl (some (vI (-2)))) h1) → (zord t = false → cV (Wc (d + 1999)) 155 [vR (some 116), vI (r : Nat), vI 0, vI ((zk t).length : Nat)] (sI h1 116 11 0) (fun h2 => Wp (d + 1999) C_X4_mirror Q 54 [vR (some 116), vI (r : Nat), vI (r2 : Nat)] [] h2) (fun e h' => Q (.inr e) h')) → Wc (d + 2000) 154 [vR (some 116), vI (r : Nat), vI (r2 : Nat)] h1 Q := by
        intro d h1 Q S1 mr k1 k2
        refine se_X4_mirror S1 (pu_mIsRoutine S1 ?_)
        refine ss_X4_mirror_4 S1 ?_
        rw [rg_t ha]
        refine im (by decide) (pu_mIsRoutine S1 ?_)
        refine ss_X4_mirror_11 S1 ?_
        rw [rg_t hb, Int.toNat_natCast, mr.1, mr.2.1, mr.2.2.1.2.1]
        refine im (by decide) ⟨by omega, im (by decide) ⟨by omega, ?_⟩⟩
        cases hz2 : zord t with
        | true => exact im (by decide) (k1 hz2)
        | false => exact ip rfl ⟨by omega, k2 hz2⟩
      cases hz2 : zord t with
      | true =>
        have mr := m.1 r hr
        dsimp only at mr
        rw [eR] at mr
        refine pair_eq (vI (-2)) hS x m g u (fun d Q k => x36 d Q ?_) (fun d Q k => m11 d h Q hS mr (fun _ => k) (fun z => by rw [hz2] at z; cases z))
        rw [hz2]
        exact ss_X0_mirror_36 hS (im (by decide) k)
      | false =>
        rw [hz2] at un
        obtain ⟨gm, zo, zcm⟩ := Gt_mi gt hz2
        refine pair_of (s := (R, σ, K, w, T, F, O, L)) (vI (zc (zmi t) : Nat)) (rP R r2 (some (zmi t)), σ, none, w, T, F, O, L) True hS m u (fun d Q k => x36 d Q ?_) (fun d h1 Q S1 M1 X1 _ k => ?_)
        · rw [hz2]
          obtain ⟨q1, q2, q3, lo, hi, p, l, arr, ys, cs, es, a1, a2, a3, a4, a5, a6, -⟩ := xr2
          refine ss_X0_mirror_36 hS (ip rfl ?_)
          rw [ofR_some, a3, ofR_some, q1, a5.2.2.1]
          refine ⟨List.mem_singleton.mpr rfl, ip rfl (x_mirror ok un _ p lo hi h ys _ hS a1 a2 a5 a6 hz (by omega) (by omega) (fun h1 p1 ys1 F1 rp1 rt1 => ?_))⟩
          obtain ⟨rp2, rt2⟩ := PX_RT a1 hS a2 F1.1 rp1 rt1
          exact ss_X0_mirror_53 F1.2.2.2.1 (kX hS x F1 hr2 gm rp2 rt2 (by omega) hbu (fun h' f1 f2 f3 => k h' f1 f2 f3 trivial))
        · have mr := M1.1 r hr
          dsimp only at mr
          rw [eR] at mr
          have S2 : St (sI h1 116 11 0) := St_sI S1 (by decide)
          have F0 : FEm h1 (sI h1 116 11 0) := FI_sI (FI_refl h1) rfl
          have N0 : Nt (sI h1 116 11 0) [] := ⟨by rw [hI_sI, if_pos ⟨rfl, rfl⟩]; rfl, fun j hj => absurd hj (Nat.not_lt_zero _)⟩
          have rk : RK (sI h1 116 11 0) r (zk t) := FEm_RK F0 mr.2.2.1
          refine m11 d h1 Q S1 mr (fun z => by rw [hz2] at z; cases z) (fun _ => ?_)
          have hm := m_mirrors ok un (d + 1999) r 0 (sI h1 116 11 0) (zk t) [] [] []
          rw [Nat.zero_add] at hm
          refine hm _ S2 hr rk (by simp) rfl N0 (by simp; omega) (by omega) (fun h2 F2 N2 => ?_)
          refine ss_X4_mirror_54 (FEm_St F2 S2) ?_
          exact kM S1 M1 g (FI_trans F0 F2) N2 gm zo hr2 k
  · refine pair_eq (vI (-1)) hS x m g u (fun d Q k => ?_) (fun d Q k => ?_)
    · refine se_X0_mirror hS (pu_isRoutine hS ?_)
      refine ss_X0_mirror_4 hS ?_
      rw [rg_f hb]
      exact ip rfl (ss_X0_mirror_16 hS (ip (by decide) k))
    · refine se_X4_mirror hS (pu_mIsRoutine hS ?_)
      refine ss_X4_mirror_4 hS ?_
      by_cases ha : 0 ≤ a ∧ a ≤ 9
      · rw [rg_t ha]
        refine im (by decide) (pu_mIsRoutine hS ?_)
        refine ss_X4_mirror_11 hS ?_
        rw [rg_f hb]
        exact ip rfl k
      · rw [rg_f ha]
        exact ip rfl k
