/-! begin, give, drop, read, walk -/
def pBg (a j : Nat) : Prop := a = 68 ∧ 19 ≤ j ∧ j ≤ 24 ∧ j ≠ 23
theorem RL_bg {h h' : hp} {l arr : Nat} {cs : List Nat} (hS : St h) (a : FX pBg h h') (hl : 145 ≤ l ∧ l < hN h) (hy : ∀ y ∈ cs, 145 ≤ y) (z : RL h l cs arr) : RL h' l cs arr := by
  have ha := RL_arr hS z
  refine RL_sm hS a.1 (fun c hc => ?_) z
  rcases hc with e | e | e
  · exact FX_sm a (by omega) (fun j => by unfold pBg; omega)
  · refine FX_sm a (by omega) (fun j => ?_)
    have hq : arr = 1 ∨ 145 ≤ arr := by
      rcases z.2.2.2.2.2 with y | y
      · exact Or.inl y.1
      · exact Or.inr y.1
    unfold pBg; omega
  · exact FX_sm a (z.2.2.2.1 c e).1 (fun j => by have := hy c e; unfold pBg; omega)
theorem op_begin {n : Nat} {h : hp} {a : Int} {b : Bool} (I : IN n h) : Pair 74 175 [vR (some 68), vI a, vI (bI b)] [vR (some 116), vI a, vI (bI b)] n h := by
  obtain ⟨⟨R, σ, K, w, T, F, O, L⟩, hS, x, m, g, u⟩ := I
  have rI : RIs h R := RIs_of x.1 m.1 g.1
  by_cases ha : 0 ≤ a ∧ a ≤ 9
  · obtain ⟨r, rfl⟩ : ∃ r : Nat, a = (r : Nat) := ⟨a.toNat, by omega⟩
    have hr : r < 10 := by omega
    have rIr := rI r hr
    cases hR0 : R r with
    | none =>
      rw [hR0] at rIr
      have lv : lackV R ((r : Nat) : Int) = -2 := by unfold lackV; rw [if_pos ha, Int.toNat_natCast, hR0]
      refine pair_eq (vI (-2)) hS x m g u (fun d Q k => ?_) (fun d Q k => ?_)
      · refine se_X0_begin hS (c_lacks hS rI ?_)
        refine ss_X0_begin_5 hS ?_
        rw [lv]
        exact ip (by decide) k
      · refine se_X4_begin hS (pu_mIsRoutine hS ?_)
        refine ss_X4_begin_4 hS ?_
        rw [rg_t ha, Int.toNat_natCast]
        exact im (by decide) ⟨by omega, ip rIr.2 (ss_X4_begin_27 hS k)⟩
    | some t =>
      rw [hR0] at rIr
      obtain ⟨ok, un, hz, hbr, hlen, ⟨rc, xr1, xr2⟩, mr1, mr2, mr3, mr4, mr5⟩ := rIr
      have lv : lackV R ((r : Nat) : Int) = 0 := by unfold lackV; rw [if_pos ha, Int.toNat_natCast, hR0]
      cases hz2 : zord t with
      | true =>
        rw [hz2] at mr2
        refine pair_eq (vI (-2)) hS x m g u (fun d Q k => ?_) (fun d Q k => ?_)
        · refine se_X0_begin hS (c_lacks hS rI ?_)
          refine ss_X0_begin_5 hS ?_
          rw [lv, Int.toNat_natCast, xr1, ofR_some]
          refine im (by decide) ⟨by omega, ip (by rw [xr2.1]) ?_⟩
          refine c_isOrd hS ok un xr2 ?_
          rw [hz2]
          refine ss_X0_begin_25 hS (im (by decide) k)
        · refine se_X4_begin hS (pu_mIsRoutine hS ?_)
          refine ss_X4_begin_4 hS ?_
          rw [rg_t ha, Int.toNat_natCast]
          exact im (by decide) ⟨by omega, im (by rw [mr1]; decide) ⟨by omega, im (by rw [mr2]; decide) (ss_X4_begin_27 hS k)⟩⟩
      | false =>
        rw [hz2] at mr2 un
        have xr2' := xr2
        obtain ⟨z1, z2, z3, lo, hi, p, l, arr, ys, cs, es, a1, a2, a3, a4, a5, a6, a7, a8, a9, a10, a11, a12⟩ := xr2
        have lcs : cs.length = zc t := by rw [RC_len a11, a12 un, (zi_len t).1 ok]
        obtain ⟨k', ek⟩ : ∃ k' : zK, k' = (r, (if b = true then zc t else 0), !b, [], 0) := ⟨_, rfl⟩
        have gd : Gd (R, σ, some k', w, T, F, O, L) := by
          refine ⟨g.1, g.2.1, ?_, g.2.2.2⟩
          rw [ek]
          refine ⟨⟨hr, ⟨t, hR0, hz2, ?_⟩, by simp, trivial⟩, by show s32 0 = 0; decide⟩
          dsimp only
          split <;> omega
        refine pair_of (s := (R, σ, K, w, T, F, O, L)) (vI (zc t : Nat)) (R, σ, some k', w, T, F, O, L) True hS m u (fun d Q k => ?_) (fun d h1 Q S1 M1 X1 _ k => ?_)
        · refine se_X0_begin hS (c_lacks hS rI ?_)
          refine ss_X0_begin_5 hS ?_
          rw [lv, Int.toNat_natCast, xr1, ofR_some]
          refine im (by decide) ⟨by omega, ip (by rw [z1]) ?_⟩
          refine c_isOrd hS ok (by rw [hz2]; exact un) xr2' ?_
          rw [hz2]
          have fin : ∀ (h5 : hp), FX pBg h h5 → hN h5 = hN h → hU h5 = hU h → hI h5 68 19 = (r : Nat) → hI h5 68 20 = ((if b = true then zc t else 0 : Nat) : Int) → hI h5 68 21 = sg (!b) → hI h5 68 22 = 0 → hI h5 68 24 = 0 → Wc (d + 1999) 405 [vR (some l)] h5 (fun o h' => match o with
              | .inl (some (.inl x4)) => Q (.inl (some (vI x4))) h'
              | .inr e => Q (.inr e) h'
              | _ => False) := by
            intro h5 F5 N5 U5 e19 e20 e21 e22 e24
            have S5 : St h5 := F5.2.2.1
            refine c_size S5 (RL_bg hS F5 ⟨a7, a8⟩ a10 a9) ?_
            rw [lcs]
            obtain ⟨x1, x2, x3, x4, x5, x6, x7, x8, x9⟩ := id x
            refine k h5 (FX_mono F5 (fun c j _ z => by unfold pBg at z; unfold xpl; omega)) (by omega) ⟨Xc1_p F5 hS (fun j => by unfold pBg; omega) (fun c j c1 _ _ => by unfold pBg; omega) x1, Xc2_p F5 hS (fun c j hc => by unfold pBg; omega) (fun c j c1 _ _ _ => by unfold pBg; omega) x2, XFr_p F5 hS (by unfold pBg; omega) (by unfold pBg; omega) x3, ?_, Xc5_p F5 hS (by unfold pBg; omega) x5, Tq_p F5 hS (by unfold pBg; omega) (fun j => by unfold pBg; omega) x6, Xc7_p F5 hS (by unfold pBg; omega) (by unfold pBg; omega) x7, Xc8_p F5 hS (by unfold pBg; omega) (fun j => by unfold pBg; omega) x8, Xc9_p F5 hS (by unfold pBg; omega) x9⟩ trivial
            rw [ek]
            exact ⟨⟨e19, e20, e21, e24, trivial⟩, e22⟩
          have tl : ∀ {h5 : hp}, FX pBg h h5 → (hT h5 l).1 = 44 := fun F5 => by rw [(FX_sm F5 a8 (fun j => by unfold pBg; omega)).1, a9.1]
          have tr : ∀ {h5 : hp}, FX pBg h h5 → hT h5 rc = (33, 0) ∧ hR h5 rc 1 = some l := fun F5 => by
            have s := FX_sm F5 z3 (fun j => by unfold pBg; omega)
            exact ⟨s.1.trans z1, (s.2.2.2 1).trans a4⟩
          refine ss_X0_begin_25 hS (ip rfl ?_)
          cases b with
          | false =>
            refine ip rfl (ip rfl ?_)
            rw [ofR_some]
            refine ⟨by rw [z1]; simp, ?_⟩
            rw [a4, ofR_some]
            have FF : FX pBg h (sI (sI (sI (sI (sI h 68 19 (r : Nat)) 68 20 0) 68 21 1) 68 22 0) 68 24 0) := FX_sI (FX_sI (FX_sI (FX_sI (FX_sI (FX_refl hS) (Or.inl (by unfold pBg; omega)) (by omega)) (Or.inl (by unfold pBg; omega)) (by omega)) (Or.inl (by unfold pBg; omega)) (by omega)) (Or.inl (by unfold pBg; omega)) (by omega)) (Or.inl (by unfold pBg; omega)) (by omega)
            refine ip (by rw [a9.1]) ?_
            exact fin _ FF rfl rfl (by simp [hI_sI]) (by simp [hI_sI]) (by simp [hI_sI, sg]) (by simp [hI_sI]) (by simp [hI_sI])
          | true =>
            refine im (by decide) ?_
            rw [ofR_some]
            refine ⟨by rw [z1]; simp, ?_⟩
            rw [a4, ofR_some]
            have F1 : FX pBg h (sI h 68 19 (r : Nat)) := FX_sI (FX_refl hS) (Or.inl (by unfold pBg; omega)) (by omega)
            refine ip (by rw [a9.1]) ?_
            refine c_size F1.2.2.1 (RL_bg hS F1 ⟨a7, a8⟩ a10 a9) ?_
            rw [lcs]
            refine ss_X0_begin_51 F1.2.2.1 (im (by decide) ?_)
            obtain ⟨t1, t2⟩ := tr F1
            rw [ofR_some]
            refine ⟨by rw [t1]; simp, ?_⟩
            rw [t2, ofR_some]
            have FF : FX pBg h (sI (sI (sI (sI (sI h 68 19 (r : Nat)) 68 20 (zc t : Nat)) 68 21 (-1)) 68 22 0) 68 24 0) := FX_sI (FX_sI (FX_sI (FX_sI F1 (Or.inl (by unfold pBg; omega)) (by omega)) (Or.inl (by unfold pBg; omega)) (by omega)) (Or.inl (by unfold pBg; omega)) (by omega)) (Or.inl (by unfold pBg; omega)) (by omega)
            refine ip (tl F1) ?_
            exact fin _ FF rfl rfl (by simp [hI_sI]) (by simp [hI_sI]) (by simp [hI_sI, sg]) (by simp [hI_sI]) (by simp [hI_sI])
        · have MI := M1.1 r hr
          dsimp only at MI
          rw [hR0] at MI
          obtain ⟨mr1, mr2, mr3, mr4, mr5⟩ := MI
          rw [hz2] at mr2
          have fin : ∀ (h5 : hp), h5 = sI (sI (sI (sI (sI (sI h1 116 54 1) 116 55 (r : Nat)) 116 56 ((if b = true then zc t else 0 : Nat) : Int)) 116 57 (sg (!b))) 116 59 0) 116 58 0 → Q (.inl (some (vI (zc t : Nat)))) h5 := by
            intro h5 e5
            have F5 : FX (fun a j => a = 116 ∧ 54 ≤ j ∧ j ≤ 59) h1 h5 := by
              rw [e5]
              exact FX_sI (FX_sI (FX_sI (FX_sI (FX_sI (FX_sI (FX_refl S1) (Or.inl (by decide)) (by decide)) (Or.inl (by decide)) (by decide)) (Or.inl (by decide)) (by decide)) (Or.inl (by decide)) (by decide)) (Or.inl (by decide)) (by decide)) (Or.inl (by decide)) (by decide)
            obtain ⟨m1, m2, m4, m5, m6, m7, m8, m9⟩ := id M1
            refine k h5 (FX_mono F5 (fun c j _ z => by unfold mpl; omega)) (by rw [e5]; rfl) ⟨Mc1_p F5 S1 (fun c j hc => by omega) m1, MV_p2 F5 S1 (fun c j hc => by omega) m2, ?_, Mc5_p F5 S1 (by omega) m5, Mq_p F5 S1 (by omega) (fun j => by omega) m6, Mc7_p F5 S1 (by omega) (by omega) m7, Mc8_p F5 S1 (by omega) (fun j => by omega) m8, Mc9_p F5 S1 (by omega) m9⟩ gd
            rw [ek, e5]
            refine ⟨?_, ⟨?_, ?_, ?_, ?_, trivial⟩, ?_⟩ <;> simp [hI_sI]
          refine se_X4_begin S1 (pu_mIsRoutine S1 ?_)
          refine ss_X4_begin_4 S1 ?_
          rw [rg_t ha, Int.toNat_natCast]
          have S2 : St (sI (sI h1 116 54 1) 116 55 (r : Nat)) := St_sI (St_sI S1 (by decide)) (by decide)
          refine im (by decide) ⟨by omega, im (by rw [mr1]; decide) ⟨by omega, ip (by rw [mr2]; rfl) ?_⟩⟩
          cases b with
          | false =>
            refine ip rfl ?_
            refine ss_X4_begin_55 S2 (ip rfl ?_)
            have S3 : St (sI (sI (sI h1 116 54 1) 116 55 (r : Nat)) 116 56 0) := St_sI S2 (by decide)
            refine ss_X4_begin_68 S3 ⟨by omega, ?_⟩
            rw [Int.toNat_natCast, hI_sI, if_neg (by omega), hI_sI, if_neg (by omega), hI_sI, if_neg (by omega), mr4]
            exact fin _ rfl
          | true =>
            refine im (by decide) ⟨by omega, ?_⟩
            rw [mr4]
            refine ss_X4_begin_55 S2 (im (by decide) ?_)
            have S3 : St (sI (sI (sI h1 116 54 1) 116 55 (r : Nat)) 116 56 (zc t : Nat)) := St_sI S2 (by decide)
            refine ss_X4_begin_68 S3 ⟨by omega, ?_⟩
            rw [Int.toNat_natCast, hI_sI, if_neg (by omega), hI_sI, if_neg (by omega), hI_sI, if_neg (by omega), mr4]
            exact fin _ rfl
  · have lv : lackV R a = -1 := by unfold lackV; rw [if_neg ha]
    refine pair_eq (vI (-1)) hS x m g u (fun d Q k => ?_) (fun d Q k => ?_)
    · refine se_X0_begin hS (c_lacks hS rI ?_)
      refine ss_X0_begin_5 hS ?_
      rw [lv]
      exact ip (by decide) k
    · refine se_X4_begin hS (pu_mIsRoutine hS ?_)
      refine ss_X4_begin_4 hS ?_
      rw [rg_f ha]
      exact ip rfl k
theorem op_give {n : Nat} {h : hp} {a b : Int} (hb : s32 b = b) (I : IN n h) : Pair 65 213 [vR (some 68), vI a, vI b] [vR (some 116), vI a, vI b] n h := by
  obtain ⟨⟨R, σ, K, w, T, F, O, L⟩, hS, x, m, g, u⟩ := I
  obtain ⟨x1, ⟨ρ, x2⟩, x3, x4, x5, x6, x7, x8, x9⟩ := id x
  dsimp only at x2
  by_cases ha : 0 ≤ a ∧ a ≤ 25
  · obtain ⟨r, rfl⟩ : ∃ r : Nat, a = (r : Nat) := ⟨a.toNat, by omega⟩
    have hr : r < 26 := by omega
    obtain ⟨e1, e2, -⟩ := x2.1.1 r hr
    have gd : Gd (R, su (su σ 0 r 1) 1 r b, K, w, T, F, O, L) := ⟨g.1, Zk_1 hb (Zk_o (Or.inl rfl) g.2.1), g.2.2⟩
    refine pair_of (s := (R, σ, K, w, T, F, O, L)) (vI (σ 0 r)) (R, su (su σ 0 r 1) 1 r b, K, w, T, F, O, L) True hS m u (fun d Q k => ?_) (fun d h1 Q S1 M1 X1 _ k => ?_)
    · refine se_X0_give hS (pu_isName hS ?_)
      refine ss_X0_give_4 hS ?_
      rw [rg_t ha, Int.toNat_natCast, e1, show n_i2z 1 = 1 by decide]
      have F5 : FX (fun a j => a = 73 ∨ a = 74) h (sI (sI h 73 r 1) 74 r b) := FX_sI (FX_sI (FX_refl hS) (Or.inl (Or.inl rfl)) (by decide)) (Or.inl (Or.inr rfl)) (by decide)
      have fin : Q (.inl (some (vI (σ 0 r)))) (sI (sI h 73 r 1) 74 r b) := k _ (FX_mono F5 (fun c j _ z => by unfold xpl; omega)) (by show hU h ≤ _; omega) ⟨Xc1_p F5 hS (fun j => by omega) (fun c j c1 _ _ => by omega) x1, ⟨ρ, XZ_nv x2 (Or.inr rfl)⟩, XFr_p F5 hS (by omega) (by omega) x3, XRu_p F5 hS (fun c j hc => by omega) x4, Xc5_p F5 hS (by omega) x5, Tq_p F5 hS (by omega) (fun j => by omega) x6, Xc7_p F5 hS (by omega) (by omega) x7, Xc8_p F5 hS (by omega) (fun j => by omega) x8, Xc9_p F5 hS (by omega) x9⟩ trivial
      refine im (by decide) ⟨by omega, ?_⟩
      rcases e2 with e | e <;> rw [e] at fin ⊢
      · exact ip rfl ⟨by omega, by omega, fin⟩
      · exact im (by decide) ⟨by omega, by omega, fin⟩
    · obtain ⟨m1, m2, m4, m5, m6, m7, m8, m9⟩ := id M1
      dsimp only at m2
      refine se_X4_give S1 (pu_in S1 ?_)
      refine ss_X4_give_7 S1 ?_
      rw [rg_t ha, Int.toNat_natCast, MV_bit m2 hr, shl1 r (by omega)]
      refine im (by decide) ⟨by omega, ?_⟩
      obtain ⟨⟨th, a1, a2, a3⟩, -⟩ := id m2
      have p26 : 2 ^ r < 2 ^ 26 := Nat.pow_lt_pow_right (by decide) hr
      rw [a2, or_nat (by omega) (by omega)]
      have F5 : FX (fun a j => (a = 116 ∧ j = 35) ∨ a = 134) h1 (sI (sI h1 116 35 ((th ||| 2 ^ r : Nat) : Int)) 134 r b) := FX_sI (FX_sI (FX_refl S1) (Or.inl (Or.inl ⟨rfl, rfl⟩)) (by decide)) (Or.inl (Or.inr rfl)) (by decide)
      refine k _ (FX_mono F5 (fun c j _ z => by unfold mpl; omega)) rfl ⟨Mc1_p F5 S1 (fun c j hc => by omega) m1, MV_nv (t := true) m2 (Nat.or_lt_two_pow a1 p26) (fun j hj => ?_) (fun _ => rfl), MRu_p F5 S1 (fun c j hc => by omega) m4, Mc5_p F5 S1 (by omega) m5, Mq_p F5 S1 (by omega) (fun j => by omega) m6, Mc7_p F5 S1 (by omega) (by omega) m7, Mc8_p F5 S1 (by omega) (fun j => by omega) m8, Mc9_p F5 S1 (by omega) m9⟩ gd
      rw [Nat.testBit_or, Nat.testBit_two_pow]
      by_cases ej : j = r
      · rw [if_pos ej, decide_eq_true ej.symm, Bool.or_true]
      · rw [if_neg ej, decide_eq_false (fun z => ej z.symm), Bool.or_false, a3 j hj]
  · refine pair_eq (vI (-1)) hS x m g u (fun d Q k => ?_) (fun d Q k => ?_)
    · refine se_X0_give hS (pu_isName hS ?_)
      refine ss_X0_give_4 hS ?_
      rw [rg_f ha]
      exact ip rfl k
    · refine se_X4_give hS (pu_in hS ?_)
      refine ss_X4_give_7 hS ?_
      rw [rg_f ha]
      exact ip rfl k
