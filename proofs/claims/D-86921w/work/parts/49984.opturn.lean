set_option maxRecDepth 10000
/-! turn -/
theorem Nb_lt {t : zT} (ok : okS t 0) : Nb t ↔ zbits t / 2 ^ 20 = 0 := by
  have lt := (zbS_lt t).1 ok
  constructor
  · intro nb
    have : zbits t < 2 ^ 20 := by
      refine Nat.lt_pow_two_of_testBit _ (fun i hi => ?_)
      by_cases c : i < 26
      · exact nb i hi c
      · exact Nat.testBit_lt_two_pow (Nat.lt_of_lt_of_le lt (Nat.pow_le_pow_right (by decide) (by omega)))
    exact Nat.div_eq_of_lt this
  · intro h c c1 c2
    have : zbits t < 2 ^ 20 := by
      have := Nat.div_add_mod (zbits t) (2 ^ 20)
      have h2 := Nat.mod_lt (zbits t) (show 0 < 2 ^ 20 by decide)
      rw [h] at this
      omega
    exact Nat.testBit_lt_two_pow (Nat.lt_of_lt_of_le this (Nat.pow_le_pow_right (by decide) c1))
theorem IX_Fw {n : Nat} {h h1 : hp} {s : zA} (hS : St h) (a : Fw n h h1) (x : IX h s) : IX h1 s := by
  have F5 : FX (fun _ _ => False) h h1 := Fw_FX a _
  obtain ⟨x1, x2, x3, x4, x5, x6, x7, x8, x9⟩ := x
  exact ⟨Xc1_p F5 hS (fun j => id) (fun c j _ _ _ => id) x1, Xc2_p F5 hS (fun c j _ => id) (fun c j _ _ _ _ => id) x2, XFr_p F5 hS id id x3, XRu_p F5 hS (fun c j _ => id) x4, Xc5_p F5 hS id x5, Tq_p F5 hS id (fun j => id) x6, Xc7_p F5 hS id id x7, Xc8_p F5 hS id (fun j => id) x8, Xc9_p F5 hS id x9⟩
theorem mt_scan {d r r2 : Nat} {Q : qt} {h : hp} {t : zT} (hS : St h) (hr : r < 10) (ok : okS t 0) (hK : RK h r (zk t)) (kF : ¬ Nb t → Q (.inl (some (vI (-2)))) h) (kT : Nb t → cI (Wc (d + 10)) 163 [vR (some 116), vI (r : Nat)] h (fun x6 h5 => Wp (d + 10) C_X4_turn Q 76 [vR (some 116), vI (r : Nat), vI (r2 : Nat), vI ((26 : Nat) : Int)] [vI x6] h5) (fun e h' => Q (.inr e) h')) : ∀ (n c : Nat), c + n = 26 → 20 ≤ c → (∀ j, 20 ≤ j → j < c → (zbits t).testBit j = false) → Wp (d + 10) C_X4_turn Q 40 [vR (some 116), vI (r : Nat), vI (r2 : Nat), vI (c : Nat)] [] h := by
  intro n
  induction n with
  | zero =>
    intro c hc h20 hb
    have e : c = 26 := by omega
    subst e
    exact ss_X4_turn_40 hS (im (by decide) (kT (fun j j1 j2 => hb j j1 j2)))
  | succ n ih =>
    intro c hc h20 hb
    refine ss_X4_turn_40 hS (ip (by omega) ⟨by omega, ?_⟩)
    rw [Int.toNat_natCast, hK.2.1]
    refine c_stands (f := 0) (P := []) (A := zk t) (B := []) hS hr hK (by simp) rfl (by omega) ?_
    refine ss_X4_turn_59 hS ?_
    rw [tin_t ok, n1k (by omega)]
    cases q : (zbits t).testBit c with
    | true => exact im (by decide) (kF (fun nb => by rw [nb c h20 (by omega)] at q; cases q))
    | false =>
      refine ip rfl (ih (c + 1) (by omega) (by omega) (fun j j1 j2 => ?_))
      by_cases e : j = c
      · rw [e]; exact q
      · exact hb j j1 (by omega)
theorem op_turn {n : Nat} {h : hp} {a b : Int} (I : IN n h) (hn : n < 64) : Pair 57 161 [vR (some 68), vI a, vI b] [vR (some 116), vI a, vI b] n h := by
  obtain ⟨⟨R, σ, K, w, T, F, O, L⟩, hS, x, m, g, u⟩ := I
  have rI : RIs h R := RIs_of x.1 m.1 g.1
  have hbu : hU h + 100000 ≤ BUD := by unfold BUD; omega
  by_cases hb : 0 ≤ b ∧ b ≤ 9
  · have x16 : ∀ (d : Nat) (Q : qt), Wp (d + 1999) C_X0_turn Q 16 [vR (some 68), vI a, vI b, vU, vU, vU] [vI (lackV R a)] h → Wc (d + 2000) 57 [vR (some 68), vI a, vI b] h Q := by
      intro d Q k
      refine se_X0_turn hS (pu_isRoutine hS ?_)
      refine ss_X0_turn_4 hS ?_
      rw [rg_t hb]
      exact im (by decide) (c_lacks hS rI k)
    by_cases hl : lackV R a < 0
    · refine pair_eq (vI (lackV R a)) hS x m g u (fun d Q k => x16 d Q (ss_X0_turn_16 hS (ip hl k))) (fun d Q k => ?_)
      refine se_X4_turn hS (pu_mIsRoutine hS ?_)
      refine ss_X4_turn_4 hS ?_
      by_cases ha : 0 ≤ a ∧ a ≤ 9
      · obtain ⟨r, rfl⟩ : ∃ r : Nat, a = (r : Nat) := ⟨a.toNat, by omega⟩
        have hr : r < 10 := by omega
        have rIr := rI r hr
        unfold lackV at k hl
        rw [if_pos ha, Int.toNat_natCast] at k hl
        cases hR0 : R r with
        | some t => rw [hR0] at hl; exact absurd (show (0 : Int) < 0 from hl) (by decide)
        | none =>
          rw [hR0] at k rIr
          rw [rg_t ha]
          refine im (by decide) (pu_mIsRoutine hS ?_)
          refine ss_X4_turn_11 hS ?_
          rw [rg_t hb]
          refine im (by decide) ⟨by omega, ?_⟩
          rw [Int.toNat_natCast]
          exact ip rIr.2 k
      · unfold lackV at k
        rw [if_neg ha] at k
        rw [rg_f ha]
        exact ip rfl k
    · obtain ⟨r, t, ea, hr, eR, lv⟩ := lackV_some hl
      subst ea
      have ha : 0 ≤ ((r : Nat) : Int) ∧ ((r : Nat) : Int) ≤ 9 := by omega
      have rIr := rI r hr
      rw [eR] at rIr
      have gt := g.1 r t hr eR
      obtain ⟨ok, un, hz, hbr, hlen, ⟨rc, xr1, xr2⟩, -⟩ := rIr
      obtain ⟨r2, rfl⟩ : ∃ r : Nat, b = (r : Nat) := ⟨b.toNat, by omega⟩
      have hr2 : r2 < 10 := by omega
      have x36 : ∀ (d : Nat) (Q : qt), Wp (d + 1999) C_X0_turn Q 36 [vR (some 68), vI (r : Nat), vI (r2 : Nat), vI 0, vR (some rc), vU] [vI (bI (zord t))] h → Wc (d + 2000) 57 [vR (some 68), vI (r : Nat), vI (r2 : Nat)] h Q := by
        intro d Q k
        refine x16 d Q ?_
        rw [lv]
        refine ss_X0_turn_16 hS (im (by decide) ⟨by omega, ?_⟩)
        rw [Int.toNat_natCast, xr1, ofR_some]
        exact ip (by rw [xr2.1]) (c_isOrd hS ok un xr2 k)
      have m11 : ∀ (d : Nat) (h1 : hp) (Q : qt), St h1 → MR h1 r t (bI (zord t)) → (zord t = false → Q (.inl (some (vI (-2)))) h1) → (zord t = true → Wp (d + 1999) C_X4_turn Q 40 [vR (some 116), vI (r : Nat), vI (r2 : Nat), vI ((20 : Nat) : Int)] [] h1) → Wc (d + 2000) 161 [vR (some 116), vI (r : Nat), vI (r2 : Nat)] h1 Q := by
        intro d h1 Q S1 mr k1 k2
        refine se_X4_turn S1 (pu_mIsRoutine S1 ?_)
        refine ss_X4_turn_4 S1 ?_
        rw [rg_t ha]
        refine im (by decide) (pu_mIsRoutine S1 ?_)
        refine ss_X4_turn_11 S1 ?_
        rw [rg_t hb, Int.toNat_natCast, mr.1, mr.2.1]
        refine im (by decide) ⟨by omega, im (by decide) ⟨by omega, ?_⟩⟩
        cases hz2 : zord t with
        | false => exact ip rfl (k1 hz2)
        | true => exact im (by decide) (k2 hz2)
      cases hz2 : zord t with
      | false =>
        have mr := m.1 r hr
        dsimp only at mr
        rw [eR] at mr
        refine pair_eq (vI (-2)) hS x m g u (fun d Q k => x36 d Q ?_) (fun d Q k => m11 d h Q hS mr (fun _ => k) (fun z => by rw [hz2] at z; cases z))
        rw [hz2]
        exact ss_X0_turn_36 hS (ip rfl k)
      | true =>
        rw [hz2] at un
        obtain ⟨q1, q2, q3, lo, hi, p, l, arr, ys, cs, es, a1, a2, a3, a4, a5, a6, -⟩ := id xr2
        have blt := (zbS_lt t).1 ok
        have x47 : ∀ (d : Nat) (Q : qt), Wp (d + 1999) C_X0_turn Q 47 [vR (some 68), vI (r : Nat), vI (r2 : Nat), vI 0, vR (some rc), vU] [vI (zbits t : Nat)] h → Wc (d + 2000) 57 [vR (some 68), vI (r : Nat), vI (r2 : Nat)] h Q := by
          intro d Q k
          refine x36 d Q ?_
          rw [hz2]
          refine ss_X0_turn_36 hS (im (by decide) ?_)
          rw [ofR_some, a3, ofR_some, q1, a5.2.2.1]
          exact ⟨List.mem_singleton.mpr rfl, ip rfl (c_names (d := d + 299) hS ok a5 a6 hlen hbr k)⟩
        have shr : n_shr ((zbits t : Nat) : Int) 20 = ((zbits t / 2 ^ 20 : Nat) : Int) := shr_nat (Nat.lt_of_lt_of_le blt (by decide)) (by decide)
        by_cases nb : Nb t
        · have nb0 := (Nb_lt ok).1 nb
          have zl := ((tl_len t).1 ok un 0).2.1
          obtain ⟨tt1, tt2, tt3⟩ := (tt_all t).1 ok 0 (by omega) nb un gt.2.2.2.2.2.2
          obtain ⟨z1, z2, z3, z4⟩ := TL_zol tt1
          have ezc : zc (ztu t) = zcs (ztt t 0).1 := z4
          have x65 : ∀ (d : Nat) (Q : qt), (∀ h1 ys1, Fw (30 + 350 * zcs (ztt t 0).1) h h1 → RPt h1 145 (hN h1) (hN h) ys1 → RT h1 145 (hN h1) (ztu t) ys1 → Wp (d + 1999) C_X0_turn Q 72 [vR (some 68), vI (r : Nat), vI (r2 : Nat), vI 0, vR (some rc), vR (some (hN h))] [vI (zc (ztu t) : Nat)] h1) → Wc (d + 2000) 57 [vR (some 68), vI (r : Nat), vI (r2 : Nat)] h Q := by
            intro d Q k
            refine x47 d Q (ss_X0_turn_47 hS ?_)
            rw [shr, nb0]
            refine ip rfl ?_
            rw [ofR_some, a3, ofR_some, q1, a5.2.2.1]
            refine ⟨List.mem_singleton.mpr rfl, ip rfl (x_turned ok un (d + 1999) p lo hi 0 h ys _ hS a1 a2 a5 a6 (by omega) (by omega) (by omega) (by omega) (fun h1 arr1 xs1 F1 t5 r5 M1 _ => ?_))⟩
            obtain ⟨pp1, pp2⟩ := LM_part F1.1 M1 t5 r5
            obtain ⟨rp2, rt2⟩ := PX_RT a1 hS a2 F1.1 pp1 pp2
            refine ss_X0_turn_65 F1.2.2.2.1 ?_
            rw [ofR_some]
            exact ip (by rw [t5]) (c_code (d := d + 1939) F1.2.2.2.1 z1 rp2 rt2 (by rw [z4]; omega) (by omega) (k h1 xs1 F1 rp2 rt2))
          by_cases h40 : zc (ztu t) ≤ 40
          · obtain ⟨gm, zo⟩ := Gt_tu gt hz2 nb h40
            refine pair_of (s := (R, σ, K, w, T, F, O, L)) (vI (zc (ztu t) : Nat)) (rP R r2 (some (ztu t)), σ, none, w, T, F, O, L) True hS m u (fun d Q k => x65 d Q (fun h1 ys1 F1 rp2 rt2 => ?_)) (fun d h1 Q S1 M1 X1 _ k => ?_)
            · exact ss_X0_turn_72 F1.2.2.2.1 (im (by omega) (kX hS x F1 hr2 gm rp2 rt2 (by omega) hbu (fun h' f1 f2 f3 => k h' f1 f2 f3 trivial)))
            · have mr := M1.1 r hr
              dsimp only at mr
              rw [eR] at mr
              refine m11 d h1 Q S1 mr (fun z => by rw [hz2] at z; cases z) (fun _ => ?_)
              refine mt_scan (d := d + 1989) S1 hr ok mr.2.2.1 (fun z => absurd nb z) (fun _ => ?_) 6 20 rfl (Nat.le_refl _) (fun j j1 j2 => by omega)
              refine m_tsize (d := d + 1994) S1 hr ok un hz mr ?_
              refine ss_X4_turn_76 S1 (im (by omega) ⟨by omega, ?_⟩)
              have S2 : St (sI h1 116 11 0) := St_sI S1 (by decide)
              have F0 : FEm h1 (sI h1 116 11 0) := FI_sI (FI_refl h1) rfl
              have N0 : Nt (sI h1 116 11 0) [] := ⟨by rw [hI_sI, if_pos ⟨rfl, rfl⟩]; rfl, fun j hj => absurd hj (Nat.not_lt_zero _)⟩
              have rk : RK (sI h1 116 11 0) r (zk t) := FEm_RK F0 mr.2.2.1
              have lk : (zks (ztt t 0).1).length ≤ 1600 := by have := gm.2.2.2.2.1; unfold ztu at this; rw [zk_zol] at this; exact this
              rw [Int.toNat_natCast, mr.2.2.1.2.1]
              have hm := fun (Q' : qt) => m_turns (d := d + 1998) (w := 0) (f := 0) (P := []) (B := []) (T := []) (Q := Q') ((mt_all t).1 ok un) S2 hr rk (by simp) rfl N0 (by rw [List.length_nil, Nat.zero_add]; exact lk) (by omega) (by omega)
              rw [Nat.zero_add] at hm
              refine hm _ (fun h2 F2 N2 => ?_)
              refine ss_X4_turn_102 (FEm_St F2 S2) ?_
              refine kM S1 M1 g (FI_trans F0 F2) ?_ gm zo hr2 k
              unfold ztu
              rw [zk_zol]
              exact N2
          · refine pair_of (s := (R, σ, K, w, T, F, O, L)) (vI (-3)) (R, σ, K, w, T, F, O, L) True hS m u (fun d Q k => x65 d Q (fun h1 ys1 F1 rp2 rt2 => ?_)) (fun d h1 Q S1 M1 X1 _ k => ?_)
            · exact ss_X0_turn_72 F1.2.2.2.1 (ip (by omega) (k h1 (Fw_FX F1 _) (by have := F1.2.2.1; omega) (IX_Fw hS F1 x) trivial))
            · have mr := M1.1 r hr
              dsimp only at mr
              rw [eR] at mr
              refine m11 d h1 Q S1 mr (fun z => by rw [hz2] at z; cases z) (fun _ => ?_)
              refine mt_scan (d := d + 1989) S1 hr ok mr.2.2.1 (fun z => absurd nb z) (fun _ => ?_) 6 20 rfl (Nat.le_refl _) (fun j j1 j2 => by omega)
              refine m_tsize (d := d + 1994) S1 hr ok un hz mr ?_
              exact ss_X4_turn_76 S1 (ip (by omega) (k h1 (FX_refl S1) rfl M1 g))
        · have nb0 : ¬ zbits t / 2 ^ 20 = 0 := fun z => nb ((Nb_lt ok).2 z)
          have mr := m.1 r hr
          dsimp only at mr
          rw [eR] at mr
          refine pair_eq (vI (-2)) hS x m g u (fun d Q k => x47 d Q (ss_X0_turn_47 hS ?_)) (fun d Q k => m11 d h Q hS mr (fun z => by rw [hz2] at z; cases z) (fun _ => ?_))
          · rw [shr]
            exact im (by omega) k
          · exact mt_scan (d := d + 1989) hS hr ok mr.2.2.1 (fun _ => k) (fun z => absurd z nb) 6 20 rfl (Nat.le_refl _) (fun j j1 j2 => by omega)
  · refine pair_eq (vI (-1)) hS x m g u (fun d Q k => ?_) (fun d Q k => ?_)
    · refine se_X0_turn hS (pu_isRoutine hS ?_)
      refine ss_X0_turn_4 hS ?_
      rw [rg_f hb]
      exact ip rfl (ss_X0_turn_16 hS (ip (by decide) k))
    · refine se_X4_turn hS (pu_mIsRoutine hS ?_)
      refine ss_X4_turn_4 hS ?_
      by_cases ha : 0 ≤ a ∧ a ≤ 9
      · rw [rg_t ha]
        refine im (by decide) (pu_mIsRoutine hS ?_)
        refine ss_X4_turn_11 hS ?_
        rw [rg_f hb]
        exact ip rfl k
      · rw [rg_f ha]
        exact ip rfl k
