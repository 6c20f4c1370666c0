/-! print -/
theorem c_spare {d rc : Nat} {t : zT} {Q : qt} {h : hp} (hS : St h) (X : XR h t rc) (ok : okS t 0) (hl : (zk t).length ≤ 1600) (hb : (pbs (zk t) true).length ≤ 6000) (k : ∀ h1 g1, FP h h1 → Xp h1 (pbs (zk t) true) g1 → Q (.inl (some (vI ((pbs (zk t) true).length : Nat)))) h1) : Wc (d + 1640) 44 [vR (some 68), vR (some rc)] h Q := by
  obtain ⟨z1, z2, z3, lo, hi, p, l, arr, ys, cs, es, a1, a2, a3, a4, a5, a6, -⟩ := X
  refine se_X0_printSpare hS ?_
  rw [ofR_some]
  refine ⟨by rw [z1]; simp, ?_⟩
  rw [a3, ofR_some]
  refine ip (by rw [a5.2.2.1]) ?_
  obtain ⟨h0, e0⟩ : ∃ h0, h0 = sI (sI h 68 35 0) 68 36 1 := ⟨_, rfl⟩
  have F0 : FP h h0 := by rw [e0]; exact FN_sI (FN_sI (FN_refl hS) (Or.inr ⟨rfl, Or.inl rfl⟩) (by decide)) (Or.inr ⟨rfl, Or.inr rfl⟩) (by decide)
  have X0 : Xp h0 [] true := ⟨F0.1.2.2.1, by rw [e0, hI_sI, if_neg (by omega), hI_sI, if_pos ⟨rfl, rfl⟩]; rfl, by rw [e0, hI_sI, if_pos ⟨rfl, rfl⟩]; rfl, trivial⟩
  rw [← e0]
  have z' := Pt_FP a1 a2 F0 a5 a6
  refine se_X5_print X0.1 z'.1.2.2.1 ?_
  have P0 : PxQ h0 [] true (zk t ++ []) (fun h' => FP h0 h' ∧ Xp h' (pbs (zk t) true) (pgl (zk t) true)) := by
    rw [List.append_nil]
    exact ⟨hb, fun h' F' X' => ⟨F', X'⟩⟩
  refine (x_prints a1 t).1 ok (d + 1638) p 0 h0 ys ys vU _ _ [] true [] (by rw [F0.2.1]; exact a2) z'.1 rfl z'.2 (by omega) X0 P0 (fun h1 O1 g1 F1 X1 P1 => ?_)
  obtain ⟨f, x⟩ := Px_e X1 P1
  refine ss_X0_printSpare_18 x.1 ?_
  rw [x.2.1]
  exact k h1 _ (FP_trans F0 f) x
def pPt (a j : Nat) : Prop := a = 82 ∨ a = 83 ∨ a = 84 ∨ (a = 68 ∧ (j = 35 ∨ j = 36 ∨ j = 37))
theorem Gt_len {t : zT} (g : Gt t) : (pbs (zk t) true).length ≤ 6000 ∧ oka (zk t) := by
  obtain ⟨ok, -, -, -, -, w, -⟩ := g
  have o := (zk_ok t).1 ok
  have l := pbs_len (zk t) true o
  refine ⟨?_, o⟩
  split at w <;> omega
theorem op_print {n : Nat} {h : hp} {a : Int} (I : IN n h) : Pair 43 148 [vR (some 68), vI a] [vR (some 116), vI a] n h := by
  obtain ⟨⟨R, σ, K, w, T, F, O, L⟩, hS, x, m, g, u⟩ := I
  have rI : RIs h R := RIs_of x.1 m.1 g.1
  by_cases ha : 0 ≤ a ∧ a ≤ 9
  · obtain ⟨r, rfl⟩ : ∃ r : Nat, a = (r : Nat) := ⟨a.toNat, by omega⟩
    have hr : r < 10 := by omega
    have rIr := rI r hr
    cases hR0 : R r with
    | none =>
      rw [hR0] at rIr
      have lv : lackV R ((r : Nat) : Int) = -2 := by unfold lackV; rw [if_pos ha, Int.toNat_natCast, hR0]
      refine pair_eq (vI (-2)) hS x m g u (fun d Q k => ?_) (fun d Q k => ?_)
      · refine se_X0_print hS (c_lacks hS rI ?_)
        refine ss_X0_print_5 hS ?_
        rw [lv]
        exact ip (by decide) k
      · refine se_X4_print hS (pu_mIsRoutine hS ?_)
        refine ss_X4_print_4 hS ?_
        rw [rg_t ha, Int.toNat_natCast]
        exact im (by decide) ⟨by omega, ip rIr.2 k⟩
    | some t =>
      rw [hR0] at rIr
      obtain ⟨ok, un, hz, hbr, hlen, ⟨rc, xr1, xr2⟩, mr1, mr2, mr3, mr4, mr5⟩ := rIr
      obtain ⟨hb, oa⟩ := Gt_len (g.1 r t hr hR0)
      have lv : lackV R ((r : Nat) : Int) = 0 := by unfold lackV; rw [if_pos ha, Int.toNat_natCast, hR0]
      obtain ⟨P, eP⟩ : ∃ P, P = pbs (zk t) true := ⟨_, rfl⟩
      have okP' : okb P := by rw [eP]; exact pbs_ok _ _ oa
      have gd : Gd (R, σ, K, w, T, F, P, L) := ⟨g.1, g.2.1, g.2.2.1, okP', by rw [← eP] at hb; exact hb⟩
      refine pair_of (s := (R, σ, K, w, T, F, O, L)) (vI (P.length : Nat)) (R, σ, K, w, T, F, P, L) True hS m u (fun d Q k => ?_) (fun d h1 Q S1 M1 X1 _ k => ?_)
      · refine se_X0_print hS (c_lacks hS rI ?_)
        refine ss_X0_print_5 hS ?_
        rw [lv, Int.toNat_natCast, xr1]
        refine im (by decide) ⟨by omega, ?_⟩
        refine c_spare (d := d + 359) hS xr2 ok hlen hb (fun h1 g1 F1 X1 => ?_)
        rw [← eP] at X1 ⊢
        rw [← eP] at hb
        refine ss_X0_print_23 X1.1 ⟨⟨by decide, by decide, by omega, ?_, ?_⟩, ?_⟩
        · rw [stt_83 X1.1]; show 0 + ((P.length : Nat) : Int) ≤ ((6000 : Nat) : Int); omega
        · rw [stt_82 X1.1]; show 0 + ((P.length : Nat) : Int) ≤ ((6000 : Nat) : Int); omega
        · rw [Int.toNat_natCast]
          have F2 : FX pPt h (hCpy (sI h1 68 37 (P.length : Nat)) 83 82 0 0 P.length) := FX_cpy (FX_sI (FX_mono F1.1 (fun c j _ z => by unfold pPr at z; unfold pPt; omega)) (Or.inl (by unfold pPt; omega)) (by decide)) (by decide) (fun j => Or.inl rfl)
          have e37 : hI (hCpy (sI h1 68 37 (P.length : Nat)) 83 82 0 0 P.length) 68 37 = (P.length : Nat) := by rw [hI_cpy, if_neg (by omega), hI_sI, if_pos ⟨rfl, rfl⟩]
          refine ss_X0_print_43 F2.2.2.1 ?_
          rw [e37]
          obtain ⟨x1, x2, x3, x4, x5, x6, x7, x8, x9⟩ := id x
          refine k _ (FX_mono F2 (fun c j _ z => by unfold pPt at z; unfold xpl; omega)) (by rw [hU_hCpy, hU_sI, F1.2.2]; omega) ⟨Xc1_p F2 hS (fun j => by unfold pPt; omega) (fun c j c1 _ _ => by unfold pPt; omega) x1, Xc2_p F2 hS (fun c j hc => by unfold pPt; omega) (fun c j c1 _ _ _ => by unfold pPt; omega) x2, XFr_p F2 hS (by unfold pPt; omega) (by unfold pPt; omega) x3, XRu_p F2 hS (fun c j hc => by unfold pPt; omega) x4, Xc5_p F2 hS (by unfold pPt; omega) x5, Tq_p F2 hS (by unfold pPt; omega) (fun j => by unfold pPt; omega) x6, Xc7_p F2 hS (by unfold pPt; omega) (by unfold pPt; omega) x7, ⟨e37, Tx_of (fun i hi => ?_)⟩, Xc9_p F2 hS (by unfold pPt; omega) x9⟩ trivial
          dsimp only at hi ⊢
          have gi := Tx_get i hi X1.2.2.2
          rw [Nat.zero_add] at gi
          rw [hI_cpy, if_pos ⟨rfl, Nat.zero_le _, by omega⟩, show 0 + (0 + i - 0) = i by omega, hI_sI, if_neg (by omega)]
          exact gi
      · obtain ⟨m1, m2, m4, m5, m6, m7, m8, m9⟩ := id M1
        have MI := m1 r hr
        dsimp only at MI
        rw [hR0] at MI
        refine se_X4_print S1 (pu_mIsRoutine S1 ?_)
        refine ss_X4_print_4 S1 ?_
        rw [rg_t ha, Int.toNat_natCast, MI.1]
        refine im (by decide) ⟨by omega, im (by decide) ?_⟩
        have F0 : FY h1 (sI h1 116 3 0) := FN_sI (FN_refl S1) (Or.inr ⟨rfl, rfl⟩) (by decide)
        have K0 : RK (sI h1 116 3 0) r (zk t) := RK_eq (fun j => by rw [hI_sI, if_neg (by omega)]) (fun j => by rw [hI_sI, if_neg (by omega)]) (fun j => by rw [hI_sI, if_neg (by omega)]) MI.2.2.1
        refine m_pr (d := d + 1993) (ts := zk t) hr oa (zk t).length 0 true _ [] _ _ _ (by omega) K0 ⟨F0.1.2.2.1, by rw [hI_sI, if_pos ⟨rfl, rfl⟩]; rfl, trivial⟩ (by rw [List.drop_zero]; show 0 + _ ≤ _; omega) (fun h2 F2 Y2 => ?_)
        rw [List.drop_zero, List.nil_append, ← eP] at Y2 ⊢
        have F3 := (FY_trans F0 F2).1
        exact k h2 (FX_mono F3 (fun c j _ z => by unfold pMp at z; unfold mpl; omega)) (FY_trans F0 F2).2.2 ⟨Mc1_p F3 S1 (fun c j hc => by unfold pMp; omega) m1, MV_p2 F3 S1 (fun c j hc => by unfold pMp; omega) m2, MRu_p F3 S1 (fun c j hc => by unfold pMp; omega) m4, Mc5_p F3 S1 (by unfold pMp; omega) m5, Mq_p F3 S1 (by unfold pMp; omega) (fun j => by unfold pMp; omega) m6, Mc7_p F3 S1 (by unfold pMp; omega) (by unfold pMp; omega) m7, ⟨Y2.2.1, Y2.2.2⟩, Mc9_p F3 S1 (by unfold pMp; omega) m9⟩ gd
  · have lv : lackV R a = -1 := by unfold lackV; rw [if_neg ha]
    refine pair_eq (vI (-1)) hS x m g u (fun d Q k => ?_) (fun d Q k => ?_)
    · refine se_X0_print hS (c_lacks hS rI ?_)
      refine ss_X0_print_5 hS ?_
      rw [lv]
      exact ip (by decide) k
    · refine se_X4_print hS (pu_mIsRoutine hS ?_)
      refine ss_X4_print_4 hS ?_
      rw [rg_f ha]
      exact ip rfl k
