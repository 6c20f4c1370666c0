/-! m CHANGES a place -/
theorem pk0 {σ : zS} {c : Nat × Nat} (h : c.1 = 0) : pkd σ c = 0 ∧ pgv σ c = σ 1 c.2 := by
  unfold pkd pgv; rw [if_pos h, if_pos h]; exact ⟨rfl, rfl⟩
theorem pk1 {σ : zS} {c : Nat × Nat} {id : Nat} (h : c.1 = id + 1) : pkd σ c = σ 3 id ∧ pgv σ c = σ 5 (12 * id + c.2) := by
  unfold pkd pgv; rw [if_neg (by omega), if_neg (by omega), show c.1 - 1 = id by omega]; exact ⟨rfl, rfl⟩
/-- m puts the new value there -/
theorem m_put {d r i op : Nat} {Q : qt} {h : hp} {σ : zS} {c : Nat × Nat} {w : Int} (hS : St h) (hV : MV h σ) (hm : Pm h c) (r1 : c.1 = 0 → c.2 < 26) (r2 : c.1 ≠ 0 → c.1 - 1 < 14 ∧ c.2 < 12) (hop : op = 0 ∨ op = 1 ∨ op = 2 ∨ op = 4 ∨ op = 5) (k : ∀ h', FMd h h' → MV h' (pst σ c (chz op (pkd σ c) (pgv σ c) w)) → Q (.inl (some (vI 0))) h') : Wp (d + 4) C_X4_doChange Q 174 [vR (some 116), vI (r : Nat), vI (i : Nat), vI (op : Nat), vJ w, vU, vI (pkd σ c), vU, vU, vU, vU] [vJ (pgv σ c)] h := by
  have k242 : ∀ y : Int, y = chz op (pkd σ c) (pgv σ c) w → Wp (d + 4) C_X4_doChange Q 242 [vR (some 116), vI (r : Nat), vI (i : Nat), vI (op : Nat), vJ w, vU, vI (pkd σ c), vJ (pgv σ c), vU, vU, vU] [vJ y] h := by
    intro y ey
    refine ss_X4_doChange_242 hS (pm_cut hS ?_)
    refine ss_X4_doChange_252 hS ?_
    refine c_gives hS hV hm r1 r2 (fun h' F V e => ?_)
    refine ss_X4_doChange_255 (FMd_St F) ?_
    rw [psg_cut, ey] at V
    exact k h' F V
  refine ss_X4_doChange_174 hS ?_
  rcases hop with e | e | e | e | e <;> subst e
  · exact ip rfl (k242 _ rfl)
  · exact im (by decide) (ip rfl (k242 _ rfl))
  · exact im (by decide) (im (by decide) (ip rfl (k242 _ rfl)))
  · exact im (by decide) (im (by decide) (im (by decide) (ip rfl (ss_X4_doChange_239 hS (pm_turned hS (k242 _ rfl))))))
  · refine im (by decide) (im (by decide) (im (by decide) (im (by decide) (pm_bits hS ?_))))
    refine ss_X4_doChange_236 hS ⟨by have := bz_ok (pkd σ c); omega, ?_⟩
    exact ss_X4_doChange_239 hS (pm_turned hS (k242 _ rfl))
theorem m_chg {d r i op q n kk : Nat} {Q : qt} {h : hp} {σ : zS} {p e : zT} {P S : List (Nat × Nat)} (hS : St h) (hr : r < 10) (hi : i < 400) (hK : RK h r (P ++ (zk p ++ ((6, kk) :: (zk e ++ S))))) (hn : nxt zsp S) (hV : MV h σ) (hq : hI h 128 i = (q : Nat)) (hqP : q = P.length) (hE : hI h 129 i = (n : Nat)) (hnP : n = P.length + (zk p).length + 1) (ok : okP p) (oe : okE e) (hop : op = 0 ∨ op = 1 ∨ op = 2 ∨ op = 4 ∨ op = 5) (k : DmQ h σ (sChg σ p op e) Q) : Wc (d + 55) 184 [vR (some 116), vI (r : Nat), vI (i : Nat), vI (op : Nat)] h Q := by
  refine se_X4_doChange hS ?_
  refine c_seeN hS (fun h1 F1 Z1 => ?_)
  have M1 : FMd h h1 := FMd_FI F1 hS rfl (fun c j z => by unfold pG at z; unfold pMd; simp at z; omega)
  have S1 := FMd_St M1
  have V1 : MV h1 σ := MV_FI F1 rfl rfl hV
  have K1 : RK h1 r (P ++ (zk p ++ ((6, kk) :: (zk e ++ S)))) := RK_eq (fun j => FI_i F1 rfl) (fun j => FI_i F1 rfl) (fun j => FI_i F1 rfl) hK
  refine ss_X4_doChange_4 S1 ⟨by omega, ?_⟩
  rw [Int.toNat_natCast, FI_i F1 (b := 128) rfl, hq]
  refine c_findP (d := d + 3) S1 hr K1 hqP V1 Z1.2.2 ok (ns := 0) (is := fun _ => 0) ⟨by decide, Z1.1, fun id hi => ⟨Nat.pow_pos (by decide), Z1.2.1 id hi⟩⟩ (fun w h2 hw w0 F V b => ?_) (fun c h2 hc F V b b49 hm sn fr => ?_)
  · unfold sChg at k
    rw [hw] at k
    refine ss_X4_doChange_15 (FMd_St F) (im (by rw [b]; omega) ?_)
    rw [b]
    exact k h2 (FMd_trans M1 F) V
  unfold sChg at k
  rw [hc] at k
  dsimp only at k
  have M2 := FMd_trans M1 F
  have S2 := FMd_St M2
  obtain ⟨r1, r2⟩ := pl_rng V ok hc
  have op3 : ¬ ((op : Nat) : Int) = 3 := by omega
  have K2 : RK h2 r ((P ++ (zk p ++ [(6, kk)])) ++ (zk e ++ S)) := by
    have : P ++ (zk p ++ ((6, kk) :: (zk e ++ S))) = (P ++ (zk p ++ [(6, kk)])) ++ (zk e ++ S) := by simp
    rw [← this]
    exact RK_eq (fun j => fr 123 j (by decide) (by decide)) (fun j => fr 124 j (by decide) (by decide)) (fun j => fr 125 j (by decide) (by decide)) K1
  have e129 : hI h2 129 i = ((P ++ (zk p ++ [(6, kk)])).length : Nat) := by
    rw [fr 129 i (by decide) (by decide), FI_i F1 rfl, hE, hnP]; simp; omega
  have go : psn σ p c = false → Wp (d + 54) C_X4_doChange Q 69 [vR (some 116), vI (r : Nat), vI (i : Nat), vI (op : Nat), vU, vU, vU, vU, vU, vU, vU] [] h2 := by
    intro ps
    rw [if_neg (by rw [ps]; decide)] at k
    refine ss_X4_doChange_69 S2 ⟨by omega, ?_⟩
    rw [Int.toNat_natCast, e129]
    obtain ⟨g, eg⟩ : ∃ y, y = sI (sI h2 116 49 (hI h2 116 52)) 116 50 (hI h2 116 53) := ⟨_, rfl⟩
    have fg : FI [] [49, 50] [] h2 g := by rw [eg]; exact FI_sI (FI_sI (FI_refl h2) rfl) rfl
    have g49 : hI g 116 49 = hI h2 116 52 ∧ hI g 116 50 = hI h2 116 53 := by rw [eg]; constructor <;> simp [hI_sI]
    rw [← eg]
    clear eg
    have Mg : FMd h2 g := FMd_FI fg S2 rfl (fun c j z => by unfold pG at z; unfold pMd; simp at z; omega)
    have Sg := FMd_St Mg
    have Bg : MB g (bic c) := by
      intro id j
      unfold bic
      rw [g49.1, g49.2]
      rcases hm with ⟨m1, m2, m3⟩ | ⟨id', m1, m2, m3⟩
      · rw [m2, decide_eq_false (show ¬ (c.1 = id + 1 ∧ c.2 = j) from fun z => by omega), decide_eq_false (by omega)]
      · rw [m2, m3]
        by_cases y : c.1 = id + 1 ∧ c.2 = j
        · rw [decide_eq_true y, decide_eq_true (by omega)]
        · rw [decide_eq_false y, decide_eq_false (by omega)]
    have Vg : MV g σ := MV_FI fg rfl rfl V
    refine c_reckon Sg hr (RK_eq (fun j => FI_i fg rfl) (fun j => FI_i fg rfl) (fun j => FI_i fg rfl) K2) hn Vg Bg oe sn.1 (by rw [FI_i fg rfl]; exact sn.2.1) (is := fun id => 0 ||| psi σ p id) (fun id hi => ⟨(sn.2.2 id hi).1, by rw [FI_i fg rfl]; exact (sn.2.2 id hi).2⟩) (fun w h3 y hw w0 F3 b3 => ?_) (fun w h3 hw F3 b3 _ _ => ?_)
    · rw [hw] at k
      have M3 := FMd_trans M2 (FMd_trans Mg (FMd_Fre F3 Sg))
      refine ss_X4_doChange_96 (FMd_St M3) (im (by rw [b3]; omega) ?_)
      rw [b3]
      exact k _ (FMd_sI M3 (by unfold pMd; omega)) (MV_FI (FI_sI (mj := [49]) (as := []) (FI_refl _) rfl) rfl rfl (MV_FI F3 rfl rfl Vg))
    · rw [hw] at k
      dsimp only at k
      have M3 := FMd_trans M2 (FMd_trans Mg (FMd_Fre F3 Sg))
      have S3 := FMd_St M3
      have V3 : MV h3 σ := MV_FI F3 rfl rfl Vg
      have c51 : hI h3 116 51 = hI h2 116 51 := by rw [FI_i F3 rfl, FI_i fg rfl]
      have c52 : hI h3 116 52 = hI h2 116 52 := by rw [FI_i F3 rfl, FI_i fg rfl]
      have c53 : hI h3 116 53 = hI h2 116 53 := by rw [FI_i F3 rfl, FI_i fg rfl]
      obtain ⟨h4, e4⟩ : ∃ y, y = sI h3 116 49 (-1) := ⟨_, rfl⟩
      have f4 : FI [] [49] [] h3 h4 := by rw [e4]; exact FI_sI (FI_refl h3) rfl
      have M4 : FMd h h4 := by rw [e4]; exact FMd_sI M3 (by unfold pMd; omega)
      have S4 := FMd_St M4
      have V4 : MV h4 σ := MV_FI f4 rfl rfl V3
      have d51 : hI h4 116 51 = hI h2 116 51 := by rw [FI_i f4 rfl]; exact c51
      have d52 : hI h4 116 52 = hI h2 116 52 := by rw [FI_i f4 rfl]; exact c52
      have d53 : hI h4 116 53 = hI h2 116 53 := by rw [FI_i f4 rfl]; exact c53
      have hm4 : Pm h4 c := by unfold Pm; rw [d51, d52, d53]; exact hm
      have fin : Wp (d + 54) C_X4_doChange Q 135 [vR (some 116), vI (r : Nat), vI (i : Nat), vI (op : Nat), vJ w, vU, vU, vU, vU, vU, vU] [vI (pkd σ c)] h4 := by
        refine ss_X4_doChange_135 S4 ?_
        rw [d51, d52, d53]
        have put := m_put (d := d + 50) (r := r) (i := i) (op := op) (w := w) S4 V4 hm4 (fun z => (r1 z).1) r2 hop (fun h5 F5 V5 => k h5 (FMd_trans M4 F5) V5)
        rcases hm with ⟨m1, m2, m3⟩ | ⟨id', m1, m2, m3⟩
        · refine ip (by rw [m2]; decide) ?_
          have y := r1 m1
          rw [m3, Int.toNat_natCast, V4.2.1 _ y.1 y.2, ← (pk0 (σ := σ) m1).2]
          exact ⟨by omega, put⟩
        · refine im (by rw [m2]; omega) ?_
          have y := r2 (by omega)
          rw [m2, m3, ix12 (by omega) y.2, Int.toNat_natCast, V4.2.2.2.2.1 _ (by omega), ← (pk1 (σ := σ) m1).2]
          exact ⟨by omega, put⟩
      refine ss_X4_doChange_96 S3 (ip b3 ?_)
      rw [← e4, c52]
      rcases id hm with ⟨m1, m2, m3⟩ | ⟨id', m1, m2, m3⟩
      · rw [(pk0 m1).1] at fin
        exact ip (by rw [m2]; decide) fin
      · have y := r2 (by omega)
        rw [(pk1 m1).1] at fin
        refine im (by rw [m2]; omega) ?_
        rw [m2, Int.toNat_natCast, (V3.2.2.2.1 id' (by omega)).1]
        exact ⟨by omega, fin⟩
  refine ss_X4_doChange_15 S2 (ip b (im op3 ?_))
  rcases id hm with ⟨m1, m2, m3⟩ | ⟨id', m1, m2, m3⟩
  · refine ip (by rw [m2]; decide) (go ?_)
    rcases plv_ok ok hc with ⟨x, e1, -⟩ | ⟨x, e, id, j, e1, hx, oe, q1, q2, e2, q3⟩
    · subst e1; rfl
    · rw [e2] at m1; exact absurd m1 (Nat.succ_ne_zero _)
  · have y := r2 (by omega)
    refine im (by rw [m2]; omega) ?_
    have b141 := (sn.2.2 id' (by omega)).2
    have l141 := (sn.2.2 id' (by omega)).1
    rw [m2, m3, Int.toNat_natCast, b141, bit_at (by omega) (by omega)]
    refine ⟨by omega, ?_⟩
    have ep : psn σ p c = (0 ||| psi σ p id').testBit c.2 := by
      rw [psn_eq, if_neg (by omega), show c.1 - 1 = id' by omega, Nat.zero_or]
    cases hb : (0 ||| psi σ p id').testBit c.2 with
    | true =>
      rw [ep, hb, if_pos rfl] at k
      exact ip rfl (k h2 M2 V)
    | false => exact im (by decide) (go (by rw [ep]; exact hb))
