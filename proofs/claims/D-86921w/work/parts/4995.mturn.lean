/-! m turns a set -/
theorem zts_pl {n : Nat} {e : zT} (h : zpl n e = true) : zts n e = [zB (130 + (if zg e = 43 then 0 else if zg e = 45 then 1 else 2)) (zNam n) (zr e)] := by unfold zts; rw [if_pos h]
theorem zts_no {n : Nat} {e : zT} (h : zpl n e = false) (h2 : zhas n e = false) : zts n e = [zB 102 (zL n) (zL 3), zB 130 (zNam n) e] := by unfold zts; rw [if_neg (by rw [h]; decide), if_pos h2]
theorem zts_ha {n : Nat} {e : zT} (h : zpl n e = false) (h2 : zhas n e = true) : zts n e = [zB 100 (zL 25) e, zB 133 (zNam n) (zNam 25), zB 102 (zL 25) (zL 3), zB 101 (zL 25) (zNum 0)] := by unfold zts; rw [if_neg (by rw [h]; decide), if_neg (by rw [h2]; decide)]
theorem snd_at {e : zT} {lv : Nat} (o : zok e lv) (B : List (Nat × Nat)) : (zk e ++ (7, 59) :: B)[1]? = some ((zk e ++ [(7, 59)]).getD 1 (0, 0)) ∧ (zk e ++ (7, 59) :: B)[0]? = (zk e)[0]? := by
  cases h : zk e with
  | nil => have := zk_pos e lv o; rw [h] at this; exact absurd this (by decide)
  | cons x L =>
    cases L with
    | nil => exact ⟨rfl, rfl⟩
    | cons y L => exact ⟨rfl, rfl⟩
theorem m_tset {d r f n : Nat} {Q : qt} {h : hp} {ts P B T : List (Nat × Nat)} {e : zT} (hS : St h) (hr : r < 10) (hK : RK h r ts) (hn : n < 26) (oe : okE e) (et : ts = P ++ ((5, 14) :: (1, n) :: (7, 61) :: (zk e ++ (7, 59) :: B))) (ef : f = P.length) (N : Nt h T) (hl : T.length + (zks (zts n e)).length ≤ 1600) (k : ∀ h', FEm h h' → Nt h' (T ++ zks (zts n e)) → Q (.inl none) h') : Wc (d + 8) 167 [vR (some 116), vI (r : Nat), vI (f : Nat), vI ((f + 3 + (zk e).length : Nat) : Int)] h Q := by
  have zp := zk_pos e 0 oe.1
  have ftot : f + (zk e).length + 4 ≤ 1600 := by
    have := hK.1
    rw [et] at this
    simp only [List.length_append, List.length_cons] at this
    omega
  have lt0 : f < 1600 := by omega
  have lt1 : f + 1 < 1600 := by omega
  have lt3 : f + 3 < 1600 := by omega
  obtain ⟨y, hy⟩ : ∃ y, y = (zk e ++ [(7, 59)]).getD 1 (0, 0) := ⟨_, rfl⟩
  obtain ⟨s1, s0⟩ := snd_at oe.1 B
  rw [← hy] at s1
  have hx1 : ts[f + 1]? = some (1, n) := by rw [et, ef]; simp
  have hx3 : ts[f + 3]? = (zk e)[0]? := by rw [← s0, et, ef, List.getElem?_append_right (by omega), show P.length + 3 - P.length = 3 by omega]; rfl
  have hx4 : ts[f + 4]? = some y := by rw [← s1, et, ef, List.getElem?_append_right (by omega), show P.length + 4 - P.length = 4 by omega]; rfl
  have mp := mplT_eq hn oe
  have hmp : mplT n e = (decide ((zk e)[0]? = some (1, n)) && (decide (tsm (zk e) 0 = 1) && (tsu y && (decide (y.2 ≠ 124) && !tin n ((zk e).drop 2))))) := by rw [hy]; rfl
  have tin_h := tin_e oe.1 hn
  have etE : ts = (P ++ [(5, 14), (1, n), (7, 61)]) ++ (zk e ++ (7, 59) :: B) := by rw [et]; simp
  have etF : ts = (P ++ [(5, 14), (1, n), (7, 61)]) ++ ((zk e ++ [(7, 59)]) ++ B) := by rw [et]; simp
  have e3 : f + 3 = (P ++ [(5, 14), (1, n), (7, 61)]).length := by rw [ef]; simp
  -- not plain
  have p181 : zpl n e = false → Wp (d + 7) C_X4_turnSet Q 181 [vR (some 116), vI (r : Nat), vI (f : Nat), vI ((f + 3 + (zk e).length : Nat) : Int), vI (n : Nat), vI ((f + 3 : Nat) : Int), vI (y.2 : Nat), vI 0] [vI (bI (tin n (zk e)))] h := by
    intro zf
    refine ss_X4_turnSet_181 hS ?_
    rw [tin_h]
    cases hh : zhas n e with
    | false =>
      rw [zts_no zf hh] at hl k
      have ek : zks [zB 102 (zL n) (zL 3), zB 130 (zNam n) e] = [(5, 2), (1, n), (4, 3), (7, 59)] ++ ((1, n) :: (6, 0) :: (zk e ++ [(7, 59)])) := by rw [zks_c, zks_c, zks_0, zk_push, zk_cg (Or.inl rfl), List.append_nil]
      rw [ek] at hl k
      simp only [List.length_append, List.length_cons, List.length_nil] at hl
      refine ip rfl (e_push hS N (by omega) (fun h1 F1 N1 => ?_))
      have S1 := FEm_St F1 hS
      refine ss_X4_turnSet_190 S1 (c_emitM (s := 1) S1 N1 (by simp; omega) (fun h2 F2 N2 => ?_))
      have S2 := FEm_St F2 S1
      refine ss_X4_turnSet_197 S2 (c_emitM (s := 6) (w := 0) S2 N2 (by simp; omega) (fun h3 F3 N3 => ?_))
      have S3 := FEm_St F3 S2
      refine ss_X4_turnSet_204 S3 ?_
      rw [n1k (by omega)]
      refine c_copies S3 hr (FEm_RK F3 (FEm_RK F2 (FEm_RK F1 hK))) etF e3 (by rw [List.length_append, List.length_singleton]; omega) N3 (by simp; omega) (fun h4 F4 N4 => ss_X4_turnSet_214 (FEm_St F4 S3) (k h4 (FI_trans F1 (FI_trans F2 (FI_trans F3 F4))) ?_))
      simp only [List.append_assoc, List.cons_append, List.nil_append] at N4 ⊢
      exact N4
    | true =>
      rw [zts_ha zf hh] at hl k
      have ek : zks [zB 100 (zL 25) e, zB 133 (zNam n) (zNam 25), zB 102 (zL 25) (zL 3), zB 101 (zL 25) (zNum 0)] = ((5, 0) :: (1, 25) :: (7, 61) :: (zk e ++ [(7, 59)])) ++ ([(1, n), (6, 3), (1, 25), (7, 59)] ++ ([(5, 2), (1, 25), (4, 3), (7, 59)] ++ [(5, 1), (1, 25), (7, 61), (2, 0), (7, 59)])) := by rw [zks_c, zks_c, zks_c, zks_c, zks_0, zk_push, zk_swap, zk_let (Or.inl rfl), zk_let (Or.inr (Or.inl rfl)), tk_num, List.append_nil]; rfl
      rw [ek] at hl k
      simp only [List.length_append, List.length_cons, List.length_nil] at hl
      refine im (by decide) (e_let (kk := 0) (n := 25) hS N (by omega) (fun h1 F1 N1 => ?_))
      have S1 := FEm_St F1 hS
      refine ss_X4_turnSet_224 S1 ?_
      rw [n1k (by omega)]
      refine c_copies S1 hr (FEm_RK F1 hK) etF e3 (by rw [List.length_append, List.length_singleton]; omega) N1 (by simp; omega) (fun h2 F2 N2 => ?_)
      have S2 := FEm_St F2 S1
      refine ss_X4_turnSet_234 S2 (c_emitM (s := 1) S2 N2 (by simp; omega) (fun h3 F3 N3 => ?_))
      have S3 := FEm_St F3 S2
      refine ss_X4_turnSet_241 S3 (c_emitM (s := 6) (w := 3) S3 N3 (by simp; omega) (fun h4 F4 N4 => ?_))
      have S4 := FEm_St F4 S3
      refine ss_X4_turnSet_248 S4 (c_emitM (s := 1) (w := 25) S4 N4 (by simp; omega) (fun h5 F5 N5 => ?_))
      have S5 := FEm_St F5 S4
      refine ss_X4_turnSet_255 S5 (e_sign (c := 59) S5 N5 (by simp; omega) (fun h6 F6 N6 => ?_))
      have S6 := FEm_St F6 S5
      refine ss_X4_turnSet_261 S6 (e_push (n := 25) S6 N6 (by simp; omega) (fun h7 F7 N7 => ?_))
      have S7 := FEm_St F7 S6
      refine ss_X4_turnSet_267 S7 (e_gone (n := 25) S7 N7 (by simp; omega) (fun h8 F8 N8 => k h8 (FI_trans F1 (FI_trans F2 (FI_trans F3 (FI_trans F4 (FI_trans F5 (FI_trans F6 (FI_trans F7 F8))))))) ?_))
      simp only [List.append_assoc, List.cons_append, List.nil_append] at N8 ⊢
      exact N8
  have n181 : zpl n e = false → cI (Wc (d + 7)) 162 [vR (some 116), vI (r : Nat), vI ((f + 3 : Nat) : Int), vI ((f + 3 + (zk e).length : Nat) : Int), vI (n : Nat)] h (fun x2 h1 => Wp (d + 7) C_X4_turnSet Q 181 [vR (some 116), vI (r : Nat), vI (f : Nat), vI ((f + 3 + (zk e).length : Nat) : Int), vI (n : Nat), vI ((f + 3 : Nat) : Int), vI (y.2 : Nat), vI 0] [vI x2] h1) (fun e h' => Q (.inr e) h') := fun zf => c_stands hS hr hK etE e3 rfl (p181 zf)
  -- plain
  have p105 : zpl n e = true → ∀ w7 : av, Wp (d + 7) C_X4_turnSet Q 105 [vR (some 116), vI (r : Nat), vI (f : Nat), vI ((f + 3 + (zk e).length : Nat) : Int), vI (n : Nat), vI ((f + 3 : Nat) : Int), vI (y.2 : Nat), w7] [vI 0] h := by
    intro zt w7
    obtain ⟨kk, l, r', ee, hk, ek, nr, or⟩ := zpl_t oe zt
    have yk : y = (7, kk) := by rw [hy, ek]; rfl
    have er : zr e = r' := by rw [ee]; rfl
    have eg : zg e = kk := by rw [ee]; rfl
    rw [zts_pl zt, er, eg] at hl k
    have hk3 : 130 + (if kk = 43 then 0 else if kk = 45 then 1 else 2) = 130 ∨ 130 + (if kk = 43 then 0 else if kk = 45 then 1 else 2) = 131 ∨ 130 + (if kk = 43 then 0 else if kk = 45 then 1 else 2) = 132 := by split <;> (try split) <;> omega
    rw [zks_c, zks_0, zk_cg hk3, List.append_nil, show 130 + (if kk = 43 then 0 else if kk = 45 then 1 else 2) - 130 = (if kk = 43 then 0 else if kk = 45 then 1 else 2) by omega] at hl k
    simp only [List.length_append, List.length_cons, List.length_nil] at hl
    have etG : ts = (P ++ [(5, 14), (1, n), (7, 61), (1, n), (7, kk)]) ++ ((zk r' ++ [(7, 59)]) ++ B) := by rw [et, ek]; simp
    have el : (zk e).length = (zk r').length + 2 := by rw [ek]; rfl
    rw [yk]
    refine ss_X4_turnSet_105 hS (ip rfl (c_emitM (s := 1) hS N (by omega) (fun h1 F1 N1 => ?_)))
    have S1 := FEm_St F1 hS
    have p156 : ∀ h2, FEm h1 h2 → Nt h2 (T ++ [(1, n)] ++ [(6, if kk = 43 then 0 else if kk = 45 then 1 else 2)]) → Wp (d + 7) C_X4_turnSet Q 156 [vR (some 116), vI (r : Nat), vI (f : Nat), vI ((f + 3 + (zk e).length : Nat) : Int), vI (n : Nat), vI ((f + 3 : Nat) : Int), vI ((kk : Nat) : Int), vI 1] [] h2 := by
      intro h2 F2 N2
      have S2 := FEm_St F2 S1
      refine ss_X4_turnSet_156 S2 ?_
      rw [n1k (by omega), show n_add ((f + 3 : Nat) : Int) 2 = ((f + 5 : Nat) : Int) by rw [na_eq (by omega) (by omega)]; omega]
      refine c_copies S2 hr (FEm_RK F2 (FEm_RK F1 hK)) etG (by rw [ef]; simp) (by rw [List.length_append, List.length_singleton]; omega) N2 (by simp; omega) (fun h3 F3 N3 => ss_X4_turnSet_168 (FEm_St F3 S2) (k h3 (FI_trans F1 (FI_trans F2 F3)) ?_))
      simp only [List.append_assoc, List.cons_append, List.nil_append] at N3 ⊢
      exact N3
    have tl : (T ++ [(1, n)]).length < 1600 := by simp; omega
    refine ss_X4_turnSet_127 S1 ?_
    clear et etE etF etG hmp mp hy hx4 s1
    rcases hk with z | z | z <;> subst z
    · exact ip rfl (c_emitM (s := 6) (w := 0) S1 N1 tl (fun h2 F2 N2 => p156 h2 F2 N2))
    · exact im (by decide) (ip rfl (c_emitM (s := 6) (w := 1) S1 N1 tl (fun h2 F2 N2 => p156 h2 F2 N2)))
    · exact im (by decide) (im (by decide) (c_emitM (s := 6) (w := 2) S1 N1 tl (fun h2 F2 N2 => p156 h2 F2 N2)))
  have p83 : ∀ w7 : av, (zk e)[0]? = some (1, n) → tsm (zk e) 0 = 1 → Wp (d + 7) C_X4_turnSet Q 83 [vR (some 116), vI (r : Nat), vI (f : Nat), vI ((f + 3 + (zk e).length : Nat) : Int), vI (n : Nat), vI ((f + 3 : Nat) : Int), vI (y.2 : Nat), w7] [vI (bI (tsu y))] h := by
    intro w7 c1 c2
    refine ss_X4_turnSet_83 hS ?_
    cases c3 : tsu y with
    | false => exact ip rfl (n181 (by rw [← mp, hmp, c3]; simp))
    | true =>
      refine im (by decide) ?_
      by_cases c4 : y.2 = 124
      · exact ip (by omega) (n181 (by rw [← mp, hmp, c4]; simp))
      · refine im (by omega) ?_
        rw [show n_add ((f + 3 : Nat) : Int) 2 = ((f + 5 : Nat) : Int) by rw [na_eq (by omega) (by omega)]; omega]
        have l2 : 2 ≤ (zk e).length := by
          cases hz : zk e with
          | nil => rw [hz] at zp; exact absurd zp (by decide)
          | cons a L =>
            cases L with
            | nil => rw [hy, hz] at c3; cases (show false = true from c3)
            | cons b L => simp
        have etH : ts = (P ++ [(5, 14), (1, n), (7, 61)] ++ (zk e).take 2) ++ ((zk e).drop 2 ++ (7, 59) :: B) := by
          rw [et]
          simp
          rw [← List.append_assoc, List.take_append_drop]
        refine c_stands hS hr hK etH (by rw [ef]; simp; omega) (by rw [List.length_drop]; omega) ?_
        cases c5 : tin n ((zk e).drop 2) with
        | true => exact ss_X4_turnSet_105 hS (im (by decide) (n181 (by rw [← mp, hmp, c5]; simp)))
        | false => exact p105 (by rw [← mp, hmp, c1, c2, c3, c5]; simp [c4]) w7
  have p48 : Wp (d + 7) C_X4_turnSet Q 48 [vR (some 116), vI (r : Nat), vI (f : Nat), vI ((f + 3 + (zk e).length : Nat) : Int), vI (n : Nat), vI ((f + 3 : Nat) : Int), vI (y.2 : Nat), vU] [vI (bI (decide (ts[f + 3]? = some (1, n))))] h := by
    rw [hx3]
    refine ss_X4_turnSet_48 hS ?_
    by_cases c1 : (zk e)[0]? = some (1, n)
    · rw [show decide ((zk e)[0]? = some (1, n)) = true by simp [c1]]
      refine im (by decide) (c_sums hS hr hK etE e3 rfl ?_)
      refine ss_X4_turnSet_59 hS ?_
      by_cases c2 : tsm (zk e) 0 = 1
      · rw [c2]
        refine ip rfl ?_
        have q : ∀ K : Int → hp → Prop, K (bI (tsu y)) h → cI (Wc (d + 7)) 165 [vI (y.1 : Nat), vI (y.2 : Nat)] h K (fun e h' => Q (.inr e) h') := fun K kk => c_isSum hS kk
        have hi4 : (0 : Int) ≤ ((1600 * r + (f + 3 + 1) : Nat) : Int) ∧ ((1600 * r + (f + 3 + 1) : Nat) : Int) < 16000 := by omega
        have i1 := ix1 (r := r) (q := f + 3) hr lt3
        have p83' := p83 vU c1 c2
        clear p83 p181 n181 p105
        obtain ⟨t1, -, -, -⟩ := tk_at (q := f + 4) (x := y) hr hK hx4
        have i0 := ix (r := r) (t := f + 3) hr lt3
        obtain ⟨-, t2, -, -⟩ := tk_at (q := f + 4) (x := y) hr hK hx4
        rw [i0, i1, Int.toNat_natCast, show f + 3 + 1 = f + 4 from rfl, t2]
        rw [show f + 3 + 1 = f + 4 from rfl] at hi4
        exact ⟨hi4, q _ p83'⟩
      · exact im (by omega) (n181 (by rw [← mp, hmp]; simp [c2]))
    · rw [show decide ((zk e)[0]? = some (1, n)) = false by simp [c1]]
      exact ip rfl (n181 (by rw [← mp, hmp]; simp [c1]))
  have hi1 : (0 : Int) ≤ ((1600 * r + (f + 1) : Nat) : Int) ∧ ((1600 * r + (f + 1) : Nat) : Int) < 16000 := by omega
  have hi4 : (0 : Int) ≤ ((1600 * r + (f + 3 + 1) : Nat) : Int) ∧ ((1600 * r + (f + 3 + 1) : Nat) : Int) < 16000 := by omega
  have e33 : n_add ((f : Nat) : Int) 3 = ((f + 3 : Nat) : Int) := by rw [na_eq (by omega) (by omega)]; omega
  have ca : ∀ K : Int → hp → Prop, K (bI (decide (ts[f + 3]? = some (1, n)))) h → cI (Wc (d + 7)) 139 [vR (some 116), vI (r : Nat), vI ((f + 3 : Nat) : Int), vI 1, vI (n : Nat)] h K (fun e h' => Q (.inr e) h') := fun K kk => c_isTok (s := 1) hS hr hK kk
  have j1 := ix1 (r := r) (q := f) hr lt0
  have j4 := ix1 (r := r) (q := f + 3) hr lt3
  have i0 := ix (r := r) (t := f) hr lt0
  have i3 := ix (r := r) (t := f + 3) hr lt3
  clear p83 p181 n181 p105
  obtain ⟨-, -, t2, -⟩ := tk_at (q := f + 1) (x := (1, n)) hr hK hx1
  obtain ⟨-, -, t3, -⟩ := tk_at (q := f + 4) (x := y) hr hK hx4
  refine se_X4_turnSet hS ?_
  rw [e33, i0, i3, j1, j4, Int.toNat_natCast, Int.toNat_natCast, t2, show f + 3 + 1 = f + 4 from rfl, t3]
  rw [show f + 3 + 1 = f + 4 from rfl] at hi4
  exact ⟨hi1, hi4, ca _ p48⟩
