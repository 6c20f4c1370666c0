/-! m: where a step begins -/
theorem c_may {d : Nat} {Q : qt} {h : hp} {L : List zTk} (hS : St h) (hL : Lz h L) (k : Q (.inl (some (vI (bI (pBeg L))))) h) : Wc (d + 2) 119 [vR (some 116)] h Q := by
  obtain ⟨z1, z2, z3, z4⟩ := Lz_un hL
  refine se_X4_mayBegin hS ?_
  rw [z2]
  unfold pBeg at k
  by_cases p1 : phs 1 L = true
  · rw [p1] at k
    exact ip (by rw [(psr_phs (by decide)).mp p1]; rfl) k
  rw [Bool.eq_false_iff.mpr p1, Bool.false_or] at k
  refine im (fun z => p1 ((psr_phs (by decide)).mpr (by omega))) ?_
  by_cases p3 : phs 3 L = true
  · rw [p3] at k
    exact ip (by rw [(psr_phs (by decide)).mp p3]; rfl) k
  rw [Bool.eq_false_iff.mpr p3, Bool.false_or] at k
  refine im (fun z => p3 ((psr_phs (by decide)).mpr (by omega))) ?_
  by_cases p5 : phs 5 L = true
  · have q5 := (psr_phs (by decide)).mp p5
    rw [p5, Bool.true_and] at k
    refine ip (by rw [q5]; rfl) ?_
    rw [z3 (by omega)]
    by_cases w8 : pw L ≤ 8
    · rw [decide_eq_true w8, Bool.true_or] at k
      exact im (by omega) k
    refine ip (by omega) ?_
    rw [decide_eq_false w8, Bool.false_or] at k
    by_cases w11 : pw L = 11
    · rw [show (pw L == 11) = true by simpa using w11, Bool.true_or] at k
      exact ip (by omega) k
    rw [show (pw L == 11) = false by simpa using w11, Bool.false_or] at k
    refine im (by omega) ?_
    refine pu_in hS ?_
    refine ss_X4_mayBegin_53 hS ?_
    have e : (decide ((14 : Int) ≤ (pw L : Nat)) && decide (((pw L : Nat) : Int) ≤ 16)) = (decide (14 ≤ pw L) && decide (pw L ≤ 16)) := by
      rw [Bool.eq_iff_iff]; simp; omega
    rw [e]
    cases hb : (decide (14 ≤ pw L) && decide (pw L ≤ 16)) with
    | true => rw [hb] at k; exact im (by decide) k
    | false => rw [hb] at k; exact ip rfl k
  · rw [Bool.eq_false_iff.mpr p5, Bool.false_and] at k
    exact im (fun z => p5 ((psr_phs (by decide)).mpr (by omega))) k
def M1s (h : hp) (L : List zTk) (ts : List (Nat × Nat)) (b c o : Nat) : Prop := Lz h L ∧ Ms h L ts 0 0 0 ∧ Mu h (ts.length + 1) b c o
/-- the key is taken -/
theorem rs_key {d : Nat} {Q : qt} {h : hp} {L : List zTk} {ts : List (Nat × Nat)} {b c o : Nat} {v1 v2 : Int} {v3 v4 v5 v6 v7 : av} (hS : St h) (hM : M1s h L ts b c o) (p5 : phs 5 L = true) (k : ∀ h1, FE h h1 → Ms h1 L.tail (ts ++ [(5, pw L)]) 0 0 0 → Mu h1 (ts ++ [(5, pw L)]).length b c o → Wp (d + 2) C_X4_readStep Q 181 [vR (some 116), vI v1, vI v2, vI (pw L : Nat), vI (-1), vI (-1), vI 1, v7] [] h1) : Wp (d + 2) C_X4_readStep Q 121 [vR (some 116), vI v1, vI v2, v3, v4, v5, v6, v7] [vI (pw L : Nat)] h := by
  obtain ⟨hL, hMs, hU0⟩ := hM
  refine ss_X4_readStep_121 hS (im (by omega) ?_)
  have hne := (phs_t p5).1
  have q5 := (psr_phs (by decide)).mp p5
  refine c_takeL hS hL (by omega) hMs.2.1 (Ms_len hMs hne) fun h1 f1 l1 n1 => ?_
  rw [q5] at n1
  have M1 := Ms_take hMs hne f1 l1 n1
  exact k h1 (FI_mono f1 (by decide) (by decide) (by decide)) M1 (Mu_FI hU0 f1 rfl rfl rfl rfl rfl (by simp) (by have := M1.2.2.2.2.2.2.2; omega))
theorem rs_chg {d : Nat} {Q : qt} {h0 h : hp} {L : List zTk} {ts : List (Nat × Nat)} {b c o : Nat} {v1 v2 : Int} {v3 v4 v5 v6 v7 : av} {r : zRs} (hS0 : St h0) (hF : FM h0 h) (hM : M1s h L ts b c o) (hLk : Lok L) (hv : v1 = hI h0 116 1 - (pq L : Nat)) (p13 : (phs 1 L || phs 3 L) = true) (hd : 57 ≤ d) (hr : (qE (pP L) fun p M => if phs 6 M then (if pw M = 3 then qE (pP M.tail) fun p2 M2 => qEnd (pq L) false 1 c o (zB 133 p p2) M2 else qE (pE M.tail) fun e M2 => qEnd (pq L) (zg p == 1 && zhas (zn (zl p)) e) 1 c o (zB (130 + pw M) p e) M2) else qno 1 M) = some r) (k : SM h0 ts b r Q) : Wp d C_X4_readStep Q 121 [vR (some 116), vI v1, vI v2, v3, v4, v5, v6, v7] [vI (-1)] h := by
  obtain ⟨d, rfl⟩ : ∃ e, d = e + 8 := ⟨d - 8, by omega⟩
  obtain ⟨hL, hMs, hU0⟩ := hM
  have hS := FI_St hF hS0 rfl
  obtain ⟨z1, z2, z3, z4⟩ := Lz_un hL
  have no : ∀ (x : Int) (h' : hp), FM h0 h' → Q (.inl (some (vI 0))) h' → Wp (d + 8) C_X4_readStep Q 157 [vR (some 116), vI v1, vI v2, vI (-1), vI x, vI (-1), vI 1, v7] [vI 0] h' := by
    intro x h' f q
    have S' := FI_St f hS0 rfl
    refine ss_X4_readStep_157 S' ?_
    by_cases e : hI h' 116 21 = 0
    · exact ip e (ss_X4_readStep_172 S' (rs_no S' q))
    · exact im e (ss_X4_readStep_172 S' (rs_no S' q))
  have k151 : ∀ x : Int, (phs 1 L = true → x = (pw L : Nat)) → (phs 1 L = false → x = -1) → Wp (d + 8) C_X4_readStep Q 151 [vR (some 116), vI v1, vI v2, vI (-1), vI (-1), vI (-1), vI 1, v7] [vI x] h := by
    intro x hx1 hx0
    refine ss_X4_readStep_151 hS ?_
    refine c_readChange hS hMs (by omega) ?_
    unfold CM
    cases hP : pP L with
    | inl g =>
      rw [hP] at hr
      cases hr
      show MF h mjC g.1 g.2 _
      exact MS_to hF (by decide) (fun h' f q => no x h' f q) k
    | inr pp =>
      obtain ⟨p, M⟩ := pp
      rw [hP] at hr
      have hr' : (if phs 6 M then (if pw M = 3 then qE (pP M.tail) fun p2 M2 => qEnd (pq L) false 1 c o (zB 133 p p2) M2 else qE (pE M.tail) fun e M2 => qEnd (pq L) (zg p == 1 && zhas (zn (zl p)) e) 1 c o (zB (130 + pw M) p e) M2) else qno 1 M) = some r := hr
      have gP := (pP_good hLk hP).1
      dsimp only
      by_cases p6 : phs 6 M = true
      · rw [if_pos p6] at hr' ⊢
        have w6 := (Lok_hd gP).2.2.2.2.2 p6
        by_cases w3 : pw M = 3
        · rw [if_pos w3] at hr' ⊢
          cases hP2 : pP M.tail with
          | inl g =>
            rw [hP2] at hr'
            cases hr'
            show MF h mjC g.1 g.2 _
            exact MS_to hF (by decide) (fun h' f q => no x h' f q) k
          | inr pp2 =>
            obtain ⟨p2, M2⟩ := pp2
            rw [hP2] at hr'
            intro h1 nb rb f1 e21 M1
            have S1 := FI_St f1 hS rfl
            have F1 : FM h0 h1 := FI_trans hF (FI_mono f1 (by decide) (by decide) (by decide))
            rw [show ts ++ zk p ++ [(6, 3)] ++ zk p2 = ts ++ (zk p ++ (6, 3) :: zk p2) by simp] at M1
            have hl1 := M1.2.2.2.2.2.2.2
            have U1 : Mu h1 (ts ++ (zk p ++ (6, 3) :: zk p2)).length b c o := Mu_FI hU0 f1 rfl rfl rfl rfl rfl (by simp; omega) (by omega)
            refine ss_X4_readStep_157 S1 (im (by rw [e21]; decide) ?_)
            refine ss_X4_readStep_172 S1 ?_
            refine rs_end (q := pq L) (more := 1) (self := false) (s := zB 133 p p2) hS0 F1 M1.1 M1.2.1 hl1 U1 hv M1.2.2.2.2.2.1 M1.2.2.2.1 M1.2.2.2.2.2.2.1 M1.2.2.2.2.1 (Or.inl ⟨rfl, rfl, rfl⟩) (by decide) hr' ?_ k
            show zk p ++ (6, 3) :: (zk p2 ++ [(7, 59)]) = _
            simp
        · rw [if_neg w3] at hr' ⊢
          cases hE : pE M.tail with
          | inl g =>
            rw [hE] at hr'
            cases hr'
            show MF h mjC g.1 g.2 _
            exact MS_to hF (by decide) (fun h' f q => no x h' f q) k
          | inr pp2 =>
            obtain ⟨e, M2⟩ := pp2
            rw [hE] at hr'
            have gE := pE_good (Lok_tl gP) hE
            intro h1 rb f1 e21 M1
            have S1 := FI_St f1 hS rfl
            have F1 : FM h0 h1 := FI_trans hF (FI_mono f1 (by decide) (by decide) (by decide))
            rw [show ts ++ zk p ++ [(6, pw M)] ++ zk e = ts ++ (zk p ++ (6, pw M) :: zk e) by simp] at M1
            have hl1 := M1.2.2.2.2.2.2.2
            have U1 : Mu h1 (ts ++ (zk p ++ (6, pw M) :: zk e)).length b c o := Mu_FI hU0 f1 rfl rfl rfl rfl rfl (by simp; omega) (by omega)
            refine ss_X4_readStep_157 S1 (ip e21 ?_)
            refine ss_X4_readStep_172 S1 ?_
            refine rs_end (q := pq L) (more := 1) (self := zg p == 1 && zhas (zn (zl p)) e) (s := zB (130 + pw M) p e) hS0 F1 M1.1 M1.2.1 hl1 U1 hv M1.2.2.2.2.2.1 M1.2.2.2.1 M1.2.2.2.2.2.2.1 M1.2.2.2.2.1 ?_ (by decide) hr' ?_ k
            · unfold pP at hP
              cases q1 : phs 1 L with
              | true =>
                rw [q1, if_pos rfl] at hP
                cases hP
                have x26 := (Lok_hd hLk).1 q1
                refine Or.inr (Or.inl ⟨pw L, x26, hx1 q1, rfl, rfl, ?_⟩)
                rw [zbits_has e 0 _ gE.2.1 x26]
                rfl
              | false =>
                refine Or.inl ⟨hx0 q1, rfl, ?_⟩
                rw [q1, if_neg (by decide)] at hP
                split at hP
                · split at hP
                  · split at hP
                    · cases hP
                    · split at hP
                      · cases hP; rfl
                      · cases hP
                  · cases hP
                · cases hP
            · have hw : pw M = 0 ∨ pw M = 1 ∨ pw M = 2 ∨ pw M = 4 ∨ pw M = 5 := by omega
              rcases hw with y | y | y | y | y <;> rw [y] <;> show zk p ++ _ :: (zk e ++ [(7, 59)]) = _ <;> simp
      · rw [if_neg p6] at hr' ⊢
        cases hr'
        exact MS_to hF (by decide) (fun h' f q => no x h' f q) k
  refine ss_X4_readStep_121 hS (ip (by decide) ?_)
  rw [z2]
  cases q1 : phs 1 L with
  | true =>
    have y1 := (psr_phs (by decide)).mp q1
    refine ip (by rw [y1]; rfl) ?_
    rw [z3 (by omega)]
    exact k151 _ (fun _ => rfl) (fun z => by rw [q1] at z; cases z)
  | false =>
    refine im (fun z => by rw [(psr_phs (by decide)).mpr (by omega)] at q1; cases q1) ?_
    exact k151 (-1) (fun z => by rw [q1] at z; cases z) (fun _ => rfl)
def kyv (L : List zTk) : Int := if phs 5 L = true then (pw L : Nat) else -1
theorem rs_one {d : Nat} {Q : qt} {h0 h : hp} {L : List zTk} {ts : List (Nat × Nat)} {b c o : Nat} {v1 v2 : Int} {v3 v4 v5 v6 v7 : av} {r : zRs} (hS0 : St h0) (hF : FM h0 h) (hM : M1s h L ts b c o) (hLk : Lok L) (hv : v1 = hI h0 116 1 - (pq L : Nat)) (hB : (phs 1 L || phs 3 L) = true ∨ (phs 5 L = true ∧ (pw L ≤ 7 ∨ pw L = 14))) (hd : 57 ≤ d) (hr : pOne c o L = some r) (k : SM h0 ts b r Q) : Wp d C_X4_readStep Q 121 [vR (some 116), vI v1, vI v2, v3, v4, v5, v6, v7] [vI (kyv L)] h := by
  have hS := FI_St hF hS0 rfl
  unfold pOne at hr
  by_cases p13 : (phs 1 L || phs 3 L) = true
  · rw [if_pos p13] at hr
    have : phs 5 L = false := by
      cases L with
      | nil => rfl
      | cons a L => obtain ⟨q, s, w⟩ := a; simp [phs] at p13 ⊢; omega
    unfold kyv
    rw [if_neg (by rw [this]; decide)]
    exact rs_chg hS0 hF hM hLk hv p13 hd hr k
  · rw [if_neg p13] at hr
    obtain ⟨p5, hw⟩ := hB.resolve_left p13
    unfold kyv
    rw [if_pos p5]
    obtain ⟨d, rfl⟩ : ∃ e, d = e + 2 := ⟨d - 2, by omega⟩
    refine rs_key hS hM p5 fun h1 f1 M1 U1 => ?_
    have F1 : FM h0 h1 := FI_trans hF (FM_FE f1)
    have S1 := FI_St F1 hS0 rfl
    by_cases w0 : pw L = 0 ∨ pw L = 1 ∨ pw L = 14
    · rw [if_pos w0] at hr
      refine ss_X4_readStep_181 S1 ?_
      by_cases w1 : pw L = 14
      · exact ip (by omega) (ip (by omega) (rs_nam hS0 F1 w0 M1 U1 hLk hv (by omega) hr k))
      · exact im (by omega) (rs_nam hS0 F1 w0 M1 U1 hLk hv (by omega) hr k)
    rw [if_neg w0] at hr
    by_cases w2 : pw L = 2 ∨ pw L = 3
    · rw [if_pos w2] at hr
      exact rs_push hS0 F1 w2 M1 U1 hLk hv (by omega) hr k
    rw [if_neg w2] at hr
    by_cases w4 : pw L = 4 ∨ pw L = 5
    · rw [if_pos w4] at hr
      exact rs_new hS0 F1 w4 M1 U1 hLk hv (by omega) hr k
    rw [if_neg w4] at hr
    exact rs_call hS0 F1 (by omega) M1 U1 hLk hv (by omega) hr k
