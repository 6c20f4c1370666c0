/-! m: steps without others within -/
abbrev mjC : List Nat := [4, 5, 6, 7, 8, 11, 12, 13, 14, 15, 16, 21]
theorem MG_to {h0 h : hp} {mk mj : List Nat} {kd q : Nat} {Q Q1 : qt} (hF : FI [] mk [119, 120] h0 h) (h1 : mk.contains 1 = false) (hm : ∀ j ∈ mj, j ∈ mk) (hQ : ∀ h', FI [] mk [119, 120] h0 h' → Q (.inl (some (vI 0))) h' → Q1 (.inl (some (vI 0))) h') (k : MF h0 mk kd q Q) : MF h mj kd q Q1 :=
  fun h' f1 f2 f3 => hQ h' (FI_trans hF (FI_mono f1 (by decide) hm (by decide))) (k h' (FI_trans hF (FI_mono f1 (by decide) hm (by decide))) f2 (by rw [f3, FI_i hF (by unfold pG; rw [h1]; rfl)]))
def CM (h0 : hp) (ts : List (Nat × Nat)) (L : List zTk) (Q : qt) : Prop := match pP L with
  | .inl f => MF h0 mjC f.1 f.2 Q
  | .inr (p, M) => if phs 6 M then (if pw M = 3 then (match pP M.tail with
      | .inl f => MF h0 mjC f.1 f.2 Q
      | .inr (p2, M2) => ∀ h' nb rb, FI [] mjC [119, 120] h0 h' → hI h' 116 21 = 1 → Ms h' M2 (ts ++ zk p ++ [(6, 3)] ++ zk p2) 0 nb rb → Q (.inl (some (vI 1))) h')
    else (match pE M.tail with
      | .inl f => MF h0 mjC f.1 f.2 Q
      | .inr (e, M2) => ∀ h' rb, FI [] mjC [119, 120] h0 h' → hI h' 116 21 = 0 → Ms h' M2 (ts ++ zk p ++ [(6, pw M)] ++ zk e) 0 (zbits e) rb → Q (.inl (some (vI 1))) h'))
    else MF h0 mjC 1 (pq M) Q
theorem Ms_sI {h : hp} {L : List zTk} {ts : List (Nat × Nat)} {w nb rb : Nat} (k : Ms h L ts w nb rb) (x : Int) : Ms (sI h 116 21 x) L ts w nb rb := by
  obtain ⟨⟨p, u, a1, a2, a3⟩, ⟨b1, b2⟩, c1, c2, c3, c4⟩ := k
  exact ⟨⟨p, u, by rw [hI_sI, if_neg (by omega)]; exact a1, Mq_sI a2 (by omega), a3⟩, ⟨by rw [hI_sI, if_neg (by omega)]; exact b1, fun j hj => by rw [hI_sI, if_neg (by omega), hI_sI, if_neg (by omega)]; exact b2 j hj⟩, by rw [hI_sI, if_neg (by omega)]; exact c1, by rw [hI_sI, if_neg (by omega)]; exact c2, by rw [hI_sI, if_neg (by omega)]; exact c3, c4⟩
theorem Ms_n0 {h : hp} {L : List zTk} {ts : List (Nat × Nat)} {w nb rb : Nat} (k : Ms h L ts w nb rb) : Ms (sI h 116 14 0) L ts w 0 rb := by
  obtain ⟨⟨p, u, a1, a2, a3⟩, ⟨b1, b2⟩, c1, c2, c3, c4, c5, c6⟩ := k
  exact ⟨⟨p, u, by rw [hI_sI, if_neg (by omega)]; exact a1, Mq_sI a2 (by omega), a3⟩, ⟨by rw [hI_sI, if_neg (by omega)]; exact b1, fun j hj => by rw [hI_sI, if_neg (by omega), hI_sI, if_neg (by omega)]; exact b2 j hj⟩, by rw [hI_sI, if_neg (by omega)]; exact c1, by rw [hI_sI, if_pos ⟨rfl, rfl⟩]; rfl, by rw [hI_sI, if_neg (by omega)]; exact c3, by decide, c5, c6⟩
theorem Lz_sI {h : hp} {L : List zTk} (k : Lz h L) (v : Int) : Lz (sI h 116 21 v) L := by
  obtain ⟨u, ⟨b, h4, h5, hq, hm⟩, e⟩ := k
  refine ⟨u, ⟨b, by rw [hI_sI, if_neg (by omega)]; exact h4, by rw [hI_sI, if_neg (by omega)]; exact h5, Mq_sI hq (by omega), ?_⟩, e⟩
  cases u with
  | nil => exact ⟨by rw [hI_sI, if_neg (by omega)]; exact hm.1, by rw [hI_sI, if_neg (by omega)]; exact hm.2⟩
  | cons c r =>
    obtain ⟨m1, m2, m3, e2, m4, m5⟩ := hm
    exact ⟨m1, by rw [hI_sI, if_neg (by omega)]; exact m2, fun q => by rw [hI_sI, if_neg (by omega)]; exact m3 q, e2, by rw [hI_sI, if_neg (by omega)]; exact m4, Mq_sI m5 (by omega)⟩
theorem c_readChange {d : Nat} {Q : qt} {h : hp} {L : List zTk} {ts : List (Nat × Nat)} {nb rb : Nat} (hS : St h) (hM : Ms h L ts 0 nb rb) (hd : 57 ≤ d) (k : CM h ts L Q) : Wc d 121 [vR (some 116)] h Q := by
  obtain ⟨d, rfl⟩ : ∃ e, d = e + 56 + 1 := ⟨d - 57, by omega⟩
  refine se_X4_readChange hS ?_
  have S0 : St (sI h 116 21 0) := St_sI hS (by omega)
  have F0 : FI [] mjC [119, 120] h (sI h 116 21 0) := FI_sI (FI_refl h) rfl
  unfold CM at k
  refine c_readP S0 (Ms_sI hM 0) (by omega) ?_
  cases hP : pP L with
  | inl g =>
    rw [hP] at k
    exact PM_inl (MG_to F0 rfl (by decide) (fun h' f q => ss_X4_readChange_9 (FI_St f hS rfl) (ip rfl q)) k)
  | inr pp =>
    obtain ⟨p, M⟩ := pp
    rw [hP] at k
    dsimp only at k
    intro h1 nb1 rb1 f1 M1
    have M1' : Ms h1 M (ts ++ zk p) 0 nb1 rb1 := M1
    have F1 : FI [] mjC [119, 120] h h1 := FI_trans F0 (FI_mono f1 (by decide) (by decide) (by decide))
    have S1 := FI_St F1 hS rfl
    refine ss_X4_readChange_9 S1 (im (by decide) ?_)
    refine c_look S1 M1'.1 fun h2 f2 l2 => ?_
    have S2 := FI_St f2 S1 rfl
    have M2 := Ms_is M1' f2 l2
    have F2 : FI [] mjC [119, 120] h h2 := FI_trans F1 (FI_mono f2 (by decide) (by decide) (by decide))
    refine ss_X4_readChange_18 S2 ?_
    obtain ⟨z1, z2, z3, z4⟩ := Lz_un l2
    rw [z2]
    by_cases p6 : phs 6 M = true
    · rw [if_pos p6] at k
      have q6 := (psr_phs (by decide)).mp p6
      have hne := (phs_t p6).1
      refine ip (by rw [q6]; rfl) ?_
      rw [z3 (by omega)]
      by_cases w3 : pw M = 3
      · rw [if_pos w3] at k
        refine ip (by omega) ?_
        have S3 : St (sI h2 116 21 1) := St_sI S2 (by omega)
        have M3 := Ms_sI M2 1
        refine c_takeL S3 (Lz_sI l2 1) (by omega) M3.2.1 (Ms_len M3 hne) fun h3 f3 l3 n3 => ?_
        have S4 := FI_St f3 S3 rfl
        rw [q6, w3] at n3
        have M4 := Ms_take M3 hne f3 l3 n3
        have F3 : FI [] mjC [119, 120] h h3 := FI_trans (FI_sI F2 rfl) (FI_mono f3 (by decide) (by decide) (by decide))
        have e21 : hI h3 116 21 = 1 := by rw [FI_i f3 rfl, hI_sI, if_pos ⟨rfl, rfl⟩]
        refine ss_X4_readChange_58 S4 ?_
        rw [e21]
        refine im (by decide) ?_
        have S5 : St (sI h3 116 14 0) := St_sI S4 (by omega)
        have F5 : FI [] mjC [119, 120] h (sI h3 116 14 0) := FI_sI F3 rfl
        refine c_readP S5 (Ms_n0 M4) (by omega) ?_
        cases hP2 : pP M.tail with
        | inl g =>
          rw [hP2] at k
          exact PM_inl (MG_to F5 rfl (by decide) (fun h' f q => ss_X4_readChange_74 (FI_St f hS rfl) ⟨Or.inl rfl, q⟩) k)
        | inr pp2 =>
          obtain ⟨p2, M5⟩ := pp2
          rw [hP2] at k
          intro h6 nb6 rb6 f6 M6
          have M6' : Ms h6 M5 (ts ++ zk p ++ [(6, 3)] ++ zk p2) 0 nb6 rb6 := M6
          have F6 : FI [] mjC [119, 120] h h6 := FI_trans F5 (FI_mono f6 (by decide) (by decide) (by decide))
          refine ss_X4_readChange_74 (FI_St F6 hS rfl) ⟨Or.inr rfl, ?_⟩
          exact k h6 nb6 rb6 F6 (by rw [FI_i f6 rfl, hI_sI, if_neg (by omega)]; exact e21) M6'
      · rw [if_neg w3] at k
        refine im (by omega) ?_
        have S3 : St (sI h2 116 21 0) := St_sI S2 (by omega)
        have M3 := Ms_sI M2 0
        refine c_takeL S3 (Lz_sI l2 0) (by omega) M3.2.1 (Ms_len M3 hne) fun h3 f3 l3 n3 => ?_
        have S4 := FI_St f3 S3 rfl
        rw [q6] at n3
        have M4 := Ms_take M3 hne f3 l3 n3
        have F3 : FI [] mjC [119, 120] h h3 := FI_trans (FI_sI F2 rfl) (FI_mono f3 (by decide) (by decide) (by decide))
        have e21 : hI h3 116 21 = 0 := by rw [FI_i f3 rfl, hI_sI, if_pos ⟨rfl, rfl⟩]
        refine ss_X4_readChange_58 S4 ?_
        rw [e21]
        refine ip rfl ?_
        have S5 : St (sI h3 116 14 0) := St_sI S4 (by omega)
        have F5 : FI [] mjC [119, 120] h (sI h3 116 14 0) := FI_sI F3 rfl
        refine c_readE S5 (Ms_n0 M4) (by omega) ?_
        cases hE : pE M.tail with
        | inl g =>
          rw [hE] at k
          exact RM_inl (MG_to F5 rfl (by decide) (fun h' f q => ⟨Or.inl rfl, q⟩) k)
        | inr pp2 =>
          obtain ⟨e, M5⟩ := pp2
          rw [hE] at k
          intro h6 f6 M6
          have M6' : Ms h6 M5 (ts ++ zk p ++ [(6, pw M)] ++ zk e) 0 (0 ||| zbits e) (rb1 ||| zrows e) := M6
          rw [Nat.zero_or] at M6'
          have F6 : FI [] mjC [119, 120] h h6 := FI_trans F5 (FI_mono f6 (by decide) (by decide) (by decide))
          exact ⟨Or.inr rfl, k h6 _ F6 (by rw [FI_i f6 rfl, hI_sI, if_neg (by omega)]; exact e21) M6'⟩
    · rw [if_neg p6] at k
      refine im (fun z => p6 ((psr_phs (by decide)).mpr (by omega))) ?_
      refine se_X4_fails S2 ?_
      refine ⟨Or.inl rfl, k _ (FI_sI (FI_sI F2 rfl) rfl) ?_ ?_⟩
      · rw [hI_sI, if_neg (by omega), hI_sI, if_pos ⟨rfl, rfl⟩]; rfl
      · rw [hI_sI, if_pos ⟨rfl, rfl⟩, z1, FI_i f2 rfl, FI_i F1 rfl]
theorem rs_nam {d : Nat} {Q : qt} {h0 h : hp} {L : List zTk} {ts : List (Nat × Nat)} {b c o : Nat} {v1 v2 : Int} {v7 : av} {r : zRs} (hS0 : St h0) (hF : FM h0 h) (hk : pw L = 0 ∨ pw L = 1 ∨ pw L = 14) (hM : Ms h L.tail (ts ++ [(5, pw L)]) 0 0 0) (hU0 : Mu h (ts ++ [(5, pw L)]).length b c o) (hLk : Lok L) (hv : v1 = hI h0 116 1 - (pq L : Nat)) (hd : 54 ≤ d) (hr : (if phs 1 L.tail then qis 7 61 L.tail.tail fun M => qE (pE M) fun e M2 => qEnd (pq L) (pw L != 14 && zhas (pw L.tail) e) 1 c o (zB (100 + pw L) (zL (pw L.tail)) e) M2 else qno 1 L.tail) = some r) (k : SM h0 ts b r Q) : Wp d C_X4_readStep Q 192 [vR (some 116), vI v1, vI v2, vI (pw L : Nat), vI (-1), vI (-1), vI 1, v7] [] h := by
  obtain ⟨d, rfl⟩ : ∃ e, d = e + 8 := ⟨d - 8, by omega⟩
  have hS := FI_St hF hS0 rfl
  refine ss_X4_readStep_192 hS ?_
  refine c_look hS hM.1 fun h1 f1 l1 => ?_
  have S1 := FI_St f1 hS rfl
  have M1 := Ms_is hM f1 l1
  have F1 : FM h0 h1 := FI_trans hF (FI_mono f1 (by decide) (by decide) (by decide))
  have U1 := Mu_FI hU0 f1 rfl rfl rfl rfl rfl (Nat.le_refl _) (by have := M1.2.2.2.2.2.2.2; omega)
  have T1 := Lok_tl hLk
  obtain ⟨z1, z2, z3, z4⟩ := Lz_un l1
  have k218 : ∀ v4 : Int, (phs 1 L.tail = true → (pw L = 14 ∧ v4 = -1) ∨ (pw L ≠ 14 ∧ v4 = (pw L.tail : Nat))) → Wp (d + 8) C_X4_readStep Q 218 [vR (some 116), vI v1, vI v2, vI (pw L : Nat), vI (-1), vI (-1), vI 1, v7] [vI v4] h1 := by
    intro v4 hv4
    refine ss_X4_readStep_218 S1 ?_
    refine c_wantsS (s := 1) S1 (by decide) (Lz_Ly l1) M1.2.1 (Ms_len M1) (fun p1 h2 f2 l2 n2 => ?_) (fun p1 => ?_)
    · rw [if_pos p1] at hr
      have S2 := FI_St f2 S1 rfl
      have F2 : FM h0 h2 := FI_trans F1 (FI_mono f2 (by decide) (by decide) (by decide))
      have M2 : Ms h2 L.tail.tail (ts ++ [(5, pw L)] ++ [(1, pw L.tail)]) 0 0 0 := Ms_end M1 (phs_t p1).1 f2 rfl rfl rfl l2 n2
      refine ss_X4_readStep_225 S2 (im (by decide) ?_)
      unfold qis at hr
      refine c_wants (s := 7) (w := 61) S2 (by decide) l2 n2 (Ms_len M2) (fun p2 h3 f3 l3 n3 => ?_) (fun p2 => ?_)
      · rw [if_pos p2] at hr
        dsimp only at hr
        have S3 := FI_St f3 S2 rfl
        have F3 : FM h0 h3 := FI_trans F2 (FI_mono f3 (by decide) (by decide) (by decide))
        have M3 : Ms h3 L.tail.tail.tail (ts ++ [(5, pw L)] ++ [(1, pw L.tail)] ++ [(7, 61)]) 0 0 0 := Ms_end M2 (pis_t p2).1 f3 rfl rfl rfl l3 n3
        refine ss_X4_readStep_236 S3 (im (by decide) ?_)
        refine c_readE S3 M3 (by omega) ?_
        cases hE : pE L.tail.tail.tail with
        | inl g =>
          rw [hE] at hr
          cases hr
          exact RM_inl (MS_to F3 (by decide) (fun h' f q => ss_X4_readStep_243 (FI_St f hS0 rfl) (ip rfl (ss_X4_readStep_250 (FI_St f hS0 rfl) (ss_X4_readStep_251 (FI_St f hS0 rfl) (rs_no (FI_St f hS0 rfl) q))))) k)
        | inr pp =>
          obtain ⟨e, M⟩ := pp
          rw [hE] at hr
          have gE := pE_good (Lok_tl (Lok_tl T1)) hE
          intro h4 f4 M4
          have M4' : Ms h4 M (ts ++ [(5, pw L)] ++ [(1, pw L.tail)] ++ [(7, 61)] ++ zk e) 0 (0 ||| zbits e) (0 ||| zrows e) := M4
          rw [Nat.zero_or, Nat.zero_or, show ts ++ [(5, pw L)] ++ [(1, pw L.tail)] ++ [(7, 61)] ++ zk e = ts ++ ((5, pw L) :: (1, pw L.tail) :: (7, 61) :: zk e) by simp] at M4'
          have S4 := FI_St f4 S3 rfl
          have F4 : FM h0 h4 := FI_trans F3 (FM_FE f4)
          have hl4 := M4'.2.2.2.2.2.2.2
          have U4 : Mu h4 (ts ++ ((5, pw L) :: (1, pw L.tail) :: (7, 61) :: zk e)).length b c o := Mu_FI (Mu_FI (Mu_FI U1 f2 rfl rfl rfl rfl rfl (Nat.le_refl _) (by have := M1.2.2.2.2.2.2.2; omega)) f3 rfl rfl rfl rfl rfl (Nat.le_refl _) (by have := M1.2.2.2.2.2.2.2; omega)) f4 rfl rfl rfl rfl rfl (by simp) (by omega)
          refine ss_X4_readStep_243 S4 (im (by decide) ?_)
          refine ss_X4_readStep_251 S4 ?_
          have x26 : pw L.tail < 26 := (Lok_hd T1).1 p1
          refine rs_end (q := pq L) (more := 1) (self := pw L != 14 && zhas (pw L.tail) e) (s := zB (100 + pw L) (zL (pw L.tail)) e) hS0 F4 M4'.1 M4'.2.1 hl4 U4 hv M4'.2.2.2.2.2.1 M4'.2.2.2.1 M4'.2.2.2.2.2.2.1 M4'.2.2.2.2.1 ?_ (by decide) hr ?_ k
          · rcases hv4 p1 with ⟨y1, y2⟩ | ⟨y1, y2⟩
            · exact Or.inl ⟨y2, rfl, by rw [y1]; rfl⟩
            · refine Or.inr (Or.inl ⟨pw L.tail, x26, y2, rfl, rfl, ?_⟩)
              rw [zbits_has e 0 _ gE.2.1 x26, show (pw L != 14) = true by simpa using y1, Bool.true_and]
          · rcases hk with y | y | y <;> rw [y] <;> rfl
      · rw [if_neg (by rw [p2]; decide)] at hr
        cases hr
        exact MS_to F2 (by decide) (fun h' f q => ss_X4_readStep_236 (FI_St f hS0 rfl) (ip rfl (ss_X4_readStep_250 (FI_St f hS0 rfl) (ss_X4_readStep_251 (FI_St f hS0 rfl) (rs_no (FI_St f hS0 rfl) q))))) k
    · rw [if_neg (by rw [p1]; decide)] at hr
      cases hr
      exact MS_to F1 (by decide) (fun h' f q => ss_X4_readStep_225 (FI_St f hS0 rfl) (ip rfl (ss_X4_readStep_250 (FI_St f hS0 rfl) (ss_X4_readStep_251 (FI_St f hS0 rfl) (rs_no (FI_St f hS0 rfl) q))))) k
  refine ss_X4_readStep_196 S1 ?_
  rw [z2]
  by_cases p1 : phs 1 L.tail = true
  · have q1 := (psr_phs (by decide)).mp p1
    refine ip (by rw [q1]; rfl) ?_
    by_cases w14 : pw L = 14
    · refine ip (by omega) ?_
      refine ss_X4_readStep_217 S1 ?_
      exact k218 (-1) (fun _ => Or.inl ⟨w14, rfl⟩)
    · refine im (by omega) ?_
      rw [z3 (by omega)]
      exact k218 _ (fun _ => Or.inr ⟨w14, rfl⟩)
  · refine im (fun z => p1 ((psr_phs (by decide)).mpr (by omega))) ?_
    refine ss_X4_readStep_217 S1 ?_
    exact k218 (-1) (fun z => absurd z p1)
theorem rs_push {d : Nat} {Q : qt} {h0 h : hp} {L : List zTk} {ts : List (Nat × Nat)} {b c o : Nat} {v1 v2 : Int} {v7 : av} {r : zRs} (hS0 : St h0) (hF : FM h0 h) (hk : pw L = 2 ∨ pw L = 3) (hM : Ms h L.tail (ts ++ [(5, pw L)]) 0 0 0) (hU0 : Mu h (ts ++ [(5, pw L)]).length b c o) (hLk : Lok L) (hv : v1 = hI h0 116 1 - (pq L : Nat)) (hd : 54 ≤ d) (hr : (if phs 1 L.tail then (if phs 4 L.tail.tail then qEnd (pq L) false 1 c o (zB (100 + pw L) (zL (pw L.tail)) (zL (pw L.tail.tail))) L.tail.tail.tail else qno 1 L.tail.tail) else qno 1 L.tail) = some r) (k : SM h0 ts b r Q) : Wp d C_X4_readStep Q 181 [vR (some 116), vI v1, vI v2, vI (pw L : Nat), vI (-1), vI (-1), vI 1, v7] [] h := by
  obtain ⟨d, rfl⟩ : ∃ e, d = e + 8 := ⟨d - 8, by omega⟩
  have hS := FI_St hF hS0 rfl
  refine ss_X4_readStep_181 hS (ip (by omega) (im (by omega) (im (by omega) ?_)))
  refine c_wantsS (s := 1) hS (by decide) hM.1 hM.2.1 (Ms_len hM) (fun p1 h2 f2 l2 n2 => ?_) (fun p1 => ?_)
  · rw [if_pos p1] at hr
    have S2 := FI_St f2 hS rfl
    have F2 : FM h0 h2 := FI_trans hF (FI_mono f2 (by decide) (by decide) (by decide))
    have M2 : Ms h2 L.tail.tail (ts ++ [(5, pw L)] ++ [(1, pw L.tail)]) 0 0 0 := Ms_end hM (phs_t p1).1 f2 rfl rfl rfl l2 n2
    refine ss_X4_readStep_266 S2 (im (by decide) ?_)
    refine c_wantsS (s := 4) S2 (by decide) l2 n2 (Ms_len M2) (fun p2 h3 f3 l3 n3 => ?_) (fun p2 => ?_)
    · rw [if_pos p2] at hr
      have S3 := FI_St f3 S2 rfl
      have F3 : FM h0 h3 := FI_trans F2 (FI_mono f3 (by decide) (by decide) (by decide))
      have M3 : Ms h3 L.tail.tail.tail (ts ++ [(5, pw L)] ++ [(1, pw L.tail)] ++ [(4, pw L.tail.tail)]) 0 0 0 := Ms_end M2 (phs_t p2).1 f3 rfl rfl rfl l3 n3
      rw [show ts ++ [(5, pw L)] ++ [(1, pw L.tail)] ++ [(4, pw L.tail.tail)] = ts ++ [(5, pw L), (1, pw L.tail), (4, pw L.tail.tail)] by simp] at M3
      have hl3 := M3.2.2.2.2.2.2.2
      refine ss_X4_readStep_274 S3 (im (by decide) ?_)
      refine ss_X4_readStep_282 S3 ?_
      have U3 : Mu h3 (ts ++ [(5, pw L), (1, pw L.tail), (4, pw L.tail.tail)]).length b c o := Mu_FI (Mu_FI hU0 f2 rfl rfl rfl rfl rfl (Nat.le_refl _) (by have := hM.2.2.2.2.2.2.2; omega)) f3 rfl rfl rfl rfl rfl (by simp) (by omega)
      refine rs_end (q := pq L) (more := 1) (self := false) (s := zB (100 + pw L) (zL (pw L.tail)) (zL (pw L.tail.tail))) hS0 F3 M3.1 M3.2.1 hl3 U3 hv M3.2.2.2.2.2.1 M3.2.2.2.1 M3.2.2.2.2.2.2.1 M3.2.2.2.2.1 (Or.inl ⟨rfl, rfl, rfl⟩) (by decide) hr ?_ k
      rcases hk with y | y <;> rw [y] <;> rfl
    · rw [if_neg (by rw [p2]; decide)] at hr
      cases hr
      exact MS_to F2 (by decide) (fun h' f q => ss_X4_readStep_274 (FI_St f hS0 rfl) (ip rfl (ss_X4_readStep_281 (FI_St f hS0 rfl) (ss_X4_readStep_282 (FI_St f hS0 rfl) (rs_no (FI_St f hS0 rfl) q))))) k
  · rw [if_neg (by rw [p1]; decide)] at hr
    cases hr
    exact MS_to hF (by decide) (fun h' f q => ss_X4_readStep_266 (FI_St f hS0 rfl) (ip rfl (ss_X4_readStep_281 (FI_St f hS0 rfl) (ss_X4_readStep_282 (FI_St f hS0 rfl) (rs_no (FI_St f hS0 rfl) q))))) k
theorem rs_call {d : Nat} {Q : qt} {h0 h : hp} {L : List zTk} {ts : List (Nat × Nat)} {b c o : Nat} {v1 v2 : Int} {v7 : av} {r : zRs} (hS0 : St h0) (hF : FM h0 h) (hk : pw L = 6 ∨ pw L = 7) (hM : Ms h L.tail (ts ++ [(5, pw L)]) 0 0 0) (hU0 : Mu h (ts ++ [(5, pw L)]).length b c o) (hLk : Lok L) (hv : v1 = hI h0 116 1 - (pq L : Nat)) (hd : 54 ≤ d) (hr : (if phs 2 L.tail then (if 10 ≤ pw L.tail then qno 5 L.tail else qEnd (pq L) false 1 c o (zB (100 + pw L) (zL (pw L.tail)) (zL 0)) L.tail.tail) else qno 1 L.tail) = some r) (k : SM h0 ts b r Q) : Wp d C_X4_readStep Q 181 [vR (some 116), vI v1, vI v2, vI (pw L : Nat), vI (-1), vI (-1), vI 1, v7] [] h := by
  obtain ⟨d, rfl⟩ : ∃ e, d = e + 8 := ⟨d - 8, by omega⟩
  have hS := FI_St hF hS0 rfl
  refine ss_X4_readStep_181 hS (ip (by omega) (im (by omega) (ip (by omega) (ip (by omega) (im (by omega) ?_)))))
  refine c_readCalled hS hM (fun p1 p2 h2 f2 M2 => ?_) (fun p1 p2 => ?_) (fun p1 => ?_)
  · rw [if_pos p1, if_neg (by omega)] at hr
    have S2 := FI_St f2 hS rfl
    have F2 : FM h0 h2 := FI_trans hF (FM_FE f2)
    rw [show ts ++ [(5, pw L)] ++ [(2, pw L.tail)] = ts ++ [(5, pw L), (2, pw L.tail)] by simp] at M2
    have hl2 := M2.2.2.2.2.2.2.2
    refine ss_X4_readStep_356 S2 ?_
    have U2 : Mu h2 (ts ++ [(5, pw L), (2, pw L.tail)]).length b c o := Mu_FI hU0 f2 rfl rfl rfl rfl rfl (by simp) (by omega)
    refine rs_end (q := pq L) (more := 1) (self := false) (s := zB (100 + pw L) (zL (pw L.tail)) (zL 0)) hS0 F2 M2.1 M2.2.1 hl2 U2 hv M2.2.2.2.2.2.1 M2.2.2.2.1 M2.2.2.2.2.2.2.1 M2.2.2.2.2.1 (Or.inl ⟨rfl, rfl, rfl⟩) (by decide) hr ?_ k
    rcases hk with y | y <;> rw [y] <;> rfl
  · rw [if_pos p1, if_pos p2] at hr
    cases hr
    exact MS_to hF (by decide) (fun h' f q => ss_X4_readStep_356 (FI_St f hS0 rfl) (rs_no (FI_St f hS0 rfl) q)) k
  · rw [if_neg (by rw [p1]; decide)] at hr
    cases hr
    exact MS_to hF (by decide) (fun h' f q => ss_X4_readStep_356 (FI_St f hS0 rfl) (rs_no (FI_St f hS0 rfl) q)) k
theorem rs_new {d : Nat} {Q : qt} {h0 h : hp} {L : List zTk} {ts : List (Nat × Nat)} {b c o : Nat} {v1 v2 : Int} {v7 : av} {r : zRs} (hS0 : St h0) (hF : FM h0 h) (hk : pw L = 4 ∨ pw L = 5) (hM : Ms h L.tail (ts ++ [(5, pw L)]) 0 0 0) (hU0 : Mu h (ts ++ [(5, pw L)]).length b c o) (hLk : Lok L) (hv : v1 = hI h0 116 1 - (pq L : Nat)) (hd : 54 ≤ d) (hr : (if phs 3 L.tail then (if phs 5 L.tail.tail && decide (17 ≤ pw L.tail.tail) then qE (pE L.tail.tail.tail) fun e M => qEnd (pq L) (zhas (26 + pw L.tail) e) 1 c o (zB (100 + pw L) (zL (pw L.tail)) (zB (143 + pw L.tail.tail) e (zL 0))) M else qno 1 L.tail.tail) else qno 1 L.tail) = some r) (k : SM h0 ts b r Q) : Wp d C_X4_readStep Q 181 [vR (some 116), vI v1, vI v2, vI (pw L : Nat), vI (-1), vI (-1), vI 1, v7] [] h := by
  obtain ⟨d, rfl⟩ : ∃ e, d = e + 8 := ⟨d - 8, by omega⟩
  have hS := FI_St hF hS0 rfl
  refine ss_X4_readStep_181 hS (ip (by omega) (im (by omega) (ip (by omega) (im (by omega) ?_))))
  refine c_look hS hM.1 fun h1 f1 l1 => ?_
  have S1 := FI_St f1 hS rfl
  have M1 := Ms_is hM f1 l1
  have F1 : FM h0 h1 := FI_trans hF (FI_mono f1 (by decide) (by decide) (by decide))
  have U1 := Mu_FI hU0 f1 rfl rfl rfl rfl rfl (Nat.le_refl _) (by have := M1.2.2.2.2.2.2.2; omega)
  have T1 := Lok_tl hLk
  obtain ⟨z1, z2, z3, z4⟩ := Lz_un l1
  have k312 : ∀ v5 : Int, (phs 3 L.tail = true → v5 = (pw L.tail : Nat)) → Wp (d + 8) C_X4_readStep Q 312 [vR (some 116), vI v1, vI v2, vI (pw L : Nat), vI (-1), vI (-1), vI 1, v7] [vI v5] h1 := by
    intro v5 hv5
    refine ss_X4_readStep_312 S1 ?_
    refine c_wantsS (s := 3) S1 (by decide) (Lz_Ly l1) M1.2.1 (Ms_len M1) (fun p1 h2 f2 l2 n2 => ?_) (fun p1 => ?_)
    · rw [if_pos p1] at hr
      have S2 := FI_St f2 S1 rfl
      have F2 : FM h0 h2 := FI_trans F1 (FI_mono f2 (by decide) (by decide) (by decide))
      have M2 : Ms h2 L.tail.tail (ts ++ [(5, pw L)] ++ [(3, pw L.tail)]) 0 0 0 := Ms_end M1 (phs_t p1).1 f2 rfl rfl rfl l2 n2
      refine ss_X4_readStep_319 S2 (im (by decide) ?_)
      refine c_readKind S2 M2 (fun p2 h3 f3 M3 => ?_) (fun p2 => ?_)
      · rw [if_pos p2] at hr
        have S3 := FI_St f3 S2 rfl
        have F3 : FM h0 h3 := FI_trans F2 (FM_FE f3)
        refine ss_X4_readStep_326 S3 (im (by decide) ?_)
        refine c_readE S3 M3 (by omega) ?_
        cases hE : pE L.tail.tail.tail with
        | inl g =>
          rw [hE] at hr
          cases hr
          exact RM_inl (MS_to F3 (by decide) (fun h' f q => ss_X4_readStep_333 (FI_St f hS0 rfl) (ip rfl (ss_X4_readStep_340 (FI_St f hS0 rfl) (ss_X4_readStep_341 (FI_St f hS0 rfl) (rs_no (FI_St f hS0 rfl) q))))) k)
        | inr pp =>
          obtain ⟨e, M⟩ := pp
          rw [hE] at hr
          have gE := pE_good (Lok_tl (Lok_tl T1)) hE
          intro h4 f4 M4
          have M4' : Ms h4 M (ts ++ [(5, pw L)] ++ [(3, pw L.tail)] ++ [(5, pw L.tail.tail)] ++ zk e) 0 (0 ||| zbits e) (0 ||| zrows e) := M4
          rw [Nat.zero_or, Nat.zero_or, show ts ++ [(5, pw L)] ++ [(3, pw L.tail)] ++ [(5, pw L.tail.tail)] ++ zk e = ts ++ ((5, pw L) :: (3, pw L.tail) :: (5, pw L.tail.tail) :: zk e) by simp] at M4'
          have S4 := FI_St f4 S3 rfl
          have F4 : FM h0 h4 := FI_trans F3 (FM_FE f4)
          have hl4 := M4'.2.2.2.2.2.2.2
          have U4 : Mu h4 (ts ++ ((5, pw L) :: (3, pw L.tail) :: (5, pw L.tail.tail) :: zk e)).length b c o := Mu_FI (Mu_FI (Mu_FI U1 f2 rfl rfl rfl rfl rfl (Nat.le_refl _) (by have := M1.2.2.2.2.2.2.2; omega)) f3 rfl rfl rfl rfl rfl (Nat.le_refl _) (by have := M1.2.2.2.2.2.2.2; omega)) f4 rfl rfl rfl rfl rfl (by simp) (by omega)
          refine ss_X4_readStep_333 S4 (im (by decide) ?_)
          refine ss_X4_readStep_341 S4 ?_
          have x6 : pw L.tail < 6 := (Lok_hd T1).2.1 p1
          refine rs_end (q := pq L) (more := 1) (self := zhas (26 + pw L.tail) e) (s := zB (100 + pw L) (zL (pw L.tail)) (zB (143 + pw L.tail.tail) e (zL 0))) hS0 F4 M4'.1 M4'.2.1 hl4 U4 hv M4'.2.2.2.2.2.1 M4'.2.2.2.1 M4'.2.2.2.2.2.2.1 M4'.2.2.2.2.1 ?_ (by decide) hr ?_ k
          · exact Or.inr (Or.inr ⟨pw L.tail, by omega, rfl, hv5 p1, by rw [zrows_has e 0 _ gE.2.1]⟩)
          · have p2' : phs 5 L.tail.tail = true ∧ 17 ≤ pw L.tail.tail := by simpa using p2
            have w22 := (Lok_hd (Lok_tl T1)).2.2.2.2.1 p2'.1
            have ez : zk (zB (143 + pw L.tail.tail) e (zL 0)) = (5, pw L.tail.tail) :: zk e := by
              generalize hw : pw L.tail.tail = w at w22 p2'
              have hw2 : w = 17 ∨ w = 18 ∨ w = 19 ∨ w = 20 ∨ w = 21 := by omega
              rcases hw2 with y | y | y | y | y <;> subst y <;> rfl
            have ez2 : zk (zB (100 + pw L) (zL (pw L.tail)) (zB (143 + pw L.tail.tail) e (zL 0))) = (5, pw L) :: (3, pw L.tail) :: (zk (zB (143 + pw L.tail.tail) e (zL 0)) ++ [(7, 59)]) := by
              rcases hk with y | y <;> rw [y] <;> rfl
            rw [ez2, ez]
            rfl
      · rw [if_neg (by rw [p2]; decide)] at hr
        cases hr
        exact MS_to F2 (by decide) (fun h' f q => ss_X4_readStep_326 (FI_St f hS0 rfl) (ip rfl (ss_X4_readStep_340 (FI_St f hS0 rfl) (ss_X4_readStep_341 (FI_St f hS0 rfl) (rs_no (FI_St f hS0 rfl) q))))) k
    · rw [if_neg (by rw [p1]; decide)] at hr
      cases hr
      exact MS_to F1 (by decide) (fun h' f q => ss_X4_readStep_319 (FI_St f hS0 rfl) (ip rfl (ss_X4_readStep_340 (FI_St f hS0 rfl) (ss_X4_readStep_341 (FI_St f hS0 rfl) (rs_no (FI_St f hS0 rfl) q))))) k
  refine ss_X4_readStep_296 S1 ?_
  rw [z2]
  by_cases p1 : phs 3 L.tail = true
  · have q1 := (psr_phs (by decide)).mp p1
    refine ip (by rw [q1]; rfl) ?_
    rw [z3 (by omega)]
    exact k312 _ (fun _ => rfl)
  · refine im (fun z => p1 ((psr_phs (by decide)).mpr (by omega))) ?_
    exact k312 (-1) (fun z => absurd z p1)
