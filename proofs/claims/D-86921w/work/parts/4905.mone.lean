/-! m READS STEPS -/
abbrev mjS : List Nat := [4, 5, 6, 7, 8, 11, 12, 13, 14, 15, 16, 17, 18, 19, 20, 21]
abbrev FM (h h' : hp) : Prop := FI [] mjS [119, 120] h h'
theorem FM_FE {h h' : hp} (f : FE h h') : FM h h' := FI_mono f (by decide) (by decide) (by decide)
/-- the counts: instructions, braces, steps (at most j), whether they are ordinary -/
def Mu (h : hp) (j b c o : Nat) : Prop := hI h 116 19 = (c : Nat) ∧ hI h 116 20 = (b : Nat) ∧ c ≤ 40 ∧ o ≤ 2 ∧ ∃ n : Nat, hI h 116 18 = (n : Nat) ∧ n ≤ j ∧ j ≤ 1601 ∧ (o = 2 → n = 0 ∧ hI h 116 17 = 0) ∧ (o ≠ 2 → n ≠ 0 ∧ hI h 116 17 = (o : Nat))
def Mt (h : hp) (L : List zTk) (ts : List (Nat × Nat)) (b c o : Nat) : Prop := Ly h L ∧ Nt h ts ∧ ts.length + L.length ≤ 1600 ∧ Mu h ts.length b c o ∧ (∃ nb : Nat, nb < 2 ^ 26 ∧ hI h 116 14 = (nb : Nat)) ∧ ∃ rb : Nat, rb < 2 ^ 26 ∧ hI h 116 15 = (rb : Nat)
def SM (h0 : hp) (ts : List (Nat × Nat)) (b : Nat) (r : zRs) (Q : qt) : Prop := match r with
  | .inl f => MF h0 mjS f.1 f.2 Q
  | .inr p => ∀ h', FM h0 h' → Mt h' p.2.1 (ts ++ zk p.1) b p.2.2.1 p.2.2.2 → Q (.inl (some (vI 1))) h'
theorem Mu_FI {h h' : hp} {mj as : List Nat} {j j2 b c o : Nat} (k : Mu h j b c o) (f : FI [] mj as h h') (h17 : mj.contains 17 = false) (h18 : mj.contains 18 = false) (h19 : mj.contains 19 = false) (h20 : mj.contains 20 = false) (ha : as.contains 116 = false) (hj : j ≤ j2) (hj2 : j2 ≤ 1601) : Mu h' j2 b c o := by
  obtain ⟨a1, a2, a3, a4, n, a5, a6, a7, a8, a9⟩ := k
  have e : ∀ i, mj.contains i = false → hI h' 116 i = hI h 116 i := fun i q => FI_i f (by unfold pG; rw [q, ha]; rfl)
  exact ⟨(e 19 h19).trans a1, (e 20 h20).trans a2, a3, a4, n, (e 18 h18).trans a5, by omega, hj2, fun q => ⟨(a8 q).1, (e 17 h17).trans (a8 q).2⟩, fun q => ⟨(a9 q).1, (e 17 h17).trans (a9 q).2⟩⟩
theorem MS_to {h0 h : hp} {mj : List Nat} {kd q : Nat} {Q Q1 : qt} (hF : FM h0 h) (hm : ∀ j ∈ mj, j ∈ mjS) (hQ : ∀ h', FM h0 h' → Q (.inl (some (vI 0))) h' → Q1 (.inl (some (vI 0))) h') (k : MF h0 mjS kd q Q) : MF h mj kd q Q1 :=
  fun h' f1 f2 f3 => hQ h' (FI_trans hF (FI_mono f1 (by decide) hm (by decide))) (k h' (FI_trans hF (FI_mono f1 (by decide) hm (by decide))) f2 (by rw [f3, FI_i hF rfl]))
theorem RM_inl {h0 : hp} {ts : List (Nat × Nat)} {w nb rb : Nat} {g : Nat × Nat} {Q : qt} (k : MF h0 mjE g.1 g.2 Q) : RM h0 ts w nb rb (.inl g) Q := k
theorem c_readE {d : Nat} {Q : qt} {h : hp} {L : List zTk} {ts : List (Nat × Nat)} {nb rb : Nat} (hS : St h) (hM : Ms h L ts 0 nb rb) (hd : 54 ≤ d) (k : RM h ts 0 nb rb (pE L) Q) : Wc d 128 [vR (some 116)] h Q :=
  (pmE _ 0 0 (zL 0) L _ (pE_eq L).1 (by omega) h h ts nb rb Q hS (FI_refl h) k d).1 rfl hM (by omega)
def PM (h0 : hp) (ts : List (Nat × Nat)) (r : zRes) (Q : qt) : Prop := match r with
  | .inl f => MF h0 mjE f.1 f.2 Q
  | .inr p => ∀ h' nb rb, FE h0 h' → Ms h' p.2 (ts ++ zk p.1) 0 nb rb → Q (.inl (some (vI 1))) h'
theorem PM_inl {h0 : hp} {ts : List (Nat × Nat)} {g : Nat × Nat} {Q : qt} (k : MF h0 mjE g.1 g.2 Q) : PM h0 ts (.inl g) Q := k
theorem c_readP {d : Nat} {Q : qt} {h : hp} {L : List zTk} {ts : List (Nat × Nat)} {nb rb : Nat} (hS : St h) (hM : Ms h L ts 0 nb rb) (hd : 56 ≤ d) (k : PM h ts (pP L) Q) : Wc d 122 [vR (some 116)] h Q := by
  obtain ⟨d, rfl⟩ : ∃ e, d = e + 55 + 1 := ⟨d - 56, by omega⟩
  refine se_X4_readP hS ?_
  refine c_look hS hM.1 fun h1 f1 l1 => ?_
  have S1 := FI_St f1 hS rfl
  have M1 := Ms_is hM f1 l1
  have F1 : FE h h1 := FI_mono f1 (by decide) (by decide) (by decide)
  refine ss_X4_readP_4 S1 ?_
  obtain ⟨z1, z2, z3, z4⟩ := Lz_un l1
  rw [z2]
  unfold pP at k
  by_cases p1 : phs 1 L = true
  · have q1 := (psr_phs (by decide)).mp p1
    rw [if_pos p1] at k
    refine ip (by rw [q1]; rfl) ?_
    have hne := (phs_t p1).1
    refine c_takeL S1 l1 (by omega) M1.2.1 (Ms_len M1 hne) fun h2 f2 l2 n2 => ?_
    refine ss_X4_readP_16 (FI_St f2 S1 rfl) ?_
    rw [q1] at n2
    exact k h2 nb rb (FI_trans F1 (FI_mono f2 (by decide) (by decide) (by decide))) (Ms_take M1 hne f2 l2 n2)
  · rw [if_neg p1] at k
    refine im (fun z => p1 ((psr_phs (by decide)).mpr (by omega))) ?_
    refine c_wantsS (s := 3) S1 (by decide) (Lz_Ly l1) M1.2.1 (Ms_len M1) (fun p3 h2 f2 l2 n2 => ?_) (fun p3 => ?_)
    · rw [if_pos p3] at k
      have hne := (phs_t p3).1
      have S2 := FI_St f2 S1 rfl
      have F2 : FE h h2 := FI_trans F1 (FI_mono f2 (by decide) (by decide) (by decide))
      have M2 : Ms h2 L.tail (ts ++ [(3, pw L)]) 0 nb rb := Ms_end M1 hne f2 rfl rfl rfl l2 n2
      refine ss_X4_readP_23 S2 ?_
      refine im (by decide) ?_
      refine c_wants (s := 7) (w := 91) S2 (by decide) l2 n2 (Ms_len M2) (fun p7 h3 f3 l3 n3 => ?_) (fun p7 => ?_)
      · rw [if_pos p7] at k
        have S3 := FI_St f3 S2 rfl
        have F3 : FE h h3 := FI_trans F2 (FI_mono f3 (by decide) (by decide) (by decide))
        have M3 : Ms h3 L.tail.tail (ts ++ [(3, pw L)] ++ [(7, 91)]) 0 nb rb := Ms_end M2 (pis_t p7).1 f3 rfl rfl rfl l3 n3
        refine ss_X4_readP_34 S3 ?_
        refine im (by decide) ?_
        refine c_readE S3 M3 (by omega) ?_
        cases hE : pE L.tail.tail with
        | inl g =>
          rw [hE] at k
          have k' : MF h mjE g.1 g.2 Q := k
          exact RM_inl (MF_to F3 (by decide) (fun h' f q => ss_X4_readP_43 (FI_St f hS rfl) (ip rfl q)) k')
        | inr pp =>
          obtain ⟨e, M⟩ := pp
          rw [hE] at k
          have k' : PM h ts (if pis 7 93 M then .inr (zB 3 (zL (pw L)) e, M.tail) else .inl (1, pq M)) Q := k
          intro h4 f4 M4
          have M4' : Ms h4 M (ts ++ [(3, pw L)] ++ [(7, 91)] ++ zk e) 0 (nb ||| zbits e) (rb ||| zrows e) := M4
          have S4 := FI_St f4 S3 rfl
          have F4 : FE h h4 := FI_trans F3 f4
          refine ss_X4_readP_43 S4 ?_
          refine im (by decide) ?_
          refine c_wants (s := 7) (w := 93) S4 (by decide) M4'.1 M4'.2.1 (Ms_len M4') (fun p9 h5 f5 l5 n5 => ?_) (fun p9 => ?_)
          · rw [p9, if_pos rfl] at k'
            have S5 := FI_St f5 S4 rfl
            refine ss_X4_readP_54 S5 ?_
            refine im (by decide) ?_
            have M5 : Ms h5 M.tail (ts ++ [(3, pw L)] ++ [(7, 91)] ++ zk e ++ [(7, 93)]) 0 (nb ||| zbits e) (rb ||| zrows e) := Ms_end M4' (pis_t p9).1 f5 rfl rfl rfl l5 n5
            refine k' h5 (nb ||| zbits e) (rb ||| zrows e) (FI_trans F4 (FI_mono f5 (by decide) (by decide) (by decide))) ?_
            have ez : ts ++ zk (zB 3 (zL (pw L)) e) = ts ++ [(3, pw L)] ++ [(7, 91)] ++ zk e ++ [(7, 93)] := by
              show ts ++ (3, pw L) :: (7, 91) :: (zk e ++ [(7, 93)]) = _
              simp
            show Ms h5 M.tail (ts ++ zk (zB 3 (zL (pw L)) e)) 0 _ _
            rw [ez]
            exact M5
          · rw [p9, if_neg (by decide)] at k'
            exact MF_to F4 (by decide) (fun h' f q => ss_X4_readP_54 (FI_St f hS rfl) (ip rfl q)) k'
      · rw [if_neg (by rw [p7]; decide)] at k
        exact MF_to F2 (by decide) (fun h' f q => ss_X4_readP_34 (FI_St f hS rfl) (ip rfl q)) k
    · rw [if_neg (by rw [p3]; decide)] at k
      exact MF_to F1 (by decide) (fun h' f q => ss_X4_readP_23 (FI_St f hS rfl) (ip rfl q)) k
/-- a kind of rows -/
theorem c_readKind {d : Nat} {Q : qt} {h : hp} {L : List zTk} {ts : List (Nat × Nat)} {nb rb : Nat} (hS : St h) (hM : Ms h L ts 0 nb rb) (k1 : (phs 5 L && decide (17 ≤ pw L)) = true → ∀ h', FE h h' → Ms h' L.tail (ts ++ [(5, pw L)]) 0 nb rb → Q (.inl (some (vI 1))) h') (k2 : (phs 5 L && decide (17 ≤ pw L)) = false → MF h mjE 1 (pq L) Q) : Wc (d + 8) 133 [vR (some 116)] h Q := by
  refine se_X4_readKind hS ?_
  refine c_look hS hM.1 fun h1 f1 l1 => ?_
  have S1 := FI_St f1 hS rfl
  have M1 := Ms_is hM f1 l1
  have F1 : FE h h1 := FI_mono f1 (by decide) (by decide) (by decide)
  refine ss_X4_readKind_4 S1 ?_
  obtain ⟨z1, z2, z3, z4⟩ := Lz_un l1
  rw [z2]
  by_cases p1 : phs 5 L = true
  · have q1 := (psr_phs (by decide)).mp p1
    refine ip (by rw [q1]; rfl) ?_
    rw [z3 (by omega)]
    have hne := (phs_t p1).1
    by_cases p2 : pw L < 17
    · refine ip (by omega) ?_
      refine se_X4_fails S1 ?_
      refine ⟨Or.inl rfl, k2 (by rw [p1, decide_eq_false (by omega)]; rfl) _ (FI_sI (FI_sI F1 rfl) rfl) ?_ ?_⟩
      · rw [hI_sI, if_neg (by omega), hI_sI, if_pos ⟨rfl, rfl⟩]; rfl
      · rw [hI_sI, if_pos ⟨rfl, rfl⟩, z1, FI_i f1 rfl]
    · refine im (by omega) ?_
      refine c_takeL S1 l1 (by omega) M1.2.1 (Ms_len M1 hne) fun h2 f2 l2 n2 => ?_
      refine ss_X4_readKind_35 (FI_St f2 S1 rfl) ?_
      rw [q1] at n2
      exact k1 (by rw [p1, decide_eq_true (by omega)]; rfl) h2 (FI_trans F1 (FI_mono f2 (by decide) (by decide) (by decide))) (Ms_take M1 hne f2 l2 n2)
  · refine im (fun z => p1 ((psr_phs (by decide)).mpr (by omega))) ?_
    refine se_X4_fails S1 ?_
    refine ⟨Or.inl rfl, k2 (by rw [Bool.eq_false_iff.mpr p1]; rfl) _ (FI_sI (FI_sI F1 rfl) rfl) ?_ ?_⟩
    · rw [hI_sI, if_neg (by omega), hI_sI, if_pos ⟨rfl, rfl⟩]; rfl
    · rw [hI_sI, if_pos ⟨rfl, rfl⟩, z1, FI_i f1 rfl]
/-- the number of a routine -/
theorem c_readCalled {d : Nat} {Q : qt} {h : hp} {L : List zTk} {ts : List (Nat × Nat)} {nb rb : Nat} (hS : St h) (hM : Ms h L ts 0 nb rb) (k1 : phs 2 L = true → pw L < 10 → ∀ h', FE h h' → Ms h' L.tail (ts ++ [(2, pw L)]) 0 nb rb → Q (.inl (some (vI 1))) h') (k2 : phs 2 L = true → 10 ≤ pw L → MF h mjE 5 (pq L) Q) (k3 : phs 2 L = false → MF h mjE 1 (pq L) Q) : Wc (d + 8) 134 [vR (some 116)] h Q := by
  refine se_X4_readCalled hS ?_
  refine c_look hS hM.1 fun h1 f1 l1 => ?_
  have S1 := FI_St f1 hS rfl
  have M1 := Ms_is hM f1 l1
  have F1 : FE h h1 := FI_mono f1 (by decide) (by decide) (by decide)
  refine ss_X4_readCalled_4 S1 ?_
  obtain ⟨z1, z2, z3, z4⟩ := Lz_un l1
  rw [z2]
  by_cases p1 : phs 2 L = true
  · have q1 := (psr_phs (by decide)).mp p1
    refine ip (by rw [q1]; rfl) ?_
    rw [z3 (by omega)]
    have hne := (phs_t p1).1
    by_cases p2 : pw L < 10
    · refine im (by omega) ?_
      refine c_takeL S1 l1 (by omega) M1.2.1 (Ms_len M1 hne) fun h2 f2 l2 n2 => ?_
      refine ss_X4_readCalled_45 (FI_St f2 S1 rfl) ?_
      rw [q1] at n2
      exact k1 p1 p2 h2 (FI_trans F1 (FI_mono f2 (by decide) (by decide) (by decide))) (Ms_take M1 hne f2 l2 n2)
    · refine ip (by omega) ?_
      refine se_X4_fails S1 ?_
      refine ⟨Or.inl rfl, k2 p1 (by omega) _ (FI_sI (FI_sI F1 rfl) rfl) ?_ ?_⟩
      · rw [hI_sI, if_neg (by omega), hI_sI, if_pos ⟨rfl, rfl⟩]; rfl
      · rw [hI_sI, if_pos ⟨rfl, rfl⟩, z1, FI_i f1 rfl]
  · refine im (fun z => p1 ((psr_phs (by decide)).mpr (by omega))) ?_
    refine se_X4_fails S1 ?_
    refine ⟨Or.inl rfl, k3 (Bool.eq_false_iff.mpr p1) _ (FI_sI (FI_sI F1 rfl) rfl) ?_ ?_⟩
    · rw [hI_sI, if_neg (by omega), hI_sI, if_pos ⟨rfl, rfl⟩]; rfl
    · rw [hI_sI, if_pos ⟨rfl, rfl⟩, z1, FI_i f1 rfl]
/-- where a step fails -/
theorem rs_no {d : Nat} {Q : qt} {h : hp} {v1 v2 v3 v4 v5 v6 : Int} (hS : St h) (k : Q (.inl (some (vI 0))) h) : Wp d C_X4_readStep Q 583 [vR (some 116), vI v1, vI v2, vI v3, vI v4, vI v5, vI v6, vI 0] [] h :=
  ss_X4_readStep_583 hS (ip rfl (ss_X4_readStep_599 hS k))
/-- whether it uses itself -/
def Sf (v4 v5 : Int) (more nb rb : Nat) (self : Bool) : Prop := (v4 = -1 ∧ v5 = -1 ∧ self = false) ∨ (∃ x : Nat, x < 26 ∧ v4 = x ∧ v5 = -1 ∧ more = 1 ∧ self = nb.testBit x) ∨ (∃ x : Nat, x < 26 ∧ v4 = -1 ∧ v5 = x ∧ self = rb.testBit x)
/-- the end of a step -/
theorem rs_end {d : Nat} {Q : qt} {h0 h : hp} {L : List zTk} {ts tt : List (Nat × Nat)} {b c o q more nb rb : Nat} {v1 v2 v3 v4 v5 : Int} {self : Bool} {s : zT} {r : zRs} (hS0 : St h0) (hF : FM h0 h) (hL : Ly h L) (hN : Nt h (ts ++ tt)) (hl : (ts ++ tt).length + L.length ≤ 1600) (hU0 : Mu h (ts ++ tt).length b c o) (hv : v1 = hI h0 116 1 - (q : Nat)) (hnb : nb < 2 ^ 26) (h14 : hI h 116 14 = (nb : Nat)) (hrb : rb < 2 ^ 26) (h15 : hI h 116 15 = (rb : Nat)) (hsf : Sf v4 v5 more nb rb self) (hmore : more ≤ 3) (hr : qEnd q self more c o s L = some r) (hz : zk s = tt ++ [(7, 59)]) (k : SM h0 ts b r Q) : Wp (d + 8) C_X4_readStep Q 583 [vR (some 116), vI v1, vI v2, vI v3, vI v4, vI v5, vI (more : Nat), vI 1] [] h := by
  have hS := FI_St hF hS0 rfl
  refine ss_X4_readStep_583 hS (im (by decide) ?_)
  unfold qEnd at hr
  have hlt : L ≠ [] → (ts ++ tt).length < 1600 := fun hne => by
    cases L with
    | nil => exact absurd rfl hne
    | cons t L => rw [List.length_cons] at hl; omega
  refine c_wants (s := 7) (w := 59) hS (by decide) hL hN hlt (fun p1 h1 f1 l1 n1 => ?_) (fun p1 => ?_)
  · rw [if_pos p1] at hr
    have S1 := FI_St f1 hS rfl
    have F1 : FM h0 h1 := FI_trans hF (FI_mono f1 (by decide) (by decide) (by decide))
    have hlen := (pis_t p1).2.2.2
    have e14 : hI h1 116 14 = (nb : Nat) := by rw [FI_i f1 rfl]; exact h14
    have e15 : hI h1 116 15 = (rb : Nat) := by rw [FI_i f1 rfl]; exact h15
    have U1 : Mu h1 (ts ++ tt ++ [(7, 59)]).length b c o := Mu_FI hU0 f1 rfl rfl rfl rfl rfl (by simp) (by simp at hl ⊢; omega)
    refine ss_X4_readStep_596 S1 (im (by decide) ?_)
    have k643 : self = true → Wp (d + 8) C_X4_readStep Q 643 [vR (some 116), vI v1, vI v2, vI v3, vI v4, vI v5, vI (more : Nat), vI 1] [] h1 := by
      intro hs
      rw [if_pos hs] at hr
      cases hr
      refine ss_X4_readStep_643 S1 ?_
      refine se_X4_fails S1 ?_
      have k' : MF h0 mjS 3 q Q := k
      refine ⟨Or.inl rfl, k' _ (FI_sI (FI_sI F1 rfl) rfl) ?_ ?_⟩
      · rw [hI_sI, if_neg (by omega), hI_sI, if_pos ⟨rfl, rfl⟩]; rfl
      · rw [hI_sI, if_pos ⟨rfl, rfl⟩, hv]
    have k650 : self = false → Wp (d + 8) C_X4_readStep Q 650 [vR (some 116), vI v1, vI v2, vI v3, vI v4, vI v5, vI (more : Nat), vI 1] [] h1 := by
      intro hs
      rw [if_neg (by rw [hs]; decide)] at hr
      refine ss_X4_readStep_650 S1 ?_
      have hc := U1.2.2.1
      rw [U1.1, na_eq (by omega) (by omega)]
      have S2 : St (sI h1 116 19 ((c : Nat) + (more : Nat))) := St_sI S1 (by omega)
      by_cases h40 : 40 < c + more
      · rw [if_pos h40] at hr
        cases hr
        refine ip (by omega) ?_
        refine se_X4_fails S2 ?_
        have S3 : St (sI (sI (sI h1 116 19 ((c : Nat) + (more : Nat))) 116 12 4) 116 13 v1) := St_sI (St_sI S2 (by omega)) (by omega)
        refine ss_X4_readStep_676 S3 (ip rfl ?_)
        refine ss_X4_readStep_684 S3 ⟨Or.inl rfl, ?_⟩
        have k' : MF h0 mjS 4 q Q := k
        refine k' _ (FI_sI (FI_sI (FI_sI F1 rfl) rfl) rfl) ?_ ?_
        · rw [hI_sI, if_neg (by omega), hI_sI, if_pos ⟨rfl, rfl⟩]; rfl
        · rw [hI_sI, if_pos ⟨rfl, rfl⟩, hv]
      · rw [if_neg h40] at hr
        cases hr
        refine im (by omega) ?_
        refine ss_X4_readStep_679 S2 ?_
        refine ss_X4_readStep_684 S2 ⟨Or.inr rfl, ?_⟩
        obtain ⟨u1, u2, u3, u4, n, u5, u6, u7, u8, u9⟩ := U1
        refine k _ (FI_sI F1 rfl) ⟨?_, ?_, ?_, ⟨?_, ?_, by show c + more ≤ 40; omega, u4, n, ?_, ?_, ?_, fun z => ⟨(u8 z).1, by rw [hI_sI, if_neg (by omega)]; exact (u8 z).2⟩, fun z => ⟨(u9 z).1, ?_⟩⟩, ⟨nb, hnb, ?_⟩, ⟨rb, hrb, ?_⟩⟩
        · obtain ⟨p, u, w1, w2, w3⟩ := l1
          exact ⟨p, u, by rw [hI_sI, if_neg (by omega)]; exact w1, Mq_sI w2 (by omega), w3⟩
        · rw [hz, ← List.append_assoc]
          exact ⟨by rw [hI_sI, if_neg (by omega)]; exact n1.1, fun j hj => by rw [hI_sI, if_neg (by omega), hI_sI, if_neg (by omega)]; exact n1.2 j hj⟩
        · rw [hz, ← List.append_assoc, List.length_append, List.length_singleton]; show _ + L.tail.length ≤ 1600; omega
        · rw [hI_sI, if_pos ⟨rfl, rfl⟩]; rfl
        · rw [hI_sI, if_neg (by omega)]; exact u2
        · rw [hI_sI, if_neg (by omega)]; exact u5
        · rw [hz, ← List.append_assoc]; exact u6
        · rw [hz, ← List.append_assoc]; exact u7
        · rw [hI_sI, if_neg (by omega)]; exact (u9 z).2
        · rw [hI_sI, if_neg (by omega)]; exact e14
        · rw [hI_sI, if_neg (by omega)]; exact e15
    rcases hsf with ⟨a1, a2, a3⟩ | ⟨x, x1, a1, a2, a3, a4⟩ | ⟨x, x1, a1, a2, a3⟩
    · refine ip (by omega) ?_
      refine ss_X4_readStep_625 S1 (ip (by omega) ?_)
      exact k650 a3
    · subst a1
      refine im (by omega) (ip (by omega) ?_)
      rw [e14, bit_at (by omega) (by omega), ← a4]
      cases hs : self with
      | true => exact ip rfl (k643 hs)
      | false => exact im (by decide) (ss_X4_readStep_625 S1 (ip (by omega) (k650 hs)))
    · subst a2
      refine ip (by omega) ?_
      refine ss_X4_readStep_625 S1 (im (by omega) ?_)
      rw [e15, bit_at (by omega) (by omega), ← a3]
      cases hs : self with
      | true => exact ip rfl (k643 hs)
      | false => exact im (by decide) (k650 hs)
  · rw [if_neg (by rw [p1]; decide)] at hr
    cases hr
    exact MS_to hF (by decide) (fun h' f z => ss_X4_readStep_596 (FI_St f hS0 rfl) (ip rfl (ss_X4_readStep_599 (FI_St f hS0 rfl) z))) k
