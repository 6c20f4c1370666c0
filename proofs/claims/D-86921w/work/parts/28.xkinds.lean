/-! x: the kinds of steps -/
theorem Xs_pos {h : hp} {L : List zTk} {c o : Nat} (k : Xs h L c o) : hI h 68 3 = hI h 68 1 - (pq L : Nat) := Lx_pos k.1
theorem RT_step {h : hp} {lo hi k a : Nat} {l r : zT} (hk : k ≠ 150 ∧ k ≠ 112 ∧ k ≠ 117 ∧ k ≠ 113 ∧ k ≠ 118 ∧ k ≠ 119) (z : ∃ a', [a] = [a'] ∧ lo ≤ a' ∧ a' < hi ∧
      (if k = 100 ∨ k = 101 then hT h a' = (24, 0) ∧ hI h a' 0 = (zn l : Nat) ∧ hI h a' 2 = (if k = 100 then 1 else 0) ∧ ∃ b, hR h a' 1 = some b ∧ RE h lo hi r b
      else if k = 114 then hT h a' = (23, 0) ∧ hI h a' 0 = (zn l : Nat) ∧ ∃ b, hR h a' 1 = some b ∧ RE h lo hi r b
      else if k = 102 ∨ k = 103 then hT h a' = (25, 0) ∧ hI h a' 0 = (zn l : Nat) ∧ hI h a' 1 = (zn r : Nat) ∧ hI h a' 2 = (if k = 102 then 1 else 0)
      else if k = 104 ∨ k = 105 then hT h a' = (26, 0) ∧ hI h a' 0 = (zn l : Nat) ∧ hI h a' 1 = (zg r : Int) - 160 ∧ hI h a' 3 = (if k = 104 then 1 else 0) ∧ ∃ b, hR h a' 2 = some b ∧ RE h lo hi (zl r) b
      else if k = 106 ∨ k = 107 then hT h a' = (27, 0) ∧ hI h a' 0 = (zn l : Nat) ∧ hI h a' 1 = (if k = 106 then 1 else 0)
      else if k = 108 ∨ k = 111 then hT h a' = (if k = 108 then 29 else 30, 0) ∧ ∃ b p q c, hR h a' 0 = some b ∧ hR h a' 1 = some p ∧ hR h a' 2 = some q ∧ hR h a' 3 = some c ∧ RE h lo hi l b ∧ RT h lo hi r [p, q, c]
      else if k = 115 then hT h a' = (31, 0) ∧ ∃ b p ys, hR h a' 0 = some b ∧ hR h a' 1 = some p ∧ RE h lo hi l b ∧ RPt h lo hi p ys ∧ RT h lo hi r ys
      else if k = 116 then hT h a' = (32, 0) ∧ ∃ b p q, hR h a' 0 = some b ∧ hR h a' 1 = some p ∧ hR h a' 2 = some q ∧ RE h lo hi l b ∧ RT h lo hi r [p, q]
      else if k = 133 then hT h a' = (20, 0) ∧ ∃ b c, hR h a' 0 = some b ∧ hR h a' 1 = some c ∧ RPl h lo hi l b ∧ RPl h lo hi r c
      else hT h a' = (21, 0) ∧ hI h a' 1 = how k ∧ ∃ b c, hR h a' 0 = some b ∧ hR h a' 2 = some c ∧ RPl h lo hi l b ∧ RE h lo hi r c)) : RT h lo hi (zB k l r) [a] := by
  unfold RT
  rw [if_neg hk.1, if_neg (by omega), if_neg (by omega), if_neg hk.2.2.2.2.2]
  exact z
theorem Xs_sm {h h' : hp} (s1 : sm h h' 68) (s2 : sm h h' 69) {L : List zTk} {c o : Nat} (k : Xs h L c o) : Xs h' L c o :=
  ⟨Lx_sm s1 s2 k.1, k.2.1, (s1.2.1 9).trans k.2.2.1, (s1.2.1 10).trans k.2.2.2.1, k.2.2.2.2⟩
theorem CQ_of {h0 h : hp} {n q more c o : Nat} {self : Bool} {s : zT} {L : List zTk} {r : zRs} {Q Q1 : qt} (hS0 : St h0) (hF : FS h0 h) (hr : qEnd q self more c o s L = some r) (k : SQ h0 n r Q) (hQ : ∀ h', Q (.inr 70) h' → Q1 (.inr 70) h')
    (k2 : (∀ h' a, FS h0 h' → hU h' + 64 * L.tail.length ≤ n → Xs h' L.tail (c + more) o → RT h' (hN h0) (hN h') s [a] → Q (.inl (some (vR (some a)))) h') → L.length = L.tail.length + 1 → ∀ h', FS h h' → hN h' = hN h → hU h' = hU h → Xs h' L.tail (c + more) o → Q1 (.inl none) h') : CQ h n r Q1 := by
  unfold qEnd at hr
  split at hr
  · rename_i p1
    split at hr
    · cases hr; exact FQS_to hS0 hF (Nat.le_refl _) hQ k
    · split at hr
      · cases hr; exact FQS_to hS0 hF (Nat.le_refl _) hQ k
      · cases hr; exact k2 k (pis_t p1).2.2.2
  · cases hr; exact FQS_to hS0 hF (Nat.le_refl _) hQ k
theorem p57 {L : List zTk} (h5 : phs 5 L = true) : phs 1 L = false ∧ phs 3 L = false := by
  cases L with
  | nil => simp [phs] at h5
  | cons t L => obtain ⟨q, a, b⟩ := t; simp [phs] at h5; subst h5; exact ⟨rfl, rfl⟩
theorem pis5 {L : List zTk} (h5 : phs 5 L = true) (i : Nat) : pis 5 i L = (pw L == i) := by
  cases L with
  | nil => simp [phs] at h5
  | cons t L => obtain ⟨q, a, b⟩ := t; simp [phs] at h5; subst h5; simp [pis, pw]
theorem x_calling {d : Nat} {Q : qt} {h : hp} {L : List zTk} {c o n : Nat} {r : zRs} {v : Int} (hS : St h) (hX : Xs h L c o) (hu : hU h + 64 * L.length ≤ n) (hn : n ≤ BUD) (h5 : phs 5 L = true) (hw : pw L = 6 ∨ pw L = 7) (hv : v = hI h 68 1 - (pq L : Nat)) (hr : pOne c o L = some r) (k : SQ h n r Q) : Wc (d + 10) 34 [vR (some 68), vI v] h Q := by
  have h145 := hS.1
  have hr1 : (if phs 2 L.tail then (if 10 ≤ pw L.tail then qno 5 L.tail else qEnd (pq L) false 1 c o (zB (100 + pw L) (zL (pw L.tail)) (zL 0)) L.tail.tail) else qno 1 L.tail) = some r := by
    unfold pOne at hr
    rw [(p57 h5).1, (p57 h5).2, if_neg (by decide), if_neg (by omega), if_neg (by omega), if_neg (by omega)] at hr
    exact hr
  have hlen := (phs_t h5).2
  refine se_X0_calling hS ?_
  refine c_isWord (i := 6) hS hX.1 (sts_28 hS) (by decide) (by decide) (by decide) ?_
  rw [pis5 h5]
  refine ss_X0_calling_6 hS ?_
  refine c_adv2 hS hX.1 (phs_t h5).1 fun h1 f1 f2 f3 f4 => ?_
  have S1 := FA_St f1 hS
  have X1 := Xs_FA hX hS f1 f4 (Lok_tl hX.2.1)
  have F1 : FS h h1 := FS_FA f1
  obtain ⟨a1, a2, a3⟩ := Lx_num f4
  refine ss_X0_calling_11 S1 ?_
  cases p2 : phs 2 L.tail with
  | false =>
    rw [p2, if_neg (by decide)] at hr1
    cases hr1
    refine im (fun z => by rw [a1.mp z] at p2; cases p2) ?_
    exact t_cannot S1 (FA_refl h1) f4 (n := n) (by omega) (FQS_FQ hS F1 (Nat.le_refl _) (fun _ z => z) k)
  | true =>
    rw [p2, if_pos rfl] at hr1
    have hlen2 := (phs_t p2).2
    refine ip (a1.mpr p2) ?_
    rw [a2 p2]
    by_cases q10 : 10 ≤ pw L.tail
    · rw [if_pos q10] at hr1
      cases hr1
      refine im (by omega) ?_
      refine t_wrongS (kd := 5) (q := pq L.tail) S1 (Lx_pos f4) (n := n) (by omega) ?_
      exact FQS_to hS F1 (Nat.le_refl _) (fun _ z => z) k
    · rw [if_neg q10] at hr1
      refine ip (by omega) ?_
      refine c_adv2 S1 f4 (phs_t p2).1 fun h2 g1 g2 g3 g4 => ?_
      have S2 := FA_St g1 S1
      have X2 := Xs_FA X1 S1 g1 g4 (Lok_tl X1.2.1)
      have F2 : FS h h2 := FS_trans F1 (FS_FA g1)
      refine ss_X0_calling_52 S2 ?_
      refine c_close (self := false) (more := 1) (q := pq L) S2 X2 (n := n) (by omega) (by decide) (by rw [hv, FS_n F2 hS]) hr1 ?_
      refine CQ_of hS F2 hr1 k (fun _ z => z) (fun k2 hl3 h3 w1 w2 w3 w4 => ?_)
      have S3 := FS_St w1 S2
      have F3 := FS_trans F2 w1
      refine ss_X0_calling_59 S3 ?_
      have h345 := S3.1
      have hn3 := F3.1
      refine ⟨by omega, c_n27 (St_new S3) (hT_newa rfl) (bI_01 _) ?_⟩
      refine k2 _ _ (FS_sI (FS_sI (FS_new F3) (Or.inr (by omega))) (Or.inr (by omega))) (by show hU h3 + 2 + 13 + 64 * L.tail.tail.tail.length ≤ n; omega) ?_ ?_
      · exact Xs_sm (sm_sI (sm_sI (sm_new (sm_refl _ _) (by omega)) (by omega)) (by omega)) (sm_sI (sm_sI (sm_new (sm_refl _ _) (by omega)) (by omega)) (by omega)) w4
      · refine RT_step (by omega) ⟨hN h3, rfl, by omega, by show hN h3 < hN h3 + 1; omega, ?_⟩
        rw [if_neg (by omega), if_neg (by omega), if_neg (by omega), if_neg (by omega), if_pos (by omega)]
        refine ⟨by rw [hT_sI, hT_sI, hT_newa rfl], ?_, ?_⟩
        · rw [hI_sI, if_neg (by omega), hI_sI, if_pos ⟨rfl, rfl⟩]; rfl
        · rw [hI_sI, if_pos ⟨rfl, rfl⟩]
          rcases hw with q | q <;> rw [q] <;> rfl
theorem x_naming {d : Nat} {Q : qt} {h : hp} {L : List zTk} {c o n : Nat} {r : zRs} {v : Int} (hS : St h) (hX : Xs h L c o) (hu : hU h + 64 * L.length ≤ n) (hn : n ≤ BUD) (hl6 : L.length ≤ 600) (h5 : phs 5 L = true) (hw : pw L = 0 ∨ pw L = 1 ∨ pw L = 14) (hv : v = hI h 68 1 - (pq L : Nat)) (hr : pOne c o L = some r) (k : SQ h n r Q) : Wc (d + 700) 31 [vR (some 68), vI v] h Q := by
  have h145 := hS.1
  have hr1 : (if phs 1 L.tail then qis 7 61 L.tail.tail fun M => qE (pE M) fun e M2 => qEnd (pq L) (pw L != 14 && zhas (pw L.tail) e) 1 c o (zB (100 + pw L) (zL (pw L.tail)) e) M2 else qno 1 L.tail) = some r := by
    unfold pOne at hr
    rw [(p57 h5).1, (p57 h5).2, if_neg (by decide), if_pos hw] at hr
    exact hr
  have hlen := (phs_t h5).2
  refine se_X0_naming hS ?_
  refine c_isWord (i := 14) hS hX.1 (sts_10 hS) (by decide) (by decide) (by decide) ?_
  rw [pis5 h5]
  refine ss_X0_naming_6 hS ?_
  refine c_isWord (i := 0) hS hX.1 (sts_16 hS) (by decide) (by decide) (by decide) ?_
  rw [pis5 h5]
  refine ss_X0_naming_13 hS ?_
  refine c_adv2 hS hX.1 (phs_t h5).1 fun h1 f1 f2 f3 f4 => ?_
  have S1 := FA_St f1 hS
  have X1 := Xs_FA hX hS f1 f4 (Lok_tl hX.2.1)
  have F1 : FS h h1 := FS_FA f1
  refine ss_X0_naming_18 S1 ?_
  refine c_nameR (n := n) S1 (FA_refl h1) f4 (by omega) (fun p1 h2 g1 g2 g3 g4 => ?_) (fun p1 => ?_)
  · rw [p1, if_pos rfl] at hr1
    have hlen2 := (phs_t p1).2
    have hnm := (Lok_hd X1.2.1).1 p1
    have S2 := FA_St g1 S1
    have X2 := Xs_FA X1 S1 g1 g4 (Lok_tl X1.2.1)
    have F2 : FS h h2 := FS_trans F1 (FS_FA g1)
    refine ss_X0_naming_22 S2 ?_
    unfold qis at hr1
    refine c_sign (c := 61) (n := n) S2 (FA_refl h2) g4 (by omega) (fun p2 h3 u1 u2 u3 u4 => ?_) (fun p2 => ?_)
    · rw [p2, if_pos rfl] at hr1
      dsimp only at hr1
      have hlen3 := (pis_t p2).2.2.2
      have S3 := FA_St u1 S2
      have X3 := Xs_FA X2 S2 u1 u4 (Lok_tl X2.2.1)
      have F3 : FS h h3 := FS_trans F2 (FS_FA u1)
      refine ss_X0_naming_30 S3 ?_
      refine c_expr S3 u4 (by omega) (by omega) ?_
      cases hE : pE L.tail.tail.tail with
      | inl f =>
        rw [hE] at hr1
        cases hr1
        exact FQS_FQ hS F3 (by omega) (fun _ z => z) k
      | inr p =>
        obtain ⟨e, M⟩ := p
        rw [hE] at hr1
        have hr2 : qEnd (pq L) (pw L != 14 && zhas (pw L.tail) e) 1 c o (zB (100 + pw L) (zL (pw L.tail)) e) M = some r := hr1
        intro h4 b w1 w2 w3 w4
        have w2' : hU h4 + 16 * M.length ≤ hU h3 + 16 * L.tail.tail.tail.length := w2
        obtain ⟨e1, e2, e3, e4, e5⟩ := pE_good X3.2.1 hE
        have S4 := FA_St w1 S3
        have X4 := Xs_FA X3 S3 w1 w3 e1
        have F4 : FS h h4 := FS_trans F3 (FS_FA w1)
        have hn3 := F3.1
        have fin : ∀ (hh : hp) (self : Bool), hh = h4 → self = (pw L != 14 && zhas (pw L.tail) e) → cV (Wc (d + 699)) 30 [vR (some 68), vI v, vI (bI self), vI 1] hh (fun h1 => Wp (d + 699) C_X0_naming Q 62 [vR (some 68), vI v, vI (bI (pw L == 14)), vI (bI (pw L == 0)), vI (pw L.tail : Nat), vR (some b)] [] h1) (fun e7 h8 => Q (.inr e7) h8) := by
          intro hh self eh es
          rw [eh, es]
          refine c_close (more := 1) (q := pq L) S4 X4 (n := n) (by omega) (by decide) (by rw [hv, FS_n F4 hS]) hr2 ?_
          refine CQ_of hS F4 hr2 k (fun _ z => z) (fun k2 hl3 h5 y1 y2 y3 y4 => ?_)
          have S5 := FS_St y1 S4
          have F5 := FS_trans F4 y1
          have h545 := S5.1
          have hn5 := F5.1
          have hn45 := y1.1
          refine ss_X0_naming_62 S5 ?_
          have REb : ∀ (g : hp), (∀ x, hN h3 ≤ x → x < hN h4 → sm h5 g x) → RE g (hN h) (hN h5 + 1) e b := by
            intro g hg
            refine RE_mono (by omega) (by omega) (RE_eq (lo := hN h3) (hi := hN h4) (fun x x1 x2 _ => ?_) w4)
            exact sm_trans (FS_sm y1 x2 (by have := S3.1; omega)) (hg x x1 x2)
          rcases hw with q | q | q
          · rw [q]
            refine ip rfl ?_
            refine ⟨by omega, c_n24 (St_new S5) (hT_newa rfl) (bI_01 _) ?_⟩
            refine k2 _ _ (FS_sI (FS_sR (FS_sI (FS_new F5) (Or.inr (by omega))) (by omega)) (Or.inr (by omega))) (by show hU h5 + 3 + 13 + 64 * M.tail.length ≤ n; omega) ?_ ?_
            · exact Xs_sm (sm_sI (sm_sR (sm_sI (sm_new (sm_refl _ _) (by omega)) (by omega)) (by omega)) (by omega)) (sm_sI (sm_sR (sm_sI (sm_new (sm_refl _ _) (by omega)) (by omega)) (by omega)) (by omega)) y4
            · rw [q]
              refine RT_step (by omega) ⟨hN h5, rfl, by omega, by show hN h5 < hN h5 + 1; omega, ?_⟩
              rw [if_pos (by omega)]
              refine ⟨by rw [hT_sI, hT_sR, hT_sI, hT_newa rfl], ?_, ?_, b, ?_, REb _ (fun x x1 x2 => sm_sI (sm_sR (sm_sI (sm_new (sm_refl _ _) (by omega)) (by omega)) (by omega)) (by omega))⟩
              · rw [hI_sI, if_neg (by omega), hI_sR, hI_sI, if_pos ⟨rfl, rfl⟩]; rfl
              · rw [hI_sI, if_pos ⟨rfl, rfl⟩]; rfl
              · rw [hR_sI, hR_sR, if_pos ⟨rfl, rfl⟩]
          · rw [q]
            refine ip rfl ?_
            refine ⟨by omega, c_n24 (St_new S5) (hT_newa rfl) (bI_01 _) ?_⟩
            refine k2 _ _ (FS_sI (FS_sR (FS_sI (FS_new F5) (Or.inr (by omega))) (by omega)) (Or.inr (by omega))) (by show hU h5 + 3 + 13 + 64 * M.tail.length ≤ n; omega) ?_ ?_
            · exact Xs_sm (sm_sI (sm_sR (sm_sI (sm_new (sm_refl _ _) (by omega)) (by omega)) (by omega)) (by omega)) (sm_sI (sm_sR (sm_sI (sm_new (sm_refl _ _) (by omega)) (by omega)) (by omega)) (by omega)) y4
            · rw [q]
              refine RT_step (by omega) ⟨hN h5, rfl, by omega, by show hN h5 < hN h5 + 1; omega, ?_⟩
              rw [if_pos (by omega)]
              refine ⟨by rw [hT_sI, hT_sR, hT_sI, hT_newa rfl], ?_, ?_, b, ?_, REb _ (fun x x1 x2 => sm_sI (sm_sR (sm_sI (sm_new (sm_refl _ _) (by omega)) (by omega)) (by omega)) (by omega))⟩
              · rw [hI_sI, if_neg (by omega), hI_sR, hI_sI, if_pos ⟨rfl, rfl⟩]; rfl
              · rw [hI_sI, if_pos ⟨rfl, rfl⟩]; rfl
              · rw [hR_sI, hR_sR, if_pos ⟨rfl, rfl⟩]
          · rw [q]
            refine im (by decide) ?_
            refine ⟨by omega, c_n23 (St_new S5) (hT_newa rfl) ?_⟩
            have S6 : St (sR (sI (hNew h5 23 0 2) (hN h5) 0 (pw L.tail : Nat)) (hN h5) 1 (some b)) := St_sR (St_sI (St_new S5) (by omega)) (by unfold okRf; omega)
            refine ss_X0_naming_77 S6 ?_
            refine k2 _ _ (FS_sR (FS_sI (FS_new F5) (Or.inr (by omega))) (by omega)) (by show hU h5 + 2 + 13 + 64 * M.tail.length ≤ n; omega) ?_ ?_
            · exact Xs_sm (sm_sR (sm_sI (sm_new (sm_refl _ _) (by omega)) (by omega)) (by omega)) (sm_sR (sm_sI (sm_new (sm_refl _ _) (by omega)) (by omega)) (by omega)) y4
            · rw [q]
              refine RT_step (by omega) ⟨hN h5, rfl, by omega, by show hN h5 < hN h5 + 1; omega, ?_⟩
              rw [if_neg (by omega), if_pos (by omega)]
              refine ⟨by rw [hT_sR, hT_sI, hT_newa rfl], ?_, b, ?_, REb _ (fun x x1 x2 => sm_sR (sm_sI (sm_new (sm_refl _ _) (by omega)) (by omega)) (by omega))⟩
              · rw [hI_sR, hI_sI, if_pos ⟨rfl, rfl⟩]; rfl
              · rw [hR_sR, if_pos ⟨rfl, rfl⟩]
        refine ss_X0_naming_35 S4 ?_
        by_cases q14 : pw L = 14
        · rw [show (pw L == 14) = true by simpa using q14]
          refine im (by decide) ?_
          have := fin h4 false rfl (by rw [q14]; rfl)
          rw [show (pw L == 14) = true by simpa using q14] at this
          exact this
        · rw [show (pw L == 14) = false by simpa using q14]
          refine ip rfl ?_
          rw [ofR_some]
          refine c_has (e := e) S4 (by omega) w4 e2 (by omega) ?_
          refine ss_X0_naming_50 S4 ?_
          have := fin h4 (zhas (pw L.tail) e) rfl (by rw [show (pw L != 14) = true by simpa using q14, Bool.true_and])
          rw [show (pw L == 14) = false by simpa using q14] at this
          cases hz : zhas (pw L.tail) e with
          | false => rw [hz] at this; refine ip rfl ?_; exact this
          | true => rw [hz] at this; refine im (by decide) ?_; exact this
    · rw [p2, if_neg (by decide)] at hr1
      cases hr1
      exact FQS_FQ hS F2 (Nat.le_refl _) (fun _ z => z) k
  · rw [p1, if_neg (by decide)] at hr1
    cases hr1
    exact FQS_FQ hS F1 (Nat.le_refl _) (fun _ z => z) k
