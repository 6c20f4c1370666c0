/-! x: push, making -/
theorem x_push {d : Nat} {Q : qt} {h : hp} {L : List zTk} {c o n : Nat} {r : zRs} {v b1 : Int} {w4 w5 w6 : av} (hS : St h) (hX : Xs h L c o) (hu : hU h + 64 * L.length ≤ n) (hn : n ≤ BUD) (h5 : phs 5 L = true) (hw : pw L = 2 ∨ pw L = 3) (hv : v = hI h 68 1 - (pq L : Nat)) (hr : pOne c o L = some r) (k : SQ h n r Q) {w3 : av} : Wp (d + 10) C_X0_step Q 82 [vR (some 68), vI b1, vI v, w3, w4, w5, w6] [vI (bI (pw L == 2))] h := by
  have h145 := hS.1
  have hr1 : (if phs 1 L.tail then (if phs 4 L.tail.tail then qEnd (pq L) false 1 c o (zB (100 + pw L) (zL (pw L.tail)) (zL (pw L.tail.tail))) L.tail.tail.tail else qno 1 L.tail.tail) else qno 1 L.tail) = some r := by
    unfold pOne at hr
    rw [(p57 h5).1, (p57 h5).2, if_neg (by decide), if_neg (by omega), if_pos hw] at hr
    exact hr
  have hlen := (phs_t h5).2
  refine ss_X0_step_82 hS ?_
  refine c_adv2 hS hX.1 (phs_t h5).1 fun h1 f1 f2 f3 f4 => ?_
  have S1 := FA_St f1 hS
  have X1 := Xs_FA hX hS f1 f4 (Lok_tl hX.2.1)
  have F1 : FS h h1 := FS_FA f1
  refine ss_X0_step_87 S1 ?_
  refine c_nameR (n := n) S1 (FA_refl h1) f4 (by omega) (fun p1 h2 g1 g2 g3 g4 => ?_) (fun p1 => ?_)
  · rw [p1, if_pos rfl] at hr1
    have hlen2 := (phs_t p1).2
    have S2 := FA_St g1 S1
    have X2 := Xs_FA X1 S1 g1 g4 (Lok_tl X1.2.1)
    have F2 : FS h h2 := FS_trans F1 (FS_FA g1)
    refine ss_X0_step_91 S2 ?_
    refine c_stackR (n := n) S2 (FA_refl h2) g4 (by omega) (fun p2 h3 u1 u2 u3 u4 => ?_) (fun p2 => ?_)
    · rw [p2, if_pos rfl] at hr1
      have hlen3 := (phs_t p2).2
      have S3 := FA_St u1 S2
      have X3 := Xs_FA X2 S2 u1 u4 (Lok_tl X2.2.1)
      have F3 : FS h h3 := FS_trans F2 (FS_FA u1)
      refine ss_X0_step_97 S3 ?_
      refine c_close (self := false) (more := 1) (q := pq L) S3 X3 (n := n) (by omega) (by decide) (by rw [hv, FS_n F3 hS]) hr1 ?_
      refine CQ_of hS F3 hr1 k (fun _ z => z) (fun k2 hl3 h4 y1 y2 y3 y4 => ?_)
      have S4 := FS_St y1 S3
      have F4 := FS_trans F3 y1
      have h445 := S4.1
      have hn4 := F4.1
      refine ss_X0_step_106 S4 ?_
      refine ⟨by omega, c_n25 (St_new S4) (hT_newa rfl) (bI_01 _) ?_⟩
      refine k2 _ _ (FS_sI (FS_sI (FS_sI (FS_new F4) (Or.inr (by omega))) (Or.inr (by omega))) (Or.inr (by omega))) (by show hU h4 + 3 + 13 + 64 * L.tail.tail.tail.tail.length ≤ n; omega) ?_ ?_
      · exact Xs_sm (sm_sI (sm_sI (sm_sI (sm_new (sm_refl _ _) (by omega)) (by omega)) (by omega)) (by omega)) (sm_sI (sm_sI (sm_sI (sm_new (sm_refl _ _) (by omega)) (by omega)) (by omega)) (by omega)) y4
      · refine RT_step (by omega) ⟨hN h4, rfl, by omega, by show hN h4 < hN h4 + 1; omega, ?_⟩
        rw [if_neg (by omega), if_neg (by omega), if_pos (by omega)]
        refine ⟨by rw [hT_sI, hT_sI, hT_sI, hT_newa rfl], ?_, ?_, ?_⟩
        · rw [hI_sI, if_neg (by omega), hI_sI, if_neg (by omega), hI_sI, if_pos ⟨rfl, rfl⟩]; rfl
        · rw [hI_sI, if_neg (by omega), hI_sI, if_pos ⟨rfl, rfl⟩]; rfl
        · rw [hI_sI, if_pos ⟨rfl, rfl⟩]
          rcases hw with q | q <;> rw [q] <;> rfl
    · rw [p2, if_neg (by decide)] at hr1
      cases hr1
      exact FQS_FQ hS F2 (Nat.le_refl _) (fun _ z => z) k
  · rw [p1, if_neg (by decide)] at hr1
    cases hr1
    exact FQS_FQ hS F1 (Nat.le_refl _) (fun _ z => z) k
theorem x_making {d : Nat} {Q : qt} {h : hp} {L : List zTk} {c o n : Nat} {r : zRs} {v : Int} (hS : St h) (hX : Xs h L c o) (hu : hU h + 64 * L.length ≤ n) (hn : n ≤ BUD) (hl6 : L.length ≤ 600) (h5 : phs 5 L = true) (hw : pw L = 4 ∨ pw L = 5) (hv : v = hI h 68 1 - (pq L : Nat)) (hr : pOne c o L = some r) (k : SQ h n r Q) : Wc (d + 700) 33 [vR (some 68), vI v] h Q := by
  have h145 := hS.1
  have hr1 : (if phs 3 L.tail then (if phs 5 L.tail.tail && 17 ≤ pw L.tail.tail then qE (pE L.tail.tail.tail) fun e M => qEnd (pq L) (zhas (26 + pw L.tail) e) 1 c o (zB (100 + pw L) (zL (pw L.tail)) (zB (143 + pw L.tail.tail) e (zL 0))) M else qno 1 L.tail.tail) else qno 1 L.tail) = some r := by
    unfold pOne at hr
    rw [(p57 h5).1, (p57 h5).2, if_neg (by decide), if_neg (by omega), if_neg (by omega), if_pos hw] at hr
    exact hr
  have hlen := (phs_t h5).2
  refine se_X0_making hS ?_
  refine c_isWord (i := 4) hS hX.1 (sts_24 hS) (by decide) (by decide) (by decide) ?_
  rw [pis5 h5]
  refine ss_X0_making_6 hS ?_
  refine c_adv2 hS hX.1 (phs_t h5).1 fun h1 f1 f2 f3 f4 => ?_
  have S1 := FA_St f1 hS
  have X1 := Xs_FA hX hS f1 f4 (Lok_tl hX.2.1)
  have F1 : FS h h1 := FS_FA f1
  refine ss_X0_making_11 S1 ?_
  refine c_rowR (n := n) S1 (FA_refl h1) f4 (by omega) (fun p1 h2 g1 g2 g3 g4 => ?_) (fun p1 => ?_)
  · rw [p1, if_pos rfl] at hr1
    have hlen2 := (phs_t p1).2
    have hrw := (Lok_hd X1.2.1).2.1 p1
    have S2 := FA_St g1 S1
    have X2 := Xs_FA X1 S1 g1 g4 (Lok_tl X1.2.1)
    have F2 : FS h h2 := FS_trans F1 (FS_FA g1)
    -- behind the kind
    have go1 : ∀ kd : Nat, pis 5 (17 + kd) L.tail.tail = true → cV (Wc (d + 699)) 5 [vR (some 68)] h2 (fun h5 => Wp (d + 699) C_X0_making Q 103 [vR (some 68), vI v, vI (bI (pw L == 4)), vI (pw L.tail : Nat), vI (kd : Nat), vU] [] h5) (fun e7 h8 => Q (.inr e7) h8) := by
      intro kd pk
      obtain ⟨t1, t2, t3, t4⟩ := pis_t pk
      rw [t2, show decide (17 ≤ pw L.tail.tail) = true by rw [t3]; simp, Bool.true_and, if_pos rfl, t3] at hr1
      refine c_adv2 S2 g4 t1 fun h3 u1 u2 u3 u4 => ?_
      have S3 := FA_St u1 S2
      have X3 := Xs_FA X2 S2 u1 u4 (Lok_tl X2.2.1)
      have F3 : FS h h3 := FS_trans F2 (FS_FA u1)
      have hn3 := F3.1
      refine ss_X0_making_103 S3 ?_
      refine c_expr S3 u4 (by omega) (by omega) ?_
      cases hE : pE L.tail.tail.tail with
      | inl f =>
        rw [hE] at hr1
        cases hr1
        exact FQS_FQ hS F3 (by omega) (fun _ z => z) k
      | inr p =>
        obtain ⟨e, M⟩ := p
        rw [hE] at hr1
        have hr2 : qEnd (pq L) (zhas (26 + pw L.tail) e) 1 c o (zB (100 + pw L) (zL (pw L.tail)) (zB (143 + (17 + kd)) e (zL 0))) M = some r := hr1
        intro h4 b w1 w2 w3 w4
        have w2' : hU h4 + 16 * M.length ≤ hU h3 + 16 * L.tail.tail.tail.length := w2
        obtain ⟨e1, e2, e3, e4, e5⟩ := pE_good X3.2.1 hE
        have S4 := FA_St w1 S3
        have X4 := Xs_FA X3 S3 w1 w3 e1
        have F4 : FS h h4 := FS_trans F3 (FS_FA w1)
        refine ss_X0_making_108 S4 ?_
        rw [ofR_some, na_eq (by omega) (by omega), show (26 : Int) + ((pw L.tail : Nat) : Int) = ((26 + pw L.tail : Nat) : Int) by omega]
        refine c_has (e := e) S4 (by omega) w4 e2 (by omega) ?_
        refine ss_X0_making_121 S4 ?_
        refine c_close (more := 1) (q := pq L) S4 X4 (n := n) (by omega) (by decide) (by rw [hv, FS_n F4 hS]) hr2 ?_
        refine CQ_of hS F4 hr2 k (fun _ z => z) (fun k2 hl3 h5 y1 y2 y3 y4 => ?_)
        have S5 := FS_St y1 S4
        have F5 := FS_trans F4 y1
        have h545 := S5.1
        have hn5 := F5.1
        have hn45 := y1.1
        refine ss_X0_making_125 S5 ?_
        refine ⟨by omega, c_n26 (St_new S5) (hT_newa rfl) (bI_01 _) ?_⟩
        refine k2 _ _ (FS_sI (FS_sR (FS_sI (FS_sI (FS_new F5) (Or.inr (by omega))) (Or.inr (by omega))) (by omega)) (Or.inr (by omega))) (by show hU h5 + 4 + 13 + 64 * M.tail.length ≤ n; omega) ?_ ?_
        · exact Xs_sm (sm_sI (sm_sR (sm_sI (sm_sI (sm_new (sm_refl _ _) (by omega)) (by omega)) (by omega)) (by omega)) (by omega)) (sm_sI (sm_sR (sm_sI (sm_sI (sm_new (sm_refl _ _) (by omega)) (by omega)) (by omega)) (by omega)) (by omega)) y4
        · refine RT_step (by omega) ⟨hN h5, rfl, by omega, by show hN h5 < hN h5 + 1; omega, ?_⟩
          rw [if_neg (by omega), if_neg (by omega), if_neg (by omega), if_pos (by omega)]
          refine ⟨by rw [hT_sI, hT_sR, hT_sI, hT_sI, hT_newa rfl], ?_, ?_, ?_, b, ?_, ?_⟩
          · rw [hI_sI, if_neg (by omega), hI_sR, hI_sI, if_neg (by omega), hI_sI, if_pos ⟨rfl, rfl⟩]; rfl
          · rw [hI_sI, if_neg (by omega), hI_sR, hI_sI, if_pos ⟨rfl, rfl⟩]; show ((kd : Nat) : Int) = ((143 + (17 + kd) : Nat) : Int) - 160; omega
          · rw [hI_sI, if_pos ⟨rfl, rfl⟩]
            rcases hw with q | q <;> rw [q] <;> rfl
          · rw [hR_sI, hR_sR, if_pos ⟨rfl, rfl⟩]
          · show RE _ (hN h) (hN h5 + 1) e b
            refine RE_mono (by omega) (by omega) (RE_eq (lo := hN h3) (hi := hN h4) (fun x x1 x2 _ => ?_) w4)
            exact sm_trans (FS_sm y1 x2 (by have := S3.1; omega)) (sm_sI (sm_sR (sm_sI (sm_sI (sm_new (sm_refl _ _) (by omega)) (by omega)) (by omega)) (by omega)) (by omega))
    refine ss_X0_making_15 S2 ?_
    refine c_isWord (i := 17) S2 g4 (sts_44 S2) (by decide) (by decide) (by decide) ?_
    refine ss_X0_making_23 S2 ?_
    cases q0 : pis 5 17 L.tail.tail with
    | true => refine im (by decide) ?_; exact go1 0 q0
    | false =>
    refine ip rfl ?_
    refine c_isWord (i := 18) S2 g4 (sts_46 S2) (by decide) (by decide) (by decide) ?_
    refine ss_X0_making_37 S2 ?_
    cases q1 : pis 5 18 L.tail.tail with
    | true => refine im (by decide) ?_; exact go1 1 q1
    | false =>
    refine ip rfl ?_
    refine c_isWord (i := 19) S2 g4 (sts_48 S2) (by decide) (by decide) (by decide) ?_
    refine ss_X0_making_51 S2 ?_
    cases q2 : pis 5 19 L.tail.tail with
    | true => refine im (by decide) ?_; exact go1 2 q2
    | false =>
    refine ip rfl ?_
    refine c_isWord (i := 20) S2 g4 (sts_50 S2) (by decide) (by decide) (by decide) ?_
    refine ss_X0_making_65 S2 ?_
    cases q3 : pis 5 20 L.tail.tail with
    | true => refine im (by decide) ?_; exact go1 3 q3
    | false =>
    refine ip rfl ?_
    refine c_isWord (i := 21) S2 g4 (sts_52 S2) (by decide) (by decide) (by decide) ?_
    refine ss_X0_making_79 S2 ?_
    cases q4 : pis 5 21 L.tail.tail with
    | true => refine im (by decide) ?_; exact go1 4 q4
    | false =>
    refine ip rfl ?_
    have hno : (phs 5 L.tail.tail && decide (17 ≤ pw L.tail.tail)) = false := by
      cases hp : phs 5 L.tail.tail with
      | false => rfl
      | true =>
        have h22 := (Lok_hd X2.2.1).2.2.2.2.1 hp
        rw [pis5 hp] at q0 q1 q2 q3 q4
        simp at q0 q1 q2 q3 q4 ⊢
        omega
    rw [hno, if_neg (by decide)] at hr1
    cases hr1
    exact t_cannot S2 (FA_refl h2) g4 (n := n) (by omega) (FQS_FQ hS F2 (Nat.le_refl _) (fun _ z => z) k)
  · rw [p1, if_neg (by decide)] at hr1
    cases hr1
    exact FQS_FQ hS F1 (Nat.le_refl _) (fun _ z => z) k
