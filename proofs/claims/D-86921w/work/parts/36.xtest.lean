/-! x: while and when -/
theorem x_while {f : Nat} (ih : PSs f) {d b c o n : Nat} {L : List zTk} {r : zRs} {Q : qt} {h0 h : hp} {v : Int} (hr : pS (f + 1) 1 b c o L = some r) (hb : b ≤ 5) (hS0 : St h0) (hF : FS h0 h) (hX : Xs h L c o) (hu : hU h + 128 * L.length ≤ n) (hn : n ≤ BUD) (hl : L.length ≤ 600) (h5 : phs 5 L = true) (hw : pw L = 15) (hv : v = hI h 68 1 - (pq L : Nat)) (hd : 704 + 5 * (5 - b) ≤ d) (k : SQ2 h0 n r Q) : Wc d 37 [vR (some 68), vI v, vI (b : Nat)] h Q := by
  obtain ⟨d, rfl⟩ : ∃ e, d = e + 703 + 1 := ⟨d - 704, by omega⟩
  have hS := FS_St hF hS0
  have h145 := hS0.1
  have hr1 : (qE (pE L.tail) fun e M => qBnd (pS f 2 b c o M) fun p M1 c1 o1 => qEnd (pq L) false 2 c1 o1 (zB 115 e p) M1) = some r := by
    unfold pS at hr
    rw [if_neg (by decide), if_pos rfl, h5, hw] at hr
    exact hr
  have hlen := (phs_t h5).2
  have hp15 : pis 5 15 L = true := by
    cases L with
    | nil => cases h5
    | cons t L => obtain ⟨q, a, b⟩ := t; simp only [phs, pw, pis] at h5 hw ⊢; rw [hw]; simp [h5]
  refine se_X0_testing hS ?_
  refine c_isWord (i := 15) hS hX.1 (sts_12 hS) (by decide) (by decide) (by decide) ?_
  rw [hp15]
  refine ss_X0_testing_6 hS ?_
  refine c_adv2 hS hX.1 (phs_t h5).1 fun h1 f1 f2 f3 f4 => ?_
  have S1 := FA_St f1 hS
  have X1 := Xs_FA hX hS f1 f4 (Lok_tl hX.2.1)
  have F1 : FS h0 h1 := FS_trans hF (FS_FA f1)
  have hn1 := F1.1
  refine ss_X0_testing_11 S1 ?_
  refine c_expr S1 f4 (by omega) (by omega) ?_
  cases hE : pE L.tail with
  | inl g => rw [hE] at hr1; cases hr1; exact FQS_FQ hS0 F1 (by omega) (fun _ z => z) k
  | inr q =>
  obtain ⟨e, M⟩ := q
  rw [hE] at hr1
  have hr2 : (qBnd (pS f 2 b c o M) fun p M1 c1 o1 => qEnd (pq L) false 2 c1 o1 (zB 115 e p) M1) = some r := hr1
  have lM := (pE_eq _).2 _ _ hE
  intro h2 a2 g1 g2 g3 g4
  have g2' : hU h2 + 16 * M.length ≤ hU h1 + 16 * L.tail.length := g2
  have g4' : RE h2 (hN h1) (hN h2) e a2 := g4
  have S2 := FA_St g1 S1
  have X2 : Xs h2 M c o := Xs_FA X1 S1 g1 g3 (pE_good X1.2.1 hE).1
  have F2 : FS h0 h2 := FS_trans F1 (FS_FA g1)
  have hn2 := F2.1
  refine ss_X0_testing_16 S2 ?_
  cases hP : pS f 2 b c o M with
  | none => rw [hP] at hr2; cases hr2
  | some r1 =>
  rw [hP] at hr2
  refine (ih 2 b c o M r1 hP hb h2 h2 _ (hU h2 + 128 * M.length) S2 (FS_refl _) X2 (Nat.le_refl _) (by omega) (by omega) _).2.2 rfl (by omega) ?_
  cases r1 with
  | inl g => cases hr2; exact FQS_to hS0 F2 (by omega) (fun _ z => z) k
  | inr q =>
  obtain ⟨p, M1, c1, o1⟩ := q
  have hr3 : (qEnd (pq L) false 2 c1 o1 (zB 115 e p) M1) = some r := hr2
  have lM1 := (pS_len f _ _ _ _ _ _ _ _ _ hP).1
  intro h3 ap ys u1 u2 u3 u4 u5
  have u2' : hU h3 + 128 * M1.length ≤ hU h2 + 128 * M.length := u2
  have u3' : Xs h3 M1 c1 o1 := u3
  have u5' : RT h3 (hN h2) (hN h3) p ys := u5
  have S3 := FS_St u1 S2
  have F3 := FS_trans F2 u1
  have hn3 := F3.1
  refine ss_X0_testing_23 S3 ?_
  refine im (by decide) ?_
  refine c_close (self := false) (more := 2) (q := pq L) S3 u3' (n := n) (by omega) (by decide) (by rw [hv, FS_n hF hS0, FS_n F3 hS0]) hr3 ?_
  refine CQ_of2 hS0 F3 hr3 k (fun _ z => z) (fun kk2 hl3 h8 v1 v2 v3 v4 => ?_)
  have S8 := FS_St v1 S3
  have F8 := FS_trans F3 v1
  have h845 := S8.1
  have hn8 := F8.1
  refine ss_X0_testing_36 S8 ?_
  refine ⟨by omega, c_n31 (St_new S8) (hT_newa rfl) ?_⟩
  have G8 : FS h8 (sR (sR (hNew h8 31 0 2) (hN h8) 0 (some a2)) (hN h8) 1 (some ap)) := FS_sR (FS_sR (FS_new (FS_refl h8)) (by omega)) (by omega)
  have G3 := FS_trans v1 G8
  have G2 := FS_trans u1 G3
  have m38 := v1.1
  have m23 := u1.1
  have m12 := g1.1
  refine kk2 _ _ (FS_trans F8 G8) (by show hU h8 + 2 + 13 + 128 * M1.tail.length + 100 ≤ n; omega) ?_ ?_
  · exact Xs_sm (sm_sR (sm_sR (sm_new (sm_refl _ _) (by omega)) (by omega)) (by omega)) (sm_sR (sm_sR (sm_new (sm_refl _ _) (by omega)) (by omega)) (by omega)) v4
  · refine RT_step (by decide) ⟨hN h8, rfl, by omega, by show hN h8 < hN h8 + 1; omega, ?_⟩
    rw [if_neg (by decide), if_neg (by decide), if_neg (by decide), if_neg (by decide), if_neg (by decide), if_neg (by decide), if_pos rfl]
    refine ⟨by rw [hT_sR, hT_sR, hT_newa rfl], a2, ap, ys, ?_, ?_, ?_, ?_, ?_⟩
    · rw [hR_sR, if_neg (by omega), hR_sR, if_pos ⟨rfl, rfl⟩]
    · rw [hR_sR, if_pos ⟨rfl, rfl⟩]
    · exact old_RE (by omega) (Nat.le_refl _) G2 (by omega) (by show hN h2 ≤ hN h8 + 1; omega) g4'
    · exact old_RPt (by omega) (Nat.le_refl _) G3 (by omega) (by show hN h3 ≤ hN h8 + 1; omega) u5' u4
    · exact old_RT (by omega) (Nat.le_refl _) G3 (by omega) (by show hN h3 ≤ hN h8 + 1; omega) u5'
theorem x_when {f : Nat} (ih : PSs f) {d b c o n : Nat} {L : List zTk} {r : zRs} {Q : qt} {h0 h : hp} {v : Int} (hr : pS (f + 1) 1 b c o L = some r) (hb : b ≤ 5) (hS0 : St h0) (hF : FS h0 h) (hX : Xs h L c o) (hu : hU h + 128 * L.length ≤ n) (hn : n ≤ BUD) (hl : L.length ≤ 600) (h5 : phs 5 L = true) (hw : pw L = 16) (hv : v = hI h 68 1 - (pq L : Nat)) (hd : 704 + 5 * (5 - b) ≤ d) (k : SQ2 h0 n r Q) : Wc d 37 [vR (some 68), vI v, vI (b : Nat)] h Q := by
  obtain ⟨d, rfl⟩ : ∃ e, d = e + 703 + 1 := ⟨d - 704, by omega⟩
  have hS := FS_St hF hS0
  have h145 := hS0.1
  have hr1 : (qE (pE L.tail) fun e M => qBnd (pS f 2 b c o M) fun p M1 c1 o1 => qis 5 9 M1 fun M2 => qBnd (pS f 2 b c1 o1 M2) fun p2 M3 c3 o3 => qEnd (pq L) false 3 c3 o3 (zB 116 e (zB 119 p p2)) M3) = some r := by
    unfold pS at hr
    rw [if_neg (by decide), if_pos rfl, h5, hw] at hr
    exact hr
  have hlen := (phs_t h5).2
  have hp15 : pis 5 15 L = false := by
    cases L with
    | nil => cases h5
    | cons t L => obtain ⟨q, a, b⟩ := t; simp only [phs, pw, pis] at h5 hw ⊢; rw [hw]; simp [h5]
  refine se_X0_testing hS ?_
  refine c_isWord (i := 15) hS hX.1 (sts_12 hS) (by decide) (by decide) (by decide) ?_
  rw [hp15]
  refine ss_X0_testing_6 hS ?_
  refine c_adv2 hS hX.1 (phs_t h5).1 fun h1 f1 f2 f3 f4 => ?_
  have S1 := FA_St f1 hS
  have X1 := Xs_FA hX hS f1 f4 (Lok_tl hX.2.1)
  have F1 : FS h0 h1 := FS_trans hF (FS_FA f1)
  have hn1 := F1.1
  refine ss_X0_testing_11 S1 ?_
  refine c_expr S1 f4 (by omega) (by omega) ?_
  cases hE : pE L.tail with
  | inl g => rw [hE] at hr1; cases hr1; exact FQS_FQ hS0 F1 (by omega) (fun _ z => z) k
  | inr q =>
  obtain ⟨e, M⟩ := q
  rw [hE] at hr1
  have hr2 : (qBnd (pS f 2 b c o M) fun p M1 c1 o1 => qis 5 9 M1 fun M2 => qBnd (pS f 2 b c1 o1 M2) fun p2 M3 c3 o3 => qEnd (pq L) false 3 c3 o3 (zB 116 e (zB 119 p p2)) M3) = some r := hr1
  have lM := (pE_eq _).2 _ _ hE
  intro h2 a2 g1 g2 g3 g4
  have g2' : hU h2 + 16 * M.length ≤ hU h1 + 16 * L.tail.length := g2
  have g4' : RE h2 (hN h1) (hN h2) e a2 := g4
  have S2 := FA_St g1 S1
  have X2 : Xs h2 M c o := Xs_FA X1 S1 g1 g3 (pE_good X1.2.1 hE).1
  have F2 : FS h0 h2 := FS_trans F1 (FS_FA g1)
  have hn2 := F2.1
  refine ss_X0_testing_16 S2 ?_
  cases hP : pS f 2 b c o M with
  | none => rw [hP] at hr2; cases hr2
  | some r1 =>
  rw [hP] at hr2
  refine (ih 2 b c o M r1 hP hb h2 h2 _ (hU h2 + 128 * M.length) S2 (FS_refl _) X2 (Nat.le_refl _) (by omega) (by omega) _).2.2 rfl (by omega) ?_
  cases r1 with
  | inl g => cases hr2; exact FQS_to hS0 F2 (by omega) (fun _ z => z) k
  | inr q =>
  obtain ⟨p, M1, c1, o1⟩ := q
  have hr3 : (qis 5 9 M1 fun M2 => qBnd (pS f 2 b c1 o1 M2) fun p2 M3 c3 o3 => qEnd (pq L) false 3 c3 o3 (zB 116 e (zB 119 p p2)) M3) = some r := hr2
  have lM1 := (pS_len f _ _ _ _ _ _ _ _ _ hP).1
  intro h3 ap ys u1 u2 u3 u4 u5
  have u2' : hU h3 + 128 * M1.length ≤ hU h2 + 128 * M.length := u2
  have u3' : Xs h3 M1 c1 o1 := u3
  have u5' : RT h3 (hN h2) (hN h3) p ys := u5
  have S3 := FS_St u1 S2
  have F3 := FS_trans F2 u1
  have hn3 := F3.1
  refine ss_X0_testing_23 S3 ?_
  refine ip rfl ?_
  unfold qis at hr3
  refine c_wordR (n := n) (i := 9) S3 (FA_refl h3) u3'.1 (by omega) (sts_36 S3) (by decide) (by decide) (by decide) (fun q1 h4 w1 w2 w3' w4' => ?_) (fun q1 => ?_)
  · rw [q1, if_pos rfl] at hr3
    dsimp only at hr3
    have lA := (pis_t q1).2.2.2
    have S4 := FA_St w1 S3
    have X4 := Xs_FA u3' S3 w1 w4' (Lok_tl u3'.2.1)
    have F4 := FS_trans F3 (FS_FA w1)
    have hn4 := F4.1
    refine ss_X0_testing_54 S4 ?_
    cases hP2 : pS f 2 b c1 o1 M1.tail with
    | none => rw [hP2] at hr3; cases hr3
    | some r2 =>
    rw [hP2] at hr3
    refine (ih 2 b c1 o1 M1.tail r2 hP2 hb h4 h4 _ (hU h4 + 128 * M1.tail.length) S4 (FS_refl _) X4 (Nat.le_refl _) (by omega) (by omega) _).2.2 rfl (by omega) ?_
    cases r2 with
    | inl g => cases hr3; exact FQS_to hS0 F4 (by omega) (fun _ z => z) k
    | inr q =>
    obtain ⟨p2, M3, c3, o3⟩ := q
    have hr4 : qEnd (pq L) false 3 c3 o3 (zB 116 e (zB 119 p p2)) M3 = some r := hr3
    have lM3 := (pS_len f _ _ _ _ _ _ _ _ _ hP2).1
    intro h5' aq zs x1 x2 x3 x4 x5
    have x2' : hU h5' + 128 * M3.length ≤ hU h4 + 128 * M1.tail.length := x2
    have x3' : Xs h5' M3 c3 o3 := x3
    have x5' : RT h5' (hN h4) (hN h5') p2 zs := x5
    have S5 := FS_St x1 S4
    have F5 := FS_trans F4 x1
    have hn5 := F5.1
    refine ss_X0_testing_59 S5 ?_
    refine c_close (self := false) (more := 3) (q := pq L) S5 x3' (n := n) (by omega) (by decide) (by rw [hv, FS_n hF hS0, FS_n F5 hS0]) hr4 ?_
    refine CQ_of2 hS0 F5 hr4 k (fun _ z => z) (fun kk2 hl3 h8 v1 v2 v3 v4 => ?_)
    have S8 := FS_St v1 S5
    have F8 := FS_trans F5 v1
    have h845 := S8.1
    have hn8 := F8.1
    refine ss_X0_testing_68 S8 ?_
    refine ⟨by omega, c_n32 (St_new S8) (hT_newa rfl) ?_⟩
    have G8 : FS h8 (sR (sR (sR (hNew h8 32 0 3) (hN h8) 0 (some a2)) (hN h8) 1 (some ap)) (hN h8) 2 (some aq)) := FS_sR (FS_sR (FS_sR (FS_new (FS_refl h8)) (by omega)) (by omega)) (by omega)
    have G5 := FS_trans v1 G8
    have G4 := FS_trans x1 G5
    have G3 := FS_trans (FS_FA w1) G4
    have G2 := FS_trans u1 G3
    have m58 := v1.1
    have m45 := x1.1
    have m34 := w1.1
    have m23 := u1.1
    have m12 := g1.1
    refine kk2 _ _ (FS_trans F8 G8) (by show hU h8 + 3 + 13 + 128 * M3.tail.length + 100 ≤ n; omega) ?_ ?_
    · exact Xs_sm (sm_sR (sm_sR (sm_sR (sm_new (sm_refl _ _) (by omega)) (by omega)) (by omega)) (by omega)) (sm_sR (sm_sR (sm_sR (sm_new (sm_refl _ _) (by omega)) (by omega)) (by omega)) (by omega)) v4
    · refine RT_step (by decide) ⟨hN h8, rfl, by omega, by show hN h8 < hN h8 + 1; omega, ?_⟩
      rw [if_neg (by decide), if_neg (by decide), if_neg (by decide), if_neg (by decide), if_neg (by decide), if_neg (by decide), if_neg (by decide), if_pos rfl]
      refine ⟨by rw [hT_sR, hT_sR, hT_sR, hT_newa rfl], a2, ap, aq, ?_, ?_, ?_, ?_, ?_⟩
      · rw [hR_sR, if_neg (by omega), hR_sR, if_neg (by omega), hR_sR, if_pos ⟨rfl, rfl⟩]
      · rw [hR_sR, if_neg (by omega), hR_sR, if_pos ⟨rfl, rfl⟩]
      · rw [hR_sR, if_pos ⟨rfl, rfl⟩]
      · exact old_RE (by omega) (Nat.le_refl _) G2 (by omega) (by show hN h2 ≤ hN h8 + 1; omega) g4'
      · refine RT_119 (ys := ys) (zs := zs) (old_RPt (by omega) (Nat.le_refl _) G3 (by omega) (by show hN h3 ≤ hN h8 + 1; omega) u5' u4) (old_RT (by omega) (Nat.le_refl _) G3 (by omega) (by show hN h3 ≤ hN h8 + 1; omega) u5') (old_RPt (by omega) (Nat.le_refl _) G5 (by omega) (by show hN h5' ≤ hN h8 + 1; omega) x5' x4) (old_RT (by omega) (Nat.le_refl _) G5 (by omega) (by show hN h5' ≤ hN h8 + 1; omega) x5')
  · rw [q1, if_neg (by decide)] at hr3
    cases hr3
    exact FQS_FQ hS0 F3 (Nat.le_refl _) (fun _ z => z) k

