/-! x: steps with others within -/
theorem RT_112 {h : hp} {lo hi k p q b : Nat} {l r : zT} {ys : List Nat} (hk : k = 112 ∨ k = 117) (z1 : RPt h lo hi p ys) (z2 : RT h lo hi l ys) (z3 : RT h lo hi r [q, b]) : RT h lo hi (zB k l r) [p, q, b] := by
  unfold RT
  rw [if_neg (by omega), if_pos hk]
  exact ⟨p, q, b, ys, rfl, z1, z2, z3⟩
theorem RT_113 {h : hp} {lo hi k q b : Nat} {l r : zT} {ys : List Nat} (hk : k = 113 ∨ k = 118) (z1 : RPt h lo hi q ys) (z2 : RT h lo hi l ys) (z3 : RE h lo hi r b) : RT h lo hi (zB k l r) [q, b] := by
  unfold RT
  rw [if_neg (by omega), if_neg (by omega), if_pos hk]
  exact ⟨q, b, ys, rfl, z1, z2, z3⟩
theorem RT_119 {h : hp} {lo hi p q : Nat} {l r : zT} {ys zs : List Nat} (z1 : RPt h lo hi p ys) (z2 : RT h lo hi l ys) (z3 : RPt h lo hi q zs) (z4 : RT h lo hi r zs) : RT h lo hi (zB 119 l r) [p, q] := by
  unfold RT
  rw [if_neg (by decide), if_neg (by decide), if_neg (by decide), if_pos rfl]
  exact ⟨p, q, ys, zs, rfl, z1, z2, z3, z4⟩
theorem CQ_of2 {h0 h : hp} {n q more c o : Nat} {s : zT} {L : List zTk} {r : zRs} {Q Q1 : qt} (hS0 : St h0) (hF : FS h0 h) (hr : qEnd q false more c o s L = some r) (k : SQ2 h0 n r Q) (hQ : ∀ h', Q (.inr 70) h' → Q1 (.inr 70) h')
    (k2 : (∀ h' a, FS h0 h' → hU h' + 128 * L.tail.length + 100 ≤ n → Xs h' L.tail (c + more) o → RT h' (hN h0) (hN h') s [a] → Q (.inl (some (vR (some a)))) h') → L.length = L.tail.length + 1 → ∀ h', FS h h' → hN h' = hN h → hU h' = hU h → Xs h' L.tail (c + more) o → Q1 (.inl none) h') : CQ h n r Q1 := by
  unfold qEnd at hr
  split at hr
  · rename_i p1
    split at hr
    · rename_i z; cases z
    · split at hr
      · cases hr; exact FQS_to hS0 hF (Nat.le_refl _) hQ k
      · cases hr; exact k2 k (pis_t p1).2.2.2
  · cases hr; exact FQS_to hS0 hF (Nat.le_refl _) hQ k
/-- parts and expressions of an older heap -/
theorem old_RT {h g : hp} {lo hi lo2 hi2 : Nat} (hl : 145 ≤ lo) (hh : hi ≤ hN h) (hF : FS h g) (h1 : lo2 ≤ lo) (h2 : hi ≤ hi2) {t : zT} {xs : List Nat} (z : RT h lo hi t xs) : RT g lo2 hi2 t xs := RT_mono h1 h2 (RT_eq hl hF.1 (fun c _ c2 _ => FS_sm hF (by omega) (by omega)) z)
theorem old_RE {h g : hp} {lo hi lo2 hi2 : Nat} (hl : 145 ≤ lo) (hh : hi ≤ hN h) (hF : FS h g) (h1 : lo2 ≤ lo) (h2 : hi ≤ hi2) {t : zT} {a : Nat} (z : RE h lo hi t a) : RE g lo2 hi2 t a := RE_mono h1 h2 (RE_eq (fun c _ c2 _ => FS_sm hF (by omega) (by omega)) z)
theorem old_RPt {h g : hp} {lo hi lo2 hi2 : Nat} (hl : 145 ≤ lo) (hh : hi ≤ hN h) (hF : FS h g) (h1 : lo2 ≤ lo) (h2 : hi ≤ hi2) {p : Nat} {ys : List Nat} {t : zT} (zt : RT h lo hi t ys) (z : RPt h lo hi p ys) : RPt g lo2 hi2 p ys := by
  have hsm : ∀ c, lo ≤ c → c < hi → imm (hT h c).1 → sm h g c := fun c _ c2 _ => FS_sm hF (by omega) (by omega)
  refine RPt_mono h1 h2 (RPt_eq hl hF.1 hsm (fun y hy => ?_) z)
  obtain ⟨y1, y2, y3, y4⟩ := RT_mem zt y hy
  rw [(hsm y y1 y2 (imm_in y3 (by omega))).1]; exact y4
theorem x_if {f : Nat} (ih : PSs f) {d b c o n : Nat} {L : List zTk} {r : zRs} {Q : qt} {h0 h : hp} {v : Int} {w3 w4 w5 w6 : av} (hr : pS (f + 1) 1 b c o L = some r) (hb : b ≤ 5) (hS0 : St h0) (hF : FS h0 h) (hX : Xs h L c o) (hu : hU h + 128 * L.length ≤ n) (hn : n ≤ BUD) (hl : L.length ≤ 600) (h5 : phs 5 L = true) (hw : pw L = 8) (hv : v = hI h 68 1 - (pq L : Nat)) (hd : 704 + 5 * (5 - b) ≤ d) (k : SQ2 h0 n r Q) : cV (Wc d) 5 [vR (some 68)] h (fun h5 => Wp d C_X0_step Q 180 [vR (some 68), vI (b : Nat), vI v, w3, w4, w5, w6] [] h5) (fun e7 h8 => Q (.inr e7) h8) := by
  obtain ⟨d, rfl⟩ : ∃ e, d = e + 704 := ⟨d - 704, by omega⟩
  have hS := FS_St hF hS0
  have h145 := hS0.1
  have hr1 : (qE (pE L.tail) fun e M => qBnd (pS f 2 b c o M) fun p M1 c1 o1 => qis 5 9 M1 fun M2 => qBnd (pS f 2 b c1 o1 M2) fun p2 M3 c3 o3 => qis 5 10 M3 fun M4 => qE (pE M4) fun e2 M5 => qEnd (pq L) false 3 c3 o3 (zB 108 e (zB 112 p (zB 113 p2 e2))) M5) = some r := by
    unfold pS at hr
    rw [if_neg (by decide), if_pos rfl, h5, hw] at hr
    exact hr
  have hlen := (phs_t h5).2
  refine c_adv2 hS hX.1 (phs_t h5).1 fun h1 f1 f2 f3 f4 => ?_
  have S1 := FA_St f1 hS
  have X1 := Xs_FA hX hS f1 f4 (Lok_tl hX.2.1)
  have F1 : FS h0 h1 := FS_trans hF (FS_FA f1)
  have hn1 := F1.1
  refine ss_X0_step_180 S1 ?_
  refine c_expr S1 f4 (by omega) (by omega) ?_
  cases hE : pE L.tail with
  | inl g => rw [hE] at hr1; cases hr1; exact FQS_FQ hS0 F1 (by omega) (fun _ z => z) k
  | inr q =>
  obtain ⟨e, M⟩ := q
  rw [hE] at hr1
  have hr2 : (qBnd (pS f 2 b c o M) fun p M1 c1 o1 => qis 5 9 M1 fun M2 => qBnd (pS f 2 b c1 o1 M2) fun p2 M3 c3 o3 => qis 5 10 M3 fun M4 => qE (pE M4) fun e2 M5 => qEnd (pq L) false 3 c3 o3 (zB 108 e (zB 112 p (zB 113 p2 e2))) M5) = some r := hr1
  have lM := (pE_eq _).2 _ _ hE
  intro h2 a2 g1 g2 g3 g4
  have g2' : hU h2 + 16 * M.length ≤ hU h1 + 16 * L.tail.length := g2
  have g4' : RE h2 (hN h1) (hN h2) e a2 := g4
  have S2 := FA_St g1 S1
  have X2 : Xs h2 M c o := Xs_FA X1 S1 g1 g3 (pE_good X1.2.1 hE).1
  have F2 : FS h0 h2 := FS_trans F1 (FS_FA g1)
  have hn2 := F2.1
  refine ss_X0_step_185 S2 ?_
  cases hP : pS f 2 b c o M with
  | none => rw [hP] at hr2; cases hr2
  | some r1 =>
  rw [hP] at hr2
  refine (ih 2 b c o M r1 hP hb h2 h2 _ (hU h2 + 128 * M.length) S2 (FS_refl _) X2 (Nat.le_refl _) (by omega) (by omega) _).2.2 rfl (by omega) ?_
  cases r1 with
  | inl g => cases hr2; exact FQS_to hS0 F2 (by omega) (fun _ z => z) k
  | inr q =>
  obtain ⟨p, M1, c1, o1⟩ := q
  have hr3 : (qis 5 9 M1 fun M2 => qBnd (pS f 2 b c1 o1 M2) fun p2 M3 c3 o3 => qis 5 10 M3 fun M4 => qE (pE M4) fun e2 M5 => qEnd (pq L) false 3 c3 o3 (zB 108 e (zB 112 p (zB 113 p2 e2))) M5) = some r := hr2
  have lM1 := (pS_len f _ _ _ _ _ _ _ _ _ hP).1
  intro h3 ap ys u1 u2 u3 u4 u5
  have u2' : hU h3 + 128 * M1.length ≤ hU h2 + 128 * M.length := u2
  have u3' : Xs h3 M1 c1 o1 := u3
  have u5' : RT h3 (hN h2) (hN h3) p ys := u5
  have S3 := FS_St u1 S2
  have F3 := FS_trans F2 u1
  have hn3 := F3.1
  refine ss_X0_step_191 S3 ?_
  unfold qis at hr3
  refine c_wordR (n := n) (i := 9) S3 (FA_refl h3) u3'.1 (by omega) (sts_36 S3) (by decide) (by decide) (by decide) (fun q1 h4 w1 w2 w3' w4' => ?_) (fun q1 => ?_)
  · rw [q1, if_pos rfl] at hr3
    dsimp only at hr3
    have lA := (pis_t q1).2.2.2
    have S4 := FA_St w1 S3
    have X4 := Xs_FA u3' S3 w1 w4' (Lok_tl u3'.2.1)
    have F4 := FS_trans F3 (FS_FA w1)
    have hn4 := F4.1
    refine ss_X0_step_199 S4 ?_
    cases hP2 : pS f 2 b c1 o1 M1.tail with
    | none => rw [hP2] at hr3; cases hr3
    | some r2 =>
    rw [hP2] at hr3
    refine (ih 2 b c1 o1 M1.tail r2 hP2 hb h4 h4 _ (hU h4 + 128 * M1.tail.length) S4 (FS_refl _) X4 (Nat.le_refl _) (by omega) (by omega) _).2.2 rfl (by omega) ?_
    cases r2 with
    | inl g => cases hr3; exact FQS_to hS0 F4 (by omega) (fun _ z => z) k
    | inr q =>
    obtain ⟨p2, M3, c3, o3⟩ := q
    have hr4 : (qis 5 10 M3 fun M4 => qE (pE M4) fun e2 M5 => qEnd (pq L) false 3 c3 o3 (zB 108 e (zB 112 p (zB 113 p2 e2))) M5) = some r := hr3
    have lM3 := (pS_len f _ _ _ _ _ _ _ _ _ hP2).1
    intro h5' aq zs x1 x2 x3 x4 x5
    have x2' : hU h5' + 128 * M3.length ≤ hU h4 + 128 * M1.tail.length := x2
    have x3' : Xs h5' M3 c3 o3 := x3
    have x5' : RT h5' (hN h4) (hN h5') p2 zs := x5
    have S5 := FS_St x1 S4
    have F5 := FS_trans F4 x1
    have hn5 := F5.1
    refine ss_X0_step_204 S5 ?_
    unfold qis at hr4
    refine c_wordR (n := n) (i := 10) S5 (FA_refl h5') x3'.1 (by omega) (sts_38 S5) (by decide) (by decide) (by decide) (fun q2 h6 y1 y2 y3 y4 => ?_) (fun q2 => ?_)
    · rw [q2, if_pos rfl] at hr4
      dsimp only at hr4
      have lB := (pis_t q2).2.2.2
      have S6 := FA_St y1 S5
      have X6 := Xs_FA x3' S5 y1 y4 (Lok_tl x3'.2.1)
      have F6 := FS_trans F5 (FS_FA y1)
      have hn6 := F6.1
      refine ss_X0_step_212 S6 ?_
      refine c_expr S6 y4 (by omega) (by omega) ?_
      cases hE2 : pE M3.tail with
      | inl g => rw [hE2] at hr4; cases hr4; exact FQS_FQ hS0 F6 (by omega) (fun _ z => z) k
      | inr q =>
      obtain ⟨e2, M5⟩ := q
      rw [hE2] at hr4
      have hr5 : qEnd (pq L) false 3 c3 o3 (zB 108 e (zB 112 p (zB 113 p2 e2))) M5 = some r := hr4
      have lM5 := (pE_eq _).2 _ _ hE2
      intro h7 a7 z1 z2 z3 z4
      have z2' : hU h7 + 16 * M5.length ≤ hU h6 + 16 * M3.tail.length := z2
      have z4' : RE h7 (hN h6) (hN h7) e2 a7 := z4
      have S7 := FA_St z1 S6
      have X7 : Xs h7 M5 c3 o3 := Xs_FA X6 S6 z1 z3 (pE_good X6.2.1 hE2).1
      have F7 := FS_trans F6 (FS_FA z1)
      refine ss_X0_step_217 S7 ?_
      refine c_close (self := false) (more := 3) (q := pq L) S7 X7 (n := n) (by omega) (by decide) (by rw [hv, FS_n hF hS0, FS_n F7 hS0]) hr5 ?_
      refine CQ_of2 hS0 F7 hr5 k (fun _ z => z) (fun kk2 hl3 h8 v1 v2 v3 v4 => ?_)
      have S8 := FS_St v1 S7
      have F8 := FS_trans F7 v1
      have h845 := S8.1
      have hn8 := F8.1
      refine ss_X0_step_226 S8 ?_
      refine ⟨by omega, c_n29 (St_new S8) (hT_newa rfl) ?_⟩
      have G8 : FS h8 (sR (sR (sR (sR (hNew h8 29 0 4) (hN h8) 0 (some a2)) (hN h8) 1 (some ap)) (hN h8) 2 (some aq)) (hN h8) 3 (some a7)) := FS_sR (FS_sR (FS_sR (FS_sR (FS_new (FS_refl h8)) (by omega)) (by omega)) (by omega)) (by omega)
      have G7 := FS_trans v1 G8
      have G6 := FS_trans (FS_FA z1) G7
      have G5 := FS_trans (FS_FA y1) G6
      have G4 := FS_trans x1 G5
      have G3 := FS_trans (FS_FA w1) G4
      have G2 := FS_trans u1 G3
      have m78 := v1.1
      have m67 := z1.1
      have m56 := y1.1
      have m45 := x1.1
      have m34 := w1.1
      have m23 := u1.1
      have m12 := g1.1
      refine kk2 _ _ (FS_trans F8 G8) (by show hU h8 + 4 + 13 + 128 * M5.tail.length + 100 ≤ n; omega) ?_ ?_
      · exact Xs_sm (sm_sR (sm_sR (sm_sR (sm_sR (sm_new (sm_refl _ _) (by omega)) (by omega)) (by omega)) (by omega)) (by omega)) (sm_sR (sm_sR (sm_sR (sm_sR (sm_new (sm_refl _ _) (by omega)) (by omega)) (by omega)) (by omega)) (by omega)) v4
      · refine RT_step (by decide) ⟨hN h8, rfl, by omega, by show hN h8 < hN h8 + 1; omega, ?_⟩
        rw [if_neg (by decide), if_neg (by decide), if_neg (by decide), if_neg (by decide), if_neg (by decide), if_pos (by decide)]
        refine ⟨by rw [hT_sR, hT_sR, hT_sR, hT_sR, hT_newa rfl]; rfl, a2, ap, aq, a7, ?_, ?_, ?_, ?_, ?_, ?_⟩
        · rw [hR_sR, if_neg (by omega), hR_sR, if_neg (by omega), hR_sR, if_neg (by omega), hR_sR, if_pos ⟨rfl, rfl⟩]
        · rw [hR_sR, if_neg (by omega), hR_sR, if_neg (by omega), hR_sR, if_pos ⟨rfl, rfl⟩]
        · rw [hR_sR, if_neg (by omega), hR_sR, if_pos ⟨rfl, rfl⟩]
        · rw [hR_sR, if_pos ⟨rfl, rfl⟩]
        · exact old_RE (by omega) (Nat.le_refl _) G2 (by omega) (by show hN h2 ≤ hN h8 + 1; omega) g4'
        · refine RT_112 (by decide) (ys := ys) (old_RPt (by omega) (Nat.le_refl _) G3 (by omega) (by show hN h3 ≤ hN h8 + 1; omega) u5' u4) (old_RT (by omega) (Nat.le_refl _) G3 (by omega) (by show hN h3 ≤ hN h8 + 1; omega) u5') ?_
          refine RT_113 (by decide) (ys := zs) (old_RPt (by omega) (Nat.le_refl _) G5 (by omega) (by show hN h5' ≤ hN h8 + 1; omega) x5' x4) (old_RT (by omega) (Nat.le_refl _) G5 (by omega) (by show hN h5' ≤ hN h8 + 1; omega) x5') ?_
          exact old_RE (by omega) (Nat.le_refl _) G7 (by omega) (by show hN h7 ≤ hN h8 + 1; omega) z4'
    · rw [q2, if_neg (by decide)] at hr4
      cases hr4
      exact FQS_FQ hS0 F5 (Nat.le_refl _) (fun _ z => z) k
  · rw [q1, if_neg (by decide)] at hr3
    cases hr3
    exact FQS_FQ hS0 F3 (Nat.le_refl _) (fun _ z => z) k
theorem x_from {f : Nat} (ih : PSs f) {d b c o n : Nat} {L : List zTk} {r : zRs} {Q : qt} {h0 h : hp} {v : Int} {w3 w4 w5 w6 : av} (hr : pS (f + 1) 1 b c o L = some r) (hb : b ≤ 5) (hS0 : St h0) (hF : FS h0 h) (hX : Xs h L c o) (hu : hU h + 128 * L.length ≤ n) (hn : n ≤ BUD) (hl : L.length ≤ 600) (h5 : phs 5 L = true) (hw : pw L = 11) (hv : v = hI h 68 1 - (pq L : Nat)) (hd : 704 + 5 * (5 - b) ≤ d) (k : SQ2 h0 n r Q) : cV (Wc d) 5 [vR (some 68)] h (fun h5 => Wp d C_X0_step Q 254 [vR (some 68), vI (b : Nat), vI v, w3, w4, w5, w6] [] h5) (fun e7 h8 => Q (.inr e7) h8) := by
  obtain ⟨d, rfl⟩ : ∃ e, d = e + 704 := ⟨d - 704, by omega⟩
  have hS := FS_St hF hS0
  have h145 := hS0.1
  have hr1 : (qE (pE L.tail) fun e M => qBnd (pS f 2 b c o M) fun p M1 c1 o1 => qis 5 12 M1 fun M2 => qBnd (pS f 2 b c1 o1 M2) fun p2 M3 c3 o3 => qis 5 13 M3 fun M4 => qE (pE M4) fun e2 M5 => qEnd (pq L) false 3 c3 o3 (zB 111 e (zB 117 p (zB 118 p2 e2))) M5) = some r := by
    unfold pS at hr
    rw [if_neg (by decide), if_pos rfl, h5, hw] at hr
    exact hr
  have hlen := (phs_t h5).2
  refine c_adv2 hS hX.1 (phs_t h5).1 fun h1 f1 f2 f3 f4 => ?_
  have S1 := FA_St f1 hS
  have X1 := Xs_FA hX hS f1 f4 (Lok_tl hX.2.1)
  have F1 : FS h0 h1 := FS_trans hF (FS_FA f1)
  have hn1 := F1.1
  refine ss_X0_step_254 S1 ?_
  refine c_expr S1 f4 (by omega) (by omega) ?_
  cases hE : pE L.tail with
  | inl g => rw [hE] at hr1; cases hr1; exact FQS_FQ hS0 F1 (by omega) (fun _ z => z) k
  | inr q =>
  obtain ⟨e, M⟩ := q
  rw [hE] at hr1
  have hr2 : (qBnd (pS f 2 b c o M) fun p M1 c1 o1 => qis 5 12 M1 fun M2 => qBnd (pS f 2 b c1 o1 M2) fun p2 M3 c3 o3 => qis 5 13 M3 fun M4 => qE (pE M4) fun e2 M5 => qEnd (pq L) false 3 c3 o3 (zB 111 e (zB 117 p (zB 118 p2 e2))) M5) = some r := hr1
  have lM := (pE_eq _).2 _ _ hE
  intro h2 a2 g1 g2 g3 g4
  have g2' : hU h2 + 16 * M.length ≤ hU h1 + 16 * L.tail.length := g2
  have g4' : RE h2 (hN h1) (hN h2) e a2 := g4
  have S2 := FA_St g1 S1
  have X2 : Xs h2 M c o := Xs_FA X1 S1 g1 g3 (pE_good X1.2.1 hE).1
  have F2 : FS h0 h2 := FS_trans F1 (FS_FA g1)
  have hn2 := F2.1
  refine ss_X0_step_259 S2 ?_
  cases hP : pS f 2 b c o M with
  | none => rw [hP] at hr2; cases hr2
  | some r1 =>
  rw [hP] at hr2
  refine (ih 2 b c o M r1 hP hb h2 h2 _ (hU h2 + 128 * M.length) S2 (FS_refl _) X2 (Nat.le_refl _) (by omega) (by omega) _).2.2 rfl (by omega) ?_
  cases r1 with
  | inl g => cases hr2; exact FQS_to hS0 F2 (by omega) (fun _ z => z) k
  | inr q =>
  obtain ⟨p, M1, c1, o1⟩ := q
  have hr3 : (qis 5 12 M1 fun M2 => qBnd (pS f 2 b c1 o1 M2) fun p2 M3 c3 o3 => qis 5 13 M3 fun M4 => qE (pE M4) fun e2 M5 => qEnd (pq L) false 3 c3 o3 (zB 111 e (zB 117 p (zB 118 p2 e2))) M5) = some r := hr2
  have lM1 := (pS_len f _ _ _ _ _ _ _ _ _ hP).1
  intro h3 ap ys u1 u2 u3 u4 u5
  have u2' : hU h3 + 128 * M1.length ≤ hU h2 + 128 * M.length := u2
  have u3' : Xs h3 M1 c1 o1 := u3
  have u5' : RT h3 (hN h2) (hN h3) p ys := u5
  have S3 := FS_St u1 S2
  have F3 := FS_trans F2 u1
  have hn3 := F3.1
  refine ss_X0_step_265 S3 ?_
  unfold qis at hr3
  refine c_wordR (n := n) (i := 12) S3 (FA_refl h3) u3'.1 (by omega) (sts_40 S3) (by decide) (by decide) (by decide) (fun q1 h4 w1 w2 w3' w4' => ?_) (fun q1 => ?_)
  · rw [q1, if_pos rfl] at hr3
    dsimp only at hr3
    have lA := (pis_t q1).2.2.2
    have S4 := FA_St w1 S3
    have X4 := Xs_FA u3' S3 w1 w4' (Lok_tl u3'.2.1)
    have F4 := FS_trans F3 (FS_FA w1)
    have hn4 := F4.1
    refine ss_X0_step_273 S4 ?_
    cases hP2 : pS f 2 b c1 o1 M1.tail with
    | none => rw [hP2] at hr3; cases hr3
    | some r2 =>
    rw [hP2] at hr3
    refine (ih 2 b c1 o1 M1.tail r2 hP2 hb h4 h4 _ (hU h4 + 128 * M1.tail.length) S4 (FS_refl _) X4 (Nat.le_refl _) (by omega) (by omega) _).2.2 rfl (by omega) ?_
    cases r2 with
    | inl g => cases hr3; exact FQS_to hS0 F4 (by omega) (fun _ z => z) k
    | inr q =>
    obtain ⟨p2, M3, c3, o3⟩ := q
    have hr4 : (qis 5 13 M3 fun M4 => qE (pE M4) fun e2 M5 => qEnd (pq L) false 3 c3 o3 (zB 111 e (zB 117 p (zB 118 p2 e2))) M5) = some r := hr3
    have lM3 := (pS_len f _ _ _ _ _ _ _ _ _ hP2).1
    intro h5' aq zs x1 x2 x3 x4 x5
    have x2' : hU h5' + 128 * M3.length ≤ hU h4 + 128 * M1.tail.length := x2
    have x3' : Xs h5' M3 c3 o3 := x3
    have x5' : RT h5' (hN h4) (hN h5') p2 zs := x5
    have S5 := FS_St x1 S4
    have F5 := FS_trans F4 x1
    have hn5 := F5.1
    refine ss_X0_step_278 S5 ?_
    unfold qis at hr4
    refine c_wordR (n := n) (i := 13) S5 (FA_refl h5') x3'.1 (by omega) (sts_42 S5) (by decide) (by decide) (by decide) (fun q2 h6 y1 y2 y3 y4 => ?_) (fun q2 => ?_)
    · rw [q2, if_pos rfl] at hr4
      dsimp only at hr4
      have lB := (pis_t q2).2.2.2
      have S6 := FA_St y1 S5
      have X6 := Xs_FA x3' S5 y1 y4 (Lok_tl x3'.2.1)
      have F6 := FS_trans F5 (FS_FA y1)
      have hn6 := F6.1
      refine ss_X0_step_286 S6 ?_
      refine c_expr S6 y4 (by omega) (by omega) ?_
      cases hE2 : pE M3.tail with
      | inl g => rw [hE2] at hr4; cases hr4; exact FQS_FQ hS0 F6 (by omega) (fun _ z => z) k
      | inr q =>
      obtain ⟨e2, M5⟩ := q
      rw [hE2] at hr4
      have hr5 : qEnd (pq L) false 3 c3 o3 (zB 111 e (zB 117 p (zB 118 p2 e2))) M5 = some r := hr4
      have lM5 := (pE_eq _).2 _ _ hE2
      intro h7 a7 z1 z2 z3 z4
      have z2' : hU h7 + 16 * M5.length ≤ hU h6 + 16 * M3.tail.length := z2
      have z4' : RE h7 (hN h6) (hN h7) e2 a7 := z4
      have S7 := FA_St z1 S6
      have X7 : Xs h7 M5 c3 o3 := Xs_FA X6 S6 z1 z3 (pE_good X6.2.1 hE2).1
      have F7 := FS_trans F6 (FS_FA z1)
      refine ss_X0_step_291 S7 ?_
      refine c_close (self := false) (more := 3) (q := pq L) S7 X7 (n := n) (by omega) (by decide) (by rw [hv, FS_n hF hS0, FS_n F7 hS0]) hr5 ?_
      refine CQ_of2 hS0 F7 hr5 k (fun _ z => z) (fun kk2 hl3 h8 v1 v2 v3 v4 => ?_)
      have S8 := FS_St v1 S7
      have F8 := FS_trans F7 v1
      have h845 := S8.1
      have hn8 := F8.1
      refine ss_X0_step_300 S8 ?_
      refine ⟨by omega, c_n30 (St_new S8) (hT_newa rfl) ?_⟩
      have G8 : FS h8 (sR (sR (sR (sR (hNew h8 30 0 4) (hN h8) 0 (some a2)) (hN h8) 1 (some ap)) (hN h8) 2 (some aq)) (hN h8) 3 (some a7)) := FS_sR (FS_sR (FS_sR (FS_sR (FS_new (FS_refl h8)) (by omega)) (by omega)) (by omega)) (by omega)
      have G7 := FS_trans v1 G8
      have G6 := FS_trans (FS_FA z1) G7
      have G5 := FS_trans (FS_FA y1) G6
      have G4 := FS_trans x1 G5
      have G3 := FS_trans (FS_FA w1) G4
      have G2 := FS_trans u1 G3
      have m78 := v1.1
      have m67 := z1.1
      have m56 := y1.1
      have m45 := x1.1
      have m34 := w1.1
      have m23 := u1.1
      have m12 := g1.1
      refine kk2 _ _ (FS_trans F8 G8) (by show hU h8 + 4 + 13 + 128 * M5.tail.length + 100 ≤ n; omega) ?_ ?_
      · exact Xs_sm (sm_sR (sm_sR (sm_sR (sm_sR (sm_new (sm_refl _ _) (by omega)) (by omega)) (by omega)) (by omega)) (by omega)) (sm_sR (sm_sR (sm_sR (sm_sR (sm_new (sm_refl _ _) (by omega)) (by omega)) (by omega)) (by omega)) (by omega)) v4
      · refine RT_step (by decide) ⟨hN h8, rfl, by omega, by show hN h8 < hN h8 + 1; omega, ?_⟩
        rw [if_neg (by decide), if_neg (by decide), if_neg (by decide), if_neg (by decide), if_neg (by decide), if_pos (by decide)]
        refine ⟨by rw [hT_sR, hT_sR, hT_sR, hT_sR, hT_newa rfl]; rfl, a2, ap, aq, a7, ?_, ?_, ?_, ?_, ?_, ?_⟩
        · rw [hR_sR, if_neg (by omega), hR_sR, if_neg (by omega), hR_sR, if_neg (by omega), hR_sR, if_pos ⟨rfl, rfl⟩]
        · rw [hR_sR, if_neg (by omega), hR_sR, if_neg (by omega), hR_sR, if_pos ⟨rfl, rfl⟩]
        · rw [hR_sR, if_neg (by omega), hR_sR, if_pos ⟨rfl, rfl⟩]
        · rw [hR_sR, if_pos ⟨rfl, rfl⟩]
        · exact old_RE (by omega) (Nat.le_refl _) G2 (by omega) (by show hN h2 ≤ hN h8 + 1; omega) g4'
        · refine RT_112 (by decide) (ys := ys) (old_RPt (by omega) (Nat.le_refl _) G3 (by omega) (by show hN h3 ≤ hN h8 + 1; omega) u5' u4) (old_RT (by omega) (Nat.le_refl _) G3 (by omega) (by show hN h3 ≤ hN h8 + 1; omega) u5') ?_
          refine RT_113 (by decide) (ys := zs) (old_RPt (by omega) (Nat.le_refl _) G5 (by omega) (by show hN h5' ≤ hN h8 + 1; omega) x5' x4) (old_RT (by omega) (Nat.le_refl _) G5 (by omega) (by show hN h5' ≤ hN h8 + 1; omega) x5') ?_
          exact old_RE (by omega) (Nat.le_refl _) G7 (by omega) (by show hN h7 ≤ hN h8 + 1; omega) z4'
    · rw [q2, if_neg (by decide)] at hr4
      cases hr4
      exact FQS_FQ hS0 F5 (Nat.le_refl _) (fun _ z => z) k
  · rw [q1, if_neg (by decide)] at hr3
    cases hr3
    exact FQS_FQ hS0 F3 (Nat.le_refl _) (fun _ z => z) k

