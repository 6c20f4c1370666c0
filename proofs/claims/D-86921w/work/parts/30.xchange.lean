/-! x: changing -/
theorem two0 (c e : Int) : bTwo c e = some 0 ↔ c = ((43 : Nat) : Int) ∧ e = ((61 : Nat) : Int) := by
  unfold bTwo
  constructor
  · intro h
    repeat' (split at h)
    all_goals simp_all
  · rintro ⟨rfl, rfl⟩; rfl
theorem two1 (c e : Int) : bTwo c e = some 1 ↔ c = ((45 : Nat) : Int) ∧ e = ((61 : Nat) : Int) := by
  unfold bTwo
  constructor
  · intro h
    repeat' (split at h)
    all_goals simp_all
  · rintro ⟨rfl, rfl⟩; rfl
theorem two2 (c e : Int) : bTwo c e = some 2 ↔ c = ((94 : Nat) : Int) ∧ e = ((61 : Nat) : Int) := by
  unfold bTwo
  constructor
  · intro h
    repeat' (split at h)
    all_goals simp_all
  · rintro ⟨rfl, rfl⟩; rfl
theorem two3 (c e : Int) : bTwo c e = some 3 ↔ c = ((60 : Nat) : Int) ∧ e = ((62 : Nat) : Int) := by
  unfold bTwo
  constructor
  · intro h
    repeat' (split at h)
    all_goals simp_all
  · rintro ⟨rfl, rfl⟩; rfl
theorem two4 (c e : Int) : bTwo c e = some 4 ↔ c = ((60 : Nat) : Int) ∧ e = ((60 : Nat) : Int) := by
  unfold bTwo
  constructor
  · intro h
    repeat' (split at h)
    all_goals simp_all
  · rintro ⟨rfl, rfl⟩; rfl
theorem two5 (c e : Int) : bTwo c e = some 5 ↔ c = ((62 : Nat) : Int) ∧ e = ((62 : Nat) : Int) := by
  unfold bTwo
  constructor
  · intro h
    repeat' (split at h)
    all_goals simp_all
  · rintro ⟨rfl, rfl⟩; rfl
theorem pP_good {L M : List zTk} {p : zT} (hL : Lok L) (h : pP L = .inr (p, M)) : Lok M ∧ M.length < L.length ∧ ((zg p = 1 ∧ zn (zl p) < 26) ∨ (zg p = 3 ∧ zn (zl p) < 6 ∧ zok (zr p) 0 ∧ zdp (zr p) ≤ 9 ∧ zht (zr p) ≤ L.length)) := by
  unfold pP at h
  obtain ⟨o1, o3, -⟩ := Lok_hd hL
  split at h
  · rename_i p1
    cases h
    have := (phs_t p1).2
    exact ⟨Lok_tl hL, by omega, Or.inl ⟨rfl, o1 p1⟩⟩
  · split at h
    · rename_i p3
      have hl := (phs_t p3).2
      split at h
      · rename_i p4
        have hl2 := (pis_t p4).2.2.2
        cases hE : pE L.tail.tail with
        | inl f => rw [hE] at h; cases h
        | inr q =>
          obtain ⟨e, N⟩ := q
          rw [hE] at h
          obtain ⟨e1, e2, e3, e4, e5⟩ := pE_good (Lok_tl (Lok_tl hL)) hE
          dsimp only at h
          split at h
          · rename_i p5
            cases h
            have := (pis_t p5).2.2.2
            exact ⟨Lok_tl e1, by omega, Or.inr ⟨rfl, o3 p3, e2, e3.1, by show zht e ≤ _; omega⟩⟩
          · cases h
      · cases h
    · cases h
theorem x_changing {d : Nat} {Q : qt} {h : hp} {L : List zTk} {c o n : Nat} {r : zRs} {v : Int} (hS : St h) (hX : Xs h L c o) (hu : hU h + 64 * L.length ≤ n) (hn : n ≤ BUD) (hl6 : L.length ≤ 600) (h5 : (phs 1 L || phs 3 L) = true) (hv : v = hI h 68 1 - (pq L : Nat)) (hr : pOne c o L = some r) (k : SQ h n r Q) : Wc (d + 700) 16 [vR (some 68), vI v] h Q := by
  have h145 := hS.1
  have hr1 : (qE (pP L) fun p M =>
    if phs 6 M then (if pw M = 3 then qE (pP M.tail) fun p2 M2 => qEnd (pq L) false 1 c o (zB 133 p p2) M2
      else qE (pE M.tail) fun e M2 => qEnd (pq L) (zg p == 1 && zhas (zn (zl p)) e) 1 c o (zB (130 + pw M) p e) M2)
    else qno 1 M) = some r := by
    unfold pOne at hr
    rw [h5, if_pos rfl] at hr
    exact hr
  refine se_X0_changing hS ?_
  refine c_target hS hX.1 (by omega) (by omega) ?_
  cases hP : pP L with
  | inl f =>
    rw [hP] at hr1
    cases hr1
    exact FQS_FQ hS (FS_refl h) (by omega) (fun _ z => z) k
  | inr q =>
  obtain ⟨p, M⟩ := q
  rw [hP] at hr1
  have hr2 : (if phs 6 M then (if pw M = 3 then qE (pP M.tail) fun p2 M2 => qEnd (pq L) false 1 c o (zB 133 p p2) M2
      else qE (pE M.tail) fun e M2 => qEnd (pq L) (zg p == 1 && zhas (zn (zl p)) e) 1 c o (zB (130 + pw M) p e) M2)
    else qno 1 M) = some r := hr1
  intro h1 a f1 f2 f3 f4
  have f2' : hU h1 + 16 * M.length ≤ hU h + 16 * L.length := f2
  have f3' : Lx h1 M := f3
  have f4' : RPl h1 (hN h) (hN h1) p a := f4
  obtain ⟨m1, m2, m3⟩ := pP_good hX.2.1 hP
  have S1 := FA_St f1 hS
  have X1 : Xs h1 M c o := Xs_FA hX hS f1 f3' m1
  have F1 : FS h h1 := FS_FA f1
  have hn1 := f1.1
  -- behind the sign
  have go1 : ∀ (j : Nat) (w : Int) (v4 : av), pis 6 j M = true → w = (if j = 3 then -1 else how (130 + j)) → cV (Wc (d + 699)) 5 [vR (some 68)] h1 (fun h5 => Wp (d + 699) C_X0_changing Q 100 [vR (some 68), vI v, vR (some a), vI w, v4] [] h5) (fun e7 h8 => Q (.inr e7) h8) := by
    intro j w v4 pj ew
    obtain ⟨t1, t2, t3, t4⟩ := pis_t pj
    have hj6 : j < 6 := by have := (Lok_hd m1).2.2.2.2.2 t2; omega
    rw [t2, if_pos rfl, t3] at hr2
    refine c_adv2 S1 f3' t1 fun h2 g1 g2 g3 g4 => ?_
    have S2 := FA_St g1 S1
    have X2 := Xs_FA X1 S1 g1 g4 (Lok_tl m1)
    have F2 : FS h h2 := FS_trans F1 (FS_FA g1)
    have hn2 := F2.1
    have h245 := S2.1
    refine ss_X0_changing_100 S2 ?_
    have RPa : ∀ (g : hp) (hi : Nat), hN h1 ≤ hi → (∀ x, 145 ≤ x → x < hN h1 → sm h2 g x) → RPl g (hN h) hi p a := by
      intro g hi hh hg
      refine RPl_mono (Nat.le_refl _) hh (RPl_eq (fun x x1 x2 _ => ?_) f4')
      exact sm_trans (FA_sm g1 x2 (by omega)) (hg x (by omega) x2)
    by_cases q3 : j = 3
    · rw [if_pos q3] at hr2 ew
      refine ip (by rw [ew]; decide) ?_
      refine c_target S2 g4 (by omega) (by omega) ?_
      cases hP2 : pP M.tail with
      | inl f =>
        rw [hP2] at hr2
        cases hr2
        exact FQS_FQ hS F2 (by omega) (fun _ z => z) k
      | inr q =>
        obtain ⟨p2, M2⟩ := q
        rw [hP2] at hr2
        have hr3 : qEnd (pq L) false 1 c o (zB 133 p p2) M2 = some r := hr2
        intro h3 b u1 u2 u3 u4
        have u2' : hU h3 + 16 * M2.length ≤ hU h2 + 16 * M.tail.length := u2
        have u4' : RPl h3 (hN h2) (hN h3) p2 b := u4
        obtain ⟨n1, n2, n3⟩ := pP_good X2.2.1 hP2
        have S3 := FA_St u1 S2
        have X3 : Xs h3 M2 c o := Xs_FA X2 S2 u1 u3 n1
        have F3 : FS h h3 := FS_trans F2 (FS_FA u1)
        refine ss_X0_changing_108 S3 ?_
        refine c_close (self := false) (more := 1) (q := pq L) S3 X3 (n := n) (by omega) (by decide) (by rw [hv, FS_n F3 hS]) hr3 ?_
        refine CQ_of hS F3 hr3 k (fun _ z => z) (fun k2 hl3 h4 y1 y2 y3 y4 => ?_)
        have S4 := FS_St y1 S3
        have F4 := FS_trans F3 y1
        have h445 := S4.1
        have hn4 := F4.1
        have hn23 := u1.1
        have hn34 := y1.1
        refine ss_X0_changing_117 S4 ?_
        refine ⟨by omega, c_n20 (St_new S4) (hT_newa rfl) ?_⟩
        refine k2 _ _ (FS_sR (FS_sR (FS_new F4) (by omega)) (by omega)) (by show hU h4 + 2 + 13 + 64 * M2.tail.length ≤ n; omega) ?_ ?_
        · exact Xs_sm (sm_sR (sm_sR (sm_new (sm_refl _ _) (by omega)) (by omega)) (by omega)) (sm_sR (sm_sR (sm_new (sm_refl _ _) (by omega)) (by omega)) (by omega)) y4
        · refine RT_step (by omega) ⟨hN h4, rfl, by omega, by show hN h4 < hN h4 + 1; omega, ?_⟩
          rw [if_neg (by omega), if_neg (by omega), if_neg (by omega), if_neg (by omega), if_neg (by omega), if_neg (by omega), if_neg (by omega), if_neg (by omega), if_pos rfl]
          refine ⟨by rw [hT_sR, hT_sR, hT_newa rfl], a, b, ?_, ?_, ?_, ?_⟩
          · rw [hR_sR, if_neg (by omega), hR_sR, if_pos ⟨rfl, rfl⟩]
          · rw [hR_sR, if_pos ⟨rfl, rfl⟩]
          · refine RPa _ (hN h4 + 1) (by omega) (fun x x0 x1 => ?_)
            exact sm_trans (FA_sm u1 (by omega) (by omega)) (sm_trans (FS_sm y1 (by omega) (by omega)) (sm_sR (sm_sR (sm_new (sm_refl _ _) (by omega)) (by omega)) (by omega)))
          · refine RPl_mono (by omega) (by show hN h3 ≤ hN h4 + 1; omega) (RPl_eq (fun x x1 x2 _ => ?_) u4')
            exact sm_trans (FS_sm y1 x2 (by omega)) (sm_sR (sm_sR (sm_new (sm_refl _ _) (by omega)) (by omega)) (by omega))
    · rw [if_neg q3] at hr2 ew
      have hw0 : ¬ w < 0 := by rw [ew]; unfold how; split; decide; split; decide; omega
      refine im hw0 ?_
      refine c_expr S2 g4 (by omega) (by omega) ?_
      cases hE : pE M.tail with
      | inl f =>
        rw [hE] at hr2
        cases hr2
        exact FQS_FQ hS F2 (by omega) (fun _ z => z) k
      | inr q =>
        obtain ⟨e, M2⟩ := q
        rw [hE] at hr2
        have hr3 : qEnd (pq L) (zg p == 1 && zhas (zn (zl p)) e) 1 c o (zB (130 + j) p e) M2 = some r := hr2
        intro h3 b u1 u2 u3 u4
        have u2' : hU h3 + 16 * M2.length ≤ hU h2 + 16 * M.tail.length := u2
        have u4' : RE h3 (hN h2) (hN h3) e b := u4
        obtain ⟨e1, e2, e3, e4, e5⟩ := pE_good X2.2.1 hE
        have S3 := FA_St u1 S2
        have X3 : Xs h3 M2 c o := Xs_FA X2 S2 u1 u3 e1
        have F3 : FS h h3 := FS_trans F2 (FS_FA u1)
        have hn23 := u1.1
        have h345 := S3.1
        have fin : ∀ self : Bool, self = (zg p == 1 && zhas (zn (zl p)) e) → cV (Wc (d + 699)) 30 [vR (some 68), vI v, vI (bI self), vI 1] h3 (fun h1 => Wp (d + 699) C_X0_changing Q 165 [vR (some 68), vI v, vR (some a), vI w, vR (some b)] [] h1) (fun e7 h8 => Q (.inr e7) h8) := by
          intro self es
          rw [es]
          refine c_close (more := 1) (q := pq L) S3 X3 (n := n) (by omega) (by decide) (by rw [hv, FS_n F3 hS]) hr3 ?_
          refine CQ_of hS F3 hr3 k (fun _ z => z) (fun k2 hl3 h4 y1 y2 y3 y4 => ?_)
          have S4 := FS_St y1 S3
          have F4 := FS_trans F3 y1
          have h445 := S4.1
          have hn4 := F4.1
          have hn34 := y1.1
          refine ss_X0_changing_165 S4 ?_
          refine ⟨by omega, c_n21 (St_new S4) (hT_newa rfl) ?_⟩
          refine k2 _ _ (FS_sR (FS_sI (FS_sR (FS_new F4) (by omega)) (Or.inr (by omega))) (by omega)) (by show hU h4 + 3 + 13 + 64 * M2.tail.length ≤ n; omega) ?_ ?_
          · exact Xs_sm (sm_sR (sm_sI (sm_sR (sm_new (sm_refl _ _) (by omega)) (by omega)) (by omega)) (by omega)) (sm_sR (sm_sI (sm_sR (sm_new (sm_refl _ _) (by omega)) (by omega)) (by omega)) (by omega)) y4
          · refine RT_step (by omega) ⟨hN h4, rfl, by omega, by show hN h4 < hN h4 + 1; omega, ?_⟩
            rw [if_neg (by omega), if_neg (by omega), if_neg (by omega), if_neg (by omega), if_neg (by omega), if_neg (by omega), if_neg (by omega), if_neg (by omega), if_neg (by omega)]
            refine ⟨by rw [hT_sR, hT_sI, hT_sR, hT_newa rfl], ?_, a, b, ?_, ?_, ?_, ?_⟩
            · rw [hI_sR, hI_sI, if_pos ⟨rfl, rfl⟩]; exact ew
            · rw [hR_sR, if_neg (by omega), hR_sI, hR_sR, if_pos ⟨rfl, rfl⟩]
            · rw [hR_sR, if_pos ⟨rfl, rfl⟩]
            · refine RPa _ (hN h4 + 1) (by omega) (fun x x0 x1 => ?_)
              exact sm_trans (FA_sm u1 (by omega) (by omega)) (sm_trans (FS_sm y1 (by omega) (by omega)) (sm_sR (sm_sI (sm_sR (sm_new (sm_refl _ _) (by omega)) (by omega)) (by omega)) (by omega)))
            · refine RE_mono (by omega) (by show hN h3 ≤ hN h4 + 1; omega) (RE_eq (fun x x1 x2 _ => ?_) u4')
              exact sm_trans (FS_sm y1 x2 (by omega)) (sm_sR (sm_sI (sm_sR (sm_new (sm_refl _ _) (by omega)) (by omega)) (by omega)) (by omega))
        have RPh3 : RPl h3 (hN h) (hN h1) p a := RPl_eq (fun x x1 x2 _ => FA_sm u1 (by omega) (by omega)) (RPa h2 (hN h1) (Nat.le_refl _) (fun x _ _ => sm_refl _ _))
        obtain ⟨r1, r2, r3, r4⟩ := RPh3
        refine ss_X0_changing_133 S3 ?_
        rw [ofR_some, r3]
        refine ip rfl ?_
        refine se_X6_isName S3 r3 ?_
        rcases r4 with ⟨y1, y2, y3, y4⟩ | ⟨y1, y2, y3, y4⟩
        · have hnm : zn (zl p) < 26 := by rcases m3 with z | z; exact z.2; omega
          refine im (by rw [y2]; omega) ?_
          refine ss_X0_changing_141 S3 ?_
          refine im (by decide) ?_
          rw [ofR_some, r3]
          refine ⟨by simp, ?_⟩
          rw [ofR_some, y2]
          refine c_has (e := e) S3 (by omega) u4' e2 (by omega) ?_
          refine ss_X0_changing_153 S3 ?_
          have := fin (zhas (zn (zl p)) e) (by rw [y1]; rfl)
          cases hz : zhas (zn (zl p)) e with
          | false => rw [hz] at this; refine ip rfl ?_; exact this
          | true => rw [hz] at this; refine im (by decide) ?_; exact this
        · refine ip (by rw [y2]; decide) ?_
          refine ss_X0_changing_141 S3 ?_
          refine ip rfl ?_
          exact fin false (by rw [y1]; rfl)
  refine ss_X0_changing_4 S1 ?_
  refine c_isPair (i := 0) S1 f3' (sts_54 S1) (by decide) two0 ?_
  refine ss_X0_changing_12 S1 ?_
  cases q0 : pis 6 0 M with
  | true => refine im (by decide) ?_; exact go1 0 _ _ q0 rfl
  | false =>
  refine ip rfl ?_
  refine c_isPair (i := 1) S1 f3' (sts_56 S1) (by decide) two1 ?_
  refine ss_X0_changing_26 S1 ?_
  cases q1 : pis 6 1 M with
  | true => refine im (by decide) ?_; exact go1 1 _ _ q1 rfl
  | false =>
  refine ip rfl ?_
  refine c_isPair (i := 2) S1 f3' (sts_58 S1) (by decide) two2 ?_
  refine ss_X0_changing_40 S1 ?_
  cases q2 : pis 6 2 M with
  | true => refine im (by decide) ?_; exact go1 2 _ _ q2 rfl
  | false =>
  refine ip rfl ?_
  refine c_isPair (i := 4) S1 f3' (sts_60 S1) (by decide) two4 ?_
  refine ss_X0_changing_54 S1 ?_
  cases q4 : pis 6 4 M with
  | true => refine im (by decide) ?_; exact go1 4 _ _ q4 rfl
  | false =>
  refine ip rfl ?_
  refine c_isPair (i := 5) S1 f3' (sts_62 S1) (by decide) two5 ?_
  refine ss_X0_changing_68 S1 ?_
  cases q5 : pis 6 5 M with
  | true => refine im (by decide) ?_; exact go1 5 _ _ q5 rfl
  | false =>
  refine ip rfl ?_
  refine c_isPair (i := 3) S1 f3' (sts_64 S1) (by decide) two3 ?_
  refine ss_X0_changing_88 S1 ?_
  cases q3 : pis 6 3 M with
  | true => refine im (by decide) ?_; exact go1 3 _ _ q3 rfl
  | false =>
  refine ip rfl ?_
  have hno : phs 6 M = false := by
    cases hp : phs 6 M with
    | false => rfl
    | true =>
      have h6 := (Lok_hd m1).2.2.2.2.2 hp
      have := pis_of hp
      have hc : pw M = 0 ∨ pw M = 1 ∨ pw M = 2 ∨ pw M = 3 ∨ pw M = 4 ∨ pw M = 5 := by omega
      rcases hc with z | z | z | z | z | z <;> rw [z] at this <;> simp_all
  rw [hno, if_neg (by decide)] at hr2
  cases hr2
  exact t_cannot S1 (FA_refl h1) f3' (n := n) (by omega) (FQS_FQ hS F1 (Nat.le_refl _) (fun _ z => z) k)
