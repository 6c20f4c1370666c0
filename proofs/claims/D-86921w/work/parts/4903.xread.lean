/-! x: read -/
def pRd (r : Nat) (a j : Nat) : Prop := a = 1 ∨ (a = 68 ∧ (j = 1 ∨ j = 2 ∨ j = 3 ∨ j = 4 ∨ j = 5 ∨ j = 6 ∨ j = 7 ∨ j = 9 ∨ j = 10 ∨ j = 19)) ∨ (a = 72 ∧ j = r)
theorem pRd_psf {r c j : Nat} (q : psf c j) : pRd r c j := by
  unfold psf at q
  unfold pRd
  omega
theorem c_readX {d : Nat} {Q : qt} {h : hp} {r : Nat} {u : List Int} (hS : St h) (hr : r < 10) (hT0 : Tq h 0 u) (hb : hU h + 128 * u.length + 5000 ≤ BUD)
    (k1 : ∀ (kd q : Nat) (h' : hp), pRead (lex u) = some (.inl (kd, q)) → FX (pRd 10) h h' → hU h' ≤ hU h + 128 * u.length + 5000 → hI h' 68 6 = (kd : Nat) → hI h' 68 7 = hI h 68 1 - (q : Nat) → hI h' 68 1 = 0 → hI h' 68 19 = hI h 68 19 → Q (.inl (some (vI (n_sub (-10) (kd : Nat))))) h')
    (k2 : ∀ (t : zT) (h' : hp) (o : Nat), pRead (lex u) = some (.inr t) → okS t 0 → (zun false t ∨ zun true t) → zc t ≤ 40 → zbr t ≤ 5 → FX (fun a j => pRd 10 a j ∨ pRd r a j) h h' → hU h' ≤ hU h + 128 * u.length + 5000 → XR h' t o → hR h' 72 r = some o → hI h' 68 6 = 0 → hI h' 68 7 = 0 → hI h' 68 1 = 0 → hI h' 68 19 = -1 → Q (.inl (some (vI (zc t : Nat)))) h') : Wc (d + 800) 3 [vR (some 68), vI (r : Nat)] h Q := by
  have h145 := hS.1
  refine se_X0_read hS ?_
  refine pu_isRoutine hS ?_
  refine ss_X0_read_4 hS ?_
  rw [show (decide ((0 : Int) ≤ (r : Nat)) && decide (((r : Nat) : Int) ≤ 9)) = true by simp; omega]
  refine im (by decide) ?_
  obtain ⟨g, eg⟩ : ∃ x, x = sI (sI (sI (sI (sI h 68 2 0) 68 9 0) 68 10 (-1)) 68 6 0) 68 7 0 := ⟨_, rfl⟩
  rw [← eg]
  have Fg : FX (pRd 10) h g := by
    rw [eg]
    exact FX_sI (FX_sI (FX_sI (FX_sI (FX_sI (FX_refl hS) (Or.inl (by unfold pRd; omega)) (by omega)) (Or.inl (by unfold pRd; omega)) (by omega)) (Or.inl (by unfold pRd; omega)) (by omega)) (Or.inl (by unfold pRd; omega)) (by omega)) (Or.inl (by unfold pRd; omega)) (by omega)
  have Sg : St g := Fg.2.2.1
  have g1 : hI g 68 1 = hI h 68 1 := by rw [eg]; simp [hI_sI]
  have g19 : hI g 68 19 = hI h 68 19 := by rw [eg]; simp [hI_sI]
  have g2 : hI g 68 2 = ((0 : Nat) : Int) := by rw [eg]; simp [hI_sI]
  have g9 : hI g 68 9 = 0 := by rw [eg]; simp [hI_sI]
  have g10 : hI g 68 10 = -1 := by rw [eg]; simp [hI_sI]
  have g6 : hI g 68 6 = 0 := by rw [eg]; simp [hI_sI]
  have g7 : hI g 68 7 = 0 := by rw [eg]; simp [hI_sI]
  have ug : hU g = hU h := by rw [eg]; rfl
  have Tg : Tq g 0 u := by rw [eg]; exact Tq_sI (Tq_sI (Tq_sI (Tq_sI (Tq_sI hT0 (by decide)) (by decide)) (by decide)) (by decide)) (by decide)
  have hu6 : u.length ≤ 600 := by have := hT0.2.1; omega
  refine c_next Sg g2 Tg fun h1 f1 cl => ?_
  have S1 := FI_St f1 Sg rfl
  have X1 : Xs h1 (lex u) 0 2 := ⟨⟨bSkip u, cl, (lex_skip u).symm⟩, lex_ok _ u (Nat.le_refl _) Tg.2.2.2, by rw [FI_i f1 rfl, g9]; rfl, by rw [FI_i f1 rfl, g10]; rfl, by omega, by omega⟩
  have F1 : FX (pRd 10) h h1 := by
    refine FX_trans Fg (FX_mono (FX_FI f1 Sg rfl) (fun c j _ q => ?_))
    unfold pG at q
    simp at q
    unfold pRd
    omega
  have a1 : hI h1 68 1 = hI h 68 1 := by rw [FI_i f1 rfl, g1]
  have a19 : hI h1 68 19 = hI h 68 19 := by rw [FI_i f1 rfl, g19]
  have u1 : hU h1 = hU h := by rw [f1.2.1, ug]
  have nn1 := F1.1
  refine ss_X0_read_40 S1 ?_
  obtain ⟨r0, hr0⟩ := pS_read (lex u)
  have hlen : (lex u).length ≤ u.length := lex_len _ u (Nat.le_refl _)
  refine c_steps (psX _) (b := 0) (n := hU h + 128 * u.length + 30) hr0 (by omega) S1 X1 (by rw [u1]; omega) (by omega) (by omega) (by omega) ?_
  cases r0 with
  | inl f =>
    have hpr : pRead (lex u) = some (.inl (f.1, f.2)) := by unfold pRead; rw [hr0]
    intro h2 h3 q1 q3 q2
    have F3 : FX (pRd 10) h h3 := by
      rw [q3]
      exact FX_sI (FX_sI (FX_trans F1 (FX_mono (FX_FS q1 S1) (fun _ _ _ q => pRd_psf q))) (Or.inl (by unfold pRd; omega)) (by omega)) (Or.inl (by unfold pRd; omega)) (by omega)
    have S2 := F3.2.2.1
    have v6 : hI h3 68 6 = (f.1 : Nat) := by rw [q3, hI_sI, if_neg (by omega), hI_sI, if_pos ⟨rfl, rfl⟩]
    have v7 : hI h3 68 7 = hI h 68 1 - (f.2 : Nat) := by rw [q3, hI_sI, if_pos ⟨rfl, rfl⟩, a1]
    have v19 : hI h3 68 19 = hI h 68 19 := by rw [q3, hI_sI, if_neg (by omega), hI_sI, if_neg (by omega), FS_i q1 S1 (by omega) (by unfold psf; omega), a19]
    have v0 : hU h3 = hU h2 := by rw [q3]; rfl
    refine ⟨by rw [stt_70 S2]; simp, ?_⟩
    refine ip (by rw [stt_70 S2]) ?_
    refine ss_X0_read_61 S2 ?_
    rw [v6]
    refine k1 f.1 f.2 _ hpr (FX_sI F3 (Or.inl (by unfold pRd; omega)) (by omega)) (by show hU h3 ≤ _; omega) ?_ ?_ ?_ ?_
    · rw [hI_sI, if_neg (by omega)]; exact v6
    · rw [hI_sI, if_neg (by omega)]; exact v7
    · rw [hI_sI, if_pos ⟨rfl, rfl⟩]
    · rw [hI_sI, if_neg (by omega)]; exact v19
  | inr p =>
    obtain ⟨t, M, c1, o1⟩ := p
    intro h2 a ys q1 q2 q3 q4 q5
    have q2' : hU h2 + 128 * M.length ≤ hU h + 128 * u.length + 30 := q2
    have q3' : Xs h2 M c1 o1 := q3
    have q5' : RT h2 (hN h1) (hN h2) t ys := q5
    have S2 := FS_St q1 S1
    have F2 : FX (pRd 10) h h2 := FX_trans F1 (FX_mono (FX_FS q1 S1) (fun _ _ _ q => pRd_psf q))
    have b1 : hI h2 68 1 = hI h 68 1 := by rw [FS_i q1 S1 (by omega) (by unfold psf; omega), a1]
    have b19 : hI h2 68 19 = hI h 68 19 := by rw [FS_i q1 S1 (by omega) (by unfold psf; omega), a19]
    have n2 := q1.1
    refine ss_X0_read_45 S2 ?_
    by_cases hM : M = []
    · have hpr : pRead (lex u) = some (.inr t) := by unfold pRead; rw [hr0]; simp only [hM, if_true]
      obtain ⟨y1, y2, y3, y4, y5⟩ := pS_ok _ _ _ _ _ _ _ _ _ _ hr0 (by decide) (by decide) (by decide) X1.2.1 (fun z => absurd z (by decide))
      obtain ⟨w1, w2, w3, w4⟩ := pS_uni _ _ _ _ _ _ _ _ _ _ hr0 (by decide) (by decide) (by decide) X1.2.1 (fun z => absurd z (by decide)) (fun z => absurd rfl z) (by decide)
      have hu : zun false t ∨ zun true t := by
        by_cases z2 : o1 = 2
        · left; rw [w3 z2]; trivial
        · have z3 := w4 (by omega)
          cases q : (o1 == 1) with
          | true => rw [q] at z3; exact Or.inr z3
          | false => rw [q] at z3; exact Or.inl z3
      have hz : zc t ≤ 40 := by omega
      have hbr : zbr t ≤ 5 := by have : zbr t + 0 + 0 ≤ 5 := y5; omega
      refine ip ((Lx_num q3'.1).2.2.mpr hM) ?_
      have S3 : St (sI h2 68 1 0) := St_sI S2 (by omega)
      have smx : ∀ c, 145 ≤ c → sm h2 (sI h2 68 1 0) c := fun c hc => sm_sI (sm_refl _ _) (by omega)
      have h1145 := S1.1
      obtain ⟨P1, P2⟩ := PT_eq (h := h2) (h' := sI h2 68 1 0) h1145 (Nat.le_refl (hN h2)) (fun c c1 c2 _ => smx c (by omega)) q4 q5'
      have st := stt_72 hS
      have F3 : FX (fun a j => pRd 10 a j ∨ pRd r a j) h (sI h2 68 1 0) := FX_sI (FX_mono F2 (fun c j _ q => Or.inl q)) (Or.inl (by unfold pRd; omega)) (by omega)
      · refine c_keep S3 hr h1145 (Nat.le_refl _) y1 hu hz hbr P1 P2 (by show hU h2 + 31 + _ ≤ _; omega) fun h3 o x1 x2 x3 x4 x5 => ?_
        have x4' : hU h3 ≤ hU h2 + 31 + 120 * zc t := x4
        have h2145 := S2.1
        refine k2 t h3 o hpr y1 hu hz hbr (FX_trans F3 (FX_mono x5 (fun c j _ q => by unfold pKp at q; unfold pRd; omega))) (by omega) x1 x2 ?_ ?_ ?_ x3
        · rw [(FX_at x5 (by show 68 < hN h2; omega) (by unfold pKp; omega)).1, hI_sI, if_neg (by omega), FS_i q1 S1 (by omega) (by unfold psf; omega), FI_i f1 rfl, g6]
        · rw [(FX_at x5 (by show 68 < hN h2; omega) (by unfold pKp; omega)).1, hI_sI, if_neg (by omega), FS_i q1 S1 (by omega) (by unfold psf; omega), FI_i f1 rfl, g7]
        · rw [(FX_at x5 (by show 68 < hN h2; omega) (by unfold pKp; omega)).1, hI_sI, if_pos ⟨rfl, rfl⟩]
    · have hpr : pRead (lex u) = some (.inl (1, pq M)) := by unfold pRead; rw [hr0]; simp only [hM, if_false]
      refine im (fun z => hM ((Lx_num q3'.1).2.2.mp z)) ?_
      refine se_X0_cannot S2 ?_
      refine se_X0_wrongAt S2 ?_
      have S3 : St (sI (sI h2 68 6 1) 68 7 (hI h2 68 3)) := St_sI (St_sI S2 (by omega)) (by omega)
      refine ⟨by rw [stt_70 S3]; decide, by rw [stt_70 S3]; simp, ?_⟩
      refine ip (by rw [stt_70 S3]) ?_
      refine ss_X0_read_61 S3 ?_
      rw [show hI (sI (sI h2 68 6 1) 68 7 (hI h2 68 3)) 68 6 = ((1 : Nat) : Int) by rw [hI_sI, if_neg (by omega), hI_sI, if_pos ⟨rfl, rfl⟩]; rfl]
      refine k1 1 (pq M) _ hpr (FX_sI (FX_sI (FX_sI F2 (Or.inl (by unfold pRd; omega)) (by omega)) (Or.inl (by unfold pRd; omega)) (by omega)) (Or.inl (by unfold pRd; omega)) (by omega)) (by show hU h2 ≤ _; omega) ?_ ?_ ?_ ?_
      · rw [hI_sI, if_neg (by omega), hI_sI, if_neg (by omega), hI_sI, if_pos ⟨rfl, rfl⟩]; rfl
      · rw [hI_sI, if_neg (by omega), hI_sI, if_pos ⟨rfl, rfl⟩, Lx_pos q3'.1, b1]
      · rw [hI_sI, if_pos ⟨rfl, rfl⟩]
      · rw [hI_sI, if_neg (by omega), hI_sI, if_neg (by omega), hI_sI, if_neg (by omega), b19]
