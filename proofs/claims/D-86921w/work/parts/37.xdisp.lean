/-! x: which step it is -/
theorem SQ_id {h0 : hp} {n : Nat} {r : zRs} {Q : qt} (k : SQ h0 n r Q) : SQ h0 n r (fun o h' => match o with
  | .inl (some (.inr (.inr (.inl r)))) => Q (.inl (some (vR r))) h'
  | .inr a => Q (.inr a) h'
  | _ => False) := by
  cases r with
  | inl f => exact k
  | inr p => exact k
theorem SQ2_id {h0 : hp} {n : Nat} {r : zRs} {Q : qt} (k : SQ2 h0 n r Q) : SQ2 h0 n r (fun o h' => match o with
  | .inl (some (.inr (.inr (.inl r)))) => Q (.inl (some (vR r))) h'
  | .inr a => Q (.inr a) h'
  | _ => False) := by
  cases r with
  | inl f => exact k
  | inr p => exact k
theorem pS_one {f b c o : Nat} {L : List zTk} (h : phs 5 L = false ∨ (pw L ≠ 8 ∧ pw L ≠ 11 ∧ pw L ≠ 15 ∧ pw L ≠ 16)) : pS (f + 1) 1 b c o L = pOne c o L := by
  unfold pS
  rw [if_neg (by decide), if_pos rfl]
  rcases h with h | ⟨h1, h2, h3, h4⟩
  · simp [h]
  · simp [h1, h2, h3, h4]
theorem phs_no5 {i : Nat} {L : List zTk} (hi : i ≠ 5) (h : phs i L = true) : phs 5 L = false := by
  cases L with
  | nil => rfl
  | cons t L => obtain ⟨q, a, b⟩ := t; simp [phs] at h ⊢; omega
theorem psX1 {f : Nat} (ih : PSs f) {d b c o n : Nat} {L : List zTk} {r : zRs} {Q : qt} {h0 h : hp} (hr : pS (f + 1) 1 b c o L = some r) (hb : b ≤ 5) (hS0 : St h0) (hF : FS h0 h) (hX : Xs h L c o) (hu : hU h + 128 * L.length ≤ n) (hn : n ≤ BUD) (hl : L.length ≤ 600) (hd : 705 + 5 * (5 - b) ≤ d) (hB : pBeg L = true) (k : SQ2 h0 n r Q) : Wc d 15 [vR (some 68), vI (b : Nat)] h Q := by
  have hS := FS_St hF hS0
  have hv : hI h 68 3 = hI h 68 1 - (pq L : Nat) := Xs_pos hX
  have hu2 : hU h + 64 * L.length ≤ n := by omega
  have hn2 : hU h + 64 * L.length ≤ BUD := by omega
  obtain ⟨d, rfl⟩ : ∃ e, d = e + 704 + 1 := ⟨d - 705, by omega⟩
  refine se_X0_step hS ?_
  refine c_isName hS hX.1 ?_
  refine ss_X0_step_9 hS ?_
  cases p1 : phs 1 L with
  | true =>
    rw [pS_one (Or.inl (phs_no5 (by decide) p1))] at hr
    refine im (by decide) ?_
    exact x_changing hS hX (Nat.le_refl _) hn2 hl (by rw [p1]; rfl) hv hr (SQ_id (SQ_of2 hS0 hF hu hr k))
  | false =>
  refine ip rfl ?_
  refine c_isRowT hS hX.1 ?_
  refine ss_X0_step_16 hS ?_
  cases p3 : phs 3 L with
  | true =>
    rw [pS_one (Or.inl (phs_no5 (by decide) p3))] at hr
    refine im (by decide) ?_
    exact x_changing hS hX (Nat.le_refl _) hn2 hl (by rw [p1, p3]; rfl) hv hr (SQ_id (SQ_of2 hS0 hF hu hr k))
  | false =>
  refine ip rfl ?_
  have p5 : phs 5 L = true := by
    unfold pBeg at hB
    rw [p1, p3] at hB
    revert hB
    cases phs 5 L <;> simp
  refine c_isWord (i := 0) hS hX.1 (sts_16 hS) (by decide) (by decide) (by decide) ?_
  rw [pis5 p5]
  refine ss_X0_step_31 hS ?_
  by_cases w0 : pw L = 0
  · have e : (pw L == 0) = true := by rw [w0]; rfl
    rw [e]
    refine im (by decide) ?_
    rw [pS_one (Or.inr ⟨by omega, by omega, by omega, by omega⟩)] at hr
    exact x_naming hS hX (Nat.le_refl _) hn2 hl p5 (by omega) hv hr (SQ_id (SQ_of2 hS0 hF hu hr k))
  have e0 : (pw L == 0) = false := by simp [w0]
  rw [e0]
  refine ip rfl ?_
  refine c_isWord (i := 1) hS hX.1 (sts_18 hS) (by decide) (by decide) (by decide) ?_
  rw [pis5 p5]
  refine ss_X0_step_40 hS ?_
  by_cases w1 : pw L = 1
  · have e : (pw L == 1) = true := by rw [w1]; rfl
    rw [e]
    refine im (by decide) ?_
    rw [pS_one (Or.inr ⟨by omega, by omega, by omega, by omega⟩)] at hr
    exact x_naming hS hX (Nat.le_refl _) hn2 hl p5 (by omega) hv hr (SQ_id (SQ_of2 hS0 hF hu hr k))
  have e1 : (pw L == 1) = false := by simp [w1]
  rw [e1]
  refine ip rfl ?_
  refine c_isWord (i := 14) hS hX.1 (sts_10 hS) (by decide) (by decide) (by decide) ?_
  rw [pis5 p5]
  refine ss_X0_step_49 hS ?_
  by_cases w14 : pw L = 14
  · have e : (pw L == 14) = true := by rw [w14]; rfl
    rw [e]
    refine im (by decide) ?_
    rw [pS_one (Or.inr ⟨by omega, by omega, by omega, by omega⟩)] at hr
    exact x_naming hS hX (Nat.le_refl _) hn2 hl p5 (by omega) hv hr (SQ_id (SQ_of2 hS0 hF hu hr k))
  have e14 : (pw L == 14) = false := by simp [w14]
  rw [e14]
  refine ip rfl ?_
  refine c_isWord (i := 2) hS hX.1 (sts_20 hS) (by decide) (by decide) (by decide) ?_
  rw [pis5 p5]
  refine ss_X0_step_64 hS ?_
  by_cases w2 : pw L = 2
  · have e : (pw L == 2) = true := by rw [w2]; rfl
    rw [e]
    refine im (by decide) ?_
    rw [pS_one (Or.inr ⟨by omega, by omega, by omega, by omega⟩)] at hr
    refine c_isWord (i := 2) hS hX.1 (sts_20 hS) (by decide) (by decide) (by decide) ?_
    rw [pis5 p5]
    exact x_push hS hX (Nat.le_refl _) hn2 p5 (by omega) hv hr (SQ_of2 hS0 hF hu hr k)
  have e2 : (pw L == 2) = false := by simp [w2]
  rw [e2]
  refine ip rfl ?_
  refine c_isWord (i := 3) hS hX.1 (sts_22 hS) (by decide) (by decide) (by decide) ?_
  rw [pis5 p5]
  refine ss_X0_step_73 hS ?_
  by_cases w3 : pw L = 3
  · have e : (pw L == 3) = true := by rw [w3]; rfl
    rw [e]
    refine im (by decide) ?_
    rw [pS_one (Or.inr ⟨by omega, by omega, by omega, by omega⟩)] at hr
    refine c_isWord (i := 2) hS hX.1 (sts_20 hS) (by decide) (by decide) (by decide) ?_
    rw [pis5 p5]
    exact x_push hS hX (Nat.le_refl _) hn2 p5 (by omega) hv hr (SQ_of2 hS0 hF hu hr k)
  have e3 : (pw L == 3) = false := by simp [w3]
  rw [e3]
  refine ip rfl ?_
  refine c_isWord (i := 4) hS hX.1 (sts_24 hS) (by decide) (by decide) (by decide) ?_
  rw [pis5 p5]
  refine ss_X0_step_125 hS ?_
  by_cases w4 : pw L = 4
  · have e : (pw L == 4) = true := by rw [w4]; rfl
    rw [e]
    refine im (by decide) ?_
    rw [pS_one (Or.inr ⟨by omega, by omega, by omega, by omega⟩)] at hr
    exact x_making hS hX (Nat.le_refl _) hn2 hl p5 (by omega) hv hr (SQ_id (SQ_of2 hS0 hF hu hr k))
  have e4 : (pw L == 4) = false := by simp [w4]
  rw [e4]
  refine ip rfl ?_
  refine c_isWord (i := 5) hS hX.1 (sts_26 hS) (by decide) (by decide) (by decide) ?_
  rw [pis5 p5]
  refine ss_X0_step_134 hS ?_
  by_cases w5 : pw L = 5
  · have e : (pw L == 5) = true := by rw [w5]; rfl
    rw [e]
    refine im (by decide) ?_
    rw [pS_one (Or.inr ⟨by omega, by omega, by omega, by omega⟩)] at hr
    exact x_making hS hX (Nat.le_refl _) hn2 hl p5 (by omega) hv hr (SQ_id (SQ_of2 hS0 hF hu hr k))
  have e5 : (pw L == 5) = false := by simp [w5]
  rw [e5]
  refine ip rfl ?_
  refine c_isWord (i := 6) hS hX.1 (sts_28 hS) (by decide) (by decide) (by decide) ?_
  rw [pis5 p5]
  refine ss_X0_step_149 hS ?_
  by_cases w6 : pw L = 6
  · have e : (pw L == 6) = true := by rw [w6]; rfl
    rw [e]
    refine im (by decide) ?_
    rw [pS_one (Or.inr ⟨by omega, by omega, by omega, by omega⟩)] at hr
    exact x_calling hS hX (Nat.le_refl _) hn2 p5 (by omega) hv hr (SQ_id (SQ_of2 hS0 hF hu hr k))
  have e6 : (pw L == 6) = false := by simp [w6]
  rw [e6]
  refine ip rfl ?_
  refine c_isWord (i := 7) hS hX.1 (sts_30 hS) (by decide) (by decide) (by decide) ?_
  rw [pis5 p5]
  refine ss_X0_step_158 hS ?_
  by_cases w7 : pw L = 7
  · have e : (pw L == 7) = true := by rw [w7]; rfl
    rw [e]
    refine im (by decide) ?_
    rw [pS_one (Or.inr ⟨by omega, by omega, by omega, by omega⟩)] at hr
    exact x_calling hS hX (Nat.le_refl _) hn2 p5 (by omega) hv hr (SQ_id (SQ_of2 hS0 hF hu hr k))
  have e7 : (pw L == 7) = false := by simp [w7]
  rw [e7]
  refine ip rfl ?_
  refine c_isWord (i := 8) hS hX.1 (sts_32 hS) (by decide) (by decide) (by decide) ?_
  rw [pis5 p5]
  refine ss_X0_step_173 hS ?_
  by_cases w8 : pw L = 8
  · have e : (pw L == 8) = true := by rw [w8]; rfl
    rw [e]
    refine im (by decide) ?_
    exact x_if ih hr hb hS0 hF hX hu hn hl p5 w8 hv (by omega) k
  have e8 : (pw L == 8) = false := by simp [w8]
  rw [e8]
  refine ip rfl ?_
  refine c_isWord (i := 11) hS hX.1 (sts_34 hS) (by decide) (by decide) (by decide) ?_
  rw [pis5 p5]
  refine ss_X0_step_247 hS ?_
  by_cases w11 : pw L = 11
  · have e : (pw L == 11) = true := by rw [w11]; rfl
    rw [e]
    refine im (by decide) ?_
    exact x_from ih hr hb hS0 hF hX hu hn hl p5 w11 hv (by omega) k
  have e11 : (pw L == 11) = false := by simp [w11]
  rw [e11]
  refine ip rfl ?_
  have hw : pw L = 15 ∨ pw L = 16 := by
    unfold pBeg at hB
    rw [p1, p3, p5] at hB
    simp at hB
    omega
  rcases hw with hw | hw
  · exact x_while ih hr hb hS0 hF hX hu hn hl p5 hw hv (by omega) (SQ2_id k)
  · exact x_when ih hr hb hS0 hF hX hu hn hl p5 hw hv (by omega) (SQ2_id k)

theorem psX : ∀ f, PSs f := by
  intro f
  induction f with
  | zero => intro m b c o L r hr; unfold pS at hr; cases hr
  | succ f ih =>
    intro m b c o L r hr hb h0 h Q n hS0 hF hX hu hn hl d
    refine ⟨?_, ?_, ?_⟩
    · intro hm hd acc p l arr xs v3 a1 a2 a3 a4 a5 a6 a7 a8 a9 a10 a11 a12 k
      subst hm
      exact psX0 ih hr hb hS0 hF hX hu hn hl hd a1 a2 a3 a4 a5 a6 a7 a8 a9 a10 a11 a12 k
    · intro hm hd hB k
      subst hm
      exact psX1 ih hr hb hS0 hF hX hu hn hl hd hB k
    · intro hm hd k
      subst hm
      exact psX2 ih hr hb hS0 hF hX hu hn hl hd k
