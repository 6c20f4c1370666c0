/-! x's steps and block -/
def PSs (f : Nat) : Prop := ∀ (m b c o : Nat) (L : List zTk) (r : zRs), pS f m b c o L = some r → b ≤ 5 → ∀ (h0 h : hp) (Q : qt) (n : Nat), St h0 → FS h0 h → Xs h L c o → hU h + 128 * L.length ≤ n → n ≤ BUD → L.length ≤ 600 → ∀ d,
  (m = 0 → 706 + 5 * (5 - b) ≤ d → ∀ (acc : zT) (p l arr : Nat) (xs : List Nat) (v3 : av), hN h0 ≤ p → p < hN h → hN h0 ≤ l → l < hN h → p ≠ l → p ≠ arr → hT h p = (5, 0) → hR h p 0 = some l → RL h l xs arr → (arr = 1 ∨ (hN h0 ≤ arr ∧ arr < hN h)) → OT h (hN h0) l arr acc xs → xs.length ≤ c → BQ h0 n acc r Q → Wp d C_X0_steps Q 8 [vR (some 68), vI (b : Nat), vR (some p), v3] [] h) ∧
  (m = 1 → 705 + 5 * (5 - b) ≤ d → pBeg L = true → SQ2 h0 n r Q → Wc d 15 [vR (some 68), vI (b : Nat)] h Q) ∧
  (m = 2 → 703 + 5 * (5 - b) ≤ d → BQ h0 n (zL 0) r Q → Wc d 35 [vR (some 68), vI (b : Nat)] h Q)
theorem c_newPart {d : Nat} {Q : qt} {g : hp} {p : Nat} (hS : St g) (hp : p < hN g) (ht : hT g p = (5, 0)) (hb : hU g + 16 ≤ BUD) (k : Q (.inl none) (sR (sR (sI (hNew g 44 0 3) (hN g) 0 0) (hN g) 1 (some 1)) p 0 (some (hN g)))) : Wc (d + 5) 232 [vR (some p)] g Q := by
  have h145 := hS.1
  refine se_X5_init hS ht ?_
  refine ss_X5_init_4 hS ht ?_
  refine ⟨by omega, ?_⟩
  have S1 : St (hNew g 44 0 3) := St_new hS
  refine se_J4_init S1 (hT_newa rfl) ?_
  have t44 : (hT (hNew g 44 0 3) (hN g)).1 ∈ [44] := by rw [hT_newa rfl]; simp
  refine se_J3_init S1 (hT_newa rfl) ?_
  refine Wc_of cs_J2_init rfl (tr_J2_init_0 ⟨rfl, ?_⟩)
  refine ss_J3_init_4 S1 (hT_newa rfl) ?_
  have S2 : St (sI (hNew g 44 0 3) (hN g) 0 0) := St_sI S1 (by omega)
  refine ss_J4_init_4 S2 (by rw [hT_sI]; exact hT_newa rfl) ?_
  have S3 : St (sR (sI (hNew g 44 0 3) (hN g) 0 0) (hN g) 1 (some 1)) := St_sR S2 (by unfold okRf; omega)
  refine ss_X5_init_12 S3 (by rw [hT_sR, hT_sI, hT_new (by omega)]; exact ht) ?_
  rw [ofR_some, hT_sR, hT_sI, hT_new (by omega), ht]
  exact ⟨by simp, k⟩
theorem c_steps {f : Nat} (ih : PSs f) {d b c o n : Nat} {L : List zTk} {r : zRs} {Q : qt} {h : hp} (hr : pS f 0 b c o L = some r) (hb : b ≤ 5) (hS : St h) (hX : Xs h L c o) (hu : hU h + 128 * L.length + 30 ≤ n) (hn : n ≤ BUD) (hl : L.length ≤ 600) (hd : 707 + 5 * (5 - b) ≤ d) (k : BQ h n (zL 0) r Q) : Wc d 9 [vR (some 68), vI (b : Nat)] h Q := by
  obtain ⟨d, rfl⟩ : ∃ e, d = e + 707 := ⟨d - 707, by omega⟩
  have h145 := hS.1
  refine se_X0_steps hS ?_
  refine ⟨by omega, ?_⟩
  have S1 : St (hNew h 5 0 1) := St_new hS
  refine c_newPart S1 (by rw [hN_new]; omega) (hT_newa rfl) (by rw [hU_new]; omega) ?_
  have hn1 : hN (hNew h 5 0 1) = hN h + 1 := hN_new
  rw [hn1]
  have S2 : St (sR (sR (sI (hNew (hNew h 5 0 1) 44 0 3) (hN h + 1) 0 0) (hN h + 1) 1 (some 1)) (hN h) 0 (some (hN h + 1))) := St_sR (St_sR (St_sI (St_new S1) (by omega)) (by unfold okRf; omega)) (by unfold okRf; omega)
  have sm2 : ∀ x, x < hN h → sm h (sR (sR (sI (hNew (hNew h 5 0 1) 44 0 3) (hN h + 1) 0 0) (hN h + 1) 1 (some 1)) (hN h) 0 (some (hN h + 1))) x := fun x hx => sm_sR (sm_sR (sm_sI (sm_new (sm_new (sm_refl _ _) hx) (by rw [hn1]; omega)) (by omega)) (by omega)) (by omega)
  refine ss_X0_steps_7 S2 ?_
  have F2 : FS h (sR (sR (sI (hNew (hNew h 5 0 1) 44 0 3) (hN h + 1) 0 0) (hN h + 1) 1 (some 1)) (hN h) 0 (some (hN h + 1))) := FS_sR (FS_sR (FS_sI (FS_new (FS_new (FS_refl h))) (Or.inr (by omega))) (by omega)) (by omega)
  refine (ih 0 b c o L r hr hb h _ Q n hS F2 (Xs_sm (sm2 68 (by omega)) (sm2 69 (by omega)) hX) (by show hU h + 1 + 13 + 3 + 13 + 128 * L.length ≤ n; omega) hn hl _).1 rfl (by omega) (zL 0) (hN h) (hN h + 1) 1 [] _ (Nat.le_refl _) (by show hN h < hN h + 1 + 1; omega) (by omega) (by show hN h + 1 < hN h + 1 + 1; omega) (by omega) (by omega) ?_ ?_ ?_ (Or.inl rfl) rfl (by simp) k
  · rw [hT_sR, hT_sR, hT_sI, hT_new (by rw [hn1]; omega), hT_newa rfl]
  · rw [hR_sR, if_pos ⟨rfl, rfl⟩]
  · refine ⟨?_, ?_, ?_, fun x hx => (by cases hx), ?_, Or.inl ⟨rfl, rfl⟩⟩
    · rw [hT_sR, hT_sR, hT_sI, hT_newa hn1.symm]
    · rw [hR_sR, if_neg (by omega), hR_sR, if_pos ⟨rfl, rfl⟩]
    · rw [hI_sR, hI_sR, hI_sI, if_neg (by omega), hI_newa hn1.symm]; rfl
    · rw [hI_sR, hI_sR, hI_sI, if_pos ⟨rfl, rfl⟩]; rfl
theorem psX2 {f : Nat} (ih : PSs f) {d b c o n : Nat} {L : List zTk} {r : zRs} {Q : qt} {h0 h : hp} (hr : pS (f + 1) 2 b c o L = some r) (hb : b ≤ 5) (hS0 : St h0) (hF : FS h0 h) (hX : Xs h L c o) (hu : hU h + 128 * L.length ≤ n) (hn : n ≤ BUD) (hl : L.length ≤ 600) (hd : 703 + 5 * (5 - b) ≤ d) (k : BQ h0 n (zL 0) r Q) : Wc d 35 [vR (some 68), vI (b : Nat)] h Q := by
  obtain ⟨d, rfl⟩ : ∃ e, d = e + 703 := ⟨d - 703, by omega⟩
  have hS := FS_St hF hS0
  have h145 := hS0.1
  have hr1 : (if pis 7 123 L then (if b = 5 then qno 2 L else qBnd (pS f 0 (b + 1) c o L.tail) fun t M c1 o1 => if pis 7 125 M then some (.inr (t, M.tail, c1, o1)) else qno 1 M) else qno 1 L) = some r := hr
  refine se_X0_block hS ?_
  refine c_isSign (v := 123) hS hX.1 ?_
  refine ss_X0_block_6 hS ?_
  cases p1 : pis 7 123 L with
  | false =>
    rw [p1, if_neg (by decide)] at hr1
    cases hr1
    refine ip rfl ?_
    exact t_cannot hS (FA_refl h) hX.1 (n := n) (by omega) (FQS_FQ hS0 hF (Nat.le_refl _) (fun _ z => z) k)
  | true =>
    rw [p1, if_pos rfl] at hr1
    have hlen := (pis_t p1).2.2.2
    refine im (by decide) ?_
    by_cases b5 : b = 5
    · rw [if_pos b5] at hr1
      cases hr1
      refine ip (by omega) ?_
      refine t_wrongS (kd := 2) (q := pq L) hS (Lx_pos hX.1) (n := n) (by omega) ?_
      exact FQS_to hS0 hF (Nat.le_refl _) (fun _ z => z) k
    · rw [if_neg b5] at hr1
      refine im (by omega) ?_
      refine c_adv2 hS hX.1 (pis_t p1).1 fun h1 f1 f2 f3 f4 => ?_
      have S1 := FA_St f1 hS
      have X1 := Xs_FA hX hS f1 f4 (Lok_tl hX.2.1)
      have F1 : FS h0 h1 := FS_trans hF (FS_FA f1)
      have hn1 := F1.1
      refine ss_X0_block_33 S1 ?_
      rw [na_eq (by omega) (by omega)]
      cases hP : pS f 0 (b + 1) c o L.tail with
      | none => rw [hP] at hr1; cases hr1
      | some r2 =>
        rw [hP] at hr1
        refine c_steps ih (b := b + 1) (n := hU h1 + 128 * L.tail.length + 30) hP (by omega) S1 X1 (Nat.le_refl _) (by omega) (by omega) (by omega) ?_
        cases r2 with
        | inl g =>
          cases hr1
          exact FQS_to hS0 F1 (by omega) (fun _ z => z) k
        | inr q =>
          obtain ⟨t, M, c1, o1⟩ := q
          have hr2 : (if pis 7 125 M then some (.inr (t, M.tail, c1, o1)) else qno 1 M) = some r := hr1
          intro h2 a ys u1 u2 u3 u4 u5
          have u2' : hU h2 + 128 * M.length ≤ hU h1 + 128 * L.tail.length + 30 := u2
          have u3' : Xs h2 M c1 o1 := u3
          have S2 := FS_St u1 S1
          have F2 := FS_trans F1 u1
          have h245 := S2.1
          refine ss_X0_block_40 S2 ?_
          refine c_sign (c := 125) (n := n) S2 (FA_refl h2) u3'.1 (by omega) (fun p2 h3 w1 w2 w3 w4 => ?_) (fun p2 => ?_)
          · rw [p2, if_pos rfl] at hr2
            cases hr2
            have hlM : M.length = M.tail.length + 1 := (pis_t p2).2.2.2
            have S3 := FA_St w1 S2
            have X3 := Xs_FA u3' S2 w1 w4 (Lok_tl u3'.2.1)
            have F3 := FS_trans F2 (FS_FA w1)
            refine ss_X0_block_47 S3 ?_
            have hsm : ∀ x, hN h1 ≤ x → x < hN h2 → imm (hT h2 x).1 → sm h2 h3 x := fun x x1 x2 _ => FA_sm w1 x2 (by omega)
            have w2' : hN h3 = hN h2 := w2
            refine k h3 a ys F3 (by show hU h3 + 128 * M.tail.length ≤ n; omega) X3 ?_ ?_
            · rw [w2']
              refine RPt_mono hn1 (Nat.le_refl _) (RPt_eq (by omega) (by omega) hsm (fun y hy => ?_) u4)
              obtain ⟨y1, y2, y3, y4⟩ := RT_mem u5 y hy
              rw [(hsm y y1 y2 (imm_in y3 (by omega))).1]; exact y4
            · rw [w2']
              exact RT_mono hn1 (Nat.le_refl _) (RT_eq (by omega) (by omega) hsm u5)
          · rw [p2, if_neg (by decide)] at hr2
            cases hr2
            exact FQS_FQ hS0 F2 (Nat.le_refl _) (fun _ z => z) k
