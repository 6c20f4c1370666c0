/-! x's steps: the loop -/
theorem pFgt_of {L : List zTk} : pFgt L = (pis 5 14 L || (pis 5 15 L || pis 5 16 L)) := by
  cases L with
  | nil => rfl
  | cons t L => obtain ⟨q, a, b⟩ := t; simp only [pFgt, phs, pw, pis]; cases (a == 5) <;> simp [Bool.or_assoc]
theorem Xs_10 {h : hp} {L : List zTk} {c o : Nat} (k : Xs h L c o) (b : Bool) : Xs (sI h 68 10 (bI b)) L c (if b then 1 else 0) := by
  obtain ⟨x1, x2, x3, x4, x5, x6⟩ := k
  refine ⟨?_, x2, by rw [hI_sI, if_neg (by omega)]; exact x3, ?_, x5, by cases b <;> decide⟩
  · obtain ⟨u, hC, e⟩ := x1
    refine ⟨u, ?_, e⟩
    cases u with
    | nil => exact ⟨by rw [hI_sI, if_neg (by omega), hI_sI, if_neg (by omega)]; exact hC.1, by rw [hI_sI, if_neg (by omega)]; exact hC.2⟩
    | cons a r =>
      obtain ⟨hc, b1, q1, g1, g2, g3, g4, g5⟩ := hC
      refine ⟨hc, b1, q1, by rw [hI_sI, if_neg (by omega)]; exact g1, by rw [hI_sI, if_neg (by omega)]; exact g2, Tq_sI g3 (by omega), Tq_sI g4 (by omega), ?_⟩
      unfold Cso at g5 ⊢
      have e4 : hI (sI h 68 10 (bI b)) 68 4 = hI h 68 4 := by rw [hI_sI, if_neg (by omega)]
      have e5 : hI (sI h 68 10 (bI b)) 68 5 = hI h 68 5 := by rw [hI_sI, if_neg (by omega)]
      rw [e4, e5]
      exact g5
  · rw [hI_sI, if_pos ⟨rfl, rfl⟩]; cases b <;> rfl
theorem psX0 {f : Nat} (ih : PSs f) {d b c o n : Nat} {L : List zTk} {r : zRs} {Q : qt} {h0 h : hp} (hr : pS (f + 1) 0 b c o L = some r) (hb : b ≤ 5) (hS0 : St h0) (hF : FS h0 h) (hX : Xs h L c o) (hu : hU h + 128 * L.length ≤ n) (hn : n ≤ BUD) (hl : L.length ≤ 600) (hd : 706 + 5 * (5 - b) ≤ d) {acc : zT} {p l arr : Nat} {xs : List Nat} {v3 : av} (a1 : hN h0 ≤ p) (a2 : p < hN h) (a3 : hN h0 ≤ l) (a4 : l < hN h) (a5 : p ≠ l) (a6 : p ≠ arr) (a7 : hT h p = (5, 0)) (a8 : hR h p 0 = some l) (a9 : RL h l xs arr) (a10 : arr = 1 ∨ (hN h0 ≤ arr ∧ arr < hN h)) (a11 : OT h (hN h0) l arr acc xs) (a12 : xs.length ≤ c) (k : BQ h0 n acc r Q) : Wp d C_X0_steps Q 8 [vR (some 68), vI (b : Nat), vR (some p), v3] [] h := by
  obtain ⟨d, rfl⟩ : ∃ e, d = e + 706 := ⟨d - 706, by omega⟩
  have hS := FS_St hF hS0
  have h145 := hS0.1
  have h045 := hS.1
  have hn0 := hF.1
  have hr1 : (if pBeg L then (if o ≠ 2 ∧ (o == 1) ≠ pFgt L then qno 6 L else
        qBnd (pS f 1 b c (if pFgt L then 1 else 0) L) fun s M c1 o1 => qBnd (pS f 0 b c1 o1 M) fun t M2 c2 o2 => some (.inr (zcons s t, M2, c2, o2)))
      else some (.inr (zL 0, L, c, o))) = some r := hr
  have hbeg : pBeg L = (phs 1 L || phs 3 L || pKey L) := rfl
  -- a step is there
  have go29 : pBeg L = true → Wp (d + 706) C_X0_steps Q 29 [vR (some 68), vI (b : Nat), vR (some p), v3] [] h := by
    intro hB
    rw [hB, if_pos rfl] at hr1
    -- behind the check of its kind
    have go97 : ¬ (o ≠ 2 ∧ (o == 1) ≠ pFgt L) → Wp (d + 706) C_X0_steps Q 97 [vR (some 68), vI (b : Nat), vR (some p), vI (bI (pFgt L))] [] h := by
      intro hno
      rw [if_neg hno] at hr1
      have S1 : St (sI h 68 10 (bI (pFgt L))) := St_sI hS (by omega)
      have X1 := Xs_10 hX (pFgt L)
      have F1 : FS h0 (sI h 68 10 (bI (pFgt L))) := FS_sI hF (Or.inl (by unfold psf; omega))
      have sm1 : ∀ x, x ≠ 68 → sm h (sI h 68 10 (bI (pFgt L))) x := fun x hx => sm_sI (sm_refl _ _) hx
      have go107 : Wp (d + 706) C_X0_steps Q 107 [vR (some 68), vI (b : Nat), vR (some p), vI (bI (pFgt L))] [vI (bI (pFgt L)), vR (some 68)] h := by
        refine ss_X0_steps_107 hS ?_
        rw [ofR_some, a7, a8]
        refine ⟨by simp, ?_⟩
        cases hP : pS f 1 b c (if pFgt L then 1 else 0) L with
        | none => rw [hP] at hr1; cases hr1
        | some r1 =>
          rw [hP] at hr1
          refine (ih 1 b c _ L r1 hP hb (sI h 68 10 (bI (pFgt L))) (sI h 68 10 (bI (pFgt L))) _ (hU h + 128 * L.length) S1 (FS_refl _) X1 (Nat.le_refl _) (by omega) hl _).2.1 rfl (by omega) hB ?_
          cases r1 with
          | inl g =>
            cases hr1
            exact FQS_to hS0 F1 hu (fun _ z => z) k
          | inr q =>
            obtain ⟨s, M, c1, o1⟩ := q
            obtain ⟨L1, L2, L3, -⟩ := pS_len f _ _ _ _ _ _ _ _ _ hP
            obtain ⟨L4, L5⟩ := L3 rfl
            have hr2 : (qBnd (pS f 0 b c1 o1 M) fun t M2 c2 o2 => some (.inr (zcons s t, M2, c2, o2))) = some r := hr1
            intro h2 a u1 u2 u3 u4
            have u2' : hU h2 + 128 * M.length + 100 ≤ hU h + 128 * L.length := u2
            have u3' : Xs h2 M c1 o1 := u3
            have u4' : RT h2 (hN h) (hN h2) s [a] := u4
            have S2 := FS_St u1 S1
            have F2 := FS_trans F1 u1
            have hn2 : hN h ≤ hN h2 := u1.1
            have sm2 : ∀ x, x < hN h → x ≠ 68 → sm h h2 x := fun x x1 x2 => sm_trans (sm1 x x2) (FS_sm u1 x1 x2)
            have smb : ∀ x, x < hN h → 145 ≤ x → sm h h2 x := fun x x1 x2 => sm2 x x1 (by omega)
            obtain ⟨t1, t2, t3, t4⟩ := RT_mem u4' a (List.mem_singleton.mpr rfl)
            have RL2 : RL h2 l xs arr := by
              refine RL_eq hn2 (fun x hx => ?_) (fun x hx => ?_) a9
              · rcases hx with e | ⟨e, e2⟩
                · rw [e]; exact smb l a4 (by omega)
                · rw [e]
                  rcases a10 with z | z
                  · omega
                  · exact smb arr z.2 (by omega)
              · have := a9.2.2.2.1 x hx
                rcases Nat.lt_or_ge x 145 with z | z
                · by_cases x68 : x = 68
                  · rw [x68, stt_68 S2]; decide
                  · rw [(sm2 x this.1 x68).1]; exact this.2
                · rw [(smb x this.1 z).1]; exact this.2
            refine ss_X0_steps_119 S2 ?_
            rw [ofR_some, RL2.1]
            refine ip rfl ?_
            refine c_add S2 (by omega) (by omega) RL2 ⟨t2, t4⟩ (by omega) (by omega) (by have := u3'.2.2.2.2.1; omega) ?_
            intro h3 arr' v1 v2 v3' v4 v5 v6
            have hn3 : hN h2 ≤ hN h3 := by rcases v2 with z | z <;> omega
            have smc : ∀ x, x < hN h2 → x ≠ l → x ≠ arr → sm h2 h3 x := fun x x1 x2 x3 => v3' x x1 x2 (Or.inl x3)
            have OT2 : OT h2 (hN h0) l arr acc xs := OT_eq h145 hn2 (fun x x1 x2 _ _ => smb x x1 x2) (Or.inl rfl) a11
            have OT3 : OT h2 (hN h0) l arr (zap acc (zcons s (zL 0))) (xs ++ [a]) := OT_app (lo := hN h) (hi := hN h2) hn0 (Nat.le_refl _) (by omega) (by rcases a10 with z | z <;> omega) u4' OT2
            have OT4 : OT h3 (hN h0) l arr' (zap acc (zcons s (zL 0))) (xs ++ [a]) := OT_eq h145 hn3 (fun x x1 x2 x3 x4 => smc x x1 x3 x4) (by rcases v2 with z | z; exact Or.inl z.1; exact Or.inr (by omega)) OT3
            have F3 : FS h0 h3 := by
              refine ⟨by have := F2.1; omega, by have := F2.2.1; omega, fun x hx => ?_⟩
              obtain ⟨y1, y2, y3, y4⟩ := F2.2.2 x hx
              have sx : sm h2 h3 x := by
                by_cases xa : x = arr
                · have : arr = 1 := by rcases a10 with z | z; exact z; omega
                  have : arr' ≠ arr := by
                    intro z
                    have w := v1.2.2.2.2.2
                    rcases w with ⟨-, w2⟩ | ⟨w1, -⟩
                    · simp at w2
                    · omega
                  exact v3' x (by omega) (by omega) (Or.inr this)
                · exact smc x (by omega) (by omega) xa
              exact ⟨sx.1.trans y1, fun j => (y2 j).imp id (fun z => (sx.2.1 j).trans z), fun j => (sx.2.2.1 j).trans (y3 j), fun j => (sx.2.2.2 j).trans (y4 j)⟩
            have smp : sm h h3 p := sm_trans (smb p a2 (by omega)) (smc p (by omega) a5 a6)
            have X3 : Xs h3 M c1 o1 := by
              have n1 : (1 : Nat) ≠ 68 := by decide
              refine Xs_sm ?_ ?_ u3'
              · exact smc 68 (by omega) (by omega) (by rcases a10 with z | z <;> omega)
              · exact smc 69 (by omega) (by omega) (by rcases a10 with z | z <;> omega)
            refine ss_X0_steps_124 v6 ?_
            cases hP2 : pS f 0 b c1 o1 M with
            | none => rw [hP2] at hr2; cases hr2
            | some r2 =>
              rw [hP2] at hr2
              refine (ih 0 b c1 o1 M r2 hP2 hb h0 h3 Q n hS0 F3 X3 (by omega) hn (by omega) _).1 rfl (by omega) (zap acc (zcons s (zL 0))) p l arr' (xs ++ [a]) _ a1 (by omega) a3 (by omega) a5 (by rcases v2 with z | z <;> omega) (smp.1.trans a7) ((smp.2.2.2 0).trans a8) v1 ?_ OT4 (by rw [List.length_append, List.length_singleton]; omega) ?_
              · rcases v2 with z | z
                · rcases a10 with y | y
                  · exact Or.inl (by omega)
                  · exact Or.inr ⟨by omega, by omega⟩
                · exact Or.inr ⟨by omega, by omega⟩
              · cases r2 with
                | inl g => cases hr2; exact k
                | inr q =>
                  obtain ⟨t, M2, c2, o2⟩ := q
                  cases hr2
                  intro h4 a' ys y1 y2 y3 y4 y5
                  refine k h4 a' ys y1 y2 y3 y4 ?_
                  show RT h4 (hN h0) (hN h4) (zap acc (zcons s t)) ys
                  rw [← zap_app]
                  exact y5
      refine ss_X0_steps_97 hS ?_
      cases hf : pFgt L with
      | false => rw [hf] at go107; refine ip rfl ?_; exact go107
      | true => rw [hf] at go107; refine im (by decide) ?_; exact go107
    have go61 : Wp (d + 706) C_X0_steps Q 61 [vR (some 68), vI (b : Nat), vR (some p), v3] [vI (bI (pFgt L))] h := by
      refine ss_X0_steps_61 hS ?_
      have o6 := hX.2.2.2.2.2
      rw [hX.2.2.2.1]
      have hcase : o = 0 ∨ o = 1 ∨ o = 2 := by omega
      have go82 : ∀ v : Bool, o ≠ 2 → (o == 1) = v → Wp (d + 706) C_X0_steps Q 82 [vR (some 68), vI (b : Nat), vR (some p), vI (bI (pFgt L))] [vI (bI v)] h := by
        intro v ho hv
        refine ss_X0_steps_82 hS ?_
        by_cases e : v = pFgt L
        · refine ip (by rw [e]) ?_
          exact go97 (fun z => z.2 (by rw [hv, e]))
        · refine im (fun z => e (by cases v <;> cases hq : pFgt L <;> rw [hq] at z <;> first | rfl | (exact absurd z (by decide)))) ?_
          rw [if_pos ⟨ho, by rw [hv]; exact e⟩] at hr1
          cases hr1
          refine t_wrongS (kd := 6) (q := pq L) hS (Lx_pos hX.1) (n := n) (by omega) ?_
          exact FQS_to hS0 hF (Nat.le_refl _) (fun _ z => z) k
      rcases hcase with z | z | z
      · subst z
        refine im (by decide) ?_
        refine im (by decide) ?_
        exact go82 false (by decide) rfl
      · subst z
        refine im (by decide) ?_
        refine ip rfl ?_
        exact go82 true (by decide) rfl
      · subst z
        refine ip (by decide) ?_
        exact go97 (fun z => z.1 rfl)
    refine ss_X0_steps_29 hS ?_
    refine c_isWord (i := 14) hS hX.1 (sts_10 hS) (by decide) (by decide) (by decide) ?_
    refine ss_X0_steps_35 hS ?_
    cases q0 : pis 5 14 L with
    | true =>
      rw [pFgt_of, q0, Bool.true_or] at go61
      refine im (by decide) ?_
      exact ss_X0_steps_56 hS go61
    | false =>
    refine ip rfl ?_
    refine c_isWord (i := 15) hS hX.1 (sts_12 hS) (by decide) (by decide) (by decide) ?_
    refine ss_X0_steps_44 hS ?_
    cases q1 : pis 5 15 L with
    | true =>
      rw [pFgt_of, q0, q1, Bool.true_or, Bool.false_or] at go61
      refine im (by decide) ?_
      exact ss_X0_steps_56 hS go61
    | false =>
    refine ip rfl ?_
    refine c_isWord (i := 16) hS hX.1 (sts_14 hS) (by decide) (by decide) (by decide) ?_
    refine ss_X0_steps_53 hS ?_
    cases q2 : pis 5 16 L with
    | true =>
      rw [pFgt_of, q0, q1, q2, Bool.false_or, Bool.false_or] at go61
      refine im (by decide) ?_
      exact ss_X0_steps_56 hS go61
    | false =>
      rw [pFgt_of, q0, q1, q2, Bool.false_or, Bool.false_or] at go61
      refine ip rfl ?_
      exact go61
  refine ss_X0_steps_8 hS ?_
  refine c_isName hS hX.1 ?_
  refine ss_X0_steps_12 hS ?_
  cases p1 : phs 1 L with
  | true => refine im (by decide) ?_; exact go29 (by rw [hbeg, p1]; rfl)
  | false =>
  refine ip rfl ?_
  refine c_isRowT hS hX.1 ?_
  refine ss_X0_steps_19 hS ?_
  cases p3 : phs 3 L with
  | true => refine im (by decide) ?_; exact go29 (by rw [hbeg, p1, p3]; rfl)
  | false =>
  refine ip rfl ?_
  refine c_isKey hS hX.1 ?_
  refine ss_X0_steps_26 hS ?_
  cases pk : pKey L with
  | true => refine im (by decide) ?_; exact go29 (by rw [hbeg, p1, p3, pk]; rfl)
  | false =>
  refine ip rfl ?_
  rw [hbeg, p1, p3, pk, if_neg (by decide)] at hr1
  cases hr1
  refine k h p xs hF (by show hU h + 128 * L.length ≤ n; omega) hX ⟨a1, a2, a7, l, arr, a8, a3, a4, a9, a10⟩ ?_
  show RT h (hN h0) (hN h) (zap acc (zL 0)) xs
  have : ∀ t : zT, ∀ ys, OT h (hN h0) l arr t ys → RT h (hN h0) (hN h) (zap t (zL 0)) ys := by
    intro t
    induction t with
    | leaf m => intro ys z; exact z
    | branch kk s t _ ih2 =>
      intro ys z
      obtain ⟨e, x, zs, e2, ⟨lo, hi, b1, b2, -, -, b5⟩, z2⟩ := z
      show RT h (hN h0) (hN h) (.branch kk s (zap t (zL 0))) ys
      unfold RT
      rw [if_pos e]
      exact ⟨x, zs, e2, RT_mono b1 b2 b5, ih2 _ z2⟩
  exact this acc xs a11
