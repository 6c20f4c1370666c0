/-! x: words, stacks, the end of a step -/
theorem Lx_cap {h : hp} {L : List zTk} (hL : Lx h L) : (hI h 68 4 = 3 → ∃ (b : Nat) (c : Int), hI h 68 3 = b ∧ b < 600 ∧ hI h 69 b = c ∧ (phs 4 L = true ↔ 83 ≤ c ∧ c ≤ 86) ∧ (phs 4 L = true → c = (pw L : Nat) + 83 ∧ pw L < 4)) ∧ (hI h 68 4 ≠ 3 → phs 4 L = false) := by
  rcases Lx_un hL with ⟨e, e4, -⟩ | ⟨b, e, c, r, h1, h2, h3, h4, h5, hc, eL⟩
  · exact ⟨fun q => by omega, fun _ => by rw [e]; rfl⟩
  · obtain ⟨t1, t2, t3, t4⟩ := Tq_hd h3
    have hph : phs 4 L = ((bTok c r).1 == 4) := by rw [eL]; rfl
    have hpw : pw L = (bTok c r).2.1 := by rw [eL]; rfl
    unfold Cso at h5
    by_cases c1 : bSm c = true
    · rw [if_pos c1] at h5
      exact ⟨fun q => by omega, fun _ => by rw [hph]; rcases bT_sm (r := r) c1 with q | q | q <;> rw [q] <;> rfl⟩
    · rw [if_neg c1] at h5
      by_cases c2 : bDg c = true
      · rw [if_pos c2] at h5
        exact ⟨fun q => by omega, fun _ => by rw [hph, bTok_dg c1 c2]; rfl⟩
      · rw [if_neg c2] at h5
        by_cases c3 : bCp c = true
        · rw [if_pos c3] at h5
          have hr := bCp_iff.mp c3
          refine ⟨fun _ => ⟨b, c, h1, t2, t1, ?_, ?_⟩, fun q => absurd h5 q⟩
          · rw [hph]
            rcases bT_cp (r := r) c1 c2 c3 with ⟨q0, q⟩ | ⟨q0, q1, q⟩ | ⟨q0, q1, q⟩ <;> rw [q] <;> simp <;> omega
          · rw [hph, hpw]
            rcases bT_cp (r := r) c1 c2 c3 with ⟨q0, q⟩ | ⟨q0, q1, q⟩ | ⟨q0, q1, q⟩ <;> rw [q] <;> simp <;> omega
        · rw [if_neg c3] at h5
          rcases bT_ot (r := r) c1 c2 c3 with ⟨x, y, i, -, -, q⟩ | q
          · rw [q, if_pos (by simp)] at h5
            exact ⟨fun z => by omega, fun _ => by rw [hph, q]; rfl⟩
          · rw [q, if_neg (by simp)] at h5
            exact ⟨fun z => by omega, fun _ => by rw [hph, q]; rfl⟩
theorem c_stackR {d : Nat} {Q : qt} {h0 h : hp} {n : Nat} {L : List zTk} (hS0 : St h0) (hF : FA h0 h) (hL : Lx h L) (hu : hU h ≤ n) (k1 : phs 4 L = true → ∀ h', FA h h' → hN h' = hN h → hU h' = hU h → Lx h' L.tail → Q (.inl (some (vI (pw L : Nat)))) h') (k2 : phs 4 L = false → FQ h0 n 1 (pq L) Q) : Wc (d + 5) 32 [vR (some 68)] h Q := by
  have hS := FA_St hF hS0
  obtain ⟨a1, a2⟩ := Lx_cap hL
  refine se_X0_stackName hS ?_
  by_cases q : hI h 68 4 = 3
  · refine ip q ?_
    obtain ⟨b, c, b1, b2, b3, b4, b5⟩ := a1 q
    rw [b1, Int.toNat_natCast, b3]
    refine ⟨by omega, ?_⟩
    by_cases q1 : c < 83
    · refine ip q1 ?_
      exact t_cannot hS0 hF hL hu (k2 (Bool.eq_false_iff.mpr (fun z => by have := b4.mp z; omega)))
    · refine im q1 ?_
      refine ⟨by omega, ?_⟩
      by_cases q2 : 86 < c
      · refine ip q2 ?_
        exact t_cannot hS0 hF hL hu (k2 (Bool.eq_false_iff.mpr (fun z => by have := b4.mp z; omega)))
      · refine im q2 ?_
        have hp := b4.mpr ⟨by omega, by omega⟩
        obtain ⟨e1, e2⟩ := b5 hp
        refine ⟨by omega, c_adv2 hS hL (phs_t hp).1 fun h' f1 f2 f3 f4 => ss_X0_stackName_58 (FA_St f1 hS) ?_⟩
        rw [ns_eq (by omega) (by omega), show c - 83 = ((pw L : Nat) : Int) by omega]
        exact k1 hp h' f1 f2 f3 f4
  · refine im q ?_
    exact t_cannot hS0 hF hL hu (k2 (a2 q))
theorem c_wordR {d : Nat} {Q : qt} {h0 h : hp} {n a i : Nat} {bs : List Nat} {L : List zTk} (hS0 : St h0) (hF : FA h0 h) (hL : Lx h L) (hu : hU h ≤ n) (hB : Ss h a bs) (hi : i < 22) (hk : bKeys.getD i [] = bs.map Int.ofNat) (hlt : ∀ x ∈ bs, x < 128) (k1 : pis 5 i L = true → ∀ h', FA h h' → hN h' = hN h → hU h' = hU h → Lx h' L.tail → Q (.inl none) h') (k2 : pis 5 i L = false → FQ h0 n 1 (pq L) Q) : Wc (d + 6) 36 [vR (some 68), vR (some a)] h Q := by
  have hS := FA_St hF hS0
  refine se_X0_word hS ?_
  refine c_isWord hS hL hB hi hk hlt ?_
  refine ss_X0_word_5 hS ?_
  cases hp : pis 5 i L with
  | false => refine ip rfl ?_; exact t_cannot hS0 hF hL hu (k2 hp)
  | true => refine im (by decide) ?_; exact c_adv2 hS hL (pis_t hp).1 (k1 hp)
theorem t_wrongS {d : Nat} {Q : qt} {h : hp} {n kd q : Nat} {v : Int} {E : Nat → hp → Prop} (hS : St h) (hv : v = hI h 68 1 - (q : Nat)) (hu : hU h ≤ n) (k : FQS h n kd q Q) : cR (Wc (d + 1)) 14 [vR (some 68), vI (kd : Nat), vI v] h (fun x h1 => ofR x fun a => (hT h1 a).1 < 64 ∧ Q (.inr a) h1) E := by
  refine se_X0_wrongAt hS ?_
  refine ⟨?_, k h _ (FS_refl h) (by rw [hv]) hu⟩
  show (hT h 70).1 < 64
  rw [stt_70 hS]; decide
theorem FQS_id {h : hp} {n kd q : Nat} {Q : qt} (hS : St h) (k : FQS h n kd q Q) : FQ h n kd q Q := FQS_FQ hS (FS_refl h) (Nat.le_refl _) (fun _ z => z) k
/-- the end of a step: what qEnd says -/
def CQ (h : hp) (n : Nat) (r : zRs) (Q : qt) : Prop := match r with
  | .inl f => FQS h n f.1 f.2 Q
  | .inr p => ∀ h', FS h h' → hN h' = hN h → hU h' = hU h → Xs h' p.2.1 p.2.2.1 p.2.2.2 → Q (.inl none) h'
theorem c_close {d : Nat} {Q : qt} {h : hp} {L : List zTk} {c o n q more : Nat} {self : Bool} {s : zT} {r : zRs} {v : Int} (hS : St h) (hX : Xs h L c o) (hu : hU h ≤ n) (hm : more ≤ 3) (hv : v = hI h 68 1 - (q : Nat)) (hr : qEnd q self more c o s L = some r) (k : CQ h n r Q) : Wc (d + 6) 30 [vR (some 68), vI v, vI (bI self), vI (more : Nat)] h Q := by
  obtain ⟨x1, x2, x3, x4, x5, x6⟩ := hX
  unfold qEnd at hr
  refine se_X0_close hS ?_
  refine c_isSign (v := 59) hS x1 ?_
  refine ss_X0_close_6 hS ?_
  cases p1 : pis 7 59 L with
  | false =>
    rw [p1, if_neg (by decide)] at hr
    cases hr
    refine ip rfl ?_
    exact t_cannot hS (FA_refl h) x1 hu (FQS_id hS k)
  | true =>
    rw [p1, if_pos rfl] at hr
    refine im (by decide) ?_
    cases self with
    | true =>
      rw [if_pos rfl] at hr
      cases hr
      refine im (by decide) ?_
      exact t_wrongS (kd := 3) hS hv hu k
    | false =>
      rw [if_neg (by decide)] at hr
      refine ip rfl ?_
      rw [x3, na_eq (by omega) (by omega), show ((c : Nat) : Int) + ((more : Nat) : Int) = ((c + more : Nat) : Int) by omega]
      have S1 : St (sI h 68 9 ((c + more : Nat) : Int)) := St_sI hS (by omega)
      have F1 : FS h (sI h 68 9 ((c + more : Nat) : Int)) := FS_sI (FS_refl h) (Or.inl (by unfold psf; omega))
      by_cases q40 : 40 < c + more
      · rw [if_pos q40] at hr
        cases hr
        refine ip (by omega) ?_
        refine t_wrongS (kd := 4) (q := q) S1 (by rw [hI_sI, if_neg (by omega)]; exact hv) hu ?_
        exact FQS_to hS F1 (Nat.le_refl _) (fun _ z => z) k
      · rw [if_neg q40] at hr
        cases hr
        refine im (by omega) ?_
        have l1 : Lx (sI h 68 9 ((c + more : Nat) : Int)) L := by
          obtain ⟨u, hC, e⟩ := x1
          refine ⟨u, ?_, e⟩
          cases u with
          | nil => exact ⟨by rw [hI_sI, if_neg (by omega), hI_sI, if_neg (by omega)]; exact hC.1, by rw [hI_sI, if_neg (by omega)]; exact hC.2⟩
          | cons a b =>
            obtain ⟨hc, b1, q1, g1, g2, g3, g4, g5⟩ := hC
            refine ⟨hc, b1, q1, by rw [hI_sI, if_neg (by omega)]; exact g1, by rw [hI_sI, if_neg (by omega)]; exact g2, Tq_sI g3 (by omega), Tq_sI g4 (by omega), ?_⟩
            unfold Cso at g5 ⊢
            have e4 : hI (sI h 68 9 ((c + more : Nat) : Int)) 68 4 = hI h 68 4 := by rw [hI_sI, if_neg (by omega)]
            have e5 : hI (sI h 68 9 ((c + more : Nat) : Int)) 68 5 = hI h 68 5 := by rw [hI_sI, if_neg (by omega)]
            rw [e4, e5]
            exact g5
        refine c_adv2 S1 l1 (pis_t p1).1 fun h' f1 f2 f3 f4 => ?_
        refine k h' (FS_trans F1 (FS_FA f1)) f2 f3 ⟨f4, Lok_tl x2, ?_, ?_, by show c + more ≤ 40; omega, x6⟩
        · rw [(FA_910 f1 S1).1, hI_sI, if_pos ⟨rfl, rfl⟩]
        · rw [(FA_910 f1 S1).2, hI_sI, if_neg (by omega)]; exact x4
