/-! x's expr, product, factor, itemOf do what pX says -/
def PXs (f : Nat) : Prop := ∀ (m w : Nat) (acc : zT) (L : List zTk) (r : zRes), pX f m w acc L = some r → w ≤ 8 → ∀ (h0 h : hp) (Q : qt) (n : Nat), St h0 → FA h0 h → Lx h L → hU h + 16 * L.length ≤ n → n ≤ BUD → RQ h0 n r Q → ∀ d,
  (m = 0 → 12 + 5 * (8 - w) ≤ d → Wc d 23 [vR (some 68), vI (w : Nat)] h Q) ∧
  (m = 1 → 11 + 5 * (8 - w) ≤ d → ∀ a v3, RE h (hN h0) (hN h) acc a → Wp d C_X0_expr Q 6 [vR (some 68), vI (w : Nat), vR (some a), v3] [] h) ∧
  (m = 2 → 11 + 5 * (8 - w) ≤ d → Wc d 24 [vR (some 68), vI (w : Nat)] h Q) ∧
  (m = 3 → 10 + 5 * (8 - w) ≤ d → ∀ a v3, RE h (hN h0) (hN h) acc a → Wp d C_X0_product Q 6 [vR (some 68), vI (w : Nat), vR (some a), v3] [] h) ∧
  (m = 4 → 10 + 5 * (8 - w) ≤ d → Wc d 25 [vR (some 68), vI (w : Nat)] h Q) ∧
  (m = 5 → 9 + 5 * (8 - w) ≤ d → hU h + 16 * L.length + 16 ≤ n → ∀ x : Nat, acc = zL x → Wc d 26 [vR (some 68), vI (x : Nat), vI (w : Nat)] h Q)
/-- what is called has its own start -/
theorem FQ_to {h0 h1 : hp} {n n1 kd q : Nat} {Q Q1 : qt} (hS0 : St h0) (hF : FA h0 h1) (hn : n1 ≤ n) (hQ : ∀ h', Q (.inr 70) h' → Q1 (.inr 70) h') (k : FQ h0 n kd q Q) : FQ h1 n1 kd q Q1 :=
  fun h2 h' f1 f2 f3 => hQ h' (k h2 h' (FA_trans hF f1) (by rw [f2, FA_n hF hS0]) (by omega))
theorem RQ_id {h0 : hp} {n : Nat} {r : zRes} {Q : qt} (k : RQ h0 n r Q) : RQ h0 n r (fun o h' => match o with
  | .inl (some (.inr (.inr (.inl r)))) => Q (.inl (some (vR r))) h'
  | .inr a => Q (.inr a) h'
  | _ => False) := by
  cases r with
  | inl f => exact k
  | inr p => exact k
theorem pBnd_some {o : Option zRes} {k : zT → List zTk → Option zRes} {r : zRes} (h : pBnd o k = some r) : (∃ f, o = some (.inl f) ∧ r = .inl f) ∨ ∃ e M, o = some (.inr (e, M)) ∧ k e M = some r := by
  unfold pBnd at h
  split at h
  · cases h
  · exact Or.inl ⟨_, rfl, (Option.some.inj h).symm⟩
  · exact Or.inr ⟨_, _, rfl, h⟩
theorem pSum_iff {L : List zTk} : pSum L = (pis 7 43 L || (pis 7 45 L || (pis 7 94 L || pis 7 124 L))) := by
  cases L with
  | nil => rfl
  | cons t L => obtain ⟨q, a, b⟩ := t; simp only [pSum, phs, pw, zsum, pis]; cases (a == 7) <;> simp [Bool.or_assoc]
theorem pPro_iff {L : List zTk} : pPro L = (pis 7 42 L || (pis 7 47 L || (pis 7 37 L || pis 7 38 L))) := by
  cases L with
  | nil => rfl
  | cons t L => obtain ⟨q, a, b⟩ := t; simp only [pPro, phs, pw, zpro, pis]; cases (a == 7) <;> simp [Bool.or_assoc]
theorem zsum_k {k : Nat} (h : zsum k = true) : (k = 43 ∨ k = 45 ∨ k = 94 ∨ k = 124) := by simpa [zsum, or_assoc] using h
theorem zpro_k {k : Nat} (h : zpro k = true) : (k = 42 ∨ k = 47 ∨ k = 37 ∨ k = 38) := by simpa [zpro, or_assoc] using h
theorem pxE0 {f : Nat} (ih : PXs f) {w : Nat} {acc : zT} {L : List zTk} {r : zRes} (hr : pX (f + 1) 0 w acc L = some r) (hw : w ≤ 8) {h0 h : hp} {Q : qt} {n : Nat} (hS0 : St h0) (hF : FA h0 h) (hL : Lx h L) (hu : hU h + 16 * L.length ≤ n) (hn : n ≤ BUD) (hQ : RQ h0 n r Q) {d : Nat} (hd : 12 + 5 * (8 - w) ≤ d) : Wc d 23 [vR (some 68), vI (w : Nat)] h Q := by
  obtain ⟨d, rfl⟩ : ∃ e, d = e + 1 := ⟨d - 1, by omega⟩
  have hS := FA_St hF hS0
  refine se_X0_expr hS ?_
  rcases pBnd_some (show pBnd (pX f 2 w (zL 0) L) (fun e M => pX f 1 w e M) = some r from hr) with ⟨g, e1, e2⟩ | ⟨e, M, e1, e2⟩
  · subst e2
    refine (ih 2 w _ L _ e1 hw h0 h _ n hS0 hF hL hu hn ?_ d).2.2.1 rfl (by omega)
    exact FQ_to hS0 (FA_refl h0) (Nat.le_refl _) (fun _ z => z) hQ
  · refine (ih 2 w _ L _ e1 hw h0 h _ n hS0 hF hL hu hn (fun h' a f1 f2 f3 f4 => ?_) d).2.2.1 rfl (by omega)
    refine ss_X0_expr_5 (FA_St f1 hS0) ?_
    exact (ih 1 w e M r e2 hw h0 h' Q n hS0 f1 f3 f2 hn hQ d).2.1 rfl (by omega) a _ f4
theorem pxE2 {f : Nat} (ih : PXs f) {w : Nat} {acc : zT} {L : List zTk} {r : zRes} (hr : pX (f + 1) 2 w acc L = some r) (hw : w ≤ 8) {h0 h : hp} {Q : qt} {n : Nat} (hS0 : St h0) (hF : FA h0 h) (hL : Lx h L) (hu : hU h + 16 * L.length ≤ n) (hn : n ≤ BUD) (hQ : RQ h0 n r Q) {d : Nat} (hd : 11 + 5 * (8 - w) ≤ d) : Wc d 24 [vR (some 68), vI (w : Nat)] h Q := by
  obtain ⟨d, rfl⟩ : ∃ e, d = e + 1 := ⟨d - 1, by omega⟩
  have hS := FA_St hF hS0
  refine se_X0_product hS ?_
  rcases pBnd_some (show pBnd (pX f 4 w (zL 0) L) (fun e M => pX f 3 w e M) = some r from hr) with ⟨g, e1, e2⟩ | ⟨e, M, e1, e2⟩
  · subst e2
    refine (ih 4 w _ L _ e1 hw h0 h _ n hS0 hF hL hu hn ?_ d).2.2.2.2.1 rfl (by omega)
    exact FQ_to hS0 (FA_refl h0) (Nat.le_refl _) (fun _ z => z) hQ
  · refine (ih 4 w _ L _ e1 hw h0 h _ n hS0 hF hL hu hn (fun h' a f1 f2 f3 f4 => ?_) d).2.2.2.2.1 rfl (by omega)
    refine ss_X0_product_5 (FA_St f1 hS0) ?_
    exact (ih 3 w e M r e2 hw h0 h' Q n hS0 f1 f3 f2 hn hQ d).2.2.2.1 rfl (by omega) a _ f4
theorem pxE1 {f : Nat} (ih : PXs f) {w : Nat} {acc : zT} {L : List zTk} {r : zRes} (hr : pX (f + 1) 1 w acc L = some r) (hw : w ≤ 8) {h0 h : hp} {Q : qt} {n : Nat} (hS0 : St h0) (hF : FA h0 h) (hL : Lx h L) (hu : hU h + 16 * L.length ≤ n) (hn : n ≤ BUD) (hQ : RQ h0 n r Q) {d : Nat} (hd : 11 + 5 * (8 - w) ≤ d) {a : Nat} {v3 : av} (hE : RE h (hN h0) (hN h) acc a) : Wp d C_X0_expr Q 6 [vR (some 68), vI (w : Nat), vR (some a), v3] [] h := by
  obtain ⟨d, rfl⟩ : ∃ e, d = e + 11 := ⟨d - 11, by omega⟩
  have hS := FA_St hF hS0
  have hr1 : (if pSum L then pBnd (pX f 2 w (zL 0) L.tail) fun e M => pX f 1 w (zB (pw L) acc e) M else some (.inr (acc, L))) = some r := hr
  have h145 := hS0.1
  have go1 : pSum L = true → ((0 ≤ hI h 68 3 ∧ hI h 68 3 < 600) ∧ (cV (Wc (d + 11)) 5 [vR (some 68)] h (fun h5 => Wp (d + 11) C_X0_expr Q 56 [vR (some 68), vI (w : Nat), vR (some a), vI (hI h 69 ((hI h 68 3).toNat))] [] h5) (fun e7 h8 => Q (.inr e7) h8))) := by
    intro hs
    rw [if_pos hs] at hr1
    have hs2 : phs 7 L = true ∧ zsum (pw L) = true := by simpa [pSum] using hs
    obtain ⟨b, b1, b2, b3, b4⟩ := Lx_hd hL (phs_t hs2.1).1
    have hlen := (phs_t hs2.1).2
    rw [b1, Int.toNat_natCast, b3 hs2.1]
    refine ⟨by omega, c_adv2 hS hL (phs_t hs2.1).1 fun h5 f1 f2 f3 f4 => ?_⟩
    have hS5 := FA_St f1 hS
    have h5n := hS5.1
    refine ss_X0_expr_56 hS5 ?_
    refine ⟨by omega, ?_⟩
    have hF5 : FA h0 (hNew h5 17 0 3) := FA_new (FA_trans hF f1)
    have hS6 : St (hNew h5 17 0 3) := St_new hS5
    have hLn : Lx (hNew h5 17 0 3) L.tail := Lx_sm (sm_new (sm_refl _ _) (by omega)) (sm_new (sm_refl _ _) (by omega)) f4
    have hzk := zsum_k hs2.2
    rcases pBnd_some hr1 with ⟨g, e1, e2⟩ | ⟨e, M, e1, e2⟩
    · subst e2
      refine (ih 2 w _ L.tail _ e1 hw (hNew h5 17 0 3) (hNew h5 17 0 3) _ n hS6 (FA_refl _) hLn (by rw [hU_new]; omega) hn ?_ _).2.2.1 rfl (by omega)
      exact FQ_to hS0 hF5 (Nat.le_refl _) (fun _ z => z) hQ
    · refine (ih 2 w _ L.tail _ e1 hw (hNew h5 17 0 3) (hNew h5 17 0 3) _ n hS6 (FA_refl _) hLn (by rw [hU_new]; omega) hn (fun h6 b2 g1 g2 g3 g4 => ?_) _).2.2.1 rfl (by omega)
      have hS7 := FA_St g1 hS6
      refine ss_X0_expr_67 hS7 ?_
      have hg1 := g1.1
      rw [hN_new] at hg1 g4
      have htA : hT h6 (hN h5) = (17, 0) := by rw [(g1.2.2 (hN h5) (by rw [hN_new]; omega)).1, hT_newa rfl]
      rw [ofR_some, htA]
      refine ⟨by decide, c_i17 hS7 htA ?_⟩
      have hS8 : St (sR (sI (sR h6 (hN h5) 0 (some a)) (hN h5) 2 (pw L : Nat)) (hN h5) 1 (some b2)) := St_sR (St_sI (St_sR hS7 (by unfold okRf; omega)) (by omega)) (by unfold okRf; omega)
      refine ss_X0_expr_70 hS8 ?_
      have hF0 := hF.1
      have hF8 : FA h0 (sR (sI (sR h6 (hN h5) 0 (some a)) (hN h5) 2 (pw L : Nat)) (hN h5) 1 (some b2)) := FA_sR (FA_sI (FA_sR (FA_trans hF5 g1) (by omega)) (Or.inr (by omega))) (by omega)
      refine (ih 1 w _ M r e2 hw h0 _ Q n hS0 hF8 ?_ g2 hn hQ _).2.1 rfl (by omega) _ _ ?_
      · exact Lx_sm (sm_sR (sm_sI (sm_sR (sm_refl _ _) (by omega)) (by omega)) (by omega)) (sm_sR (sm_sI (sm_sR (sm_refl _ _) (by omega)) (by omega)) (by omega)) g3
      · exact RE_two (by omega) (by omega) (RE_mono (Nat.le_refl _) (by omega) (RE_FA f1 (by omega) (Nat.le_refl _) hE)) g1 g4 (by omega) (by rw [if_neg (by omega), if_neg (by rcases hzk with q | q | q | q <;> (rw [q]; decide))])
  refine ss_X0_expr_6 hS ?_
  refine c_isSign (v := 43) hS hL ?_
  refine ss_X0_expr_12 hS ?_
  cases p0 : pis 7 43 L with
  | true => rw [if_neg (by decide)]; exact go1 (by rw [pSum_iff, p0]; simp)
  | false =>
    refine ip rfl ?_
    refine c_isSign (v := 45) hS hL ?_
    refine ss_X0_expr_21 hS ?_
    cases p1 : pis 7 45 L with
    | true => rw [if_neg (by decide)]; exact go1 (by rw [pSum_iff, p0, p1]; simp)
    | false =>
      refine ip rfl ?_
      refine c_isSign (v := 94) hS hL ?_
      refine ss_X0_expr_30 hS ?_
      cases p2 : pis 7 94 L with
      | true => rw [if_neg (by decide)]; exact go1 (by rw [pSum_iff, p0, p1, p2]; simp)
      | false =>
        refine ip rfl ?_
        refine c_isSign (v := 124) hS hL ?_
        refine ss_X0_expr_39 hS ?_
        cases p3 : pis 7 124 L with
        | true => rw [if_neg (by decide)]; exact go1 (by rw [pSum_iff, p0, p1, p2, p3]; simp)
        | false =>
          refine ip rfl ?_
          rw [if_neg (by rw [pSum_iff, p0, p1, p2, p3]; decide)] at hr1
          cases hr1
          exact hQ h a hF hu hL hE
theorem pxE3 {f : Nat} (ih : PXs f) {w : Nat} {acc : zT} {L : List zTk} {r : zRes} (hr : pX (f + 1) 3 w acc L = some r) (hw : w ≤ 8) {h0 h : hp} {Q : qt} {n : Nat} (hS0 : St h0) (hF : FA h0 h) (hL : Lx h L) (hu : hU h + 16 * L.length ≤ n) (hn : n ≤ BUD) (hQ : RQ h0 n r Q) {d : Nat} (hd : 10 + 5 * (8 - w) ≤ d) {a : Nat} {v3 : av} (hE : RE h (hN h0) (hN h) acc a) : Wp d C_X0_product Q 6 [vR (some 68), vI (w : Nat), vR (some a), v3] [] h := by
  obtain ⟨d, rfl⟩ : ∃ e, d = e + 10 := ⟨d - 10, by omega⟩
  have hS := FA_St hF hS0
  have hr1 : (if pPro L then pBnd (pX f 4 w (zL 0) L.tail) fun e M => pX f 3 w (zB (pw L) acc e) M else some (.inr (acc, L))) = some r := hr
  have h145 := hS0.1
  have go1 : pPro L = true → ((0 ≤ hI h 68 3 ∧ hI h 68 3 < 600) ∧ (cV (Wc (d + 10)) 5 [vR (some 68)] h (fun h5 => Wp (d + 10) C_X0_product Q 56 [vR (some 68), vI (w : Nat), vR (some a), vI (hI h 69 ((hI h 68 3).toNat))] [] h5) (fun e7 h8 => Q (.inr e7) h8))) := by
    intro hs
    rw [if_pos hs] at hr1
    have hs2 : phs 7 L = true ∧ zpro (pw L) = true := by simpa [pPro] using hs
    obtain ⟨b, b1, b2, b3, b4⟩ := Lx_hd hL (phs_t hs2.1).1
    have hlen := (phs_t hs2.1).2
    rw [b1, Int.toNat_natCast, b3 hs2.1]
    refine ⟨by omega, c_adv2 hS hL (phs_t hs2.1).1 fun h5 f1 f2 f3 f4 => ?_⟩
    have hS5 := FA_St f1 hS
    have h5n := hS5.1
    refine ss_X0_product_56 hS5 ?_
    refine ⟨by omega, ?_⟩
    have hF5 : FA h0 (hNew h5 16 0 3) := FA_new (FA_trans hF f1)
    have hS6 : St (hNew h5 16 0 3) := St_new hS5
    have hLn : Lx (hNew h5 16 0 3) L.tail := Lx_sm (sm_new (sm_refl _ _) (by omega)) (sm_new (sm_refl _ _) (by omega)) f4
    have hzk := zpro_k hs2.2
    rcases pBnd_some hr1 with ⟨g, e1, e2⟩ | ⟨e, M, e1, e2⟩
    · subst e2
      refine (ih 4 w _ L.tail _ e1 hw (hNew h5 16 0 3) (hNew h5 16 0 3) _ n hS6 (FA_refl _) hLn (by rw [hU_new]; omega) hn ?_ _).2.2.2.2.1 rfl (by omega)
      exact FQ_to hS0 hF5 (Nat.le_refl _) (fun _ z => z) hQ
    · refine (ih 4 w _ L.tail _ e1 hw (hNew h5 16 0 3) (hNew h5 16 0 3) _ n hS6 (FA_refl _) hLn (by rw [hU_new]; omega) hn (fun h6 b2 g1 g2 g3 g4 => ?_) _).2.2.2.2.1 rfl (by omega)
      have hS7 := FA_St g1 hS6
      refine ss_X0_product_67 hS7 ?_
      have hg1 := g1.1
      rw [hN_new] at hg1 g4
      have htA : hT h6 (hN h5) = (16, 0) := by rw [(g1.2.2 (hN h5) (by rw [hN_new]; omega)).1, hT_newa rfl]
      rw [ofR_some, htA]
      refine ⟨by decide, c_i16 hS7 htA ?_⟩
      have hS8 : St (sR (sI (sR h6 (hN h5) 0 (some a)) (hN h5) 2 (pw L : Nat)) (hN h5) 1 (some b2)) := St_sR (St_sI (St_sR hS7 (by unfold okRf; omega)) (by omega)) (by unfold okRf; omega)
      refine ss_X0_product_70 hS8 ?_
      have hF0 := hF.1
      have hF8 : FA h0 (sR (sI (sR h6 (hN h5) 0 (some a)) (hN h5) 2 (pw L : Nat)) (hN h5) 1 (some b2)) := FA_sR (FA_sI (FA_sR (FA_trans hF5 g1) (by omega)) (Or.inr (by omega))) (by omega)
      refine (ih 3 w _ M r e2 hw h0 _ Q n hS0 hF8 ?_ g2 hn hQ _).2.2.2.1 rfl (by omega) _ _ ?_
      · exact Lx_sm (sm_sR (sm_sI (sm_sR (sm_refl _ _) (by omega)) (by omega)) (by omega)) (sm_sR (sm_sI (sm_sR (sm_refl _ _) (by omega)) (by omega)) (by omega)) g3
      · exact RE_two (by omega) (by omega) (RE_mono (Nat.le_refl _) (by omega) (RE_FA f1 (by omega) (Nat.le_refl _) hE)) g1 g4 (by omega) (by rw [if_neg (by omega), if_pos hs2.2])
  refine ss_X0_product_6 hS ?_
  refine c_isSign (v := 42) hS hL ?_
  refine ss_X0_product_12 hS ?_
  cases p0 : pis 7 42 L with
  | true => rw [if_neg (by decide)]; exact go1 (by rw [pPro_iff, p0]; simp)
  | false =>
    refine ip rfl ?_
    refine c_isSign (v := 47) hS hL ?_
    refine ss_X0_product_21 hS ?_
    cases p1 : pis 7 47 L with
    | true => rw [if_neg (by decide)]; exact go1 (by rw [pPro_iff, p0, p1]; simp)
    | false =>
      refine ip rfl ?_
      refine c_isSign (v := 37) hS hL ?_
      refine ss_X0_product_30 hS ?_
      cases p2 : pis 7 37 L with
      | true => rw [if_neg (by decide)]; exact go1 (by rw [pPro_iff, p0, p1, p2]; simp)
      | false =>
        refine ip rfl ?_
        refine c_isSign (v := 38) hS hL ?_
        refine ss_X0_product_39 hS ?_
        cases p3 : pis 7 38 L with
        | true => rw [if_neg (by decide)]; exact go1 (by rw [pPro_iff, p0, p1, p2, p3]; simp)
        | false =>
          refine ip rfl ?_
          rw [if_neg (by rw [pPro_iff, p0, p1, p2, p3]; decide)] at hr1
          cases hr1
          exact hQ h a hF hu hL hE
theorem sm68 {h h' : hp} (f : FA h h') (hS : St h) : sm h h' 69 := FA_sm f (by have := hS.1; omega) (by decide)
theorem pxE5 {f : Nat} (ih : PXs f) {w : Nat} {acc : zT} {L : List zTk} {r : zRes} (hr : pX (f + 1) 5 w acc L = some r) (hw : w ≤ 8) {h0 h : hp} {Q : qt} {n : Nat} (hS0 : St h0) (hF : FA h0 h) (hL : Lx h L) (hn : n ≤ BUD) (hQ : RQ h0 n r Q) {d : Nat} (hd : 9 + 5 * (8 - w) ≤ d) (hu : hU h + 16 * L.length + 16 ≤ n) {x : Nat} (hx : acc = zL x) : Wc d 26 [vR (some 68), vI (x : Nat), vI (w : Nat)] h Q := by
  obtain ⟨d, rfl⟩ : ∃ e, d = e + 9 := ⟨d - 9, by omega⟩
  have hS := FA_St hF hS0
  have h145 := hS.1
  have hF0 := hF.1
  have hr1 : (if pis 7 91 L then (if w = 8 then pno 2 L else pBnd (pX f 0 (w + 1) (zL 0) L.tail) fun e M => pex 93 (zB 3 acc e) M) else pno 1 L) = some r := hr
  refine se_X0_itemOf hS ?_
  refine ⟨by omega, ?_⟩
  have hS1 : St (hNew h 10 0 2) := St_new hS
  have hF1 : FA h0 (hNew h 10 0 2) := FA_new hF
  have hL1 : Lx (hNew h 10 0 2) L := Lx_sm (sm_new (sm_refl _ _) (by omega)) (sm_new (sm_refl _ _) (by omega)) hL
  have hu1 : hU (hNew h 10 0 2) + 16 * L.length ≤ n := by rw [hU_new]; omega
  refine se_X0_index hS1 ?_
  refine c_isSign (v := 91) hS1 hL1 ?_
  refine ss_X0_index_6 hS1 ?_
  cases p1 : pis 7 91 L with
  | false =>
    refine ip rfl ?_
    rw [p1] at hr1
    cases hr1
    exact t_cannot hS0 hF1 hL1 (by omega) hQ
  | true =>
    rw [if_neg (by decide)]
    rw [p1, if_pos rfl] at hr1
    have hlen := (pis_t p1).2.2.2
    refine c_deep hS0 hF1 hL1 (n := n) (by omega) (fun w8 => ?_) (fun w8 => ?_)
    · rw [if_neg w8] at hr1
      refine ss_X0_index_19 hS1 ?_
      refine c_adv2 hS1 hL1 (pis_t p1).1 fun h2 f1 f2 f3 f4 => ?_
      have hS2 := FA_St f1 hS1
      refine ss_X0_index_23 hS2 ?_
      rw [na_eq (by omega) (by omega)]
      have hu2 : hU h2 + 16 * L.tail.length ≤ n := by omega
      rcases pBnd_some hr1 with ⟨g, e1, e2⟩ | ⟨e, M, e1, e2⟩
      · subst e2
        refine (ih 0 (w + 1) _ L.tail _ e1 (by omega) (hNew h 10 0 2) h2 _ n hS1 f1 f4 hu2 hn ?_ _).1 rfl (by omega)
        exact FQ_to hS0 hF1 (Nat.le_refl _) (fun _ z => z) hQ
      · refine (ih 0 (w + 1) _ L.tail _ e1 (by omega) (hNew h 10 0 2) h2 _ n hS1 f1 f4 hu2 hn (fun h3 b g1 g2 g3 g4 => ?_) _).1 rfl (by omega)
        have hS3 := FA_St g1 hS1
        refine ss_X0_index_30 hS3 ?_
        have e2' : (if pis 7 93 M then some (Sum.inr (zB 3 acc e, M.tail)) else pno 1 M) = some r := e2
        refine c_sign (c := 93) hS0 (FA_trans hF1 g1) g3 (n := n) (by show hU h3 ≤ n; have : hU h3 + 16 * M.length ≤ n := g2; omega) (fun p2 h4 k1 k2 k3 k4 => ?_) (fun p2 => ?_)
        · rw [p2, if_pos rfl] at e2'
          cases e2'
          have hS4 := FA_St k1 hS3
          have g1' := FA_trans g1 k1
          have hn4 := g1'.1
          rw [hN_new] at hn4
          refine ss_X0_index_37 hS4 ?_
          refine ss_X0_itemOf_10 hS4 ?_
          have htA : hT h4 (hN h) = (10, 0) := by rw [(g1'.2.2 (hN h) (by rw [hN_new]; omega)).1, hT_newa rfl]
          rw [ofR_some, htA]
          refine ⟨by decide, c_i10 hS4 htA ?_⟩
          rw [hN_new] at g4
          have hMl : M.length = M.tail.length + 1 := (pis_t p2).2.2.2
          have g2' : hU h3 + 16 * M.length ≤ n := g2
          refine hQ _ _ (FA_sR (FA_sI (FA_trans hF1 g1') (Or.inr (by omega))) (by omega)) ?_ ?_ ?_
          · show hU h4 + 16 * M.tail.length ≤ n
            omega
          · exact Lx_sm (sm_sR (sm_sI (sm_refl _ _) (by omega)) (by omega)) (sm_sR (sm_sI (sm_refl _ _) (by omega)) (by omega)) k4
          · rw [hx]
            refine RE_item (by omega) g1' ?_
            rw [k2]
            exact RE_FA k1 (by omega) (Nat.le_refl _) g4
        · rw [p2] at e2'
          cases e2'
          exact hQ
    · rw [if_pos w8] at hr1
      cases hr1
      exact hQ
theorem pxE4 {f : Nat} (ih : PXs f) {w : Nat} {acc : zT} {L : List zTk} {r : zRes} (hr : pX (f + 1) 4 w acc L = some r) (hw : w ≤ 8) {h0 h : hp} {Q : qt} {n : Nat} (hS0 : St h0) (hF : FA h0 h) (hL : Lx h L) (hu : hU h + 16 * L.length ≤ n) (hn : n ≤ BUD) (hQ : RQ h0 n r Q) {d : Nat} (hd : 10 + 5 * (8 - w) ≤ d) : Wc d 25 [vR (some 68), vI (w : Nat)] h Q := by
  obtain ⟨d, rfl⟩ : ∃ e, d = e + 10 := ⟨d - 10, by omega⟩
  have hS := FA_St hF hS0
  have h145 := hS.1
  have hF0 := hF.1
  have h00 := hS0.1
  have hr1 : (if phs 2 L then some (.inr (zNum (pw L), L.tail))
      else if phs 1 L then some (.inr (zNam (pw L), L.tail))
      else if phs 3 L then pX f 5 w (zL (pw L)) L.tail
      else if pis 7 35 L then (if phs 3 L.tail then some (.inr (zB 35 (zL (pw L.tail)) (zL 0), L.tail.tail)) else pno 1 L.tail)
      else if pis 7 45 L then (if w = 8 then pno 2 L else pBnd (pX f 4 (w + 1) (zL 0) L.tail) fun e M => some (.inr (zB 8 e (zL 0), M)))
      else if pis 7 40 L then (if w = 8 then pno 2 L else pBnd (pX f 0 (w + 1) (zL 0) L.tail) fun e M =>
        if pis 7 60 M || pis 7 61 M then pBnd (pX f 0 (w + 1) (zL 0) M.tail) fun e2 M2 => pex 41 (zB (pw M) e e2) M2
        else pex 41 (zB 40 e (zL 0)) M)
      else pno 1 L) = some r := hr
  refine se_X0_factor hS ?_
  obtain ⟨q1, q2, q3⟩ := Lx_num hL
  cases p2 : phs 2 L with
  | true =>
    rw [if_pos (q1.mpr p2)]
    rw [p2, if_pos rfl] at hr1
    cases hr1
    have hlen := (phs_t p2).2
    refine ⟨by omega, ?_⟩
    have hS1 : St (hNew h 8 0 1) := St_new hS
    rw [q2 p2]
    refine c_i8 hS1 (hT_newa rfl) ?_
    have hS2 : St (sI (hNew h 8 0 1) (hN h) 0 (pw L : Nat)) := St_sI hS1 (by omega)
    refine ss_X0_factor_19 hS2 ?_
    have hF2 : FA h0 (sI (hNew h 8 0 1) (hN h) 0 (pw L : Nat)) := FA_sI (FA_new hF) (Or.inr (by omega))
    refine c_adv2 hS2 (L := L) (Lx_sm (sm_sI (sm_new (sm_refl _ _) (by omega)) (by omega)) (sm_sI (sm_new (sm_refl _ _) (by omega)) (by omega)) hL) (phs_t p2).1 fun h3 f1 f2 f3 f4 => ?_
    refine ss_X0_factor_24 (FA_St f1 hS2) ?_
    have f2' : hN h3 = hN h + 1 := f2
    have f3' : hU h3 = hU h + 1 + 13 := f3
    refine hQ h3 _ (FA_trans hF2 f1) (by show hU h3 + 16 * L.tail.length ≤ n; omega) f4 ?_
    refine RE_FA f1 h00 (by omega) ?_
    rw [f2']
    exact RE_leaf hF0 (FA_refl _) (Or.inl ⟨rfl, rfl⟩)
  | false =>
    rw [if_neg (fun z => by rw [q1.mp z] at p2; cases p2)]
    rw [p2, if_neg (by decide)] at hr1
    refine c_isName hS hL ?_
    refine ss_X0_factor_30 hS ?_
    cases p1 : phs 1 L with
    | true =>
      rw [if_neg (by decide)]
      rw [p1, if_pos rfl] at hr1
      cases hr1
      have hlen := (phs_t p1).2
      refine ⟨by omega, ?_⟩
      have hS1 : St (hNew h 9 0 1) := St_new hS
      refine c_nameR (n := n) hS0 (FA_new hF) (L := L) (Lx_sm (sm_new (sm_refl _ _) (by omega)) (sm_new (sm_refl _ _) (by omega)) hL) (by rw [hU_new]; omega) (fun _ h3 f1 f2 f3 f4 => ?_) (fun z => by rw [z] at p1; cases p1)
      have hS3 := FA_St f1 hS1
      have f2' : hN h3 = hN h + 1 := f2
      have f3' : hU h3 = hU h + 1 + 13 := f3
      refine ss_X0_factor_41 hS3 ?_
      have htA : hT h3 (hN h) = (9, 0) := by rw [(f1.2.2 (hN h) (by rw [hN_new]; omega)).1, hT_newa rfl]
      rw [ofR_some, htA]
      refine ⟨by decide, c_i9 hS3 htA ?_⟩
      refine hQ _ _ (FA_sI (FA_trans (FA_new hF) f1) (Or.inr (by omega))) (by show hU h3 + 16 * L.tail.length ≤ n; omega) (Lx_sm (sm_sI (sm_refl _ _) (by omega)) (sm_sI (sm_refl _ _) (by omega)) f4) ?_
      exact RE_leaf hF0 f1 (Or.inr (Or.inl ⟨rfl, rfl⟩))
    | false =>
      refine ip rfl ?_
      rw [p1, if_neg (by decide)] at hr1
      refine c_isRowT hS hL ?_
      refine ss_X0_factor_49 hS ?_
      cases p3 : phs 3 L with
      | true =>
        rw [if_neg (by decide)]
        rw [p3, if_pos rfl] at hr1
        have hlen := (phs_t p3).2
        refine c_rowR (n := n) hS0 hF hL (by omega) (fun _ h3 f1 f2 f3 f4 => ?_) (fun z => by rw [z] at p3; cases p3)
        refine ss_X0_factor_57 (FA_St f1 hS) ?_
        exact (ih 5 w _ L.tail r hr1 hw h0 h3 _ n hS0 (FA_trans hF f1) f4 (by omega) hn (RQ_id hQ) _).2.2.2.2.2 rfl (by omega) (by omega) _ rfl
      | false =>
        refine ip rfl ?_
        rw [p3, if_neg (by decide)] at hr1
        refine c_isSign (v := 35) hS hL ?_
        refine ss_X0_factor_68 hS ?_
        cases p4 : pis 7 35 L with
        | true =>
          rw [if_neg (by decide)]
          rw [p4, if_pos rfl] at hr1
          have hlen := (pis_t p4).2.2.2
          refine c_adv2 hS hL (pis_t p4).1 fun h3 f1 f2 f3 f4 => ?_
          have hS3 := FA_St f1 hS
          refine ss_X0_factor_75 hS3 ?_
          refine ⟨by omega, ?_⟩
          have hS4 : St (hNew h3 11 0 1) := St_new hS3
          have h345 := hS3.1
          refine c_rowR (n := n) hS0 (FA_new (FA_trans hF f1)) (L := L.tail) (Lx_sm (sm_new (sm_refl _ _) (by omega)) (sm_new (sm_refl _ _) (by omega)) f4) (by rw [hU_new]; omega) (fun p5 h5 g1 g2 g3 g4 => ?_) (fun p5 => ?_)
          · rw [p5, if_pos rfl] at hr1
            cases hr1
            have hlen2 := (phs_t p5).2
            have hS5 := FA_St g1 hS4
            have g2' : hN h5 = hN h3 + 1 := g2
            have g3' : hU h5 = hU h3 + 1 + 13 := g3
            refine ss_X0_factor_83 hS5 ?_
            have htA : hT h5 (hN h3) = (11, 0) := by rw [(g1.2.2 (hN h3) (by rw [hN_new]; omega)).1, hT_newa rfl]
            rw [ofR_some, htA]
            refine ⟨by decide, c_i11 hS5 htA ?_⟩
            refine hQ _ _ (FA_sI (FA_trans (FA_new (FA_trans hF f1)) g1) (Or.inr (by omega))) (by show hU h5 + 16 * L.tail.tail.length ≤ n; omega) (Lx_sm (sm_sI (sm_refl _ _) (by omega)) (sm_sI (sm_refl _ _) (by omega)) g4) ?_
            exact RE_leaf (by omega) g1 (Or.inr (Or.inr ⟨rfl, rfl⟩))
          · rw [p5, if_neg (by decide)] at hr1
            cases hr1
            exact hQ
        | false =>
          refine ip rfl ?_
          rw [p4, if_neg (by decide)] at hr1
          refine c_isSign (v := 45) hS hL ?_
          refine ss_X0_factor_93 hS ?_
          cases p5 : pis 7 45 L with
          | true =>
            rw [if_neg (by decide)]
            rw [p5, if_pos rfl] at hr1
            have hlen := (pis_t p5).2.2.2
            refine c_deep hS0 hF hL (n := n) (by omega) (fun w8 => ?_) (fun w8 => ?_)
            · rw [if_neg w8] at hr1
              refine ss_X0_factor_101 hS ?_
              refine c_adv2 hS hL (pis_t p5).1 fun h3 f1 f2 f3 f4 => ?_
              have hS3 := FA_St f1 hS
              have h345 := hS3.1
              refine ss_X0_factor_105 hS3 ?_
              refine ⟨by omega, ?_⟩
              have hS4 : St (hNew h3 12 0 1) := St_new hS3
              have hL4 : Lx (hNew h3 12 0 1) L.tail := Lx_sm (sm_new (sm_refl _ _) (by omega)) (sm_new (sm_refl _ _) (by omega)) f4
              have hF4 := FA_new (k := 12) (n := 0) (c := 1) (FA_trans hF f1)
              rw [na_eq (by omega) (by omega)]
              rcases pBnd_some hr1 with ⟨g, e1, e2⟩ | ⟨e, M, e1, e2⟩
              · subst e2
                refine (ih 4 (w + 1) _ L.tail _ e1 (by omega) (hNew h3 12 0 1) (hNew h3 12 0 1) _ n hS4 (FA_refl _) hL4 (by rw [hU_new]; omega) hn ?_ _).2.2.2.2.1 rfl (by omega)
                exact FQ_to hS0 hF4 (Nat.le_refl _) (fun _ z => z) hQ
              · refine (ih 4 (w + 1) _ L.tail _ e1 (by omega) (hNew h3 12 0 1) (hNew h3 12 0 1) _ n hS4 (FA_refl _) hL4 (by rw [hU_new]; omega) hn (fun h6 b2 g1 g2 g3 g4 => ?_) _).2.2.2.2.1 rfl (by omega)
                cases e2
                have hS6 := FA_St g1 hS4
                have hg1 := g1.1
                rw [hN_new] at hg1 g4
                refine ss_X0_factor_116 hS6 ?_
                have htA : hT h6 (hN h3) = (12, 0) := by rw [(g1.2.2 (hN h3) (by rw [hN_new]; omega)).1, hT_newa rfl]
                rw [ofR_some, htA]
                refine ⟨by decide, c_i12 hS6 htA ?_⟩
                exact hQ _ _ (FA_sR (FA_trans hF4 g1) (by omega)) g2 (Lx_sm (sm_sR (sm_refl _ _) (by omega)) (sm_sR (sm_refl _ _) (by omega)) g3) (RE_minus (by omega) g1 g4)
            · rw [if_pos w8] at hr1
              cases hr1
              exact hQ
          | false =>
            refine ip rfl ?_
            rw [p5, if_neg (by decide)] at hr1
            refine c_isSign (v := 40) hS hL ?_
            refine ss_X0_factor_126 hS ?_
            cases p6 : pis 7 40 L with
            | false =>
              refine ip rfl ?_
              rw [p6, if_neg (by decide)] at hr1
              cases hr1
              exact t_cannot hS0 hF hL (by omega) hQ
            | true =>
              rw [if_neg (by decide)]
              rw [p6, if_pos rfl] at hr1
              have hlen := (pis_t p6).2.2.2
              refine c_deep hS0 hF hL (n := n) (by omega) (fun w8 => ?_) (fun w8 => ?_)
              · rw [if_neg w8] at hr1
                refine ss_X0_factor_139 hS ?_
                refine c_adv2 hS hL (pis_t p6).1 fun h3 f1 f2 f3 f4 => ?_
                have hS3 := FA_St f1 hS
                have h345 := hS3.1
                refine ss_X0_factor_143 hS3 ?_
                rw [na_eq (by omega) (by omega)]
                rcases pBnd_some hr1 with ⟨g, e1, e2⟩ | ⟨e, M, e1, e2⟩
                · subst e2
                  refine (ih 0 (w + 1) _ L.tail _ e1 (by omega) h0 h3 _ n hS0 (FA_trans hF f1) f4 (by omega) hn ?_ _).1 rfl (by omega)
                  exact FQ_to hS0 (FA_refl h0) (Nat.le_refl _) (fun _ z => z) hQ
                · refine (ih 0 (w + 1) _ L.tail _ e1 (by omega) h0 h3 _ (n - 16) hS0 (FA_trans hF f1) f4 (by omega) (by omega) (fun h6 b2 g1 g2 g3 g4 => ?_) _).1 rfl (by omega)
                  have g2' : hU h6 + 16 * M.length ≤ n - 16 := g2
                  have hg0 := g1.1
                  have hS6 := FA_St g1 hS0
                  have h645 := hS6.1
                  -- a compare
                  have goC : (pis 7 60 M || pis 7 61 M) = true → ((0 ≤ hI h6 68 3 ∧ hI h6 68 3 < 600) ∧ (cV (Wc (d + 9)) 5 [vR (some 68)] h6 (fun h5 => Wp (d + 9) C_X0_factor Q 183 [vR (some 68), vI (w : Nat), vR (some b2), vI (hI h6 69 ((hI h6 68 3).toNat))] [] h5) (fun e7 h8 => Q (.inr e7) h8))) := by
                    intro hs
                    have e2' : (if pis 7 60 M || pis 7 61 M then pBnd (pX f 0 (w + 1) (zL 0) M.tail) fun e2 M2 => pex 41 (zB (pw M) e e2) M2 else pex 41 (zB 40 e (zL 0)) M) = some r := e2
                    rw [if_pos hs] at e2'
                    have hk : pw M = 60 ∨ pw M = 61 := by
                      rcases Bool.or_eq_true _ _ ▸ hs with z | z
                      · exact Or.inl (pis_t z).2.2.1
                      · exact Or.inr (pis_t z).2.2.1
                    have hp7 : phs 7 M = true := by
                      rcases Bool.or_eq_true _ _ ▸ hs with z | z <;> exact (pis_t z).2.1
                    obtain ⟨b, b1, bb, b3, b4⟩ := Lx_hd g3 (phs_t hp7).1
                    have hM : M.length = M.tail.length + 1 := (phs_t hp7).2
                    rw [b1, Int.toNat_natCast, b3 hp7]
                    refine ⟨by omega, c_adv2 hS6 g3 (phs_t hp7).1 fun h7 k1 k2 k3 k4 => ?_⟩
                    have hS7 := FA_St k1 hS6
                    have h745 := hS7.1
                    refine ss_X0_factor_183 hS7 ?_
                    refine ⟨by omega, ?_⟩
                    have hS8 : St (hNew h7 14 0 3) := St_new hS7
                    have hL8 : Lx (hNew h7 14 0 3) M.tail := Lx_sm (sm_new (sm_refl _ _) (by omega)) (sm_new (sm_refl _ _) (by omega)) k4
                    have hF8 : FA h0 (hNew h7 14 0 3) := FA_new (FA_trans g1 k1)
                    rw [na_eq (by omega) (by omega)]
                    rcases pBnd_some e2' with ⟨g, u1, u2⟩ | ⟨e3, M2, u1, u2⟩
                    · subst u2
                      refine (ih 0 (w + 1) _ M.tail _ u1 (by omega) (hNew h7 14 0 3) (hNew h7 14 0 3) _ n hS8 (FA_refl _) hL8 (by rw [hU_new]; omega) hn ?_ _).1 rfl (by omega)
                      exact FQ_to hS0 hF8 (Nat.le_refl _) (fun _ z => z) hQ
                    · refine (ih 0 (w + 1) _ M.tail _ u1 (by omega) (hNew h7 14 0 3) (hNew h7 14 0 3) _ n hS8 (FA_refl _) hL8 (by rw [hU_new]; omega) hn (fun h9 b9 l1 l2 l3 l4 => ?_) _).1 rfl (by omega)
                      have hS9 := FA_St l1 hS8
                      have hl1 := l1.1
                      rw [hN_new] at hl1 l4
                      refine ss_X0_factor_196 hS9 ?_
                      have htA : hT h9 (hN h7) = (14, 0) := by rw [(l1.2.2 (hN h7) (by rw [hN_new]; omega)).1, hT_newa rfl]
                      rw [ofR_some, htA]
                      refine ⟨by decide, c_i14 hS9 htA ?_⟩
                      have hSa : St (sR (sI (sR h9 (hN h7) 0 (some b2)) (hN h7) 2 (pw M : Nat)) (hN h7) 1 (some b9)) := St_sR (St_sI (St_sR hS9 (by unfold okRf; omega)) (by omega)) (by unfold okRf; omega)
                      have hFa : FA h0 (sR (sI (sR h9 (hN h7) 0 (some b2)) (hN h7) 2 (pw M : Nat)) (hN h7) 1 (some b9)) := FA_sR (FA_sI (FA_sR (FA_trans hF8 l1) (by omega)) (Or.inr (by omega))) (by omega)
                      have hLa : Lx (sR (sI (sR h9 (hN h7) 0 (some b2)) (hN h7) 2 (pw M : Nat)) (hN h7) 1 (some b9)) M2 := Lx_sm (sm_sR (sm_sI (sm_sR (sm_refl _ _) (by omega)) (by omega)) (by omega)) (sm_sR (sm_sI (sm_sR (sm_refl _ _) (by omega)) (by omega)) (by omega)) l3
                      have hREa := RE_two (k := pw M) (kt := 14) h00 (by omega) (RE_mono (Nat.le_refl _) (by omega) (RE_FA k1 h00 (Nat.le_refl _) g4)) l1 l4 (by omega) (by rw [if_pos hk])
                      have l2' : hU h9 + 16 * M2.length ≤ n := l2
                      refine ss_X0_factor_199 hSa ?_
                      have u2' : (if pis 7 41 M2 then some (Sum.inr (zB (pw M) e e3, M2.tail)) else pno 1 M2) = some r := u2
                      refine c_sign (c := 41) hS0 hFa hLa (n := n) (by show hU h9 ≤ n; omega) (fun p7 hb m1 m2 m3 m4 => ?_) (fun p7 => ?_)
                      · rw [p7, if_pos rfl] at u2'
                        cases u2'
                        have hM2 : M2.length = M2.tail.length + 1 := (pis_t p7).2.2.2
                        refine ss_X0_factor_206 (FA_St m1 hSa) ?_
                        have m2' : hN hb = hN h9 := m2
                        have m3' : hU hb = hU h9 := m3
                        refine hQ hb _ (FA_trans hFa m1) (by show hU hb + 16 * M2.tail.length ≤ n; omega) m4 ?_
                        rw [m2']
                        exact RE_FA m1 h00 (Nat.le_refl _) hREa
                      · rw [p7, if_neg (by decide)] at u2'
                        cases u2'
                        exact hQ
                  refine ss_X0_factor_150 hS6 ?_
                  refine c_isSign (v := 60) hS6 g3 ?_
                  refine ss_X0_factor_157 hS6 ?_
                  cases p7 : pis 7 60 M with
                  | true => rw [if_neg (by decide)]; exact goC (by rw [p7]; rfl)
                  | false =>
                    refine ip rfl ?_
                    refine c_isSign (v := 61) hS6 g3 ?_
                    refine ss_X0_factor_166 hS6 ?_
                    cases p8 : pis 7 61 M with
                    | true => rw [if_neg (by decide)]; exact goC (by rw [p7, p8]; rfl)
                    | false =>
                      refine ip rfl ?_
                      have e2' : (if pis 7 60 M || pis 7 61 M then pBnd (pX f 0 (w + 1) (zL 0) M.tail) fun e2 M2 => pex 41 (zB (pw M) e e2) M2 else pex 41 (zB 40 e (zL 0)) M) = some r := e2
                      rw [p7, p8, if_neg (by decide)] at e2'
                      have u2' : (if pis 7 41 M then some (Sum.inr (zB 40 e (zL 0), M.tail)) else pno 1 M) = some r := e2'
                      refine c_sign (c := 41) hS0 g1 g3 (n := n) (by omega) (fun p9 hb m1 m2 m3 m4 => ?_) (fun p9 => ?_)
                      · rw [p9, if_pos rfl] at u2'
                        cases u2'
                        have hM2 : M.length = M.tail.length + 1 := (pis_t p9).2.2.2
                        have hSb := FA_St m1 hS6
                        refine ss_X0_factor_214 hSb ?_
                        refine ⟨by omega, c_i15 (St_new hSb) (hT_newa rfl) ?_⟩
                        have hSbn := hSb.1
                        refine hQ _ _ (FA_sR (FA_new (FA_trans g1 m1)) (by have := (FA_trans g1 m1).1; omega)) (by show hU hb + 1 + 13 + 16 * M.tail.length ≤ n; omega) (Lx_sm (sm_sR (sm_new (sm_refl _ _) (by omega)) (by omega)) (sm_sR (sm_new (sm_refl _ _) (by omega)) (by omega)) m4) ?_
                        exact RE_paren (by have := (FA_trans g1 m1).1; omega) (by rw [m2]; exact RE_FA m1 h00 (Nat.le_refl _) g4)
                      · rw [p9, if_neg (by decide)] at u2'
                        cases u2'
                        exact hQ
              · rw [if_pos w8] at hr1
                cases hr1
                exact hQ
theorem pxE (f : Nat) : PXs f := by
  induction f with
  | zero => intro m w acc L r hr; cases hr
  | succ f ih =>
    intro m w acc L r hr hw h0 h Q n hS0 hF hL hu hn hQ d
    refine ⟨fun e hd => ?_, fun e hd a v3 hE => ?_, fun e hd => ?_, fun e hd a v3 hE => ?_, fun e hd => ?_, fun e hd hu2 x hx => ?_⟩ <;> subst e
    · exact pxE0 ih hr hw hS0 hF hL hu hn hQ hd
    · exact pxE1 ih hr hw hS0 hF hL hu hn hQ hd hE
    · exact pxE2 ih hr hw hS0 hF hL hu hn hQ hd
    · exact pxE3 ih hr hw hS0 hF hL hu hn hQ hd hE
    · exact pxE4 ih hr hw hS0 hF hL hu hn hQ hd
    · exact pxE5 ih hr hw hS0 hF hL hn hQ hd hu2 hx
