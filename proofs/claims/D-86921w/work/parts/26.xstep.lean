/-! x READS STEPS -/
def ov (o : Nat) : Int := if o = 2 then -1 else (o : Int)
def FQS (h0 : hp) (n kd q : Nat) (Q : qt) : Prop := ∀ h1 h', FS h0 h1 → h' = sI (sI h1 68 6 (kd : Nat)) 68 7 (hI h0 68 1 - (q : Nat)) → hU h1 ≤ n → Q (.inr 70) h'
def Xs (h : hp) (L : List zTk) (c o : Nat) : Prop := Lx h L ∧ Lok L ∧ hI h 68 9 = (c : Nat) ∧ hI h 68 10 = ov o ∧ c ≤ 40 ∧ o ≤ 2
def SQ (h0 : hp) (n : Nat) (r : zRs) (Q : qt) : Prop := match r with
  | .inl f => FQS h0 n f.1 f.2 Q
  | .inr p => ∀ h' a, FS h0 h' → hU h' + 64 * p.2.1.length ≤ n → Xs h' p.2.1 p.2.2.1 p.2.2.2 → RT h' (hN h0) (hN h') p.1 [a] → Q (.inl (some (vR (some a)))) h'
theorem FQS_FQ {h0 h : hp} {n n1 kd q : Nat} {Q Q1 : qt} (hS0 : St h0) (hF : FS h0 h) (hn : n1 ≤ n) (hQ : ∀ h', Q (.inr 70) h' → Q1 (.inr 70) h') (k : FQS h0 n kd q Q) : FQ h n1 kd q Q1 :=
  fun h2 h' f1 f2 f3 => hQ h' (k h2 h' (FS_trans hF (FS_FA f1)) (by rw [f2, FS_n hF hS0]) (by omega))
theorem FQS_to {h0 h : hp} {n n1 kd q : Nat} {Q Q1 : qt} (hS0 : St h0) (hF : FS h0 h) (hn : n1 ≤ n) (hQ : ∀ h', Q (.inr 70) h' → Q1 (.inr 70) h') (k : FQS h0 n kd q Q) : FQS h n1 kd q Q1 :=
  fun h2 h' f1 f2 f3 => hQ h' (k h2 h' (FS_trans hF f1) (by rw [f2, FS_n hF hS0]) (by omega))
theorem FA_910 {h h' : hp} (f : FA h h') (hS : St h) : hI h' 68 9 = hI h 68 9 ∧ hI h' 68 10 = hI h 68 10 := ⟨FA_i f hS (by omega) (by unfold pxf; omega), FA_i f hS (by omega) (by unfold pxf; omega)⟩
theorem Xs_FA {h h' : hp} {L M : List zTk} {c o : Nat} (k : Xs h L c o) (hS : St h) (f : FA h h') (l : Lx h' M) (ho : Lok M) : Xs h' M c o := by
  obtain ⟨e1, e2⟩ := FA_910 f hS
  exact ⟨l, ho, e1.trans k.2.2.1, e2.trans k.2.2.2.1, k.2.2.2.2⟩
/-- an expression -/
theorem c_expr {d : Nat} {Q : qt} {h : hp} {L : List zTk} (hS : St h) (hL : Lx h L) (hb : hU h + 16 * L.length ≤ BUD) (hd : 52 ≤ d) (k : RQ h (hU h + 16 * L.length) (pE L) Q) : Wc d 23 [vR (some 68), vI 0] h Q :=
  (pxE _ 0 0 (zL 0) L (pE L) (pE_eq L).1 (by omega) h h Q _ hS (FA_refl h) hL (Nat.le_refl _) hb k d).1 rfl (by omega)
/-- a place -/
def PQ (h : hp) (n : Nat) (r : zRes) (Q : qt) : Prop := match r with
  | .inl f => FQ h n f.1 f.2 Q
  | .inr p => ∀ h' a, FA h h' → hU h' + 16 * p.2.length ≤ n → Lx h' p.2 → RPl h' (hN h) (hN h') p.1 a → Q (.inl (some (vR (some a)))) h'
theorem c_target {d : Nat} {Q : qt} {h : hp} {L : List zTk} (hS : St h) (hL : Lx h L) (hb : hU h + 16 * L.length ≤ BUD) (hd : 53 ≤ d) (k : PQ h (hU h + 16 * L.length) (pP L) Q) : Wc d 17 [vR (some 68)] h Q := by
  obtain ⟨d, rfl⟩ : ∃ e, d = e + 53 := ⟨d - 53, by omega⟩
  have h145 := hS.1
  refine se_X0_target hS ?_
  refine c_isName hS hL ?_
  refine ss_X0_target_4 hS ?_
  cases p1 : phs 1 L with
  | true =>
    refine im (by decide) ?_
    have hlen := (phs_t p1).2
    have hr : pP L = .inr (zNam (pw L), L.tail) := by unfold pP; rw [p1]; rfl
    rw [hr] at k
    refine ⟨by omega, ?_⟩
    have S1 : St (hNew h 6 0 3) := St_new hS
    refine c_nameR (n := hU h + 16 * L.length) hS (FA_new (FA_refl h)) (L := L) (Lx_sm (sm_new (sm_refl _ _) (by omega)) (sm_new (sm_refl _ _) (by omega)) hL) (by rw [hU_new]; omega) (fun _ h3 f1 f2 f3 f4 => ?_) (fun z => by rw [z] at p1; cases p1)
    have S3 := FA_St f1 S1
    have f2' : hN h3 = hN h + 1 := f2
    have f3' : hU h3 = hU h + 3 + 13 := f3
    have htA : hT h3 (hN h) = (6, 0) := by rw [(f1.2.2 (hN h) (by rw [hN_new]; omega)).1, hT_newa rfl]
    refine ss_X0_target_15 S3 ?_
    rw [ofR_some, htA]
    refine ⟨by decide, c_n6 S3 htA ?_⟩
    refine k _ _ (FA_sR (FA_sI (FA_sI (FA_trans (FA_new (FA_refl h)) f1) (Or.inr (by omega))) (Or.inr (by omega))) (by omega)) (by show hU h3 + 16 * L.tail.length ≤ _; omega) ?_ ?_
    · exact Lx_sm (sm_sR (sm_sI (sm_sI (sm_refl _ _) (by omega)) (by omega)) (by omega)) (sm_sR (sm_sI (sm_sI (sm_refl _ _) (by omega)) (by omega)) (by omega)) f4
    · refine ⟨Nat.le_refl _, by show hN h < hN h3; omega, ?_, Or.inl ⟨rfl, ?_, ?_, ?_⟩⟩
      · rw [hT_sR, hT_sI, hT_sI]; exact htA
      · rw [hI_sR, hI_sI, if_neg (by omega), hI_sI, if_pos ⟨rfl, rfl⟩]; rfl
      · rw [hI_sR, hI_sI, if_pos ⟨rfl, rfl⟩]
      · rw [hR_sR, if_pos ⟨rfl, rfl⟩]
  | false =>
    refine ip rfl ?_
    have hr : pP L = (if phs 3 L then (if pis 7 91 L.tail then (match pE L.tail.tail with
        | .inl f => .inl f
        | .inr (e, M) => if pis 7 93 M then .inr (zB 3 (zL (pw L)) e, M.tail) else .inl (1, pq M)) else .inl (1, pq L.tail)) else .inl (1, pq L)) := by unfold pP; rw [p1]; rfl
    rw [hr] at k
    refine c_rowR (n := hU h + 16 * L.length) hS (FA_refl h) hL (by omega) (fun p3 h1 f1 f2 f3 f4 => ?_) (fun p3 => ?_)
    · rw [p3, if_pos rfl] at k
      have hlen := (phs_t p3).2
      have S1 := FA_St f1 hS
      refine ss_X0_target_25 S1 ?_
      refine c_sign (c := 91) hS f1 f4 (n := hU h + 16 * L.length) (by omega) (fun p4 h2 g1 g2 g3 g4 => ?_) (fun p4 => ?_)
      · rw [p4, if_pos rfl] at k
        have hlen2 := (pis_t p4).2.2.2
        have S2 := FA_St g1 S1
        have F2 := FA_trans f1 g1
        refine ss_X0_target_32 S2 ?_
        cases hE : pE L.tail.tail with
        | inl f =>
          rw [hE] at k
          refine c_expr S2 g4 (by omega) (by omega) ?_
          rw [hE]
          exact FQ_to hS F2 (by omega) (fun _ z => z) k
        | inr p =>
          obtain ⟨e, M⟩ := p
          rw [hE] at k
          refine c_expr S2 g4 (by omega) (by omega) ?_
          rw [hE]
          intro h3 b u1 u2 u3 u4
          have u2' : hU h3 + 16 * M.length ≤ hU h2 + 16 * L.tail.tail.length := u2
          have S3 := FA_St u1 S2
          have F3 := FA_trans F2 u1
          refine ss_X0_target_37 S3 ?_
          refine c_sign (c := 93) hS F3 u3 (n := hU h + 16 * L.length) (by omega) (fun p5 h4 w1 w2 w3 w4 => ?_) (fun p5 => ?_)
          · have p5' : pis 7 93 M = true := p5
            have k' : ∀ h' a, FA h h' → hU h' + 16 * M.tail.length ≤ hU h + 16 * L.length → Lx h' M.tail → RPl h' (hN h) (hN h') (zB 3 (zL (pw L)) e) a → Q (.inl (some (vR (some a)))) h' := by
              have k2 := k
              simp only [p5', if_true] at k2
              exact k2
            have hlen3 : M.length = M.tail.length + 1 := (pis_t p5').2.2.2
            have S4 := FA_St w1 S3
            have F4 := FA_trans F3 w1
            have h445 := S4.1
            refine ss_X0_target_44 S4 ?_
            refine ⟨by omega, c_n6 (St_new S4) (hT_newa rfl) ?_⟩
            have hn4 := F4.1
            have hn2 := F2.1
            refine k' _ _ (FA_sR (FA_sI (FA_sI (FA_new F4) (Or.inr (by omega))) (Or.inr (by omega))) (by omega)) (by show hU h4 + 3 + 13 + 16 * M.tail.length ≤ _; omega) ?_ ?_
            · exact Lx_sm (sm_sR (sm_sI (sm_sI (sm_new (sm_refl _ _) (by omega)) (by omega)) (by omega)) (by omega)) (sm_sR (sm_sI (sm_sI (sm_new (sm_refl _ _) (by omega)) (by omega)) (by omega)) (by omega)) w4
            · refine ⟨by omega, by show hN h4 < hN h4 + 1; omega, ?_, Or.inr ⟨rfl, ?_, ?_, b, ?_, ?_⟩⟩
              · rw [hT_sR, hT_sI, hT_sI, hT_newa rfl]
              · rw [hI_sR, hI_sI, if_neg (by omega), hI_sI, if_pos ⟨rfl, rfl⟩]
              · rw [hI_sR, hI_sI, if_pos ⟨rfl, rfl⟩]; rfl
              · rw [hR_sR, if_pos ⟨rfl, rfl⟩]
              · have w2' : hN h4 = hN h3 := w2
                show RE _ (hN h) (hN h4 + 1) e b
                refine RE_mono (by omega) (by omega) (RE_eq (lo := hN h2) (hi := hN h3) (fun c c1 c2 _ => ?_) u4)
                exact sm_trans (FA_sm w1 c2 (by have := S2.1; omega)) (sm_sR (sm_sI (sm_sI (sm_new (sm_refl _ _) (by omega)) (by omega)) (by omega)) (by omega))
          · have p5' : pis 7 93 M = false := p5
            have k2 := k
            simp only [p5'] at k2
            exact k2
      · rw [p4, if_neg (by decide)] at k
        exact k
    · rw [p3, if_neg (by decide)] at k
      exact k
