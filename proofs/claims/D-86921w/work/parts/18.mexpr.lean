/-! m's readE, readT, readF do what pX says -/
abbrev mjE : List Nat := [4, 5, 6, 7, 8, 11, 12, 13, 14, 15, 16]
abbrev FE (h h' : hp) : Prop := FI [] mjE [119, 120] h h'
def Ms (h : hp) (L : List zTk) (ts : List (Nat × Nat)) (w nb rb : Nat) : Prop := Ly h L ∧ Nt h ts ∧ hI h 116 16 = (w : Nat) ∧ hI h 116 14 = (nb : Nat) ∧ hI h 116 15 = (rb : Nat) ∧ nb < 2 ^ 26 ∧ rb < 2 ^ 26 ∧ ts.length + L.length ≤ 1600
def RM (h0 : hp) (ts : List (Nat × Nat)) (w nb rb : Nat) (r : zRes) (Q : qt) : Prop := match r with
  | .inl f => MF h0 mjE f.1 f.2 Q
  | .inr p => ∀ h', FE h0 h' → Ms h' p.2 (ts ++ zk p.1) w (nb ||| zbits p.1) (rb ||| zrows p.1) → Q (.inl (some (vI 1))) h'
theorem tok_ok {c : Int} {r : List Int} (h1 : 32 ≤ c) (h2 : c ≤ 126) : ((bTok c r).1 = 1 → (bTok c r).2.1 < 26) ∧ ((bTok c r).1 = 3 → (bTok c r).2.1 < 6) ∧ ((bTok c r).1 = 4 → (bTok c r).2.1 < 4) := by
  by_cases c1 : bSm c = true
  · have hr := bSm_iff.mp c1
    rcases bT_sm (r := r) c1 with q | q | q
    · rw [q]; exact ⟨fun z => by omega, fun z => by omega, fun z => by omega⟩
    · refine ⟨fun _ => ?_, fun z => by omega, fun z => by omega⟩
      unfold bTok at q ⊢
      rw [if_pos c1] at q ⊢
      split
      · show (c - 97).toNat < 26; omega
      · rename_i n0; rw [if_neg n0] at q; split at q <;> simp at q
    · rw [q]; exact ⟨fun z => by omega, fun z => by omega, fun z => by omega⟩
  · by_cases c2 : bDg c = true
    · rw [bTok_dg c1 c2]; exact ⟨fun z => (by simp at z), fun z => (by simp at z), fun z => (by simp at z)⟩
    · by_cases c3 : bCp c = true
      · have hr := bCp_iff.mp c3
        rcases bT_cp (r := r) c1 c2 c3 with ⟨q0, q⟩ | ⟨q0, q1, q⟩ | ⟨q0, q1, q⟩ <;> rw [q]
        · exact ⟨fun z => (by simp at z), fun _ => by show (c - 65).toNat < 6; omega, fun z => (by simp at z)⟩
        · exact ⟨fun z => (by simp at z), fun z => (by simp at z), fun _ => by show (c - 83).toNat < 4; omega⟩
        · exact ⟨fun z => (by simp at z), fun z => (by simp at z), fun z => (by simp at z)⟩
      · rcases bT_ot (r := r) c1 c2 c3 with ⟨x, y, i, -, -, q⟩ | q <;> rw [q] <;> exact ⟨fun z => (by simp at z), fun z => (by simp at z), fun z => (by simp at z)⟩
theorem lex_un {u : List Int} (ho : okb u) : lex u = [] ∨ ∃ c r, c ≠ 32 ∧ (32 ≤ c ∧ c ≤ 126) ∧ lex u = (r.length + 1, (bTok c r).1, (bTok c r).2.1) :: lex (bTok c r).2.2 := by
  induction u with
  | nil => exact Or.inl rfl
  | cons c u ih =>
    by_cases hc : c = 32
    · rw [← lex_skip, show bSkip (c :: u) = bSkip u by rw [bSkip, if_pos hc], lex_skip]
      exact ih (okb_tl ho)
    · exact Or.inr ⟨c, u, hc, ho c (List.mem_cons_self ..), lex_cons hc⟩
theorem Ly_ok {h : hp} {L : List zTk} (k : Ly h L) : (psr L = 1 → pw L < 26) ∧ (psr L = 3 → pw L < 6) ∧ (psr L = 4 → pw L < 4) := by
  obtain ⟨p, u, h4, hq, e⟩ := k
  rcases lex_un hq.2.2.2 with q | ⟨c, r, -, hc, q⟩ <;> rw [e, q]
  · exact ⟨fun z => (by simp [psr] at z), fun z => (by simp [psr] at z), fun z => (by simp [psr] at z)⟩
  · exact tok_ok hc.1 hc.2
theorem Ms_is {h h' : hp} {L : List zTk} {ts : List (Nat × Nat)} {w nb rb : Nat} (k : Ms h L ts w nb rb) (f : FI [] [4, 5, 6, 7, 8] [] h h') (l : Lz h' L) : Ms h' L ts w nb rb :=
  ⟨Lz_Ly l, Nt_FI f rfl k.2.1, by rw [FI_i f rfl]; exact k.2.2.1, by rw [FI_i f rfl]; exact k.2.2.2.1, by rw [FI_i f rfl]; exact k.2.2.2.2.1, k.2.2.2.2.2⟩
theorem Ms_take {h h' : hp} {L : List zTk} {ts : List (Nat × Nat)} {w nb rb : Nat} {x : Nat × Nat} (k : Ms h L ts w nb rb) (hn : L ≠ []) (f : FI [] [4, 11] [119, 120] h h') (l : Ly h' L.tail) (n : Nt h' (ts ++ [x])) : Ms h' L.tail (ts ++ [x]) w nb rb := by
  refine ⟨l, n, by rw [FI_i f rfl]; exact k.2.2.1, by rw [FI_i f rfl]; exact k.2.2.2.1, by rw [FI_i f rfl]; exact k.2.2.2.2.1, k.2.2.2.2.2.1, k.2.2.2.2.2.2.1, ?_⟩
  have := k.2.2.2.2.2.2.2
  cases L with
  | nil => exact absurd rfl hn
  | cons t L => rw [List.length_cons] at this; rw [List.length_append, List.tail_cons, List.length_singleton]; omega
theorem Ms_len {h : hp} {L : List zTk} {ts : List (Nat × Nat)} {w nb rb : Nat} (k : Ms h L ts w nb rb) (hn : L ≠ []) : ts.length < 1600 := by
  have := k.2.2.2.2.2.2.2
  cases L with
  | nil => exact absurd rfl hn
  | cons t L => rw [List.length_cons] at this; omega
theorem MF_to {h0 h : hp} {mj : List Nat} {kd q : Nat} {Q Q1 : qt} (hF : FE h0 h) (hm : ∀ j ∈ mj, j ∈ mjE) (hQ : ∀ h', FE h0 h' → Q (.inl (some (vI 0))) h' → Q1 (.inl (some (vI 0))) h') (k : MF h0 mjE kd q Q) : MF h mj kd q Q1 :=
  fun h' f1 f2 f3 => hQ h' (FI_trans hF (FI_mono f1 (by decide) hm (by decide))) (k h' (FI_trans hF (FI_mono f1 (by decide) hm (by decide))) f2 (by rw [f3, FI_i hF rfl]))
/-- a fault at the token that m has looked at -/
theorem t_fails {d : Nat} {Q : qt} {h0 h : hp} {L : List zTk} {kd : Nat} (hS : St h) (hF : FE h0 h) (hL : Lz h L) (k : MF h0 mjE kd (pq L) Q) : Wc (d + 1) 120 [vR (some 116), vI (kd : Nat), vI (hI h 116 5)] h Q := by
  refine se_X4_fails hS ?_
  refine k _ (FI_sI (FI_sI hF rfl) rfl) ?_ ?_
  · rw [hI_sI, if_neg (by omega), hI_sI, if_pos ⟨rfl, rfl⟩]
  · rw [hI_sI, if_pos ⟨rfl, rfl⟩, (Lz_un hL).1, FI_i hF rfl]
theorem zk_two {k : Nat} {l r : zT} (hk : zsum k = true ∨ zpro k = true) : zk (zB k l r) = zk l ++ (7, k) :: zk r ∧ zbits (zB k l r) = zbits l ||| zbits r ∧ zrows (zB k l r) = zrows l ||| zrows r := by
  have h : k = 43 ∨ k = 45 ∨ k = 94 ∨ k = 124 ∨ k = 42 ∨ k = 47 ∨ k = 37 ∨ k = 38 := by
    rcases hk with q | q
    · have := zsum_k q; omega
    · have := zpro_k q; omega
  rcases h with q | q | q | q | q | q | q | q <;> subst q <;> exact ⟨rfl, rfl, rfl⟩
def PMs (f : Nat) : Prop := ∀ (m w : Nat) (acc : zT) (L : List zTk) (r : zRes), pX f m w acc L = some r → w ≤ 8 → ∀ (h0 h : hp) (ts : List (Nat × Nat)) (nb rb : Nat) (Q : qt), St h0 → FE h0 h → RM h0 ts w nb rb r Q → ∀ d,
  (m = 0 → Ms h L ts w nb rb → 14 + 5 * (8 - w) ≤ d → Wc d 128 [vR (some 116)] h Q) ∧
  (m = 1 → Ms h L (ts ++ zk acc) w (nb ||| zbits acc) (rb ||| zrows acc) → 13 + 5 * (8 - w) ≤ d → Wp d C_X4_readE Q 5 [vR (some 116), vI 1] [] h) ∧
  (m = 2 → Ms h L ts w nb rb → 13 + 5 * (8 - w) ≤ d → Wc d 129 [vR (some 116)] h Q) ∧
  (m = 3 → Ms h L (ts ++ zk acc) w (nb ||| zbits acc) (rb ||| zrows acc) → 12 + 5 * (8 - w) ≤ d → Wp d C_X4_readT Q 5 [vR (some 116), vI 1] [] h) ∧
  (m = 4 → Ms h L ts w nb rb → 12 + 5 * (8 - w) ≤ d → Wc d 130 [vR (some 116)] h Q) ∧
  (m = 5 → ∀ x v1, acc = zL x → Ms h L (ts ++ [(3, x)]) w nb (rb ||| 2 ^ x) → 11 + 5 * (8 - w) ≤ d → Wp d C_X4_readF Q 74 [vR (some 116), v1] [] h)
theorem pmE0 {f : Nat} (ih : PMs f) {w : Nat} {acc : zT} {L : List zTk} {r : zRes} (hr : pX (f + 1) 0 w acc L = some r) (hw : w ≤ 8) {h0 h : hp} {ts : List (Nat × Nat)} {nb rb : Nat} {Q : qt} (hS0 : St h0) (hF : FE h0 h) (hQ : RM h0 ts w nb rb r Q) {d : Nat} (hM : Ms h L ts w nb rb) (hd : 14 + 5 * (8 - w) ≤ d) : Wc d 128 [vR (some 116)] h Q := by
  obtain ⟨d, rfl⟩ : ∃ e, d = e + 1 := ⟨d - 1, by omega⟩
  have hS := FI_St hF hS0 rfl
  refine se_X4_readE hS ?_
  rcases pBnd_some (show pBnd (pX f 2 w (zL 0) L) (fun e M => pX f 1 w e M) = some r from hr) with ⟨g, e1, e2⟩ | ⟨e, M, e1, e2⟩
  · subst e2
    refine (ih 2 w _ L _ e1 hw h0 h ts nb rb _ hS0 hF (fun h' f1 f2 f3 => ?_) d).2.2.1 rfl hM (by omega)
    have hS1 := FI_St f1 hS0 rfl
    refine ss_X4_readE_4 hS1 ?_
    refine ss_X4_readE_5 hS1 ?_
    refine ip rfl ?_
    exact ⟨Or.inl rfl, hQ h' f1 f2 f3⟩
  · refine (ih 2 w _ L _ e1 hw h0 h ts nb rb _ hS0 hF (fun h' f1 f2 => ?_) d).2.2.1 rfl hM (by omega)
    have hS1 := FI_St f1 hS0 rfl
    refine ss_X4_readE_4 hS1 ?_
    exact (ih 1 w e M r e2 hw h0 h' ts nb rb Q hS0 f1 hQ d).2.1 rfl f2 (by omega)
theorem pmE2 {f : Nat} (ih : PMs f) {w : Nat} {acc : zT} {L : List zTk} {r : zRes} (hr : pX (f + 1) 2 w acc L = some r) (hw : w ≤ 8) {h0 h : hp} {ts : List (Nat × Nat)} {nb rb : Nat} {Q : qt} (hS0 : St h0) (hF : FE h0 h) (hQ : RM h0 ts w nb rb r Q) {d : Nat} (hM : Ms h L ts w nb rb) (hd : 13 + 5 * (8 - w) ≤ d) : Wc d 129 [vR (some 116)] h Q := by
  obtain ⟨d, rfl⟩ : ∃ e, d = e + 1 := ⟨d - 1, by omega⟩
  have hS := FI_St hF hS0 rfl
  refine se_X4_readT hS ?_
  rcases pBnd_some (show pBnd (pX f 4 w (zL 0) L) (fun e M => pX f 3 w e M) = some r from hr) with ⟨g, e1, e2⟩ | ⟨e, M, e1, e2⟩
  · subst e2
    refine (ih 4 w _ L _ e1 hw h0 h ts nb rb _ hS0 hF (fun h' f1 f2 f3 => ?_) d).2.2.2.2.1 rfl hM (by omega)
    have hS1 := FI_St f1 hS0 rfl
    refine ss_X4_readT_4 hS1 ?_
    refine ss_X4_readT_5 hS1 ?_
    refine ip rfl ?_
    exact ⟨Or.inl rfl, hQ h' f1 f2 f3⟩
  · refine (ih 4 w _ L _ e1 hw h0 h ts nb rb _ hS0 hF (fun h' f1 f2 => ?_) d).2.2.2.2.1 rfl hM (by omega)
    have hS1 := FI_St f1 hS0 rfl
    refine ss_X4_readT_4 hS1 ?_
    exact (ih 3 w e M r e2 hw h0 h' ts nb rb Q hS0 f1 hQ d).2.2.2.1 rfl f2 (by omega)
theorem pmE1 {f : Nat} (ih : PMs f) {w : Nat} {acc : zT} {L : List zTk} {r : zRes} (hr : pX (f + 1) 1 w acc L = some r) (hw : w ≤ 8) {h0 h : hp} {ts : List (Nat × Nat)} {nb rb : Nat} {Q : qt} (hS0 : St h0) (hF : FE h0 h) (hQ : RM h0 ts w nb rb r Q) {d : Nat} (hM : Ms h L (ts ++ zk acc) w (nb ||| zbits acc) (rb ||| zrows acc)) (hd : 13 + 5 * (8 - w) ≤ d) : Wp d C_X4_readE Q 5 [vR (some 116), vI 1] [] h := by
  obtain ⟨d, rfl⟩ : ∃ e, d = e + 13 := ⟨d - 13, by omega⟩
  have hS := FI_St hF hS0 rfl
  have hr1 : (if pSum L then pBnd (pX f 2 w (zL 0) L.tail) fun e M => pX f 1 w (zB (pw L) acc e) M else some (.inr (acc, L))) = some r := hr
  have go1 : ∀ g, FE h0 g → Lz g L → Ms g L (ts ++ zk acc) w (nb ||| zbits acc) (rb ||| zrows acc) → pSum L = true → cV (Wc (d + 13)) 123 [vR (some 116)] g (fun h5 => Wp (d + 13) C_X4_readE Q 57 [vR (some 116), vI 1] [] h5) (fun e7 h8 => Q (.inr e7) h8) := by
    intro g gF gL gM hs
    have gS := FI_St gF hS0 rfl
    rw [if_pos hs] at hr1
    have hs2 : phs 7 L = true ∧ zsum (pw L) = true := by simpa [pSum] using hs
    have hne := (phs_t hs2.1).1
    have h7 := (psr_phs (by decide)).mp hs2.1
    refine c_takeL gS gL (by omega) gM.2.1 (Ms_len gM hne) fun h1 f1 l1 n1 => ?_
    have hS1 := FI_St f1 gS rfl
    have hF1 : FE h0 h1 := FI_trans gF (FI_mono f1 (by decide) (by decide) (by decide))
    rw [h7] at n1
    have hM1 := Ms_take gM hne f1 l1 n1
    refine ss_X4_readE_57 hS1 ?_
    rcases pBnd_some hr1 with ⟨g2, e1, e2⟩ | ⟨e, M, e1, e2⟩
    · subst e2
      refine (ih 2 w _ L.tail _ e1 hw h0 h1 _ _ _ _ hS0 hF1 (fun h' f1 f2 f3 => ?_) _).2.2.1 rfl hM1 (by omega)
      have hS2 := FI_St f1 hS0 rfl
      refine ss_X4_readE_61 hS2 ?_
      refine ss_X4_readE_5 hS2 ?_
      refine ip rfl ?_
      exact ⟨Or.inl rfl, hQ h' f1 f2 f3⟩
    · refine (ih 2 w _ L.tail _ e1 hw h0 h1 _ _ _ _ hS0 hF1 (fun h' f1 f2 => ?_) _).2.2.1 rfl hM1 (by omega)
      have hS2 := FI_St f1 hS0 rfl
      refine ss_X4_readE_61 hS2 ?_
      obtain ⟨y1, y2, y3⟩ := zk_two (k := pw L) (l := acc) (r := e) (Or.inl hs2.2)
      refine (ih 1 w _ M r e2 hw h0 h' ts nb rb Q hS0 f1 hQ _).2.1 rfl ?_ (by omega)
      rw [y1, y2, y3]
      have f2' : Ms h' M (ts ++ zk acc ++ [(7, pw L)] ++ zk e) w (nb ||| zbits acc ||| zbits e) (rb ||| zrows acc ||| zrows e) := f2
      rw [List.append_assoc, List.append_assoc, Nat.or_assoc, Nat.or_assoc] at f2'
      exact f2'
  refine ss_X4_readE_5 hS ?_
  rw [if_neg (by decide)]
  refine c_isM (s := 7) (w := 43) hS (by decide) hM.1 fun g0 a0 l0 => ?_
  have S0 := FI_St a0 hS rfl
  have F0 : FE h0 g0 := FI_trans hF (FI_mono a0 (by decide) (by decide) (by decide))
  have M0 := Ms_is hM a0 l0
  refine ss_X4_readE_17 S0 ?_
  cases p0 : pis 7 43 L with
  | true => rw [if_neg (by decide)]; exact go1 g0 F0 l0 M0 (by rw [pSum_iff, p0]; simp)
  | false =>
    refine ip rfl ?_
    refine c_isM (s := 7) (w := 45) S0 (by decide) M0.1 fun g1 a1 l1 => ?_
    have S1 := FI_St a1 S0 rfl
    have F1 : FE h0 g1 := FI_trans F0 (FI_mono a1 (by decide) (by decide) (by decide))
    have M1 := Ms_is M0 a1 l1
    refine ss_X4_readE_28 S1 ?_
    cases p1 : pis 7 45 L with
    | true => rw [if_neg (by decide)]; exact go1 g1 F1 l1 M1 (by rw [pSum_iff, p0, p1]; simp)
    | false =>
      refine ip rfl ?_
      refine c_isM (s := 7) (w := 94) S1 (by decide) M1.1 fun g2 a2 l2 => ?_
      have S2 := FI_St a2 S1 rfl
      have F2 : FE h0 g2 := FI_trans F1 (FI_mono a2 (by decide) (by decide) (by decide))
      have M2 := Ms_is M1 a2 l2
      refine ss_X4_readE_39 S2 ?_
      cases p2 : pis 7 94 L with
      | true => rw [if_neg (by decide)]; exact go1 g2 F2 l2 M2 (by rw [pSum_iff, p0, p1, p2]; simp)
      | false =>
        refine ip rfl ?_
        refine c_isM (s := 7) (w := 124) S2 (by decide) M2.1 fun g3 a3 l3 => ?_
        have S3 := FI_St a3 S2 rfl
        have F3 : FE h0 g3 := FI_trans F2 (FI_mono a3 (by decide) (by decide) (by decide))
        have M3 := Ms_is M2 a3 l3
        refine ss_X4_readE_50 S3 ?_
        cases p3 : pis 7 124 L with
        | true => rw [if_neg (by decide)]; exact go1 g3 F3 l3 M3 (by rw [pSum_iff, p0, p1, p2, p3]; simp)
        | false =>
          refine ip rfl ?_
          rw [if_neg (by rw [pSum_iff, p0, p1, p2, p3]; decide)] at hr1
          cases hr1
          exact ⟨Or.inr rfl, hQ g3 F3 M3⟩
theorem pmE3 {f : Nat} (ih : PMs f) {w : Nat} {acc : zT} {L : List zTk} {r : zRes} (hr : pX (f + 1) 3 w acc L = some r) (hw : w ≤ 8) {h0 h : hp} {ts : List (Nat × Nat)} {nb rb : Nat} {Q : qt} (hS0 : St h0) (hF : FE h0 h) (hQ : RM h0 ts w nb rb r Q) {d : Nat} (hM : Ms h L (ts ++ zk acc) w (nb ||| zbits acc) (rb ||| zrows acc)) (hd : 12 + 5 * (8 - w) ≤ d) : Wp d C_X4_readT Q 5 [vR (some 116), vI 1] [] h := by
  obtain ⟨d, rfl⟩ : ∃ e, d = e + 12 := ⟨d - 12, by omega⟩
  have hS := FI_St hF hS0 rfl
  have hr1 : (if pPro L then pBnd (pX f 4 w (zL 0) L.tail) fun e M => pX f 3 w (zB (pw L) acc e) M else some (.inr (acc, L))) = some r := hr
  have go1 : ∀ g, FE h0 g → Lz g L → Ms g L (ts ++ zk acc) w (nb ||| zbits acc) (rb ||| zrows acc) → pPro L = true → cV (Wc (d + 12)) 123 [vR (some 116)] g (fun h5 => Wp (d + 12) C_X4_readT Q 57 [vR (some 116), vI 1] [] h5) (fun e7 h8 => Q (.inr e7) h8) := by
    intro g gF gL gM hs
    have gS := FI_St gF hS0 rfl
    rw [if_pos hs] at hr1
    have hs2 : phs 7 L = true ∧ zpro (pw L) = true := by simpa [pPro] using hs
    have hne := (phs_t hs2.1).1
    have h7 := (psr_phs (by decide)).mp hs2.1
    refine c_takeL gS gL (by omega) gM.2.1 (Ms_len gM hne) fun h1 f1 l1 n1 => ?_
    have hS1 := FI_St f1 gS rfl
    have hF1 : FE h0 h1 := FI_trans gF (FI_mono f1 (by decide) (by decide) (by decide))
    rw [h7] at n1
    have hM1 := Ms_take gM hne f1 l1 n1
    refine ss_X4_readT_57 hS1 ?_
    rcases pBnd_some hr1 with ⟨g2, e1, e2⟩ | ⟨e, M, e1, e2⟩
    · subst e2
      refine (ih 4 w _ L.tail _ e1 hw h0 h1 _ _ _ _ hS0 hF1 (fun h' f1 f2 f3 => ?_) _).2.2.2.2.1 rfl hM1 (by omega)
      have hS2 := FI_St f1 hS0 rfl
      refine ss_X4_readT_61 hS2 ?_
      refine ss_X4_readT_5 hS2 ?_
      refine ip rfl ?_
      exact ⟨Or.inl rfl, hQ h' f1 f2 f3⟩
    · refine (ih 4 w _ L.tail _ e1 hw h0 h1 _ _ _ _ hS0 hF1 (fun h' f1 f2 => ?_) _).2.2.2.2.1 rfl hM1 (by omega)
      have hS2 := FI_St f1 hS0 rfl
      refine ss_X4_readT_61 hS2 ?_
      obtain ⟨y1, y2, y3⟩ := zk_two (k := pw L) (l := acc) (r := e) (Or.inr hs2.2)
      refine (ih 3 w _ M r e2 hw h0 h' ts nb rb Q hS0 f1 hQ _).2.2.2.1 rfl ?_ (by omega)
      rw [y1, y2, y3]
      have f2' : Ms h' M (ts ++ zk acc ++ [(7, pw L)] ++ zk e) w (nb ||| zbits acc ||| zbits e) (rb ||| zrows acc ||| zrows e) := f2
      rw [List.append_assoc, List.append_assoc, Nat.or_assoc, Nat.or_assoc] at f2'
      exact f2'
  refine ss_X4_readT_5 hS ?_
  rw [if_neg (by decide)]
  refine c_isM (s := 7) (w := 42) hS (by decide) hM.1 fun g0 a0 l0 => ?_
  have S0 := FI_St a0 hS rfl
  have F0 : FE h0 g0 := FI_trans hF (FI_mono a0 (by decide) (by decide) (by decide))
  have M0 := Ms_is hM a0 l0
  refine ss_X4_readT_17 S0 ?_
  cases p0 : pis 7 42 L with
  | true => rw [if_neg (by decide)]; exact go1 g0 F0 l0 M0 (by rw [pPro_iff, p0]; simp)
  | false =>
    refine ip rfl ?_
    refine c_isM (s := 7) (w := 47) S0 (by decide) M0.1 fun g1 a1 l1 => ?_
    have S1 := FI_St a1 S0 rfl
    have F1 : FE h0 g1 := FI_trans F0 (FI_mono a1 (by decide) (by decide) (by decide))
    have M1 := Ms_is M0 a1 l1
    refine ss_X4_readT_28 S1 ?_
    cases p1 : pis 7 47 L with
    | true => rw [if_neg (by decide)]; exact go1 g1 F1 l1 M1 (by rw [pPro_iff, p0, p1]; simp)
    | false =>
      refine ip rfl ?_
      refine c_isM (s := 7) (w := 37) S1 (by decide) M1.1 fun g2 a2 l2 => ?_
      have S2 := FI_St a2 S1 rfl
      have F2 : FE h0 g2 := FI_trans F1 (FI_mono a2 (by decide) (by decide) (by decide))
      have M2 := Ms_is M1 a2 l2
      refine ss_X4_readT_39 S2 ?_
      cases p2 : pis 7 37 L with
      | true => rw [if_neg (by decide)]; exact go1 g2 F2 l2 M2 (by rw [pPro_iff, p0, p1, p2]; simp)
      | false =>
        refine ip rfl ?_
        refine c_isM (s := 7) (w := 38) S2 (by decide) M2.1 fun g3 a3 l3 => ?_
        have S3 := FI_St a3 S2 rfl
        have F3 : FE h0 g3 := FI_trans F2 (FI_mono a3 (by decide) (by decide) (by decide))
        have M3 := Ms_is M2 a3 l3
        refine ss_X4_readT_50 S3 ?_
        cases p3 : pis 7 38 L with
        | true => rw [if_neg (by decide)]; exact go1 g3 F3 l3 M3 (by rw [pPro_iff, p0, p1, p2, p3]; simp)
        | false =>
          refine ip rfl ?_
          rw [if_neg (by rw [pPro_iff, p0, p1, p2, p3]; decide)] at hr1
          cases hr1
          exact ⟨Or.inr rfl, hQ g3 F3 M3⟩
theorem c_opens {d : Nat} {Q : qt} {h0 h : hp} {L : List zTk} {w : Nat} (hS : St h) (hF : FE h0 h) (hL : Lz h L) (h16 : hI h 116 16 = (w : Nat)) (hw : w ≤ 8) (k1 : w ≠ 8 → Q (.inl (some (vI 1))) (sI h 116 16 ((w + 1 : Nat) : Int))) (k2 : w = 8 → MF h0 mjE 2 (pq L) Q) : Wc (d + 2) 131 [vR (some 116)] h Q := by
  refine se_X4_opens hS ?_
  rw [h16]
  by_cases q : w = 8
  · rw [if_pos (by omega)]
    exact t_fails hS hF hL (fun h' f1 f2 f3 => ⟨Or.inl rfl, k2 q h' f1 f2 f3⟩)
  · rw [if_neg (by omega), na_eq (by omega) (by omega)]
    exact k1 q
theorem Ms_16 {h : hp} {L : List zTk} {ts : List (Nat × Nat)} {w nb rb : Nat} (k : Ms h L ts w nb rb) (v : Nat) : Ms (sI h 116 16 (v : Nat)) L ts v nb rb := by
  obtain ⟨⟨p, u, a1, a2, a3⟩, a4, a5, a6, a7, a8⟩ := k
  refine ⟨⟨p, u, by rw [hI_sI, if_neg (by omega)]; exact a1, Mq_sI a2 (by omega), a3⟩, ⟨by rw [hI_sI, if_neg (by omega)]; exact a4.1, fun j hj => by rw [hI_sI, if_neg (by omega), hI_sI, if_neg (by omega)]; exact a4.2 j hj⟩, by rw [hI_sI, if_pos ⟨rfl, rfl⟩], by rw [hI_sI, if_neg (by omega)]; exact a6, by rw [hI_sI, if_neg (by omega)]; exact a7, a8⟩
theorem Lz_16 {h : hp} {L : List zTk} (k : Lz h L) (v : Int) {j : Nat} (hj : j = 14 ∨ j = 15 ∨ j = 16) : Lz (sI h 116 j v) L := by
  obtain ⟨u, ⟨b, h4, h5, hq, hm⟩, e⟩ := k
  refine ⟨u, ⟨b, by rw [hI_sI, if_neg (by omega)]; exact h4, by rw [hI_sI, if_neg (by omega)]; exact h5, Mq_sI hq (by omega), ?_⟩, e⟩
  cases u with
  | nil => exact ⟨by rw [hI_sI, if_neg (by omega)]; exact hm.1, by rw [hI_sI, if_neg (by omega)]; exact hm.2⟩
  | cons c r =>
    obtain ⟨hc, h6, h7, e2, h8, hq2⟩ := hm
    exact ⟨hc, by rw [hI_sI, if_neg (by omega)]; exact h6, fun q => by rw [hI_sI, if_neg (by omega)]; exact h7 q, e2, by rw [hI_sI, if_neg (by omega)]; exact h8, Mq_sI hq2 (by omega)⟩
theorem Ms_names {h : hp} {L : List zTk} {ts : List (Nat × Nat)} {w nb rb : Nat} (k : Ms h L ts w nb rb) {x : Nat} (hx : x < 26) : Ms (sI h 116 14 ((nb ||| 2 ^ x : Nat) : Int)) L ts w (nb ||| 2 ^ x) rb := by
  obtain ⟨⟨p, u, a1, a2, a3⟩, a4, a5, a6, a7, a8, a9, a10⟩ := k
  refine ⟨⟨p, u, by rw [hI_sI, if_neg (by omega)]; exact a1, Mq_sI a2 (by omega), a3⟩, ⟨by rw [hI_sI, if_neg (by omega)]; exact a4.1, fun j hj => by rw [hI_sI, if_neg (by omega), hI_sI, if_neg (by omega)]; exact a4.2 j hj⟩, by rw [hI_sI, if_neg (by omega)]; exact a5, by rw [hI_sI, if_pos ⟨rfl, rfl⟩], by rw [hI_sI, if_neg (by omega)]; exact a7, Nat.or_lt_two_pow a8 (Nat.pow_lt_pow_right (by decide) hx), a9, a10⟩
theorem Ms_rows {h : hp} {L : List zTk} {ts : List (Nat × Nat)} {w nb rb : Nat} (k : Ms h L ts w nb rb) {x : Nat} (hx : x < 26) : Ms (sI h 116 15 ((rb ||| 2 ^ x : Nat) : Int)) L ts w nb (rb ||| 2 ^ x) := by
  obtain ⟨⟨p, u, a1, a2, a3⟩, a4, a5, a6, a7, a8, a9, a10⟩ := k
  refine ⟨⟨p, u, by rw [hI_sI, if_neg (by omega)]; exact a1, Mq_sI a2 (by omega), a3⟩, ⟨by rw [hI_sI, if_neg (by omega)]; exact a4.1, fun j hj => by rw [hI_sI, if_neg (by omega), hI_sI, if_neg (by omega)]; exact a4.2 j hj⟩, by rw [hI_sI, if_neg (by omega)]; exact a5, by rw [hI_sI, if_neg (by omega)]; exact a6, by rw [hI_sI, if_pos ⟨rfl, rfl⟩], a8, Nat.or_lt_two_pow a9 (Nat.pow_lt_pow_right (by decide) hx), a10⟩
theorem bit_or {a k : Nat} (ha : a < 2 ^ 26) (hk : k < 26) : n_or (a : Int) (n_shl 1 (k : Int)) = ((a ||| 2 ^ k : Nat) : Int) := by
  rw [shl1 k (by omega)]
  exact or_nat (Nat.lt_trans ha (by decide)) (Nat.pow_lt_pow_right (by decide) (by omega))
theorem pmE5 {f : Nat} (ih : PMs f) {w : Nat} {acc : zT} {L : List zTk} {r : zRes} (hr : pX (f + 1) 5 w acc L = some r) (hw : w ≤ 8) {h0 h : hp} {ts : List (Nat × Nat)} {nb rb : Nat} {Q : qt} (hS0 : St h0) (hF : FE h0 h) (hQ : RM h0 ts w nb rb r Q) {d : Nat} {x : Nat} {v1 : av} (hx : acc = zL x) (hM : Ms h L (ts ++ [(3, x)]) w nb (rb ||| 2 ^ x)) (hd : 11 + 5 * (8 - w) ≤ d) : Wp d C_X4_readF Q 74 [vR (some 116), v1] [] h := by
  obtain ⟨d, rfl⟩ : ∃ e, d = e + 11 := ⟨d - 11, by omega⟩
  have hS := FI_St hF hS0 rfl
  have hr1 : (if pis 7 91 L then (if w = 8 then pno 2 L else pBnd (pX f 0 (w + 1) (zL 0) L.tail) fun e M => pex 93 (zB 3 acc e) M) else pno 1 L) = some r := hr
  refine ss_X4_readF_74 hS ?_
  refine c_look hS hM.1 fun g a1 l1 => ?_
  have gS := FI_St a1 hS rfl
  have gF : FE h0 g := FI_trans hF (FI_mono a1 (by decide) (by decide) (by decide))
  have gM := Ms_is hM a1 l1
  obtain ⟨z1, z2, z3, z4⟩ := Lz_un l1
  refine ss_X4_readF_78 gS ?_
  rw [z2]
  cases p1 : pis 7 91 L with
  | false =>
    rw [p1, if_neg (by decide)] at hr1
    cases hr1
    have k96 : Wp (d + 11) C_X4_readF Q 96 [vR (some 116), v1] [] g := by
      refine ss_X4_readF_96 gS ?_
      exact t_fails gS gF l1 (fun h' f1 f2 f3 => ⟨Or.inl rfl, hQ h' f1 f2 f3⟩)
    by_cases q : psr L = 7
    · rw [if_pos (by omega), z3 (by omega), if_neg (fun z => by rw [(psr_pis (by decide)).mpr ⟨q, by omega⟩] at p1; cases p1)]
      exact k96
    · rw [if_neg (by omega)]; exact k96
  | true =>
    rw [p1, if_pos rfl] at hr1
    obtain ⟨q1, q2⟩ := (psr_pis (by decide)).mp p1
    have hne := (pis_t p1).1
    rw [if_pos (by omega), z3 (by omega), if_pos (by omega)]
    have fin0 : ∀ h', St h' → Q (.inl (some (vI 0))) h' → Wp (d + 11) C_X4_readF Q 124 [vR (some 116), v1] [] h' := fun h' s q => ss_X4_readF_124 s (ss_X4_readF_125 s ⟨Or.inl rfl, q⟩)
    refine c_opens gS gF l1 gM.2.2.1 hw (fun w8 => ?_) (fun w8 => ?_)
    · rw [if_neg w8] at hr1
      have S1 : St (sI g 116 16 ((w + 1 : Nat) : Int)) := St_sI gS (by omega)
      have F1 : FE h0 (sI g 116 16 ((w + 1 : Nat) : Int)) := FI_sI gF rfl
      have M1 := Ms_16 gM (w + 1)
      have L1 := Lz_16 l1 ((w + 1 : Nat) : Int) (j := 16) (by omega)
      refine ss_X4_readF_110 S1 ?_
      rw [if_neg (by decide)]
      refine se_X4_inBrackets S1 ?_
      refine c_takeL S1 L1 (by omega) M1.2.1 (Ms_len M1 hne) fun h2 f2 l2 n2 => ?_
      have S2 := FI_St f2 S1 rfl
      have F2 : FE h0 h2 := FI_trans F1 (FI_mono f2 (by decide) (by decide) (by decide))
      have M2 := Ms_take M1 hne f2 l2 n2
      rw [q1, q2] at M2
      refine ss_X4_inBrackets_4 S2 ?_
      rcases pBnd_some hr1 with ⟨g2, e1, e2⟩ | ⟨e, M, e1, e2⟩
      · subst e2
        refine (ih 0 (w + 1) _ L.tail _ e1 (by omega) h0 h2 _ _ _ _ hS0 F2 (fun h' f1 f2 f3 => ?_) _).1 rfl M2 (by omega)
        have S3 := FI_St f1 hS0 rfl
        refine ss_X4_inBrackets_8 S3 ?_
        refine ip rfl ?_
        refine ss_X4_readF_117 S3 ?_
        refine ip rfl ?_
        exact fin0 h' S3 (hQ h' f1 f2 f3)
      · refine (ih 0 (w + 1) _ L.tail _ e1 (by omega) h0 h2 _ _ _ _ hS0 F2 (fun h3 f3 M3 => ?_) _).1 rfl M2 (by omega)
        have S3 := FI_St f3 hS0 rfl
        refine ss_X4_inBrackets_8 S3 ?_
        have M3' : Ms h3 M (ts ++ [(3, x)] ++ [(7, 91)] ++ zk e) (w + 1) (nb ||| zbits e) (rb ||| 2 ^ x ||| zrows e) := M3
        rw [if_neg (by decide), M3'.2.2.1, ns_eq (by omega) (by omega), show ((w + 1 : Nat) : Int) - 1 = (w : Nat) by omega]
        have S4 : St (sI h3 116 16 (w : Nat)) := St_sI S3 (by omega)
        have F4 : FE h0 (sI h3 116 16 (w : Nat)) := FI_sI f3 rfl
        have M4 := Ms_16 M3' w
        have e2' : (if pis 7 93 M then some (Sum.inr (zB 3 acc e, M.tail)) else pno 1 M) = some r := e2
        refine c_wants (s := 7) (w := 93) S4 (by decide) M4.1 M4.2.1 (Ms_len M4) (fun p2 h5 f5 l5 n5 => ?_) (fun p2 => ?_)
        · rw [p2, if_pos rfl] at e2'
          cases e2'
          refine ⟨Or.inr rfl, ?_⟩
          have S5 := FI_St f5 S4 rfl
          have F5 : FE h0 h5 := FI_trans F4 (FI_mono f5 (by decide) (by decide) (by decide))
          refine ss_X4_readF_117 S5 ?_
          rw [if_neg (by decide)]
          refine ss_X4_readF_125 S5 ⟨Or.inr rfl, hQ h5 F5 ?_⟩
          obtain ⟨b1, b2, b3, b4, b5, b6, b7, b8⟩ := M4
          have hMl := (pis_t p2).2.2.2
          refine ⟨l5, ?_, by rw [FI_i f5 rfl]; exact b3, ?_, ?_, ?_, ?_, ?_⟩
          · rw [hx]
            have : ts ++ zk (zB 3 (zL x) e) = ts ++ [(3, x)] ++ [(7, 91)] ++ zk e ++ [(7, 93)] := by show ts ++ ((3, x) :: (7, 91) :: (zk e ++ [(7, 93)])) = _; simp
            rw [this]; exact n5
          · rw [FI_i f5 rfl, b4]; rfl
          · rw [FI_i f5 rfl, b5]; show _ = ((rb ||| (2 ^ zn acc ||| zrows e) : Nat) : Int); rw [hx]; show _ = ((rb ||| (2 ^ x ||| zrows e) : Nat) : Int); rw [Nat.or_assoc]
          · exact b6
          · show rb ||| (2 ^ zn acc ||| zrows e) < _; rw [hx]; show rb ||| (2 ^ x ||| zrows e) < _; rw [← Nat.or_assoc]; exact b7
          · rw [hx]; show (ts ++ ((3, x) :: (7, 91) :: (zk e ++ [(7, 93)]))).length + M.tail.length ≤ 1600
            simp at b8 ⊢; omega
        · rw [p2, if_neg (by decide)] at e2'
          cases e2'
          refine MF_to F4 (by decide) (fun h' fh q => ?_) hQ
          have S5 := FI_St fh hS0 rfl
          refine ⟨Or.inl rfl, ?_⟩
          refine ss_X4_readF_117 S5 ?_
          refine ip rfl ?_
          exact fin0 h' S5 q
    · rw [if_pos w8] at hr1
      cases hr1
      refine MF_to (FI_refl h0) (fun _ q => q) (fun h' fh q => ?_) hQ
      have S5 := FI_St fh hS0 rfl
      refine ss_X4_readF_110 S5 ?_
      refine ip rfl ?_
      exact fin0 h' S5 q
theorem zk_num (v : Nat) : zk (zNum v) = [(2, v)] ∧ zbits (zNum v) = 0 ∧ zrows (zNum v) = 0 := ⟨rfl, by simp [zbits], by simp [zrows]⟩
theorem zk_nam (v : Nat) : zk (zNam v) = [(1, v)] ∧ zbits (zNam v) = 2 ^ v ∧ zrows (zNam v) = 0 := ⟨rfl, by simp [zbits, zn], by simp [zrows]⟩
theorem zk_size (v : Nat) : zk (zB 35 (zL v) (zL 0)) = [(7, 35), (3, v)] ∧ zbits (zB 35 (zL v) (zL 0)) = 0 ∧ zrows (zB 35 (zL v) (zL 0)) = 2 ^ v := ⟨rfl, by simp [zbits], by simp [zrows, zn]⟩
theorem zk_minus (e : zT) : zk (zB 8 e (zL 0)) = (8, 45) :: zk e ∧ zbits (zB 8 e (zL 0)) = zbits e ∧ zrows (zB 8 e (zL 0)) = zrows e := ⟨rfl, rfl, rfl⟩
theorem zk_paren (e : zT) : zk (zB 40 e (zL 0)) = (7, 40) :: (zk e ++ [(7, 41)]) ∧ zbits (zB 40 e (zL 0)) = zbits e ∧ zrows (zB 40 e (zL 0)) = zrows e := ⟨rfl, rfl, rfl⟩
theorem zk_cmp {k : Nat} {l r : zT} (hk : k = 60 ∨ k = 61) : zk (zB k l r) = (7, 40) :: (zk l ++ (7, k) :: (zk r ++ [(7, 41)])) ∧ zbits (zB k l r) = zbits l ||| zbits r ∧ zrows (zB k l r) = zrows l ||| zrows r := by
  rcases hk with q | q <;> subst q <;> exact ⟨rfl, rfl, rfl⟩
/-- a ) or another sign at the end of what was read -/
theorem Ms_end {h h' : hp} {M : List zTk} {ts : List (Nat × Nat)} {w nb rb : Nat} {x : Nat × Nat} {mj : List Nat} (k : Ms h M ts w nb rb) (hp : M ≠ []) (f : FI [] mj [119, 120] h h') (h1 : mj.contains 16 = false) (h2 : mj.contains 14 = false) (h3 : mj.contains 15 = false) (l : Ly h' M.tail) (n : Nt h' (ts ++ [x])) : Ms h' M.tail (ts ++ [x]) w nb rb := by
  refine ⟨l, n, by rw [FI_i f (by unfold pG; rw [h1]; rfl)]; exact k.2.2.1, by rw [FI_i f (by unfold pG; rw [h2]; rfl)]; exact k.2.2.2.1, by rw [FI_i f (by unfold pG; rw [h3]; rfl)]; exact k.2.2.2.2.1, k.2.2.2.2.2.1, k.2.2.2.2.2.2.1, ?_⟩
  have := k.2.2.2.2.2.2.2
  cases M with
  | nil => exact absurd rfl hp
  | cons t L => rw [List.length_cons] at this; rw [List.length_append, List.tail_cons, List.length_singleton]; omega
theorem pmE4 {f : Nat} (ih : PMs f) {w : Nat} {acc : zT} {L : List zTk} {r : zRes} (hr : pX (f + 1) 4 w acc L = some r) (hw : w ≤ 8) {h0 h : hp} {ts : List (Nat × Nat)} {nb rb : Nat} {Q : qt} (hS0 : St h0) (hF : FE h0 h) (hQ : RM h0 ts w nb rb r Q) {d : Nat} (hM : Ms h L ts w nb rb) (hd : 12 + 5 * (8 - w) ≤ d) : Wc d 130 [vR (some 116)] h Q := by
  obtain ⟨d, rfl⟩ : ∃ e, d = e + 12 := ⟨d - 12, by omega⟩
  have hS := FI_St hF hS0 rfl
  have hr1 : (if phs 2 L then some (.inr (zNum (pw L), L.tail))
      else if phs 1 L then some (.inr (zNam (pw L), L.tail))
      else if phs 3 L then pX f 5 w (zL (pw L)) L.tail
      else if pis 7 35 L then (if phs 3 L.tail then some (.inr (zB 35 (zL (pw L.tail)) (zL 0), L.tail.tail)) else pno 1 L.tail)
      else if pis 7 45 L then (if w = 8 then pno 2 L else pBnd (pX f 4 (w + 1) (zL 0) L.tail) fun e M => some (.inr (zB 8 e (zL 0), M)))
      else if pis 7 40 L then (if w = 8 then pno 2 L else pBnd (pX f 0 (w + 1) (zL 0) L.tail) fun e M =>
        if pis 7 60 M || pis 7 61 M then pBnd (pX f 0 (w + 1) (zL 0) M.tail) fun e2 M2 => pex 41 (zB (pw M) e e2) M2
        else pex 41 (zB 40 e (zL 0)) M)
      else pno 1 L) = some r := hr
  refine se_X4_readF hS ?_
  refine c_look hS hM.1 fun g a1 l1 => ?_
  have gS := FI_St a1 hS rfl
  have gF : FE h0 g := FI_trans hF (FI_mono a1 (by decide) (by decide) (by decide))
  have gM := Ms_is hM a1 l1
  obtain ⟨z1, z2, z3, z4⟩ := Lz_un l1
  obtain ⟨o1, o3, o4⟩ := Ly_ok gM.1
  refine ss_X4_readF_4 gS ?_
  rw [z2]
  cases p2 : phs 2 L with
  | true =>
    have s2 := (psr_phs (by decide)).mp p2
    have hne := (phs_t p2).1
    rw [if_pos (by omega)]
    rw [p2, if_pos rfl] at hr1
    cases hr1
    refine c_takeL gS l1 (by omega) gM.2.1 (Ms_len gM hne) fun h2 f2 l2 n2 => ?_
    rw [s2] at n2
    have M2 := Ms_take gM hne f2 l2 n2
    refine ss_X4_readF_16 (FI_St f2 gS rfl) (hQ h2 (FI_trans gF (FI_mono f2 (by decide) (by decide) (by decide))) ?_)
    rw [(zk_num _).1, (zk_num _).2.1, (zk_num _).2.2, Nat.or_zero, Nat.or_zero]
    exact M2
  | false =>
  have n2 : psr L ≠ 2 := fun q => by rw [(psr_phs (by decide)).mpr q] at p2; cases p2
  rw [if_neg (by omega)]
  rw [p2, if_neg (by decide)] at hr1
  cases p1 : phs 1 L with
  | true =>
    have s1 := (psr_phs (by decide)).mp p1
    have hne := (phs_t p1).1
    rw [if_pos (by omega), z3 (by omega), gM.2.2.2.1, bit_or gM.2.2.2.2.2.1 (o1 s1)]
    rw [p1, if_pos rfl] at hr1
    cases hr1
    have M1 := Ms_names gM (o1 s1)
    have S1 : St (sI g 116 14 ((nb ||| 2 ^ pw L : Nat) : Int)) := St_sI gS (by omega)
    refine c_takeL S1 (Lz_16 l1 _ (by omega)) (by omega) M1.2.1 (Ms_len M1 hne) fun h2 f2 l2 n2 => ?_
    rw [s1] at n2
    have M2 := Ms_take M1 hne f2 l2 n2
    refine ss_X4_readF_45 (FI_St f2 S1 rfl) (hQ h2 (FI_trans (FI_sI gF rfl) (FI_mono f2 (by decide) (by decide) (by decide))) ?_)
    rw [(zk_nam _).1, (zk_nam _).2.1, (zk_nam _).2.2, Nat.or_zero]
    exact M2
  | false =>
  have n1 : psr L ≠ 1 := fun q => by rw [(psr_phs (by decide)).mpr q] at p1; cases p1
  rw [if_neg (by omega)]
  rw [p1, if_neg (by decide)] at hr1
  cases p3 : phs 3 L with
  | true =>
    have s3 := (psr_phs (by decide)).mp p3
    have hne := (phs_t p3).1
    rw [if_pos (by omega), z3 (by omega), gM.2.2.2.2.1, bit_or gM.2.2.2.2.2.2.1 (by have := o3 s3; omega)]
    rw [p3, if_pos rfl] at hr1
    have M1 := Ms_rows gM (x := pw L) (by have := o3 s3; omega)
    have S1 : St (sI g 116 15 ((rb ||| 2 ^ pw L : Nat) : Int)) := St_sI gS (by omega)
    refine c_takeL S1 (Lz_16 l1 _ (by omega)) (by omega) M1.2.1 (Ms_len M1 hne) fun h2 f2 l2 n2 => ?_
    rw [s3] at n2
    have M2 := Ms_take M1 hne f2 l2 n2
    exact (ih 5 w _ L.tail r hr1 hw h0 h2 ts nb rb Q hS0 (FI_trans (FI_sI gF rfl) (FI_mono f2 (by decide) (by decide) (by decide))) hQ _).2.2.2.2.2 rfl _ _ rfl M2 (by omega)
  | false =>
  have n3 : psr L ≠ 3 := fun q => by rw [(psr_phs (by decide)).mpr q] at p3; cases p3
  rw [if_neg (by omega)]
  rw [p3, if_neg (by decide)] at hr1
  cases p4 : pis 7 35 L with
  | true =>
    obtain ⟨q1, q2⟩ := (psr_pis (by decide)).mp p4
    have hne := (pis_t p4).1
    rw [if_pos (by omega), z3 (by omega), if_pos (by omega)]
    rw [p4, if_pos rfl] at hr1
    refine c_takeL gS l1 (by omega) gM.2.1 (Ms_len gM hne) fun h2 f2 l2 n2 => ?_
    rw [q1, q2] at n2
    have S2 := FI_St f2 gS rfl
    have F2 : FE h0 h2 := FI_trans gF (FI_mono f2 (by decide) (by decide) (by decide))
    have M2 := Ms_take gM hne f2 l2 n2
    refine ss_X4_readF_148 S2 ?_
    refine c_look S2 l2 fun h3 f3 l3 => ?_
    have S3 := FI_St f3 S2 rfl
    have F3 : FE h0 h3 := FI_trans F2 (FI_mono f3 (by decide) (by decide) (by decide))
    have M3 := Ms_is M2 f3 l3
    obtain ⟨y1, y2, y3, y4⟩ := Lz_un l3
    obtain ⟨v1, v3, v4⟩ := Ly_ok M3.1
    refine ss_X4_readF_152 S3 ?_
    rw [y2, M3.2.2.2.2.1]
    cases p5 : phs 3 L.tail with
    | true =>
      have s5 := (psr_phs (by decide)).mp p5
      rw [p5, if_pos rfl] at hr1
      cases hr1
      rw [if_pos (by omega), y3 (by omega)]
      refine ss_X4_readF_175 S3 ?_
      rw [bit_or M3.2.2.2.2.2.2.1 (by have := v3 s5; omega)]
      have M4 := Ms_rows M3 (x := pw L.tail) (by have := v3 s5; omega)
      have S4 : St (sI h3 116 15 ((rb ||| 2 ^ pw L.tail : Nat) : Int)) := St_sI S3 (by omega)
      refine c_wantsS (s := 3) S4 (by decide) M4.1 M4.2.1 (Ms_len M4) (fun _ h5 f5 l5 n5 => ?_) (fun z => by rw [z] at p5; cases p5)
      refine ⟨Or.inr rfl, hQ h5 (FI_trans (FI_sI F3 rfl) (FI_mono f5 (by decide) (by decide) (by decide))) ?_⟩
      have M5 := Ms_end M4 (phs_t p5).1 f5 rfl rfl rfl l5 n5
      rw [(zk_size _).1, (zk_size _).2.1, (zk_size _).2.2, Nat.or_zero]
      rw [List.append_assoc] at M5
      exact M5
    | false =>
      rw [p5, if_neg (by decide)] at hr1
      cases hr1
      have s5 : psr L.tail ≠ 3 := fun q => by rw [(psr_phs (by decide)).mpr q] at p5; cases p5
      rw [if_neg (by omega)]
      refine ss_X4_readF_175 S3 ?_
      rw [show n_or ((rb : Nat) : Int) 0 = (rb : Nat) from by have := or_nat (a := rb) (b := 0) (Nat.lt_trans M3.2.2.2.2.2.2.1 (by decide)) (by decide); rw [Nat.or_zero] at this; exact this]
      have S4 : St (sI h3 116 15 ((rb : Nat) : Int)) := St_sI S3 (by omega)
      refine c_wantsS (s := 3) S4 (by decide) (Lz_Ly (Lz_16 l3 _ (by omega))) (ts := ts ++ [(7, 35)]) ⟨by rw [hI_sI, if_neg (by omega)]; exact M3.2.1.1, fun j hj => by rw [hI_sI, if_neg (by omega), hI_sI, if_neg (by omega)]; exact M3.2.1.2 j hj⟩ (Ms_len M3) (fun z => by rw [z] at p5; cases p5) (fun _ => ?_)
      exact MF_to (FI_sI F3 rfl) (by decide) (fun h' _ q => ⟨Or.inl rfl, q⟩) hQ
  | false =>
  rw [p4, if_neg (by decide)] at hr1
  have k185 : Wp (d + 11) C_X4_readF Q 185 [vR (some 116), vU] [] g := by
    refine ss_X4_readF_185 gS ?_
    rw [z2]
    cases p5 : pis 7 45 L with
    | true =>
      obtain ⟨q1, q2⟩ := (psr_pis (by decide)).mp p5
      have hne := (pis_t p5).1
      rw [p5, if_pos rfl] at hr1
      rw [if_pos (by omega), z3 (by omega), if_pos (by omega)]
      refine c_opens gS gF l1 gM.2.2.1 hw (fun w8 => ?_) (fun w8 => ?_)
      · rw [if_neg w8] at hr1
        have S1 : St (sI g 116 16 ((w + 1 : Nat) : Int)) := St_sI gS (by omega)
        have F1 : FE h0 (sI g 116 16 ((w + 1 : Nat) : Int)) := FI_sI gF rfl
        have M1 := Ms_16 gM (w + 1)
        refine ss_X4_readF_207 S1 ?_
        rw [if_neg (by decide)]
        have S2 : St (sI (sI g 116 16 ((w + 1 : Nat) : Int)) 116 6 8) := St_sI S1 (by omega)
        have F2 : FE h0 (sI (sI g 116 16 ((w + 1 : Nat) : Int)) 116 6 8) := FI_sI F1 rfl
        obtain ⟨e8, u8, x1, x2, x3⟩ := z4 hne
        refine c_take0 (s := 8) (w := 45) (L := L.tail) S2 (by rw [hI_sI, if_pos ⟨rfl, rfl⟩]; rfl) (by rw [hI_sI, if_neg (by omega), hI_sI, if_neg (by omega), z3 (by omega), q2]) ⟨e8, u8, by rw [hI_sI, if_neg (by omega), hI_sI, if_neg (by omega)]; exact x1, Mq_sI (Mq_sI x2 (by omega)) (by omega), x3⟩ (ts := ts) ⟨by rw [hI_sI, if_neg (by omega)]; exact M1.2.1.1, fun j hj => by rw [hI_sI, if_neg (by omega), hI_sI, if_neg (by omega)]; exact M1.2.1.2 j hj⟩ (Ms_len M1 hne) fun h3 f3 l3 n3 => ?_
        have S3 := FI_St f3 S2 rfl
        have F3 : FE h0 h3 := FI_trans F2 (FI_mono f3 (by decide) (by decide) (by decide))
        have M3 : Ms h3 L.tail (ts ++ [(8, 45)]) (w + 1) nb rb := by
          refine ⟨l3, n3, by rw [FI_i f3 rfl, hI_sI, if_neg (by omega)]; exact M1.2.2.1, by rw [FI_i f3 rfl, hI_sI, if_neg (by omega)]; exact M1.2.2.2.1, by rw [FI_i f3 rfl, hI_sI, if_neg (by omega)]; exact M1.2.2.2.2.1, M1.2.2.2.2.2.1, M1.2.2.2.2.2.2.1, ?_⟩
          have := M1.2.2.2.2.2.2.2
          have := (pis_t p5).2.2.2
          rw [List.length_append, List.length_singleton]; omega
        refine ss_X4_readF_222 S3 ?_
        rcases pBnd_some hr1 with ⟨g2, e1, e2⟩ | ⟨e, M, e1, e2⟩
        · subst e2
          refine (ih 4 (w + 1) _ L.tail _ e1 (by omega) h0 h3 _ _ _ _ hS0 F3 (fun h' f1 f2 f3 => ?_) _).2.2.2.2.1 rfl M3 (by omega)
          refine ss_X4_readF_226 (FI_St f1 hS0 rfl) ?_
          refine ⟨Or.inl rfl, hQ _ (FI_sI f1 rfl) ?_ ?_⟩
          · rw [hI_sI, if_neg (by omega)]; exact f2
          · rw [hI_sI, if_neg (by omega)]; exact f3
        · refine (ih 4 (w + 1) _ L.tail _ e1 (by omega) h0 h3 _ _ _ _ hS0 F3 (fun h4 f4 M4 => ?_) _).2.2.2.2.1 rfl M3 (by omega)
          cases e2
          have M4' : Ms h4 M (ts ++ [(8, 45)] ++ zk e) (w + 1) (nb ||| zbits e) (rb ||| zrows e) := M4
          refine ss_X4_readF_226 (FI_St f4 hS0 rfl) ?_
          rw [M4'.2.2.1, ns_eq (by omega) (by omega), show ((w + 1 : Nat) : Int) - 1 = (w : Nat) by omega]
          refine ⟨Or.inr rfl, hQ _ (FI_sI f4 rfl) ?_⟩
          rw [(zk_minus _).1, (zk_minus _).2.1, (zk_minus _).2.2]
          have M5 := Ms_16 M4' w
          rw [List.append_assoc] at M5
          exact M5
      · rw [if_pos w8] at hr1
        cases hr1
        refine MF_to (FI_refl h0) (fun _ q => q) (fun h' fh q => ?_) hQ
        refine ss_X4_readF_207 (FI_St fh hS0 rfl) ?_
        refine ip rfl ?_
        exact q
    | false =>
      rw [p5, if_neg (by decide)] at hr1
      have k239 : Wp (d + 11) C_X4_readF Q 239 [vR (some 116), vU] [] g := by
        refine ss_X4_readF_239 gS ?_
        rw [z2]
        cases p6 : pis 7 40 L with
        | false =>
          rw [p6, if_neg (by decide)] at hr1
          cases hr1
          have k257 : Wp (d + 11) C_X4_readF Q 257 [vR (some 116), vU] [] g := by
            refine ss_X4_readF_257 gS ?_
            exact t_fails gS gF l1 (fun h' f1 f2 f3 => ⟨Or.inl rfl, hQ h' f1 f2 f3⟩)
          by_cases q : psr L = 7
          · rw [if_pos (by omega), z3 (by omega), if_neg (fun z => by rw [(psr_pis (by decide)).mpr ⟨q, by omega⟩] at p6; cases p6)]
            exact k257
          · rw [if_neg (by omega)]; exact k257
        | true =>
          obtain ⟨q1, q2⟩ := (psr_pis (by decide)).mp p6
          have hne := (pis_t p6).1
          rw [p6, if_pos rfl] at hr1
          rw [if_pos (by omega), z3 (by omega), if_pos (by omega)]
          refine c_opens gS gF l1 gM.2.2.1 hw (fun w8 => ?_) (fun w8 => ?_)
          · rw [if_neg w8] at hr1
            have S1 : St (sI g 116 16 ((w + 1 : Nat) : Int)) := St_sI gS (by omega)
            have F1 : FE h0 (sI g 116 16 ((w + 1 : Nat) : Int)) := FI_sI gF rfl
            have M1 := Ms_16 gM (w + 1)
            have L1 := Lz_16 l1 ((w + 1 : Nat) : Int) (j := 16) (by omega)
            refine ss_X4_readF_271 S1 ?_
            rw [if_neg (by decide)]
            refine c_takeL S1 L1 (by omega) M1.2.1 (Ms_len M1 hne) fun h2 f2 l2 n2 => ?_
            have S2 := FI_St f2 S1 rfl
            have F2 : FE h0 h2 := FI_trans F1 (FI_mono f2 (by decide) (by decide) (by decide))
            rw [q1, q2] at n2
            have M2 := Ms_take M1 hne f2 l2 n2
            refine ss_X4_readF_280 S2 ?_
            rcases pBnd_some hr1 with ⟨g2, e1, e2⟩ | ⟨e, M, e1, e2⟩
            · subst e2
              refine (ih 0 (w + 1) _ L.tail _ e1 (by omega) h0 h2 _ _ _ _ hS0 F2 (fun h' f1 f2 f3 => ?_) _).1 rfl M2 (by omega)
              refine ss_X4_readF_284 (FI_St f1 hS0 rfl) ?_
              refine ip rfl ?_
              exact hQ h' f1 f2 f3
            · refine (ih 0 (w + 1) _ L.tail _ e1 (by omega) h0 h2 _ _ _ _ hS0 F2 (fun h3 f3 M3 => ?_) _).1 rfl M2 (by omega)
              have M3' : Ms h3 M (ts ++ [(7, 40)] ++ zk e) (w + 1) (nb ||| zbits e) (rb ||| zrows e) := M3
              have S3 := FI_St f3 hS0 rfl
              have e2' : (if pis 7 60 M || pis 7 61 M then pBnd (pX f 0 (w + 1) (zL 0) M.tail) fun e2 M2 => pex 41 (zB (pw M) e e2) M2 else pex 41 (zB 40 e (zL 0)) M) = some r := e2
              -- the end: a ) behind what stands in the brackets
              have k324 : ∀ (hh : hp) (E : zT) (M2 : List zTk) (tt : List (Nat × Nat)), FE h0 hh → Ms hh M2 (ts ++ tt) (w + 1) (nb ||| zbits E) (rb ||| zrows E) → zk E = tt ++ [(7, 41)] → pex 41 E M2 = some r → Wp (d + 11) C_X4_readF Q 324 [vR (some 116), vU] [] hh := by
                intro hh E M2 tt fh Mh ht hp
                have Sh := FI_St fh hS0 rfl
                refine ss_X4_readF_324 Sh ?_
                rw [Mh.2.2.1, ns_eq (by omega) (by omega), show ((w + 1 : Nat) : Int) - 1 = (w : Nat) by omega]
                have Sk : St (sI hh 116 16 (w : Nat)) := St_sI Sh (by omega)
                have Mk := Ms_16 Mh w
                have hp' : (if pis 7 41 M2 then some (Sum.inr (E, M2.tail)) else pno 1 M2) = some r := hp
                refine c_wants (s := 7) (w := 41) Sk (by decide) Mk.1 Mk.2.1 (Ms_len Mk) (fun p9 h5 f5 l5 n5 => ?_) (fun p9 => ?_)
                · rw [p9, if_pos rfl] at hp'
                  cases hp'
                  refine ⟨Or.inr rfl, hQ h5 (FI_trans (FI_sI fh rfl) (FI_mono f5 (by decide) (by decide) (by decide))) ?_⟩
                  have M5 := Ms_end Mk (pis_t p9).1 f5 rfl rfl rfl l5 n5
                  rw [List.append_assoc, ← ht] at M5
                  exact M5
                · rw [p9, if_neg (by decide)] at hp'
                  cases hp'
                  exact MF_to (FI_sI fh rfl) (by decide) (fun h' _ q => ⟨Or.inl rfl, q⟩) hQ
              have k311 : ∀ hh, FE h0 hh → Lz hh M → Ms hh M (ts ++ [(7, 40)] ++ zk e) (w + 1) (nb ||| zbits e) (rb ||| zrows e) → (pis 7 60 M || pis 7 61 M) = true → Wp (d + 11) C_X4_readF Q 311 [vR (some 116), vU] [] hh := by
                intro hh fh lh Mh hs
                have Sh := FI_St fh hS0 rfl
                rw [if_pos hs] at e2'
                have hk : pw M = 60 ∨ pw M = 61 := by
                  rcases Bool.or_eq_true _ _ ▸ hs with z | z
                  · exact Or.inl (pis_t z).2.2.1
                  · exact Or.inr (pis_t z).2.2.1
                have hp7 : phs 7 M = true := by
                  rcases Bool.or_eq_true _ _ ▸ hs with z | z <;> exact (pis_t z).2.1
                have h7 := (psr_phs (by decide)).mp hp7
                have hMne := (phs_t hp7).1
                refine ss_X4_readF_311 Sh ?_
                refine c_takeL Sh lh (by omega) Mh.2.1 (Ms_len Mh hMne) fun h5 f5 l5 n5 => ?_
                rw [h7] at n5
                have S5 := FI_St f5 Sh rfl
                have F5 : FE h0 h5 := FI_trans fh (FI_mono f5 (by decide) (by decide) (by decide))
                have M5 := Ms_take Mh hMne f5 l5 n5
                refine ss_X4_readF_315 S5 ?_
                rcases pBnd_some e2' with ⟨g2, u1, u2⟩ | ⟨e3, M2, u1, u2⟩
                · subst u2
                  refine (ih 0 (w + 1) _ M.tail _ u1 (by omega) h0 h5 _ _ _ _ hS0 F5 (fun h' f1 f2 f3 => ?_) _).1 rfl M5 (by omega)
                  refine ss_X4_readF_319 (FI_St f1 hS0 rfl) ?_
                  refine ip rfl ?_
                  exact hQ h' f1 f2 f3
                · refine (ih 0 (w + 1) _ M.tail _ u1 (by omega) h0 h5 _ _ _ _ hS0 F5 (fun h6 f6 M6 => ?_) _).1 rfl M5 (by omega)
                  have M6' : Ms h6 M2 (ts ++ [(7, 40)] ++ zk e ++ [(7, pw M)] ++ zk e3) (w + 1) (nb ||| zbits e ||| zbits e3) (rb ||| zrows e ||| zrows e3) := M6
                  refine ss_X4_readF_319 (FI_St f6 hS0 rfl) ?_
                  rw [if_neg (by decide)]
                  refine k324 h6 (zB (pw M) e e3) M2 ([(7, 40)] ++ zk e ++ [(7, pw M)] ++ zk e3) f6 ?_ ?_ u2
                  · rw [(zk_cmp hk).2.1, (zk_cmp hk).2.2, ← Nat.or_assoc, ← Nat.or_assoc]
                    rw [show ts ++ ([(7, 40)] ++ zk e ++ [(7, pw M)] ++ zk e3) = ts ++ [(7, 40)] ++ zk e ++ [(7, pw M)] ++ zk e3 by simp]
                    exact M6'
                  · rw [(zk_cmp hk).1]; simp
              refine ss_X4_readF_284 S3 ?_
              rw [if_neg (by decide)]
              refine c_isM (s := 7) (w := 60) S3 (by decide) M3'.1 fun g0 a0 l0 => ?_
              have S0 := FI_St a0 S3 rfl
              have F0 : FE h0 g0 := FI_trans f3 (FI_mono a0 (by decide) (by decide) (by decide))
              have M0 := Ms_is M3' a0 l0
              refine ss_X4_readF_297 S0 ?_
              cases p7 : pis 7 60 M with
              | true => rw [if_neg (by decide)]; exact k311 g0 F0 l0 M0 (by rw [p7]; rfl)
              | false =>
                refine ip rfl ?_
                refine c_isM (s := 7) (w := 61) S0 (by decide) M0.1 fun g3 a3 l3 => ?_
                have S4 := FI_St a3 S0 rfl
                have F4 : FE h0 g3 := FI_trans F0 (FI_mono a3 (by decide) (by decide) (by decide))
                have M4 := Ms_is M0 a3 l3
                refine ss_X4_readF_308 S4 ?_
                cases p8 : pis 7 61 M with
                | true => rw [if_neg (by decide)]; exact k311 g3 F4 l3 M4 (by rw [p7, p8]; rfl)
                | false =>
                  refine ip rfl ?_
                  rw [p7, p8, if_neg (by decide)] at e2'
                  refine k324 g3 (zB 40 e (zL 0)) M ([(7, 40)] ++ zk e) F4 ?_ ?_ e2'
                  · rw [(zk_paren e).2.1, (zk_paren e).2.2, ← List.append_assoc]
                    exact M4
                  · rw [(zk_paren e).1]; simp
          · rw [if_pos w8] at hr1
            cases hr1
            refine MF_to (FI_refl h0) (fun _ q => q) (fun h' fh q => ?_) hQ
            refine ss_X4_readF_271 (FI_St fh hS0 rfl) ?_
            refine ip rfl ?_
            exact q
      by_cases q : psr L = 7
      · rw [if_pos (by omega), z3 (by omega), if_neg (fun z => by rw [(psr_pis (by decide)).mpr ⟨q, by omega⟩] at p5; cases p5)]
        exact k239
      · rw [if_neg (by omega)]; exact k239
  by_cases q : psr L = 7
  · rw [if_pos (by omega), z3 (by omega), if_neg (fun z => by rw [(psr_pis (by decide)).mpr ⟨q, by omega⟩] at p4; cases p4)]
    exact k185
  · rw [if_neg (by omega)]; exact k185
theorem pmE (f : Nat) : PMs f := by
  induction f with
  | zero => intro m w acc L r hr; cases hr
  | succ f ih =>
    intro m w acc L r hr hw h0 h ts nb rb Q hS0 hF hQ d
    refine ⟨fun e hM hd => ?_, fun e hM hd => ?_, fun e hM hd => ?_, fun e hM hd => ?_, fun e hM hd => ?_, fun e x v1 hx hM hd => ?_⟩ <;> subst e
    · exact pmE0 ih hr hw hS0 hF hQ hM hd
    · exact pmE1 ih hr hw hS0 hF hQ hM hd
    · exact pmE2 ih hr hw hS0 hF hQ hM hd
    · exact pmE3 ih hr hw hS0 hF hQ hM hd
    · exact pmE4 ih hr hw hS0 hF hQ hM hd
    · exact pmE5 ih hr hw hS0 hF hQ hx hM hd
