/-! m: steps with others within -/
theorem qBnd_some {x : Option zRs} {k : zT → List zTk → Nat → Nat → Option zRs} {r : zRs} (h : qBnd x k = some r) : (∃ g, x = some (.inl g) ∧ r = .inl g) ∨ ∃ e M c o, x = some (.inr (e, M, c, o)) ∧ k e M c o = some r := by
  unfold qBnd at h
  split at h
  · cases h
  · rename_i g; cases h; exact Or.inl ⟨g, rfl, rfl⟩
  · rename_i e L c o; exact Or.inr ⟨e, L, c, o, rfl, h⟩
def BM (h0 : hp) (ts : List (Nat × Nat)) (b : Nat) (r : zRs) (Q : qt) : Prop := match r with
  | .inl f => MF h0 mjS f.1 f.2 Q
  | .inr p => ∀ h', FM h0 h' → Mt h' p.2.1 (ts ++ (7, 123) :: (zk p.1 ++ [(7, 125)])) b p.2.2.1 p.2.2.2 → Q (.inl (some (vI 1))) h'
theorem BM_inl {h0 : hp} {ts : List (Nat × Nat)} {b : Nat} {g : Nat × Nat} {Q : qt} (k : MF h0 mjS g.1 g.2 Q) : BM h0 ts b (.inl g) Q := k
def endk (w : Bool) (M : List zTk) : Bool := if w = true then pis 7 125 M else M.isEmpty
def EM (h0 : hp) (ts : List (Nat × Nat)) (b : Nat) (w : Bool) (r : zRs) (Q : qt) : Prop := match r with
  | .inl f => MF h0 mjS f.1 f.2 Q
  | .inr p => (endk w p.2.1 = true → ∀ h', FM h0 h' → Mt h' p.2.1 (ts ++ zk p.1) b p.2.2.1 p.2.2.2 → Q (.inl (some (vI 1))) h') ∧ (endk w p.2.1 = false → MF h0 mjS 1 (pq p.2.1) Q)
def PMS (f : Nat) : Prop := ∀ (m b c o : Nat) (L : List zTk) (r : zRs), pS f m b c o L = some r → b ≤ 5 → Lok L → ∀ (h0 h : hp) (ts : List (Nat × Nat)) (Q : qt), St h0 → FM h0 h → ∀ d,
  (m = 0 → ∀ w : Bool, Mt h L ts b c o → 63 + 4 * (5 - b) ≤ d → EM h0 ts b w r Q → Wp d C_X4_readSteps Q 0 [vR (some 116), vI (bI w)] [] h) ∧
  (m = 1 → pBeg L = true → ∀ (v1 v2 : Int) (v3 v4 v5 v6 v7 : av), v1 = hI h0 116 1 - (pq L : Nat) → M1s h L ts b c o → 61 + 4 * (5 - b) ≤ d → SM h0 ts b r Q → Wp d C_X4_readStep Q 121 [vR (some 116), vI v1, vI v2, v3, v4, v5, v6, v7] [vI (kyv L)] h) ∧
  (m = 2 → Mt h L ts b c o → 61 + 4 * (5 - b) ≤ d → BM h0 ts b r Q → Wc d 135 [vR (some 116)] h Q)
theorem Mt_w {h h' : hp} {M : List zTk} {ts : List (Nat × Nat)} {b c o : Nat} {x : Nat × Nat} (hM : Mt h M ts b c o) (hne : M ≠ []) (f : FI [] [4, 5, 6, 7, 8, 11] [119, 120] h h') (l : Ly h' M.tail) (n : Nt h' (ts ++ [x])) : Mt h' M.tail (ts ++ [x]) b c o := by
  obtain ⟨a1, a2, a3, a4, ⟨nb, a5, a6⟩, rb, a7, a8⟩ := hM
  have hl : M.length = M.tail.length + 1 := by
    cases M with
    | nil => exact absurd rfl hne
    | cons t M => rfl
  refine ⟨l, n, by rw [List.length_append, List.length_singleton]; omega, Mu_FI a4 f rfl rfl rfl rfl rfl (by simp) (by rw [List.length_append, List.length_singleton]; omega), ⟨nb, a5, by rw [FI_i f rfl]; exact a6⟩, rb, a7, by rw [FI_i f rfl]; exact a8⟩
theorem Mt_lt {h : hp} {M : List zTk} {ts : List (Nat × Nat)} {b c o : Nat} (hM : Mt h M ts b c o) (hne : M ≠ []) : ts.length < 1600 := by
  have := hM.2.2.1
  cases M with
  | nil => exact absurd rfl hne
  | cons t M => rw [List.length_cons] at this; omega
theorem Mt_Ms {h : hp} {M : List zTk} {ts : List (Nat × Nat)} {b c o : Nat} (hM : Mt h M ts b c o) : ∃ nb rb, Ms (sI h 116 16 0) M ts 0 nb rb := by
  obtain ⟨⟨p, u, a1, a2, a3⟩, ⟨b1, b2⟩, c1, c2, ⟨nb, c3, c4⟩, rb, c5, c6⟩ := hM
  exact ⟨nb, rb, ⟨p, u, by rw [hI_sI, if_neg (by omega)]; exact a1, Mq_sI a2 (by omega), a3⟩, ⟨by rw [hI_sI, if_neg (by omega)]; exact b1, fun j hj => by rw [hI_sI, if_neg (by omega), hI_sI, if_neg (by omega)]; exact b2 j hj⟩, by rw [hI_sI, if_pos ⟨rfl, rfl⟩]; rfl, by rw [hI_sI, if_neg (by omega)]; exact c4, by rw [hI_sI, if_neg (by omega)]; exact c6, c3, c5, c1⟩
theorem Ms_Mt {h : hp} {M : List zTk} {ts : List (Nat × Nat)} {w nb rb b c o : Nat} (hM : Ms h M ts w nb rb) (hU0 : Mu h ts.length b c o) : Mt h M ts b c o :=
  ⟨hM.1, hM.2.1, hM.2.2.2.2.2.2.2, hU0, ⟨nb, hM.2.2.2.2.2.1, hM.2.2.2.1⟩, rb, hM.2.2.2.2.2.2.1, hM.2.2.2.2.1⟩
theorem rs_if {f d : Nat} (ih : PMS f) {Q : qt} {h0 h : hp} {L : List zTk} {ts : List (Nat × Nat)} {b c o : Nat} {v1 v2 : Int} {v7 : av} {r : zRs} (hS0 : St h0) (hF : FM h0 h) (hk : pw L = 8) (hb : b ≤ 5) (hM : Ms h L.tail (ts ++ [(5, pw L)]) 0 0 0) (hU0 : Mu h (ts ++ [(5, pw L)]).length b c o) (hLk : Lok L) (hv : v1 = hI h0 116 1 - (pq L : Nat)) (hd : 61 + 4 * (5 - b) ≤ d) (hr : (qE (pE L.tail) fun e M => qBnd (pS f 2 b c o M) fun p M1 c1 o1 => qis 5 (pw L + 1) M1 fun M2 => qBnd (pS f 2 b c1 o1 M2) fun p2 M3 c3 o3 => qis 5 (pw L + 2) M3 fun M4 => qE (pE M4) fun e2 M5 => qEnd (pq L) false 3 c3 o3 (if pw L = 8 then zB 108 e (zB 112 p (zB 113 p2 e2)) else zB 111 e (zB 117 p (zB 118 p2 e2))) M5) = some r) (k : SM h0 ts b r Q) : Wp d C_X4_readStep Q 181 [vR (some 116), vI v1, vI v2, vI (pw L : Nat), vI (-1), vI (-1), vI 1, v7] [] h := by
  obtain ⟨d, rfl⟩ : ∃ e, d = e + 8 := ⟨d - 8, by omega⟩
  have hS := FI_St hF hS0 rfl
  have hc := hU0.2.2.1
  have hr1 : (qE (pE L.tail) fun e M => qBnd (pS f 2 b c o M) fun p M1 c1 o1 => qis 5 9 M1 fun M2 => qBnd (pS f 2 b c1 o1 M2) fun p2 M3 c3 o3 => qis 5 10 M3 fun M4 => qE (pE M4) fun e2 M5 => qEnd (pq L) false 3 c3 o3 (zB 108 e (zB 112 p (zB 113 p2 e2))) M5) = some r := by first | exact hr | (rw [hk] at hr; exact hr)
  refine ss_X4_readStep_181 hS (ip (by omega) (im (by omega) (ip (by omega) (ip (by omega) (ip (by omega) (ip (by omega) ?_))))))
  rw [hk] at hM hU0 ⊢
  have T1 := Lok_tl hLk
  refine c_readE hS hM (by omega) ?_
  cases hE : pE L.tail with
  | inl g =>
    rw [hE] at hr1
    cases hr1
    exact RM_inl (MS_to hF (by decide) (fun h' f q => ss_X4_readStep_371 (FI_St f hS0 rfl) (ip rfl (ss_X4_readStep_426 (FI_St f hS0 rfl) (ss_X4_readStep_427 (FI_St f hS0 rfl) (rs_no (FI_St f hS0 rfl) q))))) k)
  | inr pp =>
    obtain ⟨e, M⟩ := pp
    rw [hE] at hr1
    have gE := pE_good T1 hE
    intro h2 f2 M2
    have M2' : Ms h2 M (ts ++ [(5, 8)] ++ zk e) 0 (0 ||| zbits e) (0 ||| zrows e) := M2
    have S2 := FI_St f2 hS rfl
    have F2 : FM h0 h2 := FI_trans hF (FM_FE f2)
    have U2 : Mu h2 (ts ++ [(5, 8)] ++ zk e).length b c o := Mu_FI hU0 f2 rfl rfl rfl rfl rfl (by simp) (by have := M2'.2.2.2.2.2.2.2; omega)
    refine ss_X4_readStep_371 S2 (im (by decide) ?_)
    rcases qBnd_some hr1 with ⟨g, e1, e2⟩ | ⟨p, M1, c1, o1, e1, hr2⟩
    · cases e2
      exact (ih 2 b c o M _ e1 hb gE.1 h0 h2 (ts ++ [(5, 8)] ++ zk e) _ hS0 F2 _).2.2 rfl (Ms_Mt M2' U2) (by omega) (BM_inl (MS_to (FI_refl h0) (by decide) (fun h' f q => ss_X4_readStep_378 (FI_St f hS0 rfl) (ip rfl (ss_X4_readStep_426 (FI_St f hS0 rfl) (ss_X4_readStep_427 (FI_St f hS0 rfl) (rs_no (FI_St f hS0 rfl) q))))) k))
    · have K1 := pS_ok f _ _ _ _ _ _ _ _ _ e1 (by decide) hb hc gE.1 (fun z => absurd z (by decide))
      refine (ih 2 b c o M _ e1 hb gE.1 h0 h2 (ts ++ [(5, 8)] ++ zk e) _ hS0 F2 _).2.2 rfl (Ms_Mt M2' U2) (by omega) ?_
      intro h3 F3 M3
      have M3' : Mt h3 M1 (ts ++ [(5, 8)] ++ zk e ++ (7, 123) :: (zk p ++ [(7, 125)])) b c1 o1 := M3
      have S3 := FI_St F3 hS0 rfl
      refine ss_X4_readStep_378 S3 (im (by decide) ?_)
      have hr3 : (if pis 5 9 M1 = true then _ else _) = some r := hr2
      refine c_wants (s := 5) (w := 9) S3 (by decide) M3'.1 M3'.2.1 (Mt_lt M3') (fun p5 h4 f4 l4 n4 => ?_) (fun p5 => ?_)
      · rw [if_pos p5] at hr3
        have S4 := FI_St f4 S3 rfl
        have F4 : FM h0 h4 := FI_trans F3 (FI_mono f4 (by decide) (by decide) (by decide))
        have M4 := Mt_w M3' (pis_t p5).1 f4 l4 n4
        have T4 := Lok_tl K1.2.1
        refine ss_X4_readStep_388 S4 (im (by decide) ?_)
        rcases qBnd_some hr3 with ⟨g, e1', e2⟩ | ⟨p2, M3, c3, o3, e3, hr4⟩
        · cases e2
          exact (ih 2 b c1 o1 M1.tail _ e1' hb T4 h0 h4 _ _ hS0 F4 _).2.2 rfl M4 (by omega) (BM_inl (MS_to (FI_refl h0) (by decide) (fun h' f q => ss_X4_readStep_395 (FI_St f hS0 rfl) (ip rfl (ss_X4_readStep_426 (FI_St f hS0 rfl) (ss_X4_readStep_427 (FI_St f hS0 rfl) (rs_no (FI_St f hS0 rfl) q))))) k))
        · have K3 := pS_ok f _ _ _ _ _ _ _ _ _ e3 (by decide) hb K1.2.2.2.1 T4 (fun z => absurd z (by decide))
          refine (ih 2 b c1 o1 M1.tail _ e3 hb T4 h0 h4 _ _ hS0 F4 _).2.2 rfl M4 (by omega) ?_
          intro h5 F5 M5
          have M5' : Mt h5 M3 (ts ++ [(5, 8)] ++ zk e ++ (7, 123) :: (zk p ++ [(7, 125)]) ++ [(5, 9)] ++ (7, 123) :: (zk p2 ++ [(7, 125)])) b c3 o3 := M5
          have S5 := FI_St F5 hS0 rfl
          refine ss_X4_readStep_395 S5 (im (by decide) ?_)
          have hr5 : (if pis 5 10 M3 = true then _ else _) = some r := hr4
          refine c_wants (s := 5) (w := 10) S5 (by decide) M5'.1 M5'.2.1 (Mt_lt M5') (fun p6 h6 f6 l6 n6 => ?_) (fun p6 => ?_)
          · rw [if_pos p6] at hr5
            dsimp only at hr5
            have S6 := FI_St f6 S5 rfl
            have F6 : FM h0 h6 := FI_trans F5 (FI_mono f6 (by decide) (by decide) (by decide))
            have M6 := Mt_w M5' (pis_t p6).1 f6 l6 n6
            have T6 := Lok_tl K3.2.1
            refine ss_X4_readStep_405 S6 (im (by decide) ?_)
            refine se_X4_again S6 ?_
            have S7 : St (sI h6 116 16 0) := St_sI S6 (by omega)
            have F7 : FM h0 (sI h6 116 16 0) := FI_sI F6 rfl
            refine ss_X4_readStep_412 S7 (im (by decide) ?_)
            obtain ⟨nb, rb, M7⟩ := Mt_Ms M6
            have U7 := Mu_FI M6.2.2.2.1 (FI_sI (FI_refl h6) rfl : FI [] [16] [] h6 (sI h6 116 16 0)) rfl rfl rfl rfl rfl (Nat.le_refl _) (by have := M6.2.2.1; omega)
            refine c_readE S7 M7 (by omega) ?_
            cases hE2 : pE M3.tail with
            | inl g =>
              rw [hE2] at hr5
              cases hr5
              exact RM_inl (MS_to F7 (by decide) (fun h' f q => ss_X4_readStep_419 (FI_St f hS0 rfl) (ip rfl (ss_X4_readStep_426 (FI_St f hS0 rfl) (ss_X4_readStep_427 (FI_St f hS0 rfl) (rs_no (FI_St f hS0 rfl) q))))) k)
            | inr pp2 =>
              obtain ⟨e2, M8⟩ := pp2
              rw [hE2] at hr5
              intro h8 f8 M8s
              have S8 := FI_St f8 S7 rfl
              have F8 : FM h0 h8 := FI_trans F7 (FM_FE f8)
              have M8' : Ms h8 M8 (ts ++ [(5, 8)] ++ zk e ++ (7, 123) :: (zk p ++ [(7, 125)]) ++ [(5, 9)] ++ (7, 123) :: (zk p2 ++ [(7, 125)]) ++ [(5, 10)] ++ zk e2) 0 (nb ||| zbits e2) (rb ||| zrows e2) := M8s
              have U8 : Mu h8 (ts ++ [(5, 8)] ++ zk e ++ (7, 123) :: (zk p ++ [(7, 125)]) ++ [(5, 9)] ++ (7, 123) :: (zk p2 ++ [(7, 125)]) ++ [(5, 10)] ++ zk e2).length b c3 o3 := Mu_FI U7 f8 rfl rfl rfl rfl rfl (by simp) (by have := M8'.2.2.2.2.2.2.2; omega)
              refine ss_X4_readStep_419 S8 (im (by decide) ?_)
              refine ss_X4_readStep_427 S8 ?_
              have M9 : Mt h8 M8 (ts ++ ((5, 8) :: (zk e ++ (7, 123) :: (zk p ++ (7, 125) :: (5, 9) :: (7, 123) :: (zk p2 ++ (7, 125) :: (5, 10) :: zk e2))))) b c3 o3 := by simpa using Ms_Mt M8' U8
              obtain ⟨l9, n9, ln9, U9, ⟨nb9, b1, b2⟩, rb9, b3, b4⟩ := M9
              refine rs_end (q := pq L) (more := 3) (self := false) (s := zB 108 e (zB 112 p (zB 113 p2 e2))) hS0 F8 l9 n9 ln9 U9 hv b1 b2 b3 b4 (Or.inl ⟨rfl, rfl, rfl⟩) (by decide) hr5 ?_ k
              simp [zk]
          · rw [if_neg (by rw [p6]; decide)] at hr5
            cases hr5
            exact MS_to F5 (by decide) (fun h' f q => ss_X4_readStep_405 (FI_St f hS0 rfl) (ip rfl (ss_X4_readStep_426 (FI_St f hS0 rfl) (ss_X4_readStep_427 (FI_St f hS0 rfl) (rs_no (FI_St f hS0 rfl) q))))) k
      · rw [if_neg (by rw [p5]; decide)] at hr3
        cases hr3
        exact MS_to F3 (by decide) (fun h' f q => ss_X4_readStep_388 (FI_St f hS0 rfl) (ip rfl (ss_X4_readStep_426 (FI_St f hS0 rfl) (ss_X4_readStep_427 (FI_St f hS0 rfl) (rs_no (FI_St f hS0 rfl) q))))) k
theorem rs_from {f d : Nat} (ih : PMS f) {Q : qt} {h0 h : hp} {L : List zTk} {ts : List (Nat × Nat)} {b c o : Nat} {v1 v2 : Int} {v7 : av} {r : zRs} (hS0 : St h0) (hF : FM h0 h) (hk : pw L = 11) (hb : b ≤ 5) (hM : Ms h L.tail (ts ++ [(5, pw L)]) 0 0 0) (hU0 : Mu h (ts ++ [(5, pw L)]).length b c o) (hLk : Lok L) (hv : v1 = hI h0 116 1 - (pq L : Nat)) (hd : 61 + 4 * (5 - b) ≤ d) (hr : (qE (pE L.tail) fun e M => qBnd (pS f 2 b c o M) fun p M1 c1 o1 => qis 5 (pw L + 1) M1 fun M2 => qBnd (pS f 2 b c1 o1 M2) fun p2 M3 c3 o3 => qis 5 (pw L + 2) M3 fun M4 => qE (pE M4) fun e2 M5 => qEnd (pq L) false 3 c3 o3 (if pw L = 8 then zB 108 e (zB 112 p (zB 113 p2 e2)) else zB 111 e (zB 117 p (zB 118 p2 e2))) M5) = some r) (k : SM h0 ts b r Q) : Wp d C_X4_readStep Q 181 [vR (some 116), vI v1, vI v2, vI (pw L : Nat), vI (-1), vI (-1), vI 1, v7] [] h := by
  obtain ⟨d, rfl⟩ : ∃ e, d = e + 8 := ⟨d - 8, by omega⟩
  have hS := FI_St hF hS0 rfl
  have hc := hU0.2.2.1
  have hr1 : (qE (pE L.tail) fun e M => qBnd (pS f 2 b c o M) fun p M1 c1 o1 => qis 5 12 M1 fun M2 => qBnd (pS f 2 b c1 o1 M2) fun p2 M3 c3 o3 => qis 5 13 M3 fun M4 => qE (pE M4) fun e2 M5 => qEnd (pq L) false 3 c3 o3 (zB 111 e (zB 117 p (zB 118 p2 e2))) M5) = some r := by first | exact hr | (rw [hk] at hr; exact hr)
  refine ss_X4_readStep_181 hS (ip (by omega) (im (by omega) (ip (by omega) (ip (by omega) (ip (by omega) (im (by omega) (ip (by omega) ?_)))))))
  rw [hk] at hM hU0 ⊢
  have T1 := Lok_tl hLk
  refine c_readE hS hM (by omega) ?_
  cases hE : pE L.tail with
  | inl g =>
    rw [hE] at hr1
    cases hr1
    exact RM_inl (MS_to hF (by decide) (fun h' f q => ss_X4_readStep_445 (FI_St f hS0 rfl) (ip rfl (ss_X4_readStep_500 (FI_St f hS0 rfl) (ss_X4_readStep_501 (FI_St f hS0 rfl) (rs_no (FI_St f hS0 rfl) q))))) k)
  | inr pp =>
    obtain ⟨e, M⟩ := pp
    rw [hE] at hr1
    have gE := pE_good T1 hE
    intro h2 f2 M2
    have M2' : Ms h2 M (ts ++ [(5, 11)] ++ zk e) 0 (0 ||| zbits e) (0 ||| zrows e) := M2
    have S2 := FI_St f2 hS rfl
    have F2 : FM h0 h2 := FI_trans hF (FM_FE f2)
    have U2 : Mu h2 (ts ++ [(5, 11)] ++ zk e).length b c o := Mu_FI hU0 f2 rfl rfl rfl rfl rfl (by simp) (by have := M2'.2.2.2.2.2.2.2; omega)
    refine ss_X4_readStep_445 S2 (im (by decide) ?_)
    rcases qBnd_some hr1 with ⟨g, e1, e2⟩ | ⟨p, M1, c1, o1, e1, hr2⟩
    · cases e2
      exact (ih 2 b c o M _ e1 hb gE.1 h0 h2 (ts ++ [(5, 11)] ++ zk e) _ hS0 F2 _).2.2 rfl (Ms_Mt M2' U2) (by omega) (BM_inl (MS_to (FI_refl h0) (by decide) (fun h' f q => ss_X4_readStep_452 (FI_St f hS0 rfl) (ip rfl (ss_X4_readStep_500 (FI_St f hS0 rfl) (ss_X4_readStep_501 (FI_St f hS0 rfl) (rs_no (FI_St f hS0 rfl) q))))) k))
    · have K1 := pS_ok f _ _ _ _ _ _ _ _ _ e1 (by decide) hb hc gE.1 (fun z => absurd z (by decide))
      refine (ih 2 b c o M _ e1 hb gE.1 h0 h2 (ts ++ [(5, 11)] ++ zk e) _ hS0 F2 _).2.2 rfl (Ms_Mt M2' U2) (by omega) ?_
      intro h3 F3 M3
      have M3' : Mt h3 M1 (ts ++ [(5, 11)] ++ zk e ++ (7, 123) :: (zk p ++ [(7, 125)])) b c1 o1 := M3
      have S3 := FI_St F3 hS0 rfl
      refine ss_X4_readStep_452 S3 (im (by decide) ?_)
      have hr3 : (if pis 5 12 M1 = true then _ else _) = some r := hr2
      refine c_wants (s := 5) (w := 12) S3 (by decide) M3'.1 M3'.2.1 (Mt_lt M3') (fun p5 h4 f4 l4 n4 => ?_) (fun p5 => ?_)
      · rw [if_pos p5] at hr3
        have S4 := FI_St f4 S3 rfl
        have F4 : FM h0 h4 := FI_trans F3 (FI_mono f4 (by decide) (by decide) (by decide))
        have M4 := Mt_w M3' (pis_t p5).1 f4 l4 n4
        have T4 := Lok_tl K1.2.1
        refine ss_X4_readStep_462 S4 (im (by decide) ?_)
        rcases qBnd_some hr3 with ⟨g, e1', e2⟩ | ⟨p2, M3, c3, o3, e3, hr4⟩
        · cases e2
          exact (ih 2 b c1 o1 M1.tail _ e1' hb T4 h0 h4 _ _ hS0 F4 _).2.2 rfl M4 (by omega) (BM_inl (MS_to (FI_refl h0) (by decide) (fun h' f q => ss_X4_readStep_469 (FI_St f hS0 rfl) (ip rfl (ss_X4_readStep_500 (FI_St f hS0 rfl) (ss_X4_readStep_501 (FI_St f hS0 rfl) (rs_no (FI_St f hS0 rfl) q))))) k))
        · have K3 := pS_ok f _ _ _ _ _ _ _ _ _ e3 (by decide) hb K1.2.2.2.1 T4 (fun z => absurd z (by decide))
          refine (ih 2 b c1 o1 M1.tail _ e3 hb T4 h0 h4 _ _ hS0 F4 _).2.2 rfl M4 (by omega) ?_
          intro h5 F5 M5
          have M5' : Mt h5 M3 (ts ++ [(5, 11)] ++ zk e ++ (7, 123) :: (zk p ++ [(7, 125)]) ++ [(5, 12)] ++ (7, 123) :: (zk p2 ++ [(7, 125)])) b c3 o3 := M5
          have S5 := FI_St F5 hS0 rfl
          refine ss_X4_readStep_469 S5 (im (by decide) ?_)
          have hr5 : (if pis 5 13 M3 = true then _ else _) = some r := hr4
          refine c_wants (s := 5) (w := 13) S5 (by decide) M5'.1 M5'.2.1 (Mt_lt M5') (fun p6 h6 f6 l6 n6 => ?_) (fun p6 => ?_)
          · rw [if_pos p6] at hr5
            dsimp only at hr5
            have S6 := FI_St f6 S5 rfl
            have F6 : FM h0 h6 := FI_trans F5 (FI_mono f6 (by decide) (by decide) (by decide))
            have M6 := Mt_w M5' (pis_t p6).1 f6 l6 n6
            have T6 := Lok_tl K3.2.1
            refine ss_X4_readStep_479 S6 (im (by decide) ?_)
            refine se_X4_again S6 ?_
            have S7 : St (sI h6 116 16 0) := St_sI S6 (by omega)
            have F7 : FM h0 (sI h6 116 16 0) := FI_sI F6 rfl
            refine ss_X4_readStep_486 S7 (im (by decide) ?_)
            obtain ⟨nb, rb, M7⟩ := Mt_Ms M6
            have U7 := Mu_FI M6.2.2.2.1 (FI_sI (FI_refl h6) rfl : FI [] [16] [] h6 (sI h6 116 16 0)) rfl rfl rfl rfl rfl (Nat.le_refl _) (by have := M6.2.2.1; omega)
            refine c_readE S7 M7 (by omega) ?_
            cases hE2 : pE M3.tail with
            | inl g =>
              rw [hE2] at hr5
              cases hr5
              exact RM_inl (MS_to F7 (by decide) (fun h' f q => ss_X4_readStep_493 (FI_St f hS0 rfl) (ip rfl (ss_X4_readStep_500 (FI_St f hS0 rfl) (ss_X4_readStep_501 (FI_St f hS0 rfl) (rs_no (FI_St f hS0 rfl) q))))) k)
            | inr pp2 =>
              obtain ⟨e2, M8⟩ := pp2
              rw [hE2] at hr5
              intro h8 f8 M8s
              have S8 := FI_St f8 S7 rfl
              have F8 : FM h0 h8 := FI_trans F7 (FM_FE f8)
              have M8' : Ms h8 M8 (ts ++ [(5, 11)] ++ zk e ++ (7, 123) :: (zk p ++ [(7, 125)]) ++ [(5, 12)] ++ (7, 123) :: (zk p2 ++ [(7, 125)]) ++ [(5, 13)] ++ zk e2) 0 (nb ||| zbits e2) (rb ||| zrows e2) := M8s
              have U8 : Mu h8 (ts ++ [(5, 11)] ++ zk e ++ (7, 123) :: (zk p ++ [(7, 125)]) ++ [(5, 12)] ++ (7, 123) :: (zk p2 ++ [(7, 125)]) ++ [(5, 13)] ++ zk e2).length b c3 o3 := Mu_FI U7 f8 rfl rfl rfl rfl rfl (by simp) (by have := M8'.2.2.2.2.2.2.2; omega)
              refine ss_X4_readStep_493 S8 (im (by decide) ?_)
              refine ss_X4_readStep_501 S8 ?_
              have M9 : Mt h8 M8 (ts ++ ((5, 11) :: (zk e ++ (7, 123) :: (zk p ++ (7, 125) :: (5, 12) :: (7, 123) :: (zk p2 ++ (7, 125) :: (5, 13) :: zk e2))))) b c3 o3 := by simpa using Ms_Mt M8' U8
              obtain ⟨l9, n9, ln9, U9, ⟨nb9, b1, b2⟩, rb9, b3, b4⟩ := M9
              refine rs_end (q := pq L) (more := 3) (self := false) (s := zB 111 e (zB 117 p (zB 118 p2 e2))) hS0 F8 l9 n9 ln9 U9 hv b1 b2 b3 b4 (Or.inl ⟨rfl, rfl, rfl⟩) (by decide) hr5 ?_ k
              simp [zk]
          · rw [if_neg (by rw [p6]; decide)] at hr5
            cases hr5
            exact MS_to F5 (by decide) (fun h' f q => ss_X4_readStep_479 (FI_St f hS0 rfl) (ip rfl (ss_X4_readStep_500 (FI_St f hS0 rfl) (ss_X4_readStep_501 (FI_St f hS0 rfl) (rs_no (FI_St f hS0 rfl) q))))) k
      · rw [if_neg (by rw [p5]; decide)] at hr3
        cases hr3
        exact MS_to F3 (by decide) (fun h' f q => ss_X4_readStep_462 (FI_St f hS0 rfl) (ip rfl (ss_X4_readStep_500 (FI_St f hS0 rfl) (ss_X4_readStep_501 (FI_St f hS0 rfl) (rs_no (FI_St f hS0 rfl) q))))) k
theorem rs_while {f d : Nat} (ih : PMS f) {Q : qt} {h0 h : hp} {L : List zTk} {ts : List (Nat × Nat)} {b c o : Nat} {v1 v2 : Int} {v7 : av} {r : zRs} (hS0 : St h0) (hF : FM h0 h) (hk : pw L = 15) (hb : b ≤ 5) (hM : Ms h L.tail (ts ++ [(5, pw L)]) 0 0 0) (hU0 : Mu h (ts ++ [(5, pw L)]).length b c o) (hLk : Lok L) (hv : v1 = hI h0 116 1 - (pq L : Nat)) (hd : 61 + 4 * (5 - b) ≤ d) (hr : (qE (pE L.tail) fun e M => qBnd (pS f 2 b c o M) fun p M1 c1 o1 => qEnd (pq L) false 2 c1 o1 (zB 115 e p) M1) = some r) (k : SM h0 ts b r Q) : Wp d C_X4_readStep Q 181 [vR (some 116), vI v1, vI v2, vI (pw L : Nat), vI (-1), vI (-1), vI 1, v7] [] h := by
  obtain ⟨d, rfl⟩ : ∃ e, d = e + 8 := ⟨d - 8, by omega⟩
  have hS := FI_St hF hS0 rfl
  have hc := hU0.2.2.1
  have hr1 : (qE (pE L.tail) fun e M => qBnd (pS f 2 b c o M) fun p M1 c1 o1 => qEnd (pq L) false 2 c1 o1 (zB 115 e p) M1) = some r := by first | exact hr | (rw [hk] at hr; exact hr)
  refine ss_X4_readStep_181 hS (ip (by omega) (im (by omega) (ip (by omega) (ip (by omega) (ip (by omega) (im (by omega) (im (by omega) (ip (by omega) ?_))))))))
  rw [hk] at hM hU0 ⊢
  have T1 := Lok_tl hLk
  refine c_readE hS hM (by omega) ?_
  cases hE : pE L.tail with
  | inl g =>
    rw [hE] at hr1
    cases hr1
    exact RM_inl (MS_to hF (by decide) (fun h' f q => ss_X4_readStep_519 (FI_St f hS0 rfl) (ip rfl (ss_X4_readStep_533 (FI_St f hS0 rfl) (ss_X4_readStep_534 (FI_St f hS0 rfl) (rs_no (FI_St f hS0 rfl) q))))) k)
  | inr pp =>
    obtain ⟨e, M⟩ := pp
    rw [hE] at hr1
    have gE := pE_good T1 hE
    intro h2 f2 M2
    have M2' : Ms h2 M (ts ++ [(5, 15)] ++ zk e) 0 (0 ||| zbits e) (0 ||| zrows e) := M2
    have S2 := FI_St f2 hS rfl
    have F2 : FM h0 h2 := FI_trans hF (FM_FE f2)
    have U2 : Mu h2 (ts ++ [(5, 15)] ++ zk e).length b c o := Mu_FI hU0 f2 rfl rfl rfl rfl rfl (by simp) (by have := M2'.2.2.2.2.2.2.2; omega)
    refine ss_X4_readStep_519 S2 (im (by decide) ?_)
    rcases qBnd_some hr1 with ⟨g, e1, e2⟩ | ⟨p, M1, c1, o1, e1, hr2⟩
    · cases e2
      exact (ih 2 b c o M _ e1 hb gE.1 h0 h2 (ts ++ [(5, 15)] ++ zk e) _ hS0 F2 _).2.2 rfl (Ms_Mt M2' U2) (by omega) (BM_inl (MS_to (FI_refl h0) (by decide) (fun h' f q => ss_X4_readStep_526 (FI_St f hS0 rfl) (ip rfl (ss_X4_readStep_533 (FI_St f hS0 rfl) (ss_X4_readStep_534 (FI_St f hS0 rfl) (rs_no (FI_St f hS0 rfl) q))))) k))
    · have K1 := pS_ok f _ _ _ _ _ _ _ _ _ e1 (by decide) hb hc gE.1 (fun z => absurd z (by decide))
      refine (ih 2 b c o M _ e1 hb gE.1 h0 h2 (ts ++ [(5, 15)] ++ zk e) _ hS0 F2 _).2.2 rfl (Ms_Mt M2' U2) (by omega) ?_
      intro h3 F3 M3
      have M3' : Mt h3 M1 (ts ++ [(5, 15)] ++ zk e ++ (7, 123) :: (zk p ++ [(7, 125)])) b c1 o1 := M3
      have S3 := FI_St F3 hS0 rfl
      refine ss_X4_readStep_526 S3 (im (by decide) ?_)
      refine ss_X4_readStep_534 S3 ?_
      have M4 : Mt h3 M1 (ts ++ ((5, 15) :: (zk e ++ (7, 123) :: (zk p ++ [(7, 125)])))) b c1 o1 := by simpa using M3'
      obtain ⟨l4, n4, ln4, U4, ⟨nb, b1, b2⟩, rb, b3, b4⟩ := M4
      refine rs_end (q := pq L) (more := 2) (self := false) (s := zB 115 e p) hS0 F3 l4 n4 ln4 U4 hv b1 b2 b3 b4 (Or.inl ⟨rfl, rfl, rfl⟩) (by decide) hr2 ?_ k
      simp [zk]
theorem rs_when {f d : Nat} (ih : PMS f) {Q : qt} {h0 h : hp} {L : List zTk} {ts : List (Nat × Nat)} {b c o : Nat} {v1 v2 : Int} {v7 : av} {r : zRs} (hS0 : St h0) (hF : FM h0 h) (hk : pw L = 16) (hb : b ≤ 5) (hM : Ms h L.tail (ts ++ [(5, pw L)]) 0 0 0) (hU0 : Mu h (ts ++ [(5, pw L)]).length b c o) (hLk : Lok L) (hv : v1 = hI h0 116 1 - (pq L : Nat)) (hd : 61 + 4 * (5 - b) ≤ d) (hr : (qE (pE L.tail) fun e M => qBnd (pS f 2 b c o M) fun p M1 c1 o1 => qis 5 9 M1 fun M2 => qBnd (pS f 2 b c1 o1 M2) fun p2 M3 c3 o3 => qEnd (pq L) false 3 c3 o3 (zB 116 e (zB 119 p p2)) M3) = some r) (k : SM h0 ts b r Q) : Wp d C_X4_readStep Q 181 [vR (some 116), vI v1, vI v2, vI (pw L : Nat), vI (-1), vI (-1), vI 1, v7] [] h := by
  obtain ⟨d, rfl⟩ : ∃ e, d = e + 8 := ⟨d - 8, by omega⟩
  have hS := FI_St hF hS0 rfl
  have hc := hU0.2.2.1
  have hr1 : (qE (pE L.tail) fun e M => qBnd (pS f 2 b c o M) fun p M1 c1 o1 => qis 5 9 M1 fun M2 => qBnd (pS f 2 b c1 o1 M2) fun p2 M3 c3 o3 => qEnd (pq L) false 3 c3 o3 (zB 116 e (zB 119 p p2)) M3) = some r := by first | exact hr | (rw [hk] at hr; exact hr)
  refine ss_X4_readStep_181 hS (ip (by omega) (im (by omega) (ip (by omega) (ip (by omega) (ip (by omega) (im (by omega) (im (by omega) (im (by omega) ?_))))))))
  rw [hk] at hM hU0 ⊢
  have T1 := Lok_tl hLk
  refine c_readE hS hM (by omega) ?_
  cases hE : pE L.tail with
  | inl g =>
    rw [hE] at hr1
    cases hr1
    exact RM_inl (MS_to hF (by decide) (fun h' f q => ss_X4_readStep_546 (FI_St f hS0 rfl) (ip rfl (ss_X4_readStep_577 (FI_St f hS0 rfl) (ss_X4_readStep_578 (FI_St f hS0 rfl) (rs_no (FI_St f hS0 rfl) q))))) k)
  | inr pp =>
    obtain ⟨e, M⟩ := pp
    rw [hE] at hr1
    have gE := pE_good T1 hE
    intro h2 f2 M2
    have M2' : Ms h2 M (ts ++ [(5, 16)] ++ zk e) 0 (0 ||| zbits e) (0 ||| zrows e) := M2
    have S2 := FI_St f2 hS rfl
    have F2 : FM h0 h2 := FI_trans hF (FM_FE f2)
    have U2 : Mu h2 (ts ++ [(5, 16)] ++ zk e).length b c o := Mu_FI hU0 f2 rfl rfl rfl rfl rfl (by simp) (by have := M2'.2.2.2.2.2.2.2; omega)
    refine ss_X4_readStep_546 S2 (im (by decide) ?_)
    rcases qBnd_some hr1 with ⟨g, e1, e2⟩ | ⟨p, M1, c1, o1, e1, hr2⟩
    · cases e2
      exact (ih 2 b c o M _ e1 hb gE.1 h0 h2 (ts ++ [(5, 16)] ++ zk e) _ hS0 F2 _).2.2 rfl (Ms_Mt M2' U2) (by omega) (BM_inl (MS_to (FI_refl h0) (by decide) (fun h' f q => ss_X4_readStep_553 (FI_St f hS0 rfl) (ip rfl (ss_X4_readStep_577 (FI_St f hS0 rfl) (ss_X4_readStep_578 (FI_St f hS0 rfl) (rs_no (FI_St f hS0 rfl) q))))) k))
    · have K1 := pS_ok f _ _ _ _ _ _ _ _ _ e1 (by decide) hb hc gE.1 (fun z => absurd z (by decide))
      refine (ih 2 b c o M _ e1 hb gE.1 h0 h2 (ts ++ [(5, 16)] ++ zk e) _ hS0 F2 _).2.2 rfl (Ms_Mt M2' U2) (by omega) ?_
      intro h3 F3 M3
      have M3' : Mt h3 M1 (ts ++ [(5, 16)] ++ zk e ++ (7, 123) :: (zk p ++ [(7, 125)])) b c1 o1 := M3
      have S3 := FI_St F3 hS0 rfl
      refine ss_X4_readStep_553 S3 (im (by decide) ?_)
      have hr3 : (if pis 5 9 M1 = true then _ else _) = some r := hr2
      refine c_wants (s := 5) (w := 9) S3 (by decide) M3'.1 M3'.2.1 (Mt_lt M3') (fun p5 h4 f4 l4 n4 => ?_) (fun p5 => ?_)
      · rw [if_pos p5] at hr3
        have S4 := FI_St f4 S3 rfl
        have F4 : FM h0 h4 := FI_trans F3 (FI_mono f4 (by decide) (by decide) (by decide))
        have M4 := Mt_w M3' (pis_t p5).1 f4 l4 n4
        have T4 := Lok_tl K1.2.1
        refine ss_X4_readStep_563 S4 (im (by decide) ?_)
        rcases qBnd_some hr3 with ⟨g, e1', e2⟩ | ⟨p2, M3, c3, o3, e3, hr4⟩
        · cases e2
          exact (ih 2 b c1 o1 M1.tail _ e1' hb T4 h0 h4 _ _ hS0 F4 _).2.2 rfl M4 (by omega) (BM_inl (MS_to (FI_refl h0) (by decide) (fun h' f q => ss_X4_readStep_570 (FI_St f hS0 rfl) (ip rfl (ss_X4_readStep_577 (FI_St f hS0 rfl) (ss_X4_readStep_578 (FI_St f hS0 rfl) (rs_no (FI_St f hS0 rfl) q))))) k))
        · have K3 := pS_ok f _ _ _ _ _ _ _ _ _ e3 (by decide) hb K1.2.2.2.1 T4 (fun z => absurd z (by decide))
          refine (ih 2 b c1 o1 M1.tail _ e3 hb T4 h0 h4 _ _ hS0 F4 _).2.2 rfl M4 (by omega) ?_
          intro h5 F5 M5
          have M5' : Mt h5 M3 (ts ++ [(5, 16)] ++ zk e ++ (7, 123) :: (zk p ++ [(7, 125)]) ++ [(5, 9)] ++ (7, 123) :: (zk p2 ++ [(7, 125)])) b c3 o3 := M5
          have S5 := FI_St F5 hS0 rfl
          refine ss_X4_readStep_570 S5 (im (by decide) ?_)
          refine ss_X4_readStep_578 S5 ?_
          have M6 : Mt h5 M3 (ts ++ ((5, 16) :: (zk e ++ (7, 123) :: (zk p ++ (7, 125) :: (5, 9) :: (7, 123) :: (zk p2 ++ [(7, 125)]))))) b c3 o3 := by simpa using M5'
          obtain ⟨l6, n6, ln6, U6, ⟨nb, b1, b2⟩, rb, b3, b4⟩ := M6
          refine rs_end (q := pq L) (more := 3) (self := false) (s := zB 116 e (zB 119 p p2)) hS0 F5 l6 n6 ln6 U6 hv b1 b2 b3 b4 (Or.inl ⟨rfl, rfl, rfl⟩) (by decide) hr4 ?_ k
          simp [zk]
      · rw [if_neg (by rw [p5]; decide)] at hr3
        cases hr3
        exact MS_to F3 (by decide) (fun h' f q => ss_X4_readStep_563 (FI_St f hS0 rfl) (ip rfl (ss_X4_readStep_577 (FI_St f hS0 rfl) (ss_X4_readStep_578 (FI_St f hS0 rfl) (rs_no (FI_St f hS0 rfl) q))))) k
