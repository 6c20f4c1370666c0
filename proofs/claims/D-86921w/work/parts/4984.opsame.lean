/-! same -/
def pSm (a j : Nat) : Prop := a = 83 ∨ a = 84 ∨ (a = 68 ∧ (j = 35 ∨ j = 36))
theorem xs_loop {d : Nat} {Q : qt} {h : hp} {P1 P2 : List Int} {v1 v2 v3 : Int} (hS : St h) (e : P1.length = P2.length) (h6 : P1.length ≤ 6000) (t3 : Tx h 83 0 P2) (t4 : Tx h 84 0 P1) (k : Q (.inl (some (vI (if P1 = P2 then 1 else 0)))) h) : ∀ (n i : Nat), i + n = P1.length → (∀ j (h1 : j < P1.length) (h2 : j < P2.length), j < i → P1[j] = P2[j]) → Wp d C_X0_same Q 89 [vR (some 68), vI v1, vI v2, vI v3, vI (P1.length : Nat), vI 1, vI (i : Nat)] [] h := by
  intro n
  induction n with
  | zero =>
    intro i ei z
    have ep : P1 = P2 := List.ext_getElem e (fun j h1 h2 => z j h1 h2 (by omega))
    rw [if_pos ep] at k
    exact ss_X0_same_89 hS (im (by decide) (im (by omega) (im (by decide) k)))
  | succ n ih =>
    intro i ei z
    have i1 : i < P1.length := by omega
    have i2 : i < P2.length := by omega
    have g3 := Tx_get i i2 t3
    have g4 := Tx_get i i1 t4
    rw [Nat.zero_add] at g3 g4
    refine ss_X0_same_89 hS (im (by decide) (ip (by omega) ⟨by omega, by omega, ?_⟩))
    rw [Int.toNat_natCast, g3, g4, n1k (by omega)]
    by_cases q : P2[i] = P1[i]
    · refine ip q (ih (i + 1) (by omega) (fun j h1 h2 hj => ?_))
      by_cases y : j = i
      · subst y; exact q.symm
      · exact z j h1 h2 (by omega)
    · refine im q (ss_X0_same_89 hS (ip rfl (ip rfl ?_)))
      have ne : P1 ≠ P2 := fun w => q (by subst w; rfl)
      rw [if_neg ne] at k
      exact k
theorem ms_loop {d r r2 : Nat} {Q : qt} {h : hp} {A B : List (Nat × Nat)} (hS : St h) (hr : r < 10) (hr2 : r2 < 10) (KA : RK h r A) (KB : RK h r2 B) (k : Q (.inl (some (vI (if A = B then 1 else 0)))) h) (e : A.length = B.length) : ∀ (n i : Nat), i + n = A.length → (∀ j (h1 : j < A.length) (h2 : j < B.length), j < i → A[j] = B[j]) → Wp d C_X4_same Q 61 [vR (some 116), vI (r : Nat), vI (r2 : Nat), vI 1, vI (i : Nat)] [] h := by
  intro n
  induction n with
  | zero =>
    intro i ei z
    have ep : A = B := List.ext_getElem e (fun j h1 h2 => z j h1 h2 (by omega))
    rw [if_pos ep] at k
    refine ss_X4_same_61 hS ⟨by omega, ?_⟩
    rw [Int.toNat_natCast, KA.2.1]
    exact im (by omega) (im (by decide) k)
  | succ n ih =>
    intro i ei z
    have i1 : i < A.length := by omega
    have i2 : i < B.length := by omega
    have l1 := KA.1
    have r0 : (0 : Int) ≤ ((r : Nat) : Int) ∧ ((r : Nat) : Int) < 10 := by omega
    have li : ((i : Nat) : Int) < ((A.length : Nat) : Int) := by omega
    have ni := n1k (k := i) (by omega)
    have no : A[i] ≠ B[i] → Q (.inl (some (vI 0))) h := fun q => by
      have ne : A ≠ B := fun w => q (by subst w; rfl)
      rw [if_neg ne] at k
      exact k
    have stop : A[i] ≠ B[i] → Wp d C_X4_same Q 61 [vR (some 116), vI (r : Nat), vI (r2 : Nat), vI 0, vI ((i + 1 : Nat) : Int)] [] h := fun q => by
      refine ss_X4_same_61 hS ⟨by omega, ?_⟩
      rw [Int.toNat_natCast, KA.2.1]
      by_cases c : ((i + 1 : Nat) : Int) < ((A.length : Nat) : Int)
      · exact ip c (ip rfl (ip rfl (no q)))
      · exact im c (ip rfl (no q))
    obtain ⟨t1, t2, t3, t4⟩ := tk_at hr KA (show A[i]? = some A[i] by rw [List.getElem?_eq_getElem i1])
    obtain ⟨u1, u2, u3, u4⟩ := tk_at hr2 KB (show B[i]? = some B[i] by rw [List.getElem?_eq_getElem i2])
    have n1 := r16 hr t4
    have n2 := r16 hr2 t4
    refine ss_X4_same_61 hS ⟨r0, ?_⟩
    rw [Int.toNat_natCast, KA.2.1, t1, u1, Int.toNat_natCast, Int.toNat_natCast, t2, u2, t3, u3, ni]
    clear t1 u1 ni
    refine ip li (im (by decide) ⟨n1, n2, ?_⟩)
    by_cases q1 : ((A[i].1 : Nat) : Int) = ((B[i].1 : Nat) : Int)
    · refine ip q1 ⟨n1, n2, ?_⟩
      by_cases q2 : ((A[i].2 : Nat) : Int) = ((B[i].2 : Nat) : Int)
      · refine ip q2 (ih (i + 1) (by omega) (fun j h1 h2 hj => ?_))
        by_cases y : j = i
        · subst y
          exact Prod.ext (by omega) (by omega)
        · exact z j h1 h2 (by omega)
      · exact im q2 (stop (fun w => q2 (by rw [w])))
    · exact im q1 (stop (fun w => q1 (by rw [w])))

theorem op_same {n : Nat} {h : hp} {a b : Int} (I : IN n h) : Pair 55 153 [vR (some 68), vI a, vI b] [vR (some 116), vI a, vI b] n h := by
  obtain ⟨⟨R, σ, K, w, T, F, O, L⟩, hS, x, m, g, u⟩ := I
  have rI : RIs h R := RIs_of x.1 m.1 g.1
  by_cases hb : 0 ≤ b ∧ b ≤ 9
  · obtain ⟨r2, rfl⟩ : ∃ r : Nat, b = (r : Nat) := ⟨b.toNat, by omega⟩
    have hr2 : r2 < 10 := by omega
    have x16 : ∀ (d : Nat) (Q : qt), Wp (d + 1999) C_X0_same Q 16 [vR (some 68), vI a, vI (r2 : Nat), vU, vU, vU, vU] [vI (lackV R a)] h → Wc (d + 2000) 55 [vR (some 68), vI a, vI (r2 : Nat)] h Q := by
      intro d Q k
      refine se_X0_same hS (pu_isRoutine hS ?_)
      refine ss_X0_same_4 hS ?_
      rw [rg_t hb]
      exact im (by decide) (c_lacks hS rI k)
    by_cases ha : 0 ≤ a ∧ a ≤ 9
    · obtain ⟨r, rfl⟩ : ∃ r : Nat, a = (r : Nat) := ⟨a.toNat, by omega⟩
      have hr : r < 10 := by omega
      have m11 : ∀ (d : Nat) (h1 : hp) (Q : qt), St h1 → Wp (d + 1999) C_X4_same Q 11 [vR (some 116), vI (r : Nat), vI (r2 : Nat), vU, vU] [vI (bI true)] h1 → Wc (d + 2000) 153 [vR (some 116), vI (r : Nat), vI (r2 : Nat)] h1 Q := by
        intro d h1 Q S1 k
        refine se_X4_same S1 (pu_mIsRoutine S1 ?_)
        refine ss_X4_same_4 S1 ?_
        rw [rg_t ha]
        refine im (by decide) (pu_mIsRoutine S1 ?_)
        rw [rg_t hb]
        exact k
      have rIr := rI r hr
      cases hR0 : R r with
      | none =>
        rw [hR0] at rIr
        have lv : lackV R ((r : Nat) : Int) = -2 := by unfold lackV; rw [if_pos ha, Int.toNat_natCast, hR0]
        refine pair_eq (vI (-2)) hS x m g u (fun d Q k => x16 d Q ?_) (fun d Q k => m11 d h Q hS ?_)
        · rw [lv]
          exact ss_X0_same_16 hS (im (by decide) (ip (by decide) k))
        · refine ss_X4_same_11 hS (im (by decide) ⟨by omega, ?_⟩)
          rw [Int.toNat_natCast]
          exact ip rIr.2 k
      | some t =>
        rw [hR0] at rIr
        obtain ⟨ok, un, hz, hbr, hlen, ⟨rc, xr1, xr2⟩, mr1, mr2, mr3, mr4, mr5⟩ := rIr
        have lv : lackV R ((r : Nat) : Int) = 0 := by unfold lackV; rw [if_pos ha, Int.toNat_natCast, hR0]
        have rIq := rI r2 hr2
        cases hR2 : R r2 with
        | none =>
          rw [hR2] at rIq
          have lv2 : lackV R ((r2 : Nat) : Int) = -2 := by unfold lackV; rw [if_pos hb, Int.toNat_natCast, hR2]
          refine pair_eq (vI (-2)) hS x m g u (fun d Q k => x16 d Q ?_) (fun d Q k => m11 d h Q hS ?_)
          · rw [lv]
            refine ss_X0_same_16 hS (ip rfl (c_lacks hS rI ?_))
            rw [lv2]
            exact ss_X0_same_26 hS (ip (by decide) k)
          · refine ss_X4_same_11 hS (im (by decide) ⟨by omega, ?_⟩)
            rw [Int.toNat_natCast, Int.toNat_natCast, mr1]
            exact im (by decide) ⟨by omega, ip rIq.2 k⟩
        | some t2 =>
          rw [hR2] at rIq
          obtain ⟨ok2, un2, hz2, hbr2, hlen2, ⟨rc2, yr1, yr2⟩, nr1, nr2, nr3, nr4, nr5⟩ := rIq
          have lv2 : lackV R ((r2 : Nat) : Int) = 0 := by unfold lackV; rw [if_pos hb, Int.toNat_natCast, hR2]
          obtain ⟨b1, oa1⟩ := Gt_len (g.1 r t hr hR0)
          obtain ⟨b2, oa2⟩ := Gt_len (g.1 r2 t2 hr2 hR2)
          have key : (pbs (zk t) true = pbs (zk t2) true) ↔ zk t = zk t2 := ⟨fun e => pbs_inj _ _ true oa1 oa2 ((zk_m t).1 ok) ((zk_m t2).1 ok2) e, fun e => by rw [e]⟩
          refine pair_of (s := (R, σ, K, w, T, F, O, L)) (vI (if zk t = zk t2 then 1 else 0)) (R, σ, K, w, T, F, O, L) True hS m u (fun d Q k => x16 d Q ?_) (fun d h1 Q S1 M1 X1 _ k => m11 d h1 Q S1 ?_)
          · rw [lv]
            refine ss_X0_same_16 hS (ip rfl (c_lacks hS rI ?_))
            rw [lv2]
            refine ss_X0_same_26 hS (im (by decide) ⟨by omega, ?_⟩)
            rw [Int.toNat_natCast, xr1]
            refine c_spare (d := d + 359) hS xr2 ok hlen b1 (fun h1 g1 F1 X1 => ?_)
            obtain ⟨P1, e1⟩ : ∃ P, P = pbs (zk t) true := ⟨_, rfl⟩
            obtain ⟨P2, e2⟩ : ∃ P, P = pbs (zk t2) true := ⟨_, rfl⟩
            rw [← e1] at X1 b1 key ⊢
            rw [← e2] at key
            refine ss_X0_same_47 X1.1 ⟨⟨by decide, by decide, by omega, ?_, ?_⟩, ?_⟩
            · rw [stt_83 X1.1]; show 0 + ((P1.length : Nat) : Int) ≤ ((6000 : Nat) : Int); omega
            · rw [stt_84 X1.1]; show 0 + ((P1.length : Nat) : Int) ≤ ((6000 : Nat) : Int); omega
            · rw [Int.toNat_natCast]
              obtain ⟨h2, eh2⟩ : ∃ h2, h2 = hCpy h1 83 84 0 0 P1.length := ⟨_, rfl⟩
              have F2 : FX pSm h h2 := by rw [eh2]; exact FX_cpy (FX_mono F1.1 (fun c j _ z => by unfold pPr at z; unfold pSm; omega)) (by decide) (fun j => Or.inr (Or.inl rfl))
              have U2 : hU h2 = hU h := by rw [eh2, hU_hCpy, F1.2.2]
              have T4 : Tx h2 84 0 P1 := Tx_of (fun i hi => by
                have gi := Tx_get i hi X1.2.2.2
                rw [Nat.zero_add] at gi
                rw [eh2, hI_cpy, if_pos ⟨rfl, Nat.zero_le _, by omega⟩, show 0 + (0 + i - 0) = i by omega]
                exact gi)
              rw [← eh2]
              have S2 : St h2 := F2.2.2.1
              have yr2' : XR h2 t2 rc2 := XR_eq F2.1 (fun c c1 c2 c3 => FX_sm F2 c2 (fun j => by unfold pSm; omega)) yr2
              have e72 : hR h2 72 r2 = some rc2 := by rw [(FX_at F2 (c := 72) (j := r2) (Nat.lt_of_lt_of_le (by decide) hS.1) (by unfold pSm; omega)).2.2]; exact yr1
              refine ss_X0_same_64 S2 ⟨by omega, ?_⟩
              rw [Int.toNat_natCast, e72]
              refine c_spare (d := d + 359) S2 yr2' ok2 hlen2 b2 (fun h3 g3 F3 X3 => ?_)
              rw [← e2] at X3 ⊢
              have F4 : FX pSm h h3 := FX_trans F2 (FX_mono F3.1 (fun c j _ z => by unfold pPr at z; unfold pSm; omega))
              have T4' : Tx h3 84 0 P1 := Tx_eq (fun j => F68 F3.1 S2 (by decide) (by unfold pPr; omega)) T4
              obtain ⟨x1, x2, x3, x4, x5, x6, x7, x8, x9⟩ := id x
              have fin : Q (.inl (some (vI (if P1 = P2 then 1 else 0)))) h3 := by
                have q := k h3 (FX_mono F4 (fun c j _ z => by unfold pSm at z; unfold xpl; omega)) (by rw [F3.2.2, U2]; omega) ⟨Xc1_p F4 hS (fun j => by unfold pSm; omega) (fun c j c1 _ _ => by unfold pSm; omega) x1, Xc2_p F4 hS (fun c j hc => by unfold pSm; omega) (fun c j c1 _ _ _ => by unfold pSm; omega) x2, XFr_p F4 hS (by unfold pSm; omega) (by unfold pSm; omega) x3, XRu_p F4 hS (fun c j hc => by unfold pSm; omega) x4, Xc5_p F4 hS (by unfold pSm; omega) x5, Tq_p F4 hS (by unfold pSm; omega) (fun j => by unfold pSm; omega) x6, Xc7_p F4 hS (by unfold pSm; omega) (by unfold pSm; omega) x7, Xc8_p F4 hS (by unfold pSm; omega) (fun j => by unfold pSm; omega) x8, Xc9_p F4 hS (by unfold pSm; omega) x9⟩ trivial
                by_cases y : P1 = P2
                · rw [if_pos (key.mp y)] at q; rw [if_pos y]; exact q
                · rw [if_neg (fun z => y (key.mpr z))] at q; rw [if_neg y]; exact q
              refine ss_X0_same_74 X3.1 ?_
              by_cases le : P2.length = P1.length
              · refine ip (by omega) ?_
                exact xs_loop X3.1 le.symm b1 X3.2.2.2 T4' fin P1.length 0 (by omega) (fun j _ _ h0 => absurd h0 (Nat.not_lt_zero _))
              · refine im (by omega) (ss_X0_same_89 X3.1 (ip rfl (ip rfl ?_)))
                rw [if_neg (fun z => le (by rw [z]))] at fin
                exact fin
          · have q := k h1 (FX_refl S1) rfl M1 g
            have A1 := M1.1 r hr
            have A2 := M1.1 r2 hr2
            dsimp only at A1 A2
            rw [hR0] at A1
            rw [hR2] at A2
            refine ss_X4_same_11 S1 (im (by decide) ⟨by omega, ?_⟩)
            rw [Int.toNat_natCast, Int.toNat_natCast, A1.1, A2.1, A1.2.2.1.2.1, A2.2.2.1.2.1]
            refine im (by decide) ⟨by omega, im (by decide) ⟨by omega, by omega, ?_⟩⟩
            by_cases le : (zk t).length = (zk t2).length
            · refine ip (by omega) ?_
              exact ms_loop S1 hr hr2 A1.2.2.1 A2.2.2.1 q le (zk t).length 0 (by omega) (fun j _ _ h0 => absurd h0 (Nat.not_lt_zero _))
            · rw [if_neg (fun z => le (by rw [z]))] at q
              refine im (by omega) (ss_X4_same_61 S1 ⟨by omega, ?_⟩)
              rw [Int.toNat_natCast, A1.2.2.1.2.1]
              by_cases c : (0 : Int) < (((zk t).length : Nat) : Int)
              · exact ip c (ip rfl (ip rfl q))
              · exact im c (ip rfl q)
    · have lv : lackV R a = -1 := by unfold lackV; rw [if_neg ha]
      refine pair_eq (vI (-1)) hS x m g u (fun d Q k => x16 d Q ?_) (fun d Q k => ?_)
      · rw [lv]
        exact ss_X0_same_16 hS (im (by decide) (ip (by decide) k))
      · refine se_X4_same hS (pu_mIsRoutine hS ?_)
        refine ss_X4_same_4 hS ?_
        rw [rg_f ha]
        exact ip rfl k
  · refine pair_eq (vI (-1)) hS x m g u (fun d Q k => ?_) (fun d Q k => ?_)
    · refine se_X0_same hS (pu_isRoutine hS ?_)
      refine ss_X0_same_4 hS ?_
      rw [rg_f hb]
      exact ip rfl (ss_X0_same_16 hS (im (by decide) (ip (by decide) k)))
    · refine se_X4_same hS (pu_mIsRoutine hS ?_)
      refine ss_X4_same_4 hS ?_
      by_cases ha : 0 ≤ a ∧ a ≤ 9
      · rw [rg_t ha]
        refine im (by decide) (pu_mIsRoutine hS ?_)
        refine ss_X4_same_11 hS ?_
        rw [rg_f hb]
        exact ip rfl k
      · rw [rg_f ha]
        exact ip rfl k
