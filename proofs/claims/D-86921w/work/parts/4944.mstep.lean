/-! m DOES ONE STEP -/
theorem at_app {α : Type} {P A : List α} {i : Nat} : (P ++ A)[P.length + i]? = A[i]? := by
  rw [List.getElem?_append_right (by omega)]; congr 1; omega
theorem DmQ_tr {h h1 : hp} {σ : zS} {v : Nat ⊕ zS} {Q : qt} (F : FMd h h1) (k : DmQ h σ v Q) : DmQ h1 σ v Q := by
  cases v with
  | inl w => exact fun h' a b => k h' (FMd_trans F a) b
  | inr w => exact fun h' a b => k h' (FMd_trans F a) b
theorem pm_opp {d : Nat} {Q : qt} {h : hp} {v : Nat} (hS : St h) (hv : v ≤ 5) (k : Q (.inl (some (vI ((if v % 2 = 0 then v + 1 else v - 1 : Nat) : Int)))) h) : Wc (d + 1) 159 [vI (v : Nat)] h Q := by
  refine se_X4_opposite hS (im (by omega) ?_)
  have : v = 0 ∨ v = 1 ∨ v = 2 ∨ v = 3 ∨ v = 4 ∨ v = 5 := by omega
  rcases this with e | e | e | e | e | e <;> subst e <;> exact k
theorem pm_back {d : Nat} {Q : qt} {h : hp} {op : Nat} (hS : St h) (hv : op ≤ 5) (k : Q (.inl (some (vI (bop op : Nat)))) h) : Wc (d + 1) 183 [vI (op : Nat)] h Q := by
  refine se_X4_back hS ?_
  have : op = 0 ∨ op = 1 ∨ op = 2 ∨ op = 3 ∨ op = 4 ∨ op = 5 := by omega
  rcases this with e | e | e | e | e | e <;> subst e
  · exact ip rfl k
  · exact im (by decide) (ip rfl k)
  · exact im (by decide) (im (by decide) (im (by decide) (im (by decide) k)))
  · exact im (by decide) (im (by decide) (im (by decide) (im (by decide) k)))
  · exact im (by decide) (im (by decide) (ip rfl k))
  · exact im (by decide) (im (by decide) (im (by decide) (ip rfl k)))
theorem nx59 {S : List (Nat × Nat)} : nxt zsp ((7, 59) :: S) := fun x hx => by cases hx; decide
theorem nx123 {S : List (Nat × Nat)} : nxt zsp ((7, 123) :: S) := fun x hx => by cases hx; decide
theorem m_step {d r i k : Nat} {Q : qt} {h : hp} {σ : zS} {l rr : zT} {f : Bool} {b p : Nat} {P S : List (Nat × Nat)} (hS : St h) (hr : r < 10) (hi : i < 40) (hK : RK h r (P ++ (zk (zB k l rr) ++ S))) (hp : p = P.length) (hV : MV h σ) (hZ : Zr σ) (h6 : ∀ s, s < 4 → 0 ≤ σ 6 s ∧ σ 6 s ≤ 30) (hk : ok1 k l rr) (h114 : k ≠ 114) (h106 : k ≠ 106 ∧ k ≠ 107) (me : ME h r i (0, zB k l rr, b, p)) (kq : DmQ h σ (sStep σ (zB k l rr) f) Q) : Wc (d + 60) 181 [vR (some 116), vI (r : Nat), vI ((40 * r + i : Nat) : Int), vI (bI f)] h Q := by
  refine se_X4_doStep hS ?_
  refine c_seeN hS (fun h1 F1 Z1 => ?_)
  have M1 : FMd h h1 := FMd_FI F1 hS rfl (fun c j z => by unfold pG at z; unfold pMd; simp at z; omega)
  have S1 := FMd_St M1
  have V1 : MV h1 σ := MV_FI F1 rfl rfl hV
  have K1 : RK h1 r (P ++ (zk (zB k l rr) ++ S)) := RK_eq (fun j => FI_i F1 rfl) (fun j => FI_i F1 rfl) (fun j => FI_i F1 rfl) hK
  obtain ⟨m1, m2, m3, -⟩ := me
  have e7 : hI h1 127 (40 * r + i) = dz (0, zB k l rr, b, p) := by rw [FI_i F1 rfl]; exact m1
  have e8 : hI h1 128 (40 * r + i) = oz (0, zB k l rr, b, p) := by rw [FI_i F1 rfl]; exact m2
  have e9 : hI h1 129 (40 * r + i) = ez (0, zB k l rr, b, p) := by rw [FI_i F1 rfl]; exact m3
  clear m1 m2 m3 hK hV
  replace kq := DmQ_tr M1 kq
  have i4 : 40 * r + i < 400 := by omega
  have k60 : ∀ (s0 : Nat) (v4 : Int), s0 ≤ 5 → (∀ {Q'}, DmQ h1 σ (sStep σ (zB k l rr) f) Q' → Wc (d + 59) (if s0 = 0 then 199 else if s0 = 1 then 200 else if s0 = 2 then 201 else if s0 = 3 then 202 else if s0 = 4 then 203 else 205) [vR (some 116), vI (r : Nat), vI ((40 * r + i : Nat) : Int)] h1 Q') → Wp (d + 59) C_X4_doStep Q 60 [vR (some 116), vI (r : Nat), vI ((40 * r + i : Nat) : Int), vI (bI f), vI v4] [vI (s0 : Nat)] h1 := by
    intro s0 v4 hs w
    refine ss_X4_doStep_60 S1 ?_
    have w' := w (DmQ_to (fun _ _ z => z) kq)
    have : s0 = 0 ∨ s0 = 1 ∨ s0 = 2 ∨ s0 = 3 ∨ s0 = 4 ∨ s0 = 5 := by omega
    rcases this with e | e | e | e | e | e <;> subst e
    · exact ip rfl (w (DmQ_to (fun _ _ z => z) kq))
    · exact im (by decide) (ip rfl (w (DmQ_to (fun _ _ z => z) kq)))
    · exact im (by decide) (im (by decide) (ip rfl (w (DmQ_to (fun _ _ z => z) kq))))
    · exact im (by decide) (im (by decide) (im (by decide) (ip rfl (w (DmQ_to (fun _ _ z => z) kq)))))
    · exact im (by decide) (im (by decide) (im (by decide) (im (by decide) (ip rfl (w (DmQ_to (fun _ _ z => z) kq))))))
    · exact im (by decide) (im (by decide) (im (by decide) (im (by decide) (im (by decide) (w (DmQ_to (fun _ _ z => z) kq))))))
  refine ss_X4_doStep_4 S1 ⟨by omega, ?_⟩
  rw [Int.toNat_natCast, e7]
  have low : k < 130 → (∀ s0 : Nat, s0 = (if f = true then k - 100 else if (k - 100) % 2 = 0 then k - 100 + 1 else k - 100 - 1) → (∀ {Q'}, DmQ h1 σ (sStep σ (zB k l rr) f) Q' → Wc (d + 59) (if s0 = 0 then 199 else if s0 = 1 then 200 else if s0 = 2 then 201 else if s0 = 3 then 202 else if s0 = 4 then 203 else 205) [vR (some 116), vI (r : Nat), vI ((40 * r + i : Nat) : Int)] h1 Q')) → (100 ≤ k ∧ k ≤ 105) → if dz (0, zB k l rr, b, p) < 20 then
      if bI f = 0 then
        cI (Wc (d + 59)) 159 [vI (dz (0, zB k l rr, b, p))] h1 (fun x2 h1_1 => Wp (d + 59) C_X4_doStep Q 60 [vR (some 116), vI (r : Nat), vI ((40 * r + i : Nat) : Int), vI (bI f), vI (dz (0, zB k l rr, b, p))] [vI x2] h1_1) (fun e3 h4 => Q (.inr e3) h4)
      else Wp (d + 59) C_X4_doStep Q 60 [vR (some 116), vI (r : Nat), vI ((40 * r + i : Nat) : Int), vI (bI f), vI (dz (0, zB k l rr, b, p))] [vI (dz (0, zB k l rr, b, p))] h1
    else
      if bI f = 0 then
        cI (Wc (d + 59)) 183 [vI (n_sub (dz (0, zB k l rr, b, p)) 20)] h1 (fun x6 h5 => Wp (d + 59) C_X4_doStep Q 42 [vR (some 116), vI (r : Nat), vI ((40 * r + i : Nat) : Int), vI (bI f), vI (dz (0, zB k l rr, b, p))] [vI x6, vI ((40 * r + i : Nat) : Int), vI (r : Nat), vR (some 116)] h5) (fun e7 h8 => Q (.inr e7) h8)
      else Wp (d + 59) C_X4_doStep Q 42 [vR (some 116), vI (r : Nat), vI ((40 * r + i : Nat) : Int), vI (bI f), vI (dz (0, zB k l rr, b, p))] [vI (n_sub (dz (0, zB k l rr, b, p)) 20), vI ((40 * r + i : Nat) : Int), vI (r : Nat), vR (some 116)] h1 := by
    intro k130 w kk
    have ed : dz (0, zB k l rr, b, p) = ((k - 100 : Nat) : Int) := by
      unfold dz
      dsimp only
      rw [if_pos rfl, if_pos (show zg (zB k l rr) < 130 from k130)]
      show ((k : Nat) : Int) - 100 = _
      omega
    rw [ed]
    have h20 : ((k - 100 : Nat) : Int) < 20 := by omega
    rw [if_pos h20]
    cases f with
    | true => exact im (by decide) (k60 (k - 100) _ (by omega) (w _ rfl))
    | false => exact ip rfl (pm_opp S1 (by omega) (k60 (if (k - 100) % 2 = 0 then k - 100 + 1 else k - 100 - 1) _ (by split <;> omega) (w _ rfl)))
  have ok8 : k < 130 → oz (0, zB k l rr, b, p) = ((P.length + 1 : Nat) : Int) ∧ ez (0, zB k l rr, b, p) = ((P.length + 3 : Nat) : Int) := by
    intro k130
    unfold oz ez
    dsimp only
    rw [if_pos (show 0 = 0 ∧ zg (zB k l rr) < 130 from ⟨rfl, k130⟩), if_pos rfl, if_pos (show zg (zB k l rr) < 130 from k130), hp]
    exact ⟨rfl, rfl⟩
  rcases hk with ⟨k1, ⟨x, el, hx⟩, oe, -⟩ | ⟨k1, ⟨x, el, hx⟩, ⟨y, er, hy⟩⟩ | ⟨k1, ⟨x, el, hx⟩, ⟨j, e, er, hj1, hj2, oe, -⟩⟩ | ⟨k1, -⟩ | ⟨k1, okl, okr⟩ | ⟨k1, okl, oe, nh⟩
  · subst el
    have k2 : k = 100 ∨ k = 101 := by omega
    have tk : P ++ (zk (zB k (zL x) rr) ++ S) = (P ++ [(5, k - 100), (1, x), (7, 61)]) ++ (zk rr ++ ((7, 59) :: S)) := by
      rcases k2 with e | e <;> subst e
      · show P ++ (((5, 0) :: (1, x) :: (7, 61) :: (zk rr ++ [(7, 59)])) ++ S) = _
        simp
      · show P ++ (((5, 1) :: (1, x) :: (7, 61) :: (zk rr ++ [(7, 59)])) ++ S) = _
        simp
    rw [tk] at K1
    have tq : ((P ++ [(5, k - 100), (1, x), (7, 61)]) ++ (zk rr ++ ((7, 59) :: S)))[P.length + 1]? = some (1, x) := by
      rw [List.append_assoc, at_app]; rfl
    refine low (by omega) (fun s0 es Q' k' => ?_) (by omega)
    have ee : sStep σ (zB k (zL x) rr) f = sLet σ x rr (f == decide (k = 100)) := by
      unfold sStep
      dsimp only
      rw [if_pos k2]; rfl
    rw [ee] at k'
    have l1 : ∀ {Q''}, DmQ h1 σ (sLet σ x rr true) Q'' → Wc (d + 59) 199 [vR (some 116), vI (r : Nat), vI ((40 * r + i : Nat) : Int)] h1 Q'' := fun k'' => m_let S1 hr i4 K1 nx59 V1 Z1 hx (by rw [e8, (ok8 (by omega)).1]) tq (by rw [e9, (ok8 (by omega)).2]) (by simp) oe k''
    have l2 : ∀ {Q''}, DmQ h1 σ (sLet σ x rr false) Q'' → Wc (d + 59) 200 [vR (some 116), vI (r : Nat), vI ((40 * r + i : Nat) : Int)] h1 Q'' := fun k'' => m_unlet S1 hr i4 K1 nx59 V1 Z1 hx (by rw [e8, (ok8 (by omega)).1]) tq (by rw [e9, (ok8 (by omega)).2]) (by simp) oe k''
    rcases k2 with e | e <;> subst e <;> cases f <;> subst es
    · exact l2 k'
    · exact l1 k'
    · exact l1 k'
    · exact l2 k'
  · subst el; subst er
    have tk : zk (zB k (zL x) (zL y)) = [(5, k - 100), (1, x), (4, y), (7, 59)] := by
      rcases k1 with e | e <;> subst e <;> rfl
    have tq : (P ++ (zk (zB k (zL x) (zL y)) ++ S))[P.length + 1]? = some (1, x) := by
      rw [at_app, tk]; rfl
    have tq2 : (P ++ (zk (zB k (zL x) (zL y)) ++ S))[P.length + 1 + 1]? = some (4, y) := by
      rw [show P.length + 1 + 1 = P.length + 2 from rfl, at_app, tk]; rfl
    refine low (by omega) (fun s0 es Q' k' => ?_) (by omega)
    have ee : sStep σ (zB k (zL x) (zL y)) f = sPush σ x y (f == decide (k = 102)) := by
      unfold sStep
      dsimp only
      rw [if_neg (by omega), if_pos k1]; rfl
    rw [ee] at k'
    have l1 : ∀ {Q''}, DmQ h1 σ (sPush σ x y true) Q'' → Wc (d + 59) 201 [vR (some 116), vI (r : Nat), vI ((40 * r + i : Nat) : Int)] h1 Q'' := fun k'' => m_push S1 hr i4 K1 V1 (h6 y hy) hx hy (by rw [e8, (ok8 (by omega)).1]) tq tq2 k''
    have l2 : ∀ {Q''}, DmQ h1 σ (sPush σ x y false) Q'' → Wc (d + 59) 202 [vR (some 116), vI (r : Nat), vI ((40 * r + i : Nat) : Int)] h1 Q'' := fun k'' => m_pop S1 hr i4 K1 V1 (h6 y hy) hx hy (by rw [e8, (ok8 (by omega)).1]) tq tq2 k''
    rcases k1 with e | e <;> subst e <;> cases f <;> subst es
    · exact l2 k'
    · exact l1 k'
    · exact l1 k'
    · exact l2 k'
  · subst el; subst er
    have ej : zk (zB j e (zL 0)) = (5, 17 + (j - 160)) :: zk e := by
      have : 17 + (j - 160) = j - 143 := by omega
      rw [this]
      conv => lhs; unfold zk
      (repeat' rw [if_neg (by omega)])
    have tk : P ++ (zk (zB k (zL x) (zB j e (zL 0))) ++ S) = (P ++ [(5, k - 100), (3, x), (5, 17 + (j - 160))]) ++ (zk e ++ ((7, 59) :: S)) := by
      rcases k1 with e' | e' <;> subst e'
      · show P ++ (((5, 4) :: (3, x) :: (zk (zB j e (zL 0)) ++ [(7, 59)])) ++ S) = _
        rw [ej]; simp
      · show P ++ (((5, 5) :: (3, x) :: (zk (zB j e (zL 0)) ++ [(7, 59)])) ++ S) = _
        rw [ej]; simp
    rw [tk] at K1
    have tq : ((P ++ [(5, k - 100), (3, x), (5, 17 + (j - 160))]) ++ (zk e ++ ((7, 59) :: S)))[P.length + 1]? = some (3, x) := by
      rw [List.append_assoc, at_app]; rfl
    have tq2 : ((P ++ [(5, k - 100), (3, x), (5, 17 + (j - 160))]) ++ (zk e ++ ((7, 59) :: S)))[P.length + 1 + 1]? = some (5, 17 + (j - 160)) := by
      rw [show P.length + 1 + 1 = P.length + 2 from rfl, List.append_assoc, at_app]; rfl
    refine low (by omega) (fun s0 es Q' k' => ?_) (by omega)
    have ee : sStep σ (zB k (zL x) (zB j e (zL 0))) f = (if (f == decide (k = 104)) = true then sNew σ x ((j - 160 : Nat) : Int) e else sEnd σ x ((j - 160 : Nat) : Int) e) := by
      unfold sStep
      dsimp only
      rw [if_neg (by omega), if_neg (by omega), if_pos k1]; rfl
    rw [ee] at k'
    have l1 : ∀ {Q''}, DmQ h1 σ (sNew σ x ((j - 160 : Nat) : Int) e) Q'' → Wc (d + 59) 203 [vR (some 116), vI (r : Nat), vI ((40 * r + i : Nat) : Int)] h1 Q'' := fun k'' => m_new S1 hr i4 K1 nx59 V1 Z1 hx (by omega) (by rw [e8, (ok8 (by omega)).1]) tq tq2 (by rw [e9, (ok8 (by omega)).2]) (by simp) oe k''
    have l2 : ∀ {Q''}, DmQ h1 σ (sEnd σ x ((j - 160 : Nat) : Int) e) Q'' → Wc (d + 59) 205 [vR (some 116), vI (r : Nat), vI ((40 * r + i : Nat) : Int)] h1 Q'' := fun k'' => m_end S1 hr i4 K1 nx59 V1 Z1 hx (by omega) (by rw [e8, (ok8 (by omega)).1]) tq tq2 (by rw [e9, (ok8 (by omega)).2]) (by simp) oe k''
    rcases k1 with e | e <;> subst e <;> cases f <;> subst es
    · exact l2 k'
    · exact l1 k'
    · exact l1 k'
    · exact l2 k'
  · exact absurd k1 (by omega)
  · subst k1
    have tk := (zk_chg (Or.inr (Or.inr (Or.inr (Or.inr (Or.inl ⟨rfl, okl, okr⟩))))) (show 130 ≤ 133 by decide)).1
    have ed : dz (0, zB 133 l rr, b, p) = 23 := rfl
    have eo : oz (0, zB 133 l rr, b, p) = ((P.length : Nat) : Int) := by rw [← hp]; rfl
    have ee' : ez (0, zB 133 l rr, b, p) = ((P.length + (zk l).length + 1 : Nat) : Int) := by
      rw [← hp]; show ((p : Nat) : Int) + ((zk l).length : Nat) + 1 = _; omega
    have tk2 : P ++ (zk (zB 133 l rr) ++ S) = P ++ (zk l ++ ((6, 3) :: (zk rr ++ ((7, 59) :: S)))) := by rw [tk]; simp
    rw [tk2] at K1
    have ee : sStep σ (zB 133 l rr) f = sSwap σ l rr := rfl
    rw [ee] at kq
    have k42 : ∀ v4, Wp (d + 59) C_X4_doStep Q 42 [vR (some 116), vI (r : Nat), vI ((40 * r + i : Nat) : Int), vI (bI f), vI v4] [vI 3, vI ((40 * r + i : Nat) : Int), vI (r : Nat), vR (some 116)] h1 := by
      intro v4
      refine ss_X4_doStep_42 S1 ?_
      exact m_swap S1 hr i4 K1 V1 hZ (by rw [e8, eo]) rfl (by rw [e9, ee']) rfl okl okr (DmQ_to (fun _ _ z => z) kq)
    rw [ed]
    refine im (by decide) ?_
    cases f with
    | true => exact im (by decide) (k42 _)
    | false => exact ip rfl (pm_back (op := 3) S1 (by decide) (k42 _))
  · have hk' : ok1 k l rr := Or.inr (Or.inr (Or.inr (Or.inr (Or.inr ⟨k1, okl, oe, nh⟩))))
    have tk := (zk_chg hk' (by omega)).1
    have hop := (how_x k1).2
    have ed : dz (0, zB k l rr, b, p) = ((k - 110 : Nat) : Int) := by
      unfold dz
      dsimp only
      rw [if_pos rfl, if_neg (show ¬ zg (zB k l rr) < 130 by show ¬ k < 130; omega)]
      show ((k : Nat) : Int) - 110 = _
      omega
    have n20 : n_sub ((k - 110 : Nat) : Int) 20 = ((k - 130 : Nat) : Int) := by rw [ns_eq (by omega) (by omega)]; omega
    have eo : oz (0, zB k l rr, b, p) = ((P.length : Nat) : Int) := by
      unfold oz
      dsimp only
      rw [if_neg (show ¬ (0 = 0 ∧ zg (zB k l rr) < 130) from fun z => by have : k < 130 := z.2; omega), hp]
    have ee' : ez (0, zB k l rr, b, p) = ((P.length + (zk l).length + 1 : Nat) : Int) := by
      unfold ez
      dsimp only
      rw [if_pos rfl, if_neg (show ¬ zg (zB k l rr) < 130 by show ¬ k < 130; omega), hp]
      show ((P.length : Nat) : Int) + ((zk l).length : Nat) + 1 = _; omega
    have tk2 : P ++ (zk (zB k l rr) ++ S) = P ++ (zk l ++ ((6, k - 130) :: (zk rr ++ ((7, 59) :: S)))) := by rw [tk]; simp
    rw [tk2] at K1
    have ee : sStep σ (zB k l rr) f = sChg σ l (if f = true then k - 130 else bop (k - 130)) rr := by
      unfold sStep
      dsimp only
      rw [if_neg (by omega), if_neg (by omega), if_neg (by omega), if_neg (by omega)]
    rw [ee] at kq
    have k42 : ∀ (v4 : Int) (op : Nat), (op = 0 ∨ op = 1 ∨ op = 2 ∨ op = 4 ∨ op = 5) → op = (if f = true then k - 130 else bop (k - 130)) → Wp (d + 59) C_X4_doStep Q 42 [vR (some 116), vI (r : Nat), vI ((40 * r + i : Nat) : Int), vI (bI f), vI v4] [vI (op : Nat), vI ((40 * r + i : Nat) : Int), vI (r : Nat), vR (some 116)] h1 := by
      intro v4 op ho eo'
      refine ss_X4_doStep_42 S1 ?_
      rw [← eo'] at kq
      exact m_chg S1 hr i4 K1 nx59 V1 (by rw [e8, eo]) rfl (by rw [e9, ee']) rfl okl oe ho (DmQ_to (fun _ _ z => z) kq)
    rw [ed, n20]
    have h20 : ¬ ((k - 110 : Nat) : Int) < 20 := by omega
    rw [if_neg h20]
    cases f with
    | true => exact im (by decide) (k42 _ _ hop rfl)
    | false => exact ip rfl (pm_back (op := k - 130) S1 (by omega) (k42 _ (bop (k - 130)) (bop_in hop) (by rw [if_neg (by decide)])))
