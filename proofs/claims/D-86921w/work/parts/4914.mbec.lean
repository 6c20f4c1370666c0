/-! m: a while; all trees -/
theorem lay_115 {e s : zT} (oe : okE e) (os : okS s 0) (hs : LayL s) : LayS (zB 115 e s) := by
  intro h d r b P S u Q hr hS hK hb h40 hd kk
  have hd' : 4 * (1 + zbr s) + 6 ≤ d := hd
  have hzc : zc (zB 115 e s) = 2 + zc s := rfl
  rw [hzc] at h40 kk
  rw [zi_wh] at kk
  have ezk : zk (zB 115 e s) = (5, 15) :: (zk e ++ (7, 123) :: (zk s ++ [(7, 125), (7, 59)])) := rfl
  have lzk : (zk (zB 115 e s)).length = (zk e).length + (zk s).length + 4 := by rw [ezk]; simp; omega
  have zmT : zm (zB 115 e s) b = b + 1 + zc s := rfl
  have zeT : ze (zB 115 e s) b = b + 1 + zc s := by unfold ze; rw [hzc]; omega
  have lzs := (zi_len s).1 os
  generalize eT : zB 115 e s = T at hK kk ezk lzk zmT zeT
  have gT : zg T = 115 := by rw [← eT]; rfl
  have lzT : ∀ n, lz (n, T, b, P.length) = (P.length : Int) + 1 := by intro n; rw [← eT]; rfl
  rw [ezk] at hK
  have hl := hK.1
  have hlen : (P ++ ((5, 15) :: (zk e ++ (7, 123) :: (zk s ++ [(7, 125), (7, 59)])) ++ S)).length = P.length + (zk T).length + S.length := by rw [lzk]; simp; omega
  have e5 := hK.2.2 P.length (5, 15) (by simp)
  obtain ⟨d, rfl⟩ : ∃ e, d = e + 3 := ⟨d - 3, by omega⟩
  refine se_X4_layStep hS ?_
  rw [ix hr (by omega), Int.toNat_natCast, e5.1, e5.2]
  have ek : (((5, 15) : Nat × Nat).2 : Int) = 15 := rfl
  rw [ek]
  refine ⟨by omega, ip rfl ⟨by omega, im (by decide) (im (by decide) (im (by decide) (ip rfl ?_)))⟩⟩
  rw [na_eq (by omega) (by omega)]
  refine c_adds2 hS hr hb (by omega) fun h1 F1 n1 f1 f2 f3 => ?_
  have S1 := Fm_St F1 hS
  refine ss_X4_layStep_266 S1 ?_
  have K1 := Fm_RK F1 hK
  refine c_find (sg := 123) (A := (5, 15) :: zk e) (B := zk s ++ [(7, 125), (7, 59)] ++ S) S1 hr K1 (by simp) rfl (Sk_c (by decide) (by decide) (by decide) (Sk_nB (zkE_nB e 0 oe.1)).2.1) ?_
  refine ss_X4_layStep_276 S1 ?_
  rw [na_eq (by simp; omega) (by simp; omega)]
  refine se_X4_laySteps S1 ?_
  have l1 : (P ++ (5, 15) :: (zk e ++ [(7, 123)])).length = P.length + (zk e).length + 2 := by simp; omega
  have K1' : RK h1 r ((P ++ (5, 15) :: (zk e ++ [(7, 123)])) ++ (zk s ++ ([(7, 125), (7, 59)] ++ S))) := by
    have ee : (P ++ (5, 15) :: (zk e ++ [(7, 123)])) ++ (zk s ++ ([(7, 125), (7, 59)] ++ S)) = P ++ ((5, 15) :: (zk e ++ (7, 123) :: (zk s ++ [(7, 125), (7, 59)])) ++ S) := by simp
    rw [ee]; exact K1
  have a1 : (((P.length + ((5, 15) :: zk e).length : Nat) : Int) + 1) = (((P ++ (5, 15) :: (zk e ++ [(7, 123)])).length : Nat) : Int) := by rw [l1]; simp; omega
  rw [a1]
  refine hs h1 (d + 1) r (b + 1) _ _ (T, b, P.length) _ _ hr S1 K1' (Or.inr ⟨_, rfl⟩) n1 (by omega) (by omega) ?_
  intro h2 F2 n2 E2
  have S2 := Fm_St F2 S1
  have F12 : Fm h h2 r b (2 + zc s) := Fm_trans (Fm_mono F1 (Nat.le_refl _) (by omega)) F2 (by omega) (by omega)
  refine ss_X4_layStep_287 S2 ?_
  rw [na_eq (by omega) (by omega)]
  refine c_adds2 (i := b + 1 + zc s) S2 hr n2 (by omega) fun h3 F3 n3 g1 g2 g3 => ?_
  have S3 := Fm_St F3 S2
  have F13 : Fm h h3 r b (2 + zc s) := Fm_trans F12 F3 (by omega) (by omega)
  refine ss_X4_layStep_300 S3 ?_
  rw [na_eq (by omega) (by omega)]
  refine c_joins2 (i := b) (j := b + 1 + zc s) (k := b + 1 + zc s) S3 hr (by omega) (by omega) fun h6 G1 G2 G3 G4 G5 G6 => ?_
  have S6 := FI_St G1 S3 rfl
  have F16 : Fm h h6 r b (2 + zc s) := ⟨FI_trans F13.1 G1, fun j hj => (G2 j).trans (F13.2.1 j hj), fun x hx => sx_trans (F13.2.2 x hx) (G5 x (by omega) (by omega) (by omega))⟩
  refine ss_X4_layStep_319 S6 ?_
  rw [l1, na_eq (by omega) (by omega)]
  have x1 : sx h1 h3 (40 * r + b) := sx_trans (F2.2.2 _ (by omega)) (F3.2.2 _ (by omega))
  have me : ∀ n x, n ≠ 0 → hI h6 127 (40 * r + x) = dz (n, T, b, P.length) → hI h6 128 (40 * r + x) = (P.length : Nat) → (x = b ∨ x = b + 1 + zc s) → ME h6 r x (n, T, b, P.length) := by
    intro n x hn y1 y2 hx
    have j := G6 (40 * r + x) (by omega)
    refine ⟨y1, ?_, ?_, fun _ => ⟨?_, j.2.2.1, ?_, ?_⟩⟩
    · rw [y2]; unfold oz; rw [if_neg (fun z => hn z.1)]
    · rw [j.1]; unfold ez; rw [if_neg hn]
    · rw [j.2.1, lzT]
    · rw [j.2.2.2.1]; show _ = ((zm T b : Nat) : Int); rw [zmT]
    · rw [j.2.2.2.2]; show _ = ((ze T b : Nat) : Int); rw [zeT]
  have q := kk h6 F16 ?_ (MEs_cons (me 1 b (by decide) ?_ ?_ (Or.inl rfl)) (MEs_app (MEs_eq (fun i hi => ?_) (l1 ▸ E2)) ?_))
  · have el : P.length + (zk e).length + 2 + (zk s).length + 2 = P.length + (zk T).length := by rw [lzk]; omega
    rw [← el] at q
    exact q
  · rw [G2, n3]; congr 1; omega
  · rw [G3, x1 127 (by decide) (by decide), f1]; unfold dz; rw [if_neg (show (1 : Nat) ≠ 0 by decide), if_pos (show (1 : Nat) = 1 from rfl)]; show _ = (zg T : Int) - 100; rw [gT]; rfl
  · rw [G4, x1 128 (by decide) (by decide), f2]
  · rw [lzs] at hi
    exact sx_trans (F3.2.2 _ (by omega)) (G5 _ (by omega) (by omega) (by omega))
  · rw [lzs]
    refine MEs_cons (me 3 (b + 1 + zc s) (by decide) ?_ ?_ (Or.inr rfl)) MEs_nil
    · rw [G3, g1]; unfold dz; rw [if_neg (show (3 : Nat) ≠ 0 by decide), if_neg (show (3 : Nat) ≠ 1 by decide), if_neg (show (3 : Nat) ≠ 2 by decide)]; show _ = (if zg T = 108 then (10 : Int) else if zg T = 111 then 12 else if zg T = 116 then 32 else 30); rw [gT]; rfl
    · rw [G4, g2]
theorem lay_all : ∀ t : zT, (okS t 0 → LayL t) ∧ (okS t 1 → LayS t) := by
  have H := ok_ind (P0 := LayL) (P1 := LayS) lay_nil (fun s t os _ i1 i2 => lay_cons os i1 i2)
    (fun e s t e2 o1 os ot o2 i1 i2 => lay_108 o1 o2 os ot i1 i2) (fun e s t e2 o1 os ot o2 i1 i2 => lay_111 o1 o2 os ot i1 i2)
    (fun e s o1 os i1 => lay_115 o1 os i1) (fun e s t o1 os ot i1 i2 => lay_116 o1 os ot i1 i2)
    (fun k l r hk => by
      by_cases q : k < 130
      · exact lay_key hk q
      · exact lay_chg hk (by omega))
  exact fun t => ⟨(H t).1, (H t).2.1⟩
/-! m: becomes -/
def MR (h : hp) (r : Nat) (t : zT) (o : Int) : Prop := hI h 121 r = 1 ∧ hI h 122 r = o ∧ RK h r (zk t) ∧ hI h 126 r = (zc t : Nat) ∧ MEs h r 0 (zi t (t, 0, 0) 0 0)
/-- routine r may change -/
def Fb (h h' : hp) (r : Nat) : Prop := FI [] [54] [121, 122, 123, 124, 125, 126, 127, 128, 129, 130, 131, 132, 133] h h' ∧ (∀ q, q ≠ r → hI h' 121 q = hI h 121 q ∧ hI h' 122 q = hI h 122 q ∧ hI h' 123 q = hI h 123 q ∧ hI h' 126 q = hI h 126 q) ∧ (∀ x, (x < 1600 * r ∨ 1600 * r + 1600 ≤ x) → hI h' 124 x = hI h 124 x ∧ hI h' 125 x = hI h 125 x) ∧ ∀ x, (x < 40 * r ∨ 40 * r + 40 ≤ x) → sx h h' x
theorem MR_Fb {h h' : hp} {r q : Nat} {t : zT} {o : Int} (f : Fb h h' r) (hq : q ≠ r) (hz : zc t ≤ 40) (ok : okS t 0) (k : MR h q t o) : MR h' q t o := by
  obtain ⟨f1, f2, f3, f4⟩ := f
  obtain ⟨k1, k2, ⟨k3, k4, k5⟩, k6, k7⟩ := k
  obtain ⟨g1, g2, g3, g4⟩ := f2 q hq
  refine ⟨g1.trans k1, g2.trans k2, ⟨k3, g3.trans k4, fun j x hx => ?_⟩, g4.trans k6, MEs_eq (fun i hi => f4 _ ?_) k7⟩
  · have hj : j < 1600 := by
      by_cases z : j < (zk t).length
      · omega
      · rw [List.getElem?_eq_none (by omega)] at hx; cases hx
    have := f3 (1600 * q + j) (by omega)
    exact ⟨this.1.trans (k5 j x hx).1, this.2.trans (k5 j x hx).2⟩
  · rw [(zi_len t).1 ok] at hi; omega
theorem getD_some {ts : List (Nat × Nat)} {j : Nat} {x : Nat × Nat} (h : ts[j]? = some x) : ts.getD j (0, 0) = x := by
  rw [List.getD_eq_getElem?_getD, h]; rfl
theorem bec_loop {d r : Nat} {Q : qt} {v2 : Int} {ts : List (Nat × Nat)} (hr : r < 10) (hl : ts.length ≤ 1600) : ∀ (n v : Nat) (h : hp), v + n = ts.length → St h → Nt h ts → (∀ j x, j < v → ts[j]? = some x → hI h 124 (1600 * r + j) = (x.1 : Nat) ∧ hI h 125 (1600 * r + j) = (x.2 : Nat)) →
    (∀ h', FI [] [] [124, 125] h h' → (∀ x, (x < 1600 * r ∨ 1600 * r + 1600 ≤ x) → hI h' 124 x = hI h 124 x ∧ hI h' 125 x = hI h 125 x) → (∀ j x, ts[j]? = some x → hI h' 124 (1600 * r + j) = (x.1 : Nat) ∧ hI h' 125 (1600 * r + j) = (x.2 : Nat)) → Wp d C_X4_becomes Q 26 [vR (some 116), vI (r : Nat), vI v2, vI (ts.length : Nat)] [] h') →
    Wp d C_X4_becomes Q 26 [vR (some 116), vI (r : Nat), vI v2, vI (v : Nat)] [] h := by
  intro n
  induction n with
  | zero =>
    intro v h hv hS hN hk k
    have e : v = ts.length := by omega
    subst e
    refine k h (FI_refl h) (fun x _ => ⟨rfl, rfl⟩) (fun j x hx => hk j x ?_ hx)
    by_cases z : j < ts.length
    · exact z
    · rw [List.getElem?_eq_none (by omega)] at hx; cases hx
  | succ n ih =>
    intro v h hv hS hN hk k
    refine ss_X4_becomes_26 hS ?_
    rw [hN.1]
    refine ip (by omega) ?_
    rw [ix hr (by omega), Int.toNat_natCast, Int.toNat_natCast, na_eq (by omega) (by omega)]
    refine ⟨by omega, by omega, by omega, by omega, ?_⟩
    obtain ⟨h1, e1⟩ : ∃ x, x = sI (sI h 124 (1600 * r + v) (hI h 119 v)) 125 (1600 * r + v) (hI h 120 v) := ⟨_, rfl⟩
    rw [← e1]
    have F1 : FI [] [] [124, 125] h h1 := by rw [e1]; exact FI_sI (FI_sI (FI_refl h) rfl) rfl
    have N1 : Nt h1 ts := ⟨by rw [FI_i F1 rfl]; exact hN.1, fun j hj => by rw [FI_i F1 rfl, FI_i F1 rfl]; exact hN.2 j hj⟩
    refine ih (v + 1) h1 (by omega) (FI_St F1 hS rfl) N1 (fun j x hj hx => ?_) (fun h' f1 f2 f3 => k h' (FI_trans F1 f1) (fun x hx => ?_) f3)
    · by_cases q : j = v
      · subst q
        have z := hN.2 j (by omega)
        rw [getD_some hx] at z
        rw [e1, hI_sI, if_neg (by omega), hI_sI, if_pos ⟨rfl, rfl⟩, hI_sI, if_pos ⟨rfl, rfl⟩]
        exact z
      · rw [e1, hI_sI, if_neg (by omega), hI_sI, if_neg (by omega), hI_sI, if_neg (by omega), hI_sI, if_neg (by omega)]
        exact hk j x (by omega) hx
    · have y := f2 x hx
      rw [y.1, y.2, e1, hI_sI, if_neg (by omega), hI_sI, if_neg (by omega), hI_sI, if_neg (by omega), hI_sI, if_neg (by omega)]
      exact ⟨rfl, rfl⟩
theorem c_becomes {d r : Nat} {Q : qt} {h : hp} {t : zT} {o : Int} (hS : St h) (hr : r < 10) (hN : Nt h (zk t)) (hl : (zk t).length ≤ 1600) (ok : okS t 0) (hz : zc t ≤ 40) (hb : zbr t ≤ 5) (ho : o = 0 ∨ o = 1) (k : ∀ h', Fb h h' r → MR h' r t o → hI h' 116 54 = 0 → Q (.inl (some (vI (zc t : Nat)))) h') : Wc (d + 40) 137 [vR (some 116), vI (r : Nat), vI o] h Q := by
  refine se_X4_becomes hS ?_
  rw [Int.toNat_natCast, hN.1]
  refine ⟨by omega, by omega, by omega, ?_⟩
  have i1 : n_i2z 1 = 1 := by decide
  have i2 : n_i2z o = o := by rcases ho with q | q <;> subst q <;> decide
  rw [i1, i2]
  obtain ⟨g, eg⟩ : ∃ x, x = sI (sI (sI h 121 r 1) 122 r o) 123 r ((zk t).length : Nat) := ⟨_, rfl⟩
  rw [← eg]
  have Fg : FI [] [] [121, 122, 123] h g := by rw [eg]; exact FI_sI (FI_sI (FI_sI (FI_refl h) rfl) rfl) rfl
  have Sg := FI_St Fg hS rfl
  have Ng : Nt g (zk t) := ⟨by rw [FI_i Fg rfl]; exact hN.1, fun j hj => by rw [FI_i Fg rfl, FI_i Fg rfl]; exact hN.2 j hj⟩
  have g121 : hI g 121 r = 1 := by rw [eg]; simp [hI_sI]
  have g122 : hI g 122 r = o := by rw [eg]; simp [hI_sI]
  have g123 : hI g 123 r = ((zk t).length : Nat) := by rw [eg]; simp [hI_sI]
  have gq : ∀ q, q ≠ r → hI g 121 q = hI h 121 q ∧ hI g 122 q = hI h 122 q ∧ hI g 123 q = hI h 123 q := by
    intro q hq
    rw [eg]
    simp [hI_sI, hq]
  refine bec_loop hr hl (zk t).length 0 g (by omega) Sg Ng (fun j x hj => absurd hj (Nat.not_lt_zero _)) fun h1 f1 f2 f3 => ?_
  have S1 := FI_St f1 Sg rfl
  refine ss_X4_becomes_26 S1 ?_
  rw [FI_i f1 rfl, Ng.1]
  refine im (by omega) ⟨by omega, ?_⟩
  rw [Int.toNat_natCast]
  have S2 : St (sI h1 126 r 0) := St_sI S1 (by omega)
  have K2 : RK (sI h1 126 r 0) r ([] ++ (zk t ++ [])) := by
    rw [List.append_nil]
    refine ⟨hl, ?_, fun j x hx => ?_⟩
    · rw [hI_sI, if_neg (by omega), FI_i f1 rfl]; exact g123
    · rw [hI_sI, if_neg (by omega), hI_sI, if_neg (by omega)]; exact f3 j x hx
  refine se_X4_laySteps S2 ?_
  refine (lay_all t).1 ok (sI h1 126 r 0) _ r 0 [] [] (t, 0, 0) _ _ hr S2 K2 (Or.inl rfl) (by rw [hI_sI, if_pos ⟨rfl, rfl⟩]; rfl) (by omega) (by omega) ?_
  intro h3 F3 n3 E3
  have S3 := Fm_St F3 S2
  refine ss_X4_becomes_89 S3 ⟨by omega, ?_⟩
  rw [Int.toNat_natCast, n3, Nat.zero_add]
  have K3 := Fm_RK F3 K2
  rw [List.append_nil] at K3
  have e3 : ∀ a j, a ≠ 126 → (a < 127 ∨ 133 < a) → hI h3 a j = hI h1 a j := by
    intro a j a1 a2
    rw [FI_i F3.1 (by unfold pG; simp; omega), hI_sI, if_neg (by omega)]
  refine k _ ⟨?_, fun q hq => ?_, fun x hx => ?_, fun x hx a a1 a2 => ?_⟩ ⟨?_, ?_, ?_, ?_, ?_⟩ ?_
  · refine FI_sI (FI_trans (FI_mono Fg (by decide) (by decide) (by decide)) (FI_trans (FI_mono f1 (by decide) (by decide) (by decide)) (FI_trans (h1 := sI h1 126 r 0) (FI_sI (FI_refl h1) rfl) (FI_mono F3.1 (by decide) (by decide) (by decide))))) rfl
  · obtain ⟨y1, y2, y3⟩ := gq q hq
    rw [hI_sI, if_neg (by omega), hI_sI, if_neg (by omega), hI_sI, if_neg (by omega), hI_sI, if_neg (by omega), e3 121 q (by decide) (by decide), e3 122 q (by decide) (by decide), e3 123 q (by decide) (by decide), F3.2.1 q hq, FI_i f1 rfl, FI_i f1 rfl, FI_i f1 rfl, hI_sI, if_neg (fun z => hq z.2), FI_i f1 rfl, FI_i Fg (b := 126) (j := q) rfl]
    exact ⟨y1, y2, y3, rfl⟩
  · rw [hI_sI, if_neg (by omega), hI_sI, if_neg (by omega), e3 124 x (by decide) (by decide), e3 125 x (by decide) (by decide), (f2 x hx).1, (f2 x hx).2, FI_i Fg rfl, FI_i Fg rfl]
    exact ⟨rfl, rfl⟩
  · have pp : pG [] [] [124, 125] a x = false := by unfold pG; simp; omega
    have pq' : pG [] [] [121, 122, 123] a x = false := by unfold pG; simp; omega
    rw [hI_sI, if_neg (by omega), F3.2.2 x (by omega) a a1 a2, hI_sI, if_neg (by omega), FI_i f1 pp, FI_i Fg pq']
  · rw [hI_sI, if_neg (by omega), e3 121 r (by decide) (by decide), FI_i f1 rfl]; exact g121
  · rw [hI_sI, if_neg (by omega), e3 122 r (by decide) (by decide), FI_i f1 rfl]; exact g122
  · exact RK_eq (h := h3) (fun j => by rw [hI_sI, if_neg (by omega)]) (fun j => by rw [hI_sI, if_neg (by omega)]) (fun j => by rw [hI_sI, if_neg (by omega)]) K3
  · rw [hI_sI, if_neg (by omega), n3, Nat.zero_add]
  · exact MEs_eq (h := h3) (fun i hi a a1 a2 => by rw [hI_sI, if_neg (by omega)]) E3
  · rw [hI_sI, if_pos ⟨rfl, rfl⟩]
