/-! m WALKS -/
theorem ev_16 {σ : zS} {bn : Nat → Bool} {bi : Nat → Nat → Bool} : ∀ (e : zT) (lv w : Nat), zok e lv → ev σ bn bi e = .inl w → w ≠ 16 := by
  intro e
  induction e with
  | leaf n => intro lv w z; exact z.elim
  | branch c l r ihl ihr =>
    intro lv w z h
    unfold ev at h
    by_cases k2 : c = 2
    · rw [if_pos k2] at h; cases h
    rw [if_neg k2] at h
    by_cases k1 : c = 1
    · rw [if_pos k1] at h
      split at h
      · cases h; decide
      · split at h
        · cases h; decide
        · cases h
    rw [if_neg k1] at h
    by_cases k35 : c = 35
    · rw [if_pos k35] at h
      split at h
      · cases h; decide
      · cases h
    rw [if_neg k35] at h
    by_cases k3 : c = 3
    · rw [if_pos k3] at h
      subst k3
      cases hr : ev σ bn bi r with
      | inl v =>
        rw [hr] at h
        cases h
        exact ihr 0 _ z.2 hr
      | inr i =>
        rw [hr] at h
        dsimp only at h
        split at h
        · cases h; decide
        · split at h
          · cases h; decide
          · split at h
            · cases h; decide
            · cases h
    rw [if_neg k3] at h
    by_cases k8 : c = 8
    · rw [if_pos k8] at h
      subst k8
      cases hr : ev σ bn bi l with
      | inl v => rw [hr] at h; cases h; exact ihl 2 _ z hr
      | inr i => rw [hr] at h; cases h
    rw [if_neg k8] at h
    by_cases k40 : c = 40
    · rw [if_pos k40] at h
      subst k40
      exact ihl 0 w z h
    rw [if_neg k40] at h
    obtain ⟨hc, lv1, lv2, z1, z2⟩ := two_k z k1 k2 k35 k3 k8 k40
    cases hl : ev σ bn bi l with
    | inl v => rw [hl] at h; cases h; exact ihl lv1 _ z1 hl
    | inr x =>
      rw [hl] at h
      dsimp only at h
      cases hr : ev σ bn bi r with
      | inl v => rw [hr] at h; cases h; exact ihr lv2 _ z2 hr
      | inr y =>
        rw [hr] at h
        dsimp only at h
        unfold rk at h
        (repeat' split at h) <;> cases h
        all_goals decide
def wv (w : Nat) : Int := if w = 16 then -3 else n_sub (-20) (w : Nat)
theorem FMk {h h' : hp} (F : FMd h h') (hS : St h) {a j : Nat} (h1 : 117 ≤ a) (h2 : a ≤ 133) : hI h' a j = hI h a j := (FX_at F.1 (Nat.lt_of_lt_of_le (show a < 145 by omega) hS.1) (by unfold pMd; omega)).1
theorem RK_FMd {h h' : hp} {r : Nat} {ts : List (Nat × Nat)} (F : FMd h h') (hS : St h) (k : RK h r ts) : RK h' r ts := RK_eq (fun j => FMk F hS (by decide) (by decide)) (fun j => FMk F hS (by decide) (by decide)) (fun j => FMk F hS (by decide) (by decide)) k
theorem MEs_FMd {h h' : hp} {r b : Nat} {es : List zEn} (F : FMd h h') (hS : St h) (k : MEs h r b es) : MEs h' r b es := MEs_eq (fun i _ a a1 a2 => FMk F hS (by omega) (by omega)) k
theorem MEs_hd {h : hp} {r b : Nat} {e : zEn} {es : List zEn} (k : MEs h r b (e :: es)) : ME h r b e ∧ MEs h r (b + 1) es := ⟨k 0 e rfl, fun i f q => by have := k (i + 1) f q; rw [show b + (i + 1) = b + 1 + i by omega] at this; exact this⟩
theorem MEs_sp {h : hp} {r b : Nat} {es fs : List zEn} (k : MEs h r b (es ++ fs)) : MEs h r b es ∧ MEs h r (b + es.length) fs := by
  refine ⟨fun i f q => k i f ?_, fun i f q => ?_⟩
  · have hi : i < es.length := by
      by_cases z : i < es.length
      · exact z
      · rw [List.getElem?_eq_none (by omega)] at q; cases q
    rw [List.getElem?_append_left hi]; exact q
  · have := k (es.length + i) f (by rw [List.getElem?_append_right (by omega), show es.length + i - es.length = i by omega]; exact q)
    rw [show b + (es.length + i) = b + es.length + i by omega] at this; exact this
/-- where m goes on, or what it answers -/
def WmQ (L r d : Nat) (h : hp) (b : Nat) (v : wR) (Q : qt) : Prop := (v.1 = 0 → ∀ h' w5 w6 w7 w8 w9, FMd h h' → MV h' v.2.1 → Wp d C_X4_walk Q 46 [vR (some 116), vI (r : Nat), vI (L : Nat), vI (v.2.2 : Nat), vI (b : Nat), w5, w6, w7, w8, w9] [] h') ∧ (v.1 ≠ 0 → ∀ h', FMd h h' → MV h' v.2.1 → Q (.inl (some (vI (wv v.1)))) h')
theorem WmQ_tr {L r d : Nat} {h h1 : hp} {b : Nat} {v : wR} {Q : qt} (a : FMd h h1) (k : WmQ L r d h b v Q) : WmQ L r d h1 b v Q := ⟨fun z h' w5 w6 w7 w8 w9 F X => k.1 z h' w5 w6 w7 w8 w9 (FMd_trans a F) X, fun z h' F X => k.2 z h' (FMd_trans a F) X⟩
theorem mw_ev {d L r N c b D q : Nat} {h : hp} {σ : zS} {e : zT} {P S : List (Nat × Nat)} {v5 v6 v7 v8 v9 : av} {Q : qt} (hS : St h) (hr : r < 10) (hN : hI h 126 r = (N : Nat)) (hb : b < N) (hN4 : N ≤ 40) (hL : L ≤ 400) (hc : c ≤ L) (V : MV h σ) (e7 : hI h 127 (40 * r + b) = (D : Nat)) (hD : D < 20) (e9 : hI h 129 (40 * r + b) = (q : Nat)) (K : RK h r (P ++ (zk e ++ S))) (hq : q = P.length) (nx : nxt zsp S) (oe : okE e) (hd : 60 ≤ d)
    (k1 : c = L → Q (.inl (some (vI (-3)))) h) (k2 : c ≠ L → ∀ w h', ev σ bn0 bi0 e = .inl w → FMd h h' → MV h' σ → Q (.inl (some (vI (n_sub (-20) (w : Nat))))) h') (k3 : c ≠ L → ∀ v h', ev σ bn0 bi0 e = .inr v → FMd h h' → MV h' σ → hI h' 116 46 = 0 → Wp d C_X4_walk Q 155 [vR (some 116), vI (r : Nat), vI (L : Nat), vI ((c + 1 : Nat) : Int), vI (b : Nat), vI ((40 * r + b : Nat) : Int), vI (D : Nat), v7, v8, v9] [vJ v] h') : Wp d C_X4_walk Q 46 [vR (some 116), vI (r : Nat), vI (L : Nat), vI (c : Nat), vI (b : Nat), v5, v6, v7, v8, v9] [] h := by
  obtain ⟨d, rfl⟩ : ∃ x, d = x + 51 := ⟨d - 51, by omega⟩
  refine ss_X4_walk_46 hS ⟨by omega, ?_⟩
  rw [Int.toNat_natCast, hN, ix40 hr (by omega), Int.toNat_natCast, e7]
  refine ip (by omega) ⟨by omega, im (by omega) (im (by omega) (im (by omega) ?_))⟩
  by_cases cl : c = L
  · exact ip (by omega) (k1 cl)
  refine im (by omega) (c_seeN hS (fun h1 F1 Z1 => ?_))
  have M1 : FMd h h1 := FMd_FI F1 hS rfl (fun c j z => by unfold pG at z; unfold pMd; simp at z; omega)
  have S1 := FMd_St M1
  have V1 : MV h1 σ := MV_FI F1 rfl rfl V
  rw [n1 (by omega)]
  refine ss_X4_walk_143 S1 ⟨by omega, ?_⟩
  rw [Int.toNat_natCast, FMk M1 hS (by decide) (by decide), e9]
  refine c_rk S1 hr (RK_FMd M1 hS K) nx V1 Z1 oe hq (fun w h2 y hv w0 F V2 b2 _ => ?_) (fun v h2 hv F V2 b2 _ => ?_)
  · refine ss_X4_walk_155 (FMd_St F) (im (by rw [b2]; omega) ?_)
    rw [b2]
    exact k2 cl w h2 hv (FMd_trans M1 F) V2
  · exact k3 cl v h2 hv (FMd_trans M1 F) V2 b2
theorem r16 {r q : Nat} (hr : r < 10) (hq : q < 1600) : (0 : Int) ≤ ((1600 * r + q : Nat) : Int) ∧ ((1600 * r + q : Nat) : Int) < 16000 := by omega
theorem r26 {x : Nat} (h : x < 26) : (0 : Int) ≤ ((x : Nat) : Int) ∧ ((x : Nat) : Int) < 26 := by omega
def Pw (L r N : Nat) (t : zT) : Prop := zun true t → ∀ (d : Nat) (h : hp) (σ : zS) (c b p : Nat) (P S : List (Nat × Nat)) (u : zT × Nat × Nat) (v5 v6 v7 v8 v9 : av) (Q : qt), St h → hI h 126 r = (N : Nat) → MV h σ → c ≤ L → MEs h r b (zi t u b p) → RK h r (P ++ (zk t ++ S)) → p = P.length → b + zc t ≤ N → 60 ≤ d → WmQ L r d h (b + zc t) (wk L t true σ c) Q → Wp d C_X4_walk Q 46 [vR (some 116), vI (r : Nat), vI (L : Nat), vI (c : Nat), vI (b : Nat), v5, v6, v7, v8, v9] [] h
theorem zc_150 (s t : zT) : zc (zB 150 s t) = zc s + zc t := rfl
theorem zc_wh (e s : zT) : zc (zB 115 e s) = zc s + 2 := by show 2 + zc s = _; omega
theorem zc_wn (e s t : zT) : zc (zB 116 e (zB 119 s t)) = zc s + zc t + 3 := by show 3 + (zc s + zc t) = _; omega
/-- m's while -/
theorem mw_wh {L r N : Nat} {e s : zT} (hr : r < 10) (hN4 : N ≤ 40) (hL : L ≤ 400) (oe : okE e) (os : okS s 0) (Ps : Pw L r N s) (us : zun true s) (wo : Wok L (fun σ c => wk L s true σ c)) {d b p : Nat} {P S : List (Nat × Nat)} {u : zT × Nat × Nat} {Q : qt} (hd : 60 ≤ d) (hpl : p = P.length) (hb : b + zc (zB 115 e s) ≤ N) : ∀ (n : Nat) (h : hp) (σ : zS) (c : Nat) (v5 v6 v7 v8 v9 : av), St h → hI h 126 r = (N : Nat) → MV h σ → c ≤ L → MEs h r b (zi (zB 115 e s) u b p) → RK h r (P ++ (zk (zB 115 e s) ++ S)) → L + 1 ≤ n + c → WmQ L r d h (b + zc (zB 115 e s)) (wh (fun σ c => wk L s true σ c) e L n σ c) Q → Wp d C_X4_walk Q 46 [vR (some 116), vI (r : Nat), vI (L : Nat), vI (c : Nat), vI (b : Nat), v5, v6, v7, v8, v9] [] h := by
  have hzc := zc_wh e s
  intro n
  induction n with
  | zero => intro h σ c v5 v6 v7 v8 v9 hS hN V hc me K hn k; omega
  | succ n ih =>
    intro h σ c v5 v6 v7 v8 v9 hS hN V hc me K hn k
    have me0 := me
    have K0 := K
    rw [zi_wh] at me
    obtain ⟨m1, m2⟩ := MEs_hd me
    obtain ⟨m3, m4⟩ := MEs_sp m2
    have m5 := (MEs_hd m4).1
    rw [(zi_len s).1 os] at m5
    rw [zk_wh] at K
    have eK : P ++ ((5, 15) :: (zk e ++ (7, 123) :: (zk s ++ [(7, 125), (7, 59)])) ++ S) = (P ++ [(5, 15)]) ++ (zk e ++ ((7, 123) :: (zk s ++ [(7, 125), (7, 59)]) ++ S)) := by simp
    have eK2 : P ++ ((5, 15) :: (zk e ++ (7, 123) :: (zk s ++ [(7, 125), (7, 59)])) ++ S) = (P ++ (5, 15) :: (zk e ++ [(7, 123)])) ++ (zk s ++ ([(7, 125), (7, 59)] ++ S)) := by simp
    have K2 := K
    rw [eK] at K
    rw [eK2] at K2
    have l2 : (P ++ (5, 15) :: (zk e ++ [(7, 123)])).length = p + (zk e).length + 2 := by simp; omega
    have i4 : 40 * r + b < 400 := by omega
    rw [wh_s] at k
    refine mw_ev (D := 15) (q := p + 1) hS hr hN (by omega) hN4 hL hc V m1.1 (by decide) (m1.2.2.1.trans rfl) K (by simp; omega) (by simpa using nx123) oe hd (fun z => ?_) (fun z w h1 hv F1 V1 => ?_) (fun z v h1 hv F1 V1 b1 => ?_)
    · rw [if_pos z] at k
      exact k.2 (by show (16 : Nat) ≠ 0; decide) h (FMd_refl hS) V
    · rw [if_neg z] at k
      unfold wh2 at k
      rw [hv] at k
      have := k.2 (ev_nz e 0 w oe.1 hv).1 h1 F1 V1
      unfold wv at this
      rw [if_neg (ev_16 e 0 w oe.1 hv)] at this
      exact this
    · rw [if_neg z] at k
      unfold wh2 at k
      rw [hv] at k
      dsimp only at k
      have S1 := FMd_St F1
      refine ss_X4_walk_155 S1 (ip b1 (im (by decide) ?_))
      obtain ⟨g1, g2, g3, g4⟩ := wo σ (c + 1) (by omega)
      dsimp only at g1 g2 g3
      by_cases v0 : v = 0
      · rw [if_pos v0] at k
        refine ip v0 ⟨by omega, ?_⟩
        have e2 : hI h1 132 (40 * r + b) = ((b + 1 + zc s : Nat) : Int) := by rw [FMk F1 hS (by decide) (by decide)]; exact (m1.2.2.2 (by show (1 : Nat) ≠ 0; decide)).2.2.1
        rw [Int.toNat_natCast, e2, n1 (by omega), show b + 1 + zc s + 1 = b + zc (zB 115 e s) by omega]
        exact k.1 rfl h1 _ _ _ _ _ F1 V1
      · rw [if_neg v0] at k
        refine im v0 ?_
        rw [n1 (by omega)]
        refine Ps us d h1 σ (c + 1) (b + 1) (p + (zk e).length + 2) (P ++ (5, 15) :: (zk e ++ [(7, 123)])) ([(7, 125), (7, 59)] ++ S) _ _ _ _ _ _ Q S1 ((FMk F1 hS (by decide) (by decide)).trans hN) V1 (by omega) (MEs_FMd F1 hS m3) (RK_FMd F1 hS K2) l2.symm (by omega) hd ?_
        by_cases y : (wk L s true σ (c + 1)).1 = 0
        · rw [if_pos y] at k
          refine ⟨fun _ h2 w5 w6 w7 w8 w9 F2 V2 => ?_, fun z => absurd y z⟩
          have F12 := FMd_trans F1 F2
          have S2 := FMd_St F12
          have i5 : 40 * r + (b + 1 + zc s) < 400 := by omega
          have e7 : hI h2 127 (40 * r + (b + 1 + zc s)) = 30 := by rw [FMk F12 hS (by decide) (by decide)]; exact m5.1
          have e1 : hI h2 131 (40 * r + (b + 1 + zc s)) = (b : Nat) := by rw [FMk F12 hS (by decide) (by decide)]; exact (m5.2.2.2 (by show (3 : Nat) ≠ 0; decide)).2.1
          refine ss_X4_walk_46 S2 ⟨by omega, ?_⟩
          rw [Int.toNat_natCast, FMk F12 hS (by decide) (by decide), hN, ix40 hr (by omega), Int.toNat_natCast, e7, e1]
          refine ip (by omega) ⟨by omega, ip rfl ⟨by omega, ?_⟩⟩
          exact ih h2 _ _ _ _ _ _ _ S2 ((FMk F12 hS (by decide) (by decide)).trans hN) V2 g2 (MEs_FMd F12 hS me0) (RK_FMd F12 hS K0) (by omega) (WmQ_tr F12 k)
        · rw [if_neg y] at k
          exact ⟨fun z => absurd z y, fun z h2 F2 V2 => k.2 z h2 (FMd_trans F1 F2) V2⟩
theorem m_walks {L r N : Nat} (hr : r < 10) (hN4 : N ≤ 40) (hL : L ≤ 400) : ∀ t : zT, (okS t 0 → Pw L r N t) ∧ (okS t 1 → Pw L r N t) := by
  have H := ok_ind (P0 := Pw L r N) (P1 := Pw L r N)
    (fun v u d h σ c b p P S u' v5 v6 v7 v8 v9 Q hS hN V hc me K hp hb hd k => k.1 rfl h _ _ _ _ _ (FMd_refl hS) V)
    (fun s t o1 o2 i1 i2 u d h σ c b p P S u' v5 v6 v7 v8 v9 Q hS hN V hc me K hp hb hd k => by
      rw [zi_150] at me
      obtain ⟨m1, m2⟩ := MEs_sp me
      rw [(zi_len s).2 o1] at m2
      rw [zk_150] at K
      have K1 := K
      rw [List.append_assoc] at K1
      rw [show P ++ (zk s ++ zk t ++ S) = (P ++ zk s) ++ (zk t ++ S) by simp] at K
      rw [zc_150] at hb k
      obtain ⟨g1, g2, g3, g4⟩ := (wk_ok L s).2 o1 u.1 σ c hc
      dsimp only at g1 g2 g3
      refine i1 u.1 d h σ c b p P (zk t ++ S) u' _ _ _ _ _ Q hS hN V hc m1 K1 hp (by omega) hd ?_
      rw [wk_150] at k
      by_cases y : (wk L s true σ c).1 = 0
      · rw [if_pos y] at k
        refine ⟨fun _ h1 w5 w6 w7 w8 w9 F1 V1 => ?_, fun z => absurd y z⟩
        rw [← Nat.add_assoc] at k
        exact i2 u.2 d h1 _ _ (b + zc s) (p + (zk s).length) (P ++ zk s) S u' _ _ _ _ _ Q (FMd_St F1) ((FMk F1 hS (by decide) (by decide)).trans hN) V1 g2 (MEs_FMd F1 hS m2) (RK_FMd F1 hS K) (by rw [List.length_append]; omega) (by omega) hd (WmQ_tr F1 k)
      · rw [if_neg y] at k
        exact ⟨fun z => absurd z y, fun z h1 F1 V1 => k.2 z h1 F1 V1⟩)
    (fun e a b e2 _ _ _ _ _ _ u => absurd (show true = false ∧ _ from u).1 (by decide))
    (fun e a b e2 _ _ _ _ _ _ u => absurd (show true = false ∧ _ from u).1 (by decide))
    (fun e s oe os is u d h σ c b p P S u' v5 v6 v7 v8 v9 Q hS hN V hc me K hp hb hd k => by
      have u2 : true = true ∧ zun true s := u
      rw [wk_115] at k
      exact mw_wh hr hN4 hL oe os is u2.2 ((wk_ok L s).1 os u2.2) hd hp hb (L + 1 - c) h σ c _ _ _ _ _ hS hN V hc me K (by omega) k)
    (fun e s t oe os ot is it u d h σ c b p P S u' v5 v6 v7 v8 v9 Q hS hN V hc me K hp hb hd k => by
      have u2 : true = true ∧ zun true s ∧ zun true t := u
      have hzc := zc_wn e s t
      rw [zi_wn] at me
      obtain ⟨m1, m2⟩ := MEs_hd me
      obtain ⟨m3, m4⟩ := MEs_sp m2
      rw [(zi_len s).1 os] at m4
      obtain ⟨m5, m6⟩ := MEs_hd m4
      obtain ⟨m7, m8⟩ := MEs_sp m6
      rw [(zi_len t).1 ot] at m8
      have m9 := (MEs_hd m8).1
      rw [zk_wn] at K
      have K2 := K
      have K3 := K
      rw [show P ++ ((5, 16) :: (zk e ++ (7, 123) :: (zk s ++ (7, 125) :: (5, 9) :: (7, 123) :: (zk t ++ [(7, 125), (7, 59)]))) ++ S) = (P ++ [(5, 16)]) ++ (zk e ++ ((7, 123) :: (zk s ++ (7, 125) :: (5, 9) :: (7, 123) :: (zk t ++ [(7, 125), (7, 59)])) ++ S)) by simp] at K
      rw [show P ++ ((5, 16) :: (zk e ++ (7, 123) :: (zk s ++ (7, 125) :: (5, 9) :: (7, 123) :: (zk t ++ [(7, 125), (7, 59)]))) ++ S) = (P ++ (5, 16) :: (zk e ++ [(7, 123)])) ++ (zk s ++ ((7, 125) :: (5, 9) :: (7, 123) :: (zk t ++ [(7, 125), (7, 59)]) ++ S)) by simp] at K2
      rw [show P ++ ((5, 16) :: (zk e ++ (7, 123) :: (zk s ++ (7, 125) :: (5, 9) :: (7, 123) :: (zk t ++ [(7, 125), (7, 59)]))) ++ S) = (P ++ (5, 16) :: (zk e ++ (7, 123) :: (zk s ++ [(7, 125), (5, 9), (7, 123)]))) ++ (zk t ++ ([(7, 125), (7, 59)] ++ S)) by simp] at K3
      have l2 : (P ++ (5, 16) :: (zk e ++ [(7, 123)])).length = p + (zk e).length + 1 + 1 := by simp; omega
      have l3 : (P ++ (5, 16) :: (zk e ++ (7, 123) :: (zk s ++ [(7, 125), (5, 9), (7, 123)]))).length = p + (zk e).length + 1 + (zk s).length + 4 := by simp; omega
      have i4 : 40 * r + b < 400 := by omega
      rw [wk_116] at k
      refine mw_ev (D := 16) (q := p + 1) hS hr hN (by omega) hN4 hL hc V m1.1 (by decide) (m1.2.2.1.trans rfl) K (by simp; omega) (by simpa using nx123) oe hd (fun z => ?_) (fun z w h1 hv F1 V1 => ?_) (fun z v h1 hv F1 V1 b1 => ?_)
      · rw [if_pos z] at k
        exact k.2 (by show (16 : Nat) ≠ 0; decide) h (FMd_refl hS) V
      · rw [if_neg z] at k
        rw [hv] at k
        have := k.2 (ev_nz e 0 w oe.1 hv).1 h1 F1 V1
        unfold wv at this
        rw [if_neg (ev_16 e 0 w oe.1 hv)] at this
        exact this
      · rw [if_neg z] at k
        rw [hv] at k
        dsimp only at k
        have S1 := FMd_St F1
        have N1 : hI h1 126 r = (N : Nat) := (FMk F1 hS (by decide) (by decide)).trans hN
        refine ss_X4_walk_155 S1 (ip b1 (im (by decide) ?_))
        replace k := WmQ_tr F1 k
        by_cases v0 : v = 0
        · rw [if_pos v0] at k
          refine ip v0 ⟨by omega, ?_⟩
          have e2 : hI h1 132 (40 * r + b) = ((b + 1 + zc s : Nat) : Int) := by rw [FMk F1 hS (by decide) (by decide)]; exact (m1.2.2.2 (by show (1 : Nat) ≠ 0; decide)).2.2.1
          rw [Int.toNat_natCast, e2, n1 (by omega)]
          refine it u2.2.2 d h1 σ (c + 1) (b + 1 + zc s + 1) _ _ _ _ _ _ _ _ _ Q S1 N1 V1 (by omega) (MEs_FMd F1 hS m7) (RK_FMd F1 hS K3) l3.symm (by omega) hd ?_
          refine ⟨fun y h2 w5 w6 w7 w8 w9 F2 V2 => ?_, k.2⟩
          have F12 := FMd_trans F1 F2
          have S2 := FMd_St F12
          have i5 : 40 * r + (b + 1 + zc s + 1 + zc t) < 400 := by omega
          have e7 : hI h2 127 (40 * r + (b + 1 + zc s + 1 + zc t)) = 32 := by rw [FMk F12 hS (by decide) (by decide)]; exact m9.1
          refine ss_X4_walk_46 S2 ⟨by omega, ?_⟩
          rw [Int.toNat_natCast, FMk F12 hS (by decide) (by decide), hN, ix40 hr (by omega), Int.toNat_natCast, e7]
          refine ip (by omega) ⟨by omega, im (by decide) (im (by decide) (ip rfl ?_))⟩
          rw [n1 (by omega), show b + 1 + zc s + 1 + zc t + 1 = b + zc (zB 116 e (zB 119 s t)) by omega]
          exact k.1 y h2 _ _ _ _ _ F2 V2
        · rw [if_neg v0] at k
          refine im v0 ?_
          rw [n1 (by omega)]
          refine is u2.2.1 d h1 σ (c + 1) (b + 1) _ _ _ _ _ _ _ _ _ Q S1 N1 V1 (by omega) (MEs_FMd F1 hS m3) (RK_FMd F1 hS K2) l2.symm (by omega) hd ?_
          refine ⟨fun y h2 w5 w6 w7 w8 w9 F2 V2 => ?_, k.2⟩
          have F12 := FMd_trans F1 F2
          have S2 := FMd_St F12
          have i5 : 40 * r + (b + 1 + zc s) < 400 := by omega
          have e7 : hI h2 127 (40 * r + (b + 1 + zc s)) = 31 := by rw [FMk F12 hS (by decide) (by decide)]; exact m5.1
          have e3 : hI h2 133 (40 * r + (b + 1 + zc s)) = ((b + zc (zB 116 e (zB 119 s t)) - 1 : Nat) : Int) := by rw [FMk F12 hS (by decide) (by decide)]; exact (m5.2.2.2 (by show (2 : Nat) ≠ 0; decide)).2.2.2
          refine ss_X4_walk_46 S2 ⟨by omega, ?_⟩
          rw [Int.toNat_natCast, FMk F12 hS (by decide) (by decide), hN, ix40 hr (by omega), Int.toNat_natCast, e7, e3]
          refine ip (by omega) ⟨by omega, im (by decide) (ip rfl ⟨by omega, ?_⟩)⟩
          rw [n1 (by omega), show b + zc (zB 116 e (zB 119 s t)) - 1 + 1 = b + zc (zB 116 e (zB 119 s t)) by omega]
          exact k.1 y h2 _ _ _ _ _ F2 V2)
    (fun k l rr h1 u d h σ c b p P S u' v5 v6 v7 v8 v9 Q hS hN V hc me K hp hb hd kq => by
      have k114 : k = 114 := by
        by_cases q : k = 114
        · exact q
        · exfalso
          have hk := ok1_k h1
          unfold zun at u
          rw [if_neg (by omega), if_neg (by omega), if_neg (by omega), if_neg (by omega), if_neg q] at u
          cases u
      subst k114
      obtain ⟨x, el, hx, oe⟩ : ∃ x, l = zL x ∧ x < 26 ∧ okE rr := by
        rcases h1 with ⟨-, ⟨x, y1, y3⟩, y2, -⟩ | ⟨y, -⟩ | ⟨y, -⟩ | ⟨y, -⟩ | ⟨y, -⟩ | ⟨y, -⟩
        · exact ⟨x, y1, y3, y2⟩
        · omega
        · omega
        · omega
        · omega
        · omega
      rw [zi_one h1] at me
      have m1 := (MEs_hd me).1
      clear h1
      subst el
      have hzc : zc (zB 114 (zL x) rr) = 1 := rfl
      have tq : (P ++ (zk (zB 114 (zL x) rr) ++ S))[p + 1]? = some (1, x) := by rw [hp, at_app]; rfl
      have K0 := K
      have eK : P ++ (zk (zB 114 (zL x) rr) ++ S) = (P ++ [(5, 14), (1, x), (7, 61)]) ++ (zk rr ++ ((7, 59) :: S)) := by
        show P ++ (((5, 14) :: (1, x) :: (7, 61) :: (zk rr ++ [(7, 59)])) ++ S) = _
        simp
      rw [eK] at K
      rw [wk_114] at kq
      have i4 : 40 * r + b < 400 := by omega
      refine mw_ev (D := 14) (q := p + 3) hS hr hN (by omega) hN4 hL hc V m1.1 (by decide) (m1.2.2.1.trans rfl) K (by simp; omega) nx59 oe hd (fun z => ?_) (fun z w h1 hv F1 V1 => ?_) (fun z v h1 hv F1 V1 b1 => ?_)
      · rw [if_pos z] at kq
        exact kq.2 (by show (16 : Nat) ≠ 0; decide) h (FMd_refl hS) V
      · rw [if_neg z] at kq
        rw [hv] at kq
        have := kq.2 (ev_nz rr 0 w oe.1 hv).1 h1 F1 V1
        unfold wv at this
        rw [if_neg (ev_16 rr 0 w oe.1 hv)] at this
        exact this
      · rw [if_neg z] at kq
        rw [hv] at kq
        have S1 := FMd_St F1
        have e8 : hI h1 128 (40 * r + b) = ((p + 1 : Nat) : Int) := by rw [FMk F1 hS (by decide) (by decide)]; exact m1.2.1
        obtain ⟨t1, t2, t3, t4⟩ := tk_at hr (RK_FMd F1 hS K0) tq
        refine ss_X4_walk_155 S1 (ip b1 (ip rfl ⟨by omega, ?_⟩))
        have t3' : hI h1 125 (1600 * r + (p + 1)) = ((x : Nat) : Int) := t3
        rw [Int.toNat_natCast, e8, t1, Int.toNat_natCast, t3', Int.toNat_natCast, shl1 x (by omega), n1 (by omega)]
        refine ⟨r16 hr t4, r26 hx, ?_⟩
        obtain ⟨⟨th, a1, a2, a3⟩, -⟩ := id V1
        have p26 : 2 ^ x < 2 ^ 26 := Nat.pow_lt_pow_right (by decide) hx
        rw [a2, or_nat (by omega) (by omega)]
        refine kq.1 rfl _ _ _ _ _ _ (FMd_sI (FMd_sI F1 (by unfold pMd; omega)) (by unfold pMd; omega)) (MV_nv (t := true) V1 (Nat.or_lt_two_pow a1 p26) (fun j hj => ?_) (fun _ => rfl))
        rw [Nat.testBit_or, Nat.testBit_two_pow]
        by_cases ej : j = x
        · rw [if_pos ej, decide_eq_true ej.symm, Bool.or_true]
        · rw [if_neg ej, decide_eq_false (fun z => ej z.symm), Bool.or_false, a3 j hj])
  exact fun t => ⟨(H t).1, (H t).2.1⟩
