/-! m's turns -/
def lcT (r f e w : Nat) (v2 : Int) (w7 w8 w9 w10 : av) : List av := [vR (some 116), vI (r : Nat), vI v2, vI (e : Nat), vI (w : Nat), vI ((24 - w : Nat) : Int), vI (f : Nat), w7, w8, w9, w10]
/-- one step -/
def MTS (s : zT) : Prop := ∀ (d r f e w : Nat) (v2 : Int) (w7 w8 w9 w10 : av) (h : hp) (ts P B T : List (Nat × Nat)) (Q : qt), St h → r < 10 → RK h r ts → ts = P ++ (zk s ++ B) → f = P.length → f + (zk s).length ≤ e → Nt h T → T.length + (zks (ztt s w).1).length ≤ 1600 → w + zbr s ≤ 5 → 3 * zbr s + 11 ≤ d → (∀ h' w7 w8 w9 w10, FEm h h' → Nt h' (T ++ zks (ztt s w).1) → Wp d C_X4_turns Q 10 (lcT r (f + (zk s).length) e w v2 w7 w8 w9 w10) [] h') → Wp d C_X4_turns Q 10 (lcT r f e w v2 w7 w8 w9 w10) [] h
/-- all steps -/
def MTL (t : zT) : Prop := ∀ (d r f w : Nat) (v2 : Int) (w7 w8 w9 w10 : av) (h : hp) (ts P B T : List (Nat × Nat)) (Q : qt), St h → r < 10 → RK h r ts → ts = P ++ (zk t ++ B) → f = P.length → Nt h T → T.length + (zks (ztt t w).1).length ≤ 1600 → w + zbr t ≤ 5 → 3 * zbr t + 11 ≤ d → (∀ h', FEm h h' → Nt h' (T ++ zks (ztt t w).1) → Q (.inl none) h') → Wp d C_X4_turns Q 10 (lcT r f (f + (zk t).length) w v2 w7 w8 w9 w10) [] h
theorem m_turns {d r f w : Nat} {Q : qt} {h : hp} {ts P B T : List (Nat × Nat)} {t : zT} (m : MTL t) (hS : St h) (hr : r < 10) (hK : RK h r ts) (et : ts = P ++ (zk t ++ B)) (ef : f = P.length) (N : Nt h T) (hl : T.length + (zks (ztt t w).1).length ≤ 1600) (hw : w + zbr t ≤ 5) (hd : 3 * zbr t + 11 ≤ d) (k : ∀ h', FEm h h' → Nt h' (T ++ zks (ztt t w).1) → Q (.inl none) h') : Wc (d + 1) 166 [vR (some 116), vI (r : Nat), vI (f : Nat), vI ((f + (zk t).length : Nat) : Int), vI (w : Nat)] h Q := by
  refine se_X4_turns hS ?_
  rw [show n_sub 24 ((w : Nat) : Int) = ((24 - w : Nat) : Int) by rw [ns_eq (by omega) (by omega)]; omega]
  exact m d r f w _ _ _ _ _ h ts P B T Q hS hr hK et ef N hl hw hd k
theorem mt_150 {s t : zT} (os : okS s 1) (a : MTS s) (b : MTL t) : MTL (zB 150 s t) := by
  intro d r f w v2 w7 w8 w9 w10 h ts P B T Q hS hr hK et ef N hl hw hd k
  have hw' : w + max (zbr s) (zbr t) ≤ 5 := hw
  have hd' : 3 * max (zbr s) (zbr t) + 11 ≤ d := hd
  rw [ztt_150, zks_app] at hl k
  rw [List.length_append] at hl
  rw [zk_150] at et ⊢
  rw [List.length_append]
  refine a d r f _ w v2 w7 w8 w9 w10 h ts P (zk t ++ B) T Q hS hr hK (by rw [et, List.append_assoc]) ef (by omega) N (by omega) (by omega) (by omega) (fun h1 w7 w8 w9 w10 F1 N1 => ?_)
  rw [show f + ((zk s).length + (zk t).length) = f + (zk s).length + (zk t).length by omega]
  refine b d r _ w v2 w7 w8 w9 w10 h1 ts (P ++ zk s) B (T ++ zks (ztt s w).1) Q (FEm_St F1 hS) hr (FEm_RK F1 hK) (by rw [et]; simp) (by rw [ef]; simp) N1 (by rw [List.length_append]; omega) (by omega) (by omega) (fun h2 F2 N2 => k h2 (FI_trans F1 F2) ?_)
  rw [List.append_assoc] at N2
  exact N2
theorem mt_0 (v : Nat) : MTL (.leaf v) := by
  intro d r f w v2 w7 w8 w9 w10 h ts P B T Q hS hr hK et ef N hl hw hd k
  refine ss_X4_turns_10 hS (im (by show ¬ ((f : Nat) : Int) < ((f + 0 : Nat) : Int); omega) (k h (FI_refl h) ?_))
  show Nt h (T ++ [])
  rw [List.append_nil]
  exact N
theorem mt_114 {x : Nat} {e : zT} (hx : x < 26) (oe : okE e) (os : okS (zB 114 (zL x) e) 1) : MTS (zB 114 (zL x) e) := by
  intro d r f en w v2 w7 w8 w9 w10 h ts P B T Q hS hr hK et ef he N hl hw hd k
  have hk1 : zk (zB 114 (zL x) e) = (5, 14) :: (1, x) :: (7, 61) :: (zk e ++ [(7, 59)]) := zk_let (by omega) x e
  have et1 := et
  rw [hk1] at et he
  rw [ztt_114] at hl k
  have len : (zk (zB 114 (zL x) e)).length = (zk e).length + 4 := by rw [hk1]; simp
  simp only [List.length_append, List.length_cons, List.length_nil] at he
  have ftot : f + (zk e).length + 4 ≤ 1600 := by
    have := hK.1
    rw [et] at this
    simp only [List.length_append, List.length_cons, List.length_nil] at this
    omega
  obtain ⟨d, rfl⟩ : ∃ y, d = y + 11 := ⟨d - 11, by omega⟩
  have hi1 : (0 : Int) ≤ ((1600 * r + f : Nat) : Int) ∧ ((1600 * r + f : Nat) : Int) < 16000 := by omega
  have lt : ((f : Nat) : Int) < ((en : Nat) : Int) := by omega
  have se : ∀ K : Int → hp → Prop, K ((f + (zk (zB 114 (zL x) e)).length : Nat) : Int) h → cI (Wc (d + 11)) 156 [vR (some 116), vI (r : Nat), vI (f : Nat)] h K (fun e h' => Q (.inr e) h') := fun K kk => c_stepE hS hr hK os et1 ef kk
  have p49 : Wp (d + 11) C_X4_turns Q 49 [vR (some 116), vI (r : Nat), vI v2, vI (en : Nat), vI (w : Nat), vI ((24 - w : Nat) : Int), vI (f : Nat), vI ((14 : Nat) : Int), w8, w9, w10] [vI ((f + (zk (zB 114 (zL x) e)).length : Nat) : Int), vI (f : Nat), vI (r : Nat), vR (some 116)] h := by
    refine ss_X4_turns_49 hS ?_
    rw [len, show n_sub ((f + ((zk e).length + 4) : Nat) : Int) 1 = ((f + 3 + (zk e).length : Nat) : Int) by rw [ns_eq (by omega) (by omega)]; omega]
    refine m_tset (B := B) hS hr hK hx oe (by rw [et]; simp) ef N hl (fun h1 F1 N1 => ?_)
    have S1 := FEm_St F1 hS
    refine ss_X4_turns_54 S1 (ss_X4_turns_334 S1 (c_stepE S1 hr (FEm_RK F1 hK) os et1 ef (ss_X4_turns_341 S1 ?_)))
    exact k h1 _ _ _ _ F1 N1
  obtain ⟨t1, t2, t3, -⟩ := tk_at (q := f) (x := (5, 14)) hr hK (by rw [et, ef]; simp)
  refine ss_X4_turns_10 hS (ip lt ?_)
  rw [t1, Int.toNat_natCast, t3]
  exact ⟨hi1, ip rfl (se _ p49)⟩
theorem mt_115 {e s : zT} (oe : okE e) (ok : okS s 0) (os : okS (zB 115 e s) 1) (m : MTL s) : MTS (zB 115 e s) := by
  intro d r f en w v2 w7 w8 w9 w10 h ts P B T Q hS hr hK et ef he N hl hw hd k
  have et1 := et
  have hw' : w + (1 + zbr s) ≤ 5 := hw
  have hd' : 3 * (1 + zbr s) + 11 ≤ d := hd
  have len : (zk (zB 115 e s)).length = (zk e).length + (zk s).length + 4 := by rw [zk_wh]; simp; omega
  rw [zk_wh] at et
  rw [len] at he
  have ek : zks (ztt (zB 115 e s) w).1 = [(5, 0), (1, 24 - w), (7, 61), (2, 0), (7, 59), (5, 11), (7, 40), (1, 24 - w), (7, 61), (2, 0), (7, 41), (7, 123), (7, 125), (5, 12), (7, 123)] ++ (zks (ztt s (w + 1)).1 ++ ([(1, 24 - w), (6, 0), (2, 1), (7, 59), (7, 125), (5, 13), (7, 40)] ++ (zk e ++ [(7, 61), (2, 0), (7, 41), (7, 59), (5, 2), (1, 24 - w), (4, 3), (7, 59), (5, 1), (1, 24 - w), (7, 61), (2, 0), (7, 59)]))) := by
    rw [ztt_115]
    unfold zwh
    rw [zks_c, zks_c, zks_c, zks_c, zks_0, zk_fk (Or.inr ⟨rfl, rfl, rfl⟩), zk_push, zk_let (Or.inl rfl), zk_let (Or.inr (Or.inl rfl)), tk_num, zk_zol, zks_app, zks_c, zks_0, zk_cg (Or.inl rfl), zk_no, zk_no, tk_nam, tk_num, show zk (zL 0) = [] from rfl]
    simp [zw1, zw2]
  rw [ek] at hl k
  simp only [List.length_append, List.length_cons, List.length_nil] at hl
  have ftot : f + (zk e).length + (zk s).length + 4 ≤ 1600 := by
    have := hK.1
    rw [et] at this
    simp only [List.length_append, List.length_cons, List.length_nil] at this
    omega
  obtain ⟨d, rfl⟩ : ∃ y, d = y + 14 := ⟨d - 14, by omega⟩
  have nb : ∀ x ∈ (5, 15) :: zk e, nB x := mem_c (nB_1 (by decide)) (zkE_nB e 0 oe.1)
  have hi1 : (0 : Int) ≤ ((1600 * r + f : Nat) : Int) ∧ ((1600 * r + f : Nat) : Int) < 16000 := by omega
  have lt : ((f : Nat) : Int) < ((en : Nat) : Int) := by omega
  have S0 := hS
  have G0 : FEm h h := FI_refl h
  have N0 := N
  have fi : ∀ K : Int → hp → Prop, K ((f + (zk e).length + 1 : Nat) : Int) h → cI (Wc (d + 14)) 143 [vR (some 116), vI (r : Nat), vI (f : Nat), vI 123] h K (fun e h' => Q (.inr e) h') := fun K kk => by
    refine c_find (P := P) (A := (5, 15) :: zk e) (B := zk s ++ [(7, 125), (7, 59)] ++ B) hS hr hK (by rw [et]; simp) ef (Sk_nB nb).2.1 ?_
    rw [List.length_cons]
    exact kk
  have p66 : Wp (d + 14) C_X4_turns Q 66 [vR (some 116), vI (r : Nat), vI v2, vI (en : Nat), vI (w : Nat), vI ((24 - w : Nat) : Int), vI (f : Nat), vI ((15 : Nat) : Int), w8, w9, w10] [vI ((f + (zk e).length + 1 : Nat) : Int)] h := by
    refine ss_X4_turns_66 hS (c_closes (P := P ++ ((5, 15) :: zk e)) (A := zk s) (B := (7, 59) :: B) hS hr hK (by rw [et]; simp) (by rw [ef]; simp; omega) ((zk_br s).1 ok 1 (by decide)) ?_)
    rw [show ((f + (zk e).length + 1 + (zk s).length + 1 : Nat) : Int) = ((f + (zk e).length + 1 + 1 + (zk s).length : Nat) : Int) by omega]
    refine ss_X4_turns_75 S0 (e_let (kk := 0) (n := 24 - w) S0 N0 (by simp; omega) (fun h1 F1 N1 => ?_))
    have S1 := FEm_St F1 S0
    have G1 : FEm h h1 := FI_trans G0 F1
    refine ss_X4_turns_84 S1 ?_
    refine ip rfl ?_
    refine c_emitM (s := 2) (w := 0) S1 N1 (by simp; omega) (fun h2 F2 N2 => ?_)
    have S2 := FEm_St F2 S1
    have G2 : FEm h h2 := FI_trans G1 F2
    refine ss_X4_turns_97 S2 (e_sign (c := 59) S2 N2 (by simp; omega) (fun h3 F3 N3 => ?_))
    have S3 := FEm_St F3 S2
    have G3 : FEm h h3 := FI_trans G2 F3
    refine ss_X4_turns_103 S3 (c_emitM (s := 5) (w := 11) S3 N3 (by simp; omega) (fun h4 F4 N4 => ?_))
    have S4 := FEm_St F4 S3
    have G4 : FEm h h4 := FI_trans G3 F4
    refine ss_X4_turns_110 S4 (e_none (n := 24 - w) S4 N4 (by simp; omega) (fun h5 F5 N5 => ?_))
    have S5 := FEm_St F5 S4
    have G5 : FEm h h5 := FI_trans G4 F5
    refine ss_X4_turns_116 S5 (e_sign (c := 123) S5 N5 (by simp; omega) (fun h6 F6 N6 => ?_))
    have S6 := FEm_St F6 S5
    have G6 : FEm h h6 := FI_trans G5 F6
    refine ss_X4_turns_122 S6 (e_sign (c := 125) S6 N6 (by simp; omega) (fun h7 F7 N7 => ?_))
    have S7 := FEm_St F7 S6
    have G7 : FEm h h7 := FI_trans G6 F7
    refine ss_X4_turns_128 S7 (c_emitM (s := 5) (w := 12) S7 N7 (by simp; omega) (fun h8 F8 N8 => ?_))
    have S8 := FEm_St F8 S7
    have G8 : FEm h h8 := FI_trans G7 F8
    refine ss_X4_turns_135 S8 (e_sign (c := 123) S8 N8 (by simp; omega) (fun h9 F9 N9 => ?_))
    have S9 := FEm_St F9 S8
    have G9 : FEm h h9 := FI_trans G8 F9
    refine ss_X4_turns_141 S9 ?_
    rw [n1k (by omega), n1k (by omega)]
    refine m_turns (P := P ++ ((5, 15) :: (zk e ++ [(7, 123)]))) (B := (7, 125) :: (7, 59) :: B) m S9 hr (FEm_RK G9 hK) (by rw [et]; simp) (by rw [ef]; simp; omega) N9 (by simp; omega) (by omega) (by omega) (fun h10 F10 N10 => ?_)
    have S10 := FEm_St F10 S9
    have G10 : FEm h h10 := FI_trans G9 F10
    refine ss_X4_turns_156 S10 (c_emitM (s := 1) S10 N10 (by simp; omega) (fun h11 F11 N11 => ?_))
    have S11 := FEm_St F11 S10
    have G11 : FEm h h11 := FI_trans G10 F11
    refine ss_X4_turns_163 S11 (c_emitM (s := 6) (w := 0) S11 N11 (by simp; omega) (fun h12 F12 N12 => ?_))
    have S12 := FEm_St F12 S11
    have G12 : FEm h h12 := FI_trans G11 F12
    refine ss_X4_turns_170 S12 (c_emitM (s := 2) (w := 1) S12 N12 (by simp; omega) (fun h13 F13 N13 => ?_))
    have S13 := FEm_St F13 S12
    have G13 : FEm h h13 := FI_trans G12 F13
    refine ss_X4_turns_176 S13 (e_sign (c := 59) S13 N13 (by simp; omega) (fun h14 F14 N14 => ?_))
    have S14 := FEm_St F14 S13
    have G14 : FEm h h14 := FI_trans G13 F14
    refine ss_X4_turns_182 S14 (e_sign (c := 125) S14 N14 (by simp; omega) (fun h15 F15 N15 => ?_))
    have S15 := FEm_St F15 S14
    have G15 : FEm h h15 := FI_trans G14 F15
    refine ss_X4_turns_188 S15 (c_emitM (s := 5) (w := 13) S15 N15 (by simp; omega) (fun h16 F16 N16 => ?_))
    have S16 := FEm_St F16 S15
    have G16 : FEm h h16 := FI_trans G15 F16
    refine ss_X4_turns_195 S16 ?_
    rw [n1k (by omega)]
    refine e_noneOf (P := P ++ [(5, 15)]) (A := zk e) (B := (7, 123) :: (zk s ++ [(7, 125), (7, 59)]) ++ B) S16 hr (FEm_RK G16 hK) (by rw [et]; simp) (by rw [ef]; simp) (by omega) N16 (by simp; omega) (fun h17 F17 N17 => ?_)
    have S17 := FEm_St F17 S16
    have G17 : FEm h h17 := FI_trans G16 F17
    refine ss_X4_turns_206 S17 ?_
    refine ss_X4_turns_316 S17 ?_
    refine e_sign (c := 59) S17 N17 (by simp; omega) (fun h18 F18 N18 => ?_)
    have S18 := FEm_St F18 S17
    have G18 : FEm h h18 := FI_trans G17 F18
    refine ss_X4_turns_322 S18 (e_push (n := 24 - w) S18 N18 (by simp; omega) (fun h19 F19 N19 => ?_))
    have S19 := FEm_St F19 S18
    have G19 : FEm h h19 := FI_trans G18 F19
    refine ss_X4_turns_328 S19 (e_gone (n := 24 - w) S19 N19 (by simp; omega) (fun h20 F20 N20 => ?_))
    have S20 := FEm_St F20 S19
    have G20 : FEm h h20 := FI_trans G19 F20
    refine ss_X4_turns_334 S20 (c_stepE S20 hr (FEm_RK G20 hK) os et1 ef (ss_X4_turns_341 S20 ?_))
    refine k h20 _ _ _ _ G20 ?_
    simp only [List.append_assoc, List.cons_append, List.nil_append] at N20 ⊢
    exact N20
  obtain ⟨t1, t2, t3, -⟩ := tk_at (q := f) (x := (5, 15)) hr hK (by rw [et, ef]; simp)
  refine ss_X4_turns_10 hS (ip lt ?_)
  rw [t1, Int.toNat_natCast, t3]
  exact ⟨hi1, im (by show ¬ ((15 : Nat) : Int) = 14; decide) (fi _ p66)⟩
theorem mt_116 {e s t : zT} (oe : okE e) (oks : okS s 0) (okt : okS t 0) (os : okS (zB 116 e (zB 119 s t)) 1) (ms : MTL s) (mt : MTL t) : MTS (zB 116 e (zB 119 s t)) := by
  intro d r f en w v2 w7 w8 w9 w10 h ts P B T Q hS hr hK et ef he N hl hw hd k
  have et1 := et
  have hw' : w + (1 + max (zbr s) (zbr t)) ≤ 5 := hw
  have hd' : 3 * (1 + max (zbr s) (zbr t)) + 11 ≤ d := hd
  have len : (zk (zB 116 e (zB 119 s t))).length = (zk e).length + (zk s).length + (zk t).length + 7 := by rw [zk_wn]; simp; omega
  rw [zk_wn] at et
  rw [len] at he
  have ek : zks (ztt (zB 116 e (zB 119 s t)) w).1 = [(5, 0), (1, 24 - w), (7, 61), (7, 40)] ++ (zk e ++ ([(7, 61), (2, 0), (7, 41), (7, 59), (5, 8), (7, 40), (1, 24 - w), (7, 61), (2, 0), (7, 41), (7, 123)] ++ (zks (ztt s (w + 1)).1 ++ ([(7, 125), (5, 9), (7, 123)] ++ (zks (ztt t (w + 1)).1 ++ [(7, 125), (5, 10), (7, 40), (1, 24 - w), (7, 61), (2, 0), (7, 41), (7, 59), (5, 2), (1, 24 - w), (4, 3), (7, 59), (5, 1), (1, 24 - w), (7, 61), (2, 0), (7, 59)]))))) := by
    rw [ztt_116]
    unfold zwn
    rw [zks_c, zks_c, zks_c, zks_c, zks_0, zk_fk (Or.inl ⟨rfl, rfl, rfl⟩), zk_push, zk_let (Or.inl rfl), zk_let (Or.inr (Or.inl rfl)), tk_num, zk_zol, zk_zol, zk_no, zk_no, tk_nam]
    simp [zw1, zw2]
  rw [ek] at hl k
  simp only [List.length_append, List.length_cons, List.length_nil] at hl
  have ftot : f + (zk e).length + (zk s).length + (zk t).length + 7 ≤ 1600 := by
    have := hK.1
    rw [et] at this
    simp only [List.length_append, List.length_cons, List.length_nil] at this
    omega
  obtain ⟨d, rfl⟩ : ∃ y, d = y + 14 := ⟨d - 14, by omega⟩
  have nb : ∀ x ∈ (5, 16) :: zk e, nB x := mem_c (nB_1 (by decide)) (zkE_nB e 0 oe.1)
  have hi1 : (0 : Int) ≤ ((1600 * r + f : Nat) : Int) ∧ ((1600 * r + f : Nat) : Int) < 16000 := by omega
  have lt : ((f : Nat) : Int) < ((en : Nat) : Int) := by omega
  have S0 := hS
  have G0 : FEm h h := FI_refl h
  have N0 := N
  have fi : ∀ K : Int → hp → Prop, K ((f + (zk e).length + 1 : Nat) : Int) h → cI (Wc (d + 14)) 143 [vR (some 116), vI (r : Nat), vI (f : Nat), vI 123] h K (fun e h' => Q (.inr e) h') := fun K kk => by
    refine c_find (P := P) (A := (5, 16) :: zk e) (B := zk s ++ (7, 125) :: (5, 9) :: (7, 123) :: (zk t ++ [(7, 125), (7, 59)]) ++ B) hS hr hK (by rw [et]; simp) ef (Sk_nB nb).2.1 ?_
    rw [List.length_cons]
    exact kk
  have p66 : Wp (d + 14) C_X4_turns Q 66 [vR (some 116), vI (r : Nat), vI v2, vI (en : Nat), vI (w : Nat), vI ((24 - w : Nat) : Int), vI (f : Nat), vI ((16 : Nat) : Int), w8, w9, w10] [vI ((f + (zk e).length + 1 : Nat) : Int)] h := by
    refine ss_X4_turns_66 hS (c_closes (P := P ++ ((5, 16) :: zk e)) (A := zk s) (B := (5, 9) :: (7, 123) :: (zk t ++ [(7, 125), (7, 59)]) ++ B) hS hr hK (by rw [et]; simp) (by rw [ef]; simp; omega) ((zk_br s).1 oks 1 (by decide)) ?_)
    rw [show ((f + (zk e).length + 1 + (zk s).length + 1 : Nat) : Int) = ((f + (zk e).length + 1 + 1 + (zk s).length : Nat) : Int) by omega]
    refine ss_X4_turns_75 S0 (e_let (kk := 0) (n := 24 - w) S0 N0 (by simp; omega) (fun h1 F1 N1 => ?_))
    have S1 := FEm_St F1 S0
    have G1 : FEm h h1 := FI_trans G0 F1
    refine ss_X4_turns_84 S1 ?_
    refine im (by decide) ?_
    rw [show n_add ((f + (zk e).length + 1 + 1 + (zk s).length : Nat) : Int) 2 = ((f + (zk e).length + (zk s).length + 4 : Nat) : Int) by rw [na_eq (by omega) (by omega)]; omega]
    refine c_closes (P := P ++ ((5, 16) :: (zk e ++ (7, 123) :: (zk s ++ [(7, 125), (5, 9)])))) (A := zk t) (B := (7, 59) :: B) S1 hr (FEm_RK G1 hK) (by rw [et]; simp) (by rw [ef]; simp; omega) ((zk_br t).1 okt 1 (by decide)) ?_
    rw [show ((f + (zk e).length + (zk s).length + 4 + (zk t).length + 1 : Nat) : Int) = ((f + (zk e).length + (zk s).length + 5 + (zk t).length : Nat) : Int) by omega]
    refine ss_X4_turns_218 S1 ?_
    rw [n1k (by omega)]
    refine e_noneOf (P := P ++ [(5, 16)]) (A := zk e) (B := (7, 123) :: (zk s ++ (7, 125) :: (5, 9) :: (7, 123) :: (zk t ++ [(7, 125), (7, 59)])) ++ B) S1 hr (FEm_RK G1 hK) (by rw [et]; simp) (by rw [ef]; simp) (by omega) N1 (by simp; omega) (fun h2 F2 N2 => ?_)
    have S2 := FEm_St F2 S1
    have G2 : FEm h h2 := FI_trans G1 F2
    refine ss_X4_turns_231 S2 (e_sign (c := 59) S2 N2 (by simp; omega) (fun h3 F3 N3 => ?_))
    have S3 := FEm_St F3 S2
    have G3 : FEm h h3 := FI_trans G2 F3
    refine ss_X4_turns_237 S3 (c_emitM (s := 5) (w := 8) S3 N3 (by simp; omega) (fun h4 F4 N4 => ?_))
    have S4 := FEm_St F4 S3
    have G4 : FEm h h4 := FI_trans G3 F4
    refine ss_X4_turns_244 S4 (e_none (n := 24 - w) S4 N4 (by simp; omega) (fun h5 F5 N5 => ?_))
    have S5 := FEm_St F5 S4
    have G5 : FEm h h5 := FI_trans G4 F5
    refine ss_X4_turns_250 S5 (e_sign (c := 123) S5 N5 (by simp; omega) (fun h6 F6 N6 => ?_))
    have S6 := FEm_St F6 S5
    have G6 : FEm h h6 := FI_trans G5 F6
    refine ss_X4_turns_256 S6 ?_
    rw [n1k (by omega), n1k (by omega)]
    refine m_turns (P := P ++ ((5, 16) :: (zk e ++ [(7, 123)]))) (B := (7, 125) :: (5, 9) :: (7, 123) :: (zk t ++ [(7, 125), (7, 59)]) ++ B) ms S6 hr (FEm_RK G6 hK) (by rw [et]; simp) (by rw [ef]; simp; omega) N6 (by simp; omega) (by omega) (by omega) (fun h7 F7 N7 => ?_)
    have S7 := FEm_St F7 S6
    have G7 : FEm h h7 := FI_trans G6 F7
    refine ss_X4_turns_271 S7 ?_
    rw [show n_add ((f + (zk e).length + 1 + 1 + (zk s).length : Nat) : Int) 3 = ((f + (zk e).length + 1 + 1 + (zk s).length + 3 : Nat) : Int) by rw [na_eq (by omega) (by omega)]; omega]
    refine c_copies (P := P ++ ((5, 16) :: (zk e ++ (7, 123) :: zk s))) (A := [(7, 125), (5, 9), (7, 123)]) (B := zk t ++ [(7, 125), (7, 59)] ++ B) S7 hr (FEm_RK G7 hK) (by rw [et]; simp) (by rw [ef]; simp; omega) (by simp) N7 (by simp; omega) (fun h8 F8 N8 => ?_)
    have S8 := FEm_St F8 S7
    have G8 : FEm h h8 := FI_trans G7 F8
    refine ss_X4_turns_282 S8 ?_
    rw [n1k (by omega), show n_add ((f + (zk e).length + 1 + 1 + (zk s).length : Nat) : Int) 3 = ((f + (zk e).length + (zk s).length + 5 : Nat) : Int) by rw [na_eq (by omega) (by omega)]; omega]
    refine m_turns (P := P ++ ((5, 16) :: (zk e ++ (7, 123) :: (zk s ++ [(7, 125), (5, 9), (7, 123)])))) (B := (7, 125) :: (7, 59) :: B) mt S8 hr (FEm_RK G8 hK) (by rw [et]; simp) (by rw [ef]; simp; omega) N8 (by simp; omega) (by omega) (by omega) (fun h9 F9 N9 => ?_)
    have S9 := FEm_St F9 S8
    have G9 : FEm h h9 := FI_trans G8 F9
    refine ss_X4_turns_297 S9 (e_sign (c := 125) S9 N9 (by simp; omega) (fun h10 F10 N10 => ?_))
    have S10 := FEm_St F10 S9
    have G10 : FEm h h10 := FI_trans G9 F10
    refine ss_X4_turns_303 S10 (c_emitM (s := 5) (w := 10) S10 N10 (by simp; omega) (fun h11 F11 N11 => ?_))
    have S11 := FEm_St F11 S10
    have G11 : FEm h h11 := FI_trans G10 F11
    refine ss_X4_turns_310 S11 (e_none (n := 24 - w) S11 N11 (by simp; omega) (fun h12 F12 N12 => ?_))
    have S12 := FEm_St F12 S11
    have G12 : FEm h h12 := FI_trans G11 F12
    refine ss_X4_turns_316 S12 (e_sign (c := 59) S12 N12 (by simp; omega) (fun h13 F13 N13 => ?_))
    have S13 := FEm_St F13 S12
    have G13 : FEm h h13 := FI_trans G12 F13
    refine ss_X4_turns_322 S13 (e_push (n := 24 - w) S13 N13 (by simp; omega) (fun h14 F14 N14 => ?_))
    have S14 := FEm_St F14 S13
    have G14 : FEm h h14 := FI_trans G13 F14
    refine ss_X4_turns_328 S14 (e_gone (n := 24 - w) S14 N14 (by simp; omega) (fun h15 F15 N15 => ?_))
    have S15 := FEm_St F15 S14
    have G15 : FEm h h15 := FI_trans G14 F15
    refine ss_X4_turns_334 S15 (c_stepE S15 hr (FEm_RK G15 hK) os et1 ef (ss_X4_turns_341 S15 ?_))
    refine k h15 _ _ _ _ G15 ?_
    simp only [List.append_assoc, List.cons_append, List.nil_append] at N15 ⊢
    exact N15
  obtain ⟨t1, t2, t3, -⟩ := tk_at (q := f) (x := (5, 16)) hr hK (by rw [et, ef]; simp)
  refine ss_X4_turns_10 hS (ip lt ?_)
  rw [t1, Int.toNat_natCast, t3]
  exact ⟨hi1, im (by show ¬ ((16 : Nat) : Int) = 14; decide) (fi _ p66)⟩
theorem mt_all : ∀ t : zT, (okS t 0 → zun true t → MTL t) ∧ (okS t 1 → zun true t → okS t 1 ∧ MTS t) := by
  have H := ok_ind (P0 := fun t => zun true t → MTL t) (P1 := fun t => zun true t → okS t 1 ∧ MTS t)
    (fun v _ => mt_0 v)
    (fun s t _ _ a b u => mt_150 (a (zun_150 u).1).1 (a (zun_150 u).1).2 (b (zun_150 u).2))
    (fun e s t e2 _ _ _ _ _ _ u => absurd (zun_fk (Or.inl ⟨rfl, rfl, rfl⟩) u).1 (by decide))
    (fun e s t e2 _ _ _ _ _ _ u => absurd (zun_fk (Or.inr ⟨rfl, rfl, rfl⟩) u).1 (by decide))
    (fun e s oe o a u => by
      have os : okS (zB 115 e s) 1 := ⟨oe, o⟩
      exact ⟨os, mt_115 oe o os (a (zun_wh u).2)⟩)
    (fun e s t oe o1 o2 a b u => by
      have u' : true = true ∧ (zun true s ∧ zun true t) := u
      have os : okS (zB 116 e (zB 119 s t)) 1 := ⟨oe, rfl, o1, o2⟩
      exact ⟨os, mt_116 oe o1 o2 os (a u'.2.1) (b u'.2.2)⟩)
    (fun k l r o u => by
      have e := zun_1 o u
      have k4 : k = 114 := of_decide_eq_true e.symm
      subst k4
      have os := (ok1_S o).1
      refine ⟨os, ?_⟩
      rcases o with ⟨q, ⟨x, el, hx⟩, oe, -⟩ | ⟨q, -⟩ | ⟨q, -⟩ | ⟨q, -⟩ | ⟨q, -⟩ | ⟨q, -⟩
      · subst el
        exact mt_114 hx oe os
      all_goals omega)
  exact fun t => ⟨(H t).1, (H t).2.1⟩
