/-! type, take -/
theorem Tx_keep {h h' : hp} {a : Nat} : ∀ {u : List Int} {p : Nat}, (∀ j, p ≤ j → j < p + u.length → hI h' a j = hI h a j) → Tx h a p u → Tx h' a p u := by
  intro u
  induction u with
  | nil => intro p _ _; trivial
  | cons c u ih =>
    intro p e z
    refine ⟨(e p (Nat.le_refl _) (by simp)).trans z.1, ih (fun j j1 j2 => e j (by omega) (by simp; omega)) z.2⟩
theorem Tx_one {h : hp} {a : Nat} {c : Int} : ∀ {u : List Int} {p : Nat}, Tx h a p u → hI h a (p + u.length) = c → Tx h a p (u ++ [c]) := by
  intro u
  induction u with
  | nil => intro p _ e; exact ⟨e, trivial⟩
  | cons b u ih =>
    intro p z e
    exact ⟨z.1, ih z.2 (by rw [List.length_cons] at e; rw [show p + 1 + u.length = p + (u.length + 1) by omega]; exact e)⟩
theorem Tx_push {h : hp} {a o j : Nat} {c y : Int} {u : List Int} (ho : o ≠ a) (z : Tx h a 0 u) : Tx (sI (sI h a u.length c) o j y) a 0 (u ++ [c]) := by
  refine Tx_one (Tx_keep (fun i i1 i2 => ?_) z) ?_
  · rw [hI_sI, if_neg (fun q => ho q.1.symm), hI_sI, if_neg (by omega)]
  · rw [hI_sI, if_neg (fun q => ho q.1.symm), hI_sI, if_pos ⟨rfl, by omega⟩]
/-- the byte, as it is looked at and as it is typed -/
def tb (v : Int) (j : Nat) : Int := l_and (l_shr v ((8 * j : Nat) : Int)) 255
def bb (v : Int) (j : Nat) : Int := n_i2b (n_i2b (l_l2i (l_shr v ((8 * j : Nat) : Int))))
theorem tb_rg (v : Int) (j : Nat) : 0 ≤ tb v j ∧ tb v j < 256 := by
  unfold tb
  have := land_eq (v := l_shr v ((8 * j : Nat) : Int)) (n := 8) (by decide)
  rw [show (255 : Int) = ((2 ^ 8 - 1 : Nat) : Int) by decide, this]
  show 0 ≤ _ % (256 : Int) ∧ _ % (256 : Int) < 256
  omega
theorem bb_tb {v : Int} {j : Nat} (h : 32 ≤ tb v j ∧ tb v j ≤ 126) : bb v j = tb v j := by
  have e := land_eq (v := l_shr v ((8 * j : Nat) : Int)) (n := 8) (by decide)
  have e2 : tb v j = l_shr v ((8 * j : Nat) : Int) % 256 := by unfold tb; rw [show (255 : Int) = ((2 ^ 8 - 1 : Nat) : Int) by decide, e]; rfl
  unfold bb
  rw [i2b_l, i2b_eq, Int.bmod_bmod, e2]
  rw [e2] at h
  rw [Int.bmod_def]
  split <;> omega
def vl (v : Int) (j : Nat) : Prop := 32 ≤ tb v j ∧ tb v j ≤ 126
def bl (v : Int) : Nat → List Int
  | 0 => []
  | k + 1 => bb v k :: bl v k
theorem bl_len (v : Int) : ∀ k, (bl v k).length = k := by
  intro k
  induction k with
  | zero => rfl
  | succ k ih => show (bl v k).length + 1 = k + 1; rw [ih]
theorem n8 {j : Nat} (h : j < 100) : n_mul 8 ((j : Nat) : Int) = ((8 * j : Nat) : Int) := by rw [nm_eq (by omega) (by omega)]; omega
/-- x looks at the bytes, from the last down -/
theorem x_tl {d : Nat} {Q : qt} {h : hp} {v : Int} {k : Int} (hS : St h) : ∀ j : Nat, j < 100 → (∀ i, i < j → vl v i) → Wp (d + 1) C_X0_type Q 19 [vR (some 68), vJ v, vU, vI k, vI (-1)] [] h → Wp (d + 1) C_X0_type Q 19 [vR (some 68), vJ v, vU, vI k, vI ((j : Nat) - 1 : Int)] [] h := by
  intro j
  induction j with
  | zero => intro _ _ k; exact k
  | succ j ih =>
    intro hj hv k
    refine ss_X0_type_19 hS (im (by omega) ?_)
    rw [show (((j + 1 : Nat) : Int) - 1) = ((j : Nat) : Int) by omega, n8 (by omega)]
    refine pu_isIn hS ?_
    refine ss_X0_type_44 hS ?_
    rw [rg_t (show 32 ≤ l_and (l_shr v ((8 * j : Nat) : Int)) 255 ∧ l_and (l_shr v ((8 * j : Nat) : Int)) 255 ≤ 126 from hv j (by omega))]
    refine im (by decide) ?_
    rw [na_eq (by omega) (by omega)]
    exact ih (by omega) (fun i hi => hv i (by omega)) k
theorem x_tf {d : Nat} {Q : qt} {h : hp} {v : Int} {k : Int} (hS : St h) (q : Q (.inl (some (vI (-1)))) h) : ∀ j : Nat, j < 100 → (∃ i, i < j ∧ ¬ vl v i) → Wp (d + 1) C_X0_type Q 19 [vR (some 68), vJ v, vU, vI k, vI ((j : Nat) - 1 : Int)] [] h := by
  intro j
  induction j with
  | zero => intro _ ⟨i, hi, _⟩; omega
  | succ j ih =>
    intro hj hv
    refine ss_X0_type_19 hS (im (by omega) ?_)
    rw [show (((j + 1 : Nat) : Int) - 1) = ((j : Nat) : Int) by omega, n8 (by omega)]
    refine pu_isIn hS ?_
    refine ss_X0_type_44 hS ?_
    by_cases y : vl v j
    · rw [rg_t (show 32 ≤ l_and (l_shr v ((8 * j : Nat) : Int)) 255 ∧ l_and (l_shr v ((8 * j : Nat) : Int)) 255 ≤ 126 from y)]
      refine im (by decide) ?_
      rw [na_eq (by omega) (by omega)]
      refine ih (by omega) ?_
      obtain ⟨i, hi, hn⟩ := hv
      refine ⟨i, ?_, hn⟩
      by_cases e : i = j
      · subst e; exact absurd y hn
      · omega
    · rw [rg_f (show ¬ (32 ≤ l_and (l_shr v ((8 * j : Nat) : Int)) 255 ∧ l_and (l_shr v ((8 * j : Nat) : Int)) 255 ≤ 126) from y)]
      exact ip rfl q
/-- m looks at them from the first on -/
theorem m_tl {d : Nat} {Q : qt} {h : hp} {v : Int} {k : Nat} (hS : St h) (hk : k < 100) (hv : ∀ i, i < k → vl v i) (z : Wp (d + 1) C_X4_type Q 15 [vR (some 116), vJ v, vU, vI (k : Nat), vI (k : Nat)] [] h) : ∀ c j : Nat, j + c = k → Wp (d + 1) C_X4_type Q 15 [vR (some 116), vJ v, vU, vI (k : Nat), vI (j : Nat)] [] h := by
  intro c
  induction c with
  | zero => intro j e; rw [show j = k by omega]; exact z
  | succ c ih =>
    intro j e
    refine ss_X4_type_15 hS (ip (by omega) ?_)
    rw [n8 (by omega), show l_l2i (l_and (l_shr v ((8 * j : Nat) : Int)) 255) = tb v j by have := tb_rg v j; exact s32_eq (by show _ ≤ tb v j; omega) (by show tb v j < _; omega)]
    refine pu_in hS ?_
    refine ss_X4_type_40 hS ?_
    rw [rg_t (hv j (by omega))]
    refine im (by decide) ?_
    rw [na_eq (by omega) (by omega)]
    exact ih (j + 1) (by omega)
theorem m_tf {d : Nat} {Q : qt} {h : hp} {v : Int} {k : Nat} (hS : St h) (hk : k < 100) (q : Q (.inl (some (vI (-1)))) h) : ∀ c j : Nat, j + c = k → (∃ i, j ≤ i ∧ i < k ∧ ¬ vl v i) → Wp (d + 1) C_X4_type Q 15 [vR (some 116), vJ v, vU, vI (k : Nat), vI (j : Nat)] [] h := by
  intro c
  induction c with
  | zero => intro j e ⟨i, h1, h2, _⟩; omega
  | succ c ih =>
    intro j e hv
    refine ss_X4_type_15 hS (ip (by omega) ?_)
    rw [n8 (by omega), show l_l2i (l_and (l_shr v ((8 * j : Nat) : Int)) 255) = tb v j by have := tb_rg v j; exact s32_eq (by show _ ≤ tb v j; omega) (by show tb v j < _; omega)]
    refine pu_in hS ?_
    refine ss_X4_type_40 hS ?_
    by_cases y : vl v j
    · rw [rg_t y]
      refine im (by decide) ?_
      rw [na_eq (by omega) (by omega)]
      refine ih (j + 1) (by omega) ?_
      obtain ⟨i, h1, h2, hn⟩ := hv
      refine ⟨i, ?_, h2, hn⟩
      by_cases e : i = j
      · subst e; exact absurd y hn
      · omega
    · rw [rg_f (show ¬ (32 ≤ tb v j ∧ tb v j ≤ 126) from y)]
      exact ip rfl q
def pTp (a j : Nat) : Prop := a = 69 ∨ (a = 68 ∧ j = 1)
def mTp (a j : Nat) : Prop := a = 117 ∨ (a = 116 ∧ j = 1)
theorem x_ty {d : Nat} {Q : qt} {v k0 : Int} : ∀ (k : Nat) (T : List Int) (h : hp), k < 100 → St h → Tq h 0 T → T.length + k ≤ 600 → (∀ i, i < k → vl v i) → (∀ h', FX pTp h h' → hU h' = hU h → Tq h' 0 (T ++ bl v k) → Q (.inl (some (vI ((T.length + k : Nat) : Int)))) h') → Wp d C_X0_type Q 75 [vR (some 68), vJ v, vU, vI k0, vI ((k : Nat) - 1 : Int)] [] h := by
  intro k
  induction k with
  | zero =>
    intro T h _ hS z hl hv q
    refine ss_X0_type_75 hS (ip (by omega) ?_)
    rw [z.1, Nat.zero_add]
    have := q h (FX_refl hS) rfl (by rw [show T ++ bl v 0 = T from List.append_nil T]; exact z)
    exact this
  | succ k ih =>
    intro T h hk hS z hl hv q
    refine ss_X0_type_75 hS (im (by omega) ?_)
    have e1 : hI h 68 1 = (T.length : Nat) := by rw [z.1, Nat.zero_add]
    rw [show (((k + 1 : Nat) : Int) - 1) = ((k : Nat) : Int) by omega, n8 (by omega), e1, Int.toNat_natCast]
    refine ⟨by omega, ?_⟩
    obtain ⟨h1, eh⟩ : ∃ h1, h1 = sI (sI h 69 T.length (bb v k)) 68 1 ((T.length + 1 : Nat) : Int) := ⟨_, rfl⟩
    have e2 : n_add (hI (sI h 69 T.length (n_i2b (n_i2b (l_l2i (l_shr v ((8 * k : Nat) : Int)))))) 68 1) 1 = ((T.length + 1 : Nat) : Int) := by rw [hI_sI, if_neg (by omega), e1, na_eq (by omega) (by omega)]; omega
    have F1 : FX pTp h h1 := by rw [eh]; exact FX_sI (FX_sI (FX_refl hS) (Or.inl (Or.inl rfl)) (by decide)) (Or.inl (Or.inr ⟨rfl, rfl⟩)) (by decide)
    have vk := hv k (by omega)
    have z1 : Tq h1 0 (T ++ [bb v k]) := by
      rw [eh]
      refine ⟨by rw [hI_sI, if_pos ⟨rfl, rfl⟩, List.length_append]; simp, by rw [List.length_append]; simp; omega, Tx_push (by decide) z.2.2.1, fun c hc => ?_⟩
      rcases List.mem_append.mp hc with y | y
      · exact z.2.2.2 c y
      · rw [List.mem_singleton.mp y, bb_tb vk]; exact vk
    have := ih (T ++ [bb v k]) h1 (by omega) F1.2.2.1 z1 (by rw [List.length_append]; simp; omega) (fun i hi => hv i (by omega)) (fun h' F' U' z' => ?_)
    · rw [show n_add ((k : Nat) : Int) (-1) = (k : Nat) - 1 by rw [na_eq (by omega) (by omega)]; omega, show n_add ((T.length : Nat) : Int) 1 = ((T.length + 1 : Nat) : Int) by rw [na_eq (by omega) (by omega)]; omega]
      rw [eh] at this
      exact this
    · have w := q h' (FX_trans F1 F') (U'.trans (by rw [eh]; rfl)) (by rw [List.append_assoc] at z'; exact z')
      rw [show (T ++ [bb v k]).length + k = T.length + (k + 1) by rw [List.length_append]; simp; omega]
      exact w
theorem m_ty {d : Nat} {Q : qt} {v k0 : Int} : ∀ (k : Nat) (T : List Int) (h : hp), k < 100 → St h → Mq h 0 T → T.length + k ≤ 600 → (∀ i, i < k → vl v i) → (∀ h', FX mTp h h' → hU h' = hU h → Mq h' 0 (T ++ bl v k) → Q (.inl (some (vI ((T.length + k : Nat) : Int)))) h') → Wp d C_X4_type Q 71 [vR (some 116), vJ v, vU, vI k0, vI ((k : Nat) - 1 : Int)] [] h := by
  intro k
  induction k with
  | zero =>
    intro T h _ hS z hl hv q
    refine ss_X4_type_71 hS (ip (by omega) ?_)
    rw [z.1, Nat.zero_add]
    have := q h (FX_refl hS) rfl (by rw [show T ++ bl v 0 = T from List.append_nil T]; exact z)
    exact this
  | succ k ih =>
    intro T h hk hS z hl hv q
    refine ss_X4_type_71 hS (im (by omega) ?_)
    have e1 : hI h 116 1 = (T.length : Nat) := by rw [z.1, Nat.zero_add]
    rw [show (((k + 1 : Nat) : Int) - 1) = ((k : Nat) : Int) by omega, n8 (by omega), e1, Int.toNat_natCast]
    refine ⟨by omega, ?_⟩
    obtain ⟨h1, eh⟩ : ∃ h1, h1 = sI (sI h 117 T.length (bb v k)) 116 1 ((T.length + 1 : Nat) : Int) := ⟨_, rfl⟩
    have e2 : n_add (hI (sI h 117 T.length (n_i2b (n_i2b (l_l2i (l_shr v ((8 * k : Nat) : Int)))))) 116 1) 1 = ((T.length + 1 : Nat) : Int) := by rw [hI_sI, if_neg (by omega), e1, na_eq (by omega) (by omega)]; omega
    have F1 : FX mTp h h1 := by rw [eh]; exact FX_sI (FX_sI (FX_refl hS) (Or.inl (Or.inl rfl)) (by decide)) (Or.inl (Or.inr ⟨rfl, rfl⟩)) (by decide)
    have vk := hv k (by omega)
    have z1 : Mq h1 0 (T ++ [bb v k]) := by
      rw [eh]
      refine ⟨by rw [hI_sI, if_pos ⟨rfl, rfl⟩, List.length_append]; simp, by rw [List.length_append]; simp; omega, Tx_push (by decide) z.2.2.1, fun c hc => ?_⟩
      rcases List.mem_append.mp hc with y | y
      · exact z.2.2.2 c y
      · rw [List.mem_singleton.mp y, bb_tb vk]; exact vk
    have := ih (T ++ [bb v k]) h1 (by omega) F1.2.2.1 z1 (by rw [List.length_append]; simp; omega) (fun i hi => hv i (by omega)) (fun h' F' U' z' => ?_)
    · rw [show n_add ((k : Nat) : Int) (-1) = (k : Nat) - 1 by rw [na_eq (by omega) (by omega)]; omega, show n_add ((T.length : Nat) : Int) 1 = ((T.length + 1 : Nat) : Int) by rw [na_eq (by omega) (by omega)]; omega]
      rw [eh] at this
      exact this
    · have w := q h' (FX_trans F1 F') (U'.trans (by rw [eh]; rfl)) (by rw [List.append_assoc] at z'; exact z')
      rw [show (T ++ [bb v k]).length + k = T.length + (k + 1) by rw [List.length_append]; simp; omega]
      exact w
theorem op_type {n : Nat} {h : hp} {v a : Int} (I : IN n h) : Pair 1 107 [vR (some 68), vJ v, vI a] [vR (some 116), vJ v, vI a] n h := by
  obtain ⟨⟨R, σ, K, w, T, F, O, L⟩, hS, x, m, g, u⟩ := I
  obtain ⟨x1, x2, x3, x4, x5, x6, x7, x8, x9⟩ := id x
  obtain ⟨m1, m2, m4, m5, m6, m7, m8, m9⟩ := id m
  dsimp only at x6 m6
  by_cases ha : 1 ≤ a ∧ a ≤ 8
  · obtain ⟨k, rfl⟩ : ∃ k : Nat, a = (k : Nat) := ⟨a.toNat, by omega⟩
    have hk : k < 100 := by omega
    have tl : T.length ≤ 600 := by have := x6.2.1; omega
    have e1 : hI h 68 1 = (T.length : Nat) := by rw [x6.1, Nat.zero_add]
    have es : n_sub ((k : Nat) : Int) 1 = (k : Nat) - 1 := ns_eq (by omega) (by omega)
    have xs : ∀ (d : Nat) (Q : qt), Wp (d + 1999) C_X0_type Q 19 [vR (some 68), vJ v, vU, vI (k : Nat), vI ((k : Nat) - 1 : Int)] [] h → Wc (d + 2000) 1 [vR (some 68), vJ v, vI (k : Nat)] h Q := by
      intro d Q z
      refine se_X0_type hS (pu_isIn hS ?_)
      refine ss_X0_type_9 hS ?_
      rw [rg_t ha, es]
      exact im (by decide) z
    have ms : ∀ (d : Nat) (h1 : hp) (Q : qt), St h1 → Wp (d + 1999) C_X4_type Q 15 [vR (some 116), vJ v, vU, vI (k : Nat), vI ((0 : Nat) : Int)] [] h1 → Wc (d + 2000) 107 [vR (some 116), vJ v, vI (k : Nat)] h1 Q := by
      intro d h1 Q S1 z
      refine se_X4_type S1 (pu_in S1 ?_)
      refine ss_X4_type_7 S1 ?_
      rw [rg_t ha]
      exact im (by decide) z
    by_cases hv : ∀ i, i < k → vl v i
    · by_cases hl : T.length + k ≤ 600
      · refine pair_of (s := (R, σ, K, w, T, F, O, L)) (vI ((T.length + k : Nat) : Int)) (R, σ, K, w, T ++ bl v k, F, O, L) True hS m u (fun d Q kk => xs d Q ?_) (fun d h1 Q S1 M1 X1 _ kk => ms d h1 Q S1 ?_)
        · refine x_tl hS k hk hv ?_
          refine ss_X0_type_19 hS (ip (by decide) ?_)
          rw [e1, na_eq (by omega) (by omega), es]
          refine im (by omega) ?_
          refine x_ty k T h hk hS x6 hl hv (fun h' F5 U5 z5 => ?_)
          exact kk h' (FX_mono F5 (fun c j _ z => by unfold pTp at z; unfold xpl; omega)) (by omega) ⟨Xc1_p F5 hS (fun j => by unfold pTp; omega) (fun c j c1 _ _ => by unfold pTp; omega) x1, Xc2_p F5 hS (fun c j hc => by unfold pTp; omega) (fun c j c1 _ _ _ => by unfold pTp; omega) x2, XFr_p F5 hS (by unfold pTp; omega) (by unfold pTp; omega) x3, XRu_p F5 hS (fun c j hc => by unfold pTp; omega) x4, Xc5_p F5 hS (by unfold pTp; omega) x5, z5, Xc7_p F5 hS (by unfold pTp; omega) (by unfold pTp; omega) x7, Xc8_p F5 hS (by unfold pTp; omega) (fun j => by unfold pTp; omega) x8, Xc9_p F5 hS (by unfold pTp; omega) x9⟩ trivial
        · obtain ⟨m1, m2, m4, m5, m6, m7, m8, m9⟩ := id M1
          dsimp only at m6
          refine m_tl S1 hk hv ?_ k 0 (by omega)
          refine ss_X4_type_15 S1 (im (by omega) ?_)
          rw [show hI h1 116 1 = (T.length : Nat) by rw [m6.1, Nat.zero_add], na_eq (by omega) (by omega), es]
          refine im (by omega) ?_
          refine m_ty k T h1 hk S1 m6 hl hv (fun h' F5 U5 z5 => ?_)
          exact kk h' (FX_mono F5 (fun c j _ z => by unfold mTp at z; unfold mpl; omega)) U5 ⟨Mc1_p F5 S1 (fun c j hc => by unfold mTp; omega) m1, MV_p2 F5 S1 (fun c j hc => by unfold mTp; omega) m2, MRu_p F5 S1 (fun c j hc => by unfold mTp; omega) m4, Mc5_p F5 S1 (by unfold mTp; omega) m5, z5, Mc7_p F5 S1 (by unfold mTp; omega) (by unfold mTp; omega) m7, Mc8_p F5 S1 (by unfold mTp; omega) (fun j => by unfold mTp; omega) m8, Mc9_p F5 S1 (by unfold mTp; omega) m9⟩ ⟨g.1, g.2.1, g.2.2⟩
      · refine pair_eq (vI (-3)) hS x m g u (fun d Q kk => xs d Q ?_) (fun d Q kk => ms d h Q hS ?_)
        · refine x_tl hS k hk hv ?_
          refine ss_X0_type_19 hS (ip (by decide) ?_)
          rw [e1, na_eq (by omega) (by omega)]
          exact ip (by omega) kk
        · refine m_tl hS hk hv ?_ k 0 (by omega)
          refine ss_X4_type_15 hS (im (by omega) ?_)
          rw [show hI h 116 1 = (T.length : Nat) by rw [m6.1, Nat.zero_add], na_eq (by omega) (by omega)]
          exact ip (by omega) kk
    · have hv2 : ∃ i, i < k ∧ ¬ vl v i := by
        refine Classical.byContradiction (fun c => hv (fun i hi => Classical.byContradiction (fun y => c ⟨i, hi, y⟩)))
      refine pair_eq (vI (-1)) hS x m g u (fun d Q kk => xs d Q (x_tf hS kk k hk hv2)) (fun d Q kk => ms d h Q hS (m_tf hS hk kk k 0 (by omega) ?_))
      obtain ⟨i, hi, hn⟩ := hv2
      exact ⟨i, Nat.zero_le _, hi, hn⟩
  · refine pair_eq (vI (-1)) hS x m g u (fun d Q k => ?_) (fun d Q k => ?_)
    · refine se_X0_type hS (pu_isIn hS ?_)
      refine ss_X0_type_9 hS ?_
      rw [rg_f ha]
      exact ip rfl k
    · refine se_X4_type hS (pu_in hS ?_)
      refine ss_X4_type_7 hS ?_
      rw [rg_f ha]
      exact ip rfl k
theorem Tx_of {h : hp} {a : Nat} : ∀ {u : List Int} {p : Nat}, (∀ j (hj : j < u.length), hI h a (p + j) = u[j]) → Tx h a p u := by
  intro u
  induction u with
  | nil => intro p _; trivial
  | cons c u ih =>
    intro p e
    refine ⟨e 0 (by simp), ih (fun j hj => ?_)⟩
    have := e (j + 1) (by simp; omega)
    rw [show p + 1 + j = p + (j + 1) by omega]
    exact this
theorem St_cpy3 {h : hp} (hS : St h) {a b sp dp n : Nat} (hb : 69 ≤ b ∧ b ≠ 71 ∧ b ≠ 75 ∧ b ≠ 78 ∧ b ≠ 116 ∧ (b < 85 ∨ 101 < b)) : St (hCpy h a b sp dp n) := by
  refine ⟨hS.1, hS.2.1, fun p hp => ?_, fun p hp => ?_, fun k hk => ?_⟩
  · have := rfL_ok p hp
    rw [hR_cpy, if_neg (by omega)]; exact hS.2.2.1 p hp
  · have h1 := sxL_lt p hp
    obtain ⟨e1, e2, e3, e4, e5⟩ := hS.2.2.2.1 p hp
    refine ⟨e1, by rw [hR_cpy, if_neg (by omega)]; exact e2, by rw [hI_cpy, if_neg (by omega)]; exact e3, e4, fun i hi => by rw [hI_cpy, if_neg (by omega)]; exact e5 i hi⟩
  · rw [hI_cpy, if_neg (by omega)]; exact hS.2.2.2.2 k hk
theorem FX_cpy {p : Nat → Nat → Prop} {h h' : hp} (F : FX p h h') {a b sp dp n : Nat} (hb : 69 ≤ b ∧ b ≠ 71 ∧ b ≠ 75 ∧ b ≠ 78 ∧ b ≠ 116 ∧ (b < 85 ∨ 101 < b)) (hp : ∀ j, p b j) : FX p h (hCpy h' a b sp dp n) := by
  obtain ⟨f1, f2, f3, f4⟩ := F
  refine ⟨f1, f2, St_cpy3 f3 hb, fun c hc => ⟨(f4 c hc).1, fun j => ?_⟩⟩
  by_cases e : c = b
  · exact Or.inl (e ▸ hp j)
  · rw [hI_cpy, hL_cpy, hR_cpy, if_neg (fun z => e z.1), if_neg (fun z => e z.1), if_neg (fun z => e z.1)]
    exact (f4 c hc).2 j
theorem i2b_ok {c : Int} (h : 32 ≤ c ∧ c ≤ 126) : n_i2b c = c := by
  rw [i2b_eq, Int.bmod_def]
  split <;> omega
theorem m_tk {d : Nat} {Q : qt} {O : List Int} (hO : O.length ≤ 600) (ok : okb O) : ∀ (c j : Nat) (h : hp), j + c = O.length → St h → Mc8 h O → (∀ i (hi : i < O.length), i < j → hI h 117 i = O[i]) → (∀ h', FX mTp h h' → hU h' = hU h → Mq h' 0 O → Q (.inl (some (vI (O.length : Nat)))) h') → Wp d C_X4_take Q 15 [vR (some 116), vI (j : Nat)] [] h := by
  intro c
  induction c with
  | zero =>
    intro j h e hS m8 hj q
    refine ss_X4_take_15 hS ?_
    rw [m8.1]
    refine im (by omega) ?_
    refine q _ (FX_sI (FX_refl hS) (Or.inl (Or.inr ⟨rfl, rfl⟩)) (by decide)) rfl ⟨by rw [hI_sI, if_pos ⟨rfl, rfl⟩, Nat.zero_add], by omega, Tx_of (fun i hi => ?_), ok⟩
    rw [hI_sI, if_neg (by omega), Nat.zero_add]
    exact hj i hi (by omega)
  | succ c ih =>
    intro j h e hS m8 hj q
    have hjl : j < O.length := by omega
    have gj := Tx_get j hjl m8.2
    rw [Nat.zero_add] at gj
    refine ss_X4_take_15 hS ?_
    rw [m8.1]
    refine ip (by omega) ⟨by omega, by omega, ?_⟩
    rw [Int.toNat_natCast, gj, i2b_ok (ok _ (List.getElem_mem hjl)), na_eq (by omega) (by omega)]
    have F1 : FX mTp h (sI h 117 j O[j]) := FX_sI (FX_refl hS) (Or.inl (Or.inl rfl)) (by decide)
    refine ih (j + 1) _ (by omega) F1.2.2.1 ⟨by rw [hI_sI, if_neg (by omega)]; exact m8.1, Tx_eq (fun i => by rw [hI_sI, if_neg (by omega)]) m8.2⟩ (fun i hi hij => ?_) (fun h' F' U' z' => q h' (FX_trans F1 F') (U'.trans rfl) z')
    rw [hI_sI]
    by_cases y : i = j
    · subst y; rw [if_pos ⟨rfl, rfl⟩]
    · rw [if_neg (fun z => y z.2)]; exact hj i hi (by omega)
theorem op_take {n : Nat} {h : hp} (I : IN n h) : Pair 54 152 [vR (some 68)] [vR (some 116)] n h := by
  obtain ⟨⟨R, σ, K, w, T, F, O, L⟩, hS, x, m, g, u⟩ := I
  obtain ⟨x1, x2, x3, x4, x5, x6, x7, x8, x9⟩ := id x
  dsimp only at x8
  have gO : okb O := g.2.2.2.1
  have gl : O.length ≤ 6000 := g.2.2.2.2
  by_cases hl : O.length ≤ 600
  · refine pair_of (s := (R, σ, K, w, T, F, O, L)) (vI (O.length : Nat)) (R, σ, K, w, O, F, O, L) True hS m u (fun d Q kk => ?_) (fun d h1 Q S1 M1 X1 _ kk => ?_)
    · refine se_X0_take hS ?_
      rw [x8.1]
      refine im (by omega) ⟨⟨by decide, by decide, by omega, ?_, ?_⟩, ?_⟩
      · rw [stt_82 hS]; show 0 + ((O.length : Nat) : Int) ≤ ((6000 : Nat) : Int); omega
      · rw [stt_69 hS]; show 0 + ((O.length : Nat) : Int) ≤ ((600 : Nat) : Int); omega
      · rw [Int.toNat_natCast]
        have F1 : FX pTp h (hCpy h 82 69 0 0 O.length) := FX_cpy (FX_refl hS) (by decide) (fun j => Or.inl rfl)
        refine ss_X0_take_30 F1.2.2.1 ?_
        rw [show hI (hCpy h 82 69 0 0 O.length) 68 37 = (O.length : Nat) by rw [hI_cpy, if_neg (by omega)]; exact x8.1]
        have F5 : FX pTp h (sI (hCpy h 82 69 0 0 O.length) 68 1 (O.length : Nat)) := FX_sI F1 (Or.inl (Or.inr ⟨rfl, rfl⟩)) (by decide)
        refine kk _ (FX_mono F5 (fun c j _ z => by unfold pTp at z; unfold xpl; omega)) (by show hU h ≤ _; omega) ⟨Xc1_p F5 hS (fun j => by unfold pTp; omega) (fun c j c1 _ _ => by unfold pTp; omega) x1, Xc2_p F5 hS (fun c j hc => by unfold pTp; omega) (fun c j c1 _ _ _ => by unfold pTp; omega) x2, XFr_p F5 hS (by unfold pTp; omega) (by unfold pTp; omega) x3, XRu_p F5 hS (fun c j hc => by unfold pTp; omega) x4, Xc5_p F5 hS (by unfold pTp; omega) x5, ⟨by rw [hI_sI, if_pos ⟨rfl, rfl⟩, Nat.zero_add], by show 0 + O.length ≤ 600; omega, Tx_of (fun i hi => ?_), gO⟩, Xc7_p F5 hS (by unfold pTp; omega) (by unfold pTp; omega) x7, Xc8_p F5 hS (by unfold pTp; omega) (fun j => by unfold pTp; omega) x8, Xc9_p F5 hS (by unfold pTp; omega) x9⟩ trivial
        dsimp only at hi ⊢
        have gi := Tx_get i hi x8.2
        rw [Nat.zero_add] at gi
        rw [hI_sI, if_neg (by omega), hI_cpy, if_pos ⟨rfl, Nat.zero_le _, by omega⟩, show 0 + (0 + i - 0) = i by omega]
        exact gi
    · obtain ⟨m1, m2, m4, m5, m6, m7, m8, m9⟩ := id M1
      dsimp only at m8
      refine se_X4_take S1 ?_
      rw [m8.1]
      refine im (by omega) ?_
      refine m_tk hl gO O.length 0 h1 (by omega) S1 m8 (fun i hi h0 => absurd h0 (Nat.not_lt_zero _)) (fun h' F5 U5 z5 => ?_)
      exact kk h' (FX_mono F5 (fun c j _ z => by unfold mTp at z; unfold mpl; omega)) U5 ⟨Mc1_p F5 S1 (fun c j hc => by unfold mTp; omega) m1, MV_p2 F5 S1 (fun c j hc => by unfold mTp; omega) m2, MRu_p F5 S1 (fun c j hc => by unfold mTp; omega) m4, Mc5_p F5 S1 (by unfold mTp; omega) m5, z5, Mc7_p F5 S1 (by unfold mTp; omega) (by unfold mTp; omega) m7, Mc8_p F5 S1 (by unfold mTp; omega) (fun j => by unfold mTp; omega) m8, Mc9_p F5 S1 (by unfold mTp; omega) m9⟩ ⟨g.1, g.2.1, g.2.2⟩
  · refine pair_eq (vI (-3)) hS x m g u (fun d Q k => ?_) (fun d Q k => ?_)
    · refine se_X0_take hS ?_
      rw [x8.1]
      exact ip (by omega) k
    · refine se_X4_take hS ?_
      rw [m.2.2.2.2.2.2.1.1]
      exact ip (by show 600 < ((O.length : Nat) : Int); omega) k
