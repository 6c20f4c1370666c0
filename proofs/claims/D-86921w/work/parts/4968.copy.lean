/-! the bench: copy -/
def sCp (σ : zS) (i1 s i2 t n : Nat) : zS := fun f j => if f = 5 ∧ 12 * i2 + t ≤ j ∧ j < 12 * i2 + t + n then σ 5 (12 * i1 + s + (j - (12 * i2 + t))) else σ f j
theorem sCp_f {σ : zS} {i1 s i2 t n f j : Nat} (h : f ≠ 5) : sCp σ i1 s i2 t n f j = σ f j := by unfold sCp; rw [if_neg (fun z => h z.1)]
theorem sCp_o {σ : zS} {i1 s i2 t n j : Nat} (h : ¬ (12 * i2 + t ≤ j ∧ j < 12 * i2 + t + n)) : sCp σ i1 s i2 t n 5 j = σ 5 j := by unfold sCp; rw [if_neg (fun z => h z.2)]
theorem sCp_i {σ : zS} {i1 s i2 t n k : Nat} (h : k < n) : sCp σ i1 s i2 t n 5 (12 * i2 + t + k) = σ 5 (12 * i1 + s + k) := by
  unfold sCp
  rw [if_pos ⟨rfl, by omega, by omega⟩]
  congr 1
  omega
theorem Zk_cp {σ : zS} {i1 s i2 t n : Nat} (h1 : i1 < 14) (hk : σ 3 i1 = σ 3 i2) (hs : s + n ≤ 12) (ht : t + n ≤ 12) (z : Zk σ) : Zk (sCp σ i1 s i2 t n) := by
  obtain ⟨⟨a, b, c⟩, d⟩ := z
  refine ⟨⟨fun k hk => ?_, fun id j hi hj => ?_, fun j hj => ?_⟩, fun q hq => ?_⟩
  · rw [sCp_f (by decide)]; exact a k hk
  · rw [sCp_f (show 3 ≠ 5 by decide)]
    by_cases y : 12 * i2 + t ≤ 12 * id + j ∧ 12 * id + j < 12 * i2 + t + n
    · have e : id = i2 := by omega
      subst e
      obtain ⟨k, rfl⟩ : ∃ k, j = t + k := ⟨j - t, by omega⟩
      rw [show 12 * id + (t + k) = 12 * id + t + k by omega, sCp_i (by omega), ← hk, show 12 * i1 + s + k = 12 * i1 + (s + k) by omega]
      exact b i1 (s + k) h1 (by omega)
    · rw [sCp_o y]; exact b id j hi hj
  · rw [sCp_f (by decide)]; exact c j hj
  · rw [sCp_f (by decide)]; exact d q hq
theorem el_cpy {h : hp} {a b sp dp n i : Nat} {kd : Int} : elem (hCpy h a b sp dp n) b kd i = if dp ≤ i ∧ i < dp + n then elem h a kd (sp + (i - dp)) else elem h b kd i := by
  unfold elem
  by_cases k1 : kd = 1
  · rw [if_pos k1, if_pos k1, if_pos k1, hL_cpy]
    by_cases y : dp ≤ i ∧ i < dp + n
    · rw [if_pos ⟨rfl, y⟩, if_pos y]
    · rw [if_neg (fun z => y z.2), if_neg y]
  · rw [if_neg k1, if_neg k1, if_neg k1, hI_cpy]
    by_cases y : dp ≤ i ∧ i < dp + n
    · rw [if_pos ⟨rfl, y⟩, if_pos y]
    · rw [if_neg (fun z => y z.2), if_neg y]
theorem XZ_cp {h : hp} {σ : zS} {ρ : Nat → Nat} {x y i1 s i2 t n : Nat} (z : XZ h σ ρ) (hx : x < 14) (hy : y < 14) (e1 : σ 2 x = (i1 : Nat)) (e2 : σ 2 y = (i2 : Nat)) (hk : σ 3 i1 = σ 3 i2) (hs : ((s + n : Nat) : Int) ≤ σ 4 i1) (ht : ((t + n : Nat) : Int) ≤ σ 4 i2) (h1 : XA h σ (ρ i1) i1) (h2 : XA h σ (ρ i2) i2) : XZ (hCpy h (ρ i1) (ρ i2) s t n) (sCp σ i1 s i2 t n) ρ := by
  obtain ⟨⟨a, b1, b2⟩, c, d⟩ := z
  have r2 := h2.1
  have sm' : ∀ q, q ≠ ρ i2 → sm h (hCpy h (ρ i1) (ρ i2) s t n) q := fun q hq => sm_cpy (sm_refl _ _) hq
  refine ⟨⟨fun k hk => ?_, fun k hk => ?_, fun k k' i i' hk hk' q q' => b2 k k' i i' hk hk' q q'⟩, fun q hq => ?_, fun q hq => ?_⟩
  · rw [(sm' 73 (by omega)).2.1, (sm' 74 (by omega)).2.1, sCp_f (by decide), sCp_f (by decide)]; exact a k hk
  · rw [sCp_f (show 2 ≠ 5 by decide), (sm' (102 + k) (by omega)).2.2.2]
    rcases b1 k hk with q | ⟨id, q1, q2, q3, q4⟩
    · exact Or.inl q
    · refine Or.inr ⟨id, q1, q2, q3, ?_⟩
      obtain ⟨v1, v2, v3, v4, ⟨m, m1, m2, m3⟩, v6⟩ := q4
      refine ⟨v1, by rw [hN_hCpy]; exact v2, by rw [sCp_f (by decide)]; exact v3, by rw [sCp_f (by decide)]; exact v4, ⟨m, m1, by rw [sCp_f (by decide)]; exact m2, by rw [sCp_f (by decide), hT_hCpy]; exact m3⟩, fun i hi => ?_⟩
      rw [sCp_f (show 4 ≠ 5 by decide)] at hi
      rw [sCp_f (show 3 ≠ 5 by decide)]
      by_cases e : id = i2
      · subst e
        rw [el_cpy]
        by_cases y' : t ≤ i ∧ i < t + n
        · obtain ⟨j, rfl⟩ : ∃ j, i = t + j := ⟨i - t, by omega⟩
          rw [if_pos y', show 12 * id + (t + j) = 12 * id + t + j by omega, sCp_i (by omega), show s + (t + j - t) = s + j by omega, ← hk]
          have := h1.2.2.2.2.2 (s + j) (by omega)
          rw [this, show 12 * i1 + (s + j) = 12 * i1 + s + j by omega]
        · rw [if_neg y', sCp_o (by omega)]
          exact v6 i hi
      · have ne : ρ id ≠ ρ i2 := fun w => e (b2 k y id i2 hk hy q2 e2 w)
        have st := sm' _ ne
        have t12 : t + n ≤ 12 := by
          obtain ⟨-, -, -, -, ⟨m', m1', m2', -⟩, -⟩ := h2
          omega
        rw [sCp_o (by omega), ← v6 i hi]
        unfold elem
        rw [st.2.1, st.2.2.1]
  · rw [(sm' 77 (by omega)).2.1, sCp_f (by decide)]; exact c q hq
  · rw [(sm' 76 (by omega)).2.1, sCp_f (by decide)]; exact d q hq
theorem i122 {id s j : Nat} (h1 : id < 14) (h2 : s < 13) (h3 : j < 13) : n_add (n_add (n_mul 12 ((id : Nat) : Int)) ((s : Nat) : Int)) ((j : Nat) : Int) = ((12 * id + s + j : Nat) : Int) := by
  have e : n_add (n_mul 12 ((id : Nat) : Int)) ((s : Nat) : Int) = ((12 * id + s : Nat) : Int) := by rw [nm_eq (by omega) (by omega), na_eq (by omega) (by omega)]; omega
  rw [e]
  clear e
  rw [na_eq (by omega) (by omega)]; omega
theorem mc2 {d : Nat} {Q : qt} {h0 : hp} {σ : zS} {i1 s i2 t n : Nat} {a b : Int} (h2 : i2 < 14) (ht : t + n ≤ 12) (ht2 : s + n ≤ 12) (k2 : ∀ h', FN mVv h0 h' → MV h' (sCp σ i1 s i2 t n) → Q (.inl (some (vI (n : Nat)))) h') : ∀ (c j : Nat) (h : hp), j + c = n → FN mVv h0 h → MV h (sCp σ i1 s i2 t j) → (∀ i, i < n → hL h 144 i = σ 5 (12 * i1 + s + i)) → Wp d C_X4_copy Q 166 [vR (some 116), vI a, vI (s : Nat), vI b, vI (t : Nat), vI (n : Nat), vI (i1 : Nat), vI (i2 : Nat), vI (j : Nat)] [] h := by
  intro c
  induction c with
  | zero =>
    intro j h e F V _
    obtain rfl : j = n := by omega
    exact ss_X4_copy_166 F.1.2.2.1 (im (by omega) (k2 h F V))
  | succ c ih =>
    intro j h e F V z
    refine ss_X4_copy_166 F.1.2.2.1 (ip (by omega) ⟨by omega, ?_⟩)
    rw [i122 h2 (by omega) (by omega), Int.toNat_natCast, Int.toNat_natCast, z j (by omega), n1k (by omega)]
    refine ⟨by omega, ?_⟩
    refine ih (j + 1) _ (by omega) (FN_sL F (by unfold mVv; omega)) ?_ (fun i hi => by rw [hL_sL, if_neg (by omega)]; exact z i hi)
    have V2 := MV_i (k := 12 * i2 + t + j) (v := σ 5 (12 * i1 + s + j)) V
    have es : su (sCp σ i1 s i2 t j) 5 (12 * i2 + t + j) (σ 5 (12 * i1 + s + j)) = sCp σ i1 s i2 t (j + 1) := by
      funext f q
      by_cases f5 : f = 5
      · subst f5
        by_cases q1 : q = 12 * i2 + t + j
        · subst q1
          rw [su_at, sCp_i (by omega)]
        · rw [su_k q1]
          by_cases q2 : 12 * i2 + t ≤ q ∧ q < 12 * i2 + t + j
          · obtain ⟨k, rfl⟩ : ∃ k, q = 12 * i2 + t + k := ⟨q - (12 * i2 + t), by omega⟩
            rw [sCp_i (by omega), sCp_i (by omega)]
          · rw [sCp_o q2, sCp_o (by omega)]
      · rw [su_f f5, sCp_f f5, sCp_f f5]
    rw [es] at V2
    exact V2
theorem mc1 {d : Nat} {Q : qt} {h0 : hp} {σ : zS} {i1 s n : Nat} {a b t v7 : Int} (h1 : i1 < 14) (hs : s + n ≤ 12) (hV : MV h0 σ) (k : ∀ h', FN mVv h0 h' → MV h' σ → (∀ i, i < n → hL h' 144 i = σ 5 (12 * i1 + s + i)) → Wp d C_X4_copy Q 166 [vR (some 116), vI a, vI (s : Nat), vI b, vI t, vI (n : Nat), vI (i1 : Nat), vI v7, vI 0] [] h') : ∀ (c j : Nat) (h : hp), j + c = n → FN mVv h0 h → MV h σ → (∀ i, i < j → hL h 144 i = σ 5 (12 * i1 + s + i)) → Wp d C_X4_copy Q 128 [vR (some 116), vI a, vI (s : Nat), vI b, vI t, vI (n : Nat), vI (i1 : Nat), vI v7, vI (j : Nat)] [] h := by
  intro c
  induction c with
  | zero =>
    intro j h e F V z
    obtain rfl : j = n := by omega
    exact ss_X4_copy_128 F.1.2.2.1 (im (by omega) (k h F V z))
  | succ c ih =>
    intro j h e F V z
    refine ss_X4_copy_128 F.1.2.2.1 (ip (by omega) ?_)
    rw [i122 h1 (by omega) (by omega), Int.toNat_natCast, Int.toNat_natCast, V.2.2.2.2.1 _ (by omega), n1k (by omega)]
    refine ⟨by omega, by omega, ?_⟩
    refine ih (j + 1) _ (by omega) (FN_sL F (by unfold mVv; omega)) ?_ (fun i hi => ?_)
    · obtain ⟨q1, q2, q3, q4, q5, q6, q7⟩ := V
      exact ⟨q1, q2, q3, q4, fun i hi => by rw [hL_sL, if_neg (by omega)]; exact q5 i hi, q6, q7⟩
    · rw [hL_sL]
      by_cases y : i = j
      · subst y; rw [if_pos ⟨rfl, rfl⟩]
      · rw [if_neg (fun w => y w.2)]; exact z i (by omega)

theorem op_copy {n : Nat} {h : hp} {a b c e f : Int} (hn : n < 64) (rb : -2147483648 ≤ b ∧ b < 2147483648) (re : -2147483648 ≤ e ∧ e < 2147483648) (rf : -2147483648 ≤ f ∧ f < 2147483648) (I : IN n h) : Pair 97 230 [vR (some 68), vI a, vI b, vI c, vI e, vI f] [vR (some 116), vI a, vI b, vI c, vI e, vI f] n h := by
  obtain ⟨⟨R, σ, K, w, T, F, O, L⟩, hS, x, m, g, u⟩ := I
  obtain ⟨x1, ⟨ρ, x2⟩, x3, x4, x5, x6, x7, x8, x9⟩ := id x
  dsimp only at x2
  have m2 : MV h σ := m.2.1
  have bud : hU h + 600 ≤ BUD := by unfold BUD; omega
  by_cases ha : 0 ≤ a ∧ a ≤ 7
  · obtain ⟨p, rfl⟩ : ∃ r : Nat, a = (r : Nat) := ⟨a.toNat, by omega⟩
    have hp8 : p < 8 := by omega
    by_cases hc : 0 ≤ c ∧ c ≤ 7
    · obtain ⟨q, rfl⟩ : ∃ r : Nat, c = (r : Nat) := ⟨c.toNat, by omega⟩
      have hq8 : q < 8 := by omega
      have tp := ho_t hS (k := 6 + p) (by omega)
      have tq := ho_t hS (k := 6 + q) (by omega)
      have x11 : ∀ (d : Nat) (Q : qt), Wp (d + 1999) C_X0_copy Q 11 [vR (some 68), vI (p : Nat), vI b, vI (q : Nat), vI e, vI f, vU, vU, vU] [vI (bI true)] h → Wc (d + 2000) 97 [vR (some 68), vI (p : Nat), vI b, vI (q : Nat), vI e, vI f] h Q := by
        intro d Q k
        refine se_X0_copy hS (pu_isPlace hS ?_)
        refine ss_X0_copy_4 hS ?_
        rw [rg_t ha]
        refine im (by decide) (pu_isPlace hS ?_)
        rw [rg_t hc]
        exact k
      have m11 : ∀ (d : Nat) (h1 : hp) (Q : qt), St h1 → Wp (d + 1999) C_X4_copy Q 11 [vR (some 116), vI (p : Nat), vI b, vI (q : Nat), vI e, vI f, vU, vU, vU] [vI (bI true)] h1 → Wc (d + 2000) 230 [vR (some 116), vI (p : Nat), vI b, vI (q : Nat), vI e, vI f] h1 Q := by
        intro d h1 Q S1 k
        refine se_X4_copy S1 (pu_mIsPlace S1 ?_)
        refine ss_X4_copy_4 S1 ?_
        rw [rg_t ha]
        refine im (by decide) (pu_mIsPlace S1 ?_)
        rw [rg_t hc]
        exact k
      rcases x2.1.2.1 (6 + p) (by omega) with ⟨u1, u2⟩ | ⟨i1, u0, u1, u2, u3⟩
      · refine pair_eq (vI (-11)) hS x m g u (fun d Q k => x11 d Q ?_) (fun d Q k => m11 d h Q hS ?_)
        · refine ss_X0_copy_11 hS (im (by decide) ⟨by omega, by omega, ?_⟩)
          rw [Int.toNat_natCast, ho_b hS hp8, ofR_some]
          exact ⟨by rw [tp]; simp, ip u2 k⟩
        · refine ss_X4_copy_11 hS (im (by decide) ?_)
          rw [n6 hp8, n6 hq8, Int.toNat_natCast, Int.toNat_natCast, (m2.2.2.1 (6 + p) (by omega)).1]
          exact ⟨by omega, by omega, ip (by omega) (ss_X4_copy_48 hS k)⟩
      rcases x2.1.2.1 (6 + q) (by omega) with ⟨v1, v2⟩ | ⟨i2, v0, v1, v2, v3⟩
      · refine pair_eq (vI (-11)) hS x m g u (fun d Q k => x11 d Q ?_) (fun d Q k => m11 d h Q hS ?_)
        · refine ss_X0_copy_11 hS (im (by decide) ⟨by omega, by omega, ?_⟩)
          rw [Int.toNat_natCast, Int.toNat_natCast, ho_b hS hp8, ho_b hS hq8, ofR_some]
          refine ⟨by rw [tp]; simp, im (by rw [u2]; simp) ?_⟩
          rw [ofR_some]
          exact ⟨by rw [tq]; simp, ip v2 k⟩
        · refine ss_X4_copy_11 hS (im (by decide) ?_)
          rw [n6 hp8, n6 hq8, Int.toNat_natCast, Int.toNat_natCast, (m2.2.2.1 (6 + p) (by omega)).1, (m2.2.2.1 (6 + q) (by omega)).1]
          exact ⟨by omega, by omega, im (by omega) (ip (by omega) (ss_X4_copy_48 hS k))⟩
      obtain ⟨w1, w2, w3, w4, ⟨n1, n2, n3, n4⟩, w6⟩ := id u3
      obtain ⟨y1, y2, y3, y4, ⟨l1, l2, l3, l4⟩, y6⟩ := id v3
      have x61 : ∀ (d : Nat) (Q : qt), Wp (d + 1999) C_X0_copy Q 61 [vR (some 68), vI (p : Nat), vI b, vI (q : Nat), vI e, vI f, vR (some (102 + (6 + p))), vR (some (102 + (6 + q))), vU] [vI (σ 3 i2), vI (σ 3 i1)] h → Wc (d + 2000) 97 [vR (some 68), vI (p : Nat), vI b, vI (q : Nat), vI e, vI f] h Q := by
        intro d Q k
        refine x11 d Q (ss_X0_copy_11 hS (im (by decide) ⟨by omega, by omega, ?_⟩))
        rw [Int.toNat_natCast, Int.toNat_natCast, ho_b hS hp8, ho_b hS hq8, ofR_some]
        refine ⟨by rw [tp]; simp, im (by rw [u2]; simp) ?_⟩
        rw [ofR_some]
        refine ⟨by rw [tq]; simp, im (by rw [v2]; simp) ?_⟩
        rw [ofR_some]
        refine ip (by rw [tp]) (c_hkd hS x2.1 (by omega) (by omega) ?_)
        refine ss_X0_copy_56 hS ?_
        rw [ofR_some]
        refine ip (by rw [tq]) (c_hkd hS x2.1 (by omega) (by omega) ?_)
        rw [u1, v1, Int.toNat_natCast, Int.toNat_natCast]
        exact k
      have mm : ∀ (d : Nat) (h1 : hp) (Q : qt), St h1 → MV h1 σ → (σ 3 i1 ≠ σ 3 i2 → Q (.inl (some (vI (-14)))) h1) → (σ 3 i1 = σ 3 i2 → ¬ (0 ≤ b ∧ 0 ≤ e ∧ 0 ≤ f ∧ b + f ≤ (n1 : Nat) ∧ e + f ≤ (l1 : Nat)) → Q (.inl (some (vI (-13)))) h1) → (σ 3 i1 = σ 3 i2 → 0 ≤ b ∧ 0 ≤ e ∧ 0 ≤ f ∧ b + f ≤ (n1 : Nat) ∧ e + f ≤ (l1 : Nat) → Wp (d + 1999) C_X4_copy Q 128 [vR (some 116), vI (p : Nat), vI b, vI (q : Nat), vI e, vI f, vI (i1 : Nat), vI (i2 : Nat), vI 0] [] h1) → Wc (d + 2000) 230 [vR (some 116), vI (p : Nat), vI b, vI (q : Nat), vI e, vI f] h1 Q := by
        intro d h1 Q S1 V1 k1 k2 k3
        refine m11 d h1 Q S1 (ss_X4_copy_11 S1 (im (by decide) ?_))
        obtain ⟨p1, p2, -⟩ := V1.2.2.2.1 i1 (by omega)
        obtain ⟨q1, q2, -⟩ := V1.2.2.2.1 i2 (by omega)
        rw [n6 hp8, n6 hq8, Int.toNat_natCast, Int.toNat_natCast, (V1.2.2.1 (6 + p) (by omega)).1, (V1.2.2.1 (6 + q) (by omega)).1, u1, v1, Int.toNat_natCast, Int.toNat_natCast, p1, q1, p2, q2, n3, l3, la_eq (by omega) (by omega), la_eq (by omega) (by omega)]
        refine ⟨by omega, by omega, im (by omega) (im (by omega) ⟨by omega, by omega, ?_⟩)⟩
        by_cases ek : σ 3 i1 = σ 3 i2
        · refine ip ek ?_
          by_cases f0 : f < 0
          · exact ip f0 (ss_X4_copy_122 S1 (k2 ek (by omega)))
          refine im f0 ?_
          by_cases b0 : b < 0
          · exact ip b0 (ss_X4_copy_122 S1 (k2 ek (by omega)))
          refine im b0 ?_
          by_cases e0 : e < 0
          · exact ip e0 (ss_X4_copy_122 S1 (k2 ek (by omega)))
          refine im e0 ⟨by omega, ?_⟩
          by_cases bf : ((n1 : Nat) : Int) < b + f
          · exact ip bf (ss_X4_copy_122 S1 (k2 ek (by omega)))
          refine im bf ⟨by omega, ?_⟩
          by_cases ef : ((l1 : Nat) : Int) < e + f
          · exact ip ef (ss_X4_copy_122 S1 (k2 ek (by omega)))
          exact im ef (k3 ek (by omega))
        · exact im ek (k1 ek)
      have t1 : hT h (ρ i1) = (kt (σ 3 i1), n1) := n4
      have t2 : hT h (ρ i2) = (kt (σ 3 i2), l1) := l4
      by_cases ek : σ 3 i1 = σ 3 i2
      · have xa : ∀ (d : Nat) (Q : qt), (cpOk h (ρ i1) (ρ i2) b e f → Wp (d + 1999) C_X0_copy Q 85 [vR (some 68), vI (p : Nat), vI b, vI (q : Nat), vI e, vI f, vR (some (102 + (6 + p))), vR (some (102 + (6 + q))), vU] [] (hCpy h (ρ i1) (ρ i2) b.toNat e.toNat f.toNat)) → (¬ cpOk h (ρ i1) (ρ i2) b e f → ∀ h', FX (fun _ _ => False) h h' → hU h' ≤ hU h + 600 → Q (.inl (some (vI (-13)))) h') → Wc (d + 2000) 97 [vR (some 68), vI (p : Nat), vI b, vI (q : Nat), vI e, vI f] h Q := by
          intro d Q k1 k2
          refine x61 d Q (ss_X0_copy_61 hS (ip ek ?_))
          rw [ofR_some]
          refine ⟨by rw [tp]; simp, ?_⟩
          rw [ofR_some]
          refine ⟨by rw [tq]; simp, ?_⟩
          rw [u2, v2, ofR_some, ofR_some, t1, t2]
          refine ⟨by have := kt_ok (σ 3 i1); simp; omega, by rw [ek], k1, fun z => ⟨bud, fun e5 h6 v => ?_⟩⟩
          have F5 : FX (fun _ _ => False) h h6 := FX_vmx hS v
          obtain ⟨v1, v2⟩ := vmx_t v
          exact ⟨by rw [v1]; simp, ip v1 (ss_X0_copy_88 F5.2.2.1 (k2 z h6 F5 v2))⟩
        have ce : cpOk h (ρ i1) (ρ i2) b e f ↔ (0 ≤ b ∧ 0 ≤ e ∧ 0 ≤ f ∧ b + f ≤ (n1 : Nat) ∧ e + f ≤ (l1 : Nat)) := by
          unfold cpOk
          rw [t1, t2]
        by_cases ok : 0 ≤ b ∧ 0 ≤ e ∧ 0 ≤ f ∧ b + f ≤ (n1 : Nat) ∧ e + f ≤ (l1 : Nat)
        · obtain ⟨s, rfl⟩ : ∃ r : Nat, b = (r : Nat) := ⟨b.toNat, by omega⟩
          obtain ⟨t, rfl⟩ : ∃ r : Nat, e = (r : Nat) := ⟨e.toNat, by omega⟩
          obtain ⟨N, rfl⟩ : ∃ r : Nat, f = (r : Nat) := ⟨f.toNat, by omega⟩
          have hs : s + N ≤ 12 := by omega
          have ht : t + N ≤ 12 := by omega
          have gd : Gd (R, sCp σ i1 s i2 t N, K, w, T, F, O, L) := ⟨g.1, Zk_cp u0 ek hs ht g.2.1, g.2.2⟩
          refine pair_of (s := (R, σ, K, w, T, F, O, L)) (vI (N : Nat)) (R, sCp σ i1 s i2 t N, K, w, T, F, O, L) True hS m u (fun d Q kk => xa d Q (fun _ => ?_) (fun z => absurd (ce.mpr ok) z)) (fun d h1 Q S1 M1 X1 _ kk => mm d h1 Q S1 M1.2.1 (fun z => absurd ek z) (fun _ z => absurd ok z) (fun _ _ => ?_))
          · rw [Int.toNat_natCast, Int.toNat_natCast, Int.toNat_natCast]
            have kr := kt_rg (σ 3 i2)
            have F5 : FX (pRw h) h (hCpy h (ρ i1) (ρ i2) s t N) := FX_cpy (FX_refl hS) (by omega) (fun j => Or.inl ⟨y1, by rw [t2]; exact kr⟩)
            refine ss_X0_copy_85 F5.2.2.1 ?_
            refine kk _ (xpl_rw F5) (by rw [hU_hCpy]; omega) (IX_rw hS F5 x ⟨ρ, XZ_cp x2 (show 6 + p < 14 by omega) (show 6 + q < 14 by omega) u1 v1 ek (by omega) (by omega) u3 v3⟩ ?_) trivial
            show hI (hCpy h (ρ i1) (ρ i2) s t N) 68 39 = L
            rw [hI_cpy, if_neg (by omega)]
            exact x9
          · have V1 : MV h1 σ := M1.2.1
            have e0 : sCp σ i1 s i2 t 0 = σ := by
              funext f q
              unfold sCp
              rw [if_neg (by omega)]
            refine mc1 (σ := σ) u0 hs V1 (fun h' F' V' z => ?_) N 0 h1 (by omega) (FN_refl S1) V1 (fun i hi => absurd hi (Nat.not_lt_zero _))
            refine mc2 (σ := σ) (h0 := h1) v0 ht hs (fun h2 F2 V2 => ?_) N 0 h' (by omega) F' (by rw [e0]; exact V') z
            exact kk h2 (FX_mono F2.1 (fun c j _ z => by unfold mVv at z; unfold mpl; omega)) F2.2.2 (IM_v S1 F2.1 M1 V2) gd
        · refine pair_of (s := (R, σ, K, w, T, F, O, L)) (vI (-13)) (R, σ, K, w, T, F, O, L) True hS m u (fun d Q kk => xa d Q (fun z => absurd (ce.mp z) ok) (fun _ h' F5 U5 => ?_)) (fun d h1 Q S1 M1 X1 _ kk => mm d h1 Q S1 M1.2.1 (fun z => absurd ek z) (fun _ _ => kk h1 (FX_refl S1) rfl M1 g) (fun _ z => absurd z ok))
          exact kk h' (FX_mono F5 (fun _ _ _ z => z.elim)) (by omega) (IX_no hS F5 x) trivial
      · exact pair_eq (vI (-14)) hS x m g u (fun d Q k => x61 d Q (ss_X0_copy_61 hS (im ek k))) (fun d Q k => mm d h Q hS m2 (fun _ => k) (fun z => absurd z ek) (fun z => absurd z ek))
    · refine pair_eq (vI (-1)) hS x m g u (fun d Q k => ?_) (fun d Q k => ?_)
      · refine se_X0_copy hS (pu_isPlace hS ?_)
        refine ss_X0_copy_4 hS ?_
        rw [rg_t ha]
        refine im (by decide) (pu_isPlace hS ?_)
        refine ss_X0_copy_11 hS ?_
        rw [rg_f hc]
        exact ip rfl k
      · refine se_X4_copy hS (pu_mIsPlace hS ?_)
        refine ss_X4_copy_4 hS ?_
        rw [rg_t ha]
        refine im (by decide) (pu_mIsPlace hS ?_)
        refine ss_X4_copy_11 hS ?_
        rw [rg_f hc]
        exact ip rfl (ss_X4_copy_14 hS k)
  · refine pair_eq (vI (-1)) hS x m g u (fun d Q k => ?_) (fun d Q k => ?_)
    · refine se_X0_copy hS (pu_isPlace hS ?_)
      refine ss_X0_copy_4 hS ?_
      rw [rg_f ha]
      exact ip rfl k
    · refine se_X4_copy hS (pu_mIsPlace hS ?_)
      refine ss_X4_copy_4 hS ?_
      rw [rg_f ha]
      exact ip rfl (ss_X4_copy_14 hS k)
