/-! m SWAPS two places -/
/-- all numbers are in the range of their kinds -/
def Zr (σ : zS) : Prop := (∀ k, k < 26 → l_l2i (σ 1 k) = σ 1 k) ∧ (∀ id j, id < 14 → j < 12 → cutz (σ 3 id) (σ 5 (12 * id + j)) = σ 5 (12 * id + j)) ∧ ∀ j, j < 120 → l_l2i (σ 7 j) = σ 7 j
theorem pg_cut {σ : zS} {u : Nat × Nat} (z : Zr σ) (r1 : u.1 = 0 → u.2 < 26) (r2 : u.1 ≠ 0 → u.1 - 1 < 14 ∧ u.2 < 12) : cutz (pkd σ u) (pgv σ u) = pgv σ u := by
  by_cases q : u.1 = 0
  · rw [(pk0 q).1, (pk0 q).2]; exact z.1 _ (r1 q)
  · have := r2 q
    have e : u.1 = (u.1 - 1) + 1 := by omega
    rw [(pk1 e).1, (pk1 e).2]; exact z.2.1 _ _ this.1 this.2
theorem pkd_psg {σ : zS} {u c : Nat × Nat} {v : Int} : pkd (psg σ c v) u = pkd σ u := by
  unfold pkd psg
  split
  · rfl
  · split <;> rfl
theorem pkd_pst {σ : zS} {u c : Nat × Nat} {v : Int} : pkd (pst σ c v) u = pkd σ u := by
  unfold pkd pst
  split
  · rfl
  · split <;> rfl
theorem psg_pst {σ : zS} {c : Nat × Nat} {v : Int} (e : cutz (pkd σ c) v = v) : psg σ c v = pst σ c v := by
  rw [← psg_cut, e]
theorem su_swap {σ : zS} {f k g j : Nat} {v w : Int} (h : ¬ (f = g ∧ k = j)) : su (su σ f k v) g j w = su (su σ g j w) f k v := by
  funext a b
  unfold su
  by_cases q1 : a = g ∧ b = j
  · rw [if_pos q1, if_neg (fun z => h ⟨z.1.symm.trans q1.1, z.2.symm.trans q1.2⟩), if_pos q1]
  · rw [if_neg q1]
    by_cases q2 : a = f ∧ b = k
    · rw [if_pos q2, if_pos q2]
    · rw [if_neg q2, if_neg q2, if_neg q1]
theorem pst_swap {σ : zS} {u c : Nat × Nat} {v w : Int} (ne : u ≠ c) (r1 : u.1 ≠ 0 → u.2 < 12) (r2 : c.1 ≠ 0 → c.2 < 12) : pst (pst σ u v) c w = pst (pst σ c w) u v := by
  obtain ⟨a, b⟩ := u
  obtain ⟨a', b'⟩ := c
  unfold pst
  dsimp only at r1 r2 ⊢
  have ne' : ¬ (a = a' ∧ b = b') := fun z => ne (by rw [z.1, z.2])
  by_cases q : a = 0
  · by_cases q' : a' = 0
    · rw [if_pos q, if_pos q', if_pos q', if_pos q]
      exact su_swap (fun z => ne' ⟨by omega, z.2⟩)
    · rw [if_pos q, if_neg q', if_neg q', if_pos q, su_f (show 3 ≠ 1 by decide)]
      exact su_swap (fun z => absurd z.1 (by decide))
  · by_cases q' : a' = 0
    · rw [if_neg q, if_pos q', if_pos q', if_neg q, su_f (show 3 ≠ 1 by decide)]
      exact su_swap (fun z => absurd z.1 (by decide))
    · have := r1 q
      have := r2 q'
      rw [if_neg q, if_neg q', if_neg q', if_neg q, su_f (show 3 ≠ 5 by decide), su_f (show 3 ≠ 5 by decide)]
      exact su_swap (fun z => ne' ⟨by omega, by omega⟩)
/-- a place in three numbers -/
def Pl3 (a b c : Int) (u : Nat × Nat) : Prop := (u.1 = 0 ∧ b = -1 ∧ a = (u.2 : Nat)) ∨ ∃ id, u.1 = id + 1 ∧ b = ((id : Nat) : Int) ∧ c = (u.2 : Nat)
theorem sn_bit {h : hp} {ns : Nat} {is : Nat → Nat} {u : Nat × Nat} {a b c : Int} (sn : Sn h ns is) (hp : Pl3 a b c u) (r1 : u.1 = 0 → u.2 < 26) (r2 : u.1 ≠ 0 → u.1 - 1 < 14 ∧ u.2 < 12) : (b < 0 → n_and (n_shr (hI h 116 47) a) 1 = bI (if u.1 = 0 then ns.testBit u.2 else (is (u.1 - 1)).testBit u.2)) ∧ (¬ b < 0 → (0 ≤ b ∧ b < 16) ∧ n_and (n_shr (hI h 141 b.toNat) c) 1 = bI (if u.1 = 0 then ns.testBit u.2 else (is (u.1 - 1)).testBit u.2)) := by
  rcases hp with ⟨m1, m2, m3⟩ | ⟨id, m1, m2, m3⟩
  · refine ⟨fun _ => ?_, fun z => by omega⟩
    have := r1 m1
    have := sn.1
    rw [if_pos m1, sn.2.1, m3, bit_at (by omega) (by omega)]
  · refine ⟨fun z => by omega, fun _ => ?_⟩
    have := r2 (by omega)
    have := sn.2.2 id (by omega)
    refine ⟨by omega, ?_⟩
    rw [if_neg (by omega), m2, Int.toNat_natCast, this.2, m3, bit_at (by omega) (by omega), show u.1 - 1 = id by omega]
theorem c_isSeen {d : Nat} {Q : qt} {h : hp} {ns : Nat} {is : Nat → Nat} {u : Nat × Nat} (hS : St h) (sn : Sn h ns is) (hm : Pm h u) (r1 : u.1 = 0 → u.2 < 26) (r2 : u.1 ≠ 0 → u.1 - 1 < 14 ∧ u.2 < 12) (k : Q (.inl (some (vI (bI (if u.1 = 0 then ns.testBit u.2 else (is (u.1 - 1)).testBit u.2))))) h) : Wc (d + 1) 194 [vR (some 116)] h Q := by
  obtain ⟨s1, s2⟩ := sn_bit (a := hI h 116 51) (b := hI h 116 52) (c := hI h 116 53) sn hm r1 r2
  refine se_X4_isSeen hS ?_
  have fin : ∀ z : Bool, Q (.inl (some (vI (bI z)))) h → if bI z = 1 then Q (.inl (some (vI 1))) h else Q (.inl (some (vI 0))) h := by
    intro z kz
    cases z with
    | true => exact ip rfl kz
    | false => exact im (by decide) kz
  by_cases q : hI h 116 52 < 0
  · refine ip q ?_
    rw [s1 q]; exact fin _ k
  · refine im q ⟨(s2 q).1, ?_⟩
    rw [(s2 q).2]; exact fin _ k
/-- the last part: the values go over -/
theorem m_sw3 {d r i : Nat} {Q : qt} {h : hp} {σ : zS} {u v : Nat × Nat} {a b c x7 x8 kd : Int} (hS : St h) (hV : MV h σ) (hZ : Zr σ) (hP : Pl3 a b c u) (hm : Pm h v) (ru1 : u.1 = 0 → u.2 < 26 ∧ σ 0 u.2 = 1) (ru2 : u.1 ≠ 0 → u.1 - 1 < 14 ∧ u.2 < 12) (rv1 : v.1 = 0 → v.2 < 26 ∧ σ 0 v.2 = 1) (rv2 : v.1 ≠ 0 → v.1 - 1 < 14 ∧ v.2 < 12) (ne : u ≠ v) (ke : pkd σ u = pkd σ v) (k : ∀ h', FMd h h' → MV h' (pst (pst σ u (pgv σ v)) v (pgv σ u)) → Q (.inl (some (vI 0))) h') : Wp (d + 2) C_X4_doSwap Q 201 [vR (some 116), vI (r : Nat), vI (i : Nat), vI a, vI b, vI c, vI kd, vI x7, vI x8, vU, vU, vU, vU] [vI 0] h := by
  have k274 : Wp (d + 2) C_X4_doSwap Q 274 [vR (some 116), vI (r : Nat), vI (i : Nat), vI a, vI b, vI c, vI kd, vI x7, vI x8, vJ (pgv σ u), vU, vU, vU] [vJ (pgv σ v)] h := by
    refine ss_X4_doSwap_274 hS ?_
    refine c_gives hS hV hm (fun z => (rv1 z).1) rv2 (fun h1 F1 V1 e1 => ?_)
    have S1 := FMd_St F1
    refine ss_X4_doSwap_282 S1 ?_
    obtain ⟨g, eg⟩ : ∃ y, y = sI (sI (sI h1 116 51 a) 116 52 b) 116 53 c := ⟨_, rfl⟩
    have fg : FI [] [51, 52, 53] [] h1 g := by rw [eg]; exact FI_sI (FI_sI (FI_sI (FI_refl h1) rfl) rfl) rfl
    have mg : Pm g u := by
      have e51 : hI g 116 51 = a := by rw [eg]; simp [hI_sI]
      have e52 : hI g 116 52 = b := by rw [eg]; simp [hI_sI]
      have e53 : hI g 116 53 = c := by rw [eg]; simp [hI_sI]
      unfold Pm; rw [e51, e52, e53]; exact hP
    rw [← eg]
    clear eg
    have Mg : FMd h1 g := FMd_FI fg S1 rfl (fun c j z => by unfold pG at z; unfold pMd; simp at z; omega)
    have Vg := MV_FI fg rfl rfl V1
    refine c_gives (FMd_St Mg) Vg mg (fun z => (ru1 z).1) ru2 (fun h2 F2 V2 e2 => ?_)
    refine ss_X4_doSwap_305 (FMd_St F2) ?_
    refine k h2 (FMd_trans F1 (FMd_trans Mg F2)) ?_
    have c1 : cutz (pkd σ v) (pgv σ u) = pgv σ u := by rw [← ke]; exact pg_cut hZ (fun z => (ru1 z).1) ru2
    have c2 : cutz (pkd (psg σ v (pgv σ u)) u) (pgv σ v) = pgv σ v := by rw [pkd_psg, ke]; exact pg_cut hZ (fun z => (rv1 z).1) rv2
    rw [psg_pst c2, psg_pst c1, ← pst_swap ne (fun z => (ru2 z).2) (fun z => (rv2 z).2)] at V2
    exact V2
  have k235 : Wp (d + 2) C_X4_doSwap Q 235 [vR (some 116), vI (r : Nat), vI (i : Nat), vI a, vI b, vI c, vI kd, vI x7, vI x8, vU, vU, vU, vU] [vJ (pgv σ u)] h := by
    refine ss_X4_doSwap_235 hS ?_
    rcases hm with ⟨m1, m2, m3⟩ | ⟨id, m1, m2, m3⟩
    · refine ip (by rw [m2]; decide) ?_
      have y := rv1 m1
      rw [m3, Int.toNat_natCast, hV.2.1 _ y.1 y.2, ← (pk0 (σ := σ) m1).2]
      exact ⟨by omega, k274⟩
    · refine im (by rw [m2]; omega) ?_
      have y := rv2 (by omega)
      rw [m2, m3, ix12 (by omega) y.2, Int.toNat_natCast, hV.2.2.2.2.1 _ (by omega), ← (pk1 (σ := σ) m1).2]
      exact ⟨by omega, k274⟩
  refine ss_X4_doSwap_201 hS (ip rfl ?_)
  rcases hP with ⟨m1, m2, m3⟩ | ⟨id, m1, m2, m3⟩
  · refine ip (by rw [m2]; decide) ?_
    have y := ru1 m1
    rw [m3, Int.toNat_natCast, hV.2.1 _ y.1 y.2, ← (pk0 (σ := σ) m1).2]
    rw [m3] at k235
    exact ⟨by omega, k235⟩
  · refine im (by rw [m2]; omega) ?_
    have y := ru2 (by omega)
    rw [m2, m3, ix12 (by omega) y.2, Int.toNat_natCast, hV.2.2.2.2.1 _ (by omega), ← (pk1 (σ := σ) m1).2]
    rw [m2, m3] at k235
    exact ⟨by omega, k235⟩
theorem m_sw2 {d r i : Nat} {Q : qt} {h : hp} {σ : zS} {p q : zT} {u v : Nat × Nat} {a b c : Int} (hS : St h) (hV : MV h σ) (hZ : Zr σ) (okp : okP p) (okq : okP q) (hu : plv σ p = .inr u) (hv : plv σ q = .inr v) (hP : Pl3 a b c u) (hm : Pm h v) (sn : Sn h ((0 ||| pns p) ||| pns q) (fun id => (0 ||| psi σ p id) ||| psi σ q id)) (b46 : hI h 116 46 = 0) (k : DmQ h σ (sSwap σ p q) Q) : Wp (d + 2) C_X4_doSwap Q 28 [vR (some 116), vI (r : Nat), vI (i : Nat), vI a, vI b, vI c, vU, vU, vU, vU, vU, vU, vU] [] h := by
  obtain ⟨ru1, ru2⟩ := pl_rng hV okp hu
  obtain ⟨rv1, rv2⟩ := pl_rng hV okq hv
  unfold sSwap at k
  rw [hu] at k
  dsimp only at k
  rw [hv] at k
  dsimp only at k
  have hM : Pl3 (hI h 116 51) (hI h 116 52) (hI h 116 53) v := hm
  have bu := sn_bit sn hP (fun z => (ru1 z).1) ru2
  have eu : (if u.1 = 0 then ((0 ||| pns p) ||| pns q).testBit u.2 else ((0 ||| psi σ p (u.1 - 1)) ||| psi σ q (u.1 - 1)).testBit u.2) = (psn σ p u || psn σ q u) := by
    rw [psn_eq, psn_eq]
    split
    · rw [Nat.testBit_or, Nat.zero_or]
    · rw [Nat.testBit_or, Nat.zero_or]
  have ev' : (if v.1 = 0 then ((0 ||| pns p) ||| pns q).testBit v.2 else ((0 ||| psi σ p (v.1 - 1)) ||| psi σ q (v.1 - 1)).testBit v.2) = (psn σ p v || psn σ q v) := by
    rw [psn_eq, psn_eq]
    split
    · rw [Nat.testBit_or, Nat.zero_or]
    · rw [Nat.testBit_or, Nat.zero_or]
  by_cases ke : pkd σ u = pkd σ v
  case neg =>
    rw [if_pos ke] at k
    have k80 : ∀ kd, Wp (d + 2) C_X4_doSwap Q 80 [vR (some 116), vI (r : Nat), vI (i : Nat), vI a, vI b, vI c, vI kd, vU, vU, vU, vU, vU, vU] [vI (pkd σ v), vI (pkd σ u)] h := fun kd => ss_X4_doSwap_80 hS (im ke (k h (FMd_refl hS) hV))
    have k56 : Wp (d + 2) C_X4_doSwap Q 56 [vR (some 116), vI (r : Nat), vI (i : Nat), vI a, vI b, vI c, vU, vU, vU, vU, vU, vU, vU] [vI (pkd σ u)] h := by
      refine ss_X4_doSwap_56 hS ?_
      rcases hm with ⟨m1, m2, m3⟩ | ⟨id, m1, m2, m3⟩
      · refine ip (by rw [m2]; decide) ?_
        have := k80 (pkd σ u)
        rw [(pk0 m1).1] at this
        exact this
      · refine im (by rw [m2]; omega) ?_
        have y := rv2 (by omega)
        rw [m2, Int.toNat_natCast, (hV.2.2.2.1 id (by omega)).1, ← (pk1 (σ := σ) m1).1]
        exact ⟨by omega, k80 _⟩
    refine ss_X4_doSwap_28 hS (ip b46 ?_)
    rcases hP with ⟨m1, m2, m3⟩ | ⟨id, m1, m2, m3⟩
    · rw [(pk0 m1).1] at k56
      exact ip (by rw [m2]; decide) k56
    · refine im (by rw [m2]; omega) ?_
      have y := ru2 (by omega)
      rw [m2] at k56 ⊢
      rw [Int.toNat_natCast, (hV.2.2.2.1 id (by omega)).1, ← (pk1 (σ := σ) m1).1]
      exact ⟨by omega, k56⟩
  rw [if_neg (fun z => z ke)] at k
  have k204 : (u = v ∨ psn σ p u = true ∨ psn σ q u = true ∨ psn σ p v = true ∨ psn σ q v = true) → ∀ kd x7 x8, Wp (d + 2) C_X4_doSwap Q 204 [vR (some 116), vI (r : Nat), vI (i : Nat), vI a, vI b, vI c, vI kd, vI x7, vI x8, vU, vU, vU, vU] [] h := by
    intro z kd x7 x8
    rw [if_pos z] at k
    exact ss_X4_doSwap_204 hS (k h (FMd_refl hS) hV)
  have k185 : ∀ kd, Wp (d + 2) C_X4_doSwap Q 185 [vR (some 116), vI (r : Nat), vI (i : Nat), vI a, vI b, vI c, vI kd, vI (bI (decide (u = v))), vU, vU, vU, vU, vU] [vI (bI (psn σ p u || psn σ q u))] h := by
    intro kd
    refine ss_X4_doSwap_185 hS ?_
    by_cases uv : u = v
    · rw [decide_eq_true uv]
      exact im (by decide) (k204 (Or.inl uv) _ _ _)
    rw [decide_eq_false uv]
    refine ip rfl ?_
    cases hb : (psn σ p u || psn σ q u) with
    | true =>
      refine im (by decide) (k204 ?_ _ _ _)
      rw [Bool.or_eq_true] at hb
      exact Or.inr (hb.elim (fun z => Or.inl z) (fun z => Or.inr (Or.inl z)))
    | false =>
      refine ip rfl ?_
      refine c_isSeen hS sn hm (fun z => (rv1 z).1) rv2 ?_
      rw [ev']
      cases hc : (psn σ p v || psn σ q v) with
      | true =>
        rw [Bool.or_eq_true] at hc
        exact ss_X4_doSwap_201 hS (im (by decide) (k204 (Or.inr (Or.inr (Or.inr hc))) _ _ _))
      | false =>
        rw [Bool.or_eq_false_iff] at hb hc
        rw [if_neg (by rw [hb.1, hb.2, hc.1, hc.2]; simp; exact uv)] at k
        exact m_sw3 hS hV hZ hP hm ru1 ru2 rv1 rv2 uv ke (fun h' F V => k h' F V)
  have k137 : ∀ kd, Wp (d + 2) C_X4_doSwap Q 137 [vR (some 116), vI (r : Nat), vI (i : Nat), vI a, vI b, vI c, vI kd, vU, vU, vU, vU, vU, vU] [vI (bI (decide (u = v)))] h := by
    intro kd
    have fin : if bI (psn σ p u || psn σ q u) = 1 then Wp (d + 2) C_X4_doSwap Q 185 [vR (some 116), vI (r : Nat), vI (i : Nat), vI a, vI b, vI c, vI kd, vI (bI (decide (u = v))), vU, vU, vU, vU, vU] [vI 1] h else Wp (d + 2) C_X4_doSwap Q 185 [vR (some 116), vI (r : Nat), vI (i : Nat), vI a, vI b, vI c, vI kd, vI (bI (decide (u = v))), vU, vU, vU, vU, vU] [vI 0] h := by
      have := k185 kd
      cases hb : (psn σ p u || psn σ q u) with
      | true => rw [hb] at this; exact ip rfl this
      | false => rw [hb] at this; exact im (by decide) this
    refine ss_X4_doSwap_137 hS ?_
    by_cases q : b < 0
    · refine ip q ?_
      rw [bu.1 q, eu]; exact fin
    · refine im q ⟨(bu.2 q).1, ?_⟩
      rw [(bu.2 q).2, eu]; exact fin
  have k80 : ∀ kd, Wp (d + 2) C_X4_doSwap Q 80 [vR (some 116), vI (r : Nat), vI (i : Nat), vI a, vI b, vI c, vI kd, vU, vU, vU, vU, vU, vU] [vI (pkd σ v), vI (pkd σ u)] h := by
    intro kd
    have y := k137 kd
    refine ss_X4_doSwap_80 hS (ip ke ?_)
    have ext : u.1 = v.1 → u.2 = v.2 → u = v := fun z1 z2 => Prod.ext z1 z2
    rcases hP with ⟨m1, m2, m3⟩ | ⟨id, m1, m2, m3⟩
    · refine ip (by rw [m2]; decide) ?_
      rcases hm with ⟨w1, w2, w3⟩ | ⟨id', w1, w2, w3⟩
      · refine ip (by rw [w2]; decide) ?_
        by_cases e : u.2 = v.2
        · rw [decide_eq_true (ext (by omega) e)] at y
          exact ip (by rw [m3, w3, e]) y
        · rw [decide_eq_false (fun z => e (by rw [z]))] at y
          exact im (by rw [m3, w3]; omega) (ss_X4_doSwap_110 hS y)
      · rw [decide_eq_false (fun z => by rw [z] at m1; omega)] at y
        exact im (by rw [w2]; omega) (ss_X4_doSwap_110 hS y)
    · refine im (by rw [m2]; omega) ?_
      rcases hm with ⟨w1, w2, w3⟩ | ⟨id', w1, w2, w3⟩
      · rw [decide_eq_false (fun z => by rw [z] at m1; omega)] at y
        exact im (by rw [w2, m2]; omega) (ss_X4_doSwap_136 hS y)
      · by_cases e1 : id = id'
        · refine ip (by rw [w2, m2, e1]) ?_
          by_cases e2 : u.2 = v.2
          · rw [decide_eq_true (ext (by omega) e2)] at y
            exact ip (by rw [m3, w3, e2]) y
          · rw [decide_eq_false (fun z => e2 (by rw [z]))] at y
            exact im (by rw [m3, w3]; omega) (ss_X4_doSwap_136 hS y)
        · rw [decide_eq_false (fun z => by rw [z] at m1; omega)] at y
          exact im (by rw [w2, m2]; omega) (ss_X4_doSwap_136 hS y)
  have k56 : Wp (d + 2) C_X4_doSwap Q 56 [vR (some 116), vI (r : Nat), vI (i : Nat), vI a, vI b, vI c, vU, vU, vU, vU, vU, vU, vU] [vI (pkd σ u)] h := by
    refine ss_X4_doSwap_56 hS ?_
    rcases hm with ⟨m1, m2, m3⟩ | ⟨id, m1, m2, m3⟩
    · refine ip (by rw [m2]; decide) ?_
      have := k80 (pkd σ u)
      rw [(pk0 m1).1] at this
      exact this
    · refine im (by rw [m2]; omega) ?_
      have y := rv2 (by omega)
      rw [m2, Int.toNat_natCast, (hV.2.2.2.1 id (by omega)).1, ← (pk1 (σ := σ) m1).1]
      exact ⟨by omega, k80 _⟩
  refine ss_X4_doSwap_28 hS (ip b46 ?_)
  rcases hP with ⟨m1, m2, m3⟩ | ⟨id, m1, m2, m3⟩
  · rw [(pk0 m1).1] at k56
    exact ip (by rw [m2]; decide) k56
  · refine im (by rw [m2]; omega) ?_
    have y := ru2 (by omega)
    rw [m2] at k56 ⊢
    rw [Int.toNat_natCast, (hV.2.2.2.1 id (by omega)).1, ← (pk1 (σ := σ) m1).1]
    exact ⟨by omega, k56⟩
theorem m_swap {d r i q0 n kk : Nat} {Q : qt} {h : hp} {σ : zS} {p q : zT} {P S : List (Nat × Nat)} (hS : St h) (hr : r < 10) (hi : i < 400) (hK : RK h r (P ++ (zk p ++ ((6, kk) :: (zk q ++ S))))) (hV : MV h σ) (hZ : Zr σ) (hq : hI h 128 i = (q0 : Nat)) (hqP : q0 = P.length) (hE : hI h 129 i = (n : Nat)) (hnP : n = P.length + (zk p).length + 1) (okp : okP p) (okq : okP q) (k : DmQ h σ (sSwap σ p q) Q) : Wc (d + 55) 184 [vR (some 116), vI (r : Nat), vI (i : Nat), vI 3] h Q := by
  refine se_X4_doChange hS ?_
  refine c_seeN hS (fun h1 F1 Z1 => ?_)
  have M1 : FMd h h1 := FMd_FI F1 hS rfl (fun c j z => by unfold pG at z; unfold pMd; simp at z; omega)
  have S1 := FMd_St M1
  have V1 : MV h1 σ := MV_FI F1 rfl rfl hV
  have K1 : RK h1 r (P ++ (zk p ++ ((6, kk) :: (zk q ++ S)))) := RK_eq (fun j => FI_i F1 rfl) (fun j => FI_i F1 rfl) (fun j => FI_i F1 rfl) hK
  refine ss_X4_doChange_4 S1 ⟨by omega, ?_⟩
  rw [Int.toNat_natCast, FI_i F1 (b := 128) rfl, hq]
  refine c_findP (d := d + 3) S1 hr K1 hqP V1 Z1.2.2 okp (ns := 0) (is := fun _ => 0) ⟨by decide, Z1.1, fun id hi => ⟨Nat.pow_pos (by decide), Z1.2.1 id hi⟩⟩ (fun w h2 hw w0 F V b => ?_) (fun c h2 hc F V b b49 hm sn fr => ?_)
  · unfold sSwap at k
    rw [hw] at k
    refine ss_X4_doChange_15 (FMd_St F) (im (by rw [b]; omega) ?_)
    rw [b]
    exact k h2 (FMd_trans M1 F) V
  have M2 := FMd_trans M1 F
  have S2 := FMd_St M2
  refine ss_X4_doChange_15 S2 (ip b (ip rfl ?_))
  refine se_X4_doSwap S2 ⟨by omega, ?_⟩
  have K2 : RK h2 r ((P ++ (zk p ++ [(6, kk)])) ++ (zk q ++ S)) := by
    have : P ++ (zk p ++ ((6, kk) :: (zk q ++ S))) = (P ++ (zk p ++ [(6, kk)])) ++ (zk q ++ S) := by simp
    rw [← this]
    exact RK_eq (fun j => fr 123 j (by decide) (by decide)) (fun j => fr 124 j (by decide) (by decide)) (fun j => fr 125 j (by decide) (by decide)) K1
  have e129 : hI h2 129 i = ((P ++ (zk p ++ [(6, kk)])).length : Nat) := by
    rw [fr 129 i (by decide) (by decide), FI_i F1 rfl, hE, hnP]; simp; omega
  rw [Int.toNat_natCast, e129]
  refine c_findP (d := d + 2) S2 hr K2 rfl V b49 okq sn (fun w h3 hw w0 F3 V3 b3 => ?_) (fun c3 h3 hc3 F3 V3 b3 b493 hm3 sn3 fr3 => ?_)
  · unfold sSwap at k
    rw [hc] at k
    dsimp only at k
    rw [hw] at k
    refine ss_X4_doSwap_28 (FMd_St F3) (im (by rw [b3]; omega) ?_)
    rw [b3]
    exact k h3 (FMd_trans M2 F3) V3
  · have M3 := FMd_trans M2 F3
    refine m_sw2 (d := d + 51) (FMd_St M3) V3 hZ okp okq hc hc3 hm hm3 sn3 b3 ?_
    cases hs : sSwap σ p q with
    | inl w => rw [hs] at k; exact fun h' F' V' => k h' (FMd_trans M3 F') V'
    | inr w => rw [hs] at k; exact fun h' F' V' => k h' (FMd_trans M3 F') V'
