/-! x SWAPS two places -/
def sSwap (σ : zS) (p q : zT) : Nat ⊕ zS := match plv σ p with
  | .inl w => .inl w
  | .inr a => match plv σ q with
    | .inl w => .inl w
    | .inr b => if pkd σ a ≠ pkd σ b then .inl 10 else if a = b ∨ psn σ p a = true ∨ psn σ q a = true ∨ psn σ p b = true ∨ psn σ q b = true then .inl 6 else .inr (pst (pst σ a (pgv σ b)) b (pgv σ a))
theorem c_isOne {d lo hi o b f : Nat} {Q : qt} {h : hp} {σ : zS} {ρ : Nat → Nat} {p q : zT} {u v : Nat × Nat} (hS : St h) (hZ : XZ h σ ρ) (ho : hT h o = (20, 0)) (f0 : hR h o 0 = some b) (f1 : hR h o 1 = some f) (rp : RPl h lo hi p b) (rq : RPl h lo hi q f) (okp : okP p) (okq : okP q) (hu : plv σ p = .inr u) (hv : plv σ q = .inr v) (k : Q (.inl (some (vI (bI (decide (u = v)))))) h) : Wc (d + 2) 301 [vR (some o), vR (some 68), vI (pj u : Nat), vI (pj v : Nat)] h Q := by
  have tp : (hT h b).1 = 6 := by rw [pl_tag rp]
  have tq : (hT h f).1 = 6 := by rw [pl_tag rq]
  refine se_X20_isOne hS ho ?_
  rw [f0, ofR_some]
  refine ip tp (c_plName hS rp okp ?_)
  refine ss_X20_isOne_7 hS ho ?_
  rw [f0, f1, ofR_some, ofR_some]
  rcases plv_ok okp hu with ⟨x, e1, hx, e2, n1⟩ | ⟨x, e, id, j, e1, hx, oe, q1, q2, e2, q3⟩
  · subst e1; subst e2
    refine im (nb1 x) (ip tp (c_plName hS rp okp ?_))
    refine ss_X20_isOne_27 hS ho (im (nb1 x) ?_)
    rw [f0, f1, ofR_some, ofR_some, (pl_name rp).1]
    refine ⟨by rw [tp]; simp, by rw [tq]; simp, ?_⟩
    rcases plv_ok okq hv with ⟨y, e1, hy, e2, n2⟩ | ⟨y, e, id, j, e1, hy, oe, q1, q2, e2, q3⟩
    · subst e1; subst e2
      rw [(pl_name rq).1]
      by_cases w : x = y
      · rw [decide_eq_true (by rw [w])] at k
        exact ip (by omega) k
      · rw [decide_eq_false (fun z => w (by cases z; rfl))] at k
        exact im (by omega) k
    · subst e1; subst e2
      rw [(pl_item rq).1]
      rw [decide_eq_false (fun z => by cases z)] at k
      exact im (by omega) k
  · subst e1; subst e2
    refine ip rfl (ip tq (c_plName hS rq okq ?_))
    refine ss_X20_isOne_17 hS ho ?_
    rw [f0, f1, ofR_some, ofR_some]
    rcases plv_ok okq hv with ⟨y, e1, hy, e2, n2⟩ | ⟨y, e', id', j', e1, hy, oe', q1', q2', e2, q3'⟩
    · subst e1; subst e2
      rw [decide_eq_false (fun z => by cases z)] at k
      refine im (nb1 y) (ip tp (c_plName hS rp okp ?_))
      exact ss_X20_isOne_27 hS ho (ip rfl k)
    · subst e1; subst e2
      refine ip rfl ?_
      by_cases w : j = j'
      · subst w
        refine ip rfl ?_
        obtain ⟨-, z2, -⟩ := pl_item rp
        obtain ⟨-, z2', -⟩ := pl_item rq
        have rr : ∀ x id : Nat, x < 6 → σ 2 x = (id : Nat) → hR h (102 + x) 0 = some (ρ id) ∧ 145 ≤ ρ id := by
          intro x id hx hid
          rcases hZ.1.2.1 x (by omega) with ⟨a, -⟩ | ⟨id', -, b, c, d⟩
          · omega
          · have : id' = id := by omega
            rw [← this]; exact ⟨c, d.1⟩
        rw [z2, Int.toNat_natCast, ho_r hS hx, ofR_some, ofR_some, z2', Int.toNat_natCast, ho_r hS hy, ofR_some, (rr x id hx q1).1, (rr y id' hy q1').1]
        refine ⟨by rw [tp]; simp, by omega, by rw [ho_t hS (by omega)]; simp, by rw [tq]; simp, by omega, by rw [ho_t hS (by omega)]; simp, fun a1 a2 b1 b2 => Or.inr (Or.inl (by cases b1; have := (rr x id hx q1).2; omega)), ?_⟩
        by_cases w : id = id'
        · subst w
          rw [decide_eq_true rfl] at k
          exact ip rfl k
        · rw [decide_eq_false (fun z => w (by cases z; rfl))] at k
          exact im (fun z => w (hZ.1.2.2 x y id id' (by omega) (by omega) q1 q1' (Option.some.inj z))) k
      · rw [decide_eq_false (fun z => w (by cases z; rfl))] at k
        exact im (by show ¬ (((j : Nat) : Int) = (j' : Nat)); omega) k
theorem x_swap {d lo hi o b f : Nat} {Q : qt} {h : hp} {σ : zS} {ρ : Nat → Nat} {p q : zT} (hS : St h) (hZ : XZ h σ ρ) (hFr : XFr h) (ho : hT h o = (20, 0)) (ho2 : 145 ≤ o ∧ o < hN h) (hl : 145 ≤ lo) (hh : hi ≤ hN h) (f0 : hR h o 0 = some b) (f1 : hR h o 1 = some f) (rp : RPl h lo hi p b) (rq : RPl h lo hi q f) (okp : okP p) (okq : okP q) (hd1 : zht (zr p) + 9 ≤ d) (hd2 : zht (zr q) + 9 ≤ d) (k : DoQ h ρ σ (sSwap σ p q) Q) : Wc d 300 [vR (some o), vR (some 68)] h Q := by
  obtain ⟨d, rfl⟩ : ∃ e, d = e + 5 := ⟨d - 5, by omega⟩
  have tp : (hT h b).1 = 6 := by rw [pl_tag rp]
  have tq : (hT h f).1 = 6 := by rw [pl_tag rq]
  refine se_X20_doForward hS ho ?_
  rw [f0, ofR_some]
  refine ip tp (c_xfind hS hZ hFr rp okp (by omega) (fun w hw => ?_) (fun u hu => ?_))
  · unfold sSwap at k
    rw [hw] at k
    exact k h (FX_refl hS) rfl rfl hZ
  refine ss_X20_doForward_8 hS ho ?_
  rw [f1, ofR_some]
  refine ip tq (c_xfind hS hZ hFr rq okq (by omega) (fun w hw => ?_) (fun v hv => ?_))
  · unfold sSwap at k
    rw [hu] at k
    dsimp only at k
    rw [hw] at k
    exact k h (FX_refl hS) rfl rfl hZ
  unfold sSwap at k
  rw [hu] at k
  dsimp only at k
  rw [hv] at k
  dsimp only at k
  refine ss_X20_doForward_17 hS ho ?_
  rw [f0, ofR_some]
  refine ip tp (c_xkind hS hZ rp okp hu ?_)
  refine ss_X20_doForward_26 hS ho ?_
  rw [f1, ofR_some]
  refine ip tq (c_xkind hS hZ rq okq hv ?_)
  refine ss_X20_doForward_34 hS ho ?_
  by_cases kd : pkd σ u = pkd σ v
  case neg =>
    rw [if_pos kd] at k
    exact im kd (k h (FX_refl hS) rfl rfl hZ)
  rw [if_neg (fun z => z kd)] at k
  refine ip kd (c_isOne hS hZ ho f0 f1 rp rq okp okq hu hv ?_)
  refine ss_X20_doForward_52 hS ho ?_
  by_cases uv : u = v
  · rw [if_pos (Or.inl uv)] at k
    rw [decide_eq_true uv]
    exact im (by decide) (k h (FX_refl hS) rfl rfl hZ)
  rw [decide_eq_false uv]
  refine ip rfl ?_
  rw [f0]
  refine c_xbar hS hZ rp hl hh okp hu (fun h1 F1 Z1 B1 => ?_)
  have S1 := FXd_St F1
  have im20 : imm (hT h o).1 := by rw [ho]; exact imm_in (by decide) (by decide)
  have s1 := FXd_sm F1 ho2.1 ho2.2 im20
  have ho1 : hT h1 o = (20, 0) := s1.1.trans ho
  have g0 : hR h1 o 0 = some b := (s1.2.2.2 0).trans f0
  have g1 : hR h1 o 1 = some f := (s1.2.2.2 1).trans f1
  have rp1 := FXd_RPl F1 hl hh rp
  have rq1 := FXd_RPl F1 hl hh rq
  have tp1 : (hT h1 b).1 = 6 := by rw [pl_tag rp1]
  have tq1 : (hT h1 f).1 = 6 := by rw [pl_tag rq1]
  refine ss_X20_doForward_72 S1 ho1 ?_
  rw [g0, ofR_some, ofR_some]
  refine ⟨by rw [tp1]; simp, ip tp1 ?_⟩
  refine c_xcheck S1 Z1 B1 (pl_tag rp1) rp1 okp hu (by omega) (fun w => ?_) (fun w1 => ?_)
  · rw [if_pos (Or.inr (Or.inl w))] at k
    exact k h1 F1.1 F1.2.1 F1.2.2 Z1
  refine ss_X20_doForward_87 S1 ho1 ?_
  rw [g0, g1, ofR_some, ofR_some]
  refine ⟨by rw [tq1]; simp, ip tp1 ?_⟩
  refine c_xcheck S1 Z1 B1 (pl_tag rp1) rq1 okq hv (by omega) (fun w => ?_) (fun w2 => ?_)
  · rw [if_pos (Or.inr (Or.inr (Or.inl w)))] at k
    exact k h1 F1.1 F1.2.1 F1.2.2 Z1
  refine ss_X20_doForward_102 S1 ho1 ?_
  rw [g1]
  refine c_xbar S1 Z1 rq1 hl (by rw [F1.2.1]; exact hh) okq hv (fun h2 F12 Z2 B2 => ?_)
  have F2 := FXd_trans F1 F12
  have S2 := FXd_St F2
  have s2 := FXd_sm F2 ho2.1 ho2.2 im20
  have oh2 : hT h2 o = (20, 0) := s2.1.trans ho
  have j0 : hR h2 o 0 = some b := (s2.2.2.2 0).trans f0
  have j1 : hR h2 o 1 = some f := (s2.2.2.2 1).trans f1
  have rp2 := FXd_RPl F2 hl hh rp
  have rq2 := FXd_RPl F2 hl hh rq
  have tp2 : (hT h2 b).1 = 6 := by rw [pl_tag rp2]
  have tq2 : (hT h2 f).1 = 6 := by rw [pl_tag rq2]
  refine ss_X20_doForward_111 S2 oh2 ?_
  rw [j0, j1, ofR_some, ofR_some]
  refine ⟨by rw [tp2]; simp, ip tq2 ?_⟩
  refine c_xcheck S2 Z2 B2 (pl_tag rq2) rp2 okp hu (by omega) (fun w => ?_) (fun w3 => ?_)
  · rw [if_pos (Or.inr (Or.inr (Or.inr (Or.inl w))))] at k
    exact k h2 F2.1 F2.2.1 F2.2.2 Z2
  refine ss_X20_doForward_126 S2 oh2 ?_
  rw [j1, ofR_some, ofR_some]
  refine ⟨by rw [tq2]; simp, ip tq2 ?_⟩
  refine c_xcheck S2 Z2 B2 (pl_tag rq2) rq2 okq hv (by omega) (fun w => ?_) (fun w4 => ?_)
  · rw [if_pos (Or.inr (Or.inr (Or.inr (Or.inr w))))] at k
    exact k h2 F2.1 F2.2.1 F2.2.2 Z2
  rw [if_neg (by rw [w1, w2, w3, w4]; simp; exact uv)] at k
  refine ss_X20_doForward_141 S2 oh2 ?_
  refine c_xfree S2 Z2 (fun h3 F23 fr3 Z3 => ?_)
  have F3 := FXd_trans F2 F23
  have S3 := FXd_St F3
  have s3 := FXd_sm F3 ho2.1 ho2.2 im20
  have oh3 : hT h3 o = (20, 0) := s3.1.trans ho
  have l0 : hR h3 o 0 = some b := (s3.2.2.2 0).trans f0
  have l1 : hR h3 o 1 = some f := (s3.2.2.2 1).trans f1
  have rp3 := FXd_RPl F3 hl hh rp
  have rq3 := FXd_RPl F3 hl hh rq
  have tp3 : (hT h3 b).1 = 6 := by rw [pl_tag rp3]
  have tq3 : (hT h3 f).1 = 6 := by rw [pl_tag rq3]
  refine ss_X20_doForward_145 S3 oh3 ?_
  rw [l0, ofR_some]
  refine ip tp3 (c_xget S3 Z3 rp3 okp hu ?_)
  refine ss_X20_doForward_154 S3 oh3 ?_
  rw [l1, l0, ofR_some]
  refine ip tq3 (c_xget S3 Z3 rq3 okq hv ?_)
  refine ss_X20_doForward_171 S3 oh3 ?_
  rw [ofR_some]
  refine ip tp3 (c_xset S3 Z3 fr3 rp3 okp (Pat_of okp hu) (fun h4 F34 fr4 Z4 => ?_))
  have F4 := FXd_trans F3 F34
  have S4 := FXd_St F4
  have s4 := FXd_sm F4 ho2.1 ho2.2 im20
  have oh4 : hT h4 o = (20, 0) := s4.1.trans ho
  have m1 : hR h4 o 1 = some f := (s4.2.2.2 1).trans f1
  have rq4 := FXd_RPl F4 hl hh rq
  have tq4 : (hT h4 f).1 = 6 := by rw [pl_tag rq4]
  refine ss_X20_doForward_174 S4 oh4 ?_
  rw [m1, ofR_some]
  refine ip tq4 (c_xset S4 Z4 fr4 rq4 okq (Pat_pst (Pat_of okq hv)) (fun h5 F45 fr5 Z5 => ?_))
  have F5 := FXd_trans F4 F45
  exact k h5 ρ F5.1 fr5 (by rw [F5.2.2]; omega) Z5
