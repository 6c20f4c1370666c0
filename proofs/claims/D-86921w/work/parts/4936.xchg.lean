/-! x: get, kind, set of a place -/
theorem i2s2 (x : Int) : n_i2s (n_i2s x) = n_i2s x := by rw [i2s_eq, i2s_eq]; exact Int.bmod_bmod
theorem i2b2 (x : Int) : n_i2b (n_i2b x) = n_i2b x := by rw [i2b_eq, i2b_eq]; exact Int.bmod_bmod
theorem i2c2 (x : Int) : n_i2c (n_i2c x) = n_i2c x := by rw [i2c_eq, i2c_eq]; omega
def hW (h : hp) (a : Nat) (kd : Int) (j : Nat) (w : Int) : hp := if kd = 1 then sL h a j w else sI h a j w
theorem el_W1 {h : hp} {a i j : Nat} {kd w : Int} : elem (hW h a kd j w) a kd i = if i = j then w else elem h a kd i := by
  unfold elem hW
  by_cases q : kd = 1
  · rw [if_pos q, if_pos q, if_pos q, hL_sL]
    by_cases e : i = j
    · rw [if_pos ⟨rfl, e⟩, if_pos e]
    · rw [if_neg (fun z => e z.2), if_neg e]
  · rw [if_neg q, if_neg q, if_neg q, hI_sI]
    by_cases e : i = j
    · rw [if_pos ⟨rfl, e⟩, if_pos e]
    · rw [if_neg (fun z => e z.2), if_neg e]
theorem sm_W {h : hp} {a b j : Nat} {kd w : Int} (hb : b ≠ a) : sm h (hW h a kd j w) b := by
  unfold hW
  split
  · exact ⟨rfl, fun _ => rfl, fun i => by rw [hL_sL, if_neg (fun z => hb z.1)], fun _ => rfl⟩
  · exact sm_sI (sm_refl _ _) hb
theorem hT_W {h : hp} {a b j : Nat} {kd w : Int} : hT (hW h a kd j w) b = hT h b := by unfold hW; split <;> rfl
theorem hN_W {h : hp} {a j : Nat} {kd w : Int} : hN (hW h a kd j w) = hN h ∧ hU (hW h a kd j w) = hU h := by unfold hW; split <;> exact ⟨rfl, rfl⟩
theorem XZ_it {h : hp} {σ : zS} {ρ : Nat → Nat} {x id j : Nat} {w : Int} (z : XZ h σ ρ) (hx : x < 14) (hid : σ 2 x = (id : Nat)) (hj : ((j : Nat) : Int) < σ 4 id) : XZ (hW h (ρ id) (σ 3 id) j w) (su σ 5 (12 * id + j) w) ρ ∧ 145 ≤ ρ id ∧ ρ id < hN h ∧ 101 ≤ (hT h (ρ id)).1 ∧ (hT h (ρ id)).1 ≤ 105 := by
  obtain ⟨⟨a, b1, b2⟩, c, d⟩ := z
  have xa : XA h σ (ρ id) id := by
    rcases b1 x hx with ⟨y, -⟩ | ⟨id', -, y2, -, y4⟩
    · omega
    · have : id' = id := by omega
      rw [← this]; exact y4
  obtain ⟨u1, u2, u3, u4, ⟨n, n1, n2, n3⟩, u6⟩ := xa
  have kr := kt_rg (σ 3 id)
  have sm' : ∀ y, y ≠ ρ id → sm h (hW h (ρ id) (σ 3 id) j w) y := fun y hy => sm_W hy
  refine ⟨⟨⟨fun k hk => ?_, fun k hk => ?_, fun k k' i i' hk hk' q q' => b2 k k' i i' hk hk' q q'⟩, fun s hs => ?_, fun s hs => ?_⟩, u1, u2, by rw [n3]; exact kr.1, by rw [n3]; exact kr.2⟩
  · rw [(sm' 73 (by omega)).2.1, (sm' 74 (by omega)).2.1, su_f (by decide), su_f (by decide)]; exact a k hk
  · rw [su_f (show 2 ≠ 5 by decide), (sm' (102 + k) (by omega)).2.2.2]
    rcases b1 k hk with y | ⟨id', y1, y2, y3, y4⟩
    · exact Or.inl y
    · refine Or.inr ⟨id', y1, y2, y3, ?_⟩
      obtain ⟨v1, v2, v3, v4, ⟨m, m1, m2, m3⟩, v6⟩ := y4
      refine ⟨v1, by rw [hN_W.1]; exact v2, by rw [su_f (by decide)]; exact v3, by rw [su_f (by decide)]; exact v4, ⟨m, m1, by rw [su_f (by decide)]; exact m2, by rw [su_f (by decide), hT_W]; exact m3⟩, fun i hi => ?_⟩
      rw [su_f (show 4 ≠ 5 by decide)] at hi
      rw [su_f (show 3 ≠ 5 by decide)]
      by_cases e : id' = id
      · subst e
        rw [el_W1]
        by_cases ij : i = j
        · subst ij; rw [if_pos rfl, su_at]
        · rw [if_neg ij, su_k (by omega)]; exact v6 i hi
      · have ne : ρ id' ≠ ρ id := fun q => e (b2 k x id' id hk hx y2 hid q)
        have s := sm' _ ne
        rw [su_k (by omega), ← v6 i hi]
        unfold elem
        rw [s.2.1, s.2.2.1]
  · rw [(sm' 77 (by omega)).2.1, su_f (by decide)]; exact c s hs
  · rw [(sm' 76 (by omega)).2.1, su_f (by decide)]; exact d s hs
theorem c_hset {d : Nat} {Q : qt} {h : hp} {σ : zS} {ρ : Nat → Nat} {x id j : Nat} {v : Int} (hS : St h) (hZ : XZ h σ ρ) (hx : x < 14) (hid : σ 2 x = (id : Nat)) (hj : ((j : Nat) : Int) < σ 4 id) (k : Q (.inl none) (hW h (ρ id) (σ 3 id) j (cutz (σ 3 id) v))) : Wc (d + 1) 105 [vR (some (102 + x)), vI (j : Nat), vJ v] h Q := by
  have hr : hR h (102 + x) 0 = some (ρ id) ∧ XA h σ (ρ id) id := by
    rcases hZ.1.2.1 x hx with ⟨y, -⟩ | ⟨id', -, y2, y3, y4⟩
    · omega
    · have : id' = id := by omega
      rw [← this]; exact ⟨y3, y4⟩
  obtain ⟨hr, u1, u2, u3, u4, ⟨n, n1, n2, n3⟩, u6⟩ := hr
  have ho := ho_t hS hx
  refine se_X3_set hS ho ?_
  rw [hr]
  obtain ⟨a, ha⟩ : ∃ a, a = ρ id := ⟨_, rfl⟩
  rw [← ha] at k u1 u2 n3 ⊢
  have S1 : ∀ w, St (sI h a j w) := fun w => St_sI hS (by omega)
  have fit : fitR h [101, 102, 103, 104, 105] (some a) := Or.inr ⟨a, rfl, by rw [n3]; have := kt_ok (σ 3 id); simp; omega⟩
  have fitK : fitR h [kt (σ 3 id)] (some a) := Or.inr ⟨a, rfl, by rw [n3]; simp⟩
  have iv : ∀ c, insV h [c] (some a) = if kt (σ 3 id) = c then 1 else 0 := by
    intro c
    show (if (hT h a).1 ∈ [c] then (1 : Int) else 0) = _
    rw [n3]
    by_cases q : kt (σ 3 id) = c
    · rw [if_pos (by rw [q]; simp), if_pos q]
    · rw [if_neg (by simp; exact q), if_neg q]
  simp only [iv]
  rw [Int.toNat_natCast]
  have ib : inb h a [kt (σ 3 id)] (j : Nat) := ⟨by rw [n3]; simp, by omega, by rw [n3]; show ((j : Nat) : Int) < (n : Nat); omega⟩
  have kc : σ 3 id = 0 ∨ σ 3 id = 1 ∨ σ 3 id = 2 ∨ σ 3 id = 3 ∨ σ 3 id = 4 := by omega
  rcases kc with e | e | e | e | e <;> rw [e] at k ib fitK ⊢
  · exact ⟨fit, im (by decide) ⟨fitK, (by rw [ofR_some]; exact ⟨ib, ss_X3_set_133 (S1 _) ho k⟩)⟩⟩
  · exact ⟨fit, ip rfl ⟨fit, im (by decide) ⟨fitK, (by rw [ofR_some]; exact ⟨ib, ss_X3_set_133 (St_sL hS) ho k⟩)⟩⟩⟩
  · exact ⟨fit, ip rfl ⟨fit, ip rfl ⟨fit, im (by decide) ⟨fitK, (by rw [ofR_some, i2s2]; exact ⟨ib, ss_X3_set_133 (S1 _) ho k⟩)⟩⟩⟩⟩
  · exact ⟨fit, ip rfl ⟨fit, ip rfl ⟨fit, ip rfl ⟨fit, im (by decide) ⟨fitK, (by rw [ofR_some, i2b2]; exact ⟨ib, ss_X3_set_133 (S1 _) ho k⟩)⟩⟩⟩⟩⟩
  · exact ⟨fit, ip rfl ⟨fit, ip rfl ⟨fit, ip rfl ⟨fit, ip rfl ⟨fitK, (by rw [ofR_some, i2c2, i2c_l]; exact ⟨ib, ss_X3_set_133 (S1 _) ho k⟩)⟩⟩⟩⟩⟩
theorem c_xget {d lo hi a : Nat} {Q : qt} {h : hp} {σ : zS} {ρ : Nat → Nat} {p : zT} {c : Nat × Nat} (hS : St h) (hZ : XZ h σ ρ) (hp : RPl h lo hi p a) (ok : okP p) (hc : plv σ p = .inr c) (k : Q (.inl (some (vJ (pgv σ c)))) h) : Wc (d + 3) 248 [vR (some a), vR (some 68), vI (pj c : Nat)] h Q := by
  refine se_X6_get hS (pl_tag hp) ?_
  refine c_plName hS hp ok ?_
  refine ss_X6_get_4 hS (pl_tag hp) ?_
  rcases plv_ok ok hc with ⟨x, e1, hx, e2, q⟩ | ⟨x, e, id, j, e1, hx, oe, q1, q2, e2, q3⟩
  · subst e1; subst e2
    obtain ⟨y1, y2, y3⟩ := hZ.1.1 x hx
    refine im (nb1 x) ?_
    rw [(pl_name hp).1, Int.toNat_natCast, y3 (by omega)]
    exact ⟨by omega, k⟩
  · subst e1; subst e2
    obtain ⟨z1, z2, -⟩ := pl_item hp
    refine ip rfl ?_
    rw [z2, Int.toNat_natCast, ho_r hS hx, ofR_some]
    refine ⟨by omega, ip (by rw [ho_t hS (by omega)]) ?_⟩
    refine c_hgt hS hZ.1 (by omega) (by omega) (by rw [q1, Int.toNat_natCast]; exact q2) ?_
    rw [q1, Int.toNat_natCast]
    exact k
theorem c_xkind {d lo hi a : Nat} {Q : qt} {h : hp} {σ : zS} {ρ : Nat → Nat} {p : zT} {c : Nat × Nat} (hS : St h) (hZ : XZ h σ ρ) (hp : RPl h lo hi p a) (ok : okP p) (hc : plv σ p = .inr c) (k : Q (.inl (some (vI (pkd σ c)))) h) : Wc (d + 3) 249 [vR (some a), vR (some 68)] h Q := by
  refine se_X6_kind hS (pl_tag hp) ?_
  refine c_plName hS hp ok ?_
  refine ss_X6_kind_4 hS (pl_tag hp) ?_
  rcases plv_ok ok hc with ⟨x, e1, hx, e2, q⟩ | ⟨x, e, id, j, e1, hx, oe, q1, q2, e2, q3⟩
  · subst e1; subst e2
    exact im (nb1 x) k
  · subst e1; subst e2
    obtain ⟨z1, z2, -⟩ := pl_item hp
    refine ip rfl ?_
    rw [z2, Int.toNat_natCast, ho_r hS hx, ofR_some]
    refine ⟨by omega, ip (by rw [ho_t hS (by omega)]) ?_⟩
    refine c_hkd hS hZ.1 (by omega) (by omega) ?_
    rw [q1, Int.toNat_natCast]
    exact k
theorem pst_f {σ : zS} {c : Nat × Nat} {v : Int} {f k : Nat} (h1 : f ≠ 1) (h5 : f ≠ 5) : pst σ c v f k = σ f k := by
  unfold pst
  split
  · exact su_f h1
  · exact su_f h5
/-- where p is -/
def Pat (σ : zS) (p : zT) (c : Nat × Nat) : Prop := (∃ x, p = zNam x ∧ x < 26 ∧ c = (0, x) ∧ σ 0 x ≠ 0) ∨ ∃ x e id j, p = zB 3 (zL x) e ∧ x < 6 ∧ σ 2 x = ((id : Nat) : Int) ∧ ((j : Nat) : Int) < σ 4 id ∧ c = (id + 1, j)
theorem Pat_of {σ : zS} {p : zT} {c : Nat × Nat} (ok : okP p) (hc : plv σ p = .inr c) : Pat σ p c := by
  rcases plv_ok ok hc with q | ⟨x, e, id, j, e1, hx, oe, q1, q2, e2, q3⟩
  · exact Or.inl q
  · exact Or.inr ⟨x, e, id, j, e1, hx, q1, q2, e2⟩
theorem Pat_pst {σ : zS} {p : zT} {c c' : Nat × Nat} {v : Int} (z : Pat σ p c) : Pat (pst σ c' v) p c := by
  rcases z with ⟨x, a, b, e, f⟩ | ⟨x, e, id, j, e1, hx, q1, q2, e2⟩
  · exact Or.inl ⟨x, a, b, e, by rw [pst_f (by decide) (by decide)]; exact f⟩
  · exact Or.inr ⟨x, e, id, j, e1, hx, by rw [pst_f (by decide) (by decide)]; exact q1, by rw [pst_f (by decide) (by decide)]; exact q2, e2⟩
theorem c_xset {d lo hi a : Nat} {Q : qt} {h : hp} {σ : zS} {ρ : Nat → Nat} {p : zT} {c : Nat × Nat} {v : Int} (hS : St h) (hZ : XZ h σ ρ) (hF : XFr h) (hp : RPl h lo hi p a) (ok : okP p) (hc : Pat σ p c) (k : ∀ h', FXd h h' → XFr h' → XZ h' (pst σ c v) ρ → Q (.inl none) h') : Wc (d + 3) 250 [vR (some a), vR (some 68), vI (pj c : Nat), vJ v] h Q := by
  refine se_X6_set hS (pl_tag hp) ?_
  refine c_plName hS hp ok ?_
  refine ss_X6_set_4 hS (pl_tag hp) ?_
  rcases hc with ⟨x, e1, hx, e2, q⟩ | ⟨x, e, id, j, e1, hx, q1, q2, e2⟩
  · subst e1; subst e2
    refine im (nb1 x) ?_
    rw [(pl_name hp).1, Int.toNat_natCast]
    exact ⟨by omega, k _ ⟨FX_sI (FX_refl hS) (Or.inl (by unfold pEx; omega)) (by omega), rfl, rfl⟩ ⟨by rw [hI_sI, if_neg (by omega)]; exact hF.1, hF.2⟩ (XZ_v hZ)⟩
  · subst e1; subst e2
    obtain ⟨z1, z2, -⟩ := pl_item hp
    refine ip rfl ?_
    rw [z2, Int.toNat_natCast, ho_r hS hx, ofR_some]
    refine ⟨by omega, ip (by rw [ho_t hS (by omega)]) ?_⟩
    obtain ⟨w1, w2, w3, w4, w5⟩ := XZ_it (w := cutz (σ 3 id) v) hZ (by omega) q1 q2
    rw [show pj (id + 1, j) = j from rfl]
    refine c_hset hS hZ (by omega) q1 q2 ?_
    have s68 : sm h (hW h (ρ id) (σ 3 id) j (cutz (σ 3 id) v)) 68 := sm_W (by omega)
    refine k _ ⟨?_, hN_W.1, hN_W.2⟩ ⟨by rw [s68.2.1]; exact hF.1, by rw [s68.2.2.2]; exact hF.2⟩ w1
    unfold hW
    split
    · exact FX_sL (FX_refl hS) (Or.inl (by unfold pEx; omega))
    · exact FX_sI (FX_refl hS) (Or.inl (by unfold pEx; omega)) (by omega)
theorem pu_bits {d : Nat} {Q : qt} {h : hp} {v : Int} (hS : St h) (k : Q (.inl (some (vI (bz v)))) h) : Wc (d + 1) 81 [vI v] h Q := by
  refine se_X0_bitsOf hS ?_
  unfold bz at k
  by_cases k0 : v = 0
  · rw [if_pos k0] at k; exact ip k0 k
  rw [if_neg k0] at k
  refine im k0 ?_
  by_cases k1 : v = 1
  · rw [if_pos k1] at k; exact ip k1 k
  rw [if_neg k1] at k
  refine im k1 ?_
  by_cases k3 : v = 3
  · rw [if_pos k3] at k; exact ip k3 k
  rw [if_neg k3] at k
  exact im k3 k
theorem pu_turned {d : Nat} {Q : qt} {h : hp} {b v w : Int} (hS : St h) (hb : b ≠ 0) (k : Q (.inl (some (vJ (tnx b v w)))) h) : Wc (d + 1) 82 [vJ v, vI b, vJ w] h Q := by
  refine se_X0_turned hS ⟨hb, hb, ?_⟩
  unfold tnx at k
  by_cases k6 : b = 64
  · rw [if_pos k6] at k
    refine ip k6 ?_
    by_cases t0 : l_l2i (l_rem (l_add (l_rem w b) b) b) = 0
    · rw [if_pos t0] at k; exact ip t0 k
    · rw [if_neg t0] at k; exact im t0 k
  · rw [if_neg k6] at k; exact im k6 k
/-! x CHANGES a place -/
def sChg (σ : zS) (p : zT) (op : Nat) (e : zT) : Nat ⊕ zS := match plv σ p with
  | .inl w => .inl w
  | .inr c => if psn σ p c = true then .inl 6 else match ev σ bn0 (bic c) e with
    | .inl w => .inl w
    | .inr v => .inr (pst σ c (chz op (pkd σ c) (pgv σ c) v))
def xop (op : Nat) : Int := if op = 4 then 3 else if op = 5 then 4 else (op : Nat)
theorem pst_cut {σ : zS} {c : Nat × Nat} {v w : Int} (e : cutz (pkd σ c) v = cutz (pkd σ c) w) : pst σ c v = pst σ c w := by
  unfold pst
  unfold pkd at e
  by_cases q : c.1 = 0
  · rw [if_pos q, if_pos q]
    rw [if_pos q] at e
    have e' : l_l2i v = l_l2i w := e
    rw [e']
  · rw [if_neg q] at e
    rw [if_neg q, if_neg q, e]
theorem x_chg {d lo hi o b f op : Nat} {Q : qt} {h : hp} {σ : zS} {ρ : Nat → Nat} {p e : zT} (hS : St h) (hZ : XZ h σ ρ) (hFr : XFr h) (ho : hT h o = (21, 0)) (ho2 : 145 ≤ o ∧ o < hN h) (hl : 145 ≤ lo) (hh : hi ≤ hN h) (f0 : hR h o 0 = some b) (f2 : hR h o 2 = some f) (rp : RPl h lo hi p b) (re : RE h lo hi e f) (ok : okP p) (oe : okE e) (hn : (zg p == 1 && zhas (zn (zl p)) e) = false) (hop : op = 0 ∨ op = 1 ∨ op = 2 ∨ op = 4 ∨ op = 5) (hd1 : zht (zr p) + 9 ≤ d) (hd2 : zht e + 9 ≤ d) (k : DoQ h ρ σ (sChg σ p op e) Q) : Wc d 309 [vR (some o), vR (some 68), vI (xop op)] h Q := by
  obtain ⟨d, rfl⟩ : ∃ e, d = e + 5 := ⟨d - 5, by omega⟩
  refine se_X21_work hS ho ?_
  rw [f0, ofR_some]
  refine ip (by rw [pl_tag rp]) ?_
  refine c_xfind hS hZ hFr rp ok (by omega) (fun w hw => ?_) (fun c hc => ?_)
  · unfold sChg at k
    rw [hw] at k
    exact k h (FX_refl hS) rfl rfl hZ
  unfold sChg at k
  rw [hc] at k
  dsimp only at k
  refine ss_X21_work_8 hS ho ?_
  rw [f0]
  refine c_xbar hS hZ rp hl hh ok hc (fun h1 F1 Z1 B1 => ?_)
  have S1 := FXd_St F1
  have s1 := FXd_sm F1 ho2.1 ho2.2 (by rw [ho]; exact imm_in (by decide) (by decide))
  have ho1 : hT h1 o = (21, 0) := s1.1.trans ho
  have g0 : hR h1 o 0 = some b := (s1.2.2.2 0).trans f0
  have g2 : hR h1 o 2 = some f := (s1.2.2.2 2).trans f2
  have rp1 := FXd_RPl F1 hl hh rp
  have re1 := FXd_RE F1 hl hh re
  refine ss_X21_work_18 S1 ho1 ?_
  rw [g0, ofR_some, ofR_some]
  refine ⟨by rw [pl_tag rp1]; simp, ip (by rw [pl_tag rp1]) ?_⟩
  refine c_xcheck S1 Z1 B1 (pl_tag rp1) rp1 ok hc (by omega) (fun q => ?_) (fun q => ?_)
  · rw [if_pos q] at k
    exact k h1 F1.1 F1.2.1 F1.2.2 Z1
  rw [if_neg (by rw [q]; decide)] at k
  refine ss_X21_work_33 S1 ho1 ?_
  rw [g2, ofR_some]
  refine c_eval S1 Z1.1 B1 e f (d + 4) 0 _ re1 oe.1 (by omega) ?_
  rw [ev_c ok hc oe hn]
  cases hv : ev σ bn0 (bic c) e with
  | inl w =>
    rw [hv] at k
    exact k h1 F1.1 F1.2.1 F1.2.2 Z1
  | inr v =>
    rw [hv] at k
    dsimp only at k
    refine ss_X21_work_41 S1 ho1 ?_
    refine c_xfree S1 Z1 (fun h2 F12 fr Z2 => ?_)
    have F2 := FXd_trans F1 F12
    have S2 := FXd_St F2
    have s2 := FXd_sm F2 ho2.1 ho2.2 (by rw [ho]; exact imm_in (by decide) (by decide))
    have ho2' : hT h2 o = (21, 0) := s2.1.trans ho
    have g0' : hR h2 o 0 = some b := (s2.2.2.2 0).trans f0
    have rp2 := FXd_RPl F2 hl hh rp
    refine ss_X21_work_47 S2 ho2' ?_
    rw [g0', ofR_some]
    refine ip (by rw [pl_tag rp2]) ?_
    refine c_xget S2 Z2 rp2 ok hc ?_
    refine ss_X21_work_56 S2 ho2' ?_
    rw [g0', ofR_some]
    refine ip (by rw [pl_tag rp2]) ?_
    refine c_xkind S2 Z2 rp2 ok hc ?_
    refine ss_X21_work_66 S2 ho2' ?_
    refine pu_bits S2 ?_
    refine ss_X21_work_69 S2 ho2' ?_
    have bz0 : bz (pkd σ c) ≠ 0 := by have := bz_ok (pkd σ c); omega
    have fin : ∀ (w : Int) (h3 : hp), cutz (pkd σ c) w = cutz (pkd σ c) (chz op (pkd σ c) (pgv σ c) v) → FXd h2 h3 → XFr h3 → XZ h3 (pst σ c w) ρ → Q (.inl none) h3 := by
      intro w h3 ew F3 fr3 Z3
      rw [pst_cut ew] at Z3
      have F := FXd_trans F2 F3
      exact k h3 ρ F.1 fr3 (by rw [F.2.2]; omega) Z3
    rw [g0', ofR_some, ofR_some, ofR_some]
    have tg : (hT h2 b).1 = 6 := by rw [pl_tag rp2]
    have oK : ∀ {h3}, FXd h2 h3 → hT h3 o = (21, 0) := fun F3 => (FXd_sm (FXd_trans F2 F3) ho2.1 ho2.2 (by rw [ho]; exact imm_in (by decide) (by decide))).1.trans ho
    rcases hop with e1 | e1 | e1 | e1 | e1 <;> subst e1
    · refine ip rfl (ip tg (c_xset S2 Z2 fr rp2 ok (Pat_of ok hc) (fun h3 F3 fr3 Z3 => ss_X21_work_118 (FXd_St F3) (oK F3) (fin _ h3 rfl F3 fr3 Z3))))
    · refine im (by decide) (ip rfl (ip tg (c_xset S2 Z2 fr rp2 ok (Pat_of ok hc) (fun h3 F3 fr3 Z3 => ss_X21_work_135 (FXd_St F3) (oK F3) (fin _ h3 rfl F3 fr3 Z3)))))
    · refine im (by decide) (im (by decide) (ip rfl (ip tg (c_xset S2 Z2 fr rp2 ok (Pat_of ok hc) (fun h3 F3 fr3 Z3 => ss_X21_work_152 (FXd_St F3) (oK F3) (fin _ h3 rfl F3 fr3 Z3))))))
    · refine im (by decide) (im (by decide) (im (by decide) (ip rfl ?_)))
      refine pu_turned S2 bz0 ?_
      refine ss_X21_work_170 S2 ho2' ?_
      rw [ofR_some]
      exact ip tg (c_xset S2 Z2 fr rp2 ok (Pat_of ok hc) (fun h3 F3 fr3 Z3 => ss_X21_work_173 (FXd_St F3) (oK F3) (fin _ h3 (tnx_z _ _ _) F3 fr3 Z3)))
    · refine im (by decide) (im (by decide) (im (by decide) (im (by decide) ⟨bz0, ?_⟩)))
      refine pu_turned S2 bz0 ?_
      refine ss_X21_work_196 S2 ho2' ?_
      rw [ofR_some]
      exact ip tg (c_xset S2 Z2 fr rp2 ok (Pat_of ok hc) (fun h3 F3 fr3 Z3 => fin _ h3 ((tnx_z _ _ _).trans (by
        have : l_neg (l_rem v (bz (pkd σ c))) = l_sub 0 (l_rem v (bz (pkd σ c))) := by unfold l_neg l_sub; rw [Int.zero_sub]
        rw [this]; rfl)) F3 fr3 Z3))
