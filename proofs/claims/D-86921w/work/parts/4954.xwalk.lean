/-! x WALKS -/
def pWk (a j : Nat) : Prop := a = 73 ∨ a = 74 ∨ (a = 68 ∧ j = 31)
def FWk (h h' : hp) : Prop := FX pWk h h' ∧ hN h' = hN h ∧ hU h' = hU h
theorem FWk_refl {h : hp} (hS : St h) : FWk h h := ⟨FX_refl hS, rfl, rfl⟩
theorem FWk_trans {h h1 h2 : hp} (a : FWk h h1) (b : FWk h1 h2) : FWk h h2 := ⟨FX_trans a.1 b.1, b.2.1.trans a.2.1, b.2.2.trans a.2.2⟩
theorem FWk_St {h h' : hp} (a : FWk h h') : St h' := a.1.2.2.1
theorem FWk_sm {h h' : hp} (a : FWk h h') {c : Nat} (h1 : 145 ≤ c) (h2 : c < hN h) : sm h h' c := FX_sm a.1 h2 (fun j z => by unfold pWk at z; omega)
theorem FWk_i {h h' : hp} (a : FWk h h') (hS : St h) {c j : Nat} (hc : c < 145) (hp : ¬ pWk c j) : hI h' c j = hI h c j ∧ hR h' c j = hR h c j := ⟨(FX_at a.1 (Nat.lt_of_lt_of_le hc hS.1) hp).1, (FX_at a.1 (Nat.lt_of_lt_of_le hc hS.1) hp).2.2⟩
theorem FWk_sI {h h' : hp} (a : FWk h h') {c j : Nat} {x : Int} (hc : pWk c j) : FWk h (sI h' c j x) := ⟨FX_sI a.1 (Or.inl hc) (by unfold pWk at hc; omega), a.2.1, a.2.2⟩
/-- x is walking: state, moves, limit -/
def Xw (h : hp) (ρ : Nat → Nat) (L : Nat) (σ : zS) (c : Nat) : Prop := XZ h σ ρ ∧ XFr h ∧ hI h 68 31 = (c : Nat) ∧ hI h 68 32 = (L : Nat)
def WxQ (h : hp) (ρ : Nat → Nat) (L : Nat) (v : wR) (Q : qt) : Prop := (v.1 = 0 → ∀ h', FWk h h' → Xw h' ρ L v.2.1 v.2.2 → Q (.inl none) h') ∧ (v.1 ≠ 0 → ∀ h', FWk h h' → Xw h' ρ L v.2.1 v.2.2 → Q (.inr (85 + v.1)) h')
theorem WxQ_tr {h h1 : hp} {ρ : Nat → Nat} {L : Nat} {v : wR} {Q : qt} (a : FWk h h1) (k : WxQ h ρ L v Q) : WxQ h1 ρ L v Q := ⟨fun z h' F X => k.1 z h' (FWk_trans a F) X, fun z h' F X => k.2 z h' (FWk_trans a F) X⟩
theorem WxQ_to {h : hp} {ρ : Nat → Nat} {L : Nat} {v : wR} {Q Q' : qt} (h1 : ∀ h', FWk h h' → Xw h' ρ L v.2.1 v.2.2 → v.1 = 0 → Q (.inl none) h' → Q' (.inl none) h') (h2 : ∀ e h', Q (.inr e) h' → Q' (.inr e) h') (k : WxQ h ρ L v Q) : WxQ h ρ L v Q' := ⟨fun z h' F X => h1 h' F X z (k.1 z h' F X), fun z h' F X => h2 _ h' (k.2 z h' F X)⟩
theorem x_move {d L c : Nat} {Q : qt} {h : hp} {ρ : Nat → Nat} {σ : zS} (hS : St h) (hX : Xw h ρ L σ c) (hL : L ≤ 400) (hc : c ≤ L) (k1 : c = L → Q (.inr 101) h) (k2 : c ≠ L → ∀ h', FWk h h' → Xw h' ρ L σ (c + 1) → Q (.inl none) h') : Wc (d + 1) 59 [vR (some 68)] h Q := by
  refine se_X0_move hS ?_
  obtain ⟨a1, a2, a3, a4⟩ := hX
  rw [a3, a4]
  by_cases q : c = L
  · exact ip (by omega) (k1 q)
  · refine im (by omega) ?_
    rw [n1 (by omega)]
    exact k2 q _ (FWk_sI (FWk_refl hS) (Or.inr (Or.inr ⟨rfl, rfl⟩))) ⟨XZ_sI a1, XFr_sI (by decide) a2, by rw [hI_sI, if_pos ⟨rfl, rfl⟩], by rw [hI_sI, if_neg (by omega)]; exact a4⟩
abbrev VWk : List (Nat × Nat) := [(20, 293), (21, 293), (23, 322), (24, 293), (25, 293), (26, 293), (27, 293), (29, 293), (30, 293), (31, 369), (32, 376)]
/-- what is walked: lo, hi are the cells of the routine -/
def Px0 (L lo hi : Nat) (t : zT) : Prop := zun true t → ∀ (d p j : Nat) (h : hp) (ρ : Nat → Nat) (σ : zS) (c : Nat) (ys xs : List Nat) (v3 : av) (Q : qt), St h → hi ≤ hN h → Xw h ρ L σ c → c ≤ L → RPt h lo hi p ys → ys.drop j = xs → RT h lo hi t xs → (zk t).length + 30 ≤ d → WxQ h ρ L (wk L t true σ c) Q → Wp d C_X5_walk Q 2 [vR (some p), vR (some 68), vI (j : Nat), v3] [] h
def Px1 (L lo hi : Nat) (t : zT) : Prop := zun true t → ∀ (d a : Nat) (h : hp) (ρ : Nat → Nat) (σ : zS) (c : Nat) (Q : qt), St h → hi ≤ hN h → Xw h ρ L σ c → c ≤ L → RT h lo hi t [a] → (zk t).length + 30 ≤ d → WxQ h ρ L (wk L t true σ c) Q → vsel VWk (hT h a).1 fun y => Wc d y [vR (some a), vR (some 68)] h Q
theorem Pt_W {h h' : hp} {lo hi p : Nat} {ys xs : List Nat} {t : zT} (hl : 145 ≤ lo) (hh : hi ≤ hN h) (a : FWk h h') (z1 : RPt h lo hi p ys) (z2 : RT h lo hi t xs) : RPt h' lo hi p ys ∧ RT h' lo hi t xs := by
  have s : ∀ c, lo ≤ c → c < hi → imm (hT h c).1 → sm h h' c := fun c c1 c2 _ => FWk_sm a (by omega) (by omega)
  have e : hN h ≤ hN h' := by rw [a.2.1]; exact Nat.le_refl _
  refine ⟨RPt_eq hl e s (fun y hy => ?_) z1, RT_eq hl e s z2⟩
  obtain ⟨-, -, -, l, arr, -, -, -, z7, -⟩ := z1
  have w := z7.2.2.2.1 y hy
  rw [(a.1.2.2.2 y w.1).1]; exact w.2
theorem x_part {L lo hi : Nat} {t : zT} (P : Px0 L lo hi t) (u : zun true t) {d p c : Nat} {h : hp} {ρ : Nat → Nat} {σ : zS} {ys : List Nat} {Q : qt} (hS : St h) (hh : hi ≤ hN h) (hX : Xw h ρ L σ c) (hc : c ≤ L) (z1 : RPt h lo hi p ys) (z2 : RT h lo hi t ys) (hd : (zk t).length + 31 ≤ d) (k : WxQ h ρ L (wk L t true σ c) Q) : Wc d 241 [vR (some p), vR (some 68)] h Q := by
  obtain ⟨d, rfl⟩ : ∃ e, d = e + 1 := ⟨d - 1, by omega⟩
  refine se_X5_walk hS z1.2.2.1 ?_
  exact P u d p 0 h ρ σ c ys ys vU Q hS hh hX hc z1 rfl z2 (by omega) k
theorem RT_head {h : hp} {lo hi j : Nat} {s t : zT} {ys xs : List Nat} (e : ys.drop j = xs) (z : RT h lo hi (zB 150 s t) xs) : ∃ x zs, j < ys.length ∧ ys.getD j 0 = x ∧ ys.drop (j + 1) = zs ∧ RT h lo hi s [x] ∧ RT h lo hi t zs := by
  obtain ⟨x, zs, e1, r1, r2⟩ := RT_cons z
  subst e1
  have hj : j < ys.length := by
    by_cases q : j < ys.length
    · exact q
    · rw [List.drop_eq_nil_of_le (by omega)] at e; cases e
  rw [List.drop_eq_getElem_cons hj] at e
  have e2 := List.cons.inj e
  refine ⟨x, zs, hj, ?_, e2.2, r1, r2⟩
  rw [List.getD_eq_getElem?_getD, List.getElem?_eq_getElem hj]; exact e2.1
/-- a while behind its move -/
def wh2 (g : zS → Nat → wR) (e : zT) (L n : Nat) (σ : zS) (c : Nat) : wR := match ev σ bn0 bi0 e with
  | .inl w => (w, σ, c)
  | .inr v => if v = 0 then (0, σ, c) else if (g σ c).1 = 0 then wh g e L n (g σ c).2.1 (g σ c).2.2 else g σ c
theorem wh_s (g : zS → Nat → wR) (e : zT) (L n : Nat) (σ : zS) (c : Nat) : wh g e L (n + 1) σ c = if c = L then (16, σ, c) else wh2 g e L n σ (c + 1) := by
  conv => lhs; unfold wh
  unfold wh2
  rfl
theorem wh_0 (g : zS → Nat → wR) (e : zT) (L : Nat) (σ : zS) (c : Nat) : wh g e L 0 σ c = (16, σ, c) := rfl
/-- x's while -/
theorem x_wh {L lo hi : Nat} {e s : zT} (hl : 145 ≤ lo) (hL : L ≤ 400) (oe : okE e) (P : Px0 L lo hi s) (u : zun true s) (wo : Wok L (fun σ c => wk L s true σ c)) {d a : Nat} {ρ : Nat → Nat} {Q : qt} (hd : (zk e).length + (zk s).length + 32 ≤ d) : ∀ (n : Nat) (h : hp) (σ : zS) (c : Nat), St h → hi ≤ hN h → Xw h ρ L σ c → c ≤ L → RT h lo hi (zB 115 e s) [a] → L ≤ n + c → WxQ h ρ L (wh2 (fun σ c => wk L s true σ c) e L n σ c) Q → Wp d C_X31_walk Q 4 [vR (some a), vR (some 68)] [] h := by
  have le := zht_len e 0 oe.1 oe.2.2
  intro n
  induction n with
  | zero =>
    intro h σ c hS hh hX hc rt hn k
    obtain ⟨q1, q2, ta, b, p, ys, r0, r1, re, rp, rs⟩ := RT_wh rt
    refine ss_X31_walk_4 hS ta ?_
    rw [r0, ofR_some]
    refine c_eval hS hX.1.1 (XB_free hX.2.1) e b d 0 _ re oe.1 (by omega) ?_
    unfold wh2 at k
    cases hv : ev σ bn0 bi0 e with
    | inl w =>
      rw [hv] at k
      have w0 := (ev_nz e 0 w oe.1 hv).1
      exact k.2 w0 h (FWk_refl hS) hX
    | inr v =>
      rw [hv] at k
      dsimp only at k
      refine ss_X31_walk_12 hS ta ?_
      by_cases v0 : v = 0
      · rw [if_pos v0] at k
        exact ip v0 (k.1 rfl h (FWk_refl hS) hX)
      rw [if_neg v0] at k
      refine im v0 ?_
      rw [r1, ofR_some]
      refine ip (by rw [rp.2.2.1]) ?_
      obtain ⟨g1, g2, g3, g4⟩ := wo σ c hc
      dsimp only at g1 g2 g3
      refine x_part P u hS hh hX hc rp rs (by omega) ?_
      by_cases y : (wk L s true σ c).1 = 0
      · rw [if_pos y, wh_0] at k
        refine ⟨fun _ h1 F1 X1 => ?_, fun z => absurd y z⟩
        have S1 := FWk_St F1
        refine ss_X31_walk_25 S1 ((FWk_sm F1 (by omega) (by omega)).1.trans ta) ?_
        obtain ⟨d, rfl⟩ : ∃ e, d = e + 1 := ⟨d - 1, by omega⟩
        exact x_move S1 X1 hL g2 (fun _ => k.2 (by show (16 : Nat) ≠ 0; decide) h1 F1 X1) (fun z => absurd (show (wk L s true σ c).2.2 = L by omega) z)
      · rw [if_neg y] at k
        exact ⟨fun z => absurd z y, fun z h1 F1 X1 => k.2 z h1 F1 X1⟩
  | succ n ih =>
    intro h σ c hS hh hX hc rt hn k
    obtain ⟨q1, q2, ta, b, p, ys, r0, r1, re, rp, rs⟩ := RT_wh rt
    refine ss_X31_walk_4 hS ta ?_
    rw [r0, ofR_some]
    refine c_eval hS hX.1.1 (XB_free hX.2.1) e b d 0 _ re oe.1 (by omega) ?_
    unfold wh2 at k
    cases hv : ev σ bn0 bi0 e with
    | inl w =>
      rw [hv] at k
      have w0 := (ev_nz e 0 w oe.1 hv).1
      exact k.2 w0 h (FWk_refl hS) hX
    | inr v =>
      rw [hv] at k
      dsimp only at k
      refine ss_X31_walk_12 hS ta ?_
      by_cases v0 : v = 0
      · rw [if_pos v0] at k
        exact ip v0 (k.1 rfl h (FWk_refl hS) hX)
      rw [if_neg v0] at k
      refine im v0 ?_
      rw [r1, ofR_some]
      refine ip (by rw [rp.2.2.1]) ?_
      obtain ⟨g1, g2, g3, g4⟩ := wo σ c hc
      dsimp only at g1 g2 g3
      refine x_part P u hS hh hX hc rp rs (by omega) ?_
      by_cases y : (wk L s true σ c).1 = 0
      · rw [if_pos y, wh_s] at k
        refine ⟨fun _ h1 F1 X1 => ?_, fun z => absurd y z⟩
        have S1 := FWk_St F1
        have ta1 := (FWk_sm F1 (c := a) (by omega) (by omega)).1.trans ta
        refine ss_X31_walk_25 S1 ta1 ?_
        obtain ⟨d, rfl⟩ : ∃ e, d = e + 1 := ⟨d - 1, by omega⟩
        refine x_move S1 X1 hL g2 (fun z => ?_) (fun z h2 F2 X2 => ?_)
        · rw [if_pos z] at k
          exact k.2 (by show (16 : Nat) ≠ 0; decide) h1 F1 X1
        · rw [if_neg z] at k
          have F12 := FWk_trans F1 F2
          have S2 := FWk_St F12
          refine ss_X31_walk_29 S2 ((FWk_sm F12 (c := a) (by omega) (by omega)).1.trans ta) ?_
          refine ih h2 _ _ S2 (by rw [F12.2.1]; exact hh) X2 (by omega) (Pt_W hl hh F12 rp rt).2 (by omega) (WxQ_tr F12 k)
      · rw [if_neg y] at k
        exact ⟨fun z => absurd z y, fun z h1 F1 X1 => k.2 z h1 F1 X1⟩
theorem x_walks {L lo hi : Nat} (hl : 145 ≤ lo) (hL : L ≤ 400) : ∀ t : zT, (okS t 0 → Px0 L lo hi t) ∧ (okS t 1 → Px1 L lo hi t) := by
  have H := ok_ind (P0 := Px0 L lo hi) (P1 := Px1 L lo hi)
    (fun v u d p j h ρ σ c ys xs v3 Q hS hh hX hc rp ex rt hd k => by
      obtain ⟨d, rfl⟩ : ∃ e, d = e + 5 := ⟨d - 5, by omega⟩
      obtain ⟨-, -, tp, l, arr, f0, -, -, rl, -⟩ := id rp
      have e0 : xs = [] := rt
      subst e0
      have hj : ys.length ≤ j := by
        by_cases q : j < ys.length
        · rw [List.drop_eq_getElem_cons q] at ex; cases ex
        · omega
      refine ss_X5_walk_2 hS tp ?_
      rw [f0, ofR_some]
      refine ip (by rw [rl.1]) (c_size hS rl ?_)
      exact ss_X5_walk_12 hS tp (im (by omega) (k.1 rfl h (FWk_refl hS) hX)))
    (fun s t o1 o2 i1 i2 u d p j h ρ σ c ys xs v3 Q hS hh hX hc rp ex rt hd k => by
      have hzk : (zk (zB 150 s t)).length = (zk s).length + (zk t).length := by rw [zk_150, List.length_append]
      obtain ⟨d, rfl⟩ : ∃ e, d = e + 5 := ⟨d - 5, by omega⟩
      obtain ⟨-, -, tp, l, arr, f0, -, -, rl, -⟩ := id rp
      obtain ⟨x, zs, hj, ex1, ex2, r1, r2⟩ := RT_head ex rt
      refine ss_X5_walk_2 hS tp ?_
      rw [f0, ofR_some]
      refine ip (by rw [rl.1]) (c_size hS rl ?_)
      refine ss_X5_walk_12 hS tp (ip (by omega) ?_)
      rw [f0, ofR_some]
      refine ip (by rw [rl.1]) (c_get hS rl hj ?_)
      rw [ex1]
      refine ss_X5_walk_25 hS tp ?_
      have xm : x ∈ ys := by
        rw [← ex1, List.getD_eq_getElem?_getD, List.getElem?_eq_getElem hj]
        exact List.getElem_mem _
      have xt := RT_kind s o1 x r1
      refine ⟨Or.inr ⟨x, rfl, xt⟩, ?_⟩
      rw [ofR_some]
      obtain ⟨g1, g2, g3, g4⟩ := (wk_ok L s).2 o1 u.1 σ c hc
      dsimp only at g1 g2 g3
      refine i1 u.1 (d + 5) x h ρ σ c _ hS hh hX hc r1 (by omega) ?_
      rw [wk_150] at k
      by_cases y : (wk L s true σ c).1 = 0
      · rw [if_pos y] at k
        refine ⟨fun _ h1 F1 X1 => ?_, fun z => absurd y z⟩
        have S1 := FWk_St F1
        have rp1 := (Pt_W hl hh F1 rp rt).1
        refine ss_X5_walk_34 S1 rp1.2.2.1 ?_
        have hlen : ys.length ≤ 244 := RL_73 rl
        rw [show n_add ((j : Nat) : Int) 1 = ((j + 1 : Nat) : Int) by rw [na_eq (by omega) (by omega)]; omega]
        exact i2 u.2 (d + 5) p (j + 1) h1 ρ _ _ ys zs (vR (some x)) Q S1 (by rw [F1.2.1]; exact hh) X1 g2 rp1 ex2 (Pt_W hl hh F1 rp r2).2 (by omega) (WxQ_tr F1 k)
      · rw [if_neg y] at k
        exact ⟨fun z => absurd z y, fun z h1 F1 X1 => k.2 z h1 F1 X1⟩)
    (fun e a b e2 _ _ _ _ _ _ u => absurd (show true = false ∧ _ from u).1 (by decide))
    (fun e a b e2 _ _ _ _ _ _ u => absurd (show true = false ∧ _ from u).1 (by decide))
    (fun e s oe os is u d a h ρ σ c Q hS hh hX hc rt hd k => by
      have u' : true = true ∧ zun true s := u
      have hzk : (zk (zB 115 e s)).length = (zk e).length + (zk s).length + 4 := by rw [zk_wh]; simp; omega
      obtain ⟨d, rfl⟩ : ∃ e, d = e + 2 := ⟨d - 2, by omega⟩
      obtain ⟨q1, q2, ta, -⟩ := RT_wh rt
      refine vsel_of (y := 369) (by rw [ta]; rfl) (se_X31_walk hS ta ?_)
      rw [wk_115, show L + 1 - c = (L - c) + 1 by omega, wh_s] at k
      refine x_move hS hX hL hc (fun z => ?_) (fun z h1 F1 X1 => ?_)
      · rw [if_pos z] at k
        exact k.2 (by show (16 : Nat) ≠ 0; decide) h (FWk_refl hS) hX
      · rw [if_neg z] at k
        have S1 := FWk_St F1
        refine x_wh hl hL oe is u'.2 ((wk_ok L s).1 os u'.2) (by omega) (L - c) h1 σ (c + 1) S1 (by rw [F1.2.1]; exact hh) X1 (by omega) ?_ (by omega) (WxQ_tr F1 k)
        exact RT_eq hl (by rw [F1.2.1]; exact Nat.le_refl _) (fun c c1 c2 _ => FWk_sm F1 (by omega) (by omega)) rt)
    (fun e s t oe os ot is it u d a h ρ σ c Q hS hh hX hc rt hd k => by
      have u' : true = true ∧ zun true s ∧ zun true t := u
      have hzk : (zk (zB 116 e (zB 119 s t))).length = (zk e).length + (zk s).length + (zk t).length + 7 := by rw [zk_wn]; simp; omega
      obtain ⟨d, rfl⟩ : ∃ e, d = e + 2 := ⟨d - 2, by omega⟩
      have le := zht_len e 0 oe.1 oe.2.2
      obtain ⟨q1, q2, ta, -⟩ := RT_wn rt
      refine vsel_of (y := 376) (by rw [ta]; rfl) (se_X32_walk hS ta ?_)
      rw [wk_116] at k
      refine x_move hS hX hL hc (fun z => ?_) (fun z h1 F1 X1 => ?_)
      · rw [if_pos z] at k
        exact k.2 (by show (16 : Nat) ≠ 0; decide) h (FWk_refl hS) hX
      · rw [if_neg z] at k
        have S1 := FWk_St F1
        have hh1 : hi ≤ hN h1 := by rw [F1.2.1]; exact hh
        have rt1 : RT h1 lo hi (zB 116 e (zB 119 s t)) [a] := RT_eq hl (by rw [F1.2.1]; exact Nat.le_refl _) (fun c c1 c2 _ => FWk_sm F1 (by omega) (by omega)) rt
        obtain ⟨-, -, ta1, b, p, q, ys, zs, r0, r1, r2, re, rp, rs, rq, rt'⟩ := RT_wn rt1
        refine ss_X32_walk_4 S1 ta1 ?_
        rw [r0, ofR_some]
        refine c_eval S1 X1.1.1 (XB_free X1.2.1) e b (d + 1) 0 _ re oe.1 (by omega) ?_
        replace k := WxQ_tr F1 k
        cases hv : ev σ bn0 bi0 e with
        | inl w =>
          rw [hv] at k
          exact k.2 (ev_nz e 0 w oe.1 hv).1 h1 (FWk_refl S1) X1
        | inr v =>
          rw [hv] at k
          dsimp only at k
          refine ss_X32_walk_12 S1 ta1 ?_
          rw [r1, r2, ofR_some, ofR_some]
          by_cases v0 : v = 0
          · rw [if_pos v0] at k
            refine ip v0 (ip (by rw [rq.2.2.1]) ?_)
            exact x_part it u'.2.2 S1 hh1 X1 (by omega) rq rt' (by omega) (WxQ_to (fun _ _ _ _ z => z) (fun _ _ z => z) k)
          · rw [if_neg v0] at k
            refine im v0 (ip (by rw [rp.2.2.1]) ?_)
            refine x_part is u'.2.1 S1 hh1 X1 (by omega) rp rs (by omega) (WxQ_to (fun h2 F2 _ _ z => ?_) (fun _ _ z => z) k)
            exact ss_X32_walk_25 (FWk_St F2) ((FWk_sm F2 (by omega) (by omega)).1.trans ta1) z)
    (fun k l r h1 u d a h ρ σ c Q hS hh hX hc rt hd kq => by
      have k114 : k = 114 := by
        by_cases q : k = 114
        · exact q
        · exfalso
          have hk := ok1_k h1
          unfold zun at u
          rw [if_neg (by omega), if_neg (by omega), if_neg (by omega), if_neg (by omega), if_neg q] at u
          cases u
      subst k114
      have rg := RT_rng h1 rt
      rcases RT_1 h1 rt with ⟨y, -⟩ | ⟨-, x, b, el, hx, oe, ta, f0, f1, re⟩ | ⟨y, -⟩ | ⟨y, -⟩ | ⟨y, -⟩ | ⟨y, -⟩ | ⟨y, -⟩
      · omega
      · subst el
        have le := zht_len r 0 oe.1 oe.2.2
        have hzk : (zk (zB 114 (zL x) r)).length = (zk r).length + 4 := by
          show ((5, 14) :: (1, x) :: (7, 61) :: (zk r ++ [(7, 59)])).length = _
          simp
        obtain ⟨d, rfl⟩ : ∃ e, d = e + 2 := ⟨d - 2, by omega⟩
        refine vsel_of (y := 322) (by rw [ta]; rfl) (se_X23_walk hS ta ?_)
        rw [wk_114] at kq
        refine x_move hS hX hL hc (fun z => ?_) (fun z h1 F1 X1 => ?_)
        · rw [if_pos z] at kq
          exact kq.2 (by show (16 : Nat) ≠ 0; decide) h (FWk_refl hS) hX
        · rw [if_neg z] at kq
          have S1 := FWk_St F1
          have sa := FWk_sm F1 (c := a) (by omega) (by omega)
          have ta1 := sa.1.trans ta
          have g0 := (sa.2.1 0).trans f0
          have g1 := (sa.2.2.2 1).trans f1
          have re1 : RE h1 lo hi r b := RE_eq (fun c c1 c2 _ => FWk_sm F1 (by omega) (by omega)) re
          refine ss_X23_walk_4 S1 ta1 ?_
          rw [g1, ofR_some]
          refine c_eval S1 X1.1.1 (XB_free X1.2.1) r b (d + 1) 0 _ re1 oe.1 (by omega) ?_
          replace kq := WxQ_tr F1 kq
          cases hv : ev σ bn0 bi0 r with
          | inl w =>
            rw [hv] at kq
            exact kq.2 (ev_nz r 0 w oe.1 hv).1 h1 (FWk_refl S1) X1
          | inr v =>
            rw [hv] at kq
            refine ss_X23_walk_12 S1 ta1 ?_
            have g0' : hI (sI h1 73 x (n_i2z 1)) a 0 = (x : Nat) := by rw [hI_sI, if_neg (by omega)]; exact g0
            rw [g0, Int.toNat_natCast, g0', Int.toNat_natCast]
            refine ⟨by omega, by omega, ?_⟩
            have ez : n_i2z 1 = 1 := by decide
            rw [ez]
            refine kq.1 rfl _ (FWk_sI (FWk_sI (FWk_refl S1) (Or.inl rfl)) (Or.inr (Or.inl rfl))) ⟨XZ_nv X1.1 (Or.inr rfl), ⟨?_, X1.2.1.2⟩, ?_, ?_⟩
            · rw [hI_sI, if_neg (by omega), hI_sI, if_neg (by omega)]; exact X1.2.1.1
            · rw [hI_sI, if_neg (by omega), hI_sI, if_neg (by omega)]; exact X1.2.2.1
            · rw [hI_sI, if_neg (by omega), hI_sI, if_neg (by omega)]; exact X1.2.2.2
      · omega
      · omega
      · omega
      · omega
      · omega)
  exact fun t => ⟨(H t).1, (H t).2.1⟩
