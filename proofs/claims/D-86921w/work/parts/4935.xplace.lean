/-! PLACES: (0, name) or (row + 1, item) -/
def plv (σ : zS) (p : zT) : Nat ⊕ (Nat × Nat) :=
  if zg p = 1 then (if σ 0 (zn (zl p)) = 0 then .inl 1 else .inr (0, zn (zl p)))
  else match ev σ bn0 bi0 (zr p) with
    | .inl w => .inl w
    | .inr i => if σ 2 (zn (zl p)) < 0 then .inl 2 else if i < 0 ∨ σ 4 (σ 2 (zn (zl p))).toNat ≤ i then .inl 3 else .inr ((σ 2 (zn (zl p))).toNat + 1, i.toNat)
def pgv (σ : zS) (c : Nat × Nat) : Int := if c.1 = 0 then σ 1 c.2 else σ 5 (12 * (c.1 - 1) + c.2)
def pkd (σ : zS) (c : Nat × Nat) : Int := if c.1 = 0 then 0 else σ 3 (c.1 - 1)
def pst (σ : zS) (c : Nat × Nat) (v : Int) : zS := if c.1 = 0 then su σ 1 c.2 (l_l2i v) else su σ 5 (12 * (c.1 - 1) + c.2) (cutz (σ 3 (c.1 - 1)) v)
def pj (c : Nat × Nat) : Nat := if c.1 = 0 then 0 else c.2
/-- whether c is read in finding p -/
def psn (σ : zS) (p : zT) (c : Nat × Nat) : Bool := if zg p = 1 then false else if c.1 = 0 then (zbits (zr p)).testBit c.2 else (evS σ (zr p) (c.1 - 1)).testBit c.2
def bnc (c : Nat × Nat) : Nat → Bool := fun k => decide (c.1 = 0 ∧ c.2 = k)
def bic (c : Nat × Nat) : Nat → Nat → Bool := fun id i => decide (c.1 = id + 1 ∧ c.2 = i)
theorem plv_ok {σ : zS} {p : zT} {c : Nat × Nat} (ok : okP p) (h : plv σ p = .inr c) : (∃ x, p = zNam x ∧ x < 26 ∧ c = (0, x) ∧ σ 0 x ≠ 0) ∨ (∃ x e id j, p = zB 3 (zL x) e ∧ x < 6 ∧ okE e ∧ σ 2 x = (id : Nat) ∧ ((j : Nat) : Int) < σ 4 id ∧ c = (id + 1, j) ∧ ev σ bn0 bi0 e = .inr ((j : Nat) : Int)) := by
  rcases ok with ⟨x, e1, hx⟩ | ⟨x, e, e1, hx, oe⟩
  · subst e1
    have h' : (if σ 0 x = 0 then (.inl 1 : Nat ⊕ (Nat × Nat)) else .inr (0, x)) = .inr c := h
    by_cases q : σ 0 x = 0
    · rw [if_pos q] at h'; cases h'
    · rw [if_neg q] at h'; cases h'; exact Or.inl ⟨x, rfl, hx, rfl, q⟩
  · subst e1
    have h' : (match ev σ bn0 bi0 e with
      | .inl w => (.inl w : Nat ⊕ (Nat × Nat))
      | .inr i => if σ 2 x < 0 then .inl 2 else if i < 0 ∨ σ 4 (σ 2 x).toNat ≤ i then .inl 3 else .inr ((σ 2 x).toNat + 1, i.toNat)) = .inr c := h
    cases hv : ev σ bn0 bi0 e with
    | inl w => rw [hv] at h'; cases h'
    | inr i =>
      rw [hv] at h'
      dsimp only at h'
      by_cases q1 : σ 2 x < 0
      · rw [if_pos q1] at h'; cases h'
      rw [if_neg q1] at h'
      by_cases q2 : i < 0 ∨ σ 4 (σ 2 x).toNat ≤ i
      · rw [if_pos q2] at h'; cases h'
      rw [if_neg q2] at h'
      cases h'
      refine Or.inr ⟨x, e, (σ 2 x).toNat, i.toNat, rfl, hx, oe, by omega, by omega, rfl, ?_⟩
      rw [hv]; congr 1; omega
theorem plv_n {σ : zS} {x : Nat} : plv σ (zNam x) = if σ 0 x = 0 then .inl 1 else .inr (0, x) := rfl
theorem plv_i {σ : zS} {x : Nat} {e : zT} : plv σ (zB 3 (zL x) e) = (match ev σ bn0 bi0 e with
    | .inl w => .inl w
    | .inr i => if σ 2 x < 0 then .inl 2 else if i < 0 ∨ σ 4 (σ 2 x).toNat ≤ i then .inl 3 else .inr ((σ 2 x).toNat + 1, i.toNat)) := rfl
theorem Br_c {σ : zS} {c : Nat × Nat} {e : zT} : Br σ (bnc c) (bic c) e ↔ (if c.1 = 0 then (zbits e).testBit c.2 else (evS σ e (c.1 - 1)).testBit c.2) = true := by
  obtain ⟨a, b⟩ := c
  unfold Br bnc bic
  dsimp only
  by_cases q : a = 0
  · subst q
    rw [if_pos rfl]
    constructor
    · rintro (⟨k, h1, h2⟩ | ⟨id, i, h1, h2⟩)
      · rw [decide_eq_true_eq] at h2; rw [h2.2]; exact h1
      · rw [decide_eq_true_eq] at h2; omega
    · intro h; exact Or.inl ⟨b, h, decide_eq_true ⟨rfl, rfl⟩⟩
  · rw [if_neg q]
    constructor
    · rintro (⟨k, h1, h2⟩ | ⟨id, i, h1, h2⟩)
      · rw [decide_eq_true_eq] at h2; exact absurd h2.1 q
      · rw [decide_eq_true_eq] at h2
        rw [h2.2, show a - 1 = id by omega]; exact h1
    · intro h; exact Or.inr ⟨a - 1, b, h, decide_eq_true ⟨by omega, rfl⟩⟩
/-- the change's own place stands not in what is added -/
theorem ev_c {σ : zS} {p e : zT} {c : Nat × Nat} (ok : okP p) (hc : plv σ p = .inr c) (oe : okE e) (hn : (zg p == 1 && zhas (zn (zl p)) e) = false) : ev σ (bnc c) (bic c) e = ev σ bn0 (bic c) e := by
  refine ev_nob e 0 oe.1 (fun k q => ?_)
  unfold bnc at q
  rw [decide_eq_true_eq] at q
  rcases plv_ok ok hc with ⟨x, e1, hx, e2, -⟩ | ⟨x, e, id, j, -, -, -, -, -, e2, -⟩
  · subst e1; subst e2
    have hn' : (true && zhas x e) = false := hn
    have q2 : x = k := q.2
    rw [Bool.true_and] at hn'
    rw [← q2]; exact hn'
  · subst e2; exact absurd q.1 (Nat.succ_ne_zero _)
/-! frames of x's steps that make nothing -/
def FXd (h h' : hp) : Prop := FX (pEx h) h h' ∧ hN h' = hN h ∧ hU h' = hU h
theorem FXd_refl {h : hp} (hS : St h) : FXd h h := ⟨FX_refl hS, rfl, rfl⟩
theorem FXd_trans {h h1 h2 : hp} (a : FXd h h1) (b : FXd h1 h2) : FXd h h2 :=
  ⟨FX_trans a.1 (FX_mono b.1 (fun c j hc z => by
    have e := (a.1.2.2.2 c (by have := a.2.1; omega)).1
    unfold pEx at z ⊢
    rw [e] at z; exact z)), b.2.1.trans a.2.1, b.2.2.trans a.2.2⟩
theorem FXd_St {h h' : hp} (a : FXd h h') : St h' := a.1.2.2.1
theorem FXd_sm {h h' : hp} (a : FXd h h') {c : Nat} (h1 : 145 ≤ c) (h2 : c < hN h) (h3 : imm (hT h c).1) : sm h h' c := FX_sm a.1 h2 (fun j z => by unfold pEx at z; unfold imm at h3; omega)
theorem FXd_RE {h h' : hp} (a : FXd h h') {lo hi b : Nat} {e : zT} (h1 : 145 ≤ lo) (h2 : hi ≤ hN h) (z : RE h lo hi e b) : RE h' lo hi e b := RE_eq (fun c c1 c2 c3 => FXd_sm a (by omega) (by omega) c3) z
theorem FXd_RPl {h h' : hp} (a : FXd h h') {lo hi b : Nat} {e : zT} (h1 : 145 ≤ lo) (h2 : hi ≤ hN h) (z : RPl h lo hi e b) : RPl h' lo hi e b := RPl_eq (fun c c1 c2 c3 => FXd_sm a (by omega) (by omega) c3) z
theorem XZ_68 {h h' : hp} {σ : zS} {ρ : Nat → Nat} (hh : ∀ a, a ≠ 68 → sm h h' a) (hn : hN h' = hN h) (z : XZ h σ ρ) : XZ h' σ ρ := by
  obtain ⟨⟨a, b⟩, c, d⟩ := z
  exact ⟨⟨fun k hk => by rw [(hh 73 (by decide)).2.1, (hh 74 (by decide)).2.1]; exact a k hk, XRw_eq (by omega) (fun _ => rfl) (fun _ => rfl) (fun _ => rfl) (fun _ => rfl) (fun k hk => (hh _ (by omega)).2.2.2 0) (fun x x1 _ _ _ => hh x (by omega)) b⟩, fun s hs => by rw [(hh 77 (by decide)).2.1]; exact c s hs, fun j hj => by rw [(hh 76 (by decide)).2.1]; exact d j hj⟩
theorem c_xfree {d : Nat} {Q : qt} {h : hp} {σ : zS} {ρ : Nat → Nat} (hS : St h) (hZ : XZ h σ ρ) (k : ∀ h', FXd h h' → XFr h' → XZ h' σ ρ → Q (.inl none) h') : Wc (d + 1) 80 [vR (some 68)] h Q := by
  refine se_X0_free hS ?_
  refine k _ ⟨FX_sR (FX_sI (FX_refl hS) (Or.inl (by unfold pEx; omega)) (by omega)) (Or.inl (by unfold pEx; omega)) (Or.inl ⟨rfl, rfl⟩), rfl, rfl⟩ ⟨?_, ?_⟩ ?_
  · rw [hI_sR, hI_sI, if_pos ⟨rfl, rfl⟩]
  · rw [hR_sR, if_pos ⟨rfl, rfl⟩]
  · exact XZ_68 (fun a ha => sm_sR (sm_sI (sm_refl _ _) ha) ha) rfl hZ
theorem pl_tag {h : hp} {lo hi a : Nat} {p : zT} (z : RPl h lo hi p a) : hT h a = (6, 0) := z.2.2.1
theorem pl_name {h : hp} {lo hi a x : Nat} (z : RPl h lo hi (zNam x) a) : hI h a 0 = (x : Nat) ∧ hR h a 2 = none := by
  rcases z.2.2.2 with ⟨-, b, -, c⟩ | ⟨a, -⟩
  · exact ⟨b, c⟩
  · exact absurd (show (1 : Nat) = 3 from a) (by decide)
theorem pl_item {h : hp} {lo hi a x : Nat} {e : zT} (z : RPl h lo hi (zB 3 (zL x) e) a) : hI h a 0 = -1 ∧ hI h a 1 = (x : Nat) ∧ ∃ b, hR h a 2 = some b ∧ RE h lo hi e b := by
  rcases z.2.2.2 with ⟨a, -⟩ | ⟨-, b, c, d⟩
  · exact absurd (show (3 : Nat) = 1 from a) (by decide)
  · exact ⟨b, c, d⟩
theorem c_plName {d lo hi a : Nat} {Q : qt} {h : hp} {p : zT} (hS : St h) (hp : RPl h lo hi p a) (ok : okP p) (k : Q (.inl (some (vI (bI (zg p == 1))))) h) : Wc (d + 1) 243 [vR (some a)] h Q := by
  refine se_X6_isName hS (pl_tag hp) ?_
  rcases ok with ⟨x, e1, hx⟩ | ⟨x, e, e1, hx, oe⟩
  · subst e1
    exact im (by rw [(pl_name hp).1]; omega) k
  · subst e1
    exact ip (by rw [(pl_item hp).1]; decide) k
theorem nb1 (x : Nat) : ¬ bI (zg (zNam x) == 1) = 0 := show ¬ (1 : Int) = 0 by decide
theorem c_xfind {d lo hi a : Nat} {Q : qt} {h : hp} {σ : zS} {ρ : Nat → Nat} {p : zT} (hS : St h) (hZ : XZ h σ ρ) (hFr : XFr h) (hp : RPl h lo hi p a) (ok : okP p) (hd : zht (zr p) + 8 ≤ d) (k1 : ∀ w, plv σ p = .inl w → Q (.inr (85 + w)) h) (k2 : ∀ c, plv σ p = .inr c → Q (.inl (some (vI (pj c : Nat)))) h) : Wc d 246 [vR (some a), vR (some 68)] h Q := by
  obtain ⟨d, rfl⟩ : ∃ e, d = e + 3 := ⟨d - 3, by omega⟩
  refine se_X6_find hS (pl_tag hp) ?_
  refine c_plName hS hp ok ?_
  refine ss_X6_find_4 hS (pl_tag hp) ?_
  rcases ok with ⟨x, e1, hx⟩ | ⟨x, e, e1, hx, oe⟩
  · subst e1
    rw [plv_n] at k1 k2
    obtain ⟨y1, y2, y3⟩ := hZ.1.1 x hx
    refine im (nb1 x) ?_
    rw [(pl_name hp).1, Int.toNat_natCast, y1]
    refine ⟨by omega, ?_⟩
    by_cases q : σ 0 x = 0
    · exact ip q (k1 1 (by rw [if_pos q]))
    · exact im q (k2 (0, x) (by rw [if_neg q]))
  · subst e1
    rw [plv_i] at k1 k2
    obtain ⟨z1, z2, b, z3, z4⟩ := pl_item hp
    refine ip rfl ?_
    rw [z3, ofR_some]
    have hd' : zht e + 8 ≤ d + 3 := hd
    refine c_eval hS hZ.1 (XB_free hFr) e b (d + 2) 0 _ z4 oe.1 (by omega) ?_
    cases hv : ev σ bn0 bi0 e with
    | inl w => exact k1 w (by rw [hv])
    | inr i =>
      rw [hv] at k1 k2
      dsimp only at k1 k2
      refine ss_X6_find_36 hS (pl_tag hp) ?_
      rw [z2]
      refine c_placeOf hS hZ.1 hx (fun q => ?_) (fun q q2 => ?_) (fun j q e1 e2 e3 => ?_)
      · exact k1 2 (by rw [if_pos q])
      · exact k1 3 (by rw [if_neg (by omega), if_pos q2])
      · subst e1
        exact k2 ((σ 2 x).toNat + 1, j) (by rw [if_neg (by omega), if_neg (by omega), Int.toNat_natCast])
theorem c_xbar {d lo hi a : Nat} {Q : qt} {h : hp} {σ : zS} {ρ : Nat → Nat} {p : zT} {c : Nat × Nat} (hS : St h) (hZ : XZ h σ ρ) (hp : RPl h lo hi p a) (hl : 145 ≤ lo) (hh : hi ≤ hN h) (ok : okP p) (hc : plv σ p = .inr c) (k : ∀ h', FXd h h' → XZ h' σ ρ → XB h' σ ρ (bnc c) (bic c) → Q (.inl none) h') : Wc (d + 2) 79 [vR (some 68), vR (some a), vI (pj c : Nat)] h Q := by
  refine se_X0_bar hS ?_
  refine c_xfree hS hZ (fun h1 F1 fr Z1 => ?_)
  have S1 := FXd_St F1
  have p1 := FXd_RPl F1 hl hh hp
  refine ss_X0_bar_4 S1 ?_
  rw [ofR_some]
  refine ip (by rw [pl_tag p1]) ?_
  refine c_plName S1 p1 ok ?_
  refine ss_X0_bar_8 S1 ?_
  rw [ofR_some]
  rcases plv_ok ok hc with ⟨x, e1, hx, e2, q⟩ | ⟨x, e, id, j, e1, hx, oe, q1, q2, e2, q3⟩
  · subst e1; subst e2
    refine im (nb1 x) ⟨by rw [pl_tag p1]; simp, ?_⟩
    rw [(pl_name p1).1]
    refine k _ (FXd_trans F1 ⟨FX_sI (FX_refl S1) (Or.inl (by unfold pEx; omega)) (by omega), rfl, rfl⟩) (XZ_68 (fun a ha => sm_sI (sm_refl _ _) ha) rfl Z1) ⟨fun y hy => ?_, fun y id i hy hid => ?_⟩
    · rw [hI_sI, if_pos ⟨rfl, rfl⟩]
      unfold bnc
      by_cases w : x = y
      · rw [decide_eq_true (show (0, x).1 = 0 ∧ (0, x).2 = y from ⟨rfl, w⟩), decide_eq_true (by omega)]
      · rw [decide_eq_false (show ¬ ((0, x).1 = 0 ∧ (0, x).2 = y) from fun z => w z.2), decide_eq_false (by omega)]
    · unfold bic
      rw [decide_eq_false (show ¬ ((0, x).1 = id + 1 ∧ (0, x).2 = i) from fun z => absurd z.1 (by show ¬ 0 = id + 1; omega)), hR_sI, fr.2]
      symm; exact decide_eq_false (fun z => by cases z.1)
  · subst e1; subst e2
    obtain ⟨z1, z2, -⟩ := pl_item p1
    refine ip rfl ⟨by rw [pl_tag p1]; simp, ?_⟩
    rw [z2, Int.toNat_natCast, ho_r S1 hx, ofR_some]
    refine ⟨by omega, by rw [ho_t S1 (by omega)]; simp, ?_⟩
    have hr : hR h1 (102 + x) 0 = some (ρ id) := by
      rcases Z1.1.2.1 x (by omega) with ⟨a, -⟩ | ⟨id', -, b, c, -⟩
      · omega
      · have : id' = id := by omega
        rw [c, this]
    rw [hr]
    refine k _ (FXd_trans F1 ⟨FX_sI (FX_sR (FX_refl S1) (Or.inl (by unfold pEx; omega)) (Or.inl ⟨rfl, rfl⟩)) (Or.inl (by unfold pEx; omega)) (by omega), rfl, rfl⟩) (XZ_68 (fun a ha => sm_sI (sm_sR (sm_refl _ _) ha) ha) rfl Z1) ⟨fun y hy => ?_, fun y id' i hy hid => ?_⟩
    · rw [hI_sI, if_neg (by omega), hI_sR, fr.1]
      unfold bnc
      rw [decide_eq_false (show ¬ ((id + 1, j).1 = 0 ∧ (id + 1, j).2 = y) from fun z => absurd z.1 (Nat.succ_ne_zero _)), decide_eq_false (by omega)]
    · unfold bic
      rw [hR_sI, hR_sR, if_pos ⟨rfl, rfl⟩, hI_sI, if_pos ⟨rfl, rfl⟩]
      by_cases w : id = id' ∧ j = i
      · rw [decide_eq_true (show (id + 1, j).1 = id' + 1 ∧ (id + 1, j).2 = i from ⟨by show id + 1 = id' + 1; omega, w.2⟩)]
        symm; exact decide_eq_true ⟨by rw [w.1], by show ((j : Nat) : Int) = _; omega⟩
      · rw [decide_eq_false (show ¬ ((id + 1, j).1 = id' + 1 ∧ (id + 1, j).2 = i) from fun z => w ⟨by have := z.1; exact Nat.succ.inj this, z.2⟩)]
        symm
        refine decide_eq_false (fun z => w ⟨?_, ?_⟩)
        · have z1 : some (ρ id) = some (ρ id') := z.1
          exact Z1.1.2.2 x y id id' (by omega) (by omega) q1 hid (Option.some.inj z1)
        · have z2 : ((j : Nat) : Int) = (i : Nat) := z.2
          omega
theorem c_xcheck {d lo hi a o : Nat} {Q : qt} {h : hp} {σ : zS} {ρ : Nat → Nat} {p : zT} {c c0 : Nat × Nat} (hS : St h) (hZ : XZ h σ ρ) (hB : XB h σ ρ (bnc c) (bic c)) (ho : hT h o = (6, 0)) (hp : RPl h lo hi p a) (ok : okP p) (hc : plv σ p = .inr c0) (hd : zht (zr p) + 8 ≤ d) (k1 : psn σ p c = true → Q (.inr 91) h) (k2 : psn σ p c = false → Q (.inl none) h) : Wc d 247 [vR (some o), vR (some 68), vR (hR h a 2)] h Q := by
  obtain ⟨d, rfl⟩ : ∃ e, d = e + 1 := ⟨d - 1, by omega⟩
  refine se_X6_check hS ho ?_
  rcases plv_ok ok hc with ⟨x, e1, hx, e2, q⟩ | ⟨x, e, id, j, e1, hx, oe, q1, q2, e2, q3⟩
  · subst e1
    rw [(pl_name hp).2]
    exact ip rfl (k2 rfl)
  · subst e1
    obtain ⟨z1, z2, b, z3, z4⟩ := pl_item hp
    rw [z3]
    refine im (by intro z; cases z) ?_
    rw [ofR_some]
    have hd' : zht e + 8 ≤ d + 1 := hd
    refine c_eval hS hZ.1 hB e b d 0 _ z4 oe.1 (by omega) ?_
    obtain ⟨b1, b2⟩ := ev_bar (bn := bnc c) (bi := bic c) e 0 _ oe.1 q3
    have ep : psn σ (zB 3 (zL x) e) c = (if c.1 = 0 then (zbits e).testBit c.2 else (evS σ e (c.1 - 1)).testBit c.2) := rfl
    by_cases br : Br σ (bnc c) (bic c) e
    · rw [b1 br]
      exact k1 (by rw [ep]; exact Br_c.mp br)
    · rw [b2 br]
      refine ss_X6_check_9 hS ho ?_
      refine k2 ?_
      rw [ep]
      cases hb : (if c.1 = 0 then (zbits e).testBit c.2 else (evS σ e (c.1 - 1)).testBit c.2) with
      | true => exact absurd (Br_c.mpr hb) br
      | false => rfl
