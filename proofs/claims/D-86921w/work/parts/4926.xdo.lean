/-! x DOES STEPS: the state -/
def su (σ : zS) (f k : Nat) (v : Int) : zS := fun g j => if g = f ∧ j = k then v else σ g j
theorem su_at {σ : zS} {f k : Nat} {v : Int} : su σ f k v f k = v := if_pos ⟨rfl, rfl⟩
theorem su_f {σ : zS} {f k g j : Nat} {v : Int} (h : g ≠ f) : su σ f k v g j = σ g j := if_neg (fun z => h z.1)
theorem su_k {σ : zS} {f k g j : Nat} {v : Int} (h : j ≠ k) : su σ f k v g j = σ g j := if_neg (fun z => h z.2)
def XZ (h : hp) (σ : zS) (ρ : Nat → Nat) : Prop := XV h σ ρ ∧ (∀ s, s < 4 → hI h 77 s = σ 6 s ∧ 0 ≤ σ 6 s ∧ σ 6 s ≤ 30) ∧ ∀ j, j < 120 → hI h 76 j = σ 7 j
def XRw (h : hp) (σ : zS) (ρ : Nat → Nat) : Prop := (∀ k, k < 14 → (σ 2 k = -1 ∧ hR h (102 + k) 0 = none) ∨ ∃ id : Nat, id < 14 ∧ σ 2 k = (id : Nat) ∧ hR h (102 + k) 0 = some (ρ id) ∧ XA h σ (ρ id) id)
  ∧ ∀ k k' id id' : Nat, k < 14 → k' < 14 → σ 2 k = (id : Nat) → σ 2 k' = (id' : Nat) → ρ id = ρ id' → id = id'
theorem XA_eq {h h' : hp} {σ σ' : zS} {a id : Nat} (hn : hN h ≤ hN h') (e3 : σ' 3 id = σ 3 id) (e4 : σ' 4 id = σ 4 id) (e5 : ∀ j, σ' 5 j = σ 5 j) (hs : sm h h' a) (z : XA h σ a id) : XA h' σ' a id := by
  obtain ⟨z1, z2, z3, z4, ⟨n, z5, z6, z7⟩, z8⟩ := z
  refine ⟨z1, by omega, by rw [e3]; exact z3, by rw [e3]; exact z4, ⟨n, z5, by rw [e4]; exact z6, by rw [e3, hs.1]; exact z7⟩, fun i hi => ?_⟩
  rw [e4] at hi
  rw [e3, e5, ← z8 i hi]
  unfold elem
  rw [hs.2.1, hs.2.2.1]
theorem kt_rg (k : Int) : 101 ≤ kt k ∧ kt k ≤ 105 := by have := kt_ok k; omega
theorem XRw_eq {h h' : hp} {σ σ' : zS} {ρ : Nat → Nat} (hn : hN h ≤ hN h') (e2 : ∀ k, σ' 2 k = σ 2 k) (e3 : ∀ id, σ' 3 id = σ 3 id) (e4 : ∀ id, σ' 4 id = σ 4 id) (e5 : ∀ j, σ' 5 j = σ 5 j) (hr : ∀ k, k < 14 → hR h' (102 + k) 0 = hR h (102 + k) 0) (hs : ∀ a, 145 ≤ a → a < hN h → 101 ≤ (hT h a).1 → (hT h a).1 ≤ 105 → sm h h' a) (z : XRw h σ ρ) : XRw h' σ' ρ := by
  refine ⟨fun k hk => ?_, fun k k' id id' hk hk' q q' => z.2 k k' id id' hk hk' (by rw [← e2]; exact q) (by rw [← e2]; exact q')⟩
  rw [hr k hk, e2]
  rcases z.1 k hk with y | ⟨id, y1, y2, y3, y4⟩
  · exact Or.inl y
  · refine Or.inr ⟨id, y1, y2, y3, XA_eq hn (e3 id) (e4 id) e5 ?_ y4⟩
    obtain ⟨z1, z2, -, -, ⟨n, -, -, z7⟩, -⟩ := y4
    have := kt_rg (σ 3 id)
    exact hs _ z1 z2 (by rw [z7]; exact this.1) (by rw [z7]; exact this.2)
/-- what a step of x may change -/
def pEx (h : hp) (a j : Nat) : Prop := a = 73 ∨ a = 74 ∨ a = 76 ∨ a = 77 ∨ (102 ≤ a ∧ a ≤ 107) ∨ (a = 68 ∧ (28 ≤ j ∧ j ≤ 30)) ∨ (145 ≤ a ∧ 101 ≤ (hT h a).1 ∧ (hT h a).1 ≤ 105)
theorem XZ_nv {h : hp} {σ : zS} {ρ : Nat → Nat} {k : Nat} {t v : Int} (z : XZ h σ ρ) (ht : t = 0 ∨ t = 1) : XZ (sI (sI h 73 k t) 74 k v) (su (su σ 0 k t) 1 k v) ρ := by
  obtain ⟨⟨a, b⟩, c, d⟩ := z
  refine ⟨⟨fun j hj => ?_, XRw_eq (h := h) (Nat.le_refl (hN h)) (fun _ => rfl) (fun _ => rfl) (fun _ => rfl) (fun _ => rfl) (fun _ _ => rfl) (fun x x1 _ _ _ => sm_sI (sm_sI (sm_refl _ _) (by omega)) (by omega)) b⟩, fun s hs => ?_, fun j hj => ?_⟩
  · rw [hI_sI, if_neg (by omega), hI_sI, hI_sI]
    by_cases q : j = k
    · subst q
      rw [if_pos ⟨rfl, rfl⟩, if_pos ⟨rfl, rfl⟩, su_f (by decide), su_at, su_at]
      exact ⟨rfl, ht, fun _ => rfl⟩
    · rw [if_neg (fun y => q y.2), if_neg (fun y => q y.2), hI_sI, if_neg (by omega), su_k q, su_k q, su_k q, su_k q]
      exact a j hj
  · rw [hI_sI, if_neg (by omega), hI_sI, if_neg (by omega)]; exact c s hs
  · rw [hI_sI, if_neg (by omega), hI_sI, if_neg (by omega)]; exact d j hj
theorem XZ_v {h : hp} {σ : zS} {ρ : Nat → Nat} {k : Nat} {v : Int} (z : XZ h σ ρ) : XZ (sI h 74 k v) (su σ 1 k v) ρ := by
  obtain ⟨⟨a, b⟩, c, d⟩ := z
  refine ⟨⟨fun j hj => ?_, XRw_eq (h := h) (Nat.le_refl (hN h)) (fun _ => rfl) (fun _ => rfl) (fun _ => rfl) (fun _ => rfl) (fun _ _ => rfl) (fun x x1 _ _ _ => sm_sI (sm_refl _ _) (by omega)) b⟩, fun s hs => ?_, fun j hj => ?_⟩
  · rw [hI_sI, if_neg (by omega), hI_sI]
    obtain ⟨a1, a2, a3⟩ := a j hj
    rw [su_f (show 0 ≠ 1 by decide)]
    refine ⟨a1, a2, fun q => ?_⟩
    by_cases w : j = k
    · subst w; rw [if_pos ⟨rfl, rfl⟩, su_at]
    · rw [if_neg (fun y => w y.2), su_k w]; exact a3 q
  · rw [hI_sI, if_neg (by omega)]; exact c s hs
  · rw [hI_sI, if_neg (by omega)]; exact d j hj
theorem XZ_h {h : hp} {σ : zS} {ρ : Nat → Nat} {s : Nat} {v : Int} (z : XZ h σ ρ) (hv : 0 ≤ v ∧ v ≤ 30) : XZ (sI h 77 s v) (su σ 6 s v) ρ := by
  obtain ⟨⟨a, b⟩, c, d⟩ := z
  refine ⟨⟨fun j hj => ?_, XRw_eq (h := h) (Nat.le_refl (hN h)) (fun _ => rfl) (fun _ => rfl) (fun _ => rfl) (fun _ => rfl) (fun _ _ => rfl) (fun x x1 _ _ _ => sm_sI (sm_refl _ _) (by omega)) b⟩, fun q hq => ?_, fun j hj => ?_⟩
  · rw [hI_sI, if_neg (by omega), hI_sI, if_neg (by omega)]; exact a j hj
  · rw [hI_sI]
    by_cases w : q = s
    · subst w; rw [if_pos ⟨rfl, rfl⟩, su_at]; exact ⟨rfl, hv⟩
    · rw [if_neg (fun y => w y.2), su_k w]; exact c q hq
  · rw [hI_sI, if_neg (by omega)]; exact d j hj
theorem XZ_p {h : hp} {σ : zS} {ρ : Nat → Nat} {s : Nat} {v : Int} (z : XZ h σ ρ) : XZ (sI h 76 s v) (su σ 7 s v) ρ := by
  obtain ⟨⟨a, b⟩, c, d⟩ := z
  refine ⟨⟨fun j hj => ?_, XRw_eq (h := h) (Nat.le_refl (hN h)) (fun _ => rfl) (fun _ => rfl) (fun _ => rfl) (fun _ => rfl) (fun _ _ => rfl) (fun x x1 _ _ _ => sm_sI (sm_refl _ _) (by omega)) b⟩, fun q hq => ?_, fun j hj => ?_⟩
  · rw [hI_sI, if_neg (by omega), hI_sI, if_neg (by omega)]; exact a j hj
  · rw [hI_sI, if_neg (by omega)]; exact c q hq
  · rw [hI_sI]
    by_cases w : j = s
    · subst w; rw [if_pos ⟨rfl, rfl⟩, su_at]
    · rw [if_neg (fun y => w y.2), su_k w]; exact d j hj
/-- nothing is barred -/
def XFr (h : hp) : Prop := hI h 68 28 = -1 ∧ hR h 68 29 = none
theorem XB_free {h : hp} {σ : zS} {ρ : Nat → Nat} (f : XFr h) : XB h σ ρ bn0 bi0 := by
  refine ⟨fun k _ => ?_, fun k id i _ _ => ?_⟩
  · show false = _
    rw [f.1]; symm; exact decide_eq_false (by omega)
  · show false = _
    rw [f.2]; symm; exact decide_eq_false (fun z => by cases z.1)
/-- the answer of a step: why it is refused, or the state behind it -/
def DoQ (h0 : hp) (ρ : Nat → Nat) (σ : zS) (v : Nat ⊕ zS) (Q : qt) : Prop := match v with
  | .inl w => ∀ h', FX (pEx h0) h0 h' → hN h' = hN h0 → hU h' = hU h0 → XZ h' σ ρ → Q (.inr (85 + w)) h'
  | .inr σ' => ∀ h' ρ', FX (pEx h0) h0 h' → XFr h' → hU h' ≤ hU h0 + 25 → XZ h' σ' ρ' → Q (.inl none) h'
def sLet (σ : zS) (x : Nat) (e : zT) (t : Bool) : Nat ⊕ zS := if σ 0 x = bI t then .inl (if t = true then 14 else 1) else match ev σ bn0 bi0 e with
  | .inl w => .inl w
  | .inr v => if t = false ∧ σ 1 x ≠ l_l2i v then .inl 8 else .inr (su (su σ 0 x (bI t)) 1 x (l_l2i v))
theorem x_let {d lo hi o b x : Nat} {Q : qt} {h : hp} {σ : zS} {ρ : Nat → Nat} {e : zT} {t : Bool} (hS : St h) (hZ : XZ h σ ρ) (hFr : XFr h) (ho : hT h o = (24, 0)) (ho2 : 145 ≤ o ∧ o < hN h) (hx : x < 26) (f0 : hI h o 0 = (x : Nat)) (f1 : hR h o 1 = some b) (re : RE h lo hi e b) (oe : okE e) (hd : (zk e).length + 8 ≤ d) (k : DoQ h ρ σ (sLet σ x e t) Q) : Wc d 328 [vR (some o), vR (some 68), vI (bI t)] h Q := by
  obtain ⟨d, rfl⟩ : ∃ e, d = e + 1 := ⟨d - 1, by omega⟩
  have hl := zht_len e 0 oe.1 oe.2.2
  obtain ⟨a1, a2, a3⟩ := hZ.1.1 x hx
  refine se_X24_work hS ho ?_
  rw [f0, Int.toNat_natCast, a1]
  refine ⟨by omega, ?_⟩
  unfold sLet at k
  by_cases q : σ 0 x = bI t
  · rw [if_pos q] at k
    refine ip q ?_
    have kk := k h (FX_refl hS) rfl rfl hZ
    cases t with
    | true => exact im (by decide) kk
    | false => exact ip rfl kk
  · rw [if_neg q] at k
    refine im q ?_
    rw [f1, ofR_some]
    refine c_eval hS hZ.1 (XB_free hFr) e b d 0 _ re oe.1 (by omega) ?_
    cases hv : ev σ bn0 bi0 e with
    | inl w =>
      rw [hv] at k
      exact k h (FX_refl hS) rfl rfl hZ
    | inr v =>
      rw [hv] at k
      dsimp only at k
      refine ss_X24_work_37 hS ho ?_
      have e2 : hI (sI h 73 x (n_i2z (bI t))) o 0 = (x : Nat) := by rw [hI_sI, if_neg (by omega)]; exact f0
      rw [f0, Int.toNat_natCast, e2, Int.toNat_natCast]
      have ez : n_i2z (bI t) = bI t := by cases t <;> decide
      rw [ez]
      have fin : Q (.inl none) (sI (sI h 73 x (bI t)) 74 x (l_l2i v)) → Q (.inl none) (sI (sI h 73 x (bI t)) 74 x (l_l2i v)) := id
      have done : (t = false ∧ σ 1 x ≠ l_l2i v → False) → Q (.inl none) (sI (sI h 73 x (bI t)) 74 x (l_l2i v)) := by
        intro nq
        rw [if_neg nq] at k
        exact k _ ρ (FX_sI (FX_sI (FX_refl hS) (Or.inl (Or.inl rfl)) (by omega)) (Or.inl (Or.inr (Or.inl rfl))) (by omega)) ⟨by rw [hI_sI, if_neg (by omega), hI_sI, if_neg (by omega)]; exact hFr.1, hFr.2⟩ (by show hU h ≤ _; omega) (XZ_nv hZ (bI_01 t))
      cases t with
      | true => exact im (by decide) ⟨by omega, by omega, done (fun z => by cases z.1)⟩
      | false =>
        refine ip rfl ⟨by omega, ?_⟩
        have h1 : σ 0 x = 1 := by rcases a2 with y | y
                                  · exact absurd y q
                                  · exact y
        rw [a3 h1]
        by_cases w : σ 1 x = l_l2i v
        · exact ip w ⟨by omega, by omega, done (fun z => z.2 w)⟩
        · rw [if_pos ⟨rfl, w⟩] at k
          exact im w (k h (FX_refl hS) rfl rfl hZ)
def sPush (σ : zS) (x s : Nat) (t : Bool) : Nat ⊕ zS := if σ 0 x = 0 then .inl 1 else if t = true then (if σ 6 s = 30 then .inl 9 else .inr (su (su (su σ 7 (30 * s + (σ 6 s).toNat) (σ 1 x)) 1 x 0) 6 s (σ 6 s + 1)))
  else (if σ 1 x ≠ 0 then .inl 8 else if σ 6 s = 0 then .inl 5 else .inr (su (su σ 1 x (σ 7 (30 * s + (σ 6 s).toNat - 1))) 6 s (σ 6 s - 1)))
theorem x_push2 {d o x s : Nat} {Q : qt} {h : hp} {σ : zS} {ρ : Nat → Nat} {t : Bool} (hS : St h) (hZ : XZ h σ ρ) (hFr : XFr h) (ho : hT h o = (25, 0)) (ho2 : 145 ≤ o ∧ o < hN h) (hx : x < 26) (hs : s < 4) (f0 : hI h o 0 = (x : Nat)) (f1 : hI h o 1 = (s : Nat)) (k : DoQ h ρ σ (sPush σ x s t) Q) : Wc (d + 1) 335 [vR (some o), vR (some 68), vI (bI t)] h Q := by
  obtain ⟨a1, a2, a3⟩ := hZ.1.1 x hx
  obtain ⟨b1, b2, b3⟩ := hZ.2.1 s hs
  obtain ⟨n, hn⟩ : ∃ n : Nat, σ 6 s = (n : Nat) := ⟨(σ 6 s).toNat, by omega⟩
  have o74 : (o = 74) = False := eq_false (by omega)
  have o76 : (o = 76) = False := eq_false (by omega)
  have m1 : n_mul 30 ((s : Nat) : Int) = ((30 * s : Nat) : Int) := by rw [nm_eq (by omega) (by omega)]; omega
  have m2 : n_add ((30 * s : Nat) : Int) ((n : Nat) : Int) = ((30 * s + n : Nat) : Int) := by rw [na_eq (by omega) (by omega)]; omega
  refine se_X25_work hS ho ?_
  unfold sPush at k
  simp only [hI_sI, o74, o76, false_and, if_false, f0, f1, Int.toNat_natCast, a1, b1, hn, m1, m2]
  clear m1 m2
  rw [hn, Int.toNat_natCast] at k
  refine ⟨by omega, ?_⟩
  by_cases q : σ 0 x = 0
  · rw [if_pos q] at k
    exact ip q (k h (FX_refl hS) rfl rfl hZ)
  · rw [if_neg q] at k
    refine im q ⟨by omega, ?_⟩
    have h1 : σ 0 x = 1 := a2.resolve_left q
    rw [a3 h1]
    have F : ∀ {y j : Nat} {v : Int} {g : hp}, FX (pEx h) h g → (y = 74 ∨ y = 76 ∨ y = 77) → FX (pEx h) h (sI g y j v) := fun f hy => FX_sI f (Or.inl (by unfold pEx; omega)) (by omega)
    have R : ∀ {y j : Nat} {v : Int} {g : hp}, XFr g → (y = 74 ∨ y = 76 ∨ y = 77) → XFr (sI g y j v) := fun f hy => ⟨by rw [hI_sI, if_neg (by omega)]; exact f.1, f.2⟩
    cases t with
    | true =>
      rw [if_pos rfl] at k
      refine im (by decide) ?_
      by_cases n30 : n = 30
      · rw [if_pos (by omega)] at k
        exact ip (by omega) (k h (FX_refl hS) rfl rfl hZ)
      · rw [if_neg (by omega)] at k
        refine im (by omega) ⟨by omega, by omega, by omega, by omega, by omega, ?_⟩
        rw [na_eq (by omega) (by omega)]
        exact k _ ρ (F (F (F (FX_refl hS) (by omega)) (by omega)) (by omega)) (R (R (R hFr (by omega)) (by omega)) (by omega)) (by show hU h ≤ _; omega) (XZ_h (XZ_v (XZ_p hZ)) (by omega))
    | false =>
      rw [if_neg (by decide)] at k
      refine ip rfl ⟨by omega, ?_⟩
      by_cases v0 : σ 1 x = 0
      · rw [if_neg (by omega)] at k
        refine ip v0 ?_
        by_cases n0 : n = 0
        · rw [if_pos (by omega)] at k
          exact ip (by omega) (k h (FX_refl hS) rfl rfl hZ)
        · rw [if_neg (by omega)] at k
          have m3 : n_sub ((30 * s + n : Nat) : Int) 1 = ((30 * s + n - 1 : Nat) : Int) := by rw [ns_eq (by omega) (by omega)]; omega
          rw [m3]
          clear m3
          rw [Int.toNat_natCast, ns_eq (x := ((n : Nat) : Int)) (by omega) (by omega), hZ.2.2 (30 * s + n - 1) (by omega)]
          refine im (by omega) ⟨by omega, by omega, by omega, by omega, ?_⟩
          exact k _ ρ (F (F (FX_refl hS) (by omega)) (by omega)) (R (R hFr (by omega)) (by omega)) (by show hU h ≤ _; omega) (XZ_h (XZ_v hZ) (by omega))
      · rw [if_pos v0] at k
        exact im v0 (k h (FX_refl hS) rfl rfl hZ)
