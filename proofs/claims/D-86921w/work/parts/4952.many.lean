/-! x: one step, and many -/
def GxQ (h : hp) (ρ : Nat → Nat) (σ : zS) (r p : Nat) (w : Bool) (F : zF) (c : Int) (b : Bool) (v : Nat ⊕ zO) (Q : qt) : Prop := match v with
  | .inl x => ∀ h', FX (pXr h) h h' → hU h' ≤ hU h + 25 → XFr h' → XZ h' σ ρ → Xr h' r p w F → hI h' 68 23 = (x : Nat) → hI h' 68 22 = c → Q (.inl (some (vI 0))) h'
  | .inr o => ∀ h' ρ', FX (pXr h) h h' → hU h' ≤ hU h + 25 → XFr h' → XZ h' o.1 ρ' → Xr h' o.2.1 o.2.2.1 o.2.2.2.1 o.2.2.2.2 → hI h' 68 23 = hI h 68 23 → hI h' 68 22 = n_add c (if b = true then -1 else 1) → Q (.inl (some (vI 1))) h'
theorem FXE_trans {h h1 h2 : hp} (a : FX (pEx h) h h1) (b : FX (pEx h1) h1 h2) : FX (pEx h) h h2 := FX_trn (fun c j _ e z => pEx_tag e z) a b
theorem Xr_22 {h : hp} {r p j : Nat} {w : Bool} {F : zF} {x : Int} (hj : j = 22 ∨ j = 23) (z : Xr h r p w F) : Xr (sI h 68 j x) r p w F := by
  obtain ⟨m1, m2, m3, m4, m5⟩ := z
  refine ⟨?_, ?_, ?_, ?_, ?_⟩
  · rw [hI_sI, if_neg (by omega)]; exact m1
  · rw [hI_sI, if_neg (by omega)]; exact m2
  · rw [hI_sI, if_neg (by omega)]; exact m3
  · rw [hI_sI, if_neg (by omega)]; exact m4
  · exact XFm_eq (fun j _ => by rw [hI_sI, if_neg (by omega), hI_sI, if_neg (by omega), hI_sI, if_neg (by omega)]; exact ⟨rfl, rfl, rfl⟩) m5
theorem FXr_sI {h h' : hp} (a : FX (pXr h) h h') {j : Nat} {x : Int} (hj : 19 ≤ j ∧ j ≤ 24) : FX (pXr h) h (sI h' 68 j x) := FX_sI a (Or.inl (Or.inr (Or.inl ⟨rfl, hj⟩))) (by omega)
theorem XFr_sI {h : hp} {j : Nat} {x : Int} (hj : j ≠ 28) (z : XFr h) : XFr (sI h 68 j x) := ⟨by rw [hI_sI, if_neg (by omega)]; exact z.1, z.2⟩
theorem XZ_sI {h : hp} {σ : zS} {ρ : Nat → Nat} {j : Nat} {x : Int} (z : XZ h σ ρ) : XZ (sI h 68 j x) σ ρ := XZ_68 (fun a ha => sm_sI (sm_refl _ _) ha) rfl z
theorem x_goes {d r p : Nat} {Q : qt} {h : hp} {R : Nat → Option zT} {σ : zS} {ρ : Nat → Nat} {w b : Bool} {F : zF} {c : Int} (hS : St h) (rI : RIs h R) (hZ : XZ h σ ρ) (hK : Zk σ) (hFr : XFr h) (hn : Rn R r p w F) (hX : Xr h r p w F) (hb : hU h + 25 ≤ BUD) (hc : hI h 68 22 = c) (k : GxQ h ρ σ r p w F c b (rgo R σ r p w F (fw w b)) Q) : Wc (d + 1642) 77 [vR (some 68), vI (bI b)] h Q := by
  have hin := rgo_in (f := fw w b) rI (Pr_X hZ) hK hn
  have h0 := hS.1
  refine se_X0_goes hS ?_
  have core : ∀ f : Bool, f = fw w b → cV (Wc (d + 1641)) 78 [vR (some 68), vI (bI f)] h (fun h1 => Wp (d + 1641) C_X0_goes Q 25 [vR (some 68), vI (bI b), vU] [] h1) (fun e3 h4 => (hT h4 e3).1 ∈ [2] ∧ (if (hT h4 e3).1 = 2 then (Wp (d + 1641) C_X0_goes Q 28 [vR (some 68), vI (bI b), vU] [vR (some e3)] h4) else (Q (.inr e3) h4))) := by
    intro f ef
    rw [← ef] at k hin
    refine x_goOnce hS rI hZ hFr hn hX hb ?_
    cases hv : rgo R σ r p w F f with
    | inl x =>
      rw [hv] at k hin
      intro h1 F1 U1 Z1
      have S1 : St h1 := F1.2.2.1
      have t2 := rf_t S1 hin.2
      refine ⟨by rw [t2]; simp, ip (by rw [t2]) ?_⟩
      refine ss_X0_goes_28 S1 ?_
      refine c_xfree S1 Z1 (fun h2 F2 fr2 Z2 => ?_)
      have S2 := FXd_St F2
      have F12 : FX (pEx h) h h2 := FXE_trans F1 F2.1
      refine ss_X0_goes_33 S2 ?_
      rw [ofR_some, rf_t S2 hin.2, S2.2.2.2.2 x hin.2]
      have e22 : hI h2 68 22 = c := by rw [(FX_at F12 (c := 68) (j := 22) (by omega) (by unfold pEx; omega)).1]; exact hc
      exact ⟨by simp, k _ (FXr_sI (FXr_o (FXo_E F12)) (by omega)) (by show hU h2 ≤ _; have := F2.2.2; omega) (XFr_sI (by decide) fr2) (XZ_sI Z2) (Xr_22 (by omega) (Xr_E F12 hS hX)) (by rw [hI_sI, if_pos ⟨rfl, rfl⟩]) (by rw [hI_sI, if_neg (by omega)]; exact e22)⟩
    | inr o =>
      rw [hv] at k hin
      intro h1 ρ1 F1 U1 fr1 Z1 X1
      have S1 : St h1 := F1.2.2.1
      have e22 : hI h1 68 22 = c := by rw [(FX_at F1 (c := 68) (j := 22) (by omega) (by unfold pXo pEx; omega)).1]; exact hc
      have e23 : hI h1 68 23 = hI h 68 23 := (FX_at F1 (c := 68) (j := 23) (by omega) (by unfold pXo pEx; omega)).1
      refine ss_X0_goes_25 S1 ?_
      rw [e22]
      have fin : ∀ y : Int, y = (if b = true then -1 else 1) → Q (.inl (some (vI 1))) (sI h1 68 22 (n_add c y)) := by
        intro y ey
        exact k _ ρ1 (FXr_sI (FXr_o F1) (by omega)) (by exact U1) (XFr_sI (by decide) fr1) (XZ_sI Z1) (Xr_22 (by omega) X1) (by rw [hI_sI, if_neg (by omega)]; exact e23) (by rw [hI_sI, if_pos ⟨rfl, rfl⟩, ey])
      cases b with
      | true => exact im (by decide) (fin _ rfl)
      | false => exact ip rfl (fin _ rfl)
  rw [hX.2.2.1]
  cases w with
  | true =>
    refine ip (by decide) ?_
    cases b with
    | true => exact ip rfl (core false rfl)
    | false => exact im (by decide) (core true rfl)
  | false =>
    refine im (by decide) ?_
    cases b with
    | true => exact im (by decide) (core true rfl)
    | false => exact ip rfl (core false rfl)
/-! many steps -/
abbrev zQ : Type := zO × Int
def rmy (R : Nat → Option zT) (b : Bool) : Nat → zQ → Nat × zQ × Nat
  | 0, s => (0, s, 0)
  | n + 1, s => match rgo R s.1.1 s.1.2.1 s.1.2.2.1 s.1.2.2.2.1 s.1.2.2.2.2 (fw s.1.2.2.2.1 b) with
    | .inl x => (0, s, x)
    | .inr o => ((rmy R b n (o, n_add s.2 (if b = true then -1 else 1))).1 + 1, (rmy R b n (o, n_add s.2 (if b = true then -1 else 1))).2)
def XS (h : hp) (s : zQ) (ρ : Nat → Nat) : Prop := XFr h ∧ XZ h s.1.1 ρ ∧ Xr h s.1.2.1 s.1.2.2.1 s.1.2.2.2.1 s.1.2.2.2.2 ∧ hI h 68 22 = s.2
def MS (h : hp) (s : zQ) : Prop := MV h s.1.1 ∧ Mr h s.1.2.1 s.1.2.2.1 s.1.2.2.2.1 s.1.2.2.2.2 ∧ hI h 116 58 = s.2
def OKs (R : Nat → Option zT) (s : zQ) : Prop := Zk s.1.1 ∧ Rn R s.1.2.1 s.1.2.2.1 s.1.2.2.2.1 s.1.2.2.2.2 ∧ s32 s.2 = s.2
theorem s32_2 (x y : Int) : s32 (n_add x y) = n_add x y := by unfold n_add s32; exact Int.bmod_bmod
theorem x_loop {R : Nat → Option zT} {b : Bool} {Q : qt} {n : Nat} (hn : n ≤ 300) {d : Nat} : ∀ (m j : Nat) (h : hp) (s : zQ) (ρ : Nat → Nat), j + m = n → St h → RIs h R → XS h s ρ → OKs R s → hI h 68 23 = 0 → hU h + 25 * m ≤ BUD → (∀ h' ρ', FX (pXr h) h h' → hU h' ≤ hU h + 25 * m → XS h' (rmy R b m s).2.1 ρ' → OKs R (rmy R b m s).2.1 → hI h' 68 23 = ((rmy R b m s).2.2 : Nat) → Q (.inl (some (vI ((j + (rmy R b m s).1 : Nat) : Int)))) h') → Wp (d + 1642) C_X0_goMany Q 7 [vR (some 68), vI (n : Nat), vI (bI b), vI (j : Nat)] [] h := by
  intro m
  induction m with
  | zero =>
    intro j h s ρ hj hS rI hX hO h23 hb k
    refine ss_X0_goMany_7 hS (im (by omega) ?_)
    have := k h ρ (FX_refl hS) (by omega) hX hO h23
    exact this
  | succ m ih =>
    intro j h s ρ hj hS rI hX hO h23 hb k
    refine ss_X0_goMany_7 hS (ip (by omega) ?_)
    have hin := rgo_in (f := fw s.1.2.2.2.1 b) rI (Pr_X hX.2.1) hO.1 hO.2.1
    refine x_goes hS rI hX.2.1 hO.1 hX.1 hO.2.1 hX.2.2.1 (by omega) hX.2.2.2 ?_
    unfold rmy at k
    cases hv : rgo R s.1.1 s.1.2.1 s.1.2.2.1 s.1.2.2.2.1 s.1.2.2.2.2 (fw s.1.2.2.2.1 b) with
    | inl x =>
      rw [hv] at k
      intro h1 F1 U1 fr1 Z1 X1 w1 c1
      refine ss_X0_goMany_17 F1.2.2.1 (ip rfl ?_)
      have := k h1 ρ F1 (by omega) ⟨fr1, Z1, X1, c1⟩ hO w1
      exact this
    | inr o =>
      rw [hv] at k hin
      dsimp only at k
      intro h1 ρ1 F1 U1 fr1 Z1 X1 w1 c1
      refine ss_X0_goMany_17 F1.2.2.1 (im (by decide) ?_)
      rw [n1 (by omega)]
      refine ih (j + 1) h1 (o, n_add s.2 (if b = true then -1 else 1)) ρ1 (by omega) F1.2.2.1 (RIs_X F1 hS rI) ⟨fr1, Z1, X1, c1⟩ ⟨hin.1, hin.2, s32_2 _ _⟩ (by rw [w1]; exact h23) (by omega) (fun h2 ρ2 F2 U2 X2 O2 w2 => ?_)
      have := k h2 ρ2 (FXr_trans F1 F2) (by omega) X2 O2 w2
      rw [show j + 1 + (rmy R b m (o, n_add s.2 (if b = true then -1 else 1))).1 = j + ((rmy R b m (o, n_add s.2 (if b = true then -1 else 1))).1 + 1) by omega]
      exact this
theorem x_many {R : Nat → Option zT} {b : Bool} {Q : qt} {n d : Nat} {h : hp} {s : zQ} {ρ : Nat → Nat} (hn : n ≤ 300) (hS : St h) (rI : RIs h R) (hX : XS h s ρ) (hO : OKs R s) (hb : hU h + 25 * n ≤ BUD) (k : ∀ h' ρ', FX (pXr h) h h' → hU h' ≤ hU h + 25 * n → XS h' (rmy R b n s).2.1 ρ' → OKs R (rmy R b n s).2.1 → hI h' 68 23 = ((rmy R b n s).2.2 : Nat) → Q (.inl (some (vI ((rmy R b n s).1 : Nat)))) h') : Wc (d + 1643) 76 [vR (some 68), vI (n : Nat), vI (bI b)] h Q := by
  refine se_X0_goMany hS ?_
  have F0 : FX (pXr h) h (sI h 68 23 0) := FXr_sI (FX_refl hS) (by omega)
  have rI0 := RIs_X F0 hS rI
  refine x_loop (R := R) (b := b) hn n 0 _ s ρ (by omega) F0.2.2.1 rI0 ⟨XFr_sI (by decide) hX.1, XZ_sI hX.2.1, Xr_22 (by omega) hX.2.2.1, by rw [hI_sI, if_neg (by omega)]; exact hX.2.2.2⟩ hO (by rw [hI_sI, if_pos ⟨rfl, rfl⟩]) (by exact hb) (fun h' ρ' F' U' X' O' w' => ?_)
  rw [Nat.zero_add]
  exact k h' ρ' (FXr_trans F0 F') (by exact U') X' O' w'
theorem m_loop {R : Nat → Option zT} {b : Bool} {Q : qt} {n : Nat} {v1 : Int} (hn : n ≤ 300) (hv : v1 < 0 ↔ b = true) {d : Nat} : ∀ (m j : Nat) (h : hp) (s : zQ), j + m = n → St h → RIs h R → MS h s → OKs R s → hI h 116 62 = 0 → (∀ h', FMr h h' → MS h' (rmy R b m s).2.1 → OKs R (rmy R b m s).2.1 → hI h' 116 62 = ((rmy R b m s).2.2 : Nat) → Q (.inl (some (vI ((j + (rmy R b m s).1 : Nat) : Int)))) h') → Wp (d + 71) C_X4_many Q 19 [vR (some 116), vI v1, vI (n : Nat), vI (j : Nat)] [] h := by
  intro m
  induction m with
  | zero =>
    intro j h s hj hS rI hX hO h62 k
    refine ss_X4_many_19 hS (im (by omega) ?_)
    have := k h (FMr_refl hS) hX hO h62
    exact this
  | succ m ih =>
    intro j h s hj hS rI hX hO h62 k
    refine ss_X4_many_19 hS (ip (by omega) ?_)
    have hin := rgo_in (f := fw s.1.2.2.2.1 b) rI (Pr_M hX.1) hO.1 hO.2.1
    unfold rmy at k
    have post : GmQ h s.1.1 s.1.2.1 s.1.2.2.1 s.1.2.2.2.1 s.1.2.2.2.2 s.2 b (rgo R s.1.1 s.1.2.1 s.1.2.2.1 s.1.2.2.2.1 s.1.2.2.2.2 (fw s.1.2.2.2.1 b)) (fun o h' => match o with
        | .inl (some (.inl x)) => Wp (d + 71) C_X4_many Q 37 [vR (some 116), vI v1, vI (n : Nat), vI (j : Nat)] [vI x] h'
        | .inr a => Q (.inr a) h'
        | _ => False) := by
      cases hv : rgo R s.1.1 s.1.2.1 s.1.2.2.1 s.1.2.2.2.1 s.1.2.2.2.2 (fw s.1.2.2.2.1 b) with
      | inl x =>
        rw [hv] at k
        intro h1 F1 V1 M1 w1 c1
        refine ss_X4_many_37 (FMr_St F1) (ip rfl ?_)
        exact k h1 F1 ⟨V1, M1, c1⟩ hO w1
      | inr o =>
        rw [hv] at k hin
        dsimp only at k
        intro h1 F1 V1 M1 w1 c1
        refine ss_X4_many_37 (FMr_St F1) (im (by decide) ?_)
        rw [n1 (by omega)]
        refine ih (j + 1) h1 (o, n_add s.2 (if b = true then -1 else 1)) (by omega) (FMr_St F1) (RIs_M F1 hS rI) ⟨V1, M1, c1⟩ ⟨hin.1, hin.2, s32_2 _ _⟩ w1 (fun h2 F2 X2 O2 w2 => ?_)
        have := k h2 (FMr_trans F1 F2) X2 O2 w2
        rw [show j + 1 + (rmy R b m (o, n_add s.2 (if b = true then -1 else 1))).1 = j + ((rmy R b m (o, n_add s.2 (if b = true then -1 else 1))).1 + 1) by omega]
        exact this
    cases b with
    | true => exact ip (hv.mpr rfl) (m_goes hS rI hX.1 hO.1 hO.2.1 hX.2.1 hX.2.2 hO.2.2 post)
    | false => exact im (fun y => by cases hv.mp y) (m_goes hS rI hX.1 hO.1 hO.2.1 hX.2.1 hX.2.2 hO.2.2 post)
theorem m_many {R : Nat → Option zT} {Q : qt} {d : Nat} {h : hp} {s : zQ} {v : Int} (hn : -300 ≤ v ∧ v ≤ 300) (hS : St h) (rI : RIs h R) (hX : MS h s) (hO : OKs R s) (k : ∀ h', FMr h h' → MS h' (rmy R (decide (v < 0)) v.natAbs s).2.1 → OKs R (rmy R (decide (v < 0)) v.natAbs s).2.1 → hI h' 116 62 = ((rmy R (decide (v < 0)) v.natAbs s).2.2 : Nat) → Q (.inl (some (vI ((rmy R (decide (v < 0)) v.natAbs s).1 : Nat)))) h') : Wc (d + 72) 207 [vR (some 116), vI v] h Q := by
  refine se_X4_many hS ?_
  have F0 : FMr h (sI h 116 62 0) := FMr_sI (FMr_refl hS) (by unfold pMr; omega)
  have k19 : Wp (d + 71) C_X4_many Q 19 [vR (some 116), vI v, vI (v.natAbs : Nat), vI 0] [] (sI h 116 62 0) := by
    refine m_loop (R := R) (b := decide (v < 0)) (n := v.natAbs) (by omega) (by rw [decide_eq_true_eq]) v.natAbs 0 _ s (by omega) (FMr_St F0) (RIs_M F0 hS rI) ⟨MV_r (by decide) hX.1, Mr_58 (by omega) hX.2.1, by rw [hI_sI, if_neg (by omega)]; exact hX.2.2⟩ hO (by rw [hI_sI, if_pos ⟨rfl, rfl⟩]) (fun h' F' X' O' w' => ?_)
    rw [Nat.zero_add]
    exact k h' (FMr_trans F0 F') X' O' w'
  by_cases v0 : v < 0
  · refine ip v0 ?_
    rw [ns_eq (by omega) (by omega), show 0 - v = ((v.natAbs : Nat) : Int) by omega]
    exact k19
  · refine im v0 ?_
    have : vI v = vI ((v.natAbs : Nat) : Int) := by rw [show ((v.natAbs : Nat) : Int) = v by omega]
    rw [← this] at k19
    exact k19
