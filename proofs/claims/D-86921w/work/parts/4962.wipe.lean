/-! wipe, digest -/
def wc0 (σ : zS) : Nat → Nat
  | 0 => 0
  | k + 1 => wc0 σ k + (if σ 0 k = 0 then 0 else 1)
def wr0 (σ : zS) : Nat → Nat
  | 0 => 0
  | k + 1 => wr0 σ k + (if σ 2 k < 0 then 0 else 1)
theorem wc0_le (σ : zS) : ∀ k, wc0 σ k ≤ k := by
  intro k
  induction k with
  | zero => exact Nat.le_refl _
  | succ k ih => show wc0 σ k + _ ≤ k + 1; split <;> omega
theorem wr0_le (σ : zS) : ∀ k, wr0 σ k ≤ k := by
  intro k
  induction k with
  | zero => exact Nat.le_refl _
  | succ k ih => show wr0 σ k + _ ≤ k + 1; split <;> omega
def sWp (σ : zS) : zS := fun f i => if f = 0 then 0 else if f = 2 ∧ i < 6 then -1 else if f = 6 then 0 else σ f i
def pWp (a j : Nat) : Prop := a = 73 ∨ a = 77 ∨ (102 ≤ a ∧ a ≤ 107) ∨ (a = 68 ∧ j = 19)
def mWp (a j : Nat) : Prop := a = 134 ∨ a = 135 ∨ a = 139 ∨ (a = 116 ∧ (j = 35 ∨ j = 54))
/-- a frame without new cells -/
def FN (p : Nat → Nat → Prop) (h h' : hp) : Prop := FX p h h' ∧ hN h' = hN h ∧ hU h' = hU h
theorem FN_refl {p : Nat → Nat → Prop} {h : hp} (hS : St h) : FN p h h := ⟨FX_refl hS, rfl, rfl⟩
theorem FN_trans {p : Nat → Nat → Prop} {h h1 h2 : hp} (a : FN p h h1) (b : FN p h1 h2) : FN p h h2 := ⟨FX_trans a.1 b.1, b.2.1.trans a.2.1, b.2.2.trans a.2.2⟩
theorem FN_sI {p : Nat → Nat → Prop} {h h' : hp} (a : FN p h h') {c j : Nat} {x : Int} (hc : p c j) (h68 : 68 ≤ c ∧ (c < 85 ∨ 101 < c)) : FN p h (sI h' c j x) := ⟨FX_sI a.1 (Or.inl hc) h68, a.2⟩
theorem FN_sR {p : Nat → Nat → Prop} {h h' : hp} (a : FN p h h') {c j : Nat} {x : Option Nat} (hc : p c j) (h68 : okRf c j) : FN p h (sR h' c j x) := ⟨FX_sR a.1 (Or.inl hc) h68, a.2⟩
theorem FN_sL {p : Nat → Nat → Prop} {h h' : hp} (a : FN p h h') {c j : Nat} {x : Int} (hc : p c j) : FN p h (sL h' c j x) := ⟨FX_sL a.1 (Or.inl hc), a.2⟩
theorem xw3 {d : Nat} {Q : qt} {h0 : hp} {c : Int} : ∀ (n k : Nat) (h : hp), k + n = 4 → FN pWp h0 h → (∀ i, i < k → hI h 77 i = 0) → (∀ h', FN pWp h h' → (∀ i, i < 4 → hI h' 77 i = 0) → hI h' 68 19 = -1 → (∀ a j, a ≠ 77 → a ≠ 68 → hI h' a j = hI h a j ∧ hR h' a j = hR h a j) → Q (.inl (some (vI c))) h') → Wp d C_X0_wipe Q 86 [vR (some 68), vI c, vI (k : Nat)] [] h := by
  intro n
  induction n with
  | zero =>
    intro k h e F z q
    have S := F.1.2.2.1
    refine ss_X0_wipe_86 S (im (by omega) ?_)
    refine q _ (FN_sI (FN_refl S) (by unfold pWp; omega) (by decide)) (fun i hi => by rw [hI_sI, if_neg (by omega)]; exact z i (by omega)) (by rw [hI_sI, if_pos ⟨rfl, rfl⟩]) (fun a j _ ha => ⟨by rw [hI_sI, if_neg (fun y => ha y.1)], rfl⟩)
  | succ n ih =>
    intro k h e F z q
    have S := F.1.2.2.1
    refine ss_X0_wipe_86 S (ip (by omega) ⟨by omega, ?_⟩)
    rw [Int.toNat_natCast, na_eq (by omega) (by omega)]
    have F1 : FN pWp h (sI h 77 k 0) := FN_sI (FN_refl S) (by unfold pWp; omega) (by decide)
    refine ih (k + 1) _ (by omega) (FN_trans F F1) (fun i hi => ?_) (fun h' F' z' e' o' => q h' (FN_trans F1 F') z' e' (fun a j h1 h2 => ⟨(o' a j h1 h2).1.trans (by rw [hI_sI, if_neg (fun y => h1 y.1)]), (o' a j h1 h2).2⟩))
    rw [hI_sI]
    by_cases y : i = k
    · rw [if_pos ⟨rfl, y⟩]
    · rw [if_neg (fun z => y z.2)]; exact z i (by omega)
theorem xw2 {d : Nat} {Q : qt} {h0 : hp} {σ : zS} {c0 : Nat} (hc0 : c0 ≤ 26) (hr0 : ∀ k, k < 6 → (hR h0 (102 + k) 0 = none ↔ σ 2 k < 0)) : ∀ (n k : Nat) (h : hp), k + n = 6 → FN pWp h0 h → (∀ i, i < k → hR h (102 + i) 0 = none) → (∀ i, k ≤ i → i < 14 → hR h (102 + i) 0 = hR h0 (102 + i) 0) → (∀ h', FN pWp h h' → (∀ i, i < 6 → hR h' (102 + i) 0 = none) → (∀ i, 6 ≤ i → i < 14 → hR h' (102 + i) 0 = hR h0 (102 + i) 0) → (∀ j, hI h' 73 j = hI h 73 j) → Wp d C_X0_wipe Q 86 [vR (some 68), vI ((c0 + wr0 σ 6 : Nat) : Int), vI 0] [] h') → Wp d C_X0_wipe Q 42 [vR (some 68), vI ((c0 + wr0 σ k : Nat) : Int), vI (k : Nat)] [] h := by
  intro n
  induction n with
  | zero =>
    intro k h e F z1 z2 q
    have S := F.1.2.2.1
    obtain rfl : k = 6 := by omega
    refine ss_X0_wipe_42 S (im (by decide) ?_)
    exact q h (FN_refl S) z1 z2 (fun _ => rfl)
  | succ n ih =>
    intro k h e F z1 z2 q
    have S := F.1.2.2.1
    have hk : k < 6 := by omega
    have hw := wr0_le σ k
    refine ss_X0_wipe_42 S (ip (by omega) ⟨by omega, ?_⟩)
    rw [Int.toNat_natCast, ho_r S hk, ofR_some, ofR_some]
    have t3 := ho_t S (k := k) (by omega)
    refine ⟨by rw [t3]; simp, ?_⟩
    have F1 : FN pWp h (sR h (102 + k) 0 none) := FN_sR (FN_refl S) (by unfold pWp; omega) (by unfold okRf; omega)
    have nx : Wp d C_X0_wipe Q 42 [vR (some 68), vI ((c0 + wr0 σ (k + 1) : Nat) : Int), vI ((k + 1 : Nat) : Int)] [] (sR h (102 + k) 0 none) := by
      refine ih (k + 1) _ (by omega) (FN_trans F F1) (fun i hi => ?_) (fun i h1 h2 => ?_) (fun h' F' y1 y2 y3 => q h' (FN_trans F1 F') y1 y2 y3)
      · rw [hR_sR]
        by_cases y : i = k
        · subst y; rw [if_pos ⟨rfl, rfl⟩]
        · rw [if_neg (by omega)]; exact z1 i (by omega)
      · rw [hR_sR, if_neg (by omega)]; exact z2 i (by omega) h2
    have nk : n_add ((k : Nat) : Int) 1 = ((k + 1 : Nat) : Int) := by rw [na_eq (by omega) (by omega)]; omega
    rw [nk]
    have ek : wr0 σ (k + 1) = wr0 σ k + (if σ 2 k < 0 then 0 else 1) := rfl
    by_cases y : σ 2 k < 0
    · rw [if_pos y] at ek
      refine ip (by rw [z2 k (Nat.le_refl _) (by omega)]; exact (hr0 k hk).mpr y) ⟨by omega, by rw [t3]; simp, ?_⟩
      rw [na_eq (by omega) (by omega), show ((c0 + wr0 σ k : Nat) : Int) + 0 = ((c0 + wr0 σ (k + 1) : Nat) : Int) by omega]
      exact nx
    · rw [if_neg y] at ek
      refine im (by rw [z2 k (Nat.le_refl _) (by omega)]; exact fun w => y ((hr0 k hk).mp w)) ⟨by omega, ?_⟩
      rw [ofR_some]
      refine ⟨by rw [t3]; simp, ?_⟩
      rw [na_eq (by omega) (by omega), show ((c0 + wr0 σ k : Nat) : Int) + 1 = ((c0 + wr0 σ (k + 1) : Nat) : Int) by omega]
      exact nx
theorem xw1 {d : Nat} {Q : qt} {h0 : hp} {σ : zS} (hs : ∀ k, k < 26 → hI h0 73 k = σ 0 k) : ∀ (n k : Nat) (h : hp), k + n = 26 → FN pWp h0 h → (∀ i, i < k → hI h 73 i = 0) → (∀ i, k ≤ i → i < 26 → hI h 73 i = hI h0 73 i) → (∀ h', FN pWp h h' → (∀ i, i < 26 → hI h' 73 i = 0) → (∀ a j, hR h' a j = hR h a j) → Wp d C_X0_wipe Q 42 [vR (some 68), vI ((wc0 σ 26 : Nat) : Int), vI 0] [] h') → Wp d C_X0_wipe Q 4 [vR (some 68), vI ((wc0 σ k : Nat) : Int), vI (k : Nat)] [] h := by
  intro n
  induction n with
  | zero =>
    intro k h e F z1 z2 q
    have S := F.1.2.2.1
    obtain rfl : k = 26 := by omega
    refine ss_X0_wipe_4 S (im (by decide) ?_)
    exact q h (FN_refl S) z1 (fun _ _ => rfl)
  | succ n ih =>
    intro k h e F z1 z2 q
    have S := F.1.2.2.1
    have hk : k < 26 := by omega
    have hw := wc0_le σ k
    refine ss_X0_wipe_4 S (ip (by omega) ⟨by omega, ?_⟩)
    rw [Int.toNat_natCast, z2 k (Nat.le_refl _) hk, hs k hk, show n_i2z 0 = 0 by decide]
    have F1 : FN pWp h (sI h 73 k 0) := FN_sI (FN_refl S) (by unfold pWp; omega) (by decide)
    have nx : Wp d C_X0_wipe Q 4 [vR (some 68), vI ((wc0 σ (k + 1) : Nat) : Int), vI ((k + 1 : Nat) : Int)] [] (sI h 73 k 0) := by
      refine ih (k + 1) _ (by omega) (FN_trans F F1) (fun i hi => ?_) (fun i h1 h2 => ?_) (fun h' F' y1 y2 => q h' (FN_trans F1 F') y1 y2)
      · rw [hI_sI]
        by_cases y : i = k
        · subst y; rw [if_pos ⟨rfl, rfl⟩]
        · rw [if_neg (by omega)]; exact z1 i (by omega)
      · rw [hI_sI, if_neg (by omega)]; exact z2 i (by omega) h2
    have nk : n_add ((k : Nat) : Int) 1 = ((k + 1 : Nat) : Int) := by rw [na_eq (by omega) (by omega)]; omega
    rw [nk]
    have ek : wc0 σ (k + 1) = wc0 σ k + (if σ 0 k = 0 then 0 else 1) := rfl
    by_cases y : σ 0 k = 0
    · rw [if_pos y] at ek
      refine ip y ⟨by omega, ?_⟩
      rw [na_eq (by omega) (by omega), show ((wc0 σ k : Nat) : Int) + 0 = ((wc0 σ (k + 1) : Nat) : Int) by omega]
      exact nx
    · rw [if_neg y] at ek
      refine im y ⟨by omega, ?_⟩
      rw [na_eq (by omega) (by omega), show ((wc0 σ k : Nat) : Int) + 1 = ((wc0 σ (k + 1) : Nat) : Int) by omega]
      exact nx
/-! m's wipe -/
theorem mw3 {d : Nat} {Q : qt} {h0 : hp} {c : Int} : ∀ (n k : Nat) (h : hp), k + n = 4 → FN mWp h0 h → (∀ i, i < k → hI h 139 i = 0) → (∀ h', FN mWp h h' → (∀ i, i < 4 → hI h' 139 i = 0) → hI h' 116 54 = 0 → hI h' 116 35 = 0 → (∀ j, hI h' 135 j = hI h 135 j) → Q (.inl (some (vI c))) h') → Wp d C_X4_wipe Q 74 [vR (some 116), vI c, vI (k : Nat)] [] h := by
  intro n
  induction n with
  | zero =>
    intro k h e F z q
    have S := F.1.2.2.1
    refine ss_X4_wipe_74 S (im (by omega) ?_)
    refine q _ (FN_sI (FN_sI (FN_refl S) (by unfold mWp; omega) (by decide)) (by unfold mWp; omega) (by decide)) (fun i hi => ?_) ?_ ?_ (fun j => ?_)
    · rw [hI_sI, if_neg (by omega), hI_sI, if_neg (by omega)]; exact z i (by omega)
    · rw [hI_sI, if_pos ⟨rfl, rfl⟩]
    · rw [hI_sI, if_neg (by omega), hI_sI, if_pos ⟨rfl, rfl⟩]
    · rw [hI_sI, if_neg (by omega), hI_sI, if_neg (by omega)]
  | succ n ih =>
    intro k h e F z q
    have S := F.1.2.2.1
    refine ss_X4_wipe_74 S (ip (by omega) ⟨by omega, ?_⟩)
    rw [Int.toNat_natCast, na_eq (by omega) (by omega)]
    have F1 : FN mWp h (sI h 139 k 0) := FN_sI (FN_refl S) (by unfold mWp; omega) (by decide)
    refine ih (k + 1) _ (by omega) (FN_trans F F1) (fun i hi => ?_) (fun h' F' z' e' e2 o' => q h' (FN_trans F1 F') z' e' e2 (fun j => (o' j).trans (by rw [hI_sI, if_neg (by omega)])))
    rw [hI_sI]
    by_cases y : i = k
    · rw [if_pos ⟨rfl, y⟩]
    · rw [if_neg (fun z => y z.2)]; exact z i (by omega)
theorem mw2 {d : Nat} {Q : qt} {h0 : hp} {σ : zS} {c0 : Nat} (hc0 : c0 ≤ 26) (hr0 : ∀ k, k < 14 → hI h0 135 k = σ 2 k) : ∀ (n k : Nat) (h : hp), k + n = 6 → FN mWp h0 h → (∀ i, i < k → hI h 135 i = -1) → (∀ i, k ≤ i → i < 14 → hI h 135 i = hI h0 135 i) → (∀ h', FN mWp h h' → (∀ i, i < 6 → hI h' 135 i = -1) → (∀ i, 6 ≤ i → i < 14 → hI h' 135 i = hI h0 135 i) → Wp d C_X4_wipe Q 74 [vR (some 116), vI ((c0 + wr0 σ 6 : Nat) : Int), vI 0] [] h') → Wp d C_X4_wipe Q 36 [vR (some 116), vI ((c0 + wr0 σ k : Nat) : Int), vI (k : Nat)] [] h := by
  intro n
  induction n with
  | zero =>
    intro k h e F z1 z2 q
    have S := F.1.2.2.1
    obtain rfl : k = 6 := by omega
    refine ss_X4_wipe_36 S (im (by decide) ?_)
    exact q h (FN_refl S) z1 z2
  | succ n ih =>
    intro k h e F z1 z2 q
    have S := F.1.2.2.1
    have hk : k < 6 := by omega
    have hw := wr0_le σ k
    refine ss_X4_wipe_36 S (ip (by omega) ⟨by omega, ?_⟩)
    rw [Int.toNat_natCast, z2 k (Nat.le_refl _) (by omega), hr0 k (by omega)]
    have F1 : FN mWp h (sI h 135 k (-1)) := FN_sI (FN_refl S) (by unfold mWp; omega) (by decide)
    have nx : Wp d C_X4_wipe Q 36 [vR (some 116), vI ((c0 + wr0 σ (k + 1) : Nat) : Int), vI ((k + 1 : Nat) : Int)] [] (sI h 135 k (-1)) := by
      refine ih (k + 1) _ (by omega) (FN_trans F F1) (fun i hi => ?_) (fun i h1 h2 => ?_) (fun h' F' y1 y2 => q h' (FN_trans F1 F') y1 y2)
      · rw [hI_sI]
        by_cases y : i = k
        · subst y; rw [if_pos ⟨rfl, rfl⟩]
        · rw [if_neg (by omega)]; exact z1 i (by omega)
      · rw [hI_sI, if_neg (by omega)]; exact z2 i (by omega) h2
    have nk : n_add ((k : Nat) : Int) 1 = ((k + 1 : Nat) : Int) := by rw [na_eq (by omega) (by omega)]; omega
    rw [nk]
    have ek : wr0 σ (k + 1) = wr0 σ k + (if σ 2 k < 0 then 0 else 1) := rfl
    by_cases y : σ 2 k < 0
    · rw [if_pos y] at ek
      refine ip y ⟨by omega, ?_⟩
      rw [na_eq (by omega) (by omega), show ((c0 + wr0 σ k : Nat) : Int) + 0 = ((c0 + wr0 σ (k + 1) : Nat) : Int) by omega]
      exact nx
    · rw [if_neg y] at ek
      refine im y ⟨by omega, ?_⟩
      rw [na_eq (by omega) (by omega), show ((c0 + wr0 σ k : Nat) : Int) + 1 = ((c0 + wr0 σ (k + 1) : Nat) : Int) by omega]
      exact nx
theorem mw1 {d : Nat} {Q : qt} {h0 : hp} {σ : zS} (hs : ∀ k, k < 26 → σ 0 k = 0 ∨ σ 0 k = 1) (hV : MV h0 σ) : ∀ (n k : Nat) (h : hp), k + n = 26 → FN mWp h0 h → hI h 116 35 = hI h0 116 35 → (∀ j, hI h 135 j = hI h0 135 j) → (∀ h', FN mWp h h' → (∀ j, hI h' 135 j = hI h0 135 j) → Wp d C_X4_wipe Q 36 [vR (some 116), vI ((wc0 σ 26 : Nat) : Int), vI 0] [] h') → Wp d C_X4_wipe Q 4 [vR (some 116), vI ((wc0 σ k : Nat) : Int), vI (k : Nat)] [] h := by
  intro n
  induction n with
  | zero =>
    intro k h e F e35 e2 q
    have S := F.1.2.2.1
    obtain rfl : k = 26 := by omega
    refine ss_X4_wipe_4 S (im (by decide) ?_)
    exact q h (FN_refl S) e2
  | succ n ih =>
    intro k h e F e35 e2 q
    have S := F.1.2.2.1
    have hk : k < 26 := by omega
    have hw := wc0_le σ k
    refine ss_X4_wipe_4 S (ip (by omega) ⟨by omega, ?_⟩)
    rw [Int.toNat_natCast, e35, MV_bit hV hk]
    have F1 : FN mWp h (sI h 134 k 0) := FN_sI (FN_refl S) (by unfold mWp; omega) (by decide)
    have nk : n_add ((k : Nat) : Int) 1 = ((k + 1 : Nat) : Int) := by rw [na_eq (by omega) (by omega)]; omega
    have ek : wc0 σ (k + 1) = wc0 σ k + (if σ 0 k = 0 then 0 else 1) := rfl
    have ec : n_add ((wc0 σ k : Nat) : Int) (σ 0 k) = ((wc0 σ (k + 1) : Nat) : Int) := by
      rcases hs k hk with y | y
      · rw [if_pos y] at ek; rw [y, na_eq (by omega) (by omega)]; omega
      · rw [if_neg (by omega)] at ek; rw [y, na_eq (by omega) (by omega)]; omega
    rw [nk, ec]
    exact ih (k + 1) _ (by omega) (FN_trans F F1) (by rw [hI_sI, if_neg (by omega)]; exact e35) (fun j => by rw [hI_sI, if_neg (by omega)]; exact e2 j) (fun h' F' y2 => q h' (FN_trans F1 F') y2)
theorem Zk_wp {σ : zS} (z : Zk σ) : Zk (sWp σ) := by
  obtain ⟨⟨a, b, c⟩, d⟩ := z
  refine ⟨⟨fun k hk => ?_, fun id j hi hj => ?_, fun j hj => ?_⟩, fun s hs => ?_⟩
  · exact a k hk
  · exact b id j hi hj
  · exact c j hj
  · exact ⟨Int.le_refl _, show (0 : Int) ≤ 30 by decide⟩
theorem op_wipe {n : Nat} {h : hp} (I : IN n h) : Pair 64 212 [vR (some 68)] [vR (some 116)] n h := by
  obtain ⟨⟨R, σ, K, w, T, F, O, L⟩, hS, x, m, g, u⟩ := I
  obtain ⟨x1, ⟨ρ, x2⟩, x3, x4, x5, x6, x7, x8, x9⟩ := id x
  dsimp only at x2
  have hw := wc0_le σ 26
  refine pair_of (s := (R, σ, K, w, T, F, O, L)) (vI ((wc0 σ 26 + wr0 σ 6 : Nat) : Int)) (R, sWp σ, none, w, T, F, O, L) True hS m u (fun d Q kk => ?_) (fun d h1 Q S1 M1 X1 _ kk => ?_)
  · refine se_X0_wipe hS ?_
    refine xw1 (σ := σ) (h0 := h) (fun k hk => (x2.1.1 k hk).1) 26 0 h (by decide) (FN_refl hS) (fun i hi => absurd hi (Nat.not_lt_zero _)) (fun _ _ _ => rfl) (fun h1 F1 y1 y2 => ?_)
    have hr0 : ∀ k, k < 6 → (hR h1 (102 + k) 0 = none ↔ σ 2 k < 0) := by
      intro k hk
      rw [y2]
      rcases x2.1.2.1 k (by omega) with ⟨q1, q2⟩ | ⟨id, q0, q1, q2, -⟩
      · exact ⟨fun _ => by omega, fun _ => q2⟩
      · exact ⟨fun w => (by rw [q2] at w; cases w), fun w => (by omega)⟩
    refine xw2 (σ := σ) (h0 := h1) (c0 := wc0 σ 26) hw hr0 6 0 h1 (by decide) (FN_refl F1.1.2.2.1) (fun i hi => absurd hi (Nat.not_lt_zero _)) (fun _ _ _ => rfl) (fun h2 F2 z1 z2 z3 => ?_)
    refine xw3 (h0 := h2) 4 0 h2 (by decide) (FN_refl F2.1.2.2.1) (fun i hi => absurd hi (Nat.not_lt_zero _)) (fun h3 F3 v1 v2 v3 => ?_)
    have F4 : FN pWp h h3 := FN_trans F1 (FN_trans F2 F3)
    have F5 := F4.1
    refine kk h3 (FX_mono F5 (fun c j _ z => by unfold pWp at z; unfold xpl; omega)) (by rw [F4.2.2]; omega) ⟨Xc1_p F5 hS (fun j => by unfold pWp; omega) (fun c j c1 _ _ => by unfold pWp; omega) x1, ⟨ρ, ⟨⟨fun k hk => ⟨?_, Or.inl rfl, fun z => absurd (show (0 : Int) = 1 from z) (by decide)⟩, fun k hk => ?_, fun k k' id id' hk hk' e1 e2 => ?_⟩, fun s hs => ⟨v1 s hs, Int.le_refl _, show (0 : Int) ≤ 30 by decide⟩, fun j hj => ?_⟩⟩, XFr_p F5 hS (by unfold pWp; omega) (by unfold pWp; omega) x3, v2, Xc5_p F5 hS (by unfold pWp; omega) x5, Tq_p F5 hS (by unfold pWp; omega) (fun j => by unfold pWp; omega) x6, Xc7_p F5 hS (by unfold pWp; omega) (by unfold pWp; omega) x7, Xc8_p F5 hS (by unfold pWp; omega) (fun j => by unfold pWp; omega) x8, Xc9_p F5 hS (by unfold pWp; omega) x9⟩ trivial
    · show hI h3 73 k = 0
      rw [(v3 73 k (by decide) (by decide)).1, z3]
      exact y1 k hk
    · by_cases k6 : k < 6
      · refine Or.inl ⟨?_, ?_⟩
        · show sWp σ 2 k = -1
          unfold sWp
          rw [if_neg (by decide), if_pos ⟨rfl, k6⟩]
        · rw [(v3 (102 + k) 0 (by omega) (by omega)).2]; exact z1 k k6
      · have e2 : sWp σ 2 k = σ 2 k := by
          unfold sWp
          rw [if_neg (by decide), if_neg (fun z => k6 z.2), if_neg (by decide)]
        have er : hR h3 (102 + k) 0 = hR h (102 + k) 0 := by rw [(v3 (102 + k) 0 (by omega) (by omega)).2, z2 k (by omega) hk, y2]
        dsimp only
        rw [e2, er]
        rcases x2.1.2.1 k hk with q | ⟨id, q0, q1, q2, q3⟩
        · exact Or.inl q
        · exact Or.inr ⟨id, q0, q1, q2, XA_eq F5.1 rfl rfl (fun _ => rfl) (FX_sm F5 q3.2.1 (fun j => by have := q3.1; unfold pWp; omega)) q3⟩
    · have up : ∀ k (id : Nat), sWp σ 2 k = (id : Nat) → σ 2 k = (id : Nat) := by
        intro k id e
        unfold sWp at e
        rw [if_neg (by decide)] at e
        by_cases k6 : k < 6
        · rw [if_pos ⟨rfl, k6⟩] at e; omega
        · rw [if_neg (fun z => k6 z.2), if_neg (by decide)] at e; exact e
      exact x2.1.2.2 k k' id id' hk hk' (up k id e1) (up k' id' e2)
    · rw [F68 F5 hS (by decide) (by unfold pWp; omega)]
      exact x2.2.2 j hj
  · obtain ⟨m1, m2, m4, m5, m6, m7, m8, m9⟩ := id M1
    dsimp only at m2
    refine se_X4_wipe S1 ?_
    refine mw1 (σ := σ) (h0 := h1) (fun k hk => (x2.1.1 k hk).2.1) m2 26 0 h1 (by decide) (FN_refl S1) rfl (fun _ => rfl) (fun h2 F2 y2 => ?_)
    refine mw2 (σ := σ) (h0 := h2) (c0 := wc0 σ 26) hw (fun k hk => by rw [y2]; exact (m2.2.2.1 k hk).1) 6 0 h2 (by decide) (FN_refl F2.1.2.2.1) (fun i hi => absurd hi (Nat.not_lt_zero _)) (fun _ _ _ => rfl) (fun h3 F3 z1 z2 => ?_)
    refine mw3 (h0 := h3) 4 0 h3 (by decide) (FN_refl F3.1.2.2.1) (fun i hi => absurd hi (Nat.not_lt_zero _)) (fun h4 F4 v1 v2 v3 v4 => ?_)
    have F6 : FN mWp h1 h4 := FN_trans F2 (FN_trans F3 F4)
    have F5 := F6.1
    have ee : ∀ c j, 136 ≤ c ∧ c ≤ 140 ∧ c ≠ 139 → hI h4 c j = hI h1 c j ∧ hL h4 c j = hL h1 c j := fun c j hc => by
      have := FX_at F5 (c := c) (j := j) (Nat.lt_of_lt_of_le (show c < 145 by omega) S1.1) (by unfold mWp; omega)
      exact ⟨this.1, this.2.1⟩
    refine kk h4 (FX_mono F5 (fun c j _ z => by unfold mWp at z; unfold mpl; omega)) F6.2.2 ⟨Mc1_p F5 S1 (fun c j hc => by unfold mWp; omega) m1, ⟨⟨0, by decide, v3, fun k _ => by rw [Nat.zero_testBit]; rfl⟩, fun k _ z => absurd (show (0 : Int) = 1 from z) (by decide), fun k hk => ?_, fun id hi => ?_, fun j hj => (ee 138 j (by omega)).2.trans (m2.2.2.2.2.1 j hj), fun s hs => v1 s hs, fun j hj => (ee 140 j (by omega)).1.trans (m2.2.2.2.2.2.2 j hj)⟩, v2, Mc5_p F5 S1 (by unfold mWp; omega) m5, Mq_p F5 S1 (by unfold mWp; omega) (fun j => by unfold mWp; omega) m6, Mc7_p F5 S1 (by unfold mWp; omega) (by unfold mWp; omega) m7, Mc8_p F5 S1 (by unfold mWp; omega) (fun j => by unfold mWp; omega) m8, Mc9_p F5 S1 (by unfold mWp; omega) m9⟩ ⟨g.1, Zk_wp g.2.1, trivial, g.2.2.2⟩
    · rw [v4]
      by_cases k6 : k < 6
      · have e2 : sWp σ 2 k = -1 := by unfold sWp; rw [if_neg (by decide), if_pos ⟨rfl, k6⟩]
        dsimp only
        rw [e2]
        exact ⟨z1 k k6, by decide, by decide⟩
      · have e2 : sWp σ 2 k = σ 2 k := by unfold sWp; rw [if_neg (by decide), if_neg (fun z => k6 z.2), if_neg (by decide)]
        dsimp only
        rw [e2, z2 k (by omega) hk, y2]
        exact m2.2.2.1 k hk
    · rw [(ee 136 id (by omega)).1, (ee 137 id (by omega)).1]
      exact m2.2.2.2.1 id hi
