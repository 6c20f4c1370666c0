/-! x: lists of steps -/
def pKey (L : List zTk) : Bool := phs 5 L && (pw L ≤ 8 || pw L == 11 || (14 ≤ pw L && pw L ≤ 16))
theorem pKey_of {L : List zTk} {i : Nat} (h : pis 5 i L = true) (hi : i ≤ 8 ∨ i = 11 ∨ (14 ≤ i ∧ i ≤ 16)) : pKey L = true := by
  obtain ⟨-, h1, h2, -⟩ := pis_t h
  unfold pKey
  rw [h1, h2]
  simp
  omega
theorem c_isKey {d : Nat} {Q : qt} {h : hp} {L : List zTk} (hS : St h) (hL : Lx h L) (k : Q (.inl (some (vI (bI (pKey L))))) h) : Wc (d + 6) 12 [vR (some 68)] h Q := by
  refine se_X0_isKey hS ?_
  refine c_isWord (i := 0) hS hL (sts_16 hS) (by decide) (by decide) (by decide) ?_
  refine ss_X0_isKey_6 hS ?_
  cases q0 : pis 5 0 L with
  | true => refine im (by decide) ?_; rw [pKey_of q0 (by omega)] at k; exact k
  | false =>
  refine ip rfl ?_
  refine c_isWord (i := 1) hS hL (sts_18 hS) (by decide) (by decide) (by decide) ?_
  refine ss_X0_isKey_15 hS ?_
  cases q1 : pis 5 1 L with
  | true => refine im (by decide) ?_; rw [pKey_of q1 (by omega)] at k; exact k
  | false =>
  refine ip rfl ?_
  refine c_isWord (i := 2) hS hL (sts_20 hS) (by decide) (by decide) (by decide) ?_
  refine ss_X0_isKey_24 hS ?_
  cases q2 : pis 5 2 L with
  | true => refine im (by decide) ?_; rw [pKey_of q2 (by omega)] at k; exact k
  | false =>
  refine ip rfl ?_
  refine c_isWord (i := 3) hS hL (sts_22 hS) (by decide) (by decide) (by decide) ?_
  refine ss_X0_isKey_33 hS ?_
  cases q3 : pis 5 3 L with
  | true => refine im (by decide) ?_; rw [pKey_of q3 (by omega)] at k; exact k
  | false =>
  refine ip rfl ?_
  refine c_isWord (i := 4) hS hL (sts_24 hS) (by decide) (by decide) (by decide) ?_
  refine ss_X0_isKey_42 hS ?_
  cases q4 : pis 5 4 L with
  | true => refine im (by decide) ?_; rw [pKey_of q4 (by omega)] at k; exact k
  | false =>
  refine ip rfl ?_
  refine c_isWord (i := 5) hS hL (sts_26 hS) (by decide) (by decide) (by decide) ?_
  refine ss_X0_isKey_51 hS ?_
  cases q5 : pis 5 5 L with
  | true => refine im (by decide) ?_; rw [pKey_of q5 (by omega)] at k; exact k
  | false =>
  refine ip rfl ?_
  refine c_isWord (i := 6) hS hL (sts_28 hS) (by decide) (by decide) (by decide) ?_
  refine ss_X0_isKey_60 hS ?_
  cases q6 : pis 5 6 L with
  | true => refine im (by decide) ?_; rw [pKey_of q6 (by omega)] at k; exact k
  | false =>
  refine ip rfl ?_
  refine c_isWord (i := 7) hS hL (sts_30 hS) (by decide) (by decide) (by decide) ?_
  refine ss_X0_isKey_69 hS ?_
  cases q7 : pis 5 7 L with
  | true => refine im (by decide) ?_; rw [pKey_of q7 (by omega)] at k; exact k
  | false =>
  refine ip rfl ?_
  refine c_isWord (i := 8) hS hL (sts_32 hS) (by decide) (by decide) (by decide) ?_
  refine ss_X0_isKey_78 hS ?_
  cases q8 : pis 5 8 L with
  | true => refine im (by decide) ?_; rw [pKey_of q8 (by omega)] at k; exact k
  | false =>
  refine ip rfl ?_
  refine c_isWord (i := 11) hS hL (sts_34 hS) (by decide) (by decide) (by decide) ?_
  refine ss_X0_isKey_87 hS ?_
  cases q11 : pis 5 11 L with
  | true => refine im (by decide) ?_; rw [pKey_of q11 (by omega)] at k; exact k
  | false =>
  refine ip rfl ?_
  refine c_isWord (i := 14) hS hL (sts_10 hS) (by decide) (by decide) (by decide) ?_
  refine ss_X0_isKey_96 hS ?_
  cases q14 : pis 5 14 L with
  | true => refine im (by decide) ?_; rw [pKey_of q14 (by omega)] at k; exact k
  | false =>
  refine ip rfl ?_
  refine c_isWord (i := 15) hS hL (sts_12 hS) (by decide) (by decide) (by decide) ?_
  refine ss_X0_isKey_105 hS ?_
  cases q15 : pis 5 15 L with
  | true => refine im (by decide) ?_; rw [pKey_of q15 (by omega)] at k; exact k
  | false =>
  refine ip rfl ?_
  refine c_isWord (i := 16) hS hL (sts_14 hS) (by decide) (by decide) (by decide) ?_
  refine ss_X0_isKey_114 hS ?_
  cases q16 : pis 5 16 L with
  | true => refine im (by decide) ?_; rw [pKey_of q16 (by omega)] at k; exact k
  | false =>
  refine ip rfl ?_
  have : pKey L = false := by
    cases hp : phs 5 L with
    | false => unfold pKey; rw [hp]; rfl
    | true =>
      have e := pis_of hp
      unfold pKey
      rw [hp]
      by_cases z : pw L ≤ 8 ∨ pw L = 11 ∨ (14 ≤ pw L ∧ pw L ≤ 16)
      · exfalso
        have hc : pw L = 0 ∨ pw L = 1 ∨ pw L = 2 ∨ pw L = 3 ∨ pw L = 4 ∨ pw L = 5 ∨ pw L = 6 ∨ pw L = 7 ∨ pw L = 8 ∨ pw L = 11 ∨ pw L = 14 ∨ pw L = 15 ∨ pw L = 16 := by omega
        rcases hc with y | y | y | y | y | y | y | y | y | y | y | y | y <;> rw [y] at e <;> simp_all
      · simp
        omega
  rw [this] at k
  exact k
/-- the steps xs of a list in the making, each apart from the list l and its array arr -/
def OT (h : hp) (base l arr : Nat) : zT → List Nat → Prop
  | .leaf _, xs => xs = []
  | .branch k s t, xs => k = 150 ∧ ∃ x ys, xs = x :: ys ∧ (∃ lo hi, base ≤ lo ∧ hi ≤ hN h ∧ ¬ (lo ≤ l ∧ l < hi) ∧ ¬ (lo ≤ arr ∧ arr < hi) ∧ RT h lo hi s [x]) ∧ OT h base l arr t ys
theorem OT_RT {h : hp} {base l arr : Nat} : ∀ {t : zT} {xs : List Nat}, OT h base l arr t xs → RT h base (hN h) t xs := by
  intro t
  induction t with
  | leaf n => intro xs z; exact z
  | branch k s t _ ih =>
    intro xs z
    obtain ⟨e, x, ys, e2, ⟨lo, hi, a1, a2, -, -, a5⟩, z2⟩ := z
    unfold RT
    rw [if_pos e]
    exact ⟨x, ys, e2, RT_mono a1 a2 a5, ih z2⟩
theorem OT_app {h : hp} {base l arr lo hi x : Nat} {s : zT} (a1 : base ≤ lo) (a2 : hi ≤ hN h) (a3 : ¬ (lo ≤ l ∧ l < hi)) (a4 : ¬ (lo ≤ arr ∧ arr < hi)) (a5 : RT h lo hi s [x]) : ∀ {t : zT} {xs : List Nat}, OT h base l arr t xs → OT h base l arr (zap t (zcons s (zL 0))) (xs ++ [x]) := by
  intro t
  induction t with
  | leaf n => intro xs z; rw [show xs = [] from z]; exact ⟨rfl, x, [], rfl, ⟨lo, hi, a1, a2, a3, a4, a5⟩, rfl⟩
  | branch k u t _ ih =>
    intro xs z
    obtain ⟨e, y, ys, e2, z1, z2⟩ := z
    rw [e2]
    exact ⟨e, y, ys ++ [x], rfl, z1, ih z2⟩
theorem OT_eq {h h' : hp} {base l arr arr' : Nat} (hb : 145 ≤ base) (hn : hN h ≤ hN h') (hs : ∀ c, c < hN h → 145 ≤ c → c ≠ l → c ≠ arr → sm h h' c) (ha : arr' = arr ∨ hN h ≤ arr') : ∀ {t : zT} {xs : List Nat}, OT h base l arr t xs → OT h' base l arr' t xs := by
  intro t
  induction t with
  | leaf n => intro xs z; exact z
  | branch k s t _ ih =>
    intro xs z
    obtain ⟨e, x, ys, e2, ⟨lo, hi, a1, a2, a3, a4, a5⟩, z2⟩ := z
    refine ⟨e, x, ys, e2, ⟨lo, hi, a1, by omega, a3, ?_, RT_eq (by omega) hn (fun c c1 c2 _ => hs c (by omega) (by omega) (fun q => a3 ⟨by omega, by omega⟩) (fun q => a4 ⟨by omega, by omega⟩)) a5⟩, ih z2⟩
    rcases ha with q | q
    · rw [q]; exact a4
    · omega
theorem zap_app (s u : zT) : ∀ t : zT, zap (zap t (zcons s (zL 0))) u = zap t (zcons s u) := by
  intro t
  induction t with
  | leaf n => rfl
  | branch k a b _ ih => show Lean.RArray.branch k a (zap (zap b (zcons s (zL 0))) u) = _; rw [ih]; rfl
def BQ (h0 : hp) (n : Nat) (acc : zT) (r : zRs) (Q : qt) : Prop := match r with
  | .inl f => FQS h0 n f.1 f.2 Q
  | .inr p => ∀ h' a ys, FS h0 h' → hU h' + 128 * p.2.1.length ≤ n → Xs h' p.2.1 p.2.2.1 p.2.2.2 → RPt h' (hN h0) (hN h') a ys → RT h' (hN h0) (hN h') (zap acc p.1) ys → Q (.inl (some (vR (some a)))) h'
def SQ2 (h0 : hp) (n : Nat) (r : zRs) (Q : qt) : Prop := match r with
  | .inl f => FQS h0 n f.1 f.2 Q
  | .inr p => ∀ h' a, FS h0 h' → hU h' + 128 * p.2.1.length + 100 ≤ n → Xs h' p.2.1 p.2.2.1 p.2.2.2 → RT h' (hN h0) (hN h') p.1 [a] → Q (.inl (some (vR (some a)))) h'
theorem SQ_of2 {h0 h : hp} {n c o : Nat} {L : List zTk} {r : zRs} {Q : qt} (hS0 : St h0) (hF : FS h0 h) (hu : hU h + 128 * L.length ≤ n) (hr : pOne c o L = some r) (k : SQ2 h0 n r Q) : SQ h (hU h + 64 * L.length) r Q := by
  cases r with
  | inl f => exact FQS_to hS0 hF (by omega) (fun _ z => z) k
  | inr p =>
    obtain ⟨t, M, c1, o1⟩ := p
    have hl := (pOne_len hr).1
    intro h' a f1 f2 f3 f4
    have f2' : hU h' + 64 * M.length ≤ hU h + 64 * L.length := f2
    exact k h' a (FS_trans hF f1) (by show hU h' + 128 * M.length + 100 ≤ n; omega) f3 (RT_mono hF.1 (Nat.le_refl _) f4)
