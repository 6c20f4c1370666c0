/-! x READS EXPRESSIONS -/
def FQ (h0 : hp) (n kd q : Nat) (Q : qt) : Prop := ∀ h1 h', FA h0 h1 → h' = sI (sI h1 68 6 (kd : Nat)) 68 7 (hI h0 68 1 - (q : Nat)) → hU h1 ≤ n → Q (.inr 70) h'
def RQ (h0 : hp) (n : Nat) (r : zRes) (Q : qt) : Prop := match r with
  | .inl f => FQ h0 n f.1 f.2 Q
  | .inr p => ∀ h' a, FA h0 h' → hU h' + 16 * p.2.length ≤ n → Lx h' p.2 → RE h' (hN h0) (hN h') p.1 a → Q (.inl (some (vR (some a)))) h'
theorem pis_t {s w : Nat} {L : List zTk} (h : pis s w L = true) : L ≠ [] ∧ phs s L = true ∧ pw L = w ∧ L.length = L.tail.length + 1 := by
  cases L with
  | nil => simp [pis] at h
  | cons t L => obtain ⟨q, a, b⟩ := t; simp [pis] at h; simp [phs, pw, h.1, h.2]
theorem phs_t {s : Nat} {L : List zTk} (h : phs s L = true) : L ≠ [] ∧ L.length = L.tail.length + 1 := by
  cases L with
  | nil => simp [phs] at h
  | cons t L => simp
theorem pis_of {s : Nat} {L : List zTk} (h : phs s L = true) : pis s (pw L) L = true := by
  cases L with
  | nil => simp [phs] at h
  | cons t L => obtain ⟨q, a, b⟩ := t; simp [phs] at h; simp [pis, pw, h]
theorem c_adv2 {d : Nat} {Q : qt} {h : hp} {L : List zTk} (hS : St h) (hL : Lx h L) (hn : L ≠ []) (k : ∀ h', FA h h' → hN h' = hN h → hU h' = hU h → Lx h' L.tail → Q (.inl none) h') : Wc (d + 4) 5 [vR (some 68)] h Q :=
  c_adv hS hL hn fun h' hF hL' => k h' (FA_FI hF) hF.1 hF.2.1 hL'
theorem Tq_sm {h h' : hp} (s1 : sm h h' 68) (s2 : sm h h' 69) {p : Nat} {u : List Int} (k : Tq h p u) : Tq h' p u := ⟨(s1.2.1 1).trans k.1, k.2.1, Tx_eq s2.2.1 k.2.2.1, k.2.2.2⟩
theorem Lx_sm {h h' : hp} (s1 : sm h h' 68) (s2 : sm h h' 69) {L : List zTk} (k : Lx h L) : Lx h' L := by
  obtain ⟨u, hC, e⟩ := k
  refine ⟨u, ?_, e⟩
  cases u with
  | nil => exact ⟨by rw [s1.2.1, s1.2.1]; exact hC.1, (s1.2.1 4).trans hC.2⟩
  | cons c r =>
    obtain ⟨hc, b, q, h1, h2, h3, h4, h5⟩ := hC
    refine ⟨hc, b, q, (s1.2.1 3).trans h1, (s1.2.1 2).trans h2, Tq_sm s1 s2 h3, Tq_sm s1 s2 h4, ?_⟩
    unfold Cso at h5 ⊢
    rw [s1.2.1, s1.2.1]
    exact h5
/-- a fault at the token that is looked at -/
theorem t_wrong {d : Nat} {Q : qt} {h0 h : hp} {n kd : Nat} {L : List zTk} {E : Nat → hp → Prop} (hS0 : St h0) (hF : FA h0 h) (hL : Lx h L) (hu : hU h ≤ n) (k : FQ h0 n kd (pq L) Q) : cR (Wc (d + 1)) 14 [vR (some 68), vI (kd : Nat), vI (hI h 68 3)] h (fun x h1 => ofR x fun a => (hT h1 a).1 < 64 ∧ Q (.inr a) h1) E := by
  have hS := FA_St hF hS0
  refine se_X0_wrongAt hS ?_
  refine ⟨?_, k h _ hF ?_ hu⟩
  · show (hT h 70).1 < 64
    rw [stt_70 hS]; decide
  · rw [Lx_pos hL, FA_n hF hS0]
theorem t_cannot {d : Nat} {Q : qt} {h0 h : hp} {n : Nat} {L : List zTk} {E : Nat → hp → Prop} (hS0 : St h0) (hF : FA h0 h) (hL : Lx h L) (hu : hU h ≤ n) (k : FQ h0 n 1 (pq L) Q) : cR (Wc (d + 2)) 19 [vR (some 68)] h (fun x h1 => ofR x fun a => (hT h1 a).1 < 64 ∧ Q (.inr a) h1) E := by
  have hS := FA_St hF hS0
  refine se_X0_cannot hS ?_
  refine se_X0_wrongAt hS ?_
  refine ⟨?_, k h _ hF ?_ hu⟩
  · show (hT h 70).1 < 64
    rw [stt_70 hS]; decide
  · show sI (sI h 68 6 ((1 : Nat) : Int)) 68 7 (hI h 68 3) = _
    rw [Lx_pos hL, FA_n hF hS0]
theorem c_sign {d : Nat} {Q : qt} {h0 h : hp} {n c : Nat} {L : List zTk} (hS0 : St h0) (hF : FA h0 h) (hL : Lx h L) (hu : hU h ≤ n) (k1 : pis 7 c L = true → ∀ h', FA h h' → hN h' = hN h → hU h' = hU h → Lx h' L.tail → Q (.inl none) h') (k2 : pis 7 c L = false → FQ h0 n 1 (pq L) Q) : Wc (d + 5) 21 [vR (some 68), vI (c : Nat)] h Q := by
  have hS := FA_St hF hS0
  refine se_X0_sign hS ?_
  refine c_isSign hS hL ?_
  refine ss_X0_sign_5 hS ?_
  cases hp : pis 7 c L with
  | false => refine ip rfl ?_; exact t_cannot hS0 hF hL hu (k2 hp)
  | true => rw [if_neg (by decide)]; exact c_adv2 hS hL (pis_t hp).1 (k1 hp)
theorem c_deep {d : Nat} {Q : qt} {h0 h : hp} {n w : Nat} {L : List zTk} (hS0 : St h0) (hF : FA h0 h) (hL : Lx h L) (hu : hU h ≤ n) (k1 : w ≠ 8 → Q (.inl none) h) (k2 : w = 8 → FQ h0 n 2 (pq L) Q) : Wc (d + 2) 28 [vR (some 68), vI (w : Nat)] h Q := by
  have hS := FA_St hF hS0
  refine se_X0_deep hS ?_
  by_cases hw : w = 8
  · rw [if_pos (by omega)]; exact t_wrong hS0 hF hL hu (k2 hw)
  · rw [if_neg (by omega)]; exact k1 hw
theorem c_nameR {d : Nat} {Q : qt} {h0 h : hp} {n : Nat} {L : List zTk} (hS0 : St h0) (hF : FA h0 h) (hL : Lx h L) (hu : hU h ≤ n) (k1 : phs 1 L = true → ∀ h', FA h h' → hN h' = hN h → hU h' = hU h → Lx h' L.tail → Q (.inl (some (vI (pw L : Nat)))) h') (k2 : phs 1 L = false → FQ h0 n 1 (pq L) Q) : Wc (d + 5) 18 [vR (some 68)] h Q := by
  have hS := FA_St hF hS0
  refine se_X0_name hS ?_
  refine c_isName hS hL ?_
  refine ss_X0_name_4 hS ?_
  cases hp : phs 1 L with
  | false => refine ip rfl ?_; exact t_cannot hS0 hF hL hu (k2 hp)
  | true =>
    rw [if_neg (by decide)]
    obtain ⟨b, b1, b2, b3, b4, b5, b6⟩ := Lx_hd hL (phs_t hp).1
    rw [b1, Int.toNat_natCast, (b4 hp).1]
    refine ⟨by omega, c_adv2 hS hL (phs_t hp).1 fun h' f1 f2 f3 f4 => ss_X0_name_29 (FA_St f1 hS) ?_⟩
    rw [ns_eq (by have := (b4 hp).2; omega) (by have := (b4 hp).2; omega), show ((pw L : Nat) : Int) + 97 - 97 = (pw L : Nat) by omega]
    exact k1 hp h' f1 f2 f3 f4
theorem c_rowR {d : Nat} {Q : qt} {h0 h : hp} {n : Nat} {L : List zTk} (hS0 : St h0) (hF : FA h0 h) (hL : Lx h L) (hu : hU h ≤ n) (k1 : phs 3 L = true → ∀ h', FA h h' → hN h' = hN h → hU h' = hU h → Lx h' L.tail → Q (.inl (some (vI (pw L : Nat)))) h') (k2 : phs 3 L = false → FQ h0 n 1 (pq L) Q) : Wc (d + 5) 20 [vR (some 68)] h Q := by
  have hS := FA_St hF hS0
  refine se_X0_rowName hS ?_
  refine c_isRowT hS hL ?_
  refine ss_X0_rowName_4 hS ?_
  cases hp : phs 3 L with
  | false => refine ip rfl ?_; exact t_cannot hS0 hF hL hu (k2 hp)
  | true =>
    rw [if_neg (by decide)]
    obtain ⟨b, b1, b2, b3, b4, b5, b6⟩ := Lx_hd hL (phs_t hp).1
    rw [b1, Int.toNat_natCast, (b5 hp).1]
    refine ⟨by omega, c_adv2 hS hL (phs_t hp).1 fun h' f1 f2 f3 f4 => ss_X0_rowName_29 (FA_St f1 hS) ?_⟩
    rw [ns_eq (by have := (b5 hp).2; omega) (by have := (b5 hp).2; omega), show ((pw L : Nat) : Int) + 65 - 65 = (pw L : Nat) by omega]
    exact k1 hp h' f1 f2 f3 f4
/-! nodes that are made -/
theorem RE_two {g h6 : hp} {lo k kt a b : Nat} {l r : zT} (hlo : 145 ≤ lo) (hlg : lo ≤ hN g) (z1 : RE g lo (hN g) l a) (hF : FA (hNew g kt 0 3) h6) (z2 : RE h6 (hN g + 1) (hN h6) r b)
    (hk : k ≠ 2 ∧ k ≠ 1 ∧ k ≠ 35 ∧ k ≠ 3 ∧ k ≠ 8 ∧ k ≠ 40) (hkt : kt = if k = 60 ∨ k = 61 then 14 else if zpro k = true then 16 else 17) :
    RE (sR (sI (sR h6 (hN g) 0 (some a)) (hN g) 2 (k : Nat)) (hN g) 1 (some b)) lo (hN h6) (zB k l r) (hN g) := by
  have hn := hF.1
  rw [hN_new] at hn
  have hsm : ∀ c, c < hN h6 → c ≠ hN g → sm h6 (sR (sI (sR h6 (hN g) 0 (some a)) (hN g) 2 (k : Nat)) (hN g) 1 (some b)) c := fun c _ hc => sm_sR (sm_sI (sm_sR (sm_refl _ _) hc) hc) hc
  refine ⟨hlg, by omega, ?_⟩
  rw [if_neg hk.1, if_neg hk.2.1, if_neg hk.2.2.1, if_neg hk.2.2.2.1, if_neg hk.2.2.2.2.1, if_neg hk.2.2.2.2.2]
  refine ⟨?_, ?_, a, b, ?_, ?_, ?_, ?_⟩
  · rw [hT_sR, hT_sI, hT_sR, (hF.2.2 (hN g) (by rw [hN_new]; omega)).1, hT_newa rfl, hkt]
  · rw [hI_sR, hI_sI, if_pos ⟨rfl, rfl⟩]
  · rw [hR_sR, if_neg (by omega), hR_sI, hR_sR, if_pos ⟨rfl, rfl⟩]
  · rw [hR_sR, if_pos ⟨rfl, rfl⟩]
  · refine RE_mono (Nat.le_refl _) (by omega) (RE_eq (fun c c1 c2 _ => ?_) z1)
    exact sm_trans (sm_new (sm_refl _ _) c2) (sm_trans (FA_sm hF (by rw [hN_new]; omega) (by omega)) (hsm c (by omega) (by omega)))
  · exact RE_mono (by omega) (Nat.le_refl _) (RE_eq (fun c c1 c2 _ => hsm c c2 (by omega)) z2)
theorem RE_item {g h6 : hp} {lo x b : Nat} {r : zT} (hlg : lo ≤ hN g) (hF : FA (hNew g 10 0 2) h6) (z2 : RE h6 (hN g + 1) (hN h6) r b) :
    RE (sR (sI h6 (hN g) 0 (x : Nat)) (hN g) 1 (some b)) lo (hN h6) (zB 3 (zL x) r) (hN g) := by
  have hn := hF.1
  rw [hN_new] at hn
  refine ⟨hlg, by omega, ?_⟩
  rw [if_neg (by decide), if_neg (by decide), if_neg (by decide), if_pos rfl]
  refine ⟨?_, ?_, b, ?_, ?_⟩
  · rw [hT_sR, hT_sI, (hF.2.2 (hN g) (by rw [hN_new]; omega)).1, hT_newa rfl]
  · rw [hI_sR, hI_sI, if_pos ⟨rfl, rfl⟩]; rfl
  · rw [hR_sR, if_pos ⟨rfl, rfl⟩]
  · exact RE_mono (by omega) (Nat.le_refl _) (RE_eq (fun c c1 c2 _ => sm_sR (sm_sI (sm_refl _ _) (by omega)) (by omega)) z2)
theorem RE_minus {g h6 : hp} {lo b : Nat} {r : zT} (hlg : lo ≤ hN g) (hF : FA (hNew g 12 0 1) h6) (z2 : RE h6 (hN g + 1) (hN h6) r b) :
    RE (sR h6 (hN g) 0 (some b)) lo (hN h6) (zB 8 r (zL 0)) (hN g) := by
  have hn := hF.1
  rw [hN_new] at hn
  refine ⟨hlg, by omega, ?_⟩
  rw [if_neg (by decide), if_neg (by decide), if_neg (by decide), if_neg (by decide), if_pos rfl]
  refine ⟨?_, b, ?_, ?_⟩
  · rw [hT_sR, (hF.2.2 (hN g) (by rw [hN_new]; omega)).1, hT_newa rfl]
  · rw [hR_sR, if_pos ⟨rfl, rfl⟩]
  · exact RE_mono (by omega) (Nat.le_refl _) (RE_eq (fun c c1 c2 _ => sm_sR (sm_refl _ _) (by omega)) z2)
theorem RE_paren {g : hp} {lo b : Nat} {r : zT} (hlg : lo ≤ hN g) (z : RE g lo (hN g) r b) :
    RE (sR (hNew g 15 0 1) (hN g) 0 (some b)) lo (hN g + 1) (zB 40 r (zL 0)) (hN g) := by
  refine ⟨hlg, by omega, ?_⟩
  rw [if_neg (by decide), if_neg (by decide), if_neg (by decide), if_neg (by decide), if_neg (by decide), if_pos rfl]
  refine ⟨?_, b, ?_, ?_⟩
  · rw [hT_sR, hT_newa rfl]
  · rw [hR_sR, if_pos ⟨rfl, rfl⟩]
  · exact RE_mono (Nat.le_refl _) (by omega) (RE_eq (fun c c1 c2 _ => sm_sR (sm_new (sm_refl _ _) c2) (by omega)) z)
theorem RE_leaf {g h6 : hp} {lo k kt x : Nat} (hlg : lo ≤ hN g) (hF : FA (hNew g kt 0 1) h6) (hk : (k = 2 ∧ kt = 8) ∨ (k = 1 ∧ kt = 9) ∨ (k = 35 ∧ kt = 11)) :
    RE (sI h6 (hN g) 0 (x : Nat)) lo (hN h6) (zB k (zL x) (zL 0)) (hN g) := by
  have hn := hF.1
  rw [hN_new] at hn
  have ht : hT (sI h6 (hN g) 0 (x : Nat)) (hN g) = (kt, 0) := by rw [hT_sI, (hF.2.2 (hN g) (by rw [hN_new]; omega)).1, hT_newa rfl]
  have hx : hI (sI h6 (hN g) 0 (x : Nat)) (hN g) 0 = ((zn (zL x) : Nat) : Int) := by rw [hI_sI, if_pos ⟨rfl, rfl⟩]; rfl
  refine ⟨hlg, by omega, ?_⟩
  rcases hk with ⟨k1, k2⟩ | ⟨k1, k2⟩ | ⟨k1, k2⟩ <;> subst k1 <;> subst k2
  · refine ip rfl ?_; exact ⟨ht, hx⟩
  · rw [if_neg (by decide), if_pos rfl]; exact ⟨ht, hx⟩
  · rw [if_neg (by decide), if_neg (by decide), if_pos rfl]; exact ⟨ht, hx⟩
