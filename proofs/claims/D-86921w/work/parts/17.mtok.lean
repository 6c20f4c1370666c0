/-! m TAKES TOKENS -/
theorem or_nat {a b : Nat} (ha : a < 2 ^ 31) (hb : b < 2 ^ 31) : n_or (a : Int) (b : Int) = ((a ||| b : Nat) : Int) := by
  unfold n_or
  rw [Int32.ofInt_eq_ofNat, Int32.ofInt_eq_ofNat, show Int32.ofNat a ||| Int32.ofNat b = Int32.ofNat (a ||| b) from Int32.toBitVec_inj.1 (by simp)]
  exact Int32.toInt_ofNat_of_lt (Nat.or_lt_two_pow ha hb)
theorem shl1 : ∀ k : Nat, k < 31 → n_shl 1 (k : Int) = ((2 ^ k : Nat) : Int) := by decide
/-- m is ahead of the tokens L -/
def Ly (h : hp) (L : List zTk) : Prop := ∃ (p : Nat) (u : List Int), hI h 116 4 = p ∧ Mq h p u ∧ L = lex u
/-- m has looked at the first of L -/
def Lz (h : hp) (L : List zTk) : Prop := ∃ u, Mk h u ∧ L = lex u
def psr : List zTk → Nat
  | [] => 0
  | (_, s, _) :: _ => s
theorem Lz_Ly {h : hp} {L : List zTk} (k : Lz h L) : Ly h L := by
  obtain ⟨u, ⟨b, h4, h5, hq, -⟩, e⟩ := k
  exact ⟨b, u, h4, hq, e⟩
theorem c_look {d : Nat} {Q : qt} {h : hp} {L : List zTk} (hS : St h) (hL : Ly h L) (k : ∀ h', FI [] [4, 5, 6, 7, 8] [] h h' → Lz h' L → Q (.inl none) h') : Wc (d + 6) 112 [vR (some 116)] h Q := by
  obtain ⟨p, u, h4, hq, e⟩ := hL
  refine Wc_of cs_X4_look rfl (lk_skip u hS h4 hq fun h' hF hM => k h' hF ⟨_, hM, ?_⟩)
  rw [e, lex_skip]
/-- what the fields say -/
theorem Lz_un {h : hp} {L : List zTk} (k : Lz h L) : hI h 116 5 = hI h 116 1 - (pq L : Nat) ∧ hI h 116 6 = (psr L : Nat) ∧ (psr L ≠ 0 → hI h 116 7 = (pw L : Nat)) ∧ (L ≠ [] → ∃ (e : Nat) (u : List Int), hI h 116 8 = e ∧ Mq h e u ∧ L.tail = lex u) := by
  obtain ⟨u, ⟨b, h4, h5, hq, hm⟩, e⟩ := k
  cases u with
  | nil =>
    rw [e, lex_nil]
    refine ⟨by rw [h5, hq.1]; simp [pq], by rw [hm.1]; rfl, fun q => absurd rfl q, fun q => absurd rfl q⟩
  | cons c r =>
    obtain ⟨hc, h6, h7, e2, h8, hq2⟩ := hm
    rw [e, lex_cons hc]
    refine ⟨by rw [h5, hq.1, List.length_cons]; show _ = _ - ((r.length + 1 : Nat) : Int); omega, h6, h7, fun _ => ⟨e2, _, h8, hq2, rfl⟩⟩
theorem Lz_end {h : hp} {L : List zTk} (k : Lz h L) : hI h 116 5 = hI h 116 1 ↔ L = [] := by
  have h1 := (Lz_un k).1
  constructor
  · intro e
    obtain ⟨u, ⟨b, h4, h5, hq, hm⟩, e2⟩ := k
    cases u with
    | nil => exact e2
    | cons c r =>
      exfalso
      have := hq.1
      rw [List.length_cons] at this
      omega
  · intro e
    rw [h1, e]; simp [pq]
theorem psr_pis {s w : Nat} {L : List zTk} (hs : s ≠ 0) : pis s w L = true ↔ psr L = s ∧ pw L = w := by
  cases L with
  | nil => simp [pis, psr]; omega
  | cons t L => obtain ⟨q, a, b⟩ := t; simp [pis, psr, pw]
theorem psr_phs {s : Nat} {L : List zTk} (hs : s ≠ 0) : phs s L = true ↔ psr L = s := by
  cases L with
  | nil => simp [phs, psr]; omega
  | cons t L => obtain ⟨q, a, b⟩ := t; simp [phs, psr]
/-- the new tokens are ts -/
def Nt (h : hp) (ts : List (Nat × Nat)) : Prop := hI h 116 11 = (ts.length : Nat) ∧ ∀ j, j < ts.length → hI h 119 j = ((ts.getD j (0, 0)).1 : Nat) ∧ hI h 120 j = ((ts.getD j (0, 0)).2 : Nat)
theorem getD_app1 {ts : List (Nat × Nat)} {x : Nat × Nat} {j : Nat} (hj : j < ts.length) : (ts ++ [x]).getD j (0, 0) = ts.getD j (0, 0) := by
  rw [List.getD_eq_getElem?_getD, List.getD_eq_getElem?_getD, List.getElem?_append_left hj]
theorem getD_app2 {ts : List (Nat × Nat)} {x : Nat × Nat} : (ts ++ [x]).getD ts.length (0, 0) = x := by
  rw [List.getD_eq_getElem?_getD, List.getElem?_append_right (Nat.le_refl _), Nat.sub_self]; rfl
theorem c_emitM {d : Nat} {Q : qt} {h : hp} {ts : List (Nat × Nat)} {s w : Nat} (hS : St h) (hN : Nt h ts) (hl : ts.length < 1600) (k : ∀ h', FI [] [11] [119, 120] h h' → Nt h' (ts ++ [(s, w)]) → Q (.inl none) h') : Wc (d + 1) 124 [vR (some 116), vI (s : Nat), vI (w : Nat)] h Q := by
  refine se_X4_emit hS ?_
  rw [hN.1, na_eq (by omega) (by omega), Int.toNat_natCast]
  refine ⟨by omega, by omega, k _ (FI_sI (FI_sI (FI_sI (FI_refl h) rfl) rfl) rfl) ⟨?_, fun j hj => ?_⟩⟩
  · rw [hI_sI, if_pos ⟨rfl, rfl⟩, List.length_append]; rfl
  · rw [List.length_append, List.length_singleton] at hj
    by_cases q : j < ts.length
    · rw [getD_app1 q, hI_sI, if_neg (by omega), hI_sI, if_neg (by omega), hI_sI, if_neg (by omega), hI_sI, if_neg (by omega), hI_sI, if_neg (by omega), hI_sI, if_neg (by omega)]
      exact hN.2 j q
    · have q2 : j = ts.length := by omega
      subst q2
      rw [getD_app2, hI_sI, if_neg (by omega), hI_sI, if_neg (by omega), hI_sI, if_pos ⟨rfl, rfl⟩, hI_sI, if_neg (by omega), hI_sI, if_pos ⟨rfl, rfl⟩]
      exact ⟨rfl, rfl⟩
theorem Nt_FI {h h' : hp} {mj : List Nat} (hF : FI [] mj [] h h') (hj : mj.contains 11 = false) {ts : List (Nat × Nat)} (k : Nt h ts) : Nt h' ts :=
  ⟨by rw [FI_i hF (by unfold pG; rw [hj]; rfl)]; exact k.1, fun j q => by rw [FI_i hF rfl, FI_i hF rfl]; exact k.2 j q⟩
theorem Mk_sI6 {h : hp} {u : List Int} {x : Int} {c : Int} {r : List Int} (hu : u = c :: r) (k : Mk h u) : ∃ e : Nat, hI (sI h 116 6 x) 116 8 = e ∧ Mq (sI h 116 6 x) e (bTok c r).2.2 := by
  subst hu
  obtain ⟨b, h4, h5, hq, hc, h6, h7, e, h8, hq2⟩ := k
  exact ⟨e, by rw [hI_sI, if_neg (by omega)]; exact h8, Mq_sI hq2 (by omega)⟩
/-- takes the token with the sort s that stands in the field -/
theorem c_take0 {d : Nat} {Q : qt} {h : hp} {L : List zTk} {ts : List (Nat × Nat)} {s w : Nat} (hS : St h) (h6 : hI h 116 6 = (s : Nat)) (h7 : hI h 116 7 = (w : Nat)) (h8 : ∃ (e : Nat) (u : List Int), hI h 116 8 = e ∧ Mq h e u ∧ L = lex u) (hN : Nt h ts) (hl : ts.length < 1600) (k : ∀ h', FI [] [4, 11] [119, 120] h h' → Ly h' L → Nt h' (ts ++ [(s, w)]) → Q (.inl none) h') : Wc (d + 2) 123 [vR (some 116)] h Q := by
  refine se_X4_take0 hS ?_
  rw [h6, h7]
  refine c_emitM hS hN hl fun h1 f1 n1 => ?_
  have hS1 := FI_St f1 hS rfl
  refine ss_X4_take0_12 hS1 ?_
  obtain ⟨e, u, e8, hq, eL⟩ := h8
  rw [FI_i f1 rfl, e8]
  refine k _ (FI_sI (FI_mono f1 (by decide) (by decide) (by decide)) rfl) ⟨e, u, ?_, ?_, eL⟩ ⟨?_, fun j hj => ?_⟩
  · rw [hI_sI, if_pos ⟨rfl, rfl⟩]
  · exact Mq_sI (Mq_FI f1 rfl rfl rfl hq) (by omega)
  · rw [hI_sI, if_neg (by omega)]; exact n1.1
  · rw [hI_sI, if_neg (by omega), hI_sI, if_neg (by omega)]; exact n1.2 j hj
theorem c_takeL {d : Nat} {Q : qt} {h : hp} {L : List zTk} {ts : List (Nat × Nat)} (hS : St h) (hL : Lz h L) (h0 : psr L ≠ 0) (hN : Nt h ts) (hl : ts.length < 1600) (k : ∀ h', FI [] [4, 11] [119, 120] h h' → Ly h' L.tail → Nt h' (ts ++ [(psr L, pw L)]) → Q (.inl none) h') : Wc (d + 2) 123 [vR (some 116)] h Q := by
  obtain ⟨z1, z2, z3, z4⟩ := Lz_un hL
  have hne : L ≠ [] := fun e => h0 (by rw [e]; rfl)
  exact c_take0 hS z2 (z3 h0) (z4 hne) hN hl k
theorem c_isM {d : Nat} {Q : qt} {h : hp} {L : List zTk} {s w : Nat} (hS : St h) (hs : s ≠ 0) (hL : Ly h L) (k : ∀ h', FI [] [4, 5, 6, 7, 8] [] h h' → Lz h' L → Q (.inl (some (vI (bI (pis s w L))))) h') : Wc (d + 7) 127 [vR (some 116), vI (s : Nat), vI (w : Nat)] h Q := by
  refine se_X4_is hS ?_
  refine c_look hS hL fun h1 f1 l1 => ?_
  have hS1 := FI_St f1 hS rfl
  refine ss_X4_is_4 hS1 ?_
  obtain ⟨z1, z2, z3, z4⟩ := Lz_un l1
  have k1 := k h1 f1 l1
  rw [z2]
  by_cases q : psr L = s
  · rw [if_pos (by rw [q]), z3 (by omega)]
    by_cases q2 : pw L = w
    · rw [if_pos (by rw [q2])]; rw [(psr_pis hs).mpr ⟨q, q2⟩] at k1; exact k1
    · rw [if_neg (by omega)]; rw [Bool.eq_false_iff.mpr (fun z => q2 ((psr_pis hs).mp z).2)] at k1; exact k1
  · rw [if_neg (by omega)]; rw [Bool.eq_false_iff.mpr (fun z => q ((psr_pis hs).mp z).1)] at k1; exact k1
/-- the fault that m tells -/
def MF (h0 : hp) (mj : List Nat) (kd q : Nat) (Q : qt) : Prop := ∀ h', FI [] mj [119, 120] h0 h' → hI h' 116 12 = (kd : Nat) → hI h' 116 13 = hI h0 116 1 - (q : Nat) → Q (.inl (some (vI 0))) h'
theorem c_wants {d : Nat} {Q : qt} {h : hp} {L : List zTk} {ts : List (Nat × Nat)} {s w : Nat} (hS : St h) (hs : s ≠ 0) (hL : Ly h L) (hN : Nt h ts) (hl : L ≠ [] → ts.length < 1600) (k1 : pis s w L = true → ∀ h', FI [] [4, 5, 6, 7, 8, 11] [119, 120] h h' → Ly h' L.tail → Nt h' (ts ++ [(s, w)]) → Q (.inl (some (vI 1))) h') (k2 : pis s w L = false → MF h [4, 5, 6, 7, 8, 12, 13] 1 (pq L) Q) : Wc (d + 8) 126 [vR (some 116), vI (s : Nat), vI (w : Nat)] h Q := by
  refine se_X4_wants hS ?_
  refine c_isM hS hs hL fun h1 f1 l1 => ?_
  have hS1 := FI_St f1 hS rfl
  refine ss_X4_wants_6 hS1 ?_
  cases hp : pis s w L with
  | false =>
    refine ip rfl ?_
    refine se_X4_fails hS1 ?_
    refine ⟨Or.inl rfl, k2 hp _ (FI_sI (FI_sI (FI_mono f1 (by decide) (by decide) (by decide)) rfl) rfl) ?_ ?_⟩
    · rw [hI_sI, if_neg (by omega), hI_sI, if_pos ⟨rfl, rfl⟩]; rfl
    · rw [hI_sI, if_pos ⟨rfl, rfl⟩, (Lz_un l1).1, FI_i f1 rfl]
  | true =>
    rw [if_neg (by decide)]
    obtain ⟨q1, q2⟩ := (psr_pis hs).mp hp
    refine c_takeL hS1 l1 (by omega) (Nt_FI f1 rfl hN) (hl (pis_t hp).1) fun h2 f2 l2 n2 => ?_
    refine ss_X4_wants_23 (FI_St f2 hS1 rfl) ?_
    rw [q1, q2] at n2
    exact k1 hp h2 (FI_trans (FI_mono f1 (by decide) (by decide) (by decide)) (FI_mono f2 (by decide) (by decide) (by decide))) l2 n2
theorem c_wantsS {d : Nat} {Q : qt} {h : hp} {L : List zTk} {ts : List (Nat × Nat)} {s : Nat} (hS : St h) (hs : s ≠ 0) (hL : Ly h L) (hN : Nt h ts) (hl : L ≠ [] → ts.length < 1600) (k1 : phs s L = true → ∀ h', FI [] [4, 5, 6, 7, 8, 11] [119, 120] h h' → Ly h' L.tail → Nt h' (ts ++ [(s, pw L)]) → Q (.inl (some (vI 1))) h') (k2 : phs s L = false → MF h [4, 5, 6, 7, 8, 12, 13] 1 (pq L) Q) : Wc (d + 7) 125 [vR (some 116), vI (s : Nat)] h Q := by
  refine se_X4_wantsSort hS ?_
  refine c_look hS hL fun h1 f1 l1 => ?_
  have hS1 := FI_St f1 hS rfl
  refine ss_X4_wantsSort_4 hS1 ?_
  obtain ⟨z1, z2, z3, z4⟩ := Lz_un l1
  rw [z2]
  cases hp : phs s L with
  | false =>
    rw [if_neg (fun z => by rw [(psr_phs hs).mpr (by omega)] at hp; cases hp)]
    refine se_X4_fails hS1 ?_
    refine ⟨Or.inl rfl, k2 hp _ (FI_sI (FI_sI (FI_mono f1 (by decide) (by decide) (by decide)) rfl) rfl) ?_ ?_⟩
    · rw [hI_sI, if_neg (by omega), hI_sI, if_pos ⟨rfl, rfl⟩]; rfl
    · rw [hI_sI, if_pos ⟨rfl, rfl⟩, z1, FI_i f1 rfl]
  | true =>
    have q1 := (psr_phs hs).mp hp
    rw [if_pos (by rw [q1])]
    refine c_takeL hS1 l1 (by omega) (Nt_FI f1 rfl hN) (hl (phs_t hp).1) fun h2 f2 l2 n2 => ?_
    refine ss_X4_wantsSort_26 (FI_St f2 hS1 rfl) ?_
    rw [q1] at n2
    exact k1 hp h2 (FI_trans (FI_mono f1 (by decide) (by decide) (by decide)) (FI_mono f2 (by decide) (by decide) (by decide))) l2 n2
