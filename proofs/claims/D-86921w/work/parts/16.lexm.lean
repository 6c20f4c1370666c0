/-! m LOOKS AT TOKENS -/
def Mq (h : hp) (p : Nat) (u : List Int) : Prop := hI h 116 1 = ((p + u.length : Nat) : Int) ∧ p + u.length ≤ 600 ∧ Tx h 117 p u ∧ okb u
theorem Mq_tl {h : hp} {p : Nat} {c : Int} {u : List Int} (k : Mq h p (c :: u)) : Mq h (p + 1) u := by
  obtain ⟨k1, k2, k3, k4⟩ := k
  rw [List.length_cons] at k1 k2
  exact ⟨by rw [k1]; congr 1; omega, by omega, k3.2, okb_tl k4⟩
theorem Mq_sI {h : hp} {p : Nat} {u : List Int} (k : Mq h p u) {j : Nat} {x : Int} (hj : j ≠ 1) : Mq (sI h 116 j x) p u :=
  ⟨by rw [hI_sI, if_neg (by omega)]; exact k.1, k.2.1, Tx_eq (fun i => by rw [hI_sI, if_neg (by omega)]) k.2.2.1, k.2.2.2⟩
theorem Mq_FI {h h' : hp} {xj mj as : List Nat} (hF : FI xj mj as h h') (hj : mj.contains 1 = false) (h1 : as.contains 116 = false) (h2 : as.contains 117 = false) {p : Nat} {u : List Int} (k : Mq h p u) : Mq h' p u :=
  ⟨by rw [FI_i hF (by unfold pG; rw [hj, h1]; rfl)]; exact k.1, k.2.1, Tx_eq (fun i => FI_i hF (by unfold pG; rw [h2]; rfl)) k.2.2.1, k.2.2.2⟩
theorem Mq_app {h : hp} {p : Nat} {u v : List Int} (k : Mq h p (u ++ v)) : Mq h (p + u.length) v := by
  obtain ⟨k1, k2, k3, k4⟩ := k
  rw [List.length_append] at k1 k2
  exact ⟨by rw [k1]; congr 1; omega, by omega, Tx_app k3, fun c hc => k4 c (List.mem_append_right _ hc)⟩
def hdm : List Int → Int
  | [] => 0
  | c :: _ => c
theorem c_here {d : Nat} {Q : qt} {h : hp} {p : Nat} {u : List Int} (hS : St h) (hT : Mq h p u) (k : Q (.inl (some (vI (hdm u)))) h) : Wc (d + 1) 113 [vR (some 116), vI (p : Nat)] h Q := by
  refine se_X4_here hS ?_
  obtain ⟨h1, h2, h3, h4⟩ := hT
  cases u with
  | nil => rw [if_neg (by rw [h1]; simp)]; exact k
  | cons c r =>
    rw [List.length_cons] at h1 h2
    rw [if_pos (by rw [h1]; omega)]
    refine ⟨by omega, ?_⟩
    rw [Int.toNat_natCast, h3.1]
    exact k
/-! the keys -/
def kFl : List (List Int) → List Int
  | [] => []
  | k :: ks => k ++ 32 :: kFl ks
def kBs : List Nat := [108, 101, 116, 32, 117, 110, 108, 101, 116, 32, 112, 117, 115, 104, 32, 112, 111, 112, 32, 110, 101, 119, 32, 101, 110, 100, 32, 99, 97, 108, 108, 32, 117, 110, 99, 97, 108, 108, 32, 105, 102, 32, 101, 108, 115, 101, 32, 102, 105, 32, 102, 114, 111, 109, 32, 108, 111, 111, 112, 32, 117, 110, 116, 105, 108, 32, 115, 101, 116, 32, 119, 104, 105, 108, 101, 32, 119, 104, 101, 110, 32, 105, 110, 116, 32, 108, 111, 110, 103, 32, 115, 104, 111, 114, 116, 32, 98, 121, 116, 101, 32, 99, 104, 97, 114, 32]
theorem kFl_all : kFl bKeys = kBs.map Int.ofNat := by decide
theorem kBs_st {h : hp} (hS : St h) : Ss h 66 kBs := sts_66 hS
theorem kBs_lt : ∀ b ∈ kBs, b < 128 := by decide
theorem kBs_len : kBs.length < 1000 := by decide
theorem drop_get {l : List Int} {k : Nat} {c : Int} {t : List Int} (h : l.drop k = c :: t) : k < l.length ∧ l.getD k 0 = c ∧ l.drop (k + 1) = t := by
  have h1 : k < l.length := by
    by_cases q : k < l.length
    · exact q
    · rw [List.drop_eq_nil_of_le (by omega)] at h; cases h
  refine ⟨h1, ?_, ?_⟩
  · rw [List.getD_eq_getElem?_getD, ← List.head?_drop, h]; rfl
  · rw [← List.tail_drop, h]; rfl
theorem c_keyCh {d : Nat} {Q : qt} {h : hp} {k : Nat} {c : Int} {t : List Int} (hS : St h) (hk : (kFl bKeys).drop k = c :: t) (z : Q (.inl (some (vI c))) h) : Wc (d + 4) 411 [vR (some 66), vI (k : Nat)] h Q := by
  rw [kFl_all] at hk
  obtain ⟨g1, g2, g3⟩ := drop_get hk
  rw [List.length_map] at g1
  refine c_charAt hS (kBs_st hS) kBs_len g1 kBs_lt ?_
  have : ((kBs.getD k 0 : Nat) : Int) = c := by
    rw [← g2, List.getD_eq_getElem?_getD, List.getD_eq_getElem?_getD, List.getElem?_map, List.getElem?_eq_getElem g1]; rfl
  rw [this]
  exact z
theorem ka_in {d : Nat} {Q : qt} {h : hp} {fr n k : Nat} {v3 : Int} (hS : St h) (hk : k < 1000) : ∀ (ws ks : List Int) (i : Nat), (kFl bKeys).drop (k + i) = ks → 32 ∈ ks → (∀ w ∈ ws, bSm w = true) → Tx h 117 (fr + i) ws → n = i + ws.length → fr + n ≤ 600 →
    ((∃ t, ks = ws ++ 32 :: t) → Q (.inl (some (vI v3))) h) → ((¬ ∃ t, ks = ws ++ 32 :: t) → ∀ v5 : Int, Wp (d + 4) C_X4_keyAt Q 75 [vR (some 116), vI (fr : Nat), vI (n : Nat), vI v3, vI (k : Nat), vI v5] [] h) →
    Wp (d + 4) C_X4_keyAt Q 18 [vR (some 116), vI (fr : Nat), vI (n : Nat), vI v3, vI (k : Nat), vI (i : Nat)] [] h := by
  intro ws
  induction ws with
  | nil =>
    intro ks i e m _ _ hn hf k1 k2
    rw [List.length_nil, Nat.add_zero] at hn
    subst hn
    refine ss_X4_keyAt_18 hS ?_
    rw [if_neg (by omega), if_pos rfl, na_eq (by omega) (by omega)]
    cases ks with
    | nil => cases m
    | cons c t =>
      refine c_keyCh (k := k + n) hS e ?_
      refine ss_X4_keyAt_68 hS ?_
      by_cases hc : c = 32
      · rw [if_pos hc]; exact k1 ⟨t, by rw [hc]; rfl⟩
      · rw [if_neg hc]; exact k2 (fun ⟨t', q⟩ => hc (by cases q; rfl)) _
  | cons w ws ih =>
    intro ks i e m hw ht hn hf k1 k2
    rw [List.length_cons] at hn
    refine ss_X4_keyAt_18 hS ?_
    rw [if_pos (by omega), na_eq (by omega) (by omega)]
    cases ks with
    | nil => cases m
    | cons c t =>
      refine c_keyCh (k := k + i) hS e ?_
      refine ss_X4_keyAt_34 hS ?_
      rw [na_eq (by omega) (by omega), show ((fr : Int) + i).toNat = fr + i by omega, ht.1]
      refine ⟨by omega, ?_⟩
      have hws := bSm_iff.mp (hw w (List.mem_cons_self ..))
      by_cases hc : c = w
      · rw [if_pos hc, na_eq (by omega) (by omega)]
        have m2 : 32 ∈ t := by
          rcases List.mem_cons.mp m with q | q
          · omega
          · exact q
        refine ih t (i + 1) (drop_get e).2.2 m2 (fun x hx => hw x (List.mem_cons_of_mem _ hx)) ht.2 (by omega) hf (fun ⟨t', q⟩ => k1 ⟨t', by rw [q, hc]; rfl⟩) (fun q => k2 (fun ⟨t', z⟩ => q ⟨t', by cases z; rfl⟩))
      · rw [if_neg hc, if_neg (by omega)]
        exact k2 (fun ⟨t', z⟩ => hc (by cases z; rfl)) _
theorem ka_skip {d : Nat} {Q : qt} {h : hp} {fr n : Nat} {v3 v5 : Int} (hS : St h) : ∀ (key t : List Int) (k : Nat), (kFl bKeys).drop k = key ++ 32 :: t → (32 : Int) ∉ key → k + key.length < 1000 →
    Wp (d + 4) C_X4_keyAt Q 5 [vR (some 116), vI (fr : Nat), vI (n : Nat), vI (n_add v3 1), vI ((k + key.length + 1 : Nat) : Int), vI v5] [] h →
    Wp (d + 4) C_X4_keyAt Q 75 [vR (some 116), vI (fr : Nat), vI (n : Nat), vI v3, vI (k : Nat), vI v5] [] h := by
  intro key
  induction key with
  | nil =>
    intro t k e _ hl z
    refine ss_X4_keyAt_75 hS ?_
    refine c_keyCh hS e ?_
    refine ss_X4_keyAt_82 hS ?_
    rw [List.length_nil] at hl z
    refine ip rfl ?_
    rw [na_eq (x := (k : Int)) (by omega) (by omega)]
    exact z
  | cons c key ih =>
    intro t k e hn hl z
    refine ss_X4_keyAt_75 hS ?_
    refine c_keyCh hS e ?_
    refine ss_X4_keyAt_82 hS ?_
    rw [List.length_cons] at hl z
    rw [if_neg (fun q => hn (by rw [q]; exact List.mem_cons_self ..)), na_eq (by omega) (by omega)]
    refine ih t (k + 1) (drop_get e).2.2 (fun q => hn (List.mem_cons_of_mem _ q)) (by omega) ?_
    rw [show k + 1 + key.length + 1 = k + (key.length + 1) + 1 by omega]
    exact z
theorem app32 : ∀ {a b s t : List Int}, (32 : Int) ∉ a → (32 : Int) ∉ b → a ++ 32 :: s = b ++ 32 :: t → a = b := by
  intro a
  induction a with
  | nil =>
    intro b s t _ hb e
    cases b with
    | nil => rfl
    | cons x b => exfalso; cases e; exact hb (List.mem_cons_self ..)
  | cons y a ih =>
    intro b s t ha hb e
    cases b with
    | nil => exfalso; cases e; exact ha (List.mem_cons_self ..)
    | cons x b =>
      injection e with e1 e2
      rw [e1, ih (fun q => ha (List.mem_cons_of_mem _ q)) (fun q => hb (List.mem_cons_of_mem _ q)) e2]
theorem kFl_len : (kFl bKeys).length = 106 := by decide
theorem ka_out {d : Nat} {Q : qt} {h : hp} {fr : Nat} {wd : List Int} (hS : St h) (hw : ∀ w ∈ wd, bSm w = true) (ht : Tx h 117 fr wd) (hf : fr + wd.length ≤ 600) : ∀ (KS : List (List Int)) (i k : Nat) (v5 : av), (kFl bKeys).drop k = kFl KS → k + (kFl KS).length = 106 → (∀ key ∈ KS, (32 : Int) ∉ key) → i + KS.length < 1000 →
    Q (.inl (some (vI (match KS.findIdx? (· == wd) with | some j => ((i + j : Nat) : Int) | none => -1)))) h →
    Wp (d + 4) C_X4_keyAt Q 5 [vR (some 116), vI (fr : Nat), vI (wd.length : Nat), vI (i : Nat), vI (k : Nat), v5] [] h := by
  have hw32 : (32 : Int) ∉ wd := fun q => by have := bSm_iff.mp (hw 32 q); omega
  intro KS
  induction KS with
  | nil =>
    intro i k v5 e hl _ _ z
    refine ss_X4_keyAt_5 hS ?_
    refine c_strLen hS (kBs_st hS) kBs_len ?_
    refine ss_X4_keyAt_12 hS ?_
    rw [if_neg (by show ¬ (k : Int) < ((kBs.length : Nat) : Int); have : kBs.length = 106 := by decide
                   rw [this]; simp [kFl] at hl; omega)]
    exact z
  | cons key KS ih =>
    intro i k v5 e hl hk hi z
    have hkey := hk key (List.mem_cons_self ..)
    have hl2 : k + (key.length + ((kFl KS).length + 1)) = 106 := by simpa [kFl] using hl
    refine ss_X4_keyAt_5 hS ?_
    refine c_strLen hS (kBs_st hS) kBs_len ?_
    refine ss_X4_keyAt_12 hS ?_
    rw [if_pos (by show (k : Int) < ((kBs.length : Nat) : Int); have : kBs.length = 106 := by decide
                   rw [this]; omega)]
    refine ka_in (k := k) hS (by omega) wd (key ++ 32 :: kFl KS) 0 (by rw [Nat.add_zero]; exact e) (by simp) hw (by rw [Nat.add_zero]; exact ht) (by omega) hf ?_ ?_
    · rintro ⟨t, q⟩
      have := app32 hkey hw32 q
      rw [List.findIdx?_cons, this, beq_self_eq_true, if_pos rfl] at z
      exact z
    · intro q v6
      have hne : key ≠ wd := fun r => q ⟨_, by rw [r]⟩
      refine ka_skip hS key (kFl KS) k e hkey (by omega) ?_
      rw [List.length_cons] at hi
      rw [na_eq (by omega) (by omega)]
      refine ih (i + 1) (k + key.length + 1) (vI v6) ?_ (by omega) (fun x hx => hk x (List.mem_cons_of_mem _ hx)) ?_ ?_
      · have h1 : (kFl bKeys).drop (k + key.length) = 32 :: kFl KS := by
          rw [← List.drop_drop, e]; exact List.drop_left
        exact (drop_get h1).2.2
      · omega
      · rw [List.findIdx?_cons, show (key == wd) = false by simpa using hne] at z
        cases hj : KS.findIdx? (· == wd) with
        | none => simpa [hj] using z
        | some j =>
          rw [hj] at z
          have z2 : Q (.inl (some (vI ((i + (j + 1) : Nat) : Int)))) h := z
          show Q (.inl (some (vI ((i + 1 + j : Nat) : Int)))) h
          rw [show i + 1 + j = i + (j + 1) by omega]
          exact z2
theorem bKeys_32 : ∀ key ∈ bKeys, (32 : Int) ∉ key := by decide
theorem c_keyAt {d : Nat} {Q : qt} {h : hp} {fr : Nat} {wd : List Int} (hS : St h) (hw : ∀ w ∈ wd, bSm w = true) (ht : Tx h 117 fr wd) (hf : fr + wd.length ≤ 600) (k : Q (.inl (some (vI (match bKeys.findIdx? (· == wd) with | some j => ((j : Nat) : Int) | none => -1)))) h) : Wc (d + 5) 115 [vR (some 116), vI (fr : Nat), vI (wd.length : Nat)] h Q := by
  refine se_X4_keyAt hS ?_
  refine ka_out hS hw ht hf bKeys 0 0 _ (List.drop_zero ..) (by rw [kFl_len]) bKeys_32 (by decide) ?_
  simpa using k
/-- what m has looked at: the token that begins with the first of u -/
def Mk (h : hp) (u : List Int) : Prop := ∃ b : Nat, hI h 116 4 = b ∧ hI h 116 5 = b ∧ Mq h b u ∧ (match u with
  | [] => hI h 116 6 = 0 ∧ hI h 116 8 = b
  | c :: r => c ≠ 32 ∧ hI h 116 6 = ((bTok c r).1 : Nat) ∧ ((bTok c r).1 ≠ 0 → hI h 116 7 = ((bTok c r).2.1 : Nat)) ∧ ∃ e : Nat, hI h 116 8 = e ∧ Mq h e (bTok c r).2.2)
theorem bWord_sm : ∀ (v : List Int), ∀ c ∈ (bWord v).1, bSm c = true := by
  intro v
  induction v with
  | nil => intro c hc; cases hc
  | cons e v ih =>
    intro c hc
    unfold bWord at hc
    split at hc
    · rename_i he
      rcases List.mem_cons.mp hc with q | q
      · rw [q]; exact he
      · exact ih c q
    · cases hc
theorem Tx_take {h : hp} {a : Nat} {v : List Int} : ∀ {p : Nat} {u : List Int}, Tx h a p (u ++ v) → Tx h a p u := by
  intro p u
  induction u generalizing p with
  | nil => intro _; trivial
  | cons c u ih => intro k; exact ⟨k.1, ih k.2⟩
theorem lk_word {d : Nat} {Q : qt} {c : Int} {w2 : av} {b : Nat} (v : List Int) : ∀ {h : hp} {q : Nat}, St h → hI h 116 8 = (q : Nat) → Mq h q v →
    (∀ h', FI [] [8] [] h h' → hI h' 116 8 = ((q + (bWord v).1.length : Nat) : Int) → Wp (d + 3) C_X4_look Q 96 [vR (some 116), vI c, w2] [vI 0] h') → Wp (d + 3) C_X4_look Q 85 [vR (some 116), vI c, w2] [] h := by
  induction v with
  | nil =>
    intro h q hS h2 hT k
    refine ss_X4_look_85 hS ?_
    rw [h2]
    refine c_here hS hT ?_
    refine ss_X4_look_93 hS ?_
    refine pu_mIsLetter hS ?_
    exact k h (FI_refl h) h2
  | cons e v ih =>
    intro h q hS h2 hT k
    refine ss_X4_look_85 hS ?_
    rw [h2]
    refine c_here hS hT ?_
    refine ss_X4_look_93 hS ?_
    refine pu_mIsLetter hS ?_
    by_cases he : bSm e = true
    · refine ss_X4_look_96 hS ?_
      rw [if_neg (by show ¬ bI (bSm e) = 0; rw [he]; decide), h2]
      have hq := hT.2.1
      rw [List.length_cons] at hq
      rw [na_eq (by omega) (by omega)]
      refine ih (St_sI hS (by omega)) (q := q + 1) (by rw [hI_sI, if_pos ⟨rfl, rfl⟩]; rfl) (Mq_sI (Mq_tl hT) (by omega)) fun h' hF h2' => ?_
      refine k h' (FI_trans (FI_sI (FI_refl h) rfl) hF) ?_
      rw [h2']
      simp only [bWord, he, if_true, List.length_cons]
      congr 1; omega
    · show Wp (d + 3) C_X4_look Q 96 [vR (some 116), vI c, w2] [vI (bI (bSm e))] h
      rw [Bool.eq_false_iff.mpr he]
      refine k h (FI_refl h) ?_
      rw [h2]; simp [bWord, he]
/-- digits: how many -/
def bDgs : Nat → List Int → Nat
  | 0, _ => 0
  | _ + 1, [] => 0
  | k + 1, c :: t => if bDg c then bDgs k t + 1 else 0
theorem bDgs_le : ∀ (k : Nat) (v : List Int), bDgs k v ≤ v.length ∧ bDgs k v ≤ k := by
  intro k
  induction k with
  | zero => intro v; exact ⟨Nat.zero_le _, Nat.le_refl _⟩
  | succ k ih =>
    intro v
    cases v with
    | nil => exact ⟨Nat.zero_le _, Nat.zero_le _⟩
    | cons c v =>
      unfold bDgs
      have := ih v
      split
      · rw [List.length_cons]; omega
      · exact ⟨Nat.zero_le _, Nat.zero_le _⟩
theorem bNum_dgs : ∀ (k a : Nat) (v : List Int), (bNum k a v).2 = v.drop (bDgs k v) := by
  intro k
  induction k with
  | zero => intro a v; rfl
  | succ k ih =>
    intro a v
    cases v with
    | nil => rfl
    | cons c v =>
      unfold bNum bDgs
      split
      · rw [ih, List.drop_succ_cons]
      · rfl
theorem lk_dig {d : Nat} {Q : qt} {c : Int} {w2 : av} {b : Nat} (v : List Int) : ∀ {h : hp} {q n : Nat}, St h → hI h 116 8 = (q : Nat) → hI h 116 4 = (b : Nat) → q + n = b + 9 → n ≤ 9 → Mq h q v →
    (∀ h', FI [] [8] [] h h' → hI h' 116 8 = ((q + bDgs n v : Nat) : Int) → Wp (d + 3) C_X4_look Q 229 [vR (some 116), vI c, w2] [] h') → Wp (d + 3) C_X4_look Q 188 [vR (some 116), vI c, w2] [] h := by
  induction v with
  | nil =>
    intro h q n hS h2 h4 hq hn9 hT k
    refine ss_X4_look_188 hS ?_
    rw [h2]
    refine c_here hS hT ?_
    refine ss_X4_look_196 hS ?_
    refine pu_mIsDigit hS ?_
    refine ss_X4_look_199 hS ?_
    refine ip rfl ?_
    exact k h (FI_refl h) (by rw [h2]; cases n <;> rfl)
  | cons e v ih =>
    intro h q n hS h2 h4 hq hn9 hT k
    have hl := hT.2.1
    rw [List.length_cons] at hl
    refine ss_X4_look_188 hS ?_
    rw [h2]
    refine c_here hS hT ?_
    refine ss_X4_look_196 hS ?_
    refine pu_mIsDigit hS ?_
    refine ss_X4_look_199 hS ?_
    by_cases he : bDg e = true
    · rw [if_neg (by show ¬ bI (bDg e) = 0; rw [he]; decide), h2, h4]
      rw [na_eq (x := (b : Int)) (by omega) (by omega)]
      cases n with
      | zero => rw [if_neg (by omega)]; exact k h (FI_refl h) h2
      | succ n =>
        rw [if_pos (by omega), na_eq (by omega) (by omega)]
        refine ih (St_sI hS (by omega)) (q := q + 1) (n := n) (by rw [hI_sI, if_pos ⟨rfl, rfl⟩]; rfl) (by rw [hI_sI, if_neg (by omega)]; exact h4) (by omega) (by omega) (Mq_sI (Mq_tl hT) (by omega)) fun h' hF h2' => ?_
        refine k h' (FI_trans (FI_sI (FI_refl h) rfl) hF) ?_
        rw [h2']
        simp only [bDgs, he, if_true]
        congr 1; omega
    · rw [if_pos (by show bI (bDg e) = 0; rw [Bool.eq_false_iff.mpr he]; rfl)]
      refine k h (FI_refl h) ?_
      rw [h2]; cases n <;> simp [bDgs, he]
theorem lk_sum {d : Nat} {Q : qt} {c : Int} (v : List Int) : ∀ {h : hp} {q a n : Nat} (t : List Int), St h → Mq h q v → a < 10 ^ (9 - n) → n ≤ 9 → hI h 116 7 = (a : Nat) → hI h 116 8 = ((q + bDgs n v : Nat) : Int) →
    (∀ h', FI [] [7] [] h h' → hI h' 116 7 = ((bNum n a v).1 : Nat) → Q (.inl none) h') → Wp (d + 3) C_X4_look Q 239 [vR (some 116), vI c, vI (q : Nat)] [] h := by
  induction v with
  | nil =>
    intro h q a n t hS hT ha hn h7 h8 k
    have h0 : bDgs n ([] : List Int) = 0 := by cases n <;> rfl
    rw [h0] at h8
    refine ss_X4_look_239 hS ?_
    rw [if_neg (by rw [h8]; omega)]
    exact ss_X4_look_415 hS (k h (FI_refl h) (by rw [h7]; cases n <;> rfl))
  | cons e v ih =>
    intro h q a n t hS hT ha hn h7 h8 k
    have hl := hT.2.1
    rw [List.length_cons] at hl
    refine ss_X4_look_239 hS ?_
    cases n with
    | zero =>
      rw [if_neg (by rw [h8]; simp [bDgs])]
      exact ss_X4_look_415 hS (k h (FI_refl h) h7)
    | succ n =>
      by_cases he : bDg e = true
      · have hs : bDgs (n + 1) (e :: v) = bDgs n v + 1 := by simp [bDgs, he]
        have hb : bNum (n + 1) a (e :: v) = bNum n (10 * a + (e - 48).toNat) v := by simp [bNum, he]
        have hr := bDg_iff.mp he
        rw [hs] at h8
        have h9 : a < 10 ^ 8 := Nat.lt_of_lt_of_le ha (Nat.pow_le_pow_right (by decide) (by omega))
        have h88 : (10 : Nat) ^ 8 = 100000000 := by decide
        rw [h88] at h9
        rw [if_pos (by rw [h8]; omega), Int.toNat_natCast, hT.2.2.1.1, h7]
        refine ⟨by omega, ?_⟩
        rw [nm_eq (by omega) (by omega), na_eq (x := 10 * (a : Int)) (by omega) (by omega), ns_eq (by omega) (by omega), na_eq (by omega) (by omega)]
        refine ih (q := q + 1) (a := 10 * a + (e - 48).toNat) (n := n) t (St_sI hS (by omega)) (Mq_sI (Mq_tl hT) (by omega)) ?_ (by omega) (by rw [hI_sI, if_pos ⟨rfl, rfl⟩]; omega) (by rw [hI_sI, if_neg (by omega), h8]; congr 1; omega) fun h' hF e7 => ?_
        · have : (10 : Nat) ^ (9 - n) = 10 * 10 ^ (9 - (n + 1)) := by rw [show 9 - n = (9 - (n + 1)) + 1 by omega, Nat.pow_succ]; omega
          rw [this]
          omega
        · exact k h' (FI_trans (FI_sI (FI_refl h) rfl) hF) (by rw [hb]; exact e7)
      · have hs : bDgs (n + 1) (e :: v) = 0 := by simp [bDgs, he]
        rw [hs] at h8
        rw [if_neg (by rw [h8]; omega)]
        exact ss_X4_look_415 hS (k h (FI_refl h) (by rw [h7]; simp [bNum, he]))
theorem lk_tok {d : Nat} {Q : qt} {c : Int} {r : List Int} {w1 w2 : av} {b : Nat} {h : hp} (hS : St h) (h4 : hI h 116 4 = (b : Nat)) (h5 : hI h 116 5 = (b : Nat)) (hT : Mq h b (c :: r)) (hc : c ≠ 32)
    (k : ∀ h', FI [] [4, 5, 6, 7, 8] [] h h' → Mk h' (c :: r) → Q (.inl none) h') : Wp (d + 5) C_X4_look Q 42 [vR (some 116), w1, w2] [vI c] h := by
  have hok := hT.2.2.2 c (List.mem_cons_self ..)
  have hl := hT.2.1
  rw [List.length_cons] at hl
  refine ss_X4_look_42 hS ?_
  rw [if_neg (by omega), h4, na_eq (by omega) (by omega)]
  have hS1 : St (sI (sI (sI h 116 6 0) 116 7 0) 116 8 (b + 1)) := St_sI (St_sI (St_sI hS (by omega)) (by omega)) (by omega)
  have hT1 : Mq (sI (sI (sI h 116 6 0) 116 7 0) 116 8 (b + 1)) b (c :: r) := Mq_sI (Mq_sI (Mq_sI hT (by omega)) (by omega)) (by omega)
  have hF1 : FI [] [4, 5, 6, 7, 8] [] h (sI (sI (sI h 116 6 0) 116 7 0) 116 8 (b + 1)) := FI_sI (FI_sI (FI_sI (FI_refl h) rfl) rfl) rfl
  have g4 : hI (sI (sI (sI h 116 6 0) 116 7 0) 116 8 (b + 1)) 116 4 = (b : Nat) := by rw [FI_i (FI_sI (FI_sI (FI_sI (FI_refl h) rfl) rfl) rfl : FI [] [6, 7, 8] [] h _) rfl]; exact h4
  have g5 : hI (sI (sI (sI h 116 6 0) 116 7 0) 116 8 (b + 1)) 116 5 = (b : Nat) := by rw [FI_i (FI_sI (FI_sI (FI_sI (FI_refl h) rfl) rfl) rfl : FI [] [6, 7, 8] [] h _) rfl]; exact h5
  have g6 : hI (sI (sI (sI h 116 6 0) 116 7 0) 116 8 (b + 1)) 116 6 = 0 := by rw [hI_sI, if_neg (by omega), hI_sI, if_neg (by omega), hI_sI, if_pos ⟨rfl, rfl⟩]
  have g7 : hI (sI (sI (sI h 116 6 0) 116 7 0) 116 8 (b + 1)) 116 7 = 0 := by rw [hI_sI, if_neg (by omega), hI_sI, if_pos ⟨rfl, rfl⟩]
  have g8 : hI (sI (sI (sI h 116 6 0) 116 7 0) 116 8 (b + 1)) 116 8 = ((b + 1 : Nat) : Int) := by rw [hI_sI, if_pos ⟨rfl, rfl⟩]; rfl
  generalize hg : sI (sI (sI h 116 6 0) 116 7 0) 116 8 (b + 1) = g at hS1 hT1 hF1 g4 g5 g6 g7 g8 ⊢
  refine pu_mIsLetter hS1 ?_
  refine ss_X4_look_82 hS1 ?_
  by_cases c1 : bSm c = true
  · rw [if_neg (by show ¬ bI (bSm c) = 0; rw [c1]; decide)]
    refine lk_word (b := b) r hS1 g8 (Mq_tl hT1) fun h2 f1 f8 => ?_
    have hS2 := FI_St f1 hS1 rfl
    have k4 : hI h2 116 4 = (b : Nat) := by rw [FI_i f1 rfl]; exact g4
    have k5 : hI h2 116 5 = (b : Nat) := by rw [FI_i f1 rfl]; exact g5
    have hT2 : Mq h2 b (c :: r) := Mq_FI f1 rfl rfl rfl hT1
    have hF2 : FI [] [4, 5, 6, 7, 8] [] h h2 := FI_trans hF1 (FI_mono f1 (by decide) (by decide) (by decide))
    have hwl := bWord_len r
    have hrest : Mq h2 (b + 1 + (bWord r).1.length) (bWord r).2 := by
      refine Mq_app ?_
      rw [bWord_app]
      exact Mq_tl hT2
    refine ss_X4_look_96 hS2 ?_
    refine ip rfl ?_
    rw [f8, k4, na_eq (by omega) (by omega)]
    by_cases hz : (bWord r).1 = []
    · have hz2 : (bWord r).1.length = 0 := by rw [hz]; rfl
      rw [if_pos (by omega), ns_eq (by omega) (by omega)]
      have hr := bSm_iff.mp c1
      have et : bTok c r = (1, (c - 97).toNat, r) := by unfold bTok; rw [if_pos c1, if_pos hz]
      refine ss_X4_look_415 (St_sI (St_sI hS2 (by omega)) (by omega)) (k _ (FI_sI (FI_sI hF2 rfl) rfl) ⟨b, ?_, ?_, ?_, hc, ?_, fun _ => ?_, b + 1, ?_, ?_⟩)
      · rw [hI_sI, if_neg (by omega), hI_sI, if_neg (by omega)]; exact k4
      · rw [hI_sI, if_neg (by omega), hI_sI, if_neg (by omega)]; exact k5
      · exact Mq_sI (Mq_sI hT2 (by omega)) (by omega)
      · rw [hI_sI, if_neg (by omega), hI_sI, if_pos ⟨rfl, rfl⟩, et]; rfl
      · rw [hI_sI, if_pos ⟨rfl, rfl⟩, et]; dsimp only; omega
      · rw [hI_sI, if_neg (by omega), hI_sI, if_neg (by omega), f8, hz2]
      · rw [et]; exact Mq_sI (Mq_sI (Mq_tl hT2) (by omega)) (by omega)
    · have hz2 : (bWord r).1.length ≠ 0 := fun q => hz (List.length_eq_zero_iff.mp q)
      rw [if_neg (by omega), ns_eq (by omega) (by omega), show ((b + 1 + (bWord r).1.length : Nat) : Int) - (b : Nat) = ((c :: (bWord r).1).length : Nat) by rw [List.length_cons]; omega]
      refine c_keyAt hS2 (wd := c :: (bWord r).1) (fun w hw => ?_) ?_ (by rw [List.length_cons]; omega) ?_
      · rcases List.mem_cons.mp hw with q | q
        · rw [q]; exact c1
        · exact bWord_sm r w q
      · refine Tx_take (v := (bWord r).2) ?_
        rw [List.cons_append, bWord_app]
        exact hT2.2.2.1
      · refine ss_X4_look_159 hS2 ?_
        cases hj : bKeys.findIdx? (· == c :: (bWord r).1) with
        | none =>
          rw [if_pos (by decide)]
          have et : bTok c r = (0, 0, (bWord r).2) := by unfold bTok; rw [if_pos c1, if_neg hz, hj]
          refine ss_X4_look_175 (St_sI hS2 (by omega)) ?_
          refine ss_X4_look_415 (St_sI (St_sI hS2 (by omega)) (by omega)) (k _ (FI_sI (FI_sI hF2 rfl) rfl) ⟨b, ?_, ?_, ?_, hc, ?_, fun q => ?_, b + 1 + (bWord r).1.length, ?_, ?_⟩)
          · rw [hI_sI, if_neg (by omega), hI_sI, if_neg (by omega)]; exact k4
          · rw [hI_sI, if_neg (by omega), hI_sI, if_neg (by omega)]; exact k5
          · exact Mq_sI (Mq_sI hT2 (by omega)) (by omega)
          · rw [hI_sI, if_pos ⟨rfl, rfl⟩, et]; rfl
          · exact absurd (by rw [et]) q
          · rw [hI_sI, if_neg (by omega), hI_sI, if_neg (by omega)]; exact f8
          · rw [et]; exact Mq_sI (Mq_sI hrest (by omega)) (by omega)
        | some j =>
          rw [if_neg (by show ¬ ((j : Nat) : Int) < 0; omega)]
          have et : bTok c r = (5, j, (bWord r).2) := by unfold bTok; rw [if_pos c1, if_neg hz, hj]
          refine ss_X4_look_175 (St_sI hS2 (by omega)) ?_
          refine ss_X4_look_415 (St_sI (St_sI hS2 (by omega)) (by omega)) (k _ (FI_sI (FI_sI hF2 rfl) rfl) ⟨b, ?_, ?_, ?_, hc, ?_, fun q => ?_, b + 1 + (bWord r).1.length, ?_, ?_⟩)
          · rw [hI_sI, if_neg (by omega), hI_sI, if_neg (by omega)]; exact k4
          · rw [hI_sI, if_neg (by omega), hI_sI, if_neg (by omega)]; exact k5
          · exact Mq_sI (Mq_sI hT2 (by omega)) (by omega)
          · rw [hI_sI, if_pos ⟨rfl, rfl⟩, et]; rfl
          · rw [hI_sI, if_neg (by omega), hI_sI, if_pos ⟨rfl, rfl⟩, et]
          · rw [hI_sI, if_neg (by omega), hI_sI, if_neg (by omega)]; exact f8
          · rw [et]; exact Mq_sI (Mq_sI hrest (by omega)) (by omega)
  · rw [if_pos (by show bI (bSm c) = 0; rw [Bool.eq_false_iff.mpr c1]; rfl)]
    refine pu_mIsDigit hS1 ?_
    refine ss_X4_look_185 hS1 ?_
    by_cases c2 : bDg c = true
    · rw [if_neg (by show ¬ bI (bDg c) = 0; rw [c2]; decide)]
      have hr := bDg_iff.mp c2
      have hds : bDgs 9 (c :: r) = bDgs 8 r + 1 := by simp [bDgs, c2]
      have hbn : bNum 9 0 (c :: r) = bNum 8 (c - 48).toNat r := by simp [bNum, c2]
      refine lk_dig (b := b) r hS1 (n := 8) g8 g4 (by omega) (by omega) (Mq_tl hT1) fun h2 f1 f8 => ?_
      have hS2 := FI_St f1 hS1 rfl
      have k4 : hI h2 116 4 = (b : Nat) := by rw [FI_i f1 rfl]; exact g4
      have k5 : hI h2 116 5 = (b : Nat) := by rw [FI_i f1 rfl]; exact g5
      have k7 : hI h2 116 7 = 0 := by rw [FI_i f1 rfl]; exact g7
      have hT2 : Mq h2 b (c :: r) := Mq_FI f1 rfl rfl rfl hT1
      have hF2 : FI [] [4, 5, 6, 7, 8] [] h h2 := FI_trans hF1 (FI_mono f1 (by decide) (by decide) (by decide))
      have hdl := bDgs_le 8 r
      refine ss_X4_look_229 hS2 ?_
      rw [k4]
      refine lk_sum (c :: r) (q := b) (a := 0) (n := 9) [] (St_sI hS2 (by omega)) (Mq_sI hT2 (by omega)) (by decide) (by omega) (by rw [hI_sI, if_neg (by omega)]; exact k7) (by rw [hI_sI, if_neg (by omega), f8, hds]; congr 1; omega) fun h3 f2 f7 => ?_
      have et := bTok_dg (r := r) c1 c2
      refine k h3 (FI_trans (FI_sI hF2 rfl) (FI_mono f2 (by decide) (by decide) (by decide))) ⟨b, ?_, ?_, ?_, hc, ?_, fun q => ?_, b + 1 + bDgs 8 r, ?_, ?_⟩
      · rw [FI_i f2 rfl, hI_sI, if_neg (by omega)]; exact k4
      · rw [FI_i f2 rfl, hI_sI, if_neg (by omega)]; exact k5
      · exact Mq_FI f2 rfl rfl rfl (Mq_sI hT2 (by omega))
      · rw [FI_i f2 rfl, hI_sI, if_pos ⟨rfl, rfl⟩, et]; rfl
      · rw [f7, hbn, et]
      · rw [FI_i f2 rfl, hI_sI, if_neg (by omega)]; exact f8
      · rw [et]
        show Mq h3 _ (bNum 8 (c - 48).toNat r).2
        rw [bNum_dgs]
        have hm : Mq h3 (b + 1) (r.take (bDgs 8 r) ++ r.drop (bDgs 8 r)) := by rw [List.take_append_drop]; exact Mq_FI f2 rfl rfl rfl (Mq_sI (Mq_tl hT2) (by omega))
        have := Mq_app hm
        rw [List.length_take, Nat.min_eq_left hdl.1] at this
        exact this
    · rw [if_pos (by show bI (bDg c) = 0; rw [Bool.eq_false_iff.mpr c2]; rfl)]
      refine pu_in hS1 ?_
      refine ss_X4_look_285 hS1 ?_
      have go299 : bCp c = true → (c ≤ 70 ∨ (83 ≤ c ∧ c ≤ 86)) → Wp (d + 5) C_X4_look Q 299 [vR (some 116), vI c, w2] [] g := by
        intro c3 hcc
        have hr := bCp_iff.mp c3
        refine ss_X4_look_299 hS1 ?_
        rcases bT_cp (r := r) c1 c2 c3 with ⟨q0, et⟩ | ⟨q0, q1, et⟩ | ⟨q0, q1, et⟩
        · rw [if_neg (by omega)]
          refine ss_X4_look_311 hS1 ?_
          rw [if_neg (by omega), ns_eq (by omega) (by omega)]
          refine ss_X4_look_332 (St_sI hS1 (by omega)) ?_
          refine ss_X4_look_415 (St_sI (St_sI hS1 (by omega)) (by omega)) (k _ (FI_sI (FI_sI hF1 rfl) rfl) ⟨b, ?_, ?_, ?_, hc, ?_, fun _ => ?_, b + 1, ?_, ?_⟩)
          · rw [hI_sI, if_neg (by omega), hI_sI, if_neg (by omega)]; exact g4
          · rw [hI_sI, if_neg (by omega), hI_sI, if_neg (by omega)]; exact g5
          · exact Mq_sI (Mq_sI hT1 (by omega)) (by omega)
          · rw [hI_sI, if_neg (by omega), hI_sI, if_pos ⟨rfl, rfl⟩, et]; rfl
          · rw [hI_sI, if_pos ⟨rfl, rfl⟩, et]; dsimp only; omega
          · rw [hI_sI, if_neg (by omega), hI_sI, if_neg (by omega)]; exact g8
          · rw [et]; exact Mq_sI (Mq_sI (Mq_tl hT1) (by omega)) (by omega)
        · rw [if_pos (by omega)]
          refine ss_X4_look_311 hS1 ?_
          rw [if_pos (by omega), ns_eq (by omega) (by omega)]
          refine ss_X4_look_332 (St_sI hS1 (by omega)) ?_
          refine ss_X4_look_415 (St_sI (St_sI hS1 (by omega)) (by omega)) (k _ (FI_sI (FI_sI hF1 rfl) rfl) ⟨b, ?_, ?_, ?_, hc, ?_, fun _ => ?_, b + 1, ?_, ?_⟩)
          · rw [hI_sI, if_neg (by omega), hI_sI, if_neg (by omega)]; exact g4
          · rw [hI_sI, if_neg (by omega), hI_sI, if_neg (by omega)]; exact g5
          · exact Mq_sI (Mq_sI hT1 (by omega)) (by omega)
          · rw [hI_sI, if_neg (by omega), hI_sI, if_pos ⟨rfl, rfl⟩, et]; rfl
          · rw [hI_sI, if_pos ⟨rfl, rfl⟩, et]; dsimp only; omega
          · rw [hI_sI, if_neg (by omega), hI_sI, if_neg (by omega)]; exact g8
          · rw [et]; exact Mq_sI (Mq_sI (Mq_tl hT1) (by omega)) (by omega)
        · exact absurd hcc (by omega)
      by_cases a1 : 65 ≤ c ∧ c ≤ 70
      · rw [decide_eq_true a1.1, decide_eq_true a1.2, if_neg (by decide)]
        exact go299 (bCp_iff.mpr (by omega)) (Or.inl a1.2)
      · rw [show (decide ((65 : Int) ≤ c) && decide (c ≤ 70)) = false by rw [Bool.and_eq_false_iff, decide_eq_false_iff_not, decide_eq_false_iff_not]; omega]
        refine ip rfl ?_
        refine pu_in hS1 ?_
        refine ss_X4_look_296 hS1 ?_
        by_cases a2 : 83 ≤ c ∧ c ≤ 86
        · rw [decide_eq_true a2.1, decide_eq_true a2.2, if_neg (by decide)]
          exact go299 (bCp_iff.mpr (by omega)) (Or.inr a2)
        · rw [show (decide ((83 : Int) ≤ c) && decide (c ≤ 86)) = false by rw [Bool.and_eq_false_iff, decide_eq_false_iff_not, decide_eq_false_iff_not]; omega]
          refine ip rfl ?_
          refine pu_in hS1 ?_
          refine ss_X4_look_346 hS1 ?_
          by_cases a3 : 65 ≤ c ∧ c ≤ 90
          · rw [decide_eq_true a3.1, decide_eq_true a3.2, if_neg (by decide)]
            have et : bTok c r = (0, 0, r) := by
              rcases bT_cp (r := r) c1 c2 (bCp_iff.mpr a3) with ⟨q0, et⟩ | ⟨q0, q1, et⟩ | ⟨q0, q1, et⟩
              · omega
              · omega
              · exact et
            refine ss_X4_look_415 hS1 (k _ hF1 ⟨b, g4, g5, hT1, hc, by rw [g6, et]; rfl, fun q => absurd (by rw [et]) q, b + 1, g8, by rw [et]; exact Mq_tl hT1⟩)
          · have c3 : ¬ bCp c = true := fun q => a3 (bCp_iff.mp q)
            rw [show (decide ((65 : Int) ≤ c) && decide (c ≤ 90)) = false by rw [Bool.and_eq_false_iff, decide_eq_false_iff_not, decide_eq_false_iff_not]; omega]
            refine ip rfl ?_
            rw [g4, na_eq (by omega) (by omega)]
            refine c_here (p := b + 1) hS1 (Mq_tl hT1) ?_
            refine ss_X4_look_360 hS1 ?_
            refine pu_twoOf hS1 ?_
            refine ss_X4_look_363 hS1 ?_
            have hmc : bTwo c (hdm r) = bTwo c (hdc r) := by
              cases r with
              | nil => simp [hdm, hdc, bTwo]
              | cons e q => rfl
            show (if (match bTwo c (hdm r) with | some i => (i : Int) | none => -1) < 0 then _ else _)
            cases t2 : bTwo c (hdm r) with
            | none =>
              rw [if_pos (by decide)]
              have et := bTok_one (r := r) c1 c2 c3 (hmc ▸ t2)
              refine ss_X4_look_376 hS1 ?_
              rw [if_pos (by decide)]
              refine ss_X4_look_389 (St_sI hS1 (by omega)) ?_
              rw [if_pos (by decide), hI_sI, if_neg (by omega), g4, na_eq (by omega) (by omega)]
              refine ss_X4_look_412 (St_sI (St_sI hS1 (by omega)) (by omega)) ?_
              refine ss_X4_look_415 (St_sI (St_sI (St_sI hS1 (by omega)) (by omega)) (by omega)) (k _ (FI_sI (FI_sI (FI_sI hF1 rfl) rfl) rfl) ⟨b, ?_, ?_, ?_, hc, ?_, fun _ => ?_, b + 1, ?_, ?_⟩)
              · rw [hI_sI, if_neg (by omega), hI_sI, if_neg (by omega), hI_sI, if_neg (by omega)]; exact g4
              · rw [hI_sI, if_neg (by omega), hI_sI, if_neg (by omega), hI_sI, if_neg (by omega)]; exact g5
              · exact Mq_sI (Mq_sI (Mq_sI hT1 (by omega)) (by omega)) (by omega)
              · rw [hI_sI, if_neg (by omega), hI_sI, if_neg (by omega), hI_sI, if_pos ⟨rfl, rfl⟩, et]; rfl
              · rw [hI_sI, if_neg (by omega), hI_sI, if_pos ⟨rfl, rfl⟩, et]; dsimp only; omega
              · rw [hI_sI, if_pos ⟨rfl, rfl⟩]; rfl
              · rw [et]; exact Mq_sI (Mq_sI (Mq_sI (Mq_tl hT1) (by omega)) (by omega)) (by omega)
            | some i =>
              rw [if_neg (by show ¬ ((i : Nat) : Int) < 0; omega)]
              obtain ⟨e, q, j, er, ei, et⟩ := bTok_two (r := r) c1 c2 c3 (by rw [← hmc, t2]; rfl)
              have hij : i = j := by rw [hmc, er] at t2; have t3 : bTwo c e = some i := t2; rw [ei] at t3; exact (Option.some.inj t3).symm
              subst hij
              refine ss_X4_look_376 hS1 ?_
              rw [if_neg (by show ¬ ((i : Nat) : Int) < 0; omega)]
              refine ss_X4_look_389 (St_sI hS1 (by omega)) ?_
              rw [er, List.length_cons] at hl
              rw [if_neg (by show ¬ ((i : Nat) : Int) < 0; omega), hI_sI, if_neg (by omega), g4, na_eq (by omega) (by omega)]
              refine ss_X4_look_412 (St_sI (St_sI hS1 (by omega)) (by omega)) ?_
              refine ss_X4_look_415 (St_sI (St_sI (St_sI hS1 (by omega)) (by omega)) (by omega)) (k _ (FI_sI (FI_sI (FI_sI hF1 rfl) rfl) rfl) ⟨b, ?_, ?_, ?_, hc, ?_, fun _ => ?_, b + 2, ?_, ?_⟩)
              · rw [hI_sI, if_neg (by omega), hI_sI, if_neg (by omega), hI_sI, if_neg (by omega)]; exact g4
              · rw [hI_sI, if_neg (by omega), hI_sI, if_neg (by omega), hI_sI, if_neg (by omega)]; exact g5
              · exact Mq_sI (Mq_sI (Mq_sI hT1 (by omega)) (by omega)) (by omega)
              · rw [hI_sI, if_neg (by omega), hI_sI, if_neg (by omega), hI_sI, if_pos ⟨rfl, rfl⟩, et]; rfl
              · rw [hI_sI, if_neg (by omega), hI_sI, if_pos ⟨rfl, rfl⟩, et]
              · rw [hI_sI, if_pos ⟨rfl, rfl⟩]; rfl
              · rw [et]
                have := Mq_tl hT1
                rw [er] at this
                exact Mq_sI (Mq_sI (Mq_sI (Mq_tl this) (by omega)) (by omega)) (by omega)
theorem lk_skip {d : Nat} {Q : qt} (u : List Int) : ∀ {h : hp} {p : Nat}, St h → hI h 116 4 = (p : Nat) → Mq h p u →
    (∀ h', FI [] [4, 5, 6, 7, 8] [] h h' → Mk h' (bSkip u) → Q (.inl none) h') → Wp (d + 5) C_X4_look Q 0 [vR (some 116), vU, vU] [] h := by
  induction u with
  | nil =>
    intro h p hS h2 hT k
    refine ss_X4_look_0 hS ?_
    rw [h2]
    refine c_here hS hT ?_
    refine ss_X4_look_8 hS ?_
    rw [if_neg (by decide), h2]
    have hS1 : St (sI h 116 5 p) := St_sI hS (by omega)
    refine c_here hS1 (Mq_sI hT (by omega)) ?_
    refine ss_X4_look_42 hS1 ?_
    rw [if_pos (by decide), hI_sI, if_neg (by omega), h2]
    refine ss_X4_look_415 (St_sI (St_sI (St_sI (St_sI hS1 (by omega)) (by omega)) (by omega)) (by omega)) (k _ (FI_sI (FI_sI (FI_sI (FI_sI (FI_sI (FI_refl h) rfl) rfl) rfl) rfl) rfl) ⟨p, ?_, ?_, ?_, ?_, ?_⟩)
    · rw [hI_sI, if_neg (by omega), hI_sI, if_neg (by omega), hI_sI, if_neg (by omega), hI_sI, if_neg (by omega), hI_sI, if_neg (by omega)]; exact h2
    · rw [hI_sI, if_neg (by omega), hI_sI, if_neg (by omega), hI_sI, if_neg (by omega), hI_sI, if_neg (by omega), hI_sI, if_pos ⟨rfl, rfl⟩]
    · exact Mq_sI (Mq_sI (Mq_sI (Mq_sI (Mq_sI hT (by omega)) (by omega)) (by omega)) (by omega)) (by omega)
    · rw [hI_sI, if_neg (by omega), hI_sI, if_neg (by omega), hI_sI, if_neg (by omega), hI_sI, if_pos ⟨rfl, rfl⟩]
    · rw [hI_sI, if_pos ⟨rfl, rfl⟩]
  | cons c r ih =>
    intro h p hS h2 hT k
    refine ss_X4_look_0 hS ?_
    rw [h2]
    refine c_here hS hT ?_
    refine ss_X4_look_8 hS ?_
    have hl := hT.2.1
    rw [List.length_cons] at hl
    by_cases hc : c = 32
    · refine ip hc ?_
      rw [h2, na_eq (by omega) (by omega)]
      refine ih (St_sI hS (by omega)) (p := p + 1) (by rw [hI_sI, if_pos ⟨rfl, rfl⟩]; rfl) (Mq_sI (Mq_tl hT) (by omega)) fun h' hF hC => ?_
      refine k h' (FI_trans (FI_sI (FI_refl h) rfl) hF) ?_
      unfold bSkip; rw [if_pos hc]; exact hC
    · refine im hc ?_
      rw [h2]
      have hS1 : St (sI h 116 5 p) := St_sI hS (by omega)
      refine c_here hS1 (Mq_sI hT (by omega)) ?_
      refine lk_tok (b := p) hS1 (by rw [hI_sI, if_neg (by omega)]; exact h2) (by rw [hI_sI, if_pos ⟨rfl, rfl⟩]) (Mq_sI hT (by omega)) hc fun h' hF hC => ?_
      refine k h' (FI_trans (FI_sI (FI_refl h) rfl) hF) ?_
      unfold bSkip; rw [if_neg hc]; exact hC
