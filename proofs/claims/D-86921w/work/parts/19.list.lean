/-! LISTS -/
theorem hR_cpy {h : hp} {a b sp dp n c k : Nat} : hR (hCpy h a b sp dp n) c k = if c = b ∧ dp ≤ k ∧ k < dp + n then hR h a (sp + (k - dp)) else hR h c k := Eq.trans (congrFun (congrFun rfl c) k) rfl
theorem hI_cpy {h : hp} {a b sp dp n c k : Nat} : hI (hCpy h a b sp dp n) c k = if c = b ∧ dp ≤ k ∧ k < dp + n then hI h a (sp + (k - dp)) else hI h c k := Eq.trans (congrFun (congrFun rfl c) k) rfl
theorem hL_cpy {h : hp} {a b sp dp n c k : Nat} : hL (hCpy h a b sp dp n) c k = if c = b ∧ dp ≤ k ∧ k < dp + n then hL h a (sp + (k - dp)) else hL h c k := Eq.trans (congrFun (congrFun rfl c) k) rfl
theorem sm_cpy {h h' : hp} {a b c sp dp n : Nat} (p : sm h h' c) (hc : c ≠ b) : sm h (hCpy h' a b sp dp n) c :=
  ⟨p.1, fun j => by rw [hI_cpy, if_neg (fun q => hc q.1)]; exact p.2.1 j, fun j => by rw [hL_cpy, if_neg (fun q => hc q.1)]; exact p.2.2.1 j, fun j => by rw [hR_cpy, if_neg (fun q => hc q.1)]; exact p.2.2.2 j⟩
set_option maxRecDepth 20000 in
theorem shr1 : ∀ c : Nat, c < 200 → n_shr (c : Int) 1 = ((c / 2 : Nat) : Int) := by decide
/-- the list at l holds xs, in the array arr -/
def RL (h : hp) (l : Nat) (xs : List Nat) (arr : Nat) : Prop := hT h l = (44, 0) ∧ hR h l 1 = some arr ∧ hI h l 2 = (xs.length : Nat) ∧ (∀ x ∈ xs, x < hN h ∧ (hT h x).1 ≤ 37) ∧ hI h l 0 = (xs.length : Nat) ∧
  ((arr = 1 ∧ xs = []) ∨ (145 ≤ arr ∧ arr < hN h ∧ arr ≠ l ∧ ∃ cap, hT h arr = (106, cap) ∧ xs.length ≤ cap ∧ 10 ≤ cap ∧ cap ≤ 244 ∧ ∀ j, j < xs.length → hR h arr j = some (xs.getD j 0)))
theorem pu_max {d : Nat} {Q : qt} {h : hp} {a b : Int} (hS : St h) (k : Q (.inl (some (vI (if a < b then b else a)))) h) : Wc (d + 1) 422 [vI a, vI b] h Q := by
  refine se_J10_max hS ?_
  split
  · rename_i q; rw [if_pos q] at k; exact k
  · rename_i q; rw [if_neg q] at k; exact k
theorem pu_min {d : Nat} {Q : qt} {h : hp} {a b : Int} (hS : St h) (k : Q (.inl (some (vI (if b < a then b else a)))) h) : Wc (d + 1) 423 [vI a, vI b] h Q := by
  refine se_J10_min hS ?_
  split
  · rename_i q; rw [if_pos q] at k; exact k
  · rename_i q; rw [if_neg q] at k; exact k
theorem getD_appn {xs : List Nat} {b j : Nat} (hj : j < xs.length) : (xs ++ [b]).getD j 0 = xs.getD j 0 := by
  rw [List.getD_eq_getElem?_getD, List.getD_eq_getElem?_getD, List.getElem?_append_left hj]
theorem getD_appb {xs : List Nat} {b : Nat} : (xs ++ [b]).getD xs.length 0 = b := by
  rw [List.getD_eq_getElem?_getD, List.getElem?_append_right (Nat.le_refl _), Nat.sub_self]; rfl
theorem getD_mem {xs : List Nat} {j : Nat} (hj : j < xs.length) : xs.getD j 0 ∈ xs := by
  rw [List.getD_eq_getElem?_getD, List.getElem?_eq_getElem hj]; exact List.getElem_mem hj
theorem k37 {k : Nat} (h : k ≤ 37) : k ∈ [0, 1, 2, 3, 4, 5, 6, 7, 8, 9, 10, 11, 12, 13, 14, 15, 16, 17, 18, 19, 20, 21, 22, 23, 24, 25, 26, 27, 28, 29, 30, 31, 32, 33, 34, 35, 36, 37] := by
  simp; omega
/-- what add may change: the list, its array -/
def AddG (N : Nat) (h : hp) (l : Nat) (xs : List Nat) (arr b : Nat) (Q : qt) : Prop := ∀ h' arr', RL h' l (xs ++ [b]) arr' → (arr' = arr ∧ hN h' = hN h ∨ arr' = hN h ∧ hN h' = hN h + 1) → (∀ c, c < hN h → c ≠ l → (c ≠ arr ∨ arr' ≠ arr) → sm h h' c) → hU h ≤ hU h' → hU h' ≤ hU h + N → St h' → Q (.inl (some (vI 1))) h'
def AddQ (h : hp) (l : Nat) (xs : List Nat) (arr b : Nat) (Q : qt) : Prop := ∀ h' arr', RL h' l (xs ++ [b]) arr' → (arr' = arr ∧ hN h' = hN h ∨ arr' = hN h ∧ hN h' = hN h + 1) → (∀ c, c < hN h → c ≠ l → (c ≠ arr ∨ arr' ≠ arr) → sm h h' c) → hU h ≤ hU h' → hU h' ≤ hU h + 100 → St h' → Q (.inl (some (vI 1))) h'
theorem al_core {Q : qt} {h : hp} {l arr b : Nat} {xs : List Nat} (hS : St h) (hl : 145 ≤ l) (hln : l < hN h) (hT1 : hT h l = (44, 0)) (hR1 : hR h l 1 = some arr) (hx : ∀ x ∈ xs, x < hN h ∧ (hT h x).1 ≤ 37) (hm : hI h l 0 = ((xs.length + 1 : Nat) : Int)) (ha : 145 ≤ arr ∧ arr < hN h ∧ arr ≠ l) {cap : Nat} (hT2 : hT h arr = (106, cap)) (hc : xs.length < cap) (hc2 : 10 ≤ cap ∧ cap ≤ 244) (he : ∀ j, j < xs.length → hR h arr j = some (xs.getD j 0)) (hb : b < hN h ∧ (hT h b).1 ≤ 37)
    (k : ∀ h', RL h' l (xs ++ [b]) arr → hN h' = hN h → hU h' = hU h → (∀ c, c ≠ l → c ≠ arr → sm h h' c) → St h' → Q (.inl none) h') : ofR (some arr) fun a1 => inb h a1 [106] ((xs.length : Nat) : Int) ∧ ((some b = none ∨ ∃ b', some b = some b' ∧ (hT h b').1 ∈ [0, 1, 2, 3, 4, 5, 6, 7, 8, 9, 10, 11, 12, 13, 14, 15, 16, 17, 18, 19, 20, 21, 22, 23, 24, 25, 26, 27, 28, 29, 30, 31, 32, 33, 34, 35, 36, 37]) ∧ (Q (.inl none) (sI (sR h a1 (((xs.length : Nat) : Int).toNat) (some b)) l 2 (n_add ((xs.length : Nat) : Int) 1)))) := by
  rw [ofR_some, Int.toNat_natCast, na_eq (by omega) (by omega)]
  refine ⟨⟨by rw [hT2]; exact List.mem_singleton.mpr rfl, by omega, by rw [hT2]; show (xs.length : Int) < (cap : Nat); omega⟩, Or.inr ⟨b, rfl, k37 hb.2⟩, ?_⟩
  refine k _ ⟨hT1, ?_, ?_, fun x hxm => ?_, ?_, Or.inr ⟨ha.1, ha.2.1, ha.2.2, cap, hT2, ?_, hc2.1, hc2.2, fun j hj => ?_⟩⟩ rfl rfl (fun c c1 c2 => sm_sI (sm_sR (sm_refl _ _) c2) c1) (St_sI (St_sR hS (by unfold okRf; omega)) (by omega))
  · rw [hR_sI, hR_sR, if_neg (by omega)]; exact hR1
  · rw [hI_sI, if_pos ⟨rfl, rfl⟩, List.length_append]; rfl
  · rcases List.mem_append.mp hxm with q | q
    · exact hx x q
    · rw [List.mem_singleton.mp q]; exact hb
  · rw [hI_sI, if_neg (by omega), hI_sR, hm, List.length_append]; rfl
  · rw [List.length_append, List.length_singleton]; omega
  · rw [List.length_append, List.length_singleton] at hj
    rw [hR_sI, hR_sR]
    by_cases q : j = xs.length
    · rw [if_pos ⟨rfl, q⟩, q, getD_appb]
    · rw [if_neg (by omega), getD_appn (by omega)]; exact he j (by omega)
theorem al_put {d : Nat} {Q : qt} {h : hp} {l arr b : Nat} {v2 : Option Nat} {xs : List Nat} (hS : St h) (hl : 145 ≤ l) (hln : l < hN h) (hT1 : hT h l = (44, 0)) (hR1 : hR h l 1 = some arr) (hx : ∀ x ∈ xs, x < hN h ∧ (hT h x).1 ≤ 37) (hm : hI h l 0 = ((xs.length + 1 : Nat) : Int)) (ha : 145 ≤ arr ∧ arr < hN h ∧ arr ≠ l) {cap : Nat} (hT2 : hT h arr = (106, cap)) (hc : xs.length < cap) (hc2 : 10 ≤ cap ∧ cap ≤ 244) (he : ∀ j, j < xs.length → hR h arr j = some (xs.getD j 0)) (hb : b < hN h ∧ (hT h b).1 ≤ 37)
    (k : ∀ h', RL h' l (xs ++ [b]) arr → hN h' = hN h → hU h' = hU h → (∀ c, c ≠ l → c ≠ arr → sm h h' c) → St h' → Q (.inl none) h') : Wp d C_J4_add_2 Q 10 [vR (some l), vR (some b), vR v2, vI (xs.length : Nat)] [vR (some arr)] h :=
  ss_J4_add_2_10 hS hT1 (al_core hS hl hln hT1 hR1 hx hm ha hT2 hc hc2 he hb k)
theorem St_cpy {h : hp} (hS : St h) {a b sp dp n : Nat} (hb : 145 ≤ b) : St (hCpy h a b sp dp n) := by
  refine ⟨hS.1, hS.2.1, fun p hp => ?_, fun p hp => ?_, fun k hk => ?_⟩
  · have := rfL_lt p hp
    rw [hR_cpy, if_neg (by omega)]; exact hS.2.2.1 p hp
  · have h1 := sxL_lt p hp
    obtain ⟨e1, e2, e3, e4, e5⟩ := hS.2.2.2.1 p hp
    refine ⟨e1, by rw [hR_cpy, if_neg (by omega)]; exact e2, by rw [hI_cpy, if_neg (by omega)]; exact e3, e4, fun i hi => by rw [hI_cpy, if_neg (by omega)]; exact e5 i hi⟩
  · rw [hI_cpy, if_neg (by omega)]; exact hS.2.2.2.2 k hk
/-- an array of n places with the old ones -/
theorem c_copyOf {d : Nat} {Q : qt} {h : hp} {arr cap n : Nat} (hS : St h) (ha : 145 ≤ arr ∧ arr < hN h) (hT1 : hT h arr = (106, cap)) (hc : cap ≤ n ∧ n < 1000) (hf : ∀ j, j < cap → ∃ x, hR h arr j = some x ∧ x < hN h ∧ (hT h x).1 ≤ 37) (hb : hU h + n + 13 ≤ BUD)
    (k : Q (.inl (some (vR (some (hN h))))) (hCpy (hNew h 106 n n) arr (hN h) 0 0 cap)) : Wc (d + 3) 426 [vR (some arr), vI (n : Nat)] h Q := by
  have h145 := hS.1
  refine se_J11_copyOf hS ?_
  rw [ofR_some, hT1]
  refine ⟨rfl, ?_⟩
  refine ss_J11_copyOf_6 hS ?_
  refine se_J11_copyOf_2 hS ?_
  refine ⟨fun a b e1 e2 => Or.inl (by cases e1; cases e2; rfl), ?_⟩
  refine ip rfl ?_
  rw [Int.toNat_natCast, ofR_some, hT_new (by omega), hT1]
  refine ⟨by omega, hb, by show 100 ≤ 106; decide, by show 106 < 113; decide, by show cap < _; omega, ?_⟩
  have S1 : St (hNew h 106 n n) := St_new hS
  refine pu_min S1 ?_
  rw [if_neg (by show ¬ (n : Int) < ((cap : Nat) : Int); omega)]
  refine ss_J11_copyOf_2_35 S1 ?_
  rw [ofR_some, ofR_some, hT_new (by omega), hT1, hT_newa rfl]
  refine ⟨rfl, rfl, ⟨by omega, by omega, by show (0 : Int) ≤ ((cap : Nat) : Int); omega, ?_, ?_⟩, fun j hj => ?_, ?_⟩
  · rw [hT_new (by omega), hT1]; show (0 : Int) + ((cap : Nat) : Int) ≤ ((cap : Nat) : Int); omega
  · rw [hT_newa rfl]; show (0 : Int) + ((cap : Nat) : Int) ≤ ((n : Nat) : Int); omega
  · have hj' : j < cap := by simpa using hj
    rw [show ((0 : Int).toNat + j) = j by simp, hR_new (by omega)]
    obtain ⟨x, q1, q2, q3⟩ := hf j hj'
    exact Or.inr ⟨x, q1, by rw [hT_new (by omega)]; exact k37 q3⟩
  · refine ss_J11_copyOf_2_38 (St_cpy S1 h145) ?_
    exact k
def GrQ (g : hp) (l : Nat) (xs : List Nat) (Q : qt) : Prop := ∀ h2 cap, hT h2 l = (44, 0) → hR h2 l 1 = some (hN g) → hT h2 (hN g) = (106, cap) → xs.length < cap → 10 ≤ cap → cap ≤ 244 → (∀ j, j < xs.length → hR h2 (hN g) j = some (xs.getD j 0)) → hN h2 = hN g + 1 → hU g ≤ hU h2 → hU h2 ≤ hU g + (xs.length + xs.length / 2 + 23) → (∀ c, c < hN g → c ≠ l → sm g h2 c) → (∀ j, hI h2 l j = hI g l j) → St h2 → Q (.inl (some (vR (some (hN g))))) h2
theorem c_grow {d : Nat} {Q : qt} {g : hp} {l arr : Nat} {xs : List Nat} (hS : St g) (hl : 145 ≤ l) (hln : l < hN g) (r1 : hT g l = (44, 0)) (r2 : hR g l 1 = some arr) (r3 : hI g l 2 = (xs.length : Nat)) (r4 : ∀ x ∈ xs, x < hN g ∧ (hT g x).1 ≤ 37)
    (r6 : (arr = 1 ∧ xs = []) ∨ (145 ≤ arr ∧ arr < hN g ∧ arr ≠ l ∧ hT g arr = (106, xs.length) ∧ 10 ≤ xs.length ∧ xs.length ≤ 162 ∧ ∀ j, j < xs.length → hR g arr j = some (xs.getD j 0))) (hb : hU g + (xs.length + xs.length / 2 + 23) ≤ BUD) (k : GrQ g l xs Q) : Wc (d + 5) 403 [vR (some l)] g Q := by
  have h145 := hS.1
  refine se_J4_grow hS r1 ?_
  rcases r6 with ⟨a1, a2⟩ | ⟨a1, a2, a3, a4, a5, a6, a7⟩
  · subst a2
    rw [r3, na_eq (by simp) (by simp)]
    refine se_J4_grow_2 hS r1 ?_
    rw [r2, a1, ofR_some, stt_1 hS]
    refine ⟨by decide, by decide, by decide, ?_⟩
    rw [if_neg (by decide)]
    refine ⟨fun a b e1 e2 => Or.inl (by cases e1; cases e2; rfl), ?_⟩
    refine ip rfl ?_
    refine pu_max hS ?_
    rw [if_neg (by decide)]
    refine ss_J4_grow_2_52 hS r1 ?_
    rw [ofR_some, hT_new (by omega), r1]
    refine ⟨by decide, by show hU g + 10 + 13 ≤ BUD; omega, List.mem_singleton.mpr rfl, ?_⟩
    have S1 : St (hNew g 106 10 10) := St_new hS
    refine k _ 10 (by rw [hT_sR, hT_new (by omega)]; exact r1) (by rw [hR_sR, if_pos ⟨rfl, rfl⟩]) (by rw [hT_sR, hT_newa rfl]; rfl) (by decide) (by decide) (by decide) (fun j hj => by simp at hj) rfl (by show hU g ≤ hU g + 10 + 13; omega) (by show hU g + 10 + 13 ≤ hU g + (0 + 0 / 2 + 23); omega) (fun c c1 c2 => sm_sR (sm_new (sm_refl _ _) c1) c2) (fun j => by rw [hI_sR, hI_new (by omega)]) (St_sR S1 (by unfold okRf; omega))
  · rw [r3, na_eq (by omega) (by omega)]
    refine se_J4_grow_2 hS r1 ?_
    rw [r2, ofR_some, a4]
    refine ⟨by show 100 ≤ 106; decide, by show 106 < 113; decide, by show xs.length < _; omega, ?_⟩
    rw [if_pos (by show (0 : Int) < ((xs.length : Nat) : Int); omega), ns_eq (by show _ ≤ _ - ((xs.length : Nat) : Int); omega) (by show _ - ((xs.length : Nat) : Int) < _; omega)]
    show cI _ 420 [vI ((xs.length : Nat) : Int), vI (((xs.length : Nat) : Int) + 1 - ((xs.length : Nat) : Int)), vI (n_shr ((xs.length : Nat) : Int) 1)] _ _ _
    rw [shr1 _ (by omega)]
    refine se_J9_newLength hS ?_
    refine pu_max hS ?_
    rw [if_pos (by omega)]
    refine ss_J9_newLength_6 hS ?_
    rw [na_eq (by omega) (by omega), if_pos (by omega), if_neg (by omega)]
    refine ss_J4_grow_2_30 hS r1 ?_
    rw [r2, show ((xs.length : Nat) : Int) + ((xs.length / 2 : Nat) : Int) = ((xs.length + xs.length / 2 : Nat) : Int) by omega]
    refine c_copyOf (cap := xs.length) hS ⟨a1, a2⟩ a4 (by omega) (fun j hj => ⟨_, a7 j hj, r4 _ (getD_mem hj)⟩) (by omega) ?_
    have S1 : St (hNew g 106 (xs.length + xs.length / 2) (xs.length + xs.length / 2)) := St_new hS
    have S2 := St_cpy S1 (a := arr) (b := hN g) (sp := 0) (dp := 0) (n := xs.length) h145
    have t2 : hT (hCpy (hNew g 106 (xs.length + xs.length / 2) (xs.length + xs.length / 2)) arr (hN g) 0 0 xs.length) l = (44, 0) := by rw [hT_hCpy, hT_new (by omega)]; exact r1
    refine ss_J4_grow_2_40 S2 t2 ?_
    rw [ofR_some, t2]
    refine ⟨List.mem_singleton.mpr rfl, ?_⟩
    refine k _ (xs.length + xs.length / 2) t2 (by rw [hR_sR, if_pos ⟨rfl, rfl⟩]) (by rw [hT_sR, hT_hCpy, hT_newa rfl]) (by omega) (by omega) (by omega) (fun j hj => ?_) rfl (by show hU g ≤ hU g + (xs.length + xs.length / 2) + 13; omega) (by show hU g + (xs.length + xs.length / 2) + 13 ≤ hU g + (xs.length + xs.length / 2 + 23); omega) (fun c c1 c2 => sm_sR (sm_cpy (sm_new (sm_refl _ _) c1) (by omega)) c2) (fun j => by rw [hI_sR, hI_cpy, if_neg (by omega), hI_new (by omega)]) (St_sR S2 (by unfold okRf; omega))
    rw [hR_sR, if_neg (by omega), hR_cpy, if_pos (by omega), hR_new (by omega), show 0 + (j - 0) = j by omega]
    exact a7 j hj
theorem c_addG {N d : Nat} {Q : qt} {h : hp} {l arr b : Nat} {xs : List Nat} (hS : St h) (hl : 145 ≤ l) (hln : l < hN h) (hR0 : RL h l xs arr) (hb : b < hN h ∧ (hT h b).1 ≤ 37) (hbl : b ≠ l) (hN0 : xs.length + xs.length / 2 + 23 ≤ N) (hbu : hU h + N ≤ BUD) (hx : xs.length ≤ 162) (k : AddG N h l xs arr b Q) : Wc (d + 8) 401 [vR (some l), vR (some b)] h Q := by
  obtain ⟨r1, r2, r3, r4, r5, r6⟩ := hR0
  refine se_J4_add hS r1 ?_
  rw [r5, na_eq (by omega) (by omega), r2, r3]
  have S1 : St (sI h l 0 ((xs.length : Nat) + 1)) := St_sI hS (by omega)
  have t1 : hT (sI h l 0 ((xs.length : Nat) + 1)) l = (44, 0) := r1
  have m1 : hI (sI h l 0 ((xs.length : Nat) + 1)) l 0 = ((xs.length + 1 : Nat) : Int) := by rw [hI_sI, if_pos ⟨rfl, rfl⟩]; rfl
  have r3' : hI (sI h l 0 ((xs.length : Nat) + 1)) l 2 = (xs.length : Nat) := by rw [hI_sI, if_neg (by omega)]; exact r3
  have sm1 : ∀ c, c ≠ l → sm h (sI h l 0 ((xs.length : Nat) + 1)) c := fun c hc => sm_sI (sm_refl _ _) hc
  refine se_J4_add_2 S1 t1 ?_
  have hgrow : (arr = 1 ∧ xs = []) ∨ (145 ≤ arr ∧ arr < hN h ∧ arr ≠ l ∧ hT h arr = (106, xs.length) ∧ 10 ≤ xs.length ∧ xs.length ≤ 162 ∧ ∀ j, j < xs.length → hR h arr j = some (xs.getD j 0)) → cR (Wc (d + 6)) 403 [vR (some l)] (sI h l 0 ((xs.length : Nat) + 1)) (fun x3 h2 => Wp (d + 6) C_J4_add_2 (fun o h' => match o with
      | .inl none => Wp (d + 7) C_J4_add Q 23 [vR (some l), vR (some b)] [] h'
      | .inr a => Q (.inr a) h'
      | _ => False) 10 [vR (some l), vR (some b), vR (some arr), vI (xs.length : Nat)] [vR x3] h2) (fun e h' => Q (.inr e) h') := by
    intro q
    refine c_grow (xs := xs) S1 hl hln t1 r2 r3' r4 q (by show hU h + (xs.length + xs.length / 2 + 23) ≤ BUD; omega) ?_
    intro h2 cap u1 u2 u3 u4 u5 u6 u7 u8 u9 u10 u11 u12 u13
    have u8' : hN h2 = hN h + 1 := u8
    refine al_put u13 hl (by omega) u1 u2 (fun x hxm => ⟨by have := (r4 x hxm).1; omega, ?_⟩) (by rw [u12, m1]) ⟨hS.1, by omega, by show hN h ≠ l; omega⟩ u3 u4 ⟨u5, u6⟩ u7 ⟨by omega, ?_⟩ ?_
    · have hxn := r4 x hxm
      by_cases hxl : x = l
      · rw [hxl, u1]; rw [hxl, r1] at hxn; exact hxn.2
      · rw [(u11 x hxn.1 hxl).1]; exact hxn.2
    · rw [(u11 b hb.1 hbl).1]; exact hb.2
    · intro h3 v1 v2 v3 v4 v5
      refine ss_J4_add_23 v5 v1.1 ?_
      refine k h3 (hN h) v1 (Or.inr ⟨rfl, by omega⟩) (fun c c1 c2 c3 => ?_) (by rw [v3]; exact u9) (by rw [v3]; have : hU h2 ≤ hU h + (xs.length + xs.length / 2 + 23) := u10; omega) v5
      exact sm_trans (sm_trans (sm1 c c2) (u11 c c1 c2)) (v4 c c2 (by show c ≠ hN h; omega))
  rcases r6 with ⟨a1, a2⟩ | ⟨a1, a2, a3, cap, a4, a5, a6, a7, a8⟩
  · rw [ofR_some]
    show 100 ≤ (hT h arr).1 ∧ (hT h arr).1 < 113 ∧ (hT h arr).2 < 2147483648 ∧ _
    rw [a1, stt_1 hS]
    refine ⟨by decide, by decide, by decide, ?_⟩
    refine ip (by show ((xs.length : Nat) : Int) = ((hT h 1).2 : Int); rw [stt_1 hS, a2]; rfl) ?_
    have := hgrow (Or.inl ⟨a1, a2⟩)
    rw [a1] at this
    exact this
  · rw [ofR_some]
    show 100 ≤ (hT h arr).1 ∧ (hT h arr).1 < 113 ∧ (hT h arr).2 < 2147483648 ∧ _
    have a4' : hT (sI h l 0 ((xs.length : Nat) + 1)) arr = (106, cap) := a4
    rw [a4]
    refine ⟨by show 100 ≤ 106; decide, by show 106 < 113; decide, by show cap < _; omega, ?_⟩
    rw [a4']
    by_cases hfull : xs.length = cap
    · rw [if_pos (by show ((xs.length : Nat) : Int) = ((cap : Nat) : Int); omega)]
      exact hgrow (Or.inr ⟨a1, a2, a3, by rw [hfull]; exact a4, by omega, hx, a8⟩)
    · rw [if_neg (by show ¬ ((xs.length : Nat) : Int) = ((cap : Nat) : Int); omega)]
      refine al_core (Q := fun o h' => match o with
        | .inl none => Wp (d + 7) C_J4_add Q 23 [vR (some l), vR (some b)] [] h'
        | .inr a => Q (.inr a) h'
        | _ => False) S1 hl hln t1 r2 r4 m1 ⟨a1, a2, a3⟩ a4' (by omega) ⟨a6, a7⟩ a8 hb ?_
      intro h3 v1 v2 v3 v4 v5
      refine ss_J4_add_23 v5 v1.1 ?_
      refine k h3 arr v1 (Or.inl ⟨rfl, v2⟩) (fun c c1 c2 c3 => ?_) (by rw [v3]; exact Nat.le_refl _) (by rw [v3]; show hU h ≤ hU h + N; omega) v5
      have c4 : c ≠ arr := by rcases c3 with q | q; exact q; exact absurd rfl q
      exact sm_trans (sm1 c c2) (v4 c c2 c4)
theorem c_add {d : Nat} {Q : qt} {h : hp} {l arr b : Nat} {xs : List Nat} (hS : St h) (hl : 145 ≤ l) (hln : l < hN h) (hR0 : RL h l xs arr) (hb : b < hN h ∧ (hT h b).1 ≤ 37) (hbl : b ≠ l) (hbu : hU h + 100 ≤ BUD) (hx : xs.length ≤ 48) (k : AddQ h l xs arr b Q) : Wc (d + 8) 401 [vR (some l), vR (some b)] h Q :=
  c_addG (N := 100) hS hl hln hR0 hb hbl (by omega) hbu (by omega) k
