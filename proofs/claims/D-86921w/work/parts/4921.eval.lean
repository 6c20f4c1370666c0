/-! rows of items in the heap -/
theorem c_hsize {d : Nat} {Q : qt} {h : hp} {o a K n : Nat} (hS : St h) (ho : hT h o = (3, 0)) (hr : hR h o 0 = some a) (hK : K = 101 ∨ K = 102 ∨ K = 103 ∨ K = 104 ∨ K = 105) (ht : hT h a = (K, n)) (hn : n < 2147483648) (k : Q (.inl (some (vI (n : Nat)))) h) : Wc (d + 1) 102 [vR (some o)] h Q := by
  refine se_X3_size hS ho ?_
  rw [hr]
  have fit : fitR h [101, 102, 103, 104, 105] (some a) := Or.inr ⟨a, rfl, by rw [ht]; rcases hK with e | e | e | e | e <;> subst e <;> simp⟩
  have fitK : fitR h [K] (some a) := Or.inr ⟨a, rfl, by rw [ht]; simp⟩
  have iv : ∀ c, insV h [c] (some a) = if K = c then 1 else 0 := by
    intro c
    show (if (hT h a).1 ∈ [c] then (1 : Int) else 0) = _
    rw [ht]
    by_cases q : K = c
    · rw [if_pos (by rw [q]; simp), if_pos q]
    · rw [if_neg (by simp; exact q), if_neg q]
  simp only [iv]
  rcases hK with e | e | e | e | e <;> subst e
  · exact ⟨fit, ip rfl ⟨fit, ip rfl ⟨fit, ip rfl ⟨fit, ip rfl ⟨fitK, (by rw [ofR_some, ht]; exact ⟨(by show 100 ≤ 101; decide), (by show 101 < 113; decide), hn, k⟩)⟩⟩⟩⟩⟩
  · exact ⟨fit, ip rfl ⟨fit, ip rfl ⟨fit, ip rfl ⟨fit, im (by decide) ⟨fitK, (by rw [ofR_some, ht]; exact ⟨(by show 100 ≤ 102; decide), (by show 102 < 113; decide), hn, k⟩)⟩⟩⟩⟩⟩
  · exact ⟨fit, ip rfl ⟨fit, ip rfl ⟨fit, im (by decide) ⟨fitK, (by rw [ofR_some, ht]; exact ⟨(by show 100 ≤ 103; decide), (by show 103 < 113; decide), hn, k⟩)⟩⟩⟩⟩
  · exact ⟨fit, im (by decide) ⟨fitK, (by rw [ofR_some, ht]; exact ⟨(by show 100 ≤ 104; decide), (by show 104 < 113; decide), hn, k⟩)⟩⟩
  · exact ⟨fit, ip rfl ⟨fit, im (by decide) ⟨fitK, (by rw [ofR_some, ht]; exact ⟨(by show 100 ≤ 105; decide), (by show 105 < 113; decide), hn, k⟩)⟩⟩⟩
theorem c_hget {d : Nat} {Q : qt} {h : hp} {o a K n i : Nat} (hS : St h) (ho : hT h o = (3, 0)) (hr : hR h o 0 = some a) (hK : K = 101 ∨ K = 102 ∨ K = 103 ∨ K = 104 ∨ K = 105) (ht : hT h a = (K, n)) (hi : i < n) (k : Q (.inl (some (vJ (if K = 105 then hL h a i else hI h a i)))) h) : Wc (d + 1) 103 [vR (some o), vI (i : Nat)] h Q := by
  refine se_X3_get hS ho ?_
  rw [hr]
  have fit : fitR h [101, 102, 103, 104, 105] (some a) := Or.inr ⟨a, rfl, by rw [ht]; rcases hK with e | e | e | e | e <;> subst e <;> simp⟩
  have fitK : fitR h [K] (some a) := Or.inr ⟨a, rfl, by rw [ht]; simp⟩
  have iv : ∀ c, insV h [c] (some a) = if K = c then 1 else 0 := by
    intro c
    show (if (hT h a).1 ∈ [c] then (1 : Int) else 0) = _
    rw [ht]
    by_cases q : K = c
    · rw [if_pos (by rw [q]; simp), if_pos q]
    · rw [if_neg (by simp; exact q), if_neg q]
  simp only [iv]
  rw [Int.toNat_natCast]
  have ib : inb h a [K] (i : Nat) := ⟨by rw [ht]; simp, by omega, by rw [ht]; show ((i : Nat) : Int) < (n : Nat); omega⟩
  rcases hK with e | e | e | e | e <;> subst e
  · rw [if_neg (by decide)] at k; exact ⟨fit, ip rfl ⟨fit, ip rfl ⟨fit, ip rfl ⟨fit, ip rfl ⟨fitK, (by rw [ofR_some]; exact ⟨ib, k⟩)⟩⟩⟩⟩⟩
  · rw [if_neg (by decide)] at k; exact ⟨fit, ip rfl ⟨fit, ip rfl ⟨fit, ip rfl ⟨fit, im (by decide) ⟨fitK, (by rw [ofR_some]; exact ⟨ib, k⟩)⟩⟩⟩⟩⟩
  · rw [if_neg (by decide)] at k; exact ⟨fit, ip rfl ⟨fit, ip rfl ⟨fit, im (by decide) ⟨fitK, (by rw [ofR_some]; exact ⟨ib, k⟩)⟩⟩⟩⟩
  · rw [if_neg (by decide)] at k; exact ⟨fit, im (by decide) ⟨fitK, (by rw [ofR_some]; exact ⟨ib, k⟩)⟩⟩
  · rw [if_pos rfl] at k; exact ⟨fit, ip rfl ⟨fit, im (by decide) ⟨fitK, (by rw [ofR_some]; exact ⟨ib, k⟩)⟩⟩⟩
theorem c_hkind {d : Nat} {Q : qt} {h : hp} {o a K n : Nat} (hS : St h) (ho : hT h o = (3, 0)) (hr : hR h o 0 = some a) (hK : K = 101 ∨ K = 102 ∨ K = 103 ∨ K = 104 ∨ K = 105) (ht : hT h a = (K, n)) (k : Q (.inl (some (vI (if K = 104 then 0 else if K = 105 then 1 else if K = 103 then 2 else if K = 102 then 3 else 4)))) h) : Wc (d + 1) 104 [vR (some o)] h Q := by
  refine se_X3_kind hS ho ?_
  rw [hr]
  have fit : fitR h [101, 102, 103, 104, 105] (some a) := Or.inr ⟨a, rfl, by rw [ht]; rcases hK with e | e | e | e | e <;> subst e <;> simp⟩
  have iv : ∀ c, insV h [c] (some a) = if K = c then 1 else 0 := by
    intro c
    show (if (hT h a).1 ∈ [c] then (1 : Int) else 0) = _
    rw [ht]
    by_cases q : K = c
    · rw [if_pos (by rw [q]; simp), if_pos q]
    · rw [if_neg (by simp; exact q), if_neg q]
  simp only [iv]
  rcases hK with e | e | e | e | e <;> subst e
  · exact ⟨fit, ip rfl ⟨fit, ip rfl ⟨fit, ip rfl ⟨fit, ip rfl k⟩⟩⟩⟩
  · exact ⟨fit, ip rfl ⟨fit, ip rfl ⟨fit, ip rfl ⟨fit, im (by decide) k⟩⟩⟩⟩
  · exact ⟨fit, ip rfl ⟨fit, ip rfl ⟨fit, im (by decide) k⟩⟩⟩
  · exact ⟨fit, im (by decide) k⟩
  · exact ⟨fit, ip rfl ⟨fit, im (by decide) k⟩⟩
/-! THE STATE. 0 is a name there; 1 its value; 2 which row of items a row (a place from 6 on) is (-1: none); 3 a row's kind; 4 its size; 5 its items; 6 heights; 7 piled -/
abbrev zS : Type := Nat → Nat → Int
def kt (k : Int) : Nat := if k = 0 then 104 else if k = 1 then 105 else if k = 2 then 103 else if k = 3 then 102 else 101
theorem kt_ok (k : Int) : kt k = 101 ∨ kt k = 102 ∨ kt k = 103 ∨ kt k = 104 ∨ kt k = 105 := by unfold kt; (repeat' split) <;> omega
theorem kt_105 {k : Int} (h0 : 0 ≤ k) (h4 : k ≤ 4) : (kt k = 105) = (k = 1) := by
  have : k = 0 ∨ k = 1 ∨ k = 2 ∨ k = 3 ∨ k = 4 := by omega
  rcases this with e | e | e | e | e <;> subst e <;> decide
theorem kt_k {k : Int} (h0 : 0 ≤ k) (h4 : k ≤ 4) : (if kt k = 104 then (0 : Int) else if kt k = 105 then 1 else if kt k = 103 then 2 else if kt k = 102 then 3 else 4) = k := by
  have : k = 0 ∨ k = 1 ∨ k = 2 ∨ k = 3 ∨ k = 4 := by omega
  rcases this with e | e | e | e | e <;> subst e <;> decide
def elem (h : hp) (a : Nat) (k : Int) (i : Nat) : Int := if k = 1 then hL h a i else hI h a i
/-- the row id lies at a -/
def XA (h : hp) (σ : zS) (a id : Nat) : Prop := 145 ≤ a ∧ a < hN h ∧ 0 ≤ σ 3 id ∧ σ 3 id ≤ 4 ∧ (∃ n : Nat, n ≤ 12 ∧ σ 4 id = (n : Nat) ∧ hT h a = (kt (σ 3 id), n)) ∧ ∀ i : Nat, (i : Int) < σ 4 id → elem h a (σ 3 id) i = σ 5 (12 * id + i)
/-- x's state: names, rows -/
def XV (h : hp) (σ : zS) (ρ : Nat → Nat) : Prop :=
  (∀ k, k < 26 → hI h 73 k = σ 0 k ∧ (σ 0 k = 0 ∨ σ 0 k = 1) ∧ (σ 0 k = 1 → hI h 74 k = σ 1 k))
  ∧ (∀ k, k < 14 → (σ 2 k = -1 ∧ hR h (102 + k) 0 = none) ∨ ∃ id : Nat, id < 14 ∧ σ 2 k = (id : Nat) ∧ hR h (102 + k) 0 = some (ρ id) ∧ XA h σ (ρ id) id)
  ∧ ∀ k k' id id' : Nat, k < 14 → k' < 14 → σ 2 k = (id : Nat) → σ 2 k' = (id' : Nat) → ρ id = ρ id' → id = id'
theorem ho_t {h : hp} (hS : St h) {k : Nat} (hk : k < 14) : hT h (102 + k) = (3, 0) := by
  have : k = 0 ∨ k = 1 ∨ k = 2 ∨ k = 3 ∨ k = 4 ∨ k = 5 ∨ k = 6 ∨ k = 7 ∨ k = 8 ∨ k = 9 ∨ k = 10 ∨ k = 11 ∨ k = 12 ∨ k = 13 := by omega
  rcases this with e | e | e | e | e | e | e | e | e | e | e | e | e | e <;> subst e
  · exact stt_102 hS
  · exact stt_103 hS
  · exact stt_104 hS
  · exact stt_105 hS
  · exact stt_106 hS
  · exact stt_107 hS
  · exact stt_108 hS
  · exact stt_109 hS
  · exact stt_110 hS
  · exact stt_111 hS
  · exact stt_112 hS
  · exact stt_113 hS
  · exact stt_114 hS
  · exact stt_115 hS
theorem ho_r {h : hp} (hS : St h) {k : Nat} (hk : k < 6) : hR h 75 k = some (102 + k) := by
  have : k = 0 ∨ k = 1 ∨ k = 2 ∨ k = 3 ∨ k = 4 ∨ k = 5 := by omega
  rcases this with e | e | e | e | e | e <;> subst e
  · exact hS.2.2.1 (75, 0, 102) (by simp [rfL])
  · exact hS.2.2.1 (75, 1, 103) (by simp [rfL])
  · exact hS.2.2.1 (75, 2, 104) (by simp [rfL])
  · exact hS.2.2.1 (75, 3, 105) (by simp [rfL])
  · exact hS.2.2.1 (75, 4, 106) (by simp [rfL])
  · exact hS.2.2.1 (75, 5, 107) (by simp [rfL])
/-- what may not be read -/
def XB (h : hp) (σ : zS) (ρ : Nat → Nat) (bn : Nat → Bool) (bi : Nat → Nat → Bool) : Prop :=
  (∀ k, k < 26 → bn k = decide (hI h 68 28 = (k : Nat))) ∧ (∀ k id i : Nat, k < 6 → σ 2 k = (id : Nat) → bi id i = decide (hR h 68 29 = some (ρ id) ∧ hI h 68 30 = (i : Nat)))
def rk (k : Nat) (x y : Int) : Nat ⊕ Int :=
  if k = 60 then .inr (if x < y then 1 else 0) else if k = 61 then .inr (if x = y then 1 else 0)
  else if k = 43 then .inr (l_add x y) else if k = 45 then .inr (l_sub x y) else if k = 94 then .inr (l_xor x y) else if k = 124 then .inr (l_or x y)
  else if k = 42 then .inr (l_mul x y) else if k = 38 then .inr (l_and x y)
  else if y = 0 then .inl 4 else if k = 47 then .inr (l_div x y) else .inr (l_rem x y)
/-- the value of an expression, or why there is none -/
def ev (σ : zS) (bn : Nat → Bool) (bi : Nat → Nat → Bool) : zT → Nat ⊕ Int
  | .leaf _ => .inl 0
  | .branch k l r =>
    if k = 2 then .inr (zn l : Nat)
    else if k = 1 then (if σ 0 (zn l) = 0 then .inl 1 else if bn (zn l) = true then .inl 6 else .inr (σ 1 (zn l)))
    else if k = 35 then (if σ 2 (zn l) < 0 then .inl 2 else .inr (σ 4 (σ 2 (zn l)).toNat))
    else if k = 3 then (match ev σ bn bi r with
      | .inl w => .inl w
      | .inr i => if σ 2 (zn l) < 0 then .inl 2 else if i < 0 ∨ σ 4 (σ 2 (zn l)).toNat ≤ i then .inl 3 else if bi (σ 2 (zn l)).toNat i.toNat = true then .inl 6 else .inr (σ 5 (12 * (σ 2 (zn l)).toNat + i.toNat)))
    else if k = 8 then (match ev σ bn bi l with
      | .inl w => .inl w
      | .inr v => .inr (l_neg v))
    else if k = 40 then ev σ bn bi l
    else (match ev σ bn bi l with
      | .inl w => .inl w
      | .inr x => (match ev σ bn bi r with
        | .inl w => .inl w
        | .inr y => rk k x y))
def EvQ (v : Nat ⊕ Int) (h : hp) (Q : qt) : Prop := match v with
  | .inl w => Q (.inr (85 + w)) h
  | .inr x => Q (.inl (some (vJ x))) h
abbrev VEv : List (Nat × Nat) := [(8, 256), (9, 260), (10, 264), (11, 268), (12, 272), (14, 276), (15, 283), (16, 276), (17, 276)]
theorem c_rowOf {d : Nat} {Q : qt} {h : hp} {σ : zS} {ρ : Nat → Nat} {r : Nat} (hS : St h) (hV : XV h σ ρ) (hr : r < 6) (k1 : σ 2 r < 0 → Q (.inr 87) h) (k2 : 0 ≤ σ 2 r → Q (.inl (some (vR (some (102 + r))))) h) : Wc (d + 1) 61 [vR (some 68), vI (r : Nat)] h Q := by
  refine se_X0_rowOf hS ⟨by omega, ?_⟩
  rw [Int.toNat_natCast, ho_r hS hr, ofR_some]
  refine ⟨by rw [ho_t hS (by omega)]; simp, ?_⟩
  rcases hV.2.1 r (by omega) with ⟨a, b⟩ | ⟨id, a, b, c, -⟩
  · exact ip b (k1 (by omega))
  · exact im (by rw [c]; simp) ⟨by omega, k2 (by omega)⟩
theorem c_hsz {d : Nat} {Q : qt} {h : hp} {σ : zS} {ρ : Nat → Nat} {r : Nat} (hS : St h) (hV : XV h σ ρ) (hr : r < 14) (h0 : 0 ≤ σ 2 r) (k : Q (.inl (some (vI (σ 4 (σ 2 r).toNat)))) h) : Wc (d + 1) 102 [vR (some (102 + r))] h Q := by
  rcases hV.2.1 r hr with ⟨a, -⟩ | ⟨id, a, b, c, x1, x2, x3, x4, ⟨n, n1, n2, n3⟩, x6⟩
  · omega
  · rw [b, Int.toNat_natCast, n2] at k
    exact c_hsize hS (ho_t hS hr) c (kt_ok _) n3 (by omega) k
theorem c_hgt {d : Nat} {Q : qt} {h : hp} {σ : zS} {ρ : Nat → Nat} {r i : Nat} (hS : St h) (hV : XV h σ ρ) (hr : r < 14) (h0 : 0 ≤ σ 2 r) (hi : (i : Int) < σ 4 (σ 2 r).toNat) (k : Q (.inl (some (vJ (σ 5 (12 * (σ 2 r).toNat + i))))) h) : Wc (d + 1) 103 [vR (some (102 + r)), vI (i : Nat)] h Q := by
  rcases hV.2.1 r hr with ⟨a, -⟩ | ⟨id, a, b, c, x1, x2, x3, x4, ⟨n, n1, n2, n3⟩, x6⟩
  · omega
  · rw [b, Int.toNat_natCast] at k hi
    refine c_hget hS (ho_t hS hr) c (kt_ok _) n3 (by omega) ?_
    have e := x6 i hi
    unfold elem at e
    simp only [kt_105 x3 x4]
    rw [e]; exact k
theorem c_hkd {d : Nat} {Q : qt} {h : hp} {σ : zS} {ρ : Nat → Nat} {r : Nat} (hS : St h) (hV : XV h σ ρ) (hr : r < 14) (h0 : 0 ≤ σ 2 r) (k : Q (.inl (some (vI (σ 3 (σ 2 r).toNat)))) h) : Wc (d + 1) 104 [vR (some (102 + r))] h Q := by
  rcases hV.2.1 r hr with ⟨a, -⟩ | ⟨id, a, b, c, x1, x2, x3, x4, ⟨n, n1, n2, n3⟩, x6⟩
  · omega
  · rw [b, Int.toNat_natCast] at k
    refine c_hkind hS (ho_t hS hr) c (kt_ok _) n3 ?_
    rw [kt_k x3 x4]; exact k
/-- the place of an item -/
theorem c_placeOf {d : Nat} {Q : qt} {h : hp} {σ : zS} {ρ : Nat → Nat} {r : Nat} {i : Int} (hS : St h) (hV : XV h σ ρ) (hr : r < 6) (k1 : σ 2 r < 0 → Q (.inr 87) h) (k2 : 0 ≤ σ 2 r → (i < 0 ∨ σ 4 (σ 2 r).toNat ≤ i) → Q (.inr 88) h) (k3 : ∀ j : Nat, 0 ≤ σ 2 r → i = (j : Nat) → i < σ 4 (σ 2 r).toNat → j < 12 → Q (.inl (some (vI (j : Nat)))) h) : Wc (d + 2) 63 [vR (some 68), vI (r : Nat), vJ i] h Q := by
  refine se_X0_placeOf hS ?_
  refine c_rowOf hS hV hr k1 (fun h0 => ?_)
  refine ss_X0_placeOf_7 hS ?_
  rw [ofR_some]
  refine ip (by rw [ho_t hS (by omega)]) ?_
  refine c_hsz hS hV (by omega) h0 ?_
  refine ss_X0_placeOf_10 hS ?_
  have hz : ∃ n : Nat, n ≤ 12 ∧ σ 4 (σ 2 r).toNat = (n : Nat) := by
    rcases hV.2.1 r (by omega) with ⟨a, -⟩ | ⟨id, a, b, c, x1, x2, x3, x4, ⟨n, n1, n2, n3⟩, x6⟩
    · omega
    · exact ⟨n, n1, by rw [b, Int.toNat_natCast]; exact n2⟩
  obtain ⟨n, n1, n2⟩ := hz
  rw [n2] at k2 k3 ⊢
  rw [ns_eq (by omega) (by omega)]
  refine pu_isIn hS ?_
  refine ss_X0_placeOf_16 hS ?_
  by_cases q : 0 ≤ i ∧ i ≤ ((n : Nat) : Int) - 1
  · rw [show (decide (0 ≤ i) && decide (i ≤ ((n : Nat) : Int) - 1)) = true by simp; omega]
    refine im (by decide) ?_
    rw [l2i_eq (by omega) (by omega)]
    have q2 := k3 i.toNat h0 (by omega) (by omega) (by omega)
    rw [show ((i.toNat : Nat) : Int) = i by omega] at q2
    exact q2
  · rw [show (decide (0 ≤ i) && decide (i ≤ ((n : Nat) : Int) - 1)) = false by rw [Bool.eq_false_iff]; simp; omega]
    exact ip rfl (k2 h0 (by omega))
/-- x reckons -/
theorem c_eval {h : hp} {σ : zS} {ρ : Nat → Nat} {bn : Nat → Bool} {bi : Nat → Nat → Bool} {lo hi : Nat} (hS : St h) (hV : XV h σ ρ) (hB : XB h σ ρ bn bi) : ∀ (e : zT) (a d lv : Nat) (Q : qt), RE h lo hi e a → zok e lv → zht e + 5 ≤ d → EvQ (ev σ bn bi e) h Q → vsel VEv (hT h a).1 fun y => Wc d y [vR (some a), vR (some 68)] h Q := by
  intro e
  induction e with
  | leaf n => intro a d lv Q z; exact z.elim
  | branch c l r ihl ihr =>
    intro a d lv Q z hz hd k
    have hh : zht (.branch c l r) = max (zht l) (zht r) + 1 := rfl
    rw [hh] at hd
    obtain ⟨-, -, z⟩ := z
    obtain ⟨d, rfl⟩ : ∃ e, d = e + 5 := ⟨d - 5, by omega⟩
    unfold ev at k
    by_cases k2 : c = 2
    · rw [if_pos k2] at z k
      refine vsel_of (y := 256) (by rw [z.1]; rfl) (se_X8_eval hS z.1 ?_)
      rw [z.2]; exact k
    rw [if_neg k2] at z k
    by_cases k1 : c = 1
    · rw [if_pos k1] at z k
      subst k1
      have hz' : zn l < 26 := hz
      refine vsel_of (y := 260) (by rw [z.1]; rfl) (se_X9_eval hS z.1 ?_)
      refine se_X0_readName hS ?_
      rw [ofR_some, z.2, Int.toNat_natCast]
      obtain ⟨y1, y2, y3⟩ := hV.1 (zn l) hz'
      refine ⟨by rw [z.1]; simp, by omega, ?_⟩
      by_cases s0 : σ 0 (zn l) = 0
      · rw [if_pos s0] at k
        exact ip (by rw [y1]; exact s0) k
      · rw [if_neg s0] at k
        refine im (by rw [y1]; exact s0) ?_
        rw [ofR_some, z.2]
        refine ⟨by rw [z.1]; simp, ?_⟩
        have b := hB.1 (zn l) hz'
        by_cases q : ((zn l : Nat) : Int) = hI h 68 28
        · rw [if_pos (by rw [b]; exact decide_eq_true q.symm)] at k
          exact ip q k
        · rw [if_neg (by rw [b]; simp; exact fun z => q z.symm)] at k
          refine im q ?_
          rw [ofR_some, z.2, Int.toNat_natCast]
          refine ⟨by rw [z.1]; simp, by omega, ?_⟩
          rw [y3 (by omega)]
          exact k
    rw [if_neg k1] at z k
    by_cases k35 : c = 35
    · rw [if_pos k35] at z k
      subst k35
      have hz' : zn l < 6 := hz
      refine vsel_of (y := 268) (by rw [z.1]; rfl) (se_X11_eval hS z.1 ?_)
      rw [z.2]
      refine c_rowOf hS hV hz' (fun q => ?_) (fun q => ?_)
      · rw [if_pos q] at k; exact k
      · rw [if_neg (by omega)] at k
        refine ss_X11_eval_8 hS z.1 ?_
        rw [ofR_some]
        refine ip (by rw [ho_t hS (by omega)]) ?_
        refine c_hsz hS hV (by omega) q ?_
        exact ss_X11_eval_11 hS z.1 k
    rw [if_neg k35] at z k
    by_cases k3 : c = 3
    · rw [if_pos k3] at z k
      subst k3
      obtain ⟨z1, z2, b, z3, z4⟩ := z
      have hz' : zn l < 6 ∧ zok r 0 := hz
      refine vsel_of (y := 264) (by rw [z1]; rfl) (se_X10_eval hS z1 ?_)
      rw [z3, ofR_some]
      refine ihr b (d + 4) 0 _ z4 hz'.2 (by omega) ?_
      cases he : ev σ bn bi r with
      | inl w => rw [he] at k; exact k
      | inr i =>
        rw [he] at k
        dsimp only at k
        refine ss_X10_eval_13 hS z1 ?_
        rw [z2]
        refine se_X0_readItem hS ?_
        refine c_placeOf hS hV hz'.1 (fun q => ?_) (fun q q2 => ?_) (fun j q e1 e2 e3 => ?_)
        · rw [if_pos q] at k; exact k
        · rw [if_neg (by omega), if_pos q2] at k; exact k
        · subst e1
          rw [if_neg (by omega), if_neg (by omega), Int.toNat_natCast] at k
          refine ss_X0_readItem_6 hS ⟨by omega, ?_⟩
          rw [Int.toNat_natCast, ho_r hS hz'.1, ofR_some]
          refine ⟨by rw [ho_t hS (by omega)]; simp, ?_⟩
          rcases hV.2.1 (zn l) (by omega) with ⟨a', -⟩ | ⟨id, a', b', c', x1, -⟩
          · omega
          · have bb := hB.2 (zn l) id j hz'.1 b'
            rw [c']
            refine ⟨fun _ _ e1 _ => Or.inr (Or.inl (by cases e1; omega)), ?_⟩
            have hid : (σ 2 (zn l)).toNat = id := by rw [b', Int.toNat_natCast]
            by_cases r1 : some (ρ id) = hR h 68 29
            · refine ip r1 ?_
              by_cases r2 : ((j : Nat) : Int) = hI h 68 30
              · rw [hid, if_pos (by rw [bb]; exact decide_eq_true ⟨r1.symm, r2.symm⟩)] at k
                exact ip r2 k
              · rw [if_neg (by rw [hid, bb]; simp; exact fun _ z => r2 z.symm)] at k
                refine im r2 ⟨by omega, ?_⟩
                rw [ofR_some]
                refine ip (by rw [ho_t hS (by omega)]) ?_
                exact c_hgt hS hV (by omega) q e2 k
            · rw [if_neg (by rw [hid, bb]; simp; exact fun z => absurd z.symm r1)] at k
              refine im r1 ⟨by omega, ?_⟩
              rw [ofR_some]
              refine ip (by rw [ho_t hS (by omega)]) ?_
              exact c_hgt hS hV (by omega) q e2 k
    rw [if_neg k3] at z k
    by_cases k8 : c = 8
    · rw [if_pos k8] at z k
      subst k8
      obtain ⟨z1, b, z3, z4⟩ := z
      refine vsel_of (y := 272) (by rw [z1]; rfl) (se_X12_eval hS z1 ?_)
      rw [z3, ofR_some]
      refine ihl b (d + 4) 2 _ z4 hz (by omega) ?_
      cases he : ev σ bn bi l with
      | inl w => rw [he] at k; exact k
      | inr i => rw [he] at k; exact ss_X12_eval_8 hS z1 k
    rw [if_neg k8] at z k
    by_cases k40 : c = 40
    · rw [if_pos k40] at z k
      subst k40
      obtain ⟨z1, b, z3, z4⟩ := z
      refine vsel_of (y := 283) (by rw [z1]; rfl) (se_X15_eval hS z1 ?_)
      rw [z3, ofR_some]
      refine ihl b (d + 4) 0 _ z4 hz (by omega) ?_
      cases he : ev σ bn bi l with
      | inl w => rw [he] at k; exact k
      | inr i => rw [he] at k; exact k
    rw [if_neg k40] at z k
    obtain ⟨z1, z2, b, b2, z3, z4, z5, z6⟩ := z
    obtain ⟨hc, v, w, h1, h2⟩ := two_k hz k1 k2 k35 k3 k8 k40
    have hm : (hT h a).1 ∈ [14, 16, 17] := by
      rw [z1]
      split
      · simp
      · split <;> simp
    have hv : vfind VEv (hT h a).1 = some 276 := by
      rw [z1]
      split
      · rfl
      · split <;> rfl
    refine vsel_of (y := 276) hv (se_X13_eval hS hm ?_)
    rw [z3, ofR_some]
    refine ihl b (d + 4) v _ z5 h1 (by omega) ?_
    cases he : ev σ bn bi l with
    | inl w => rw [he] at k; exact k
    | inr x =>
      rw [he] at k
      dsimp only at k
      refine ss_X13_eval_8 hS hm ?_
      rw [z4, ofR_some]
      refine ihr b2 (d + 4) w _ z6 h2 (by omega) ?_
      cases he2 : ev σ bn bi r with
      | inl w => rw [he2] at k; exact k
      | inr y =>
        rw [he2] at k
        dsimp only at k
        refine ss_X13_eval_20 hS hm ?_
        rw [ofR_some]
        unfold rk at k
        rcases hc with q | q | q | q | q | q | q | q | q | q
        · subst q
          refine vsel_of (y := 279) (by rw [z1]; rfl) (se_X14_reckon hS z1 ?_)
          rw [z2]
          refine ip rfl ?_
          by_cases lt : x < y
          · rw [if_pos rfl, if_pos lt] at k; exact ip lt k
          · rw [if_pos rfl, if_neg lt] at k; exact im lt k
        · subst q
          refine vsel_of (y := 279) (by rw [z1]; rfl) (se_X14_reckon hS z1 ?_)
          rw [z2]
          refine im (by decide) ?_
          by_cases lt : x = y
          · rw [if_neg (by decide), if_pos rfl, if_pos lt] at k; exact ip lt k
          · rw [if_neg (by decide), if_pos rfl, if_neg lt] at k; exact im lt k
        · subst q
          refine vsel_of (y := 287) (by rw [z1]; rfl) (se_X17_reckon hS z1 ?_)
          rw [z2]; exact ip rfl k
        · subst q
          refine vsel_of (y := 287) (by rw [z1]; rfl) (se_X17_reckon hS z1 ?_)
          rw [z2]; exact im (by decide) (ip rfl k)
        · subst q
          refine vsel_of (y := 287) (by rw [z1]; rfl) (se_X17_reckon hS z1 ?_)
          rw [z2]; exact im (by decide) (im (by decide) (ip rfl k))
        · subst q
          refine vsel_of (y := 287) (by rw [z1]; rfl) (se_X17_reckon hS z1 ?_)
          rw [z2]; exact im (by decide) (im (by decide) (im (by decide) k))
        · subst q
          refine vsel_of (y := 285) (by rw [z1]; rfl) (se_X16_reckon hS z1 ?_)
          rw [z2]; exact ip rfl k
        · subst q
          refine vsel_of (y := 285) (by rw [z1]; rfl) (se_X16_reckon hS z1 ?_)
          rw [z2]
          refine im (by decide) (im (by decide) ?_)
          by_cases y0 : y = 0
          · have k' : EvQ (if y = 0 then .inl 4 else .inr (l_div x y)) h Q := k
            rw [if_pos y0] at k'; exact ip y0 k'
          · have k' : EvQ (if y = 0 then .inl 4 else .inr (l_div x y)) h Q := k
            rw [if_neg y0] at k'; exact im y0 (ip rfl ⟨y0, k'⟩)
        · subst q
          refine vsel_of (y := 285) (by rw [z1]; rfl) (se_X16_reckon hS z1 ?_)
          rw [z2]
          refine im (by decide) (im (by decide) ?_)
          by_cases y0 : y = 0
          · have k' : EvQ (if y = 0 then .inl 4 else .inr (l_rem x y)) h Q := k
            rw [if_pos y0] at k'; exact ip y0 k'
          · have k' : EvQ (if y = 0 then .inl 4 else .inr (l_rem x y)) h Q := k
            rw [if_neg y0] at k'; exact im y0 (im (by decide) ⟨y0, k'⟩)
        · subst q
          refine vsel_of (y := 285) (by rw [z1]; rfl) (se_X16_reckon hS z1 ?_)
          rw [z2]; exact im (by decide) (ip rfl k)
