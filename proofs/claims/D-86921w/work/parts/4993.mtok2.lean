/-! m turns: tokens that are looked at -/
def tin (n : Nat) : List (Nat × Nat) → Bool
  | [] => false
  | x :: A => decide (x = (1, n)) || tin n A
theorem tin_app (n : Nat) (A B : List (Nat × Nat)) : tin n (A ++ B) = (tin n A || tin n B) := by
  induction A with
  | nil => rfl
  | cons x A ih => show (decide (x = (1, n)) || tin n (A ++ B)) = ((decide (x = (1, n)) || tin n A) || tin n B); rw [ih, Bool.or_assoc]
theorem tf_tin (c : Nat) : ∀ (A : List (Nat × Nat)) (z : Nat × Nat × Nat × Nat), (tf A z).2.2.2.testBit c = (z.2.2.2.testBit c || tin c A) := by
  intro A
  induction A with
  | nil => intro z; show z.2.2.2.testBit c = _; rw [show tin c [] = false from rfl, Bool.or_false]
  | cons x A ih =>
    intro z
    obtain ⟨o, m, s, n⟩ := z
    obtain ⟨a, b⟩ := x
    show (tf A _).2.2.2.testBit c = _
    rw [ih]
    show ((n ||| (if a = 1 then 2 ^ b else 0)).testBit c || tin c A) = (n.testBit c || (decide ((a, b) = (1, c)) || tin c A))
    rw [Nat.testBit_or, Bool.or_assoc]
    congr 2
    by_cases h : a = 1
    · subst h
      rw [if_pos rfl, Nat.testBit_two_pow, Bool.eq_iff_iff]
      simp
    · rw [if_neg h, Nat.zero_testBit, Bool.eq_iff_iff]
      simp [h]
theorem tin_e {e : zT} {lv c : Nat} (o : zok e lv) (hc : c < 26) : tin c (zk e) = zhas c e := by
  have h1 := tf_tin c (zk e) (0, 0, 0, 0)
  have h2 := tf_e e lv [] 0 0 0 0 o (Nat.le_refl _)
  rw [List.append_nil] at h2
  rw [h2] at h1
  have h3 : (0 ||| zbits e).testBit c = ((0 : Nat).testBit c || tin c (zk e)) := h1
  rw [Nat.zero_testBit, Bool.false_or, Nat.zero_or, zbits_has e lv c o hc] at h3
  exact h3.symm
theorem tin_t {t : zT} (o : okS t 0) (c : Nat) : tin c (zk t) = (zbits t).testBit c := by
  have h1 := tf_tin c (zk t) (0, 0, 0, 0)
  rw [tf_whole o] at h1
  have h3 : (zbits t).testBit c = ((0 : Nat).testBit c || tin c (zk t)) := h1
  rw [Nat.zero_testBit, Bool.false_or] at h3
  exact h3.symm
/-! sums of an expression itself -/
def tsu (x : Nat × Nat) : Bool := decide (x.1 = 7) && zsum x.2
def tst2 (x : Nat × Nat) : Int := if x = (7, 40) ∨ x = (7, 91) then 1 else if x = (7, 41) ∨ x = (7, 93) then -1 else 0
def tsm : List (Nat × Nat) → Int → Nat
  | [], _ => 0
  | x :: A, o => (if o = 0 ∧ tsu x = true then 1 else 0) + tsm A (o + tst2 x)
def zsm : zT → Nat
  | .leaf _ => 0
  | .branch k l _ => if zsum k = true then zsm l + 1 else 0
theorem zsm_1 {e : zT} {lv : Nat} (o : zok e lv) (h : 1 ≤ lv) : zsm e = 0 := by
  cases e with
  | leaf v => rfl
  | branch k l r =>
    show (if zsum k = true then zsm l + 1 else 0) = 0
    by_cases q : zsum k = true
    · exfalso
      have hk := zsum_k q
      rcases hk with y | y | y | y <;> subst y <;> (have := o.1; omega)
    · rw [if_neg q]
theorem tsm_n {x : Nat × Nat} {A : List (Nat × Nat)} {o : Int} (h1 : tsu x = false) (h2 : tst2 x = 0) : tsm (x :: A) o = tsm A o := by
  show (if o = 0 ∧ tsu x = true then 1 else 0) + tsm A (o + tst2 x) = _
  rw [h1, h2, if_neg (fun z => absurd z.2 (by decide)), Int.add_zero, Nat.zero_add]
theorem tsm_o {x : Nat × Nat} {A : List (Nat × Nat)} {o : Int} (h1 : tsu x = false) (h2 : tst2 x = 1) : tsm (x :: A) o = tsm A (o + 1) := by
  show (if o = 0 ∧ tsu x = true then 1 else 0) + tsm A (o + tst2 x) = _
  rw [h1, h2, if_neg (fun z => absurd z.2 (by decide)), Nat.zero_add]
theorem tsm_c {x : Nat × Nat} {A : List (Nat × Nat)} {o : Int} (h1 : tsu x = false) (h2 : tst2 x = -1) : tsm (x :: A) (o + 1) = tsm A o := by
  show (if o + 1 = 0 ∧ tsu x = true then 1 else 0) + tsm A (o + 1 + tst2 x) = _
  rw [h1, h2, if_neg (fun z => absurd z.2 (by decide)), Nat.zero_add, show o + 1 + -1 = o by omega]
theorem tsm_s {k : Nat} {A : List (Nat × Nat)} {o : Int} (h1 : zsum k = true) : tsm ((7, k) :: A) o = (if o = 0 then 1 else 0) + tsm A o := by
  have hk := zsum_k h1
  have h2 : tst2 (7, k) = 0 := by rcases hk with y | y | y | y <;> subst y <;> decide
  have h3 : tsu (7, k) = true := h1
  show (if o = 0 ∧ tsu (7, k) = true then 1 else 0) + tsm A (o + tst2 (7, k)) = _
  rw [h2, h3, Int.add_zero]
  by_cases q : o = 0
  · rw [if_pos ⟨q, rfl⟩, if_pos q]
  · rw [if_neg (fun z => q z.1), if_neg q]
theorem tsm_1 (n : Nat) : tsu (1, n) = false ∧ tst2 (1, n) = 0 := ⟨rfl, by unfold tst2; simp⟩
theorem tsm_2 (n : Nat) : tsu (2, n) = false ∧ tst2 (2, n) = 0 := ⟨rfl, by unfold tst2; simp⟩
theorem tsm_3 (n : Nat) : tsu (3, n) = false ∧ tst2 (3, n) = 0 := ⟨rfl, by unfold tst2; simp⟩
theorem tsm_8 (n : Nat) : tsu (8, n) = false ∧ tst2 (8, n) = 0 := ⟨rfl, by unfold tst2; simp⟩
theorem tsm_e : ∀ (e : zT) (lv : Nat) (B : List (Nat × Nat)) (o : Int), zok e lv → 0 ≤ o → tsm (zk e ++ B) o = (if o = 0 then zsm e else 0) + tsm B o := by
  intro e
  induction e with
  | leaf n => intro lv B o h; exact h.elim
  | branch c l r ihl ihr =>
    intro lv B o h ho
    have z0 : ∀ (k : Nat) (l r : zT), zsum k = false → (if o = 0 then zsm (.branch k l r) else 0) = 0 := by
      intro k l r q
      have : zsm (.branch k l r) = 0 := by show (if zsum k = true then zsm l + 1 else 0) = 0; rw [q]; rfl
      rw [this]; split <;> rfl
    have o1 : ¬ (o + 1 = 0) := by omega
    by_cases k1 : c = 1
    · subst k1
      rw [z0 1 l r rfl]
      show tsm ((1, zn l) :: B) o = _
      rw [tsm_n (tsm_1 _).1 (tsm_1 _).2, Nat.zero_add]
    by_cases k2 : c = 2
    · subst k2
      rw [z0 2 l r rfl]
      show tsm ((2, zn l) :: B) o = _
      rw [tsm_n (tsm_2 _).1 (tsm_2 _).2, Nat.zero_add]
    by_cases k35 : c = 35
    · subst k35
      rw [z0 35 l r rfl]
      show tsm ((7, 35) :: (3, zn l) :: B) o = _
      rw [tsm_n (by decide) (by decide), tsm_n (tsm_3 _).1 (tsm_3 _).2, Nat.zero_add]
    by_cases k3 : c = 3
    · subst k3
      rw [z0 3 l r rfl]
      show tsm ((3, zn l) :: (7, 91) :: (zk r ++ [(7, 93)] ++ B)) o = _
      rw [tsm_n (tsm_3 _).1 (tsm_3 _).2, tsm_o (by decide) (by decide), List.append_assoc, ihr 0 _ _ h.2 (by omega), if_neg o1, Nat.zero_add, Nat.zero_add]
      show tsm ((7, 93) :: B) (o + 1) = _
      rw [tsm_c (by decide) (by decide)]
    by_cases k8 : c = 8
    · subst k8
      rw [z0 8 l r rfl]
      show tsm ((8, 45) :: (zk l ++ B)) o = _
      rw [tsm_n (tsm_8 _).1 (tsm_8 _).2, ihl 2 _ _ h ho, zsm_1 (lv := 2) h (by decide)]
      split <;> rfl
    by_cases k40 : c = 40
    · subst k40
      rw [z0 40 l r rfl]
      show tsm ((7, 40) :: (zk l ++ [(7, 41)] ++ B)) o = _
      rw [tsm_o (by decide) (by decide), List.append_assoc, ihl 0 _ _ h (by omega), if_neg o1, Nat.zero_add, Nat.zero_add]
      show tsm ((7, 41) :: B) (o + 1) = _
      rw [tsm_c (by decide) (by decide)]
    by_cases k6 : c = 60 ∨ c = 61
    · have q : zsum c = false := by rcases k6 with y | y <;> subst y <;> rfl
      have e1 : zk (.branch c l r) = (7, 40) :: (zk l ++ (7, c) :: (zk r ++ [(7, 41)])) := by rcases k6 with y | y <;> subst y <;> rfl
      have e2 : zok l 0 ∧ zok r 0 := by rcases k6 with y | y <;> subst y <;> exact h
      have e3 : tsu (7, c) = false ∧ tst2 (7, c) = 0 := by rcases k6 with y | y <;> subst y <;> decide
      rw [z0 c l r q, e1, List.cons_append, List.append_assoc, List.cons_append, List.append_assoc, tsm_o (by decide) (by decide), ihl 0 _ _ e2.1 (by omega), if_neg o1, Nat.zero_add, tsm_n e3.1 e3.2, ihr 0 _ _ e2.2 (by omega), if_neg o1, Nat.zero_add, Nat.zero_add]
      show tsm ((7, 41) :: B) (o + 1) = _
      rw [tsm_c (by decide) (by decide)]
    obtain ⟨hc, v, w, h1, h2⟩ := two_k h k1 k2 k35 k3 k8 k40
    have e1 : zk (.branch c l r) = zk l ++ (7, c) :: zk r := by
      have : c = 43 ∨ c = 45 ∨ c = 94 ∨ c = 124 ∨ c = 42 ∨ c = 47 ∨ c = 37 ∨ c = 38 := by omega
      rcases this with y | y | y | y | y | y | y | y <;> subst y <;> rfl
    rw [e1, List.append_assoc, List.cons_append]
    by_cases q : zsum c = true
    · have hk := zsum_k q
      have e2 : zok l 0 ∧ zok r 1 := by rcases hk with y | y | y | y <;> subst y <;> exact h.2
      rw [ihl 0 _ _ e2.1 ho, tsm_s q, ihr 1 _ _ e2.2 ho, zsm_1 e2.2 (by decide), show zsm (.branch c l r) = zsm l + 1 by show (if zsum c = true then zsm l + 1 else 0) = _; rw [if_pos q]]
      split <;> omega
    · have q' : zsum c = false := by cases hz : zsum c with
        | true => exact absurd hz q
        | false => rfl
      have hp : zok l 1 ∧ zok r 2 ∧ tsu (7, c) = false ∧ tst2 (7, c) = 0 := by
        have : c = 42 ∨ c = 47 ∨ c = 37 ∨ c = 38 := by
          rcases hc with y | y | y | y | y | y | y | y | y | y <;> first | omega | (subst y; exact absurd rfl q)
        rcases this with y | y | y | y <;> subst y <;> exact ⟨h.2.1, h.2.2, by decide, by decide⟩
      rw [z0 c l r q', ihl 1 _ _ hp.1 ho, tsm_n hp.2.2.1 hp.2.2.2, ihr 2 _ _ hp.2.1 ho, zsm_1 hp.1 (by decide), zsm_1 hp.2.1 (by decide)]
      split <;> omega
theorem zk_pos (e : zT) (lv : Nat) (h : zok e lv) : 0 < (zk e).length := by
  cases e with
  | leaf v => exact h.elim
  | branch c l r =>
    by_cases k1 : c = 1
    · subst k1; exact Nat.succ_pos _
    by_cases k2 : c = 2
    · subst k2; exact Nat.succ_pos _
    by_cases k35 : c = 35
    · subst k35; exact Nat.succ_pos _
    by_cases k3 : c = 3
    · subst k3; exact Nat.succ_pos _
    by_cases k8 : c = 8
    · subst k8; exact Nat.succ_pos _
    by_cases k40 : c = 40
    · subst k40; exact Nat.succ_pos _
    by_cases k6 : c = 60 ∨ c = 61
    · rcases k6 with y | y <;> subst y <;> exact Nat.succ_pos _
    obtain ⟨hc, v, w, h1, h2⟩ := two_k h k1 k2 k35 k3 k8 k40
    have e1 : zk (.branch c l r) = zk l ++ (7, c) :: zk r := by
      have : c = 43 ∨ c = 45 ∨ c = 94 ∨ c = 124 ∨ c = 42 ∨ c = 47 ∨ c = 37 ∨ c = 38 := by omega
      rcases this with y | y | y | y | y | y | y | y <;> subst y <;> rfl
    rw [e1, List.length_append, List.length_cons]
    omega
/-- an expression that begins with a name -/
theorem fst_n : ∀ (e : zT) (lv n : Nat) (A : List (Nat × Nat)), zok e lv → zk e = (1, n) :: A → (zg e = 1 ∧ zn (zl e) = n ∧ A = []) ∨ ∃ c A', A = (7, c) :: A' ∧ (zsm e = 0 → zsum c = false) := by
  intro e
  induction e with
  | leaf v => intro lv n A h; exact h.elim
  | branch c l r ihl ihr =>
    intro lv n A h hz
    by_cases k1 : c = 1
    · subst k1
      have hz' : [(1, zn l)] = (1, n) :: A := hz
      injection hz' with a1 a2
      injection a1 with a3 a4
      exact Or.inl ⟨rfl, a4, a2.symm⟩
    by_cases k2 : c = 2
    · subst k2; have hz' : [(2, zn l)] = (1, n) :: A := hz; injection hz' with a1 a2; injection a1 with a3; exact absurd a3 (by decide)
    by_cases k35 : c = 35
    · subst k35; have hz' : [(7, 35), (3, zn l)] = (1, n) :: A := hz; injection hz' with a1 a2; injection a1 with a3; exact absurd a3 (by decide)
    by_cases k3 : c = 3
    · subst k3; have hz' : (3, zn l) :: (7, 91) :: (zk r ++ [(7, 93)]) = (1, n) :: A := hz; injection hz' with a1 a2; injection a1 with a3; exact absurd a3 (by decide)
    by_cases k8 : c = 8
    · subst k8; have hz' : (8, 45) :: zk l = (1, n) :: A := hz; injection hz' with a1 a2; injection a1 with a3; exact absurd a3 (by decide)
    by_cases k40 : c = 40
    · subst k40; have hz' : (7, 40) :: (zk l ++ [(7, 41)]) = (1, n) :: A := hz; injection hz' with a1 a2; injection a1 with a3; exact absurd a3 (by decide)
    by_cases k6 : c = 60 ∨ c = 61
    · have e1 : zk (.branch c l r) = (7, 40) :: (zk l ++ (7, c) :: (zk r ++ [(7, 41)])) := by rcases k6 with y | y <;> subst y <;> rfl
      rw [e1] at hz; injection hz with a1 a2; injection a1 with a3; exact absurd a3 (by decide)
    obtain ⟨hc, v, w, h1, h2⟩ := two_k h k1 k2 k35 k3 k8 k40
    have e1 : zk (.branch c l r) = zk l ++ (7, c) :: zk r := by
      have : c = 43 ∨ c = 45 ∨ c = 94 ∨ c = 124 ∨ c = 42 ∨ c = 47 ∨ c = 37 ∨ c = 38 := by omega
      rcases this with y | y | y | y | y | y | y | y <;> subst y <;> rfl
    rw [e1] at hz
    right
    cases hl : zk l with
    | nil =>
      exfalso
      have : 0 < (zk l).length := zk_pos l v h1
      rw [hl] at this
      exact absurd this (by decide)
    | cons x L =>
      rw [hl] at hz
      injection hz with a1 a2
      subst a1
      have hs : zsm (.branch c l r) = 0 → zsum c = false := by
        intro z
        cases q : zsum c with
        | false => rfl
        | true => have z' : (if zsum c = true then zsm l + 1 else 0) = 0 := z; rw [if_pos q] at z'; exact absurd z' (by omega)
      rcases ihl v n L h1 hl with ⟨b1, b2, b3⟩ | ⟨c2, A', b3, b4⟩
      · subst b3
        exact ⟨c, zk r, a2.symm, hs⟩
      · subst b3
        refine ⟨c2, A' ++ (7, c) :: zk r, a2.symm, fun z => b4 ?_⟩
        have q := hs z
        have : c = 42 ∨ c = 47 ∨ c = 37 ∨ c = 38 := by
          rcases hc with y | y | y | y | y | y | y | y | y | y <;> first | omega | (subst y; exact absurd q (by decide))
        have hl1 : zok l 1 := by rcases this with y | y | y | y <;> subst y <;> exact h.2.1
        exact zsm_1 hl1 (by decide)
/-- m's test whether a set is a plain one -/
def mplT (n : Nat) (e : zT) : Bool := decide ((zk e)[0]? = some (1, n)) && (decide (tsm (zk e) 0 = 1) && (tsu ((zk e ++ [(7, 59)]).getD 1 (0, 0)) && (decide (((zk e ++ [(7, 59)]).getD 1 (0, 0)).2 ≠ 124) && !tin n ((zk e).drop 2))))
theorem mplT_eq {n : Nat} {e : zT} (hn : n < 26) (o : okE e) : mplT n e = zpl n e := by
  rw [Bool.eq_iff_iff]
  have ts := tsm_e e 0 [] 0 o.1 (Int.le_refl _)
  rw [List.append_nil, if_pos rfl, show tsm [] 0 = 0 from rfl, Nat.add_zero] at ts
  constructor
  · intro h
    unfold mplT at h
    simp only [Bool.and_eq_true, decide_eq_true_eq, Bool.not_eq_true'] at h
    obtain ⟨h1, h2, h3, h4, h5⟩ := h
    rw [ts] at h2
    cases e with
    | leaf v => exact o.1.elim
    | branch k l r =>
      have h2' : (if zsum k = true then zsm l + 1 else 0) = 1 := h2
      by_cases q : zsum k = true
      · rw [if_pos q] at h2'
        have hk := zsum_k q
        have e1 : zk (.branch k l r) = zk l ++ (7, k) :: zk r := by rcases hk with y | y | y | y <;> subst y <;> rfl
        have e2 : zok l 0 ∧ zok r 1 := by rcases hk with y | y | y | y <;> subst y <;> exact o.1.2
        rw [e1] at h1 h3 h4 h5
        have sl : zsm l = 0 := by omega
        cases hl : zk l with
        | nil => have : 0 < (zk l).length := zk_pos l 0 e2.1; rw [hl] at this; exact absurd this (by decide)
        | cons x L =>
          rw [hl] at h1 h3 h4 h5
          have x1 : x = (1, n) := by simpa using h1
          subst x1
          rcases fst_n l 0 n L e2.1 hl with ⟨b1, b2, b3⟩ | ⟨c2, A', b3, b4⟩
          · subst b3
            have h4' : k ≠ 124 := by simpa using h4
            have h5' : tin n (zk r) = false := by simpa using h5
            rw [tin_e e2.2 hn] at h5'
            unfold zpl
            simp only [Bool.and_eq_true, decide_eq_true_eq, Bool.not_eq_true']
            exact ⟨by show k = 43 ∨ k = 45 ∨ k = 94; omega, b1, b2, h5'⟩
          · subst b3
            have h3' : zsum c2 = true := by simpa [tsu] using h3
            rw [b4 sl] at h3'
            cases h3'
      · rw [if_neg q] at h2'; cases h2'
  · intro h
    obtain ⟨k, l, r, ee, hk, ek, nr, or⟩ := zpl_t o h
    have sl : zsm e = 1 := by
      rw [ee]
      have q : zsum k = true := by rcases hk with y | y | y <;> subst y <;> rfl
      show (if zsum k = true then zsm l + 1 else 0) = 1
      rw [if_pos q]
      have zl1 : zg l = 1 := by
        unfold zpl at h
        simp only [Bool.and_eq_true, decide_eq_true_eq] at h
        rw [ee] at h
        exact h.2.1
      have : zsm l = 0 := by
        cases l with
        | leaf v => rfl
        | branch a b c => have : a = 1 := zl1; subst this; rfl
      omega
    unfold mplT
    rw [ts, sl, ek]
    have e5 : tin n (List.drop 2 ((1, n) :: (7, k) :: zk r)) = false := by show tin n (zk r) = false; rw [tin_e or.1 hn]; exact nr
    rw [e5]
    rcases hk with y | y | y <;> subst y <;> simp [tsu, zsum]
