/-! x prints expressions -/
def PxQ (h : hp) (O : List Int) (g : Bool) (A : List (Nat × Nat)) (Q : hp → Prop) : Prop := (O ++ pbs A g).length ≤ 6000 ∧ ∀ h', FP h h' → Xp h' (O ++ pbs A g) (pgl A g) → Q h'
theorem Px_l {h : hp} {O : List Int} {g : Bool} {A B : List (Nat × Nat)} {Q : hp → Prop} (P : PxQ h O g (A ++ B) Q) : (O ++ pbs A g).length ≤ 6000 := by
  have := P.1
  rw [pbs_app] at this
  simp at this ⊢
  omega
theorem Px_r {h h1 : hp} {O : List Int} {g : Bool} {A B : List (Nat × Nat)} {Q : hp → Prop} (P : PxQ h O g (A ++ B) Q) (F : FP h h1) : PxQ h1 (O ++ pbs A g) (pgl A g) B Q := by
  obtain ⟨p1, p2⟩ := P
  rw [pbs_app] at p1 p2
  rw [pgl_app] at p2
  refine ⟨by rw [List.append_assoc]; exact p1, fun h' F' X' => p2 h' (FP_trans F F') ?_⟩
  rw [List.append_assoc] at X'
  exact X'
theorem Px_e {h : hp} {O : List Int} {g : Bool} {Q : hp → Prop} (X : Xp h O g) (P : PxQ h O g [] Q) : Q h := P.2 h (FP_refl X.1) (by show Xp h (O ++ []) g; rw [List.append_nil]; exact X)
theorem q_sign {d : Nat} {Q : qt} {Q0 : hp → Prop} {h : hp} {O : List Int} {g : Bool} {c : Int} {x : Nat × Nat} {B : List (Nat × Nat)} (X : Xp h O g) (P : PxQ h O g (x :: B) Q0) (hc : 32 ≤ c ∧ c ≤ 126) (e1 : ptk x = [c]) (e2 : pcl x = false) (e3 : pgu x = false) (k : ∀ h1 O1 g1, FP h h1 → Xp h1 O1 g1 → PxQ h1 O1 g1 B Q0 → Q (.inl none) h1) : Wc (d + 3) 48 [vR (some 68), vI c] h Q := by
  have P' : PxQ h O g ([x] ++ B) Q0 := P
  refine c_pSign X hc e1 e2 e3 (Px_l P') (fun h1 F1 X1 => k h1 _ _ F1 X1 ?_)
  have := Px_r P' F1
  rw [show pgl [x] g = false from e3] at this
  exact this
theorem q_open {d : Nat} {Q : qt} {Q0 : hp → Prop} {h : hp} {O : List Int} {g : Bool} {c : Int} {x : Nat × Nat} {B : List (Nat × Nat)} (X : Xp h O g) (P : PxQ h O g (x :: B) Q0) (hc : 32 ≤ c ∧ c ≤ 126) (e1 : ptk x = [c]) (e2 : pcl x = false) (e3 : pgu x = true) (k : ∀ h1 O1 g1, FP h h1 → Xp h1 O1 g1 → PxQ h1 O1 g1 B Q0 → Q (.inl none) h1) : Wc (d + 4) 49 [vR (some 68), vI c] h Q := by
  have P' : PxQ h O g ([x] ++ B) Q0 := P
  refine c_pOpen X hc e1 e2 (Px_l P') (fun h1 F1 X1 => k h1 _ _ F1 X1 ?_)
  have := Px_r P' F1
  rw [show pgl [x] g = true from e3] at this
  exact this
theorem q_join {d : Nat} {Q : qt} {Q0 : hp → Prop} {h : hp} {O : List Int} {g : Bool} {c : Int} {x : Nat × Nat} {B : List (Nat × Nat)} (X : Xp h O g) (P : PxQ h O g (x :: B) Q0) (hc : 32 ≤ c ∧ c ≤ 126) (e1 : ptk x = [c]) (e2 : pcl x = true) (e3 : pgu x = true) (k : ∀ h1 O1 g1, FP h h1 → Xp h1 O1 g1 → PxQ h1 O1 g1 B Q0 → Q (.inl none) h1) : Wc (d + 2) 50 [vR (some 68), vI c] h Q := by
  have P' : PxQ h O g ([x] ++ B) Q0 := P
  refine c_pJoin X hc e1 e2 (Px_l P') (fun h1 F1 X1 => k h1 _ _ F1 X1 ?_)
  have := Px_r P' F1
  rw [show pgl [x] g = true from e3] at this
  exact this
theorem q_behind {d : Nat} {Q : qt} {Q0 : hp → Prop} {h : hp} {O : List Int} {g : Bool} {c : Int} {x : Nat × Nat} {B : List (Nat × Nat)} (X : Xp h O g) (P : PxQ h O g (x :: B) Q0) (hc : 32 ≤ c ∧ c ≤ 126) (e1 : ptk x = [c]) (e2 : pcl x = true) (e3 : pgu x = false) (k : ∀ h1 O1 g1, FP h h1 → Xp h1 O1 g1 → PxQ h1 O1 g1 B Q0 → Q (.inl none) h1) : Wc (d + 2) 52 [vR (some 68), vI c] h Q := by
  have P' : PxQ h O g ([x] ++ B) Q0 := P
  refine c_pBehind X hc e1 e2 (Px_l P') (fun h1 F1 X1 => k h1 _ _ F1 X1 ?_)
  have := Px_r P' F1
  rw [show pgl [x] g = false from e3] at this
  exact this
theorem q_num {d n : Nat} {Q : qt} {Q0 : hp → Prop} {h : hp} {O : List Int} {g : Bool} {B : List (Nat × Nat)} (X : Xp h O g) (P : PxQ h O g ((2, n) :: B) Q0) (hn : n < 1000000000) (k : ∀ h1 O1 g1, FP h h1 → Xp h1 O1 g1 → PxQ h1 O1 g1 B Q0 → Q (.inl none) h1) : Wc (d + 3) 51 [vR (some 68), vI (n : Nat)] h Q := by
  have P' : PxQ h O g ([(2, n)] ++ B) Q0 := P
  exact c_pNum X hn (Px_l P') (fun h1 F1 X1 => k h1 _ _ F1 X1 (Px_r P' F1))
theorem q_word {d a : Nat} {Q : qt} {Q0 : hp → Prop} {h : hp} {O : List Int} {g : Bool} {bs : List Nat} {x : Nat × Nat} {B : List (Nat × Nat)} (X : Xp h O g) (P : PxQ h O g (x :: B) Q0) (hB : ∀ {h}, St h → Ss h a bs) (hl1 : bs.length < 1000) (l0 : 0 < bs.length) (hb : ∀ b ∈ bs, 32 ≤ b ∧ b ≤ 126) (e1 : ptk x = bsI bs) (e2 : pcl x = false) (e3 : pgu x = false) (k : ∀ h1 O1 g1, FP h h1 → Xp h1 O1 g1 → PxQ h1 O1 g1 B Q0 → Q (.inl none) h1) : Wc (d + 6) 45 [vR (some 68), vR (some a)] h Q := by
  have P' : PxQ h O g ([x] ++ B) Q0 := P
  refine c_pWord X hB hl1 l0 hb e1 e2 (Px_l P') (fun h1 F1 X1 => k h1 _ _ F1 X1 ?_)
  have := Px_r P' F1
  rw [show pgl [x] g = false from e3] at this
  exact this
abbrev VPr : List (Nat × Nat) := [(8, 255), (9, 259), (10, 263), (11, 267), (12, 271), (14, 278), (15, 282), (16, 275), (17, 275)]
theorem RE_FP {h h1 : hp} {lo hi a : Nat} {e : zT} (hl : 145 ≤ lo) (hh : hi ≤ hN h) (F : FP h h1) (z : RE h lo hi e a) : RE h1 lo hi e a := RE_eq (fun c c1 c2 _ => FP_sm F (by omega) (by omega)) z
theorem n97 {w : Nat} (h : w < 26) : n_add 97 ((w : Nat) : Int) = ((97 + w : Nat) : Int) := by rw [na_eq (by omega) (by omega)]; omega
theorem n65 {w : Nat} (h : w < 26) : n_add 65 ((w : Nat) : Int) = ((65 + w : Nat) : Int) := by rw [na_eq (by omega) (by omega)]; omega
theorem n83 {w : Nat} (h : w < 8) : n_add 83 ((w : Nat) : Int) = ((83 + w : Nat) : Int) := by rw [na_eq (by omega) (by omega)]; omega
theorem c_pE {lo hi : Nat} (hl : 145 ≤ lo) : ∀ (e : zT) (a d lv : Nat) (Q : qt) (Q0 : hp → Prop) (h : hp) (O : List Int) (g : Bool) (B : List (Nat × Nat)), hi ≤ hN h → RE h lo hi e a → zok e lv → (zk e).length + 8 ≤ d → Xp h O g → PxQ h O g (zk e ++ B) Q0 → (∀ h1 O1 g1, FP h h1 → Xp h1 O1 g1 → PxQ h1 O1 g1 B Q0 → Q (.inl none) h1) → vsel VPr (hT h a).1 fun y => Wc d y [vR (some a), vR (some 68)] h Q := by
  intro e
  induction e with
  | leaf n => intro a d lv Q Q0 h O g B _ z; exact z.elim
  | branch c l r ihl ihr =>
    intro a d lv Q Q0 h O g B hh z hz hd X P k
    have zz := z
    obtain ⟨lo1, hi1, z⟩ := z
    obtain ⟨d, rfl⟩ : ∃ e, d = e + 8 := ⟨d - 8, by omega⟩
    have sa : ∀ {h1}, FP h h1 → sm h h1 a := fun F => FP_sm F (by omega) (by omega)
    by_cases k2 : c = 2
    · rw [if_pos k2] at z
      subst k2
      have hz' : zn l < 1000000000 := hz
      refine vsel_of (y := 255) (by rw [z.1]; rfl) (se_X8_print X.1 z.1 ?_)
      rw [z.2]
      exact q_num X P hz' (fun h1 O1 g1 F1 X1 P1 => k h1 O1 g1 F1 X1 P1)
    rw [if_neg k2] at z
    by_cases k1 : c = 1
    · rw [if_pos k1] at z
      subst k1
      have hz' : zn l < 26 := hz
      refine vsel_of (y := 259) (by rw [z.1]; rfl) (se_X9_print X.1 z.1 ?_)
      rw [z.2, n97 hz']
      exact q_sign (x := (1, zn l)) X P (by omega) rfl rfl rfl (fun h1 O1 g1 F1 X1 P1 => k h1 O1 g1 F1 X1 P1)
    rw [if_neg k1] at z
    by_cases k35 : c = 35
    · rw [if_pos k35] at z
      subst k35
      have hz' : zn l < 6 := hz
      refine vsel_of (y := 267) (by rw [z.1]; rfl) (se_X11_print X.1 z.1 ?_)
      refine q_open (x := (7, 35)) X P (by decide) rfl rfl rfl (fun h1 O1 g1 F1 X1 P1 => ?_)
      have s := sa F1
      refine ss_X11_print_6 X1.1 (s.1.trans z.1) ?_
      rw [s.2.1, z.2, n65 (by omega)]
      exact q_sign (x := (3, zn l)) X1 P1 (by omega) rfl rfl rfl (fun h2 O2 g2 F2 X2 P2 => k h2 O2 g2 (FP_trans F1 F2) X2 P2)
    rw [if_neg k35] at z
    by_cases k3 : c = 3
    · rw [if_pos k3] at z
      subst k3
      have lk : (zk (.branch 3 l r)).length = (zk r).length + 3 := by
        show ((3, zn l) :: (7, 91) :: (zk r ++ [(7, 93)])).length = _
        simp
      obtain ⟨z1, z2, b, z3, z4⟩ := z
      have hz' : zn l < 6 ∧ zok r 0 := hz
      have P' : PxQ h O g ((3, zn l) :: (7, 91) :: (zk r ++ ((7, 93) :: B))) Q0 := by
        have : zk (.branch 3 l r) ++ B = (3, zn l) :: (7, 91) :: (zk r ++ ((7, 93) :: B)) := by
          show ((3, zn l) :: (7, 91) :: (zk r ++ [(7, 93)])) ++ B = _
          simp
        rw [this] at P; exact P
      refine vsel_of (y := 263) (by rw [z1]; rfl) (se_X10_print X.1 z1 ?_)
      rw [z2, n65 (by omega)]
      refine q_sign (x := (3, zn l)) X P' (by omega) rfl rfl rfl (fun h1 O1 g1 F1 X1 P1 => ?_)
      refine ss_X10_print_11 X1.1 ((sa F1).1.trans z1) ?_
      refine q_join (x := (7, 91)) X1 P1 (by decide) rfl rfl rfl (fun h2 O2 g2 F2 X2 P2 => ?_)
      have F12 := FP_trans F1 F2
      refine ss_X10_print_17 X2.1 ((sa F12).1.trans z1) ?_
      rw [(sa F12).2.2.2, z3, ofR_some]
      refine ihr b (d + 7) 0 _ Q0 h2 O2 g2 _ (by rw [F12.2.1]; exact hh) (RE_FP hl hh F12 z4) hz'.2 (by omega) X2 P2 (fun h3 O3 g3 F3 X3 P3 => ?_)
      have F13 := FP_trans F12 F3
      refine ss_X10_print_25 X3.1 ((sa F13).1.trans z1) ?_
      exact q_behind (x := (7, 93)) X3 P3 (by decide) rfl rfl rfl (fun h4 O4 g4 F4 X4 P4 => k h4 O4 g4 (FP_trans F13 F4) X4 P4)
    rw [if_neg k3] at z
    by_cases k8 : c = 8
    · rw [if_pos k8] at z
      subst k8
      have lk : (zk (.branch 8 l r)).length = (zk l).length + 1 := by
        show ((8, 45) :: zk l).length = _
        simp
      obtain ⟨z1, b, z3, z4⟩ := z
      refine vsel_of (y := 271) (by rw [z1]; rfl) (se_X12_print X.1 z1 ?_)
      refine q_open (x := (8, 45)) X P (by decide) rfl rfl rfl (fun h1 O1 g1 F1 X1 P1 => ?_)
      refine ss_X12_print_6 X1.1 ((sa F1).1.trans z1) ?_
      rw [(sa F1).2.2.2, z3, ofR_some]
      exact ihl b (d + 7) 2 _ Q0 h1 O1 g1 _ (by rw [F1.2.1]; exact hh) (RE_FP hl hh F1 z4) hz (by omega) X1 P1 (fun h2 O2 g2 F2 X2 P2 => k h2 O2 g2 (FP_trans F1 F2) X2 P2)
    rw [if_neg k8] at z
    by_cases k40 : c = 40
    · rw [if_pos k40] at z
      subst k40
      have lk : (zk (.branch 40 l r)).length = (zk l).length + 2 := by
        show ((7, 40) :: (zk l ++ [(7, 41)])).length = _
        simp
      obtain ⟨z1, b, z3, z4⟩ := z
      have P' : PxQ h O g ((7, 40) :: (zk l ++ ((7, 41) :: B))) Q0 := by
        have : zk (.branch 40 l r) ++ B = (7, 40) :: (zk l ++ ((7, 41) :: B)) := by
          show ((7, 40) :: (zk l ++ [(7, 41)])) ++ B = _
          simp
        rw [this] at P; exact P
      refine vsel_of (y := 282) (by rw [z1]; rfl) (se_X15_print X.1 z1 ?_)
      refine q_open (x := (7, 40)) X P' (by decide) rfl rfl rfl (fun h1 O1 g1 F1 X1 P1 => ?_)
      refine ss_X15_print_6 X1.1 ((sa F1).1.trans z1) ?_
      rw [(sa F1).2.2.2, z3, ofR_some]
      refine ihl b (d + 7) 0 _ Q0 h1 O1 g1 _ (by rw [F1.2.1]; exact hh) (RE_FP hl hh F1 z4) hz (by omega) X1 P1 (fun h2 O2 g2 F2 X2 P2 => ?_)
      have F12 := FP_trans F1 F2
      refine ss_X15_print_14 X2.1 ((sa F12).1.trans z1) ?_
      exact q_behind (x := (7, 41)) X2 P2 (by decide) rfl rfl rfl (fun h4 O4 g4 F4 X4 P4 => k h4 O4 g4 (FP_trans F12 F4) X4 P4)
    rw [if_neg k40] at z
    obtain ⟨hc, lv1, lv2, y1, y2⟩ := two_k hz k1 k2 k35 k3 k8 k40
    obtain ⟨z1, z2, b, b2, z3, z4, z5, z6⟩ := z
    have hc7 : 32 ≤ ((c : Nat) : Int) ∧ ((c : Nat) : Int) ≤ 126 := by omega
    have s7 : ptk (7, c) = [((c : Nat) : Int)] := rfl
    have cl7 : pcl (7, c) = false := by
      rcases hc with q | q | q | q | q | q | q | q | q | q <;> subst q <;> rfl
    have gu7 : pgu (7, c) = false := by
      rcases hc with q | q | q | q | q | q | q | q | q | q <;> subst q <;> rfl
    have core : ∀ (d2 : Nat) (h0 : hp) (O0 : List Int) (g0 : Bool) (B0 : List (Nat × Nat)) (Q' : qt), FP h h0 → Xp h0 O0 g0 → PxQ h0 O0 g0 (zk l ++ (7, c) :: (zk r ++ B0)) Q0 → (zk l).length + 8 ≤ d2 ∧ (zk r).length + 8 ≤ d2 → (∀ h1 O1 g1, FP h h1 → Xp h1 O1 g1 → PxQ h1 O1 g1 B0 Q0 → Q' (.inl none) h1) → Wc (d2 + 1) 275 [vR (some a), vR (some 68)] h0 Q' := by
      intro d2 h0 O0 g0 B0 Q' F0 X0 P0 hd2 k0
      have t0 := (sa F0).1.trans z1
      have tg : ∀ {h1}, FP h h1 → (hT h1 a).1 ∈ [14, 16, 17] := fun F => by
        rw [(sa F).1, z1]
        simp only
        split
        · simp
        · split <;> simp
      refine se_X13_print X0.1 (tg F0) ?_
      rw [(sa F0).2.2.2, z3, ofR_some]
      refine ihl b d2 lv1 _ Q0 h0 O0 g0 _ (by rw [F0.2.1]; exact hh) (RE_FP hl hh F0 z5) y1 hd2.1 X0 P0 (fun h1 O1 g1 F1 X1 P1 => ?_)
      have F01 := FP_trans F0 F1
      refine ss_X13_print_8 X1.1 (tg F01) ?_
      rw [(sa F01).2.1, z2]
      obtain ⟨d3, rfl⟩ : ∃ e, d2 = e + 3 := ⟨d2 - 3, by omega⟩
      have hd3 := hd2.2
      refine q_sign (x := (7, c)) X1 P1 hc7 s7 cl7 gu7 (fun h2 O2 g2 F2 X2 P2 => ?_)
      have F02 := FP_trans F01 F2
      refine ss_X13_print_16 X2.1 (tg F02) ?_
      rw [(sa F02).2.2.2, z4, ofR_some]
      exact ihr b2 (d3 + 3) lv2 _ Q0 h2 O2 g2 _ (by rw [F02.2.1]; exact hh) (RE_FP hl hh F02 z6) y2 hd3 X2 P2 (fun h3 O3 g3 F3 X3 P3 => k0 h3 O3 g3 (FP_trans F02 F3) X3 P3)
    by_cases k6 : c = 60 ∨ c = 61
    · rw [if_pos k6] at z1
      have e0 : zk (.branch c l r) = (7, 40) :: (zk l ++ (7, c) :: (zk r ++ [(7, 41)])) := by
        rcases k6 with q | q <;> subst q <;> rfl
      have lk : (zk (.branch c l r)).length = (zk l).length + (zk r).length + 3 := by rw [e0]; simp; omega
      have P' : PxQ h O g ((7, 40) :: (zk l ++ (7, c) :: (zk r ++ ((7, 41) :: B)))) Q0 := by
        have : zk (.branch c l r) ++ B = (7, 40) :: (zk l ++ (7, c) :: (zk r ++ ((7, 41) :: B))) := by
          rw [e0]
          simp
        rw [this] at P; exact P
      refine vsel_of (y := 278) (by rw [z1]; rfl) (se_X14_print X.1 z1 ?_)
      refine q_open (x := (7, 40)) X P' (by decide) rfl rfl rfl (fun h1 O1 g1 F1 X1 P1 => ?_)
      refine ss_X14_print_6 X1.1 ((sa F1).1.trans z1) ?_
      refine core (d + 6) h1 O1 g1 _ _ F1 X1 P1 ⟨by omega, by omega⟩ (fun h2 O2 g2 F2 X2 P2 => ?_)
      refine ss_X14_print_11 X2.1 ((sa F2).1.trans z1) ?_
      exact q_behind (x := (7, 41)) X2 P2 (by decide) rfl rfl rfl (fun h4 O4 g4 F4 X4 P4 => k h4 O4 g4 (FP_trans F2 F4) X4 P4)
    · rw [if_neg k6] at z1
      have e0 : zk (.branch c l r) = zk l ++ (7, c) :: zk r := by
        rcases hc with q | q | q | q | q | q | q | q | q | q <;> subst q <;> first | rfl | exact absurd (Or.inl rfl) k6 | exact absurd (Or.inr rfl) k6
      have lk : (zk (.branch c l r)).length = (zk l).length + (zk r).length + 1 := by rw [e0]; simp; omega
      have P' : PxQ h O g (zk l ++ (7, c) :: (zk r ++ B)) Q0 := by
        have : zk (.branch c l r) ++ B = zk l ++ (7, c) :: (zk r ++ B) := by
          rw [e0]
          simp
        rw [this] at P; exact P
      refine vsel_of (y := 275) (by rw [z1]; simp only; split <;> rfl) ?_
      exact core (d + 7) h O g B Q (FP_refl X.1) X P' ⟨by omega, by omega⟩ k
