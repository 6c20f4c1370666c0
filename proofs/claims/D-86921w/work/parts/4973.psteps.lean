/-! x prints places and steps -/
theorem RPl_FP {h h1 : hp} {lo hi a : Nat} {p : zT} (hl : 145 ≤ lo) (hh : hi ≤ hN h) (F : FP h h1) (z : RPl h lo hi p a) : RPl h1 lo hi p a := by
  obtain ⟨z1, z2, z3, z4⟩ := z
  have s := FP_sm F (c := a) (by omega) (by omega)
  refine ⟨z1, z2, s.1.trans z3, ?_⟩
  rcases z4 with ⟨y1, y2, y3, y4⟩ | ⟨y1, y2, y3, b, y4, y5⟩
  · exact Or.inl ⟨y1, (s.2.1 0).trans y2, (s.2.1 1).trans y3, (s.2.2.2 2).trans y4⟩
  · exact Or.inr ⟨y1, (s.2.1 0).trans y2, (s.2.1 1).trans y3, b, (s.2.2.2 2).trans y4, RE_FP hl hh F y5⟩
theorem c_pP {lo hi a d : Nat} {Q : qt} {Q0 : hp → Prop} {h : hp} {O : List Int} {g : Bool} {B : List (Nat × Nat)} {p : zT} (hl : 145 ≤ lo) (hh : hi ≤ hN h) (z : RPl h lo hi p a) (ok : okP p) (hd : (zk p).length + 10 ≤ d) (X : Xp h O g) (P : PxQ h O g (zk p ++ B) Q0) (k : ∀ h1 O1 g1, FP h h1 → Xp h1 O1 g1 → PxQ h1 O1 g1 B Q0 → Q (.inl none) h1) : Wc d 245 [vR (some a), vR (some 68)] h Q := by
  obtain ⟨d, rfl⟩ : ∃ e, d = e + 10 := ⟨d - 10, by omega⟩
  have tg := pl_tag z
  have sa : ∀ {h1}, FP h h1 → sm h h1 a := fun F => FP_sm F (by have := z.1; omega) (by have := z.2.1; omega)
  refine se_X6_print X.1 tg (c_plName X.1 z ok ?_)
  refine ss_X6_print_4 X.1 tg ?_
  rcases ok with ⟨x, e1, hx⟩ | ⟨x, e, e1, hx, oe⟩
  · subst e1
    refine im (nb1 x) ?_
    rw [(pl_name z).1, n97 hx]
    exact q_sign (x := (1, x)) X P (by omega) rfl rfl rfl (fun h1 O1 g1 F1 X1 P1 => k h1 O1 g1 F1 X1 P1)
  · subst e1
    obtain ⟨y1, y2, b, y3, y4⟩ := pl_item z
    have lk : (zk (zB 3 (zL x) e)).length = (zk e).length + 3 := by
      show ((3, x) :: (7, 91) :: (zk e ++ [(7, 93)])).length = _
      simp
    have P' : PxQ h O g ((3, x) :: (7, 91) :: (zk e ++ ((7, 93) :: B))) Q0 := by
      have : zk (zB 3 (zL x) e) ++ B = (3, x) :: (7, 91) :: (zk e ++ ((7, 93) :: B)) := by
        show ((3, x) :: (7, 91) :: (zk e ++ [(7, 93)])) ++ B = _
        simp
      rw [this] at P; exact P
    refine ip rfl ?_
    rw [y2, n65 (by omega)]
    refine q_sign (x := (3, x)) X P' (by omega) rfl rfl rfl (fun h1 O1 g1 F1 X1 P1 => ?_)
    refine ss_X6_print_30 X1.1 ((sa F1).1.trans tg) ?_
    refine q_join (x := (7, 91)) X1 P1 (by decide) rfl rfl rfl (fun h2 O2 g2 F2 X2 P2 => ?_)
    have F12 := FP_trans F1 F2
    refine ss_X6_print_36 X2.1 ((sa F12).1.trans tg) ?_
    rw [(sa F12).2.2.2, y3, ofR_some]
    refine c_pE hl e b (d + 9) 0 _ Q0 h2 O2 g2 _ (by rw [F12.2.1]; exact hh) (RE_FP hl hh F12 y4) oe.1 (by omega) X2 P2 (fun h3 O3 g3 F3 X3 P3 => ?_)
    have F13 := FP_trans F12 F3
    refine ss_X6_print_44 X3.1 ((sa F13).1.trans tg) ?_
    exact q_behind (x := (7, 93)) X3 P3 (by decide) rfl rfl rfl (fun h4 O4 g4 F4 X4 P4 => k h4 O4 g4 (FP_trans F13 F4) X4 P4)
abbrev VSp : List (Nat × Nat) := [(20, 298), (21, 305), (23, 320), (24, 325), (25, 332), (26, 339), (27, 348), (29, 357), (30, 361), (31, 367), (32, 374)]
def Pq0 (lo hi : Nat) (t : zT) : Prop := ∀ (d p j : Nat) (h : hp) (ys xs : List Nat) (v3 : av) (Q : qt) (Q0 : hp → Prop) (O : List Int) (g : Bool) (B : List (Nat × Nat)), hi ≤ hN h → RPt h lo hi p ys → ys.drop j = xs → RT h lo hi t xs → (zk t).length + 30 ≤ d → Xp h O g → PxQ h O g (zk t ++ B) Q0 → (∀ h1 O1 g1, FP h h1 → Xp h1 O1 g1 → PxQ h1 O1 g1 B Q0 → Q (.inl none) h1) → Wp d C_X5_print Q 2 [vR (some p), vR (some 68), vI (j : Nat), v3] [] h
def Pq1 (lo hi : Nat) (t : zT) : Prop := ∀ (d a : Nat) (h : hp) (Q : qt) (Q0 : hp → Prop) (O : List Int) (g : Bool) (B : List (Nat × Nat)), hi ≤ hN h → RT h lo hi t [a] → (zk t).length + 30 ≤ d → Xp h O g → PxQ h O g (zk t ++ B) Q0 → (∀ h1 O1 g1, FP h h1 → Xp h1 O1 g1 → PxQ h1 O1 g1 B Q0 → Q (.inl none) h1) → vsel VSp (hT h a).1 fun y => Wc d y [vR (some a), vR (some 68)] h Q
theorem Pt_FP {h h' : hp} {lo hi p : Nat} {ys xs : List Nat} {t : zT} (hl : 145 ≤ lo) (hh : hi ≤ hN h) (a : FP h h') (z1 : RPt h lo hi p ys) (z2 : RT h lo hi t xs) : RPt h' lo hi p ys ∧ RT h' lo hi t xs := Pt_p hl hh a.1 (fun c j hc => by unfold pPr; omega) z1 z2
theorem q_behind59 {d : Nat} {Q : qt} {Q0 : hp → Prop} {h : hp} {O : List Int} {g : Bool} {B : List (Nat × Nat)} (X : Xp h O g) (P : PxQ h O g ((7, 59) :: B) Q0) (k : ∀ h1 O1 g1, FP h h1 → Xp h1 O1 g1 → PxQ h1 O1 g1 B Q0 → Q (.inl none) h1) : Wc (d + 2) 52 [vR (some 68), vI 59] h Q := q_behind (x := (7, 59)) X P (by decide) rfl rfl rfl k
/-- a part within braces -/
theorem c_pBr {lo hi p d : Nat} {t : zT} {ys : List Nat} {Q : qt} {Q0 : hp → Prop} {h : hp} {O : List Int} {g : Bool} {B : List (Nat × Nat)} (hl : 145 ≤ lo) (hh : hi ≤ hN h) (I : Pq0 lo hi t) (z1 : RPt h lo hi p ys) (z2 : RT h lo hi t ys) (hd : (zk t).length + 32 ≤ d) (X : Xp h O g) (P : PxQ h O g ((7, 123) :: (zk t ++ (7, 125) :: B)) Q0) (k : ∀ h1 O1 g1, FP h h1 → Xp h1 O1 g1 → PxQ h1 O1 g1 B Q0 → Q (.inl none) h1) : Wc d 238 [vR (some p), vR (some 68)] h Q := by
  obtain ⟨d, rfl⟩ : ∃ e, d = e + 32 := ⟨d - 32, by omega⟩
  have sp : ∀ {h1}, FP h h1 → sm h h1 p := fun F => FP_sm F (by have := z1.1; omega) (by have := z1.2.1; omega)
  refine se_X5_printBraced X.1 z1.2.2.1 ?_
  refine q_sign (x := (7, 123)) X P (by decide) rfl rfl rfl (fun h1 O1 g1 F1 X1 P1 => ?_)
  refine ss_X5_printBraced_6 X1.1 ((sp F1).1.trans z1.2.2.1) ?_
  have hh1 : hi ≤ hN h1 := by rw [F1.2.1]; exact hh
  have z' := Pt_FP hl hh F1 z1 z2
  refine se_X5_print X1.1 z'.1.2.2.1 ?_
  refine I (d + 30) p 0 h1 ys ys vU _ Q0 O1 g1 _ hh1 z'.1 rfl z'.2 (by omega) X1 P1 (fun h2 O2 g2 F2 X2 P2 => ?_)
  have F12 := FP_trans F1 F2
  refine ss_X5_printBraced_11 X2.1 ((sp F12).1.trans z1.2.2.1) ?_
  exact q_sign (x := (7, 125)) X2 P2 (by decide) rfl rfl rfl (fun h3 O3 g3 F3 X3 P3 => k h3 O3 g3 (FP_trans F12 F3) X3 P3)
