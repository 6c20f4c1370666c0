/-! x prints every step -/
theorem ok1_pr {lo hi k : Nat} {l r : zT} (hl : 145 ≤ lo) (h1 : ok1 k l r) : Pq1 lo hi (zB k l r) := by
  intro d a h Q Q0 O g B hh rt hd X P kq
  have rg := RT_rng h1 rt
  have sa : ∀ {h1}, FP h h1 → sm h h1 a := fun F => FP_sm F (by omega) (by omega)
  have hhF : ∀ {h1}, FP h h1 → hi ≤ hN h1 := fun F => by rw [F.2.1]; exact hh
  have hS := X.1
  rcases RT_1 h1 rt with ⟨q, x, b, el, hx, oe, -, t, f0, f2, f1, re⟩ | ⟨q, x, b, el, hx, oe, t, f0, f1, re⟩ | ⟨q, x, y, el, er, hx, hy, t, f0, f1, f2⟩ | ⟨q, x, j, e, b, el, er, hx, j1, j2, oe, -, t, f0, f1, f3, f2, re⟩ | ⟨q, x, el, er, hx, t, f0, f1⟩ | ⟨q, b, c, o1, o2, t, f0, f1, p1, p2⟩ | ⟨q, b, c, o1, oe, -, t, f1, f0, f2, p1, re⟩
  · subst el
    have body : ∀ {h1 O1 g1} (d' : Nat), (zk r).length + 20 ≤ d' → FP h h1 → Xp h1 O1 g1 → PxQ h1 O1 g1 ((1, x) :: (7, 61) :: (zk r ++ ((7, 59) :: B))) Q0 → Wp d' C_X24_print Q 18 [vR (some a), vR (some 68)] [] h1 := by
      intro h1 O1 g1 d' hd' F1 X1 P1
      obtain ⟨d', rfl⟩ : ∃ e, d' = e + 20 := ⟨d' - 20, by omega⟩
      refine ss_X24_print_18 X1.1 ((sa F1).1.trans t) ?_
      rw [(sa F1).2.1, f0, n97 hx]
      refine q_sign (x := (1, x)) X1 P1 (by omega) rfl rfl rfl (fun h2 O2 g2 F2 X2 P2 => ?_)
      have F12 := FP_trans F1 F2
      refine ss_X24_print_29 X2.1 ((sa F12).1.trans t) ?_
      refine q_sign (x := (7, 61)) X2 P2 (by decide) rfl rfl rfl (fun h3 O3 g3 F3 X3 P3 => ?_)
      have F13 := FP_trans F12 F3
      refine ss_X24_print_35 X3.1 ((sa F13).1.trans t) ?_
      rw [(sa F13).2.2.2, f1, ofR_some]
      refine c_pE hl r b (d' + 20) 0 _ Q0 h3 O3 g3 _ (hhF F13) (RE_FP hl hh F13 re) oe.1 (by omega) X3 P3 (fun h4 O4 g4 F4 X4 P4 => ?_)
      have F14 := FP_trans F13 F4
      refine ss_X24_print_43 X4.1 ((sa F14).1.trans t) ?_
      exact q_behind59 X4 P4 (fun h5 O5 g5 F5 X5 P5 => kq h5 O5 g5 (FP_trans F14 F5) X5 P5)
    obtain ⟨d, rfl⟩ : ∃ e, d = e + 30 := ⟨d - 30, by omega⟩
    refine vsel_of (y := 325) (by rw [t]; rfl) (se_X24_print hS t ?_)
    rw [f2]
    rcases q with q | q <;> subst q
    · have e0 : zk (zB 100 (zL x) r) = (5, 0) :: (1, x) :: (7, 61) :: (zk r ++ [(7, 59)]) := rfl
      rw [e0] at P hd
      simp only [List.cons_append, List.append_assoc, List.singleton_append] at P
      simp at hd
      refine im (by decide) ?_
      exact qk_0 X P (fun h1 O1 g1 F1 X1 P1 => body _ (by omega) F1 X1 P1)
    · have e0 : zk (zB 101 (zL x) r) = (5, 1) :: (1, x) :: (7, 61) :: (zk r ++ [(7, 59)]) := rfl
      rw [e0] at P hd
      simp only [List.cons_append, List.append_assoc, List.singleton_append] at P
      simp at hd
      refine ip (by decide) ?_
      exact qk_1 X P (fun h1 O1 g1 F1 X1 P1 => body _ (by omega) F1 X1 P1)
  · subst el; subst q
    have e0 : zk (zB 114 (zL x) r) = (5, 14) :: (1, x) :: (7, 61) :: (zk r ++ [(7, 59)]) := rfl
    rw [e0] at P hd
    simp only [List.cons_append, List.append_assoc, List.singleton_append] at P
    simp at hd
    obtain ⟨d, rfl⟩ : ∃ e, d = e + 30 := ⟨d - 30, by omega⟩
    refine vsel_of (y := 320) (by rw [t]; rfl) (se_X23_print hS t ?_)
    refine qk_14 X P (fun h1 O1 g1 F1 X1 P1 => ?_)
    refine ss_X23_print_6 X1.1 ((sa F1).1.trans t) ?_
    rw [(sa F1).2.1, f0, n97 hx]
    refine q_sign (x := (1, x)) X1 P1 (by omega) rfl rfl rfl (fun h2 O2 g2 F2 X2 P2 => ?_)
    have F12 := FP_trans F1 F2
    refine ss_X23_print_17 X2.1 ((sa F12).1.trans t) ?_
    refine q_sign (x := (7, 61)) X2 P2 (by decide) rfl rfl rfl (fun h3 O3 g3 F3 X3 P3 => ?_)
    have F13 := FP_trans F12 F3
    refine ss_X23_print_23 X3.1 ((sa F13).1.trans t) ?_
    rw [(sa F13).2.2.2, f1, ofR_some]
    refine c_pE hl r b (d + 29) 0 _ Q0 h3 O3 g3 _ (hhF F13) (RE_FP hl hh F13 re) oe.1 (by omega) X3 P3 (fun h4 O4 g4 F4 X4 P4 => ?_)
    have F14 := FP_trans F13 F4
    refine ss_X23_print_31 X4.1 ((sa F14).1.trans t) ?_
    exact q_behind59 X4 P4 (fun h5 O5 g5 F5 X5 P5 => kq h5 O5 g5 (FP_trans F14 F5) X5 P5)
  · subst el; subst er
    have body : ∀ {h1 O1 g1} (d' : Nat), 20 ≤ d' → FP h h1 → Xp h1 O1 g1 → PxQ h1 O1 g1 ((1, x) :: (4, y) :: (7, 59) :: B) Q0 → Wp d' C_X25_print Q 18 [vR (some a), vR (some 68)] [] h1 := by
      intro h1 O1 g1 d' hd' F1 X1 P1
      obtain ⟨d', rfl⟩ : ∃ e, d' = e + 20 := ⟨d' - 20, by omega⟩
      refine ss_X25_print_18 X1.1 ((sa F1).1.trans t) ?_
      rw [(sa F1).2.1, f0, n97 hx]
      refine q_sign (x := (1, x)) X1 P1 (by omega) rfl rfl rfl (fun h2 O2 g2 F2 X2 P2 => ?_)
      have F12 := FP_trans F1 F2
      refine ss_X25_print_29 X2.1 ((sa F12).1.trans t) ?_
      rw [(sa F12).2.1, f1, n83 (by omega)]
      refine q_sign (x := (4, y)) X2 P2 (by omega) rfl rfl rfl (fun h3 O3 g3 F3 X3 P3 => ?_)
      have F13 := FP_trans F12 F3
      refine ss_X25_print_40 X3.1 ((sa F13).1.trans t) ?_
      exact q_behind59 X3 P3 (fun h5 O5 g5 F5 X5 P5 => kq h5 O5 g5 (FP_trans F13 F5) X5 P5)
    obtain ⟨d, rfl⟩ : ∃ e, d = e + 30 := ⟨d - 30, by omega⟩
    refine vsel_of (y := 332) (by rw [t]; rfl) (se_X25_print hS t ?_)
    rw [f2]
    rcases q with q | q <;> subst q
    · exact im (by decide) (qk_2 X P (fun h1 O1 g1 F1 X1 P1 => body _ (by omega) F1 X1 P1))
    · exact ip (by decide) (qk_3 X P (fun h1 O1 g1 F1 X1 P1 => body _ (by omega) F1 X1 P1))
  · subst el; subst er
    have body2 : ∀ {h1 O1 g1} (d' : Nat), (zk e).length + 20 ≤ d' → FP h h1 → Xp h1 O1 g1 → PxQ h1 O1 g1 (zk e ++ ((7, 59) :: B)) Q0 → Wp d' C_X26_print Q 86 [vR (some a), vR (some 68)] [] h1 := by
      intro h1 O1 g1 d' hd' F1 X1 P1
      obtain ⟨d', rfl⟩ : ∃ e, d' = e + 20 := ⟨d' - 20, by omega⟩
      refine ss_X26_print_86 X1.1 ((sa F1).1.trans t) ?_
      rw [(sa F1).2.2.2, f2, ofR_some]
      refine c_pE hl e b (d' + 20) 0 _ Q0 h1 O1 g1 _ (hhF F1) (RE_FP hl hh F1 re) oe.1 (by omega) X1 P1 (fun h4 O4 g4 F4 X4 P4 => ?_)
      have F14 := FP_trans F1 F4
      refine ss_X26_print_94 X4.1 ((sa F14).1.trans t) ?_
      exact q_behind59 X4 P4 (fun h5 O5 g5 F5 X5 P5 => kq h5 O5 g5 (FP_trans F14 F5) X5 P5)
    have body : ∀ {h1 O1 g1} (d' : Nat), (zk e).length + 20 ≤ d' → FP h h1 → Xp h1 O1 g1 → PxQ h1 O1 g1 ((3, x) :: (5, j - 143) :: (zk e ++ ((7, 59) :: B))) Q0 → Wp d' C_X26_print Q 18 [vR (some a), vR (some 68)] [] h1 := by
      intro h1 O1 g1 d' hd' F1 X1 P1
      obtain ⟨d', rfl⟩ : ∃ e, d' = e + 20 := ⟨d' - 20, by omega⟩
      refine ss_X26_print_18 X1.1 ((sa F1).1.trans t) ?_
      rw [(sa F1).2.1, f0, n65 (by omega)]
      refine q_sign (x := (3, x)) X1 P1 (by omega) rfl rfl rfl (fun h2 O2 g2 F2 X2 P2 => ?_)
      have F12 := FP_trans F1 F2
      refine ss_X26_print_29 X2.1 ((sa F12).1.trans t) ?_
      rw [(sa F12).2.1, f1]
      have : j = 160 ∨ j = 161 ∨ j = 162 ∨ j = 163 ∨ j = 164 := by omega
      rcases this with y | y | y | y | y <;> subst y
      · exact ip (by decide) (qk_17 X2 P2 (fun h3 O3 g3 F3 X3 P3 => body2 _ hd' (FP_trans F12 F3) X3 P3))
      · exact im (by decide) (ip (by decide) (qk_18 X2 P2 (fun h3 O3 g3 F3 X3 P3 => body2 _ hd' (FP_trans F12 F3) X3 P3)))
      · exact im (by decide) (im (by decide) (ip (by decide) (qk_19 X2 P2 (fun h3 O3 g3 F3 X3 P3 => body2 _ hd' (FP_trans F12 F3) X3 P3))))
      · exact im (by decide) (im (by decide) (im (by decide) (ip (by decide) (qk_20 X2 P2 (fun h3 O3 g3 F3 X3 P3 => body2 _ hd' (FP_trans F12 F3) X3 P3)))))
      · exact im (by decide) (im (by decide) (im (by decide) (im (by decide) (qk_21 X2 P2 (fun h3 O3 g3 F3 X3 P3 => body2 _ hd' (FP_trans F12 F3) X3 P3)))))
    have ej : zk (zB j e (zL 0)) = (5, j - 143) :: zk e := by
      have : j = 160 ∨ j = 161 ∨ j = 162 ∨ j = 163 ∨ j = 164 := by omega
      rcases this with y | y | y | y | y <;> subst y <;> rfl
    obtain ⟨d, rfl⟩ : ∃ e, d = e + 30 := ⟨d - 30, by omega⟩
    refine vsel_of (y := 339) (by rw [t]; rfl) (se_X26_print hS t ?_)
    rw [f3]
    rcases q with q | q <;> subst q
    · have e0 : zk (zB 104 (zL x) (zB j e (zL 0))) = (5, 4) :: (3, x) :: (zk (zB j e (zL 0)) ++ [(7, 59)]) := rfl
      rw [e0, ej] at P hd
      simp only [List.cons_append, List.append_assoc, List.singleton_append] at P
      simp at hd
      refine im (by decide) ?_
      exact qk_4 X P (fun h1 O1 g1 F1 X1 P1 => body _ (by omega) F1 X1 P1)
    · have e0 : zk (zB 105 (zL x) (zB j e (zL 0))) = (5, 5) :: (3, x) :: (zk (zB j e (zL 0)) ++ [(7, 59)]) := rfl
      rw [e0, ej] at P hd
      simp only [List.cons_append, List.append_assoc, List.singleton_append] at P
      simp at hd
      refine ip (by decide) ?_
      exact qk_5 X P (fun h1 O1 g1 F1 X1 P1 => body _ (by omega) F1 X1 P1)
  · subst el; subst er
    have body : ∀ {h1 O1 g1} (d' : Nat), 20 ≤ d' → FP h h1 → Xp h1 O1 g1 → PxQ h1 O1 g1 ((2, x) :: (7, 59) :: B) Q0 → Wp d' C_X27_print Q 18 [vR (some a), vR (some 68)] [] h1 := by
      intro h1 O1 g1 d' hd' F1 X1 P1
      obtain ⟨d', rfl⟩ : ∃ e, d' = e + 20 := ⟨d' - 20, by omega⟩
      refine ss_X27_print_18 X1.1 ((sa F1).1.trans t) ?_
      rw [(sa F1).2.1, f0]
      refine q_num X1 P1 (by omega) (fun h2 O2 g2 F2 X2 P2 => ?_)
      have F12 := FP_trans F1 F2
      refine ss_X27_print_26 X2.1 ((sa F12).1.trans t) ?_
      exact q_behind59 X2 P2 (fun h5 O5 g5 F5 X5 P5 => kq h5 O5 g5 (FP_trans F12 F5) X5 P5)
    obtain ⟨d, rfl⟩ : ∃ e, d = e + 30 := ⟨d - 30, by omega⟩
    refine vsel_of (y := 348) (by rw [t]; rfl) (se_X27_print hS t ?_)
    rw [f1]
    rcases q with q | q <;> subst q
    · exact im (by decide) (qk_6 X P (fun h1 O1 g1 F1 X1 P1 => body _ (by omega) F1 X1 P1))
    · exact ip (by decide) (qk_7 X P (fun h1 O1 g1 F1 X1 P1 => body _ (by omega) F1 X1 P1))
  · subst q
    have e0 : zk (zB 133 l r) = zk l ++ (6, 3) :: (zk r ++ [(7, 59)]) := rfl
    rw [e0] at P hd
    simp only [List.cons_append, List.append_assoc, List.singleton_append] at P
    simp at hd
    obtain ⟨d, rfl⟩ : ∃ e, d = e + 30 := ⟨d - 30, by omega⟩
    refine vsel_of (y := 298) (by rw [t]; rfl) (se_X20_print hS t ?_)
    rw [f0, ofR_some]
    refine ip (by rw [pl_tag p1]) (c_pP hl hh p1 o1 (by omega) X P (fun h1 O1 g1 F1 X1 P1 => ?_))
    refine ss_X20_print_8 X1.1 ((sa F1).1.trans t) ?_
    refine qp_3 X1 P1 (fun h2 O2 g2 F2 X2 P2 => ?_)
    have F12 := FP_trans F1 F2
    have p2' := RPl_FP hl hh F12 p2
    refine ss_X20_print_14 X2.1 ((sa F12).1.trans t) ?_
    rw [(sa F12).2.2.2, f1, ofR_some]
    refine ip (by rw [pl_tag p2']) (c_pP hl (hhF F12) p2' o2 (by omega) X2 P2 (fun h3 O3 g3 F3 X3 P3 => ?_))
    have F13 := FP_trans F12 F3
    refine ss_X20_print_22 X3.1 ((sa F13).1.trans t) ?_
    exact q_behind59 X3 P3 (fun h5 O5 g5 F5 X5 P5 => kq h5 O5 g5 (FP_trans F13 F5) X5 P5)
  · have body : ∀ {h1 O1 g1} (d' : Nat), (zk r).length + 20 ≤ d' → FP h h1 → Xp h1 O1 g1 → PxQ h1 O1 g1 (zk r ++ ((7, 59) :: B)) Q0 → Wp d' C_X21_print Q 65 [vR (some a), vR (some 68)] [] h1 := by
      intro h1 O1 g1 d' hd' F1 X1 P1
      obtain ⟨d', rfl⟩ : ∃ e, d' = e + 20 := ⟨d' - 20, by omega⟩
      refine ss_X21_print_65 X1.1 ((sa F1).1.trans t) ?_
      rw [(sa F1).2.2.2, f2, ofR_some]
      refine c_pE hl r c (d' + 20) 0 _ Q0 h1 O1 g1 _ (hhF F1) (RE_FP hl hh F1 re) oe.1 (by omega) X1 P1 (fun h4 O4 g4 F4 X4 P4 => ?_)
      have F14 := FP_trans F1 F4
      refine ss_X21_print_73 X4.1 ((sa F14).1.trans t) ?_
      exact q_behind59 X4 P4 (fun h5 O5 g5 F5 X5 P5 => kq h5 O5 g5 (FP_trans F14 F5) X5 P5)
    have e0 : zk (zB k l r) = zk l ++ (6, k - 130) :: (zk r ++ [(7, 59)]) := by
      have : k = 130 ∨ k = 131 ∨ k = 132 ∨ k = 134 ∨ k = 135 := by omega
      rcases this with y | y | y | y | y <;> subst y <;> rfl
    rw [e0] at P hd
    simp only [List.cons_append, List.append_assoc, List.singleton_append] at P
    simp at hd
    obtain ⟨d, rfl⟩ : ∃ e, d = e + 30 := ⟨d - 30, by omega⟩
    refine vsel_of (y := 305) (by rw [t]; rfl) (se_X21_print hS t ?_)
    rw [f0, ofR_some]
    refine ip (by rw [pl_tag p1]) (c_pP hl hh p1 o1 (by omega) X P (fun h1 O1 g1 F1 X1 P1 => ?_))
    refine ss_X21_print_8 X1.1 ((sa F1).1.trans t) ?_
    rw [(sa F1).2.1, f1]
    have : k = 130 ∨ k = 131 ∨ k = 132 ∨ k = 134 ∨ k = 135 := by omega
    rcases this with y | y | y | y | y <;> subst y
    · exact ip (by decide) (qp_0 X1 P1 (fun h3 O3 g3 F3 X3 P3 => body _ (by omega) (FP_trans F1 F3) X3 P3))
    · exact im (by decide) (ip (by decide) (qp_1 X1 P1 (fun h3 O3 g3 F3 X3 P3 => body _ (by omega) (FP_trans F1 F3) X3 P3)))
    · exact im (by decide) (im (by decide) (ip (by decide) (qp_2 X1 P1 (fun h3 O3 g3 F3 X3 P3 => body _ (by omega) (FP_trans F1 F3) X3 P3))))
    · exact im (by decide) (im (by decide) (im (by decide) (ip (by decide) (qp_4 X1 P1 (fun h3 O3 g3 F3 X3 P3 => body _ (by omega) (FP_trans F1 F3) X3 P3)))))
    · exact im (by decide) (im (by decide) (im (by decide) (im (by decide) (qp_5 X1 P1 (fun h3 O3 g3 F3 X3 P3 => body _ (by omega) (FP_trans F1 F3) X3 P3)))))
