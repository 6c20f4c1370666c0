/-! x prints all -/
theorem fk_pr {lo hi k k2 k3 : Nat} {e s t e2 : zT} (hl : 145 ≤ lo) (hk : (k = 108 ∧ k2 = 112 ∧ k3 = 113) ∨ (k = 111 ∧ k2 = 117 ∧ k3 = 118)) (o1 : okE e) (o2 : okE e2) (i1 : Pq0 lo hi s) (i2 : Pq0 lo hi t) : Pq1 lo hi (zB k e (zB k2 s (zB k3 t e2))) := by
  intro d a h Q Q0 O g B hh rt hd X P kq
  obtain ⟨a1, a2, ta, b, p, q, c, ys, zs, r0, r1, r2, r3, re, rp, rs, rq, rt', re2⟩ := RT_fk hk rt
  have sa : ∀ {h1}, FP h h1 → sm h h1 a := fun F => FP_sm F (by omega) (by omega)
  have hhF : ∀ {h1}, FP h h1 → hi ≤ hN h1 := fun F => by rw [F.2.1]; exact hh
  have hS := X.1
  have tg : ∀ {h1}, FP h h1 → (hT h1 a).1 ∈ [29, 30] := fun F => by
    rw [(sa F).1, ta]
    simp only
    split <;> simp
  rw [zk_fk hk] at P hd
  simp only [List.cons_append, List.append_assoc, List.singleton_append, List.nil_append] at P
  simp at hd
  obtain ⟨d, rfl⟩ : ∃ e, d = e + 30 := ⟨d - 30, by omega⟩
  have by_ : ∀ (w0 w1 w2 : Nat) (d' : Nat) (Q' : qt), (∀ h1 O1 g1, FP h h1 → Xp h1 O1 g1 → PxQ h1 O1 g1 B Q0 → Q' (.inl none) h1) → (zk e).length + (zk s).length + (zk t).length + (zk e2).length + 36 ≤ d' → (∀ {d : Nat} {Q : qt} {h : hp} {O : List Int} {g : Bool} {B : List (Nat × Nat)}, Xp h O g → PxQ h O g ((5, k - 100) :: B) Q0 → (∀ h1 O1 g1, FP h h1 → Xp h1 O1 g1 → PxQ h1 O1 g1 B Q0 → Q (.inl none) h1) → Wc (d + 6) 45 [vR (some 68), vR (some w0)] h Q) → (∀ {d : Nat} {Q : qt} {h : hp} {O : List Int} {g : Bool} {B : List (Nat × Nat)}, Xp h O g → PxQ h O g ((5, zw1 k) :: B) Q0 → (∀ h1 O1 g1, FP h h1 → Xp h1 O1 g1 → PxQ h1 O1 g1 B Q0 → Q (.inl none) h1) → Wc (d + 6) 45 [vR (some 68), vR (some w1)] h Q) → (∀ {d : Nat} {Q : qt} {h : hp} {O : List Int} {g : Bool} {B : List (Nat × Nat)}, Xp h O g → PxQ h O g ((5, zw2 k) :: B) Q0 → (∀ h1 O1 g1, FP h h1 → Xp h1 O1 g1 → PxQ h1 O1 g1 B Q0 → Q (.inl none) h1) → Wc (d + 6) 45 [vR (some 68), vR (some w2)] h Q) → Wc d' 354 [vR (some a), vR (some 68), vR (some w0), vR (some w1), vR (some w2)] h Q' := by
    intro w0 w1 w2 d' Q' kq' hd' q0 q1 q2
    obtain ⟨d', rfl⟩ : ∃ e, d' = e + 36 := ⟨d' - 36, by omega⟩
    refine se_X28_printBy hS (tg (FP_refl hS)) ?_
    refine q0 X P (fun h1 O1 g1 F1 X1 P1 => ?_)
    refine ss_X28_printBy_5 X1.1 (tg F1) ?_
    rw [(sa F1).2.2.2, r0, ofR_some]
    refine c_pE hl e b (d' + 35) 0 _ Q0 h1 O1 g1 _ (hhF F1) (RE_FP hl hh F1 re) o1.1 (by omega) X1 P1 (fun h2 O2 g2 F2 X2 P2 => ?_)
    have F12 := FP_trans F1 F2
    refine ss_X28_printBy_13 X2.1 (tg F12) ?_
    have y1 := Pt_FP hl hh F12 rp rs
    rw [(sa F12).2.2.2, r1, ofR_some]
    refine ip (by rw [y1.1.2.2.1]) (c_pBr hl (hhF F12) i1 y1.1 y1.2 (by omega) X2 P2 (fun h3 O3 g3 F3 X3 P3 => ?_))
    have F13 := FP_trans F12 F3
    refine ss_X28_printBy_21 X3.1 (tg F13) ?_
    refine q1 X3 P3 (fun h4 O4 g4 F4 X4 P4 => ?_)
    have F14 := FP_trans F13 F4
    refine ss_X28_printBy_26 X4.1 (tg F14) ?_
    have y2 := Pt_FP hl hh F14 rq rt'
    rw [(sa F14).2.2.2, r2, ofR_some]
    refine ip (by rw [y2.1.2.2.1]) (c_pBr hl (hhF F14) i2 y2.1 y2.2 (by omega) X4 P4 (fun h5 O5 g5 F5 X5 P5 => ?_))
    have F15 := FP_trans F14 F5
    refine ss_X28_printBy_34 X5.1 (tg F15) ?_
    refine q2 X5 P5 (fun h6 O6 g6 F6 X6 P6 => ?_)
    have F16 := FP_trans F15 F6
    refine ss_X28_printBy_40 X6.1 (tg F16) ?_
    rw [(sa F16).2.2.2, r3, ofR_some]
    refine c_pE hl e2 c (d' + 35) 0 _ Q0 h6 O6 g6 _ (hhF F16) (RE_FP hl hh F16 re2) o2.1 (by omega) X6 P6 (fun h7 O7 g7 F7 X7 P7 => ?_)
    have F17 := FP_trans F16 F7
    refine ss_X28_printBy_48 X7.1 (tg F17) ?_
    exact q_behind59 X7 P7 (fun h8 O8 g8 F8 X8 P8 => kq' h8 O8 g8 (FP_trans F17 F8) X8 P8)
  rcases hk with ⟨k1, -, -⟩ | ⟨k1, -, -⟩ <;> subst k1
  · refine vsel_of (y := 357) (by rw [ta]; rfl) (se_X29_print hS ta ?_)
    exact by_ 32 36 38 (d + 29) _ kq (by omega) (fun X P k => qk_8 X P k) (fun X P k => qk_9 X P k) (fun X P k => qk_10 X P k)
  · refine vsel_of (y := 361) (by rw [ta]; rfl) (se_X30_print hS ta ?_)
    exact by_ 34 40 42 (d + 29) _ kq (by omega) (fun X P k => qk_11 X P k) (fun X P k => qk_12 X P k) (fun X P k => qk_13 X P k)
theorem x_prints {lo hi : Nat} (hl : 145 ≤ lo) : ∀ t : zT, (okS t 0 → Pq0 lo hi t) ∧ (okS t 1 → Pq1 lo hi t) := by
  have H := ok_ind (P0 := Pq0 lo hi) (P1 := Pq1 lo hi)
    (fun v d p j h ys xs v3 Q Q0 O g B hh rp ex rt hd X P k => by
      obtain ⟨d, rfl⟩ : ∃ e, d = e + 5 := ⟨d - 5, by omega⟩
      obtain ⟨-, -, tp, l, arr, f0, -, -, rl, -⟩ := id rp
      have e0 : xs = [] := rt
      subst e0
      have hj : ys.length ≤ j := by
        by_cases q : j < ys.length
        · rw [List.drop_eq_getElem_cons q] at ex; cases ex
        · omega
      refine ss_X5_print_2 X.1 tp ?_
      rw [f0, ofR_some]
      refine ip (by rw [rl.1]) (c_size X.1 rl ?_)
      exact ss_X5_print_12 X.1 tp (im (by omega) (k h O g (FP_refl X.1) X P)))
    (fun s t o1 o2 i1 i2 d p j h ys xs v3 Q Q0 O g B hh rp ex rt hd X P k => by
      have hzk : (zk (zB 150 s t)).length = (zk s).length + (zk t).length := by rw [zk_150, List.length_append]
      obtain ⟨d, rfl⟩ : ∃ e, d = e + 5 := ⟨d - 5, by omega⟩
      obtain ⟨-, -, tp, l, arr, f0, -, -, rl, -⟩ := id rp
      obtain ⟨x, zs, hj, ex1, ex2, r1, r2⟩ := RT_head ex rt
      have hlen : ys.length ≤ 244 := RL_73 rl
      rw [zk_150, List.append_assoc] at P
      refine ss_X5_print_2 X.1 tp ?_
      rw [f0, ofR_some]
      refine ip (by rw [rl.1]) (c_size X.1 rl ?_)
      refine ss_X5_print_12 X.1 tp (ip (by omega) ?_)
      rw [f0, ofR_some]
      refine ip (by rw [rl.1]) (c_get X.1 rl hj ?_)
      rw [ex1]
      refine ss_X5_print_25 X.1 tp ?_
      refine ⟨Or.inr ⟨x, rfl, RT_kind s o1 x r1⟩, ?_⟩
      rw [ofR_some]
      refine i1 (d + 5) x h _ Q0 O g _ hh r1 (by omega) X P (fun h1 O1 g1 F1 X1 P1 => ?_)
      have rp1 := (Pt_FP hl hh F1 rp rt).1
      refine ss_X5_print_34 X1.1 rp1.2.2.1 ?_
      rw [n1k (by omega)]
      exact i2 (d + 5) p (j + 1) h1 ys zs (vR (some x)) Q Q0 O1 g1 B (by rw [F1.2.1]; exact hh) rp1 ex2 (Pt_FP hl hh F1 rp r2).2 (by omega) X1 P1 (fun h2 O2 g2 F2 X2 P2 => k h2 O2 g2 (FP_trans F1 F2) X2 P2))
    (fun e a b e2 o1 _ _ o2 i1 i2 => fk_pr hl (Or.inl ⟨rfl, rfl, rfl⟩) o1 o2 i1 i2)
    (fun e a b e2 o1 _ _ o2 i1 i2 => fk_pr hl (Or.inr ⟨rfl, rfl, rfl⟩) o1 o2 i1 i2)
    (fun e s oe os is d a h Q Q0 O g B hh rt hd X P kq => by
      obtain ⟨a1, a2, ta, b, p, ys, r0, r1, re, rp, rs⟩ := RT_wh rt
      have sa : ∀ {h1}, FP h h1 → sm h h1 a := fun F => FP_sm F (by omega) (by omega)
      have hhF : ∀ {h1}, FP h h1 → hi ≤ hN h1 := fun F => by rw [F.2.1]; exact hh
      rw [zk_wh] at P hd
      simp only [List.cons_append, List.append_assoc, List.singleton_append, List.nil_append] at P
      simp at hd
      obtain ⟨d, rfl⟩ : ∃ e, d = e + 34 := ⟨d - 34, by omega⟩
      refine vsel_of (y := 367) (by rw [ta]; rfl) (se_X31_print X.1 ta ?_)
      refine qk_15 X P (fun h1 O1 g1 F1 X1 P1 => ?_)
      refine ss_X31_print_6 X1.1 ((sa F1).1.trans ta) ?_
      rw [(sa F1).2.2.2, r0, ofR_some]
      refine c_pE hl e b (d + 33) 0 _ Q0 h1 O1 g1 _ (hhF F1) (RE_FP hl hh F1 re) oe.1 (by omega) X1 P1 (fun h2 O2 g2 F2 X2 P2 => ?_)
      have F12 := FP_trans F1 F2
      refine ss_X31_print_14 X2.1 ((sa F12).1.trans ta) ?_
      have y1 := Pt_FP hl hh F12 rp rs
      rw [(sa F12).2.2.2, r1, ofR_some]
      refine ip (by rw [y1.1.2.2.1]) (c_pBr hl (hhF F12) is y1.1 y1.2 (by omega) X2 P2 (fun h3 O3 g3 F3 X3 P3 => ?_))
      have F13 := FP_trans F12 F3
      refine ss_X31_print_22 X3.1 ((sa F13).1.trans ta) ?_
      exact q_behind59 X3 P3 (fun h5 O5 g5 F5 X5 P5 => kq h5 O5 g5 (FP_trans F13 F5) X5 P5))
    (fun e s t oe os ot is it d a h Q Q0 O g B hh rt hd X P kq => by
      obtain ⟨a1, a2, ta, b, p, q, ys, zs, r0, r1, r2, re, rp, rs, rq, rt'⟩ := RT_wn rt
      have sa : ∀ {h1}, FP h h1 → sm h h1 a := fun F => FP_sm F (by omega) (by omega)
      have hhF : ∀ {h1}, FP h h1 → hi ≤ hN h1 := fun F => by rw [F.2.1]; exact hh
      rw [zk_wn] at P hd
      simp only [List.cons_append, List.append_assoc, List.singleton_append, List.nil_append] at P
      simp at hd
      obtain ⟨d, rfl⟩ : ∃ e, d = e + 34 := ⟨d - 34, by omega⟩
      refine vsel_of (y := 374) (by rw [ta]; rfl) (se_X32_print X.1 ta ?_)
      refine qk_16 X P (fun h1 O1 g1 F1 X1 P1 => ?_)
      refine ss_X32_print_6 X1.1 ((sa F1).1.trans ta) ?_
      rw [(sa F1).2.2.2, r0, ofR_some]
      refine c_pE hl e b (d + 33) 0 _ Q0 h1 O1 g1 _ (hhF F1) (RE_FP hl hh F1 re) oe.1 (by omega) X1 P1 (fun h2 O2 g2 F2 X2 P2 => ?_)
      have F12 := FP_trans F1 F2
      refine ss_X32_print_14 X2.1 ((sa F12).1.trans ta) ?_
      have y1 := Pt_FP hl hh F12 rp rs
      rw [(sa F12).2.2.2, r1, ofR_some]
      refine ip (by rw [y1.1.2.2.1]) (c_pBr hl (hhF F12) is y1.1 y1.2 (by omega) X2 P2 (fun h3 O3 g3 F3 X3 P3 => ?_))
      have F13 := FP_trans F12 F3
      refine ss_X32_print_22 X3.1 ((sa F13).1.trans ta) ?_
      refine qk_9 X3 P3 (fun h4 O4 g4 F4 X4 P4 => ?_)
      have F14 := FP_trans F13 F4
      refine ss_X32_print_28 X4.1 ((sa F14).1.trans ta) ?_
      have y2 := Pt_FP hl hh F14 rq rt'
      rw [(sa F14).2.2.2, r2, ofR_some]
      refine ip (by rw [y2.1.2.2.1]) (c_pBr hl (hhF F14) it y2.1 y2.2 (by omega) X4 P4 (fun h5 O5 g5 F5 X5 P5 => ?_))
      have F15 := FP_trans F14 F5
      refine ss_X32_print_36 X5.1 ((sa F15).1.trans ta) ?_
      exact q_behind59 X5 P5 (fun h6 O6 g6 F6 X6 P6 => kq h6 O6 g6 (FP_trans F15 F6) X6 P6))
    (fun k l r h1 => ok1_pr hl h1)
  exact fun t => ⟨(H t).1, (H t).2.1⟩
