/-! THE LAW'S LOOP -/
theorem lw_I {d y z n : Nat} {ax am : List av} {h : hp} {K : Int → hp → Prop} {E : Nat → hp → Prop} (P : Pair y z ax am n h) (hk : pk y = 0) (k : ∀ (v : Int) (h1 : hp), Kp h h1 → (∀ (K2 : Int → hp → Prop) (E2 : Nat → hp → Prop), (∀ h2, Kp h h2 → IN (n + 1) h2 → K2 v h2) → cI (Wc (d + 2000)) z am h1 K2 E2) → K v h1) : cI (Wc (d + 2000)) y ax h K E := by
  obtain ⟨v, hv, P⟩ := P
  rw [hk] at hv
  rcases v with x | x | x | x
  · exact P d _ (fun h1 k1 M => k x h1 k1 (fun K2 E2 k2 => M _ (fun h2 q1 q2 => k2 h2 q1 q2)))
  · exact absurd (show 1 = 0 from hv) (by decide)
  · exact absurd (show 2 = 0 from hv) (by decide)
  · exact absurd (show 2 = 0 from hv) (by decide)
theorem lw_J {d y z n : Nat} {ax am : List av} {h : hp} {K : Int → hp → Prop} {E : Nat → hp → Prop} (P : Pair y z ax am n h) (hk : pk y = 1) (k : ∀ (v : Int) (h1 : hp), Kp h h1 → (∀ (K2 : Int → hp → Prop) (E2 : Nat → hp → Prop), (∀ h2, Kp h h2 → IN (n + 1) h2 → K2 v h2) → cJ (Wc (d + 2000)) z am h1 K2 E2) → K v h1) : cJ (Wc (d + 2000)) y ax h K E := by
  obtain ⟨v, hv, P⟩ := P
  rw [hk] at hv
  rcases v with x | x | x | x
  · exact absurd (show 0 = 1 from hv) (by decide)
  · exact P d _ (fun h1 k1 M => k x h1 k1 (fun K2 E2 k2 => M _ (fun h2 q1 q2 => k2 h2 q1 q2)))
  · exact absurd (show 2 = 1 from hv) (by decide)
  · exact absurd (show 2 = 1 from hv) (by decide)
theorem lcmp0 (x : Int) : l_cmp x x = 0 := by unfold l_cmp; simp
/-- the script -/
def Sc (len : Nat) (h : hp) : Prop := hT h 0 = (111, len) ∧ ∀ j, j < len → -2147483648 ≤ hI h 0 j ∧ hI h 0 j < 2147483648
theorem Sc_K {len : Nat} {h h1 : hp} (s : Sc len h) (k : Kp h h1) : Sc len h1 := ⟨k.2.1.trans s.1, fun j hj => by rw [k.2.2]; exact s.2 j hj⟩
theorem Sc_ib {len i k : Nat} {h : hp} (s : Sc len h) (hk : i + k < len) (hl : len ≤ 384) : inb h 0 [111] (n_add ((i : Nat) : Int) ((k : Nat) : Int)) := by
  rw [na_eq (by omega) (by omega)]
  exact ⟨by rw [s.1]; exact List.mem_singleton.mpr rfl, by omega, by rw [s.1]; show ((i : Nat) : Int) + ((k : Nat) : Int) < ((len : Nat) : Int); omega⟩
theorem Sc_rg {len i k : Nat} {h : hp} (s : Sc len h) (hk : i + k < len) (hl : len ≤ 384) : -2147483648 ≤ hI h 0 (n_add ((i : Nat) : Int) ((k : Nat) : Int)).toNat ∧ hI h 0 (n_add ((i : Nat) : Int) ((k : Nat) : Int)).toNat < 2147483648 := by
  rw [na_eq (by omega) (by omega), show ((i : Nat) : Int) + ((k : Nat) : Int) = ((i + k : Nat) : Int) by omega, Int.toNat_natCast]
  exact s.2 _ hk

theorem IN_up {n : Nat} {h : hp} (I : IN n h) : IN (n + 1) h := by
  obtain ⟨s, a, b, c, d, e⟩ := I
  exact ⟨s, a, b, c, d, by omega⟩
theorem lw_go {d n i len : Nat} {Q : qt} {h : hp} (I : IN n h) (hn : n < 64) (hl : len ≤ 384) (hi : i + 6 ≤ len) (s : Sc len h) (nx : ∀ h2, Kp h h2 → IN (n + 1) h2 → Wp (d + 2000) C_L_law Q 1308 [vR (some 0), vR (some 68), vR (some 116), vI (i : Nat)] [] h2) (hlt : ¬ n_sub ((len : Nat) : Int) 6 < ((i : Nat) : Int)) : Wp (d + 2000) C_L_law Q 18 [vR (some 0), vR (some 68), vR (some 116), vI (i : Nat)] [] h := by
  obtain ⟨-, hS, -⟩ := id I
  have tX : (hT h 68).1 = 0 := by rw [stt_68 hS]
  have tM : ∀ h1, Kp h h1 → (hT h1 116).1 = 4 := fun h1 k1 => by rw [stt_116 k1.1]
  refine tr_L_law_18 ?_
  rw [ofR_some, s.1]
  refine ⟨show 100 ≤ 111 by decide, show 111 < 113 by decide, by show len < 2147483648; omega, im hlt ?_⟩
  rw [ofR_some]
  refine ⟨⟨by rw [s.1]; exact List.mem_singleton.mpr rfl, by omega, by rw [s.1]; show ((i : Nat) : Int) < ((len : Nat) : Int); omega⟩, ?_⟩
  generalize n_and (hI h 0 (((i : Nat) : Int)).toNat) 63 = c
  by_cases c0 : c = 0
  · refine ip c0 ⟨(Sc_ib (k := 1) s (by omega) hl), (Sc_ib (k := 2) s (by omega) hl), (Sc_ib (k := 3) s (by omega) hl), rfl, ip tX (lw_I (op_type I) rfl (fun v h1 k1 M => ?_))⟩
    refine tr_L_law_217 ⟨(Sc_ib (k := 1) (Sc_K s k1) (by omega) hl), (Sc_ib (k := 2) (Sc_K s k1) (by omega) hl), (Sc_ib (k := 3) (Sc_K s k1) (by omega) hl), rfl, ip (tM h1 k1) ?_⟩
    rw [k1.2.2, k1.2.2, k1.2.2]
    exact M _ _ (fun h2 k2 I2 => tr_L_law_246 (ip rfl (nx h2 k2 I2)))
  refine im c0 ?_
  by_cases c1 : c = 1
  · refine ip c1 ⟨(Sc_ib (k := 1) s (by omega) hl), rfl, ip tX (lw_I (op_read I hn) rfl (fun v h1 k1 M => ?_))⟩
    refine tr_L_law_260 ⟨(Sc_ib (k := 1) (Sc_K s k1) (by omega) hl), rfl, ip (tM h1 k1) ?_⟩
    rw [k1.2.2]
    exact M _ _ (fun h2 k2 I2 => tr_L_law_269 (ip rfl (nx h2 k2 I2)))
  refine im c1 ?_
  by_cases c2 : c = 2
  · refine ip c2 ⟨(Sc_ib (k := 1) s (by omega) hl), rfl, ip tX (lw_I (op_fault I) rfl (fun v h1 k1 M => ?_))⟩
    refine tr_L_law_283 ⟨(Sc_ib (k := 1) (Sc_K s k1) (by omega) hl), rfl, ip (tM h1 k1) ?_⟩
    rw [k1.2.2]
    exact M _ _ (fun h2 k2 I2 => tr_L_law_292 (ip rfl (nx h2 k2 I2)))
  refine im c2 ?_
  by_cases c3 : c = 3
  · refine ip c3 ⟨(Sc_ib (k := 1) s (by omega) hl), rfl, ip tX (lw_I (op_drop I) rfl (fun v h1 k1 M => ?_))⟩
    refine tr_L_law_306 ⟨(Sc_ib (k := 1) (Sc_K s k1) (by omega) hl), rfl, ip (tM h1 k1) ?_⟩
    rw [k1.2.2]
    exact M _ _ (fun h2 k2 I2 => tr_L_law_315 (ip rfl (nx h2 k2 I2)))
  refine im c3 ?_
  by_cases c4 : c = 4
  · refine ip c4 ⟨(Sc_ib (k := 1) s (by omega) hl), (Sc_ib (k := 2) s (by omega) hl), rfl, ip tX (lw_I (op_told I) rfl (fun v h1 k1 M => ?_))⟩
    refine tr_L_law_334 ⟨(Sc_ib (k := 1) (Sc_K s k1) (by omega) hl), (Sc_ib (k := 2) (Sc_K s k1) (by omega) hl), rfl, ip (tM h1 k1) ?_⟩
    rw [k1.2.2, k1.2.2]
    exact M _ _ (fun h2 k2 I2 => tr_L_law_348 (ip rfl (nx h2 k2 I2)))
  refine im c4 ?_
  by_cases c5 : c = 5
  · refine ip c5 ⟨(Sc_ib (k := 1) s (by omega) hl), rfl, ip tX (lw_I (op_print I) rfl (fun v h1 k1 M => ?_))⟩
    refine tr_L_law_362 ⟨(Sc_ib (k := 1) (Sc_K s k1) (by omega) hl), rfl, ip (tM h1 k1) ?_⟩
    rw [k1.2.2]
    exact M _ _ (fun h2 k2 I2 => tr_L_law_371 (ip rfl (nx h2 k2 I2)))
  refine im c5 ?_
  by_cases c6 : c = 6
  · refine ip c6 ⟨(Sc_ib (k := 1) s (by omega) hl), rfl, ip tX (lw_I (op_out I) rfl (fun v h1 k1 M => ?_))⟩
    refine tr_L_law_385 ⟨(Sc_ib (k := 1) (Sc_K s k1) (by omega) hl), rfl, ip (tM h1 k1) ?_⟩
    rw [k1.2.2]
    exact M _ _ (fun h2 k2 I2 => tr_L_law_394 (ip rfl (nx h2 k2 I2)))
  refine im c6 ?_
  by_cases c7 : c = 7
  · refine ip c7 ⟨rfl, ip tX (lw_I (op_take I) rfl (fun v h1 k1 M => ?_))⟩
    refine tr_L_law_403 ⟨rfl, ip (tM h1 k1) ?_⟩
    exact M _ _ (fun h2 k2 I2 => tr_L_law_407 (ip rfl (nx h2 k2 I2)))
  refine im c7 ?_
  by_cases c8 : c = 8
  · refine ip c8 ⟨(Sc_ib (k := 1) s (by omega) hl), (Sc_ib (k := 2) s (by omega) hl), rfl, ip tX (lw_I (op_same I) rfl (fun v h1 k1 M => ?_))⟩
    refine tr_L_law_426 ⟨(Sc_ib (k := 1) (Sc_K s k1) (by omega) hl), (Sc_ib (k := 2) (Sc_K s k1) (by omega) hl), rfl, ip (tM h1 k1) ?_⟩
    rw [k1.2.2, k1.2.2]
    exact M _ _ (fun h2 k2 I2 => tr_L_law_440 (ip rfl (nx h2 k2 I2)))
  refine im c8 ?_
  by_cases c9 : c = 9
  · refine ip c9 ⟨(Sc_ib (k := 1) s (by omega) hl), (Sc_ib (k := 2) s (by omega) hl), rfl, ip tX (lw_I (op_mirror I hn) rfl (fun v h1 k1 M => ?_))⟩
    refine tr_L_law_459 ⟨(Sc_ib (k := 1) (Sc_K s k1) (by omega) hl), (Sc_ib (k := 2) (Sc_K s k1) (by omega) hl), rfl, ip (tM h1 k1) ?_⟩
    rw [k1.2.2, k1.2.2]
    exact M _ _ (fun h2 k2 I2 => tr_L_law_473 (ip rfl (nx h2 k2 I2)))
  refine im c9 ?_
  by_cases c10 : c = 10
  · refine ip c10 ⟨(Sc_ib (k := 1) s (by omega) hl), (Sc_ib (k := 2) s (by omega) hl), rfl, ip tX (lw_I (op_turn I hn) rfl (fun v h1 k1 M => ?_))⟩
    refine tr_L_law_492 ⟨(Sc_ib (k := 1) (Sc_K s k1) (by omega) hl), (Sc_ib (k := 2) (Sc_K s k1) (by omega) hl), rfl, ip (tM h1 k1) ?_⟩
    rw [k1.2.2, k1.2.2]
    exact M _ _ (fun h2 k2 I2 => tr_L_law_506 (ip rfl (nx h2 k2 I2)))
  refine im c10 ?_
  by_cases c11 : c = 11
  · refine ip c11 ⟨(Sc_ib (k := 1) s (by omega) hl), (Sc_ib (k := 2) s (by omega) hl), rfl, ip tX (lw_I (op_walk I) rfl (fun v h1 k1 M => ?_))⟩
    refine tr_L_law_525 ⟨(Sc_ib (k := 1) (Sc_K s k1) (by omega) hl), (Sc_ib (k := 2) (Sc_K s k1) (by omega) hl), rfl, ip (tM h1 k1) ?_⟩
    rw [k1.2.2, k1.2.2]
    exact M _ _ (fun h2 k2 I2 => tr_L_law_539 (ip rfl (nx h2 k2 I2)))
  refine im c11 ?_
  by_cases c12 : c = 12
  · refine ip c12 ⟨rfl, ip tX (lw_I (op_wipe I) rfl (fun v h1 k1 M => ?_))⟩
    refine tr_L_law_548 ⟨rfl, ip (tM h1 k1) ?_⟩
    exact M _ _ (fun h2 k2 I2 => tr_L_law_552 (ip rfl (nx h2 k2 I2)))
  refine im c12 ?_
  by_cases c13 : c = 13
  · refine ip c13 ⟨(Sc_ib (k := 1) s (by omega) hl), (Sc_ib (k := 2) s (by omega) hl), rfl, ip tX (lw_I (op_give (s32_eq (Sc_rg (k := 2) s (by omega) hl).1 (Sc_rg (k := 2) s (by omega) hl).2) I) rfl (fun v h1 k1 M => ?_))⟩
    refine tr_L_law_571 ⟨(Sc_ib (k := 1) (Sc_K s k1) (by omega) hl), (Sc_ib (k := 2) (Sc_K s k1) (by omega) hl), rfl, ip (tM h1 k1) ?_⟩
    rw [k1.2.2, k1.2.2]
    exact M _ _ (fun h2 k2 I2 => tr_L_law_585 (ip rfl (nx h2 k2 I2)))
  refine im c13 ?_
  by_cases c14 : c = 14
  · refine ip c14 ⟨(Sc_ib (k := 1) s (by omega) hl), rfl, ip tX (lw_I (op_has I) rfl (fun v h1 k1 M => ?_))⟩
    refine tr_L_law_599 ⟨(Sc_ib (k := 1) (Sc_K s k1) (by omega) hl), rfl, ip (tM h1 k1) ?_⟩
    rw [k1.2.2]
    exact M _ _ (fun h2 k2 I2 => tr_L_law_608 (ip rfl (nx h2 k2 I2)))
  refine im c14 ?_
  by_cases c15 : c = 15
  · refine ip c15 ⟨(Sc_ib (k := 1) s (by omega) hl), rfl, ip tX (lw_I (op_value I) rfl (fun v h1 k1 M => ?_))⟩
    refine tr_L_law_622 ⟨(Sc_ib (k := 1) (Sc_K s k1) (by omega) hl), rfl, ip (tM h1 k1) ?_⟩
    rw [k1.2.2]
    exact M _ _ (fun h2 k2 I2 => tr_L_law_631 (ip rfl (nx h2 k2 I2)))
  refine im c15 ?_
  by_cases c16 : c = 16
  · refine ip c16 ⟨(Sc_ib (k := 1) s (by omega) hl), (Sc_ib (k := 2) s (by omega) hl), rfl, ip tX (lw_I (op_row I) rfl (fun v h1 k1 M => ?_))⟩
    refine tr_L_law_650 ⟨(Sc_ib (k := 1) (Sc_K s k1) (by omega) hl), (Sc_ib (k := 2) (Sc_K s k1) (by omega) hl), rfl, ip (tM h1 k1) ?_⟩
    rw [k1.2.2, k1.2.2]
    exact M _ _ (fun h2 k2 I2 => tr_L_law_664 (ip rfl (nx h2 k2 I2)))
  refine im c16 ?_
  by_cases c17 : c = 17
  · refine ip c17 ⟨(Sc_ib (k := 1) s (by omega) hl), (Sc_ib (k := 2) s (by omega) hl), rfl, ip tX (lw_J (op_item I) rfl (fun v h1 k1 M => ?_))⟩
    refine tr_L_law_683 ⟨(Sc_ib (k := 1) (Sc_K s k1) (by omega) hl), (Sc_ib (k := 2) (Sc_K s k1) (by omega) hl), rfl, ip (tM h1 k1) ?_⟩
    rw [k1.2.2, k1.2.2]
    exact M _ _ (fun h2 k2 I2 => tr_L_law_697 (ip (lcmp0 v) (nx h2 k2 I2)))
  refine im c17 ?_
  by_cases c18 : c = 18
  · refine ip c18 ⟨(Sc_ib (k := 1) s (by omega) hl), rfl, ip tX (lw_I (op_height I) rfl (fun v h1 k1 M => ?_))⟩
    refine tr_L_law_712 ⟨(Sc_ib (k := 1) (Sc_K s k1) (by omega) hl), rfl, ip (tM h1 k1) ?_⟩
    rw [k1.2.2]
    exact M _ _ (fun h2 k2 I2 => tr_L_law_721 (ip rfl (nx h2 k2 I2)))
  refine im c18 ?_
  by_cases c19 : c = 19
  · refine ip c19 ⟨(Sc_ib (k := 1) s (by omega) hl), (Sc_ib (k := 2) s (by omega) hl), rfl, ip tX (lw_I (op_piled I) rfl (fun v h1 k1 M => ?_))⟩
    refine tr_L_law_740 ⟨(Sc_ib (k := 1) (Sc_K s k1) (by omega) hl), (Sc_ib (k := 2) (Sc_K s k1) (by omega) hl), rfl, ip (tM h1 k1) ?_⟩
    rw [k1.2.2, k1.2.2]
    exact M _ _ (fun h2 k2 I2 => tr_L_law_754 (ip rfl (nx h2 k2 I2)))
  refine im c19 ?_
  by_cases c20 : c = 20
  · refine ip c20 ⟨(Sc_ib (k := 1) s (by omega) hl), (Sc_ib (k := 2) s (by omega) hl), ?_⟩
    by_cases b : hI h 0 (n_add ((i : Nat) : Int) 2).toNat = 0
    · refine ip b (tr_L_law_778 ⟨rfl, ip tX (lw_I (op_begin (b := false) I) rfl (fun v h1 k1 M => ?_))⟩)
      refine tr_L_law_781 ⟨(Sc_ib (k := 1) (Sc_K s k1) (by omega) hl), (Sc_ib (k := 2) (Sc_K s k1) (by omega) hl), ?_⟩
      rw [k1.2.2, k1.2.2]
      exact ip b (tr_L_law_800 ⟨rfl, ip (tM h1 k1) (M _ _ (fun h2 k2 I2 => tr_L_law_803 (ip rfl (nx h2 k2 I2))))⟩)
    · refine im b (tr_L_law_778 ⟨rfl, ip tX (lw_I (op_begin (b := true) I) rfl (fun v h1 k1 M => ?_))⟩)
      refine tr_L_law_781 ⟨(Sc_ib (k := 1) (Sc_K s k1) (by omega) hl), (Sc_ib (k := 2) (Sc_K s k1) (by omega) hl), ?_⟩
      rw [k1.2.2, k1.2.2]
      exact im b (tr_L_law_800 ⟨rfl, ip (tM h1 k1) (M _ _ (fun h2 k2 I2 => tr_L_law_803 (ip rfl (nx h2 k2 I2))))⟩)
  refine im c20 ?_
  by_cases c21 : c = 21
  · refine ip c21 ⟨(Sc_ib (k := 1) s (by omega) hl), ?_⟩
    by_cases b : hI h 0 (n_add ((i : Nat) : Int) 1).toNat = 0
    · refine ip b (tr_L_law_822 ⟨rfl, ip tX (lw_I (op_go (b := false) I hn) rfl (fun v h1 k1 M => ?_))⟩)
      refine tr_L_law_825 ⟨(Sc_ib (k := 1) (Sc_K s k1) (by omega) hl), ?_⟩
      rw [k1.2.2]
      exact ip b (tr_L_law_839 ⟨rfl, ip (tM h1 k1) (M _ _ (fun h2 k2 I2 => tr_L_law_842 (ip rfl (nx h2 k2 I2))))⟩)
    · refine im b (tr_L_law_822 ⟨rfl, ip tX (lw_I (op_go (b := true) I hn) rfl (fun v h1 k1 M => ?_))⟩)
      refine tr_L_law_825 ⟨(Sc_ib (k := 1) (Sc_K s k1) (by omega) hl), ?_⟩
      rw [k1.2.2]
      exact im b (tr_L_law_839 ⟨rfl, ip (tM h1 k1) (M _ _ (fun h2 k2 I2 => tr_L_law_842 (ip rfl (nx h2 k2 I2))))⟩)
  refine im c21 ?_
  by_cases c22 : c = 22
  · refine ip c22 ⟨(Sc_ib (k := 1) s (by omega) hl), rfl, ip tX (lw_I (op_run I hn) rfl (fun v h1 k1 M => ?_))⟩
    refine tr_L_law_856 ⟨(Sc_ib (k := 1) (Sc_K s k1) (by omega) hl), rfl, ip (tM h1 k1) ?_⟩
    rw [k1.2.2]
    exact M _ _ (fun h2 k2 I2 => tr_L_law_865 (ip rfl (nx h2 k2 I2)))
  refine im c22 ?_
  by_cases c23 : c = 23
  · refine ip c23 ⟨(Sc_ib (k := 1) s (by omega) hl), rfl, ip tX (lw_I (op_goTo I hn) rfl (fun v h1 k1 M => ?_))⟩
    refine tr_L_law_879 ⟨(Sc_ib (k := 1) (Sc_K s k1) (by omega) hl), rfl, ip (tM h1 k1) ?_⟩
    rw [k1.2.2]
    exact M _ _ (fun h2 k2 I2 => tr_L_law_888 (ip rfl (nx h2 k2 I2)))
  refine im c23 ?_
  by_cases c24 : c = 24
  · refine ip c24 ⟨(Sc_ib (k := 1) s (by omega) hl), rfl, ip tX (lw_I (op_at I) rfl (fun v h1 k1 M => ?_))⟩
    refine tr_L_law_902 ⟨(Sc_ib (k := 1) (Sc_K s k1) (by omega) hl), rfl, ip (tM h1 k1) ?_⟩
    rw [k1.2.2]
    exact M _ _ (fun h2 k2 I2 => tr_L_law_911 (ip rfl (nx h2 k2 I2)))
  refine im c24 ?_
  by_cases c25 : c = 25
  · refine ip c25 ⟨(Sc_ib (k := 1) s (by omega) hl), (Sc_ib (k := 2) s (by omega) hl), rfl, ip tX (lw_I (op_frame I) rfl (fun v h1 k1 M => ?_))⟩
    refine tr_L_law_930 ⟨(Sc_ib (k := 1) (Sc_K s k1) (by omega) hl), (Sc_ib (k := 2) (Sc_K s k1) (by omega) hl), rfl, ip (tM h1 k1) ?_⟩
    rw [k1.2.2, k1.2.2]
    exact M _ _ (fun h2 k2 I2 => tr_L_law_944 (ip rfl (nx h2 k2 I2)))
  refine im c25 ?_
  by_cases c26 : c = 26
  · refine ip c26 ⟨rfl, ip tX (lw_J (op_digest I) rfl (fun v h1 k1 M => ?_))⟩
    refine tr_L_law_953 ⟨rfl, ip (tM h1 k1) ?_⟩
    exact M _ _ (fun h2 k2 I2 => tr_L_law_957 (ip (lcmp0 v) (nx h2 k2 I2)))
  refine im c26 ?_
  by_cases c27 : c = 27
  · refine ip c27 ⟨(Sc_ib (k := 1) s (by omega) hl), (Sc_ib (k := 2) s (by omega) hl), (Sc_ib (k := 3) s (by omega) hl), rfl, ip tX (lw_I (op_lay hn I) rfl (fun v h1 k1 M => ?_))⟩
    refine tr_L_law_982 ⟨(Sc_ib (k := 1) (Sc_K s k1) (by omega) hl), (Sc_ib (k := 2) (Sc_K s k1) (by omega) hl), (Sc_ib (k := 3) (Sc_K s k1) (by omega) hl), rfl, ip (tM h1 k1) ?_⟩
    rw [k1.2.2, k1.2.2, k1.2.2]
    exact M _ _ (fun h2 k2 I2 => tr_L_law_1001 (ip rfl (nx h2 k2 I2)))
  refine im c27 ?_
  by_cases c28 : c = 28
  · refine ip c28 ⟨(Sc_ib (k := 1) s (by omega) hl), (Sc_ib (k := 2) s (by omega) hl), rfl, ip tX (lw_I (op_lift I) rfl (fun v h1 k1 M => ?_))⟩
    refine tr_L_law_1020 ⟨(Sc_ib (k := 1) (Sc_K s k1) (by omega) hl), (Sc_ib (k := 2) (Sc_K s k1) (by omega) hl), rfl, ip (tM h1 k1) ?_⟩
    rw [k1.2.2, k1.2.2]
    exact M _ _ (fun h2 k2 I2 => tr_L_law_1034 (ip rfl (nx h2 k2 I2)))
  refine im c28 ?_
  by_cases c29 : c = 29
  · refine ip c29 ⟨(Sc_ib (k := 1) s (by omega) hl), (Sc_ib (k := 2) s (by omega) hl), rfl, ip tX (lw_I (op_put I) rfl (fun v h1 k1 M => ?_))⟩
    refine tr_L_law_1053 ⟨(Sc_ib (k := 1) (Sc_K s k1) (by omega) hl), (Sc_ib (k := 2) (Sc_K s k1) (by omega) hl), rfl, ip (tM h1 k1) ?_⟩
    rw [k1.2.2, k1.2.2]
    exact M _ _ (fun h2 k2 I2 => tr_L_law_1067 (ip rfl (nx h2 k2 I2)))
  refine im c29 ?_
  by_cases c30 : c = 30
  · refine ip c30 ⟨(Sc_ib (k := 1) s (by omega) hl), (Sc_ib (k := 2) s (by omega) hl), (Sc_ib (k := 3) s (by omega) hl), (Sc_ib (k := 4) s (by omega) hl), (Sc_ib (k := 5) s (by omega) hl), rfl, ip tX (lw_I (op_set hn I) rfl (fun v h1 k1 M => ?_))⟩
    refine tr_L_law_1111 ⟨(Sc_ib (k := 1) (Sc_K s k1) (by omega) hl), (Sc_ib (k := 2) (Sc_K s k1) (by omega) hl), (Sc_ib (k := 3) (Sc_K s k1) (by omega) hl), (Sc_ib (k := 4) (Sc_K s k1) (by omega) hl), (Sc_ib (k := 5) (Sc_K s k1) (by omega) hl), rfl, ip (tM h1 k1) ?_⟩
    rw [k1.2.2, k1.2.2, k1.2.2, k1.2.2, k1.2.2]
    exact M _ _ (fun h2 k2 I2 => tr_L_law_1150 (ip rfl (nx h2 k2 I2)))
  refine im c30 ?_
  by_cases c31 : c = 31
  · refine ip c31 ⟨(Sc_ib (k := 1) s (by omega) hl), (Sc_ib (k := 2) s (by omega) hl), (Sc_ib (k := 3) s (by omega) hl), rfl, ip tX (lw_J (op_get hn I) rfl (fun v h1 k1 M => ?_))⟩
    refine tr_L_law_1174 ⟨(Sc_ib (k := 1) (Sc_K s k1) (by omega) hl), (Sc_ib (k := 2) (Sc_K s k1) (by omega) hl), (Sc_ib (k := 3) (Sc_K s k1) (by omega) hl), rfl, ip (tM h1 k1) ?_⟩
    rw [k1.2.2, k1.2.2, k1.2.2]
    exact M _ _ (fun h2 k2 I2 => tr_L_law_1193 (ip (lcmp0 v) (nx h2 k2 I2)))
  refine im c31 ?_
  by_cases c32 : c = 32
  · refine ip c32 ⟨rfl, ip tX (lw_I (op_failed I) rfl (fun v h1 k1 M => ?_))⟩
    refine tr_L_law_1203 ⟨rfl, ip (tM h1 k1) ?_⟩
    exact M _ _ (fun h2 k2 I2 => tr_L_law_1207 (ip rfl (nx h2 k2 I2)))
  refine im c32 ?_
  by_cases c33 : c = 33
  · refine ip c33 ⟨(Sc_ib (k := 1) s (by omega) hl), (Sc_ib (k := 2) s (by omega) hl), (Sc_ib (k := 3) s (by omega) hl), (Sc_ib (k := 4) s (by omega) hl), (Sc_ib (k := 5) s (by omega) hl), rfl, ip tX (lw_I (op_copy hn (Sc_rg (k := 2) s (by omega) hl) (Sc_rg (k := 4) s (by omega) hl) (Sc_rg (k := 5) s (by omega) hl) I) rfl (fun v h1 k1 M => ?_))⟩
    refine tr_L_law_1241 ⟨(Sc_ib (k := 1) (Sc_K s k1) (by omega) hl), (Sc_ib (k := 2) (Sc_K s k1) (by omega) hl), (Sc_ib (k := 3) (Sc_K s k1) (by omega) hl), (Sc_ib (k := 4) (Sc_K s k1) (by omega) hl), (Sc_ib (k := 5) (Sc_K s k1) (by omega) hl), rfl, ip (tM h1 k1) ?_⟩
    rw [k1.2.2, k1.2.2, k1.2.2, k1.2.2, k1.2.2]
    exact M _ _ (fun h2 k2 I2 => tr_L_law_1270 (ip rfl (nx h2 k2 I2)))
  refine im c33 ?_
  by_cases c34 : c = 34
  · refine ip c34 ⟨(Sc_ib (k := 1) s (by omega) hl), (Sc_ib (k := 2) s (by omega) hl), rfl, ip tX (lw_I (op_alike I) rfl (fun v h1 k1 M => ?_))⟩
    refine tr_L_law_1289 ⟨(Sc_ib (k := 1) (Sc_K s k1) (by omega) hl), (Sc_ib (k := 2) (Sc_K s k1) (by omega) hl), rfl, ip (tM h1 k1) ?_⟩
    rw [k1.2.2, k1.2.2]
    exact M _ _ (fun h2 k2 I2 => tr_L_law_1303 (ip rfl (nx h2 k2 I2)))
  refine im c34 ?_
  exact nx h ⟨hS, rfl, fun _ => rfl⟩ (IN_up I)
theorem lw_loop {d len : Nat} {Q : qt} (hl : len ≤ 384) (k : ∀ h, Q (.inl (some (vI 1))) h) : ∀ (f n : Nat) (h : hp), n + f = 64 → IN n h → Sc len h → Wp (d + 2000) C_L_law Q 18 [vR (some 0), vR (some 68), vR (some 116), vI ((6 * n : Nat) : Int)] [] h := by
  intro f
  induction f with
  | zero =>
    intro n h hn I s
    refine tr_L_law_18 ?_
    rw [ofR_some, s.1]
    refine ⟨show 100 ≤ 111 by decide, show 111 < 113 by decide, by show len < 2147483648; omega, ip ?_ ⟨Or.inr rfl, k h⟩⟩
    show n_sub ((len : Nat) : Int) 6 < _
    rw [ns_eq (by omega) (by omega)]; omega
  | succ f ih =>
    intro n h hn I s
    by_cases c : n_sub ((len : Nat) : Int) 6 < ((6 * n : Nat) : Int)
    · refine tr_L_law_18 ?_
      rw [ofR_some, s.1]
      exact ⟨show 100 ≤ 111 by decide, show 111 < 113 by decide, by show len < 2147483648; omega, ip c ⟨Or.inr rfl, k h⟩⟩
    · have c' := c
      rw [ns_eq (by omega) (by omega)] at c'
      refine lw_go I (by omega) hl (by omega) s (fun h2 k2 I2 => ?_) c
      refine tr_L_law_1308 ⟨by decide, ?_⟩
      rw [na_eq (by omega) (by omega), show ((6 * n : Nat) : Int) + 6 = ((6 * (n + 1) : Nat) : Int) by omega]
      exact ih (n + 1) h2 (by omega) I2 (Sc_K s k2)
