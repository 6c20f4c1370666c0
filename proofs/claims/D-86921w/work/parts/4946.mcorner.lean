/-! m GOES over a corner -/
theorem m_c235 {D r i n b p : Nat} {Q : qt} {h : hp} {T : zT} {f s : Bool} {v5 v : Int} (hS : St h) (hr : r < 10) (hi : i < 40) (hn : n = 1 ∨ n = 2 ∨ n = 3) (hg : zg T = 108 ∨ zg T = 111) (ei : i = zpos (n, T, b, p)) (h1 : hI h 131 (40 * r + i) = (b : Nat)) (h2 : hI h 132 (40 * r + i) = (zm T b : Nat)) (h3 : hI h 133 (40 * r + i) = (ze T b : Nat)) (hb : b < 1000 ∧ zm T b < 1000 ∧ ze T b < 1000) (k1 : cJp (n, T, b, p) f s = none → Q (.inl (some (vI 15))) (sI h 116 56 (hI h 116 56))) (k2 : ∀ q : Nat, cJp (n, T, b, p) f s = some q → Q (.inl (some (vI 0))) (sI h 116 56 (q : Nat))) : Wp D C_X4_over Q 235 [vR (some 116), vI (i : Nat), vI ((40 * r + i : Nat) : Int), vI (bI f), vI (dz (n, T, b, p)), vI v5, vJ v, vU, vU, vU, vU] [vI (bI s)] h := by
  have bd : (0 : Int) ≤ ((40 * r + i : Nat) : Int) ∧ ((40 * r + i : Nat) : Int) < 400 := by omega
  have S' : ∀ x, St (sI h 116 56 x) := fun x => St_sI hS (by omega)
  have fin : ∀ (v4 v8 : Int) (o : Bool) (q : Nat), (cJp (n, T, b, p) f s = if o = true then some q else none) → Wp D C_X4_over Q 547 [vR (some 116), vI (i : Nat), vI ((40 * r + i : Nat) : Int), vI (bI f), vI v4, vI v5, vJ v, vU, vI v8, vI (bI o), vI (q : Nat)] [] h := by
    intro v4 v8 o q e
    refine ss_X4_over_547 hS ?_
    cases o with
    | true => exact im (by decide) (ss_X4_over_562 hS (im (by decide) (ss_X4_over_576 (S' _) (k2 q e))))
    | false => exact ip rfl (ss_X4_over_562 hS (ip rfl (ss_X4_over_576 (S' _) (k1 e))))
  have hi1 : i < 1000 := by omega
  refine ss_X4_over_235 hS ?_
  rw [Int.toNat_natCast, h1, h2, h3, n1 hb.1, n1 hb.2.1, n1 hb.2.2, n1 hi1]
  rcases hg with g | g
  · rcases hn with e | e | e <;> subst e
    · have ed : dz (1, T, b, p) = 8 := by unfold dz; dsimp only; rw [if_neg (by decide), if_pos rfl]; show ((zg T : Nat) : Int) - 100 = 8; rw [g]; rfl
      have ej : i = b := ei
      rw [ed]
      cases f <;> cases s
      · exact ip rfl (ip rfl (ss_X4_over_311 hS (ip rfl (ip rfl (ss_X4_over_327 hS (fin _ _ false (i) (by unfold cJp; rw [if_pos g]; first | rfl | (rw [ej]; rfl))))))))
      · exact ip rfl (ip rfl (ss_X4_over_311 hS (ip rfl (im (by decide) (ss_X4_over_322 hS (ss_X4_over_327 hS (fin _ _ true (i) (by unfold cJp; rw [if_pos g]; first | rfl | (rw [ej]; rfl)))))))))
      · exact ip rfl (im (by decide) (ip rfl (⟨bd, ss_X4_over_311 hS (im (by decide) (ss_X4_over_322 hS (ss_X4_over_327 hS (fin _ _ true (zm T b + 1) (by unfold cJp; rw [if_pos g]; first | rfl | (rw [ej]; rfl))))))⟩)))
      · exact ip rfl (im (by decide) (im (by decide) (ss_X4_over_311 hS (im (by decide) (ss_X4_over_322 hS (ss_X4_over_327 hS (fin _ _ true (i + 1) (by unfold cJp; rw [if_pos g]; first | rfl | (rw [ej]; rfl)))))))))
    · have ed : dz (2, T, b, p) = 9 := by unfold dz; dsimp only; rw [if_neg (by decide), if_neg (by decide), if_pos rfl]; rw [if_pos g]
      have ej : i = zm T b := ei
      rw [ed]
      cases f <;> cases s
      · exact im (by decide) (ip rfl (ip rfl (⟨bd, ss_X4_over_353 hS (ip rfl (ss_X4_over_366 hS (fin _ _ true (b) (by unfold cJp; rw [if_pos g]; first | rfl | (rw [ej]; rfl)))))⟩)))
      · exact im (by decide) (ip rfl (ip rfl (⟨bd, ss_X4_over_353 hS (im (by decide) (ss_X4_over_366 hS (fin _ _ false (b) (by unfold cJp; rw [if_pos g]; first | rfl | (rw [ej]; rfl)))))⟩)))
      · exact im (by decide) (ip rfl (im (by decide) (⟨bd, ss_X4_over_353 hS (im (by decide) (ss_X4_over_366 hS (fin _ _ false (ze T b + 1) (by unfold cJp; rw [if_pos g]; first | rfl | (rw [ej]; rfl)))))⟩)))
      · exact im (by decide) (ip rfl (im (by decide) (⟨bd, ss_X4_over_353 hS (ip rfl (ss_X4_over_366 hS (fin _ _ true (ze T b + 1) (by unfold cJp; rw [if_pos g]; first | rfl | (rw [ej]; rfl)))))⟩)))
    · have ed : dz (3, T, b, p) = 10 := by unfold dz; dsimp only; rw [if_neg (by decide), if_neg (by decide), if_neg (by decide)]; rw [if_pos g]
      have ej : i = ze T b := ei
      rw [ed]
      cases f <;> cases s
      · exact im (by decide) (im (by decide) (ip rfl (ip rfl (ip rfl (ss_X4_over_396 hS (ip rfl (ss_X4_over_407 hS (ss_X4_over_412 hS (fin _ _ true (i) (by unfold cJp; rw [if_pos g]; first | rfl | (rw [ej]; rfl)))))))))))
      · exact im (by decide) (im (by decide) (ip rfl (ip rfl (im (by decide) (⟨bd, ss_X4_over_396 hS (ip rfl (ss_X4_over_407 hS (ss_X4_over_412 hS (fin _ _ true (zm T b) (by unfold cJp; rw [if_pos g]; first | rfl | (rw [ej]; rfl))))))⟩)))))
      · exact im (by decide) (im (by decide) (ip rfl (im (by decide) (ss_X4_over_396 hS (im (by decide) (ip rfl (ss_X4_over_407 hS (ss_X4_over_412 hS (fin _ _ true (i + 1) (by unfold cJp; rw [if_pos g]; first | rfl | (rw [ej]; rfl)))))))))))
      · exact im (by decide) (im (by decide) (ip rfl (im (by decide) (ss_X4_over_396 hS (im (by decide) (im (by decide) (ss_X4_over_412 hS (fin _ _ false (i + 1) (by unfold cJp; rw [if_pos g]; first | rfl | (rw [ej]; rfl))))))))))
  · have g8 : ¬ zg T = 108 := by omega
    rcases hn with e | e | e <;> subst e
    · have ed : dz (1, T, b, p) = 11 := by unfold dz; dsimp only; rw [if_neg (by decide), if_pos rfl]; show ((zg T : Nat) : Int) - 100 = 11; rw [g]; rfl
      have ej : i = b := ei
      rw [ed]
      cases f <;> cases s
      · exact im (by decide) (im (by decide) (im (by decide) (ip rfl (ip rfl (ip rfl (⟨bd, ss_X4_over_442 hS (ip rfl (ss_X4_over_453 hS (ss_X4_over_458 hS (fin _ _ true (ze T b) (by unfold cJp; rw [if_neg g8]; first | rfl | (rw [ej]; rfl))))))⟩))))))
      · exact im (by decide) (im (by decide) (im (by decide) (ip rfl (ip rfl (im (by decide) (ss_X4_over_442 hS (ip rfl (ss_X4_over_453 hS (ss_X4_over_458 hS (fin _ _ true (i) (by unfold cJp; rw [if_neg g8]; first | rfl | (rw [ej]; rfl))))))))))))
      · exact im (by decide) (im (by decide) (im (by decide) (ip rfl (im (by decide) (ss_X4_over_442 hS (im (by decide) (ip rfl (ss_X4_over_458 hS (fin _ _ false (i + 1) (by unfold cJp; rw [if_neg g8]; first | rfl | (rw [ej]; rfl)))))))))))
      · exact im (by decide) (im (by decide) (im (by decide) (ip rfl (im (by decide) (ss_X4_over_442 hS (im (by decide) (im (by decide) (ss_X4_over_453 hS (ss_X4_over_458 hS (fin _ _ true (i + 1) (by unfold cJp; rw [if_neg g8]; first | rfl | (rw [ej]; rfl))))))))))))
    · have ed : dz (2, T, b, p) = 13 := by unfold dz; dsimp only; rw [if_neg (by decide), if_neg (by decide), if_pos rfl]; rw [if_neg g8, if_pos g]
      have ej : i = zm T b := ei
      rw [ed]
      cases f <;> cases s
      · exact im (by decide) (im (by decide) (im (by decide) (im (by decide) (im (by decide) (ip rfl (ip rfl (ss_X4_over_490 hS (ip rfl (ip rfl (ss_X4_over_501 hS (ss_X4_over_506 hS (fin _ _ true (i) (by unfold cJp; rw [if_neg g8]; first | rfl | (rw [ej]; rfl))))))))))))))
      · exact im (by decide) (im (by decide) (im (by decide) (im (by decide) (im (by decide) (ip rfl (ip rfl (ss_X4_over_490 hS (ip rfl (im (by decide) (ss_X4_over_506 hS (fin _ _ false (i) (by unfold cJp; rw [if_neg g8]; first | rfl | (rw [ej]; rfl)))))))))))))
      · exact im (by decide) (im (by decide) (im (by decide) (im (by decide) (im (by decide) (ip rfl (im (by decide) (ip rfl (ss_X4_over_490 hS (im (by decide) (ss_X4_over_501 hS (ss_X4_over_506 hS (fin _ _ true (i + 1) (by unfold cJp; rw [if_neg g8]; first | rfl | (rw [ej]; rfl))))))))))))))
      · exact im (by decide) (im (by decide) (im (by decide) (im (by decide) (im (by decide) (ip rfl (im (by decide) (im (by decide) (⟨bd, ss_X4_over_490 hS (im (by decide) (ss_X4_over_501 hS (ss_X4_over_506 hS (fin _ _ true (ze T b + 1) (by unfold cJp; rw [if_neg g8]; first | rfl | (rw [ej]; rfl))))))⟩))))))))
    · have ed : dz (3, T, b, p) = 12 := by unfold dz; dsimp only; rw [if_neg (by decide), if_neg (by decide), if_neg (by decide)]; rw [if_neg g8, if_pos g]
      have ej : i = ze T b := ei
      rw [ed]
      cases f <;> cases s
      · exact im (by decide) (im (by decide) (im (by decide) (im (by decide) (ip rfl (ip rfl (⟨bd, ss_X4_over_532 hS (ip rfl (ss_X4_over_545 hS (fin _ _ false (zm T b) (by unfold cJp; rw [if_neg g8]; first | rfl | (rw [ej]; rfl)))))⟩))))))
      · exact im (by decide) (im (by decide) (im (by decide) (im (by decide) (ip rfl (ip rfl (⟨bd, ss_X4_over_532 hS (im (by decide) (ss_X4_over_545 hS (fin _ _ true (zm T b) (by unfold cJp; rw [if_neg g8]; first | rfl | (rw [ej]; rfl)))))⟩))))))
      · exact im (by decide) (im (by decide) (im (by decide) (im (by decide) (ip rfl (im (by decide) (⟨bd, ss_X4_over_532 hS (im (by decide) (ss_X4_over_545 hS (fin _ _ true (b + 1) (by unfold cJp; rw [if_neg g8]; first | rfl | (rw [ej]; rfl)))))⟩))))))
      · exact im (by decide) (im (by decide) (im (by decide) (im (by decide) (ip rfl (im (by decide) (⟨bd, ss_X4_over_532 hS (ip rfl (ss_X4_over_545 hS (fin _ _ false (b + 1) (by unfold cJp; rw [if_neg g8]; first | rfl | (rw [ej]; rfl)))))⟩))))))
