set_option maxRecDepth 20000
/-! THE LAW AS A WHOLE, on the small machine -/
def S0 (len : Nat) (h : hp) : Prop := hN h = 68 ∧ hU h = 0 ∧ hT h 1 = (106, 0) ∧ (∀ p ∈ sxL, Ss h p.1 p.2) ∧ Sc len h
def σ0 : zS := fun f _ => if f = 2 then -1 else 0
theorem tz_ok : ∀ p ∈ tgL, p = (1, 106, 0) ∨ (68 ≤ p.1 ∧ p.1 < 145 ∧ lkT Tz p.1 = p.2) := by decide
theorem rz_ok : ∀ p ∈ rfL, 68 ≤ p.1 ∧ p.1 < 145 ∧ exc p.1 = false ∧ lkR Rz p.1 p.2.1 = some p.2.2 := by decide
theorem iz_ok : ∀ k, k < 17 → lkI Iz (85 + k) 6 = ((k : Nat) : Int) := by decide
theorem iz_35 : ∀ k, k < 14 → lkI Iz 135 k = -1 := by decide
theorem sx_ok : ∀ p ∈ sxL, p.1 + 1 < 68 := by decide
theorem iz_out : ∀ a, a = 73 ∨ a = 76 ∨ a = 77 ∨ a = 121 ∨ a = 136 ∨ a = 137 ∨ a = 139 ∨ a = 140 → ∀ e ∈ Iz, e.1 ≠ a := by
  intro a ha
  rcases ha with q | q | q | q | q | q | q | q <;> subst q <;> decide
theorem rz_72 : ∀ e ∈ Rz, e.1 ≠ 72 := by decide
theorem rz_ho : ∀ k, k < 14 → ∀ e ∈ Rz, e.1 ≠ 102 + k := by decide
theorem Bt_St {len : Nat} {h0 g : hp} (s : S0 len h0) (B : Bt h0 145 71179 Tz Rz Iz g) : St g := by
  obtain ⟨b1, b2, b3, b4, -⟩ := B
  refine ⟨by omega, fun p hp => ?_, fun p hp => ?_, fun p hp => ?_, fun k hk => ?_⟩
  · rcases tz_ok p hp with e | ⟨e1, e2, e3⟩
    · rw [e]; exact (b3 1 (by decide)).1.trans s.2.2.1
    · rw [(b4 p.1 e1 e2).1]; exact e3
  · obtain ⟨e1, e2, e3, e4⟩ := rz_ok p hp
    rw [(b4 p.1 e1 e2).2.2.2 e3]; exact e4
  · have l := sx_ok p hp
    obtain ⟨q1, q2, q3, q4, q5⟩ := s.2.2.2.1 p hp
    have a1 := b3 p.1 (by omega)
    have a2 := b3 (p.1 + 1) l
    exact ⟨a1.1.trans q1, (a1.2.2.2 0).trans q2, (a1.2.1 1).trans q3, a2.1.trans q4, fun j hj => (a2.2.1 j).trans (q5 j hj)⟩
  · rw [(b4 (85 + k) (by omega) (by omega)).2.1 6]; exact iz_ok k hk
theorem Bt_IN {len : Nat} {h0 g : hp} (s : S0 len h0) (B : Bt h0 145 71179 Tz Rz Iz g) : IN 0 g := by
  have hS := Bt_St s B
  obtain ⟨b1, b2, b3, b4, -⟩ := B
  have hi : ∀ a j, 68 ≤ a → a < 145 → hI g a j = lkI Iz a j := fun a j a1 a2 => (b4 a a1 a2).2.1 j
  have z : ∀ a j, a = 73 ∨ a = 76 ∨ a = 77 ∨ a = 121 ∨ a = 136 ∨ a = 137 ∨ a = 139 ∨ a = 140 → hI g a j = 0 := fun a j ha => by rw [hi a j (by omega) (by omega)]; exact lkI_out (iz_out a ha) j
  have ho : ∀ k, k < 14 → hR g (102 + k) 0 = none := fun k hk => by rw [(b4 (102 + k) (by omega) (by omega)).2.2.2 (by unfold exc; simp; omega)]; exact lkR_out (rz_ho k hk) 0
  refine ⟨((fun _ => none), σ0, none, 0, [], (0, 0), [], 0), hS, ⟨fun r _ => ?_, ⟨fun _ => 0, ⟨fun k _ => ⟨z 73 k (by omega), Or.inl rfl, fun q => absurd (show (0 : Int) = 1 from q) (by decide)⟩, fun k hk => Or.inl ⟨rfl, ho k hk⟩, fun k k' id id' _ _ q => absurd (show (-1 : Int) = (id : Nat) from q) (by omega)⟩, fun s _ => ⟨z 77 s (by omega), by show (0 : Int) ≤ 0; omega, by show (0 : Int) ≤ 30; omega⟩, fun j _ => z 76 j (by omega)⟩, ⟨?_, ?_⟩, ?_, ?_, ⟨?_, by decide, trivial, fun c hc => by cases hc⟩, ⟨?_, ?_⟩, ⟨?_, trivial⟩, ?_⟩, ⟨fun r _ => z 121 r (by omega), ⟨⟨0, by decide, ?_, fun k _ => by rw [Nat.zero_testBit]; rfl⟩, fun k _ q => absurd (show (0 : Int) = 1 from q) (by decide), fun k hk => ⟨?_, by show (-1 : Int) ≤ -1; omega, by show (-1 : Int) < 14; omega⟩, fun id _ => ⟨z 136 id (by omega), z 137 id (by omega), by show (0 : Int) ≤ 0; omega, by show (0 : Int) ≤ 12; omega⟩, fun j _ => ?_, fun s _ => z 139 s (by omega), fun j _ => z 140 j (by omega)⟩, ?_, ?_, ⟨?_, by decide, trivial, fun c hc => by cases hc⟩, ⟨?_, ?_⟩, ⟨?_, trivial⟩, ?_⟩, ⟨fun r t _ e => (by cases e), ⟨⟨fun k _ => by show l_l2i 0 = 0; decide, fun id j _ _ => by show cutz 0 0 = 0; decide, fun j _ => by show l_l2i 0 = 0; decide⟩, fun s _ => ⟨by show (0 : Int) ≤ 0; omega, by show (0 : Int) ≤ 30; omega⟩⟩, trivial, (fun c hc => by cases hc), by decide⟩, by rw [b2]; decide⟩
  · show hR g 72 r = none
    rw [(b4 72 (by decide) (by decide)).2.2.2 rfl]; exact lkR_out rz_72 r
  · exact (hi 68 28 (by decide) (by decide)).trans (by decide)
  · exact ((b4 68 (by decide) (by decide)).2.2.2 rfl 29).trans (by decide)
  · exact (hi 68 19 (by decide) (by decide)).trans (by decide)
  · exact (hi 68 23 (by decide) (by decide)).trans (by decide)
  · exact (hi 68 1 (by decide) (by decide)).trans (by decide)
  · exact (hi 68 6 (by decide) (by decide)).trans (by decide)
  · exact (hi 68 7 (by decide) (by decide)).trans (by decide)
  · exact (hi 68 37 (by decide) (by decide)).trans (by decide)
  · exact (hi 68 39 (by decide) (by decide)).trans (by decide)
  · exact (hi 116 35 (by decide) (by decide)).trans (by decide)
  · exact (hi 135 k (by decide) (by decide)).trans (iz_35 k hk)
  · exact (b4 138 (by decide) (by decide)).2.2.1 j
  · exact (hi 116 54 (by decide) (by decide)).trans (by decide)
  · exact (hi 116 62 (by decide) (by decide)).trans (by decide)
  · exact (hi 116 1 (by decide) (by decide)).trans (by decide)
  · exact (hi 116 12 (by decide) (by decide)).trans (by decide)
  · exact (hi 116 13 (by decide) (by decide)).trans (by decide)
  · exact (hi 116 3 (by decide) (by decide)).trans (by decide)
  · exact (hi 116 64 (by decide) (by decide)).trans (by decide)
/-- the law returns, and answers 1 -/
theorem law_ok {d len : Nat} {Q : qt} {h : hp} (s : S0 len h) (hl : len ≤ 384) (k : ∀ g, Q (.inl (some (vI 1))) g) : Wc (d + 2001) 391 [vR (some 0)] h Q := by
  have B0 : Bt h 68 0 [] [] [] h := ⟨s.1, s.2.1, fun a _ => sm_refl _ _, fun a a1 a2 => (by omega), fun e he => (by cases he), fun e he => (by cases he), Nat.le_refl _⟩
  have B1 : Bt h 69 53 [(68, 0, 0)] [] [] (hNew h 0 0 40) := Bt_new B0
  refine Wc_of cs_L_law rfl (tr_L_law_0 ⟨by rw [s.2.1]; decide, rfl, rfl, ?_⟩)
  rw [ofR_some, s.1]
  refine ⟨by rw [Bt_T B1 (by decide) (by decide)]; decide, x_init (d := d + 1996) B1 (fun g Bx => ?_)⟩
  have B2 : Bt h 117 (19656 + 79) ((116, 4, 0) :: Tx2) Rx2 Ix2 (hNew g 4 0 66) := Bt_new Bx
  refine tr_L_law_7 ⟨by decide, by rw [Bx.2.1]; decide, rfl, rfl, ?_⟩
  rw [ofR_some, Bx.1]
  refine ⟨by rw [Bt_T B2 (by decide) (by decide)]; decide, m_init (d := d + 1996) B2 (fun g2 Bz => ?_)⟩
  refine tr_L_law_15 ⟨by decide, by decide, ?_⟩
  have s2 : Sc len g2 := ⟨(Bz.2.2.1 0 (by decide)).1.trans s.2.2.2.2.1, fun j hj => by rw [(Bz.2.2.1 0 (by decide)).2.1]; exact s.2.2.2.2.2 j hj⟩
  exact lw_loop hl k 64 0 g2 rfl (Bt_IN s Bz) s2
