/-! x: told, drop; m: drop -/
theorem RT_ys {h : hp} {lo hi : Nat} : ∀ (t : zT) (ys : List Nat), okS t 0 → RT h lo hi t ys → ys.length = (zls t).length := by
  intro t
  induction t with
  | leaf n => intro ys _ z; rw [show ys = [] from z]; rfl
  | branch k s t _ ih =>
    intro ys ok z
    unfold okS at ok
    rw [if_pos rfl] at ok
    obtain ⟨e, os, ot⟩ := ok
    subst e
    obtain ⟨x, zs, e, r1, r2⟩ := RT_cons z
    subst e
    show zs.length + 1 = (zls t).length + 1
    rw [ih zs ot r2]
/-- Routine.isOrdinary -/
theorem c_isOrd {d : Nat} {Q : qt} {h : hp} {t : zT} {rc : Nat} (hS : St h) (ok : okS t 0) (un : zun (zord t) t) (hX : XR h t rc) (k : Q (.inl (some (vI (bI (zord t))))) h) : Wc (d + 7) 378 [vR (some rc)] h Q := by
  obtain ⟨z1, z2, z3, lo, hi, p, l, arr, ys, cs, es, a1, a2, a3, a4, a5, a6, -⟩ := hX
  obtain ⟨b1, b2, b3, ls, la, b4, b5, b6, b7, b8⟩ := a5
  refine se_X33_isOrdinary hS z1 ?_
  rw [a3, ofR_some]
  refine ⟨by rw [b3]; simp, ?_⟩
  rw [b4, ofR_some]
  refine ip (by rw [b7.1]) ?_
  refine se_J4_isEmpty hS b7.1 ?_
  rw [b7.2.2.1]
  cases t with
  | leaf v =>
    have hy : ys = [] := a6
    subst hy
    refine ip rfl ?_
    refine ss_X33_isOrdinary_12 hS z1 (im (by decide) ?_)
    exact k
  | branch c s t =>
    have ok' := ok
    unfold okS at ok'
    rw [if_pos rfl] at ok'
    obtain ⟨e, os, ot⟩ := ok'
    subst e
    obtain ⟨x, zs, e, r1, r2⟩ := RT_cons a6
    subst e
    refine im (by simp; omega) ?_
    refine ss_X33_isOrdinary_12 hS z1 (ip rfl ?_)
    rw [a3, ofR_some]
    refine ⟨by rw [b3]; simp, ?_⟩
    rw [b4, ofR_some]
    refine ip (by rw [b7.1]) ?_
    refine c_get (i := 0) hS b7 (by simp) ?_
    refine ss_X33_isOrdinary_28 hS z1 ?_
    have hk := RT_kind s os x r1
    refine ⟨Or.inr ⟨x, rfl, hk⟩, ?_⟩
    show vsel _ (hT h x).1 _
    have us := (zun_150 un).1
    cases hz : zord (.branch 150 s t) with
    | true =>
      rw [hz] at us k
      have hk2 := RT_kindO s os us x r1
      refine vsel_of (y := 313) ?_ (se_X22_isOrdinary hS hk2 ?_)
      · have hk' : (hT h x).1 = 23 ∨ (hT h x).1 = 31 ∨ (hT h x).1 = 32 := by simpa using hk2
        rcases hk' with e | e | e <;> rw [e] <;> rfl
      · exact ss_X33_isOrdinary_34 hS z1 (im (by decide) k)
    | false =>
      rw [hz] at us k
      have kc : (hT h x).1 = 20 ∨ (hT h x).1 = 21 ∨ (hT h x).1 = 24 ∨ (hT h x).1 = 25 ∨ (hT h x).1 = 26 ∨ (hT h x).1 = 27 ∨ (hT h x).1 = 29 ∨ (hT h x).1 = 30 := by
        have H := ok_ind (P0 := fun _ => True) (P1 := fun s => zun false s → ∀ x, RT h lo hi s [x] → (hT h x).1 = 20 ∨ (hT h x).1 = 21 ∨ (hT h x).1 = 24 ∨ (hT h x).1 = 25 ∨ (hT h x).1 = 26 ∨ (hT h x).1 = 27 ∨ (hT h x).1 = 29 ∨ (hT h x).1 = 30) (fun _ => trivial) (fun _ _ _ _ _ _ => trivial)
          (fun e s t e2 _ _ _ _ _ _ u x z => by rw [(RT_fk (Or.inl ⟨rfl, rfl, rfl⟩) z).2.2.1]; simp)
          (fun e s t e2 _ _ _ _ _ _ u x z => by rw [(RT_fk (Or.inr ⟨rfl, rfl, rfl⟩) z).2.2.1]; simp)
          (fun e s _ _ _ u x z => absurd (zun_wh u).1 (by decide))
          (fun e s t _ _ _ _ _ u x z => absurd (zun_wn u).1 (by decide))
          (fun k l r hk u x z => by
            have n4 : k ≠ 114 := by
              have := zun_1 hk u
              exact of_decide_eq_false this.symm
            rcases RT_1 hk z with ⟨q, _, _, _, _, _, _, t, _⟩ | ⟨q, _⟩ | ⟨q, _, _, _, _, _, _, t, _⟩ | ⟨q, _, _, _, _, _, _, _, _, _, _, _, t, _⟩ | ⟨q, _, _, _, _, t, _⟩ | ⟨q, _, _, _, _, t, _⟩ | ⟨q, _, _, _, _, _, t, _⟩
            · rw [t]; simp
            · exact absurd q n4
            · rw [t]; simp
            · rw [t]; simp
            · rw [t]; simp
            · rw [t]; simp
            · rw [t]; simp)
        exact (H s).2.1 os us x r1
      refine vsel_of (y := 290) ?_ (se_X18_isOrdinary hS hk ?_)
      · rcases kc with e | e | e | e | e | e | e | e <;> rw [e] <;> rfl
      · exact ss_X33_isOrdinary_34 hS z1 (ip rfl k)
theorem c_toldX {d : Nat} {Q : qt} {h : hp} {ρ : Nat → Option zT} {a b : Int} (hS : St h) (hR0 : RIs h ρ) (k : Q (.inl (some (vI (toldV ρ a b)))) h) : Wc (d + 1710) 42 [vR (some 68), vI a, vI b] h Q := by
  refine se_X0_told hS ?_
  refine pu_isRoutine hS ?_
  refine ss_X0_told_4 hS ?_
  unfold toldV at k
  by_cases ha : 0 ≤ a ∧ a ≤ 9
  · rw [show (decide (0 ≤ a) && decide (a ≤ 9)) = true by simp; omega]
    refine im (by decide) ?_
    refine pu_isIn hS ?_
    refine ss_X0_told_16 hS ?_
    by_cases hb : 0 ≤ b ∧ b ≤ 4
    · rw [show (decide (0 ≤ b) && decide (b ≤ 4)) = true by simp; omega]
      rw [if_neg (by omega)] at k
      refine im (by decide) ⟨by omega, ?_⟩
      obtain ⟨r, rfl⟩ : ∃ r : Nat, a = (r : Nat) := ⟨a.toNat, by omega⟩
      rw [Int.toNat_natCast] at k ⊢
      have hr : r < 10 := by omega
      have hI0 := hR0 r hr
      cases hρ : ρ r with
      | none =>
        rw [hρ] at k hI0
        exact ip hI0.1 k
      | some t =>
        rw [hρ] at k hI0
        obtain ⟨ok, un, hz, hbr, hlen, ⟨rc, x1, x2⟩, -⟩ := hI0
        have x2' := x2
        obtain ⟨z1, z2, z3, lo, hi, p, l, arr, ys, cs, es, a1, a2, a3, a4, a5, a6, -⟩ := x2
        have k2 : Q (.inl (some (vI (tval t b)))) h := k
        unfold tval at k2
        rw [x1]
        refine im (by simp) ?_
        by_cases b0 : b = 0
        · rw [if_pos b0] at k2
          refine ip b0 ?_
          rw [ofR_some]
          refine ⟨by rw [z1]; simp, ?_⟩
          rw [a3, ofR_some]
          refine ip (by rw [a5.2.2.1]) ?_
          exact c_code hS ok a5 a6 (by omega) hbr k2
        rw [if_neg b0] at k2
        refine im b0 ?_
        by_cases b1 : b = 1
        · rw [if_pos b1] at k2
          refine ip b1 ?_
          rw [ofR_some]
          refine ⟨by rw [z1]; simp, ?_⟩
          rw [a3, ofR_some]
          obtain ⟨c1, c2, c3, ls, la, c4, c5, c6, c7, c8⟩ := a5
          refine ⟨by rw [c3]; simp, ?_⟩
          rw [c4, ofR_some]
          refine ip (by rw [c7.1]) ?_
          refine c_size hS c7 ?_
          rw [RT_ys t ys ok a6]
          exact k2
        rw [if_neg b1] at k2
        refine im b1 ?_
        by_cases b2 : b = 2
        · rw [if_pos b2] at k2
          refine ip b2 ?_
          rw [ofR_some]
          refine ip (by rw [z1]) ?_
          refine c_isOrd hS ok un x2' ?_
          refine ss_X0_told_93 hS ?_
          cases hz2 : zord t with
          | true => rw [hz2] at k2; exact im (by decide) k2
          | false => rw [hz2] at k2; exact ip rfl k2
        rw [if_neg b2] at k2
        refine im b2 ?_
        by_cases b3 : b = 3
        · rw [if_pos b3] at k2
          refine ip b3 ?_
          rw [ofR_some]
          refine ⟨by rw [z1]; simp, ?_⟩
          rw [a3, ofR_some]
          refine ip (by rw [a5.2.2.1]) ?_
          exact c_braces hS ok a5 a6 hlen hbr k2
        rw [if_neg b3] at k2
        refine im b3 ?_
        rw [ofR_some]
        refine ⟨by rw [z1]; simp, ?_⟩
        rw [a3, ofR_some]
        refine ip (by rw [a5.2.2.1]) ?_
        exact c_names hS ok a5 a6 hlen hbr k2
    · rw [show (decide (0 ≤ b) && decide (b ≤ 4)) = false by rw [Bool.eq_false_iff]; simp; omega]
      rw [if_pos (Or.inr hb)] at k
      exact ip rfl k
  · rw [show (decide (0 ≤ a) && decide (a ≤ 9)) = false by rw [Bool.eq_false_iff]; simp; omega]
    rw [if_pos (Or.inl ha)] at k
    exact ip rfl k
/-- whether a routine is there -/
def lackV (ρ : Nat → Option zT) (a : Int) : Int := if 0 ≤ a ∧ a ≤ 9 then (match ρ a.toNat with
  | none => -2
  | some _ => 0) else -1
theorem c_lacks {d : Nat} {Q : qt} {h : hp} {ρ : Nat → Option zT} {a : Int} (hS : St h) (hR0 : RIs h ρ) (k : Q (.inl (some (vI (lackV ρ a)))) h) : Wc (d + 3) 41 [vR (some 68), vI a] h Q := by
  refine se_X0_lacks hS ?_
  refine pu_isRoutine hS ?_
  refine ss_X0_lacks_4 hS ?_
  unfold lackV at k
  by_cases ha : 0 ≤ a ∧ a ≤ 9
  · rw [show (decide (0 ≤ a) && decide (a ≤ 9)) = true by simp; omega]
    rw [if_pos ha] at k
    refine im (by decide) ⟨by omega, ?_⟩
    have hI0 := hR0 a.toNat (by omega)
    cases hρ : ρ a.toNat with
    | none => rw [hρ] at k hI0; exact ip hI0.1 k
    | some t =>
      rw [hρ] at k hI0
      obtain ⟨-, -, -, -, -, ⟨rc, x1, x2⟩, -⟩ := hI0
      exact im (by rw [x1]; simp) k
  · rw [show (decide (0 ≤ a) && decide (a ≤ 9)) = false by rw [Bool.eq_false_iff]; simp; omega]
    rw [if_neg ha] at k
    exact ip rfl k
def dropV (ρ : Nat → Option zT) (a : Int) : Int := if 0 ≤ a ∧ a ≤ 9 then (match ρ a.toNat with
  | none => -2
  | some t => (zc t : Nat)) else -1
/-- x's drop: nothing changes, or the routine is gone -/
theorem c_dropX {d : Nat} {Q : qt} {h : hp} {ρ : Nat → Option zT} {a : Int} (hS : St h) (hR0 : RIs h ρ) (k1 : lackV ρ a < 0 → Q (.inl (some (vI (dropV ρ a)))) h) (k2 : ∀ (r : Nat) (t : zT), a = (r : Nat) → r < 10 → ρ r = some t → Q (.inl (some (vI (dropV ρ a)))) (sI (sR h 72 r none) 68 19 (-1))) : Wc (d + 70) 40 [vR (some 68), vI a] h Q := by
  refine se_X0_drop hS ?_
  refine c_lacks hS hR0 ?_
  refine ss_X0_drop_5 hS ?_
  by_cases hl : lackV ρ a < 0
  · have q := k1 hl
    refine ip hl ?_
    have e : dropV ρ a = lackV ρ a := by
      unfold dropV lackV
      unfold lackV at hl
      by_cases ha : 0 ≤ a ∧ a ≤ 9
      · rw [if_pos ha] at hl ⊢
        rw [if_pos ha]
        cases hρ : ρ a.toNat with
        | none => rfl
        | some t => rw [hρ] at hl; exact absurd (show (0 : Int) < 0 from hl) (by decide)
      · rw [if_neg ha, if_neg ha]
    rw [e] at q
    exact q
  · have ha : 0 ≤ a ∧ a ≤ 9 := by
      unfold lackV at hl
      by_cases ha : 0 ≤ a ∧ a ≤ 9
      · exact ha
      · rw [if_neg ha] at hl; exact absurd (by decide) hl
    obtain ⟨r, rfl⟩ : ∃ r : Nat, a = (r : Nat) := ⟨a.toNat, by omega⟩
    have hr : r < 10 := by omega
    refine im hl ⟨by omega, ?_⟩
    rw [Int.toNat_natCast]
    have hI0 := hR0 r hr
    cases hρ : ρ r with
    | none =>
      exfalso
      apply hl
      unfold lackV
      rw [if_pos ha, Int.toNat_natCast, hρ]
      decide
    | some t =>
      rw [hρ] at hI0
      obtain ⟨ok, un, hz, hbr, hlen, ⟨rc, x1, x2⟩, -⟩ := hI0
      obtain ⟨z1, z2, z3, lo, hi, p, l, arr, ys, cs, es, a1, a2, a3, a4, a5, a6, -⟩ := x2
      rw [x1, ofR_some]
      refine ⟨by rw [z1]; simp, ?_⟩
      rw [a3, ofR_some]
      refine ip (by rw [a5.2.2.1]) ?_
      refine c_code hS ok a5 a6 (by omega) hbr ?_
      refine ss_X0_drop_24 hS ?_
      refine se_X0_keep hS ?_
      refine ip rfl ?_
      refine ss_X0_keep_21 hS ?_
      have st := stt_72 hS
      rw [ofR_some]
      refine ⟨⟨by rw [st]; simp, by omega, by rw [st]; show (r : Int) < ((10 : Nat) : Int); omega⟩, Or.inl rfl, ip rfl ?_⟩
      rw [Int.toNat_natCast]
      have S2 : St (sI (sR h 72 r none) 68 19 (-1)) := St_sI (St_sR hS (by unfold okRf; omega)) (by omega)
      refine ss_X0_drop_31 S2 ?_
      have q := k2 r t rfl hr hρ
      unfold dropV at q
      rw [if_pos ha, Int.toNat_natCast, hρ] at q
      exact q
theorem c_dropM {d : Nat} {Q : qt} {h : hp} {ρ : Nat → Option zT} {a : Int} (hS : St h) (hm : ∀ r t, r < 10 → ρ r = some t → hI h 121 r = 1 ∧ hI h 126 r = (zc t : Nat)) (h0 : ∀ r, r < 10 → ρ r = none → hI h 121 r = 0) (k1 : lackV ρ a < 0 → Q (.inl (some (vI (dropV ρ a)))) h) (k2 : ∀ (r : Nat) (t : zT), a = (r : Nat) → r < 10 → ρ r = some t → Q (.inl (some (vI (dropV ρ a)))) (sI (sI h 121 r 0) 116 54 0)) : Wc (d + 3) 146 [vR (some 116), vI a] h Q := by
  refine se_X4_drop hS ?_
  refine pu_mIsRoutine hS ?_
  refine ss_X4_drop_4 hS ?_
  by_cases ha : 0 ≤ a ∧ a ≤ 9
  · rw [show (decide (0 ≤ a) && decide (a ≤ 9)) = true by simp; omega]
    obtain ⟨r, rfl⟩ : ∃ r : Nat, a = (r : Nat) := ⟨a.toNat, by omega⟩
    have hr : r < 10 := by omega
    refine im (by decide) ⟨by omega, ?_⟩
    rw [Int.toNat_natCast]
    cases hρ : ρ r with
    | none =>
      refine ip (h0 r hr hρ) ?_
      have q := k1 (by unfold lackV; rw [if_pos ha, Int.toNat_natCast, hρ]; decide)
      unfold dropV at q
      rw [if_pos ha, Int.toNat_natCast, hρ] at q
      exact q
    | some t =>
      obtain ⟨m1, m2⟩ := hm r t hr hρ
      refine im (by rw [m1]; decide) ⟨by omega, by omega, ?_⟩
      have q := k2 r t rfl hr hρ
      unfold dropV at q
      rw [if_pos ha, Int.toNat_natCast, hρ] at q
      rw [m2, show n_i2z 0 = 0 by decide]
      exact q
  · rw [show (decide (0 ≤ a) && decide (a ≤ 9)) = false by rw [Bool.eq_false_iff]; simp; omega]
    refine ip rfl ?_
    have q := k1 (by unfold lackV; rw [if_neg ha]; decide)
    unfold dropV at q
    rw [if_neg ha] at q
    exact q
