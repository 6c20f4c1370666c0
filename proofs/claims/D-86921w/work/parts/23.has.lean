/-! WHAT STANDS IN AN EXPRESSION; constructors of steps -/
def vfind : List (Nat × Nat) → Nat → Option Nat
  | [], _ => none
  | (k, y) :: r, c => if c = k then some y else vfind r c
theorem vsel_of {vt : List (Nat × Nat)} {c y : Nat} {K : Nat → Prop} (h : vfind vt c = some y) (k : K y) : vsel vt c K := by
  induction vt with
  | nil => cases h
  | cons p r ih =>
    obtain ⟨a, b⟩ := p
    unfold vfind at h
    unfold vsel
    by_cases q : c = a
    · rw [if_pos q] at h ⊢; cases h; exact k
    · rw [if_neg q] at h ⊢; exact ih h
abbrev VHas : List (Nat × Nat) := [(8, 254), (9, 258), (10, 262), (11, 266), (12, 270), (14, 274), (15, 281), (16, 274), (17, 274)]
def zht : zT → Nat
  | .leaf _ => 0
  | .branch _ l r => max (zht l) (zht r) + 1
theorem bI_or1 {b c : Bool} (h : bI b ≠ 0) : b = true := by cases b with
  | false => exact absurd rfl h
  | true => rfl
theorem c_has {h : hp} {lo hi w : Nat} (hS : St h) (hw : w < 100) : ∀ {e : zT} {a d lv : Nat} {K : Int → hp → Prop} {E : Nat → hp → Prop}, RE h lo hi e a → zok e lv → zht e < d → K (bI (zhas w e)) h → vsel VHas (hT h a).1 fun y => cI (Wc d) y [vR (some a), vI (w : Nat)] h K E := by
  intro e
  induction e with
  | leaf n => intro a d lv K E z; exact z.elim
  | branch k l r ihl ihr =>
    intro a d lv K E z hz hd kk
    obtain ⟨z1, z2, z3⟩ := z
    have hd2 : max (zht l) (zht r) + 1 < d := hd
    obtain ⟨d, rfl⟩ : ∃ e, d = e + 1 := ⟨d - 1, by omega⟩
    by_cases k2 : k = 2
    · subst k2
      rw [if_pos rfl] at z3
      exact vsel_of (y := 254) (by rw [z3.1]; rfl) (se_X8_has hS z3.1 kk)
    rw [if_neg k2] at z3
    by_cases k1 : k = 1
    · subst k1
      rw [if_pos rfl] at z3
      refine vsel_of (y := 258) (by rw [z3.1]; rfl) (se_X9_has hS z3.1 ?_)
      rw [z3.2]
      have hh : zhas w (.branch 1 l r) = (w == zn l) := rfl
      rw [hh] at kk
      by_cases q : w = zn l
      · rw [if_pos (by omega)]; rw [show (w == zn l) = true by simpa using q] at kk; exact kk
      · rw [if_neg (by omega)]; rw [show (w == zn l) = false by simpa using q] at kk; exact kk
    rw [if_neg k1] at z3
    by_cases k35 : k = 35
    · subst k35
      rw [if_pos rfl] at z3
      have hb : zn l < 6 := hz
      refine vsel_of (y := 266) (by rw [z3.1]; rfl) (se_X11_has hS z3.1 ?_)
      rw [z3.2, na_eq (by omega) (by omega)]
      have hh : zhas w (.branch 35 l r) = (w == 26 + zn l) := rfl
      rw [hh] at kk
      by_cases q : w = 26 + zn l
      · rw [if_pos (by omega)]; rw [show (w == 26 + zn l) = true by simpa using q] at kk; exact kk
      · rw [if_neg (by omega)]; rw [show (w == 26 + zn l) = false by simpa using q] at kk; exact kk
    rw [if_neg k35] at z3
    by_cases k3 : k = 3
    · subst k3
      rw [if_pos rfl] at z3
      obtain ⟨y1, y2, b, y3, y4⟩ := z3
      have hb : zn l < 6 ∧ zok r 0 := hz
      refine vsel_of (y := 262) (by rw [y1]; rfl) (se_X10_has hS y1 ?_)
      rw [y2, na_eq (by omega) (by omega)]
      have hh : zhas w (.branch 3 l r) = (w == 26 + zn l || zhas w r) := rfl
      rw [hh] at kk
      by_cases q : w = 26 + zn l
      · rw [if_pos (by omega)]; rw [show (w == 26 + zn l) = true by simpa using q, Bool.true_or] at kk; exact kk
      · rw [if_neg (by omega)]; rw [show (w == 26 + zn l) = false by simpa using q, Bool.false_or] at kk
        rw [y3, ofR_some]
        refine ihr y4 hb.2 (by omega) ?_
        refine ss_X10_has_19 hS y1 ?_
        cases hq : zhas w r with
        | false => rw [hq] at kk; exact ip rfl kk
        | true => rw [hq] at kk; exact im (by decide) kk
    rw [if_neg k3] at z3
    by_cases k8 : k = 8
    · subst k8
      rw [if_pos rfl] at z3
      obtain ⟨y1, b, y3, y4⟩ := z3
      have hb : zok l 2 := hz
      refine vsel_of (y := 270) (by rw [y1]; rfl) (se_X12_has hS y1 ?_)
      rw [y3, ofR_some]
      exact ihl y4 hb (by omega) ⟨bI_01 _, kk⟩
    rw [if_neg k8] at z3
    by_cases k40 : k = 40
    · subst k40
      rw [if_pos rfl] at z3
      obtain ⟨y1, b, y3, y4⟩ := z3
      have hb : zok l 0 := hz
      refine vsel_of (y := 281) (by rw [y1]; rfl) (se_X15_has hS y1 ?_)
      rw [y3, ofR_some]
      exact ihl y4 hb (by omega) ⟨bI_01 _, kk⟩
    rw [if_neg k40] at z3
    obtain ⟨y1, y2, b, c, y3, y4, y5, y6⟩ := z3
    have hb : ∃ lv1 lv2, zok l lv1 ∧ zok r lv2 := by
      unfold zok at hz
      rw [if_neg k1, if_neg k2, if_neg k35, if_neg k3, if_neg k8, if_neg k40] at hz
      split at hz
      · exact ⟨0, 0, hz.1, hz.2⟩
      · split at hz
        · exact ⟨0, 1, hz.2.1, hz.2.2⟩
        · split at hz
          · exact ⟨1, 2, hz.2.1, hz.2.2⟩
          · exact hz.elim
    obtain ⟨lv1, lv2, hb1, hb2⟩ := hb
    have hh : zhas w (.branch k l r) = (zhas w l || zhas w r) := by
      conv => lhs; unfold zhas
      rw [if_neg k1, if_neg k2, if_neg k35, if_neg k3, if_neg (by omega)]
    rw [hh] at kk
    have ht : (hT h a).1 ∈ [14, 16, 17] := by
      rw [y1]
      split
      · simp
      · split <;> simp
    have hv : vfind VHas (hT h a).1 = some 274 := by
      rw [y1]
      split
      · rfl
      · split <;> rfl
    refine vsel_of (y := 274) hv (se_X13_has hS ht ?_)
    rw [y3, ofR_some]
    refine ihl y5 hb1 (by omega) ?_
    refine ss_X13_has_8 hS ht ?_
    cases hq : zhas w l with
    | true => rw [hq, Bool.true_or] at kk; exact im (by decide) kk
    | false =>
      rw [hq, Bool.false_or] at kk
      refine ip rfl ?_
      rw [y4, ofR_some]
      refine ihr y6 hb2 (by omega) ?_
      refine ss_X13_has_19 hS ht ?_
      cases hq2 : zhas w r with
      | false => rw [hq2] at kk; exact ip rfl kk
      | true => rw [hq2] at kk; exact im (by decide) kk
/-! the constructors of steps -/
theorem c_i18 {d : Nat} {Q : qt} {h : hp} {o : Nat} (hS : St h) (ht : (hT h o).1 ∈ [20, 21, 23, 24, 25, 26, 27, 29, 30, 31, 32]) (k : Q (.inl none) h) : Wc (d + 1) 288 [vR (some o)] h Q := se_X18_init hS ht k
theorem c_i19 {d : Nat} {Q : qt} {h : hp} {o : Nat} (hS : St h) (ht : (hT h o).1 ∈ [20, 21, 24, 25, 26]) (k : Q (.inl none) h) : Wc (d + 2) 294 [vR (some o)] h Q := se_X19_init hS ht (c_i18 hS (by revert ht; simp; omega) k)
theorem c_i22 {d : Nat} {Q : qt} {h : hp} {o : Nat} (hS : St h) (ht : (hT h o).1 ∈ [23, 31, 32]) (k : Q (.inl none) h) : Wc (d + 2) 311 [vR (some o)] h Q := se_X22_init hS ht (c_i18 hS (by revert ht; simp; omega) k)
theorem c_n6 {d : Nat} {Q : qt} {h : hp} {o : Nat} {p0 : Int} {p1 : Int} {p2 : Option Nat} (hS : St h) (ht : hT h o = (6, 0)) (k : Q (.inl none) (sR (sI (sI h o 0 p0) o 1 p1) o 2 p2)) : Wc (d + 1) 242 [vR (some o), vI p0, vI p1, vR p2] h Q := se_X6_init hS ht (ss_X6_init_4 hS ht k)
theorem c_n20 {d : Nat} {Q : qt} {h : hp} {o : Nat} {p0 : Option Nat} {p1 : Option Nat} (hS : St h) (ht : hT h o = (20, 0)) (k : Q (.inl none) (sR (sR h o 0 p0) o 1 p1)) : Wc (d + 3) 296 [vR (some o), vR p0, vR p1] h Q := se_X20_init hS ht (c_i19 hS (by rw [ht]; decide) (ss_X20_init_4 hS ht k))
theorem c_n21 {d : Nat} {Q : qt} {h : hp} {o : Nat} {p0 : Option Nat} {p1 : Int} {p2 : Option Nat} (hS : St h) (ht : hT h o = (21, 0)) (k : Q (.inl none) (sR (sI (sR h o 0 p0) o 1 p1) o 2 p2)) : Wc (d + 3) 303 [vR (some o), vR p0, vI p1, vR p2] h Q := se_X21_init hS ht (c_i19 hS (by rw [ht]; decide) (ss_X21_init_4 hS ht k))
theorem c_n24 {d : Nat} {Q : qt} {h : hp} {o : Nat} {p0 : Int} {p1 : Option Nat} {p2 : Int} (hS : St h) (ht : hT h o = (24, 0)) (hz : p2 = 0 ∨ p2 = 1) (k : Q (.inl none) (sI (sR (sI h o 0 p0) o 1 p1) o 2 p2)) : Wc (d + 3) 323 [vR (some o), vI p0, vR p1, vI p2] h Q := se_X24_init hS ht (c_i19 hS (by rw [ht]; decide) (ss_X24_init_4 hS ht ⟨hz, k⟩))
theorem c_n25 {d : Nat} {Q : qt} {h : hp} {o : Nat} {p0 : Int} {p1 : Int} {p2 : Int} (hS : St h) (ht : hT h o = (25, 0)) (hz : p2 = 0 ∨ p2 = 1) (k : Q (.inl none) (sI (sI (sI h o 0 p0) o 1 p1) o 2 p2)) : Wc (d + 3) 330 [vR (some o), vI p0, vI p1, vI p2] h Q := se_X25_init hS ht (c_i19 hS (by rw [ht]; decide) (ss_X25_init_4 hS ht ⟨hz, k⟩))
theorem c_n26 {d : Nat} {Q : qt} {h : hp} {o : Nat} {p0 : Int} {p1 : Int} {p2 : Option Nat} {p3 : Int} (hS : St h) (ht : hT h o = (26, 0)) (hz : p3 = 0 ∨ p3 = 1) (k : Q (.inl none) (sI (sR (sI (sI h o 0 p0) o 1 p1) o 2 p2) o 3 p3)) : Wc (d + 3) 337 [vR (some o), vI p0, vI p1, vR p2, vI p3] h Q := se_X26_init hS ht (c_i19 hS (by rw [ht]; decide) (ss_X26_init_4 hS ht ⟨hz, k⟩))
theorem c_n27 {d : Nat} {Q : qt} {h : hp} {o : Nat} {p0 : Int} {p1 : Int} (hS : St h) (ht : hT h o = (27, 0)) (hz : p1 = 0 ∨ p1 = 1) (k : Q (.inl none) (sI (sI h o 0 p0) o 1 p1)) : Wc (d + 2) 345 [vR (some o), vI p0, vI p1] h Q := se_X27_init hS ht (c_i18 hS (by rw [ht]; decide) (ss_X27_init_4 hS ht ⟨hz, k⟩))
theorem c_n23 {d : Nat} {Q : qt} {h : hp} {o : Nat} {p0 : Int} {p1 : Option Nat} (hS : St h) (ht : hT h o = (23, 0)) (k : Q (.inl none) (sR (sI h o 0 p0) o 1 p1)) : Wc (d + 3) 318 [vR (some o), vI p0, vR p1] h Q := se_X23_init hS ht (c_i22 hS (by rw [ht]; decide) (ss_X23_init_4 hS ht k))
theorem c_n31 {d : Nat} {Q : qt} {h : hp} {o : Nat} {p0 : Option Nat} {p1 : Option Nat} (hS : St h) (ht : hT h o = (31, 0)) (k : Q (.inl none) (sR (sR h o 0 p0) o 1 p1)) : Wc (d + 3) 363 [vR (some o), vR p0, vR p1] h Q := se_X31_init hS ht (c_i22 hS (by rw [ht]; decide) (ss_X31_init_4 hS ht k))
theorem c_n32 {d : Nat} {Q : qt} {h : hp} {o : Nat} {p0 : Option Nat} {p1 : Option Nat} {p2 : Option Nat} (hS : St h) (ht : hT h o = (32, 0)) (k : Q (.inl none) (sR (sR (sR h o 0 p0) o 1 p1) o 2 p2)) : Wc (d + 3) 370 [vR (some o), vR p0, vR p1, vR p2] h Q := se_X32_init hS ht (c_i22 hS (by rw [ht]; decide) (ss_X32_init_4 hS ht k))
theorem c_n28 {d : Nat} {Q : qt} {h : hp} {o : Nat} {p0 p1 p2 p3 : Option Nat} (hS : St h) (ht : (hT h o).1 ∈ [29, 30]) (k : Q (.inl none) (sR (sR (sR (sR h o 0 p0) o 1 p1) o 2 p2) o 3 p3)) : Wc (d + 2) 350 [vR (some o), vR p0, vR p1, vR p2, vR p3] h Q := se_X28_init hS ht (c_i18 hS (by revert ht; simp; omega) (ss_X28_init_4 hS ht k))
theorem c_n29 {d : Nat} {Q : qt} {h : hp} {o : Nat} {p0 p1 p2 p3 : Option Nat} (hS : St h) (ht : hT h o = (29, 0)) (k : Q (.inl none) (sR (sR (sR (sR h o 0 p0) o 1 p1) o 2 p2) o 3 p3)) : Wc (d + 3) 355 [vR (some o), vR p0, vR p1, vR p2, vR p3] h Q := se_X29_init hS ht (c_n28 hS (by rw [ht]; decide) k)
theorem c_n30 {d : Nat} {Q : qt} {h : hp} {o : Nat} {p0 p1 p2 p3 : Option Nat} (hS : St h) (ht : hT h o = (30, 0)) (k : Q (.inl none) (sR (sR (sR (sR h o 0 p0) o 1 p1) o 2 p2) o 3 p3)) : Wc (d + 3) 359 [vR (some o), vR p0, vR p1, vR p2, vR p3] h Q := se_X30_init hS ht (c_n28 hS (by rw [ht]; decide) k)
