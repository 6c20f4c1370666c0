/-! m: mirrors -/
abbrev FEm (h h' : hp) : Prop := FI [] [11] [119, 120] h h'
theorem FEm_St {h h' : hp} (a : FEm h h') (hS : St h) : St h' := FI_St a hS rfl
theorem FEm_RK {h h' : hp} (a : FEm h h') {r : Nat} {ts : List (Nat × Nat)} (k : RK h r ts) : RK h' r ts := RK_eq (fun j => FI_i a rfl) (fun j => FI_i a rfl) (fun j => FI_i a rfl) k
theorem cp_loop {d r e : Nat} {Q : qt} {ts B : List (Nat × Nat)} {v2 : Int} (hr : r < 10) : ∀ (A P T : List (Nat × Nat)) (f : Nat) (h : hp), St h → RK h r ts → ts = P ++ (A ++ B) → f = P.length → e = f + A.length → Nt h T → T.length + A.length ≤ 1600 → (∀ h', FEm h h' → Nt h' (T ++ A) → Q (.inl none) h') → Wp (d + 1) C_X4_copies Q 3 [vR (some 116), vI (r : Nat), vI v2, vI (e : Nat), vI (f : Nat)] [] h := by
  intro A
  induction A with
  | nil =>
    intro P T f h hS hK et ef ee N l k
    have ee' : e = f := by rw [ee]; simp
    exact ss_X4_copies_3 hS (im (by omega) (k h (FI_refl h) (by rw [List.append_nil]; exact N)))
  | cons x A ih =>
    intro P T f h hS hK et ef ee N l k
    rw [List.length_cons] at l ee
    have f16 : f < 1600 := by
      have := hK.1
      rw [et] at this
      simp only [List.length_append, List.length_cons] at this
      omega
    have hi1 : (0 : Int) ≤ ((1600 * r + f : Nat) : Int) ∧ ((1600 * r + f : Nat) : Int) < 16000 := by omega
    have lt : ((f : Nat) : Int) < ((e : Nat) : Int) := by omega
    have tl : T.length < 1600 := by omega
    have nx : ∀ h1, FEm h h1 → Nt h1 (T ++ [(x.1, x.2)]) → Wp (d + 1) C_X4_copies Q 3 [vR (some 116), vI (r : Nat), vI v2, vI (e : Nat), vI ((f + 1 : Nat) : Int)] [] h1 := by
      intro h1 F1 N1
      refine ih (P ++ [x]) (T ++ [x]) (f + 1) h1 (FEm_St F1 hS) (FEm_RK F1 hK) (by rw [et]; simp) (by rw [ef]; simp) (by omega) N1 (by simp; omega) (fun h2 F2 N2 => k h2 (FI_trans F1 F2) ?_)
      rw [List.append_assoc] at N2
      exact N2
    have e1k : n_add ((f : Nat) : Int) 1 = ((f + 1 : Nat) : Int) := n1k (by omega)
    obtain ⟨t1, t2, t3, -⟩ := tk_at (q := f) (x := x) hr hK (by rw [et, ef]; simp)
    refine ss_X4_copies_3 hS (ip lt ?_)
    rw [t1, Int.toNat_natCast, t2, t3]
    refine ⟨hi1, hi1, c_emitM hS N tl (fun h1 F1 N1 => ?_)⟩
    refine ss_X4_copies_39 (FEm_St F1 hS) ?_
    rw [e1k]
    exact nx h1 F1 N1
theorem c_copies {d r e f : Nat} {Q : qt} {h : hp} {ts P A B T : List (Nat × Nat)} (hS : St h) (hr : r < 10) (hK : RK h r ts) (et : ts = P ++ (A ++ B)) (ef : f = P.length) (ee : e = f + A.length) (N : Nt h T) (l : T.length + A.length ≤ 1600) (k : ∀ h', FEm h h' → Nt h' (T ++ A) → Q (.inl none) h') : Wc (d + 2) 158 [vR (some 116), vI (r : Nat), vI (f : Nat), vI (e : Nat)] h Q :=
  se_X4_copies hS (cp_loop hr A P T f h hS hK et ef ee N l k)
theorem c_behindP {d r f : Nat} {Q : qt} {h : hp} {ts P B : List (Nat × Nat)} {p : zT} (hS : St h) (hr : r < 10) (hK : RK h r ts) (o : okP p) (et : ts = P ++ (zk p ++ B)) (ef : f = P.length) (k : Q (.inl (some (vI ((f + (zk p).length : Nat) : Int)))) h) : Wc (d + 2) 141 [vR (some 116), vI (r : Nat), vI (f : Nat)] h Q := by
  rcases o with ⟨x, e, hx⟩ | ⟨x, e, ep, hx, oe⟩
  · subst e
    exact c_behindN hS hr hK et ef k
  · subst ep
    have ez : zk (zB 3 (zL x) e) = (3, x) :: (7, 91) :: (zk e ++ [(7, 93)]) := rfl
    rw [ez] at et k
    refine c_behindR (x := x) (A := zk e) (B := B) hS hr hK (by rw [et]; simp) ef (zkE_br e 0 1 oe.1 (by decide)) ?_
    simp only [List.length_cons, List.length_append, List.length_nil] at k
    exact k
theorem okP_hd {p : zT} (o : okP p) : ∃ x A, zk p = x :: A ∧ x.1 ≠ 5 := by
  rcases o with ⟨x, e, hx⟩ | ⟨x, e, ep, hx, oe⟩
  · subst e; exact ⟨(1, x), [], rfl, by show 1 ≠ 5; decide⟩
  · subst ep; exact ⟨(3, x), _, rfl, by show 3 ≠ 5; decide⟩
theorem c_stepE {d r f : Nat} {Q : qt} {h : hp} {ts P B : List (Nat × Nat)} {s : zT} (hS : St h) (hr : r < 10) (hK : RK h r ts) (o : okS s 1) (et : ts = P ++ (zk s ++ B)) (ef : f = P.length) (k : Q (.inl (some (vI ((f + (zk s).length : Nat) : Int)))) h) : Wc (d + 3) 156 [vR (some 116), vI (r : Nat), vI (f : Nat)] h Q := by
  obtain ⟨x, A, e1, e2, -⟩ := zk_sk s o
  rw [e1] at et k
  refine c_stepEnd (A := x :: A) (B := B) hS hr hK (by rw [et]; simp) ef e2 ?_
  simp only [List.length_cons, List.length_append, List.length_nil] at k ⊢
  exact k
/-- m's mirrorStep -/
def MM1 (s : zT) : Prop := ∀ (d r f : Nat) (h : hp) (ts P B T : List (Nat × Nat)) (Q : qt), St h → r < 10 → RK h r ts → ts = P ++ (zk s ++ B) → f = P.length → Nt h T → T.length + (zk s).length ≤ 1600 → 2 * zbr s + 10 ≤ d → (∀ h', FEm h h' → Nt h' (T ++ zk (zmi s)) → Q (.inl none) h') → Wc d 157 [vR (some 116), vI (r : Nat), vI (f : Nat), vI ((f + (zk s).length : Nat) : Int)] h Q
/-- m's mirrors -/
def MM0 (t : zT) : Prop := ∀ (d r f : Nat) (h : hp) (ts P B T : List (Nat × Nat)) (Q : qt), St h → r < 10 → RK h r ts → ts = P ++ (zk t ++ B) → f = P.length → Nt h T → T.length + (zk t).length ≤ 1600 → 2 * zbr t + 11 ≤ d → (∀ h', FEm h h' → Nt h' (T ++ zk (zmi t)) → Q (.inl none) h') → Wc d 155 [vR (some 116), vI (r : Nat), vI (f : Nat), vI ((f + (zk t).length : Nat) : Int)] h Q
theorem x1_nat : ∀ j : Nat, j < 8 → n_xor (j : Int) 1 = ((zmk (100 + j) - 100 : Nat) : Int) := by decide
theorem mm_key {k : Nat} {l r : zT} (ok : ok1 k l r) (h1 : k < 108) : MM1 (zB k l r) := by
  intro d rr f h ts P B T Q hS hr hK et ef N hl hd q
  have hk := ok1_k ok
  obtain ⟨j, rfl⟩ : ∃ j, k = 100 + j := ⟨k - 100, by omega⟩
  obtain ⟨A, e1, e2⟩ := zmk_k ok (by omega)
  rw [zmi_1 ok, e2] at q
  rw [e1] at et hl ⊢
  rw [show 100 + j - 100 = j by omega] at et hl ⊢
  obtain ⟨d, rfl⟩ : ∃ e, d = e + 10 := ⟨d - 10, by omega⟩
  rw [List.length_cons] at hl ⊢
  have f16 : f < 1500 ∨ 1500 ≤ f := by omega
  have f17 : f < 1600 := by
    have := hK.1
    rw [et] at this
    simp only [List.length_append, List.length_cons] at this
    omega
  have hi1 : (0 : Int) ≤ ((1600 * rr + f : Nat) : Int) ∧ ((1600 * rr + f : Nat) : Int) < 16000 := by omega
  have n8 : ¬ ((j : Nat) : Int) = 8 := by omega
  have n11 : ¬ ((j : Nat) : Int) = 11 := by omega
  have n7 : ¬ (7 : Int) < ((j : Nat) : Int) := by omega
  have e1k : n_add ((f : Nat) : Int) 1 = ((f + 1 : Nat) : Int) := n1k (by omega)
  have x1 := x1_nat j (by omega)
  have tl : T.length < 1600 := by omega
  obtain ⟨t1, t2, t3, -⟩ := tk_at (q := f) (x := (5, j)) hr hK (by rw [et, ef]; simp)
  refine se_X4_mirrorStep hS ?_
  rw [t1, Int.toNat_natCast, t2, t3]
  refine ⟨hi1, ip rfl ⟨hi1, im n8 (im n11 (se_X4_opposite hS (im n7 ?_)))⟩⟩
  rw [show ((((5, j) : Nat × Nat).2 : Nat) : Int) = ((j : Nat) : Int) from rfl, x1]
  refine ss_X4_mirrorStep_140 hS (c_emitM (s := 5) hS N tl (fun h1 F1 N1 => ?_))
  refine ss_X4_mirrorStep_143 (FEm_St F1 hS) ?_
  rw [e1k]
  clear t1 t2 t3 x1 e1k
  refine c_copies (P := P ++ [(5, j)]) (A := A) (B := B) (FEm_St F1 hS) hr (FEm_RK F1 hK) (by rw [et]; simp) (by rw [ef]; simp) (by omega) N1 (by simp; omega) (fun h2 F2 N2 => q h2 (FI_trans F1 F2) ?_)
  rw [List.append_assoc] at N2
  exact N2
theorem mm_chg {k : Nat} {l r : zT} (ok : ok1 k l r) (h1 : 130 ≤ k) : MM1 (zB k l r) := by
  intro d rr f h ts P B T Q hS hr hK et ef N hl hd q
  have hk := ok1_k ok
  obtain ⟨e1, e2⟩ := zmk_2 ok h1
  obtain ⟨-, oP, -⟩ := zk_chg ok h1
  rw [zmi_1 ok, e2] at q
  rw [e1] at et hl ⊢
  obtain ⟨d, rfl⟩ : ∃ e, d = e + 10 := ⟨d - 10, by omega⟩
  obtain ⟨x, A, ex, nx⟩ := okP_hd oP
  simp only [List.length_append, List.length_cons, List.length_nil] at hl ⊢
  have f17 : f + (zk l).length < 1600 := by
    have := hK.1
    rw [et] at this
    simp only [List.length_append, List.length_cons, List.length_nil] at this
    omega
  have hi1 : (0 : Int) ≤ ((1600 * rr + f : Nat) : Int) ∧ ((1600 * rr + f : Nat) : Int) < 16000 := by omega
  have hi2 : (0 : Int) ≤ ((1600 * rr + (f + (zk l).length) : Nat) : Int) ∧ ((1600 * rr + (f + (zk l).length) : Nat) : Int) < 16000 := by omega
  have n5 : ¬ (((x.1 : Nat) : Int) = 5) := by omega
  have e1k : n_add ((f + (zk l).length : Nat) : Int) 1 = ((f + (zk l).length + 1 : Nat) : Int) := n1k (by omega)
  have tl : (T ++ zk l).length < 1600 := by rw [List.length_append]; omega
  have fin : ∀ (v6 v7 : av) (v5 : Int) (h1 : hp), FEm h h1 → Nt h1 (T ++ zk l ++ [(6, zmk k - 130)]) → Wp (d + 9) C_X4_mirrorStep Q 94 [vR (some 116), vI (rr : Nat), vI (f : Nat), vI ((f + ((zk l).length + ((zk r).length + (0 + 1) + 1)) : Nat) : Int), vI ((f + (zk l).length : Nat) : Int), vI v5, v6, v7] [] h1 := by
    intro v6 v7 v5 h1 F1 N1
    refine ss_X4_mirrorStep_94 (FEm_St F1 hS) ?_
    rw [e1k]
    refine c_copies (P := P ++ (zk l ++ [(6, k - 130)])) (A := zk r ++ [(7, 59)]) (B := B) (FEm_St F1 hS) hr (FEm_RK F1 hK) (by rw [et]; simp) (by rw [ef]; simp; omega) (by simp; omega) N1 (by simp; omega) (fun h2 F2 N2 => q h2 (FI_trans F1 F2) ?_)
    simp only [List.append_assoc, List.cons_append, List.nil_append] at N2 ⊢
    exact N2
  have et2 : ts[f + (zk l).length]? = some (6, k - 130) := by rw [et, ef]; simp
  have p22 : Wp (d + 9) C_X4_mirrorStep Q 22 [vR (some 116), vI (rr : Nat), vI (f : Nat), vI ((f + ((zk l).length + ((zk r).length + (0 + 1) + 1)) : Nat) : Int), vU, vU, vU, vU] [vI ((f + (zk l).length : Nat) : Int)] h := by
    have e3 : ∀ h1, FEm h h1 → Nt h1 (T ++ zk l) → Wp (d + 9) C_X4_mirrorStep Q 47 [vR (some 116), vI (rr : Nat), vI (f : Nat), vI ((f + ((zk l).length + ((zk r).length + (0 + 1) + 1)) : Nat) : Int), vI ((f + (zk l).length : Nat) : Int), vI ((k - 130 : Nat) : Int), vU, vU] [] h1 := by
      intro h1 F1 N1
      have S1 := FEm_St F1 hS
      clear et2 hi1 hi2 et e1k
      have : k = 130 ∨ k = 131 ∨ k = 132 ∨ k = 133 ∨ k = 134 ∨ k = 135 := by omega
      rcases this with y | y | y | y | y | y <;> subst y
      · exact ss_X4_mirrorStep_47 S1 (ip rfl (c_emitM (s := 6) (w := 1) S1 N1 tl (fun h2 F2 N2 => fin _ _ _ h2 (FI_trans F1 F2) N2)))
      · exact ss_X4_mirrorStep_47 S1 (im (by decide) (ip rfl (c_emitM (s := 6) (w := 0) S1 N1 tl (fun h2 F2 N2 => fin _ _ _ h2 (FI_trans F1 F2) N2))))
      · exact ss_X4_mirrorStep_47 S1 (im (by decide) (im (by decide) (im (by decide) (im (by decide) (c_emitM (s := 6) (w := 2) S1 N1 tl (fun h2 F2 N2 => fin _ _ _ h2 (FI_trans F1 F2) N2))))))
      · exact ss_X4_mirrorStep_47 S1 (im (by decide) (im (by decide) (im (by decide) (im (by decide) (c_emitM (s := 6) (w := 3) S1 N1 tl (fun h2 F2 N2 => fin _ _ _ h2 (FI_trans F1 F2) N2))))))
      · exact ss_X4_mirrorStep_47 S1 (im (by decide) (im (by decide) (ip rfl (c_emitM (s := 6) (w := 5) S1 N1 tl (fun h2 F2 N2 => fin _ _ _ h2 (FI_trans F1 F2) N2)))))
      · exact ss_X4_mirrorStep_47 S1 (im (by decide) (im (by decide) (im (by decide) (ip rfl (c_emitM (s := 6) (w := 4) S1 N1 tl (fun h2 F2 N2 => fin _ _ _ h2 (FI_trans F1 F2) N2))))))
    have cp : ∀ K : hp → Prop, (∀ h1, FEm h h1 → Nt h1 (T ++ zk l) → K h1) → cV (Wc (d + 9)) 158 [vR (some 116), vI (rr : Nat), vI (f : Nat), vI ((f + (zk l).length : Nat) : Int)] h K (fun e h' => Q (.inr e) h') := fun K kk =>
      c_copies (P := P) (A := zk l) (B := (6, k - 130) :: (zk r ++ [(7, 59)]) ++ B) hS hr hK (by rw [et]; simp) ef rfl N (by omega) kk
    obtain ⟨t1, t2, t3, -⟩ := tk_at (q := f + (zk l).length) (x := (6, k - 130)) hr hK et2
    refine ss_X4_mirrorStep_22 hS ?_
    rw [t1, Int.toNat_natCast, t3]
    exact ⟨hi2, cp _ e3⟩
  have bh : ∀ K : Int → hp → Prop, K ((f + (zk l).length : Nat) : Int) h → cI (Wc (d + 9)) 141 [vR (some 116), vI (rr : Nat), vI (f : Nat)] h K (fun e h' => Q (.inr e) h') := fun K kk =>
    c_behindP (P := P) (B := (6, k - 130) :: (zk r ++ [(7, 59)]) ++ B) hS hr hK oP (by rw [et]; simp) ef kk
  obtain ⟨t1, t2, t3, -⟩ := tk_at (q := f) (x := x) hr hK (by rw [et, ef, ex]; simp)
  refine se_X4_mirrorStep hS ?_
  rw [t1, Int.toNat_natCast, t2]
  exact ⟨hi1, im n5 (bh _ p22)⟩
