/-! m: mirrors, steps with others within -/
theorem mm_fk {k k2 k3 : Nat} {e s t e2 : zT} (hk : (k = 108 ∧ k2 = 112 ∧ k3 = 113) ∨ (k = 111 ∧ k2 = 117 ∧ k3 = 118)) (oe : okE e) (oe2 : okE e2) (os : okS s 0) (ot : okS t 0) (ms : MM0 s) (mt : MM0 t) : MM1 (zB k e (zB k2 s (zB k3 t e2))) := by
  intro d rr f h ts P B T Q hS hr hK et ef N hl hd q
  have hbr : zbr (zB k e (zB k2 s (zB k3 t e2))) = 1 + max (zbr s) (zbr t) := by rcases hk with ⟨a, b, c⟩ | ⟨a, b, c⟩ <;> subst a b c <;> rfl
  rw [hbr] at hd
  rw [zmi_fk hk, zk_fk hk] at q
  rw [zk_fk hk] at et hl ⊢
  have hk' : k = 108 ∨ k = 111 := by omega
  obtain ⟨d, rfl⟩ : ∃ x, d = x + 12 := ⟨d - 12, by omega⟩
  have nb : ∀ x ∈ (5, k - 100) :: zk e, nB x := mem_c (nB_1 (by decide)) (zkE_nB e 0 oe.1)
  have ftot : P.length + ((zk e).length + (zk s).length + (zk t).length + (zk e2).length + 8) ≤ 1600 := by
    have := hK.1
    rw [et] at this
    simp only [List.length_append, List.length_cons, List.length_nil] at this
    omega
  have hlen : ((5, k - 100) :: (zk e ++ (7, 123) :: (zk s ++ (7, 125) :: (5, zw1 k) :: (7, 123) :: (zk t ++ (7, 125) :: (5, zw2 k) :: (zk e2 ++ [(7, 59)]))))).length = (zk e).length + (zk s).length + (zk t).length + (zk e2).length + 8 := by
    simp only [List.length_append, List.length_cons, List.length_nil]; omega
  rw [hlen] at hl ⊢
  have hi1 : (0 : Int) ≤ ((1600 * rr + f : Nat) : Int) ∧ ((1600 * rr + f : Nat) : Int) < 16000 := by omega
  have fi : ∀ K : Int → hp → Prop, K ((f + (zk e).length + 1 : Nat) : Int) h → cI (Wc (d + 11)) 143 [vR (some 116), vI (rr : Nat), vI (f : Nat), vI 123] h K (fun e h' => Q (.inr e) h') := fun K kk => by
    refine c_find (P := P) (A := (5, k - 100) :: zk e) (B := zk s ++ (7, 125) :: (5, zw1 k) :: (7, 123) :: (zk t ++ (7, 125) :: (5, zw2 k) :: (zk e2 ++ [(7, 59)])) ++ B) hS hr hK (by rw [et]; simp) ef (Sk_nB nb).2.1 ?_
    rw [List.length_cons]
    exact kk
  -- what follows, the last first
  have p264 : ∀ h1, FEm h h1 → Nt h1 (T ++ ((5, k - 100) :: (zk e2 ++ (7, 123) :: (zk (zmi s) ++ (7, 125) :: (5, zw1 k) :: (7, 123) :: (zk (zmi t) ++ (7, 125) :: (5, zw2 k) :: zk e))))) → Wp (d + 11) C_X4_mirrorStep Q 264 [vR (some 116), vI (rr : Nat), vI (f : Nat), vI ((f + ((zk e).length + (zk s).length + (zk t).length + (zk e2).length + 8) : Nat) : Int), vI ((k - 100 : Nat) : Int), vI ((f + (zk e).length + 1 : Nat) : Int), vI ((f + (zk e).length + (zk s).length + 2 : Nat) : Int), vI ((f + (zk e).length + (zk s).length + (zk t).length + 5 : Nat) : Int)] [] h1 := by
    intro h1 F1 N1
    have ls := ((mk_all s).1 os).2.2.2.1
    have lt := ((mk_all t).1 ot).2.2.2.1
    refine ss_X4_mirrorStep_264 (FEm_St F1 hS) (c_emitM (s := 7) (w := 59) (FEm_St F1 hS) N1 (by simp only [List.length_append, List.length_cons]; omega) (fun h2 F2 N2 => q h2 (FI_trans F1 F2) ?_))
    simp only [List.append_assoc, List.cons_append, List.nil_append] at N2 ⊢
    exact N2
  have p254 : ∀ h1, FEm h h1 → Nt h1 (T ++ ((5, k - 100) :: (zk e2 ++ (7, 123) :: (zk (zmi s) ++ (7, 125) :: (5, zw1 k) :: (7, 123) :: (zk (zmi t) ++ [(7, 125), (5, zw2 k)]))))) → Wp (d + 11) C_X4_mirrorStep Q 254 [vR (some 116), vI (rr : Nat), vI (f : Nat), vI ((f + ((zk e).length + (zk s).length + (zk t).length + (zk e2).length + 8) : Nat) : Int), vI ((k - 100 : Nat) : Int), vI ((f + (zk e).length + 1 : Nat) : Int), vI ((f + (zk e).length + (zk s).length + 2 : Nat) : Int), vI ((f + (zk e).length + (zk s).length + (zk t).length + 5 : Nat) : Int)] [] h1 := by
    intro h1 F1 N1
    have ls := ((mk_all s).1 os).2.2.2.1
    have lt := ((mk_all t).1 ot).2.2.2.1
    refine ss_X4_mirrorStep_254 (FEm_St F1 hS) ?_
    rw [n1k (by omega)]
    refine c_copies (P := P ++ [(5, k - 100)]) (A := zk e) (B := (7, 123) :: (zk s ++ (7, 125) :: (5, zw1 k) :: (7, 123) :: (zk t ++ (7, 125) :: (5, zw2 k) :: (zk e2 ++ [(7, 59)]))) ++ B) (FEm_St F1 hS) hr (FEm_RK F1 hK) (by rw [et]; simp) (by rw [ef]; simp) (by omega) N1 (by simp only [List.length_append, List.length_cons, List.length_nil]; omega) (fun h2 F2 N2 => p264 h2 (FI_trans F1 F2) ?_)
    simp only [List.append_assoc, List.cons_append, List.nil_append] at N2 ⊢
    exact N2
  have p243 : ∀ h1, FEm h h1 → Nt h1 (T ++ ((5, k - 100) :: (zk e2 ++ (7, 123) :: (zk (zmi s) ++ (7, 125) :: (5, zw1 k) :: (7, 123) :: zk (zmi t))))) → Wp (d + 11) C_X4_mirrorStep Q 243 [vR (some 116), vI (rr : Nat), vI (f : Nat), vI ((f + ((zk e).length + (zk s).length + (zk t).length + (zk e2).length + 8) : Nat) : Int), vI ((k - 100 : Nat) : Int), vI ((f + (zk e).length + 1 : Nat) : Int), vI ((f + (zk e).length + (zk s).length + 2 : Nat) : Int), vI ((f + (zk e).length + (zk s).length + (zk t).length + 5 : Nat) : Int)] [] h1 := by
    intro h1 F1 N1
    have ls := ((mk_all s).1 os).2.2.2.1
    have lt := ((mk_all t).1 ot).2.2.2.1
    refine ss_X4_mirrorStep_243 (FEm_St F1 hS) ?_
    rw [show n_add ((f + (zk e).length + (zk s).length + (zk t).length + 5 : Nat) : Int) 2 = ((f + (zk e).length + (zk s).length + (zk t).length + 5 + 2 : Nat) : Int) by rw [na_eq (by omega) (by omega)]; omega]
    refine c_copies (P := P ++ ((5, k - 100) :: (zk e ++ (7, 123) :: (zk s ++ (7, 125) :: (5, zw1 k) :: (7, 123) :: zk t)))) (A := [(7, 125), (5, zw2 k)]) (B := zk e2 ++ [(7, 59)] ++ B) (FEm_St F1 hS) hr (FEm_RK F1 hK) (by rw [et]; simp) (by rw [ef]; simp; omega) (by simp) N1 (by simp only [List.length_append, List.length_cons, List.length_nil]; omega) (fun h2 F2 N2 => p254 h2 (FI_trans F1 F2) ?_)
    simp only [List.append_assoc, List.cons_append, List.nil_append] at N2 ⊢
    exact N2
  have p232 : ∀ h1, FEm h h1 → Nt h1 (T ++ ((5, k - 100) :: (zk e2 ++ (7, 123) :: (zk (zmi s) ++ [(7, 125), (5, zw1 k), (7, 123)])))) → Wp (d + 11) C_X4_mirrorStep Q 232 [vR (some 116), vI (rr : Nat), vI (f : Nat), vI ((f + ((zk e).length + (zk s).length + (zk t).length + (zk e2).length + 8) : Nat) : Int), vI ((k - 100 : Nat) : Int), vI ((f + (zk e).length + 1 : Nat) : Int), vI ((f + (zk e).length + (zk s).length + 2 : Nat) : Int), vI ((f + (zk e).length + (zk s).length + (zk t).length + 5 : Nat) : Int)] [] h1 := by
    intro h1 F1 N1
    have ls := ((mk_all s).1 os).2.2.2.1
    refine ss_X4_mirrorStep_232 (FEm_St F1 hS) ?_
    rw [show n_add ((f + (zk e).length + (zk s).length + 2 : Nat) : Int) 3 = ((f + (zk e).length + (zk s).length + 5 : Nat) : Int) by rw [na_eq (by omega) (by omega)]; omega, show ((f + (zk e).length + (zk s).length + (zk t).length + 5 : Nat) : Int) = ((f + (zk e).length + (zk s).length + 5 + (zk t).length : Nat) : Int) by omega]
    refine mt _ rr _ h1 ts (P ++ ((5, k - 100) :: (zk e ++ (7, 123) :: (zk s ++ [(7, 125), (5, zw1 k), (7, 123)])))) ((7, 125) :: (5, zw2 k) :: (zk e2 ++ [(7, 59)]) ++ B) _ _ (FEm_St F1 hS) hr (FEm_RK F1 hK) (by rw [et]; simp) (by rw [ef]; simp; omega) N1 (by simp only [List.length_append, List.length_cons, List.length_nil]; omega) (by omega) (fun h2 F2 N2 => ?_)
    rw [show ((f + (zk e).length + (zk s).length + 5 + (zk t).length : Nat) : Int) = ((f + (zk e).length + (zk s).length + (zk t).length + 5 : Nat) : Int) by omega]
    refine p243 h2 (FI_trans F1 F2) ?_
    simp only [List.append_assoc, List.cons_append, List.nil_append] at N2 ⊢
    exact N2
  have p221 : ∀ h1, FEm h h1 → Nt h1 (T ++ ((5, k - 100) :: (zk e2 ++ (7, 123) :: zk (zmi s)))) → Wp (d + 11) C_X4_mirrorStep Q 221 [vR (some 116), vI (rr : Nat), vI (f : Nat), vI ((f + ((zk e).length + (zk s).length + (zk t).length + (zk e2).length + 8) : Nat) : Int), vI ((k - 100 : Nat) : Int), vI ((f + (zk e).length + 1 : Nat) : Int), vI ((f + (zk e).length + (zk s).length + 2 : Nat) : Int), vI ((f + (zk e).length + (zk s).length + (zk t).length + 5 : Nat) : Int)] [] h1 := by
    intro h1 F1 N1
    have ls := ((mk_all s).1 os).2.2.2.1
    refine ss_X4_mirrorStep_221 (FEm_St F1 hS) ?_
    rw [show n_add ((f + (zk e).length + (zk s).length + 2 : Nat) : Int) 3 = ((f + (zk e).length + (zk s).length + 2 + 3 : Nat) : Int) by rw [na_eq (by omega) (by omega)]; omega]
    refine c_copies (P := P ++ ((5, k - 100) :: (zk e ++ (7, 123) :: zk s))) (A := [(7, 125), (5, zw1 k), (7, 123)]) (B := zk t ++ (7, 125) :: (5, zw2 k) :: (zk e2 ++ [(7, 59)]) ++ B) (FEm_St F1 hS) hr (FEm_RK F1 hK) (by rw [et]; simp) (by rw [ef]; simp; omega) (by simp) N1 (by simp only [List.length_append, List.length_cons, List.length_nil]; omega) (fun h2 F2 N2 => p232 h2 (FI_trans F1 F2) ?_)
    simp only [List.append_assoc, List.cons_append, List.nil_append] at N2 ⊢
    exact N2
  have p210 : ∀ h1, FEm h h1 → Nt h1 (T ++ ((5, k - 100) :: (zk e2 ++ [(7, 123)]))) → Wp (d + 11) C_X4_mirrorStep Q 210 [vR (some 116), vI (rr : Nat), vI (f : Nat), vI ((f + ((zk e).length + (zk s).length + (zk t).length + (zk e2).length + 8) : Nat) : Int), vI ((k - 100 : Nat) : Int), vI ((f + (zk e).length + 1 : Nat) : Int), vI ((f + (zk e).length + (zk s).length + 2 : Nat) : Int), vI ((f + (zk e).length + (zk s).length + (zk t).length + 5 : Nat) : Int)] [] h1 := by
    intro h1 F1 N1
    refine ss_X4_mirrorStep_210 (FEm_St F1 hS) ?_
    rw [n1k (by omega), show ((f + (zk e).length + (zk s).length + 2 : Nat) : Int) = ((f + (zk e).length + 1 + 1 + (zk s).length : Nat) : Int) by omega]
    refine ms _ rr _ h1 ts (P ++ ((5, k - 100) :: (zk e ++ [(7, 123)]))) ((7, 125) :: (5, zw1 k) :: (7, 123) :: (zk t ++ (7, 125) :: (5, zw2 k) :: (zk e2 ++ [(7, 59)])) ++ B) _ _ (FEm_St F1 hS) hr (FEm_RK F1 hK) (by rw [et]; simp) (by rw [ef]; simp; omega) N1 (by simp only [List.length_append, List.length_cons, List.length_nil]; omega) (by omega) (fun h2 F2 N2 => ?_)
    rw [show ((f + (zk e).length + 1 + 1 + (zk s).length : Nat) : Int) = ((f + (zk e).length + (zk s).length + 2 : Nat) : Int) by omega]
    refine p221 h2 (FI_trans F1 F2) ?_
    simp only [List.append_assoc, List.cons_append, List.nil_append] at N2 ⊢
    exact N2
  have p190 : ∀ h1, FEm h h1 → Nt h1 (T ++ [(5, k - 100)]) → Wp (d + 11) C_X4_mirrorStep Q 190 [vR (some 116), vI (rr : Nat), vI (f : Nat), vI ((f + ((zk e).length + (zk s).length + (zk t).length + (zk e2).length + 8) : Nat) : Int), vI ((k - 100 : Nat) : Int), vI ((f + (zk e).length + 1 : Nat) : Int), vI ((f + (zk e).length + (zk s).length + 2 : Nat) : Int), vI ((f + (zk e).length + (zk s).length + (zk t).length + 5 : Nat) : Int)] [] h1 := by
    intro h1 F1 N1
    refine ss_X4_mirrorStep_190 (FEm_St F1 hS) ?_
    rw [show n_add ((f + (zk e).length + (zk s).length + (zk t).length + 5 : Nat) : Int) 2 = ((f + (zk e).length + (zk s).length + (zk t).length + 7 : Nat) : Int) by rw [na_eq (by omega) (by omega)]; omega, show n_sub ((f + ((zk e).length + (zk s).length + (zk t).length + (zk e2).length + 8) : Nat) : Int) 1 = ((f + (zk e).length + (zk s).length + (zk t).length + 7 + (zk e2).length : Nat) : Int) by rw [ns_eq (by omega) (by omega)]; omega]
    refine c_copies (P := P ++ ((5, k - 100) :: (zk e ++ (7, 123) :: (zk s ++ (7, 125) :: (5, zw1 k) :: (7, 123) :: (zk t ++ [(7, 125), (5, zw2 k)]))))) (A := zk e2) (B := (7, 59) :: B) (FEm_St F1 hS) hr (FEm_RK F1 hK) (by rw [et]; simp) (by rw [ef]; simp; omega) rfl N1 (by simp only [List.length_append, List.length_cons, List.length_nil]; omega) (fun h2 F2 N2 => ?_)
    refine ss_X4_mirrorStep_202 (FEm_St F2 (FEm_St F1 hS)) (c_emitM (s := 7) (w := 123) (FEm_St F2 (FEm_St F1 hS)) N2 (by simp only [List.length_append, List.length_cons, List.length_nil]; omega) (fun h3 F3 N3 => p210 h3 (FI_trans F1 (FI_trans F2 F3)) ?_))
    simp only [List.append_assoc, List.cons_append, List.nil_append] at N3 ⊢
    exact N3
  have p161 : Wp (d + 11) C_X4_mirrorStep Q 161 [vR (some 116), vI (rr : Nat), vI (f : Nat), vI ((f + ((zk e).length + (zk s).length + (zk t).length + (zk e2).length + 8) : Nat) : Int), vI ((k - 100 : Nat) : Int), vU, vU, vU] [vI ((f + (zk e).length + 1 : Nat) : Int)] h := by
    refine ss_X4_mirrorStep_161 hS (c_closes (P := P ++ ((5, k - 100) :: zk e)) (A := zk s) (B := (5, zw1 k) :: (7, 123) :: (zk t ++ (7, 125) :: (5, zw2 k) :: (zk e2 ++ [(7, 59)])) ++ B) hS hr hK (by rw [et]; simp) (by rw [ef]; simp; omega) ((zk_br s).1 os 1 (by decide)) ?_)
    rw [show ((f + (zk e).length + 1 + (zk s).length + 1 : Nat) : Int) = ((f + (zk e).length + (zk s).length + 2 : Nat) : Int) by omega]
    refine ss_X4_mirrorStep_170 hS ?_
    rw [show n_add ((f + (zk e).length + (zk s).length + 2 : Nat) : Int) 2 = ((f + (zk e).length + (zk s).length + 4 : Nat) : Int) by rw [na_eq (by omega) (by omega)]; omega]
    refine c_closes (P := P ++ ((5, k - 100) :: (zk e ++ (7, 123) :: (zk s ++ [(7, 125), (5, zw1 k)])))) (A := zk t) (B := (5, zw2 k) :: (zk e2 ++ [(7, 59)]) ++ B) hS hr hK (by rw [et]; simp) (by rw [ef]; simp; omega) ((zk_br t).1 ot 1 (by decide)) ?_
    rw [show ((f + (zk e).length + (zk s).length + 4 + (zk t).length + 1 : Nat) : Int) = ((f + (zk e).length + (zk s).length + (zk t).length + 5 : Nat) : Int) by omega]
    exact ss_X4_mirrorStep_181 hS (c_emitM (s := 5) hS N (by omega) (fun h1 F1 N1 => p190 h1 F1 N1))
  have c8 : k = 108 → ((k - 100 : Nat) : Int) = 8 := by intro z; omega
  have c11 : k = 111 → ((k - 100 : Nat) : Int) = 11 := by intro z; omega
  have n8 : k = 111 → ¬ ((k - 100 : Nat) : Int) = 8 := by intro z; omega
  clear p264 p254 p243 p232 p221 p210 p190 hlen ftot
  obtain ⟨t1, t2, t3, -⟩ := tk_at (q := f) (x := (5, k - 100)) hr hK (by rw [et, ef]; simp)
  refine se_X4_mirrorStep hS ?_
  rw [t1, Int.toNat_natCast, t2, t3]
  refine ⟨hi1, ip rfl ⟨hi1, ?_⟩⟩
  rcases hk' with y | y
  · exact ip (c8 y) (fi _ p161)
  · exact im (n8 y) (ip (c11 y) (fi _ p161))
/-! the loops -/
theorem ml_count {d r e : Nat} {Q : qt} {h : hp} {ts B : List (Nat × Nat)} {v2 : Int} {w6 w7 : av} (hS : St h) (hr : r < 10) (hK : RK h r ts) : ∀ (S : List zT) (P : List (Nat × Nat)) (f n : Nat), Al (fun s => okS s 1) S → ts = P ++ (zks S ++ B) → f = P.length → e = f + (zks S).length → n + S.length ≤ 1600 → Wp (d + 3) C_X4_mirrors Q 33 [vR (some 116), vI (r : Nat), vI v2, vI (e : Nat), vI ((n + S.length : Nat) : Int), vI (((n + S.length : Nat) : Int) - 1), w6, w7] [] h → Wp (d + 3) C_X4_mirrors Q 6 [vR (some 116), vI (r : Nat), vI v2, vI (e : Nat), vI (n : Nat), vI (f : Nat), w6, w7] [] h := by
  intro S
  induction S with
  | nil =>
    intro P f n _ et ef ee hn k
    refine ss_X4_mirrors_6 hS (im (by rw [ee]; show ¬ ((f : Nat) : Int) < ((f + 0 : Nat) : Int); omega) ?_)
    rw [ns_eq (by omega) (by omega)]
    exact k
  | cons s S ih =>
    intro P f n al et ef ee hn k
    have e3 : (zks (s :: S)).length = (zk s).length + (zks S).length := by show (zk s ++ zks S).length = _; rw [List.length_append]
    have et' : ts = P ++ (zk s ++ (zks S ++ B)) := by rw [et]; show P ++ ((zk s ++ zks S) ++ B) = _; rw [List.append_assoc]
    obtain ⟨x, A, ez, -, -⟩ := zk_sk s al.1
    have pos : 0 < (zk s).length := by rw [ez]; simp
    rw [List.length_cons] at hn k
    refine ss_X4_mirrors_6 hS (ip (by omega) ?_)
    refine c_stepE hS hr hK al.1 et' ef ?_
    refine ss_X4_mirrors_22 hS ?_
    rw [n1k (by omega)]
    refine ih (P ++ zk s) (f + (zk s).length) (n + 1) al.2 (by rw [et']; simp) (by rw [ef]; simp) (by omega) (by omega) ?_
    rw [show n + 1 + S.length = n + (S.length + 1) by omega]
    exact k
theorem ml_go {d r e n : Nat} {Q : qt} {h : hp} {ts : List (Nat × Nat)} {v2 v4 : Int} (hS : St h) (hr : r < 10) (hK : RK h r ts) {s : zT} (os : okS s 1) (k : ∀ p : Nat, (∃ P B, ts = P ++ (zk s ++ B) ∧ p = P.length) → Wp (d + 3) C_X4_mirrors Q 77 [vR (some 116), vI (r : Nat), vI v2, vI (e : Nat), vI v4, vI (n : Nat), vI (p : Nat), vI (n : Nat)] [vI ((p + (zk s).length : Nat) : Int), vI (p : Nat), vI (r : Nat), vR (some 116)] h) : ∀ (S : List zT) (P B : List (Nat × Nat)) (f j : Nat), Al (fun s => okS s 1) S → ts = P ++ (zks S ++ (zk s ++ B)) → f = P.length → j + S.length = n → n ≤ 1600 → Wp (d + 3) C_X4_mirrors Q 44 [vR (some 116), vI (r : Nat), vI v2, vI (e : Nat), vI v4, vI (n : Nat), vI (f : Nat), vI (j : Nat)] [] h := by
  intro S
  induction S with
  | nil =>
    intro P B f j _ et ef hj hn
    have hj' : j = n := hj
    subst hj'
    refine ss_X4_mirrors_44 hS (im (by omega) ?_)
    exact c_stepE (P := P) (B := B) hS hr hK os et ef (k f ⟨P, B, et, ef⟩)
  | cons u S ih =>
    intro P B f j al et ef hj hn
    rw [List.length_cons] at hj
    have et' : ts = P ++ (zk u ++ (zks S ++ (zk s ++ B))) := by rw [et]; show P ++ ((zk u ++ zks S) ++ _) = _; rw [List.append_assoc]
    refine ss_X4_mirrors_44 hS (ip (by omega) ?_)
    refine c_stepE hS hr hK al.1 et' ef ?_
    refine ss_X4_mirrors_58 hS ?_
    rw [n1k (by omega)]
    exact ih (P ++ zk u) B (f + (zk u).length) (j + 1) al.2 (by rw [et']; simp) (by rw [ef]; simp) (by omega) hn
theorem zks_mi (S : List zT) (a : Al (fun s => okS s 1) S) : (zks (S.map zmi)).length = (zks S).length := by
  induction S with
  | nil => rfl
  | cons s S ih =>
    show (zk (zmi s) ++ zks (S.map zmi)).length = (zk s ++ zks S).length
    rw [List.length_append, List.length_append, ih a.2, ((mk_all s).2 a.1).2.2.2.1]
theorem ml_all {d r e b f : Nat} {Q : qt} {ts P : List (Nat × Nat)} {v4 : Int} (hr : r < 10) (ef : f = P.length) (hd : 2 * b + 10 ≤ d + 3) : ∀ (n : Nat) (S : List zT) (B T : List (Nat × Nat)) (h : hp) (w6 w7 : av), S.length = n → n ≤ 1600 → St h → RK h r ts → ts = P ++ (zks S ++ B) → Al (fun s => okS s 1 ∧ MM1 s ∧ zbr s ≤ b) S → Nt h T → T.length + (zks S).length ≤ 1600 → (∀ h', FEm h h' → Nt h' (T ++ zks (S.reverse.map zmi)) → Q (.inl none) h') → Wp (d + 3) C_X4_mirrors Q 33 [vR (some 116), vI (r : Nat), vI (f : Nat), vI (e : Nat), vI v4, vI ((n : Int) - 1), w6, w7] [] h := by
  intro n
  induction n with
  | zero =>
    intro S B T h w6 w7 hn _ hS hK et al N hl k
    have e0 : S = [] := List.length_eq_zero_iff.1 hn
    subst e0
    exact ss_X4_mirrors_33 hS (ip (by decide) (k h (FI_refl h) (by show Nt h (T ++ []); rw [List.append_nil]; exact N)))
  | succ n ih =>
    intro S B T h w6 w7 hn h16 hS hK et al N hl k
    obtain ⟨S0, s, e0⟩ : ∃ S0 s, S = S0 ++ [s] := by
      rcases List.eq_nil_or_concat S with q | ⟨S0, s, q⟩
      · rw [q] at hn; cases hn
      · exact ⟨S0, s, by rw [q, List.concat_eq_append]⟩
    subst e0
    rw [List.length_append, List.length_singleton] at hn
    rw [zks_app, show zks [s] = zk s from List.append_nil _] at et hl
    rw [List.length_append] at hl
    rw [List.reverse_append, List.map_append, zks_app, show zks (List.map zmi [s].reverse) = zk (zmi s) from List.append_nil _] at k
    obtain ⟨al0, ⟨os, ms, bs⟩, -⟩ := Al_app.1 al
    refine ss_X4_mirrors_33 hS (im (by omega) ?_)
    rw [show (((n + 1 : Nat) : Int) - 1) = ((n : Nat) : Int) by omega]
    refine ml_go (n := n) (s := s) hS hr hK os (fun p ⟨P', B', ep, epp⟩ => ?_) S0 P B f 0 (Al_mp (fun _ z => z.1) al0) (by rw [et]; simp) ef (by omega) (by omega)
    refine ss_X4_mirrors_77 hS (ms _ r p h ts P' B' T _ hS hr hK ep epp N (by omega) (by omega) (fun h1 F1 N1 => ?_))
    have ls := ((mk_all s).2 os).2.2.2.1
    refine ss_X4_mirrors_80 (FEm_St F1 hS) ?_
    rw [na_eq (by omega) (by omega)]
    refine ih S0 (zk s ++ B) (T ++ zk (zmi s)) h1 _ _ (by omega) (by omega) (FEm_St F1 hS) (FEm_RK F1 hK) (by rw [et]; simp) al0 N1 (by rw [List.length_append]; omega) (fun h2 F2 N2 => k h2 (FI_trans F1 F2) ?_)
    rw [List.append_assoc] at N2
    exact N2
theorem Al_br : ∀ {t : zT}, okS t 0 → Al (fun s => zbr s ≤ zbr t) (zls t) := by
  intro t
  induction t with
  | leaf n => intro _; trivial
  | branch k s t _ ih =>
    intro o
    unfold okS at o
    rw [if_pos rfl] at o
    obtain ⟨ek, o1, o2⟩ := o
    subst ek
    refine ⟨?_, Al_mp (fun u z => ?_) (ih o2)⟩
    · show zbr s ≤ max (zbr s) (zbr t); omega
    · show zbr u ≤ max (zbr s) (zbr t); omega
theorem Al_and {P Q : zT → Prop} : ∀ {S : List zT}, Al P S → Al Q S → Al (fun s => P s ∧ Q s) S := by
  intro S
  induction S with
  | nil => intro _ _; trivial
  | cons s S ih => intro a b; exact ⟨⟨a.1, b.1⟩, ih a.2 b.2⟩
theorem zls_k : ∀ {S : List zT}, Al (fun s => okS s 1) S → S.length ≤ (zks S).length := by
  intro S
  induction S with
  | nil => intro _; exact Nat.le_refl _
  | cons s S ih =>
    intro a
    obtain ⟨x, A, ez, -, -⟩ := zk_sk s a.1
    have pos : 0 < (zk s).length := by rw [ez]; simp
    have := ih a.2
    show S.length + 1 ≤ (zk s ++ zks S).length
    rw [List.length_append]; omega
theorem mm_0 {t : zT} (o : okS t 0) (a : Al MM1 (zls t)) : MM0 t := by
  intro d r f h ts P B T Q hS hr hK et ef N hl hd k
  obtain ⟨d, rfl⟩ : ∃ x, d = x + 4 := ⟨d - 4, by omega⟩
  have aok := Al_ok o
  have hlen := zls_k aok
  have ez := zk_zls o
  rw [ez] at et hl ⊢
  have hn : (zls t).length ≤ 1600 := by omega
  refine se_X4_mirrors hS (ml_count hS hr hK (zls t) P f 0 aok et ef rfl (by omega) ?_)
  rw [Nat.zero_add]
  refine ml_all (b := zbr t) hr ef (by omega) (zls t).length (zls t) B T h _ _ rfl hn hS hK et (Al_and aok (Al_and a (Al_br o))) N hl (fun h1 F1 N1 => k h1 F1 ?_)
  rw [zmi_zol o, zk_zol]
  exact N1
theorem mm_all : ∀ t : zT, (okS t 0 → zun false t → Al MM1 (zls t)) ∧ (okS t 1 → zun false t → MM1 t) := by
  have H := ok_ind (P0 := fun t => zun false t → Al MM1 (zls t)) (P1 := fun t => zun false t → MM1 t)
    (fun _ _ => trivial)
    (fun s t _ _ a b u => ⟨a (zun_150 u).1, b (zun_150 u).2⟩)
    (fun e a b e2 o1 oa ob o2 i1 i2 u => by
      have u' : false = false ∧ zun false a ∧ zun false b := u
      exact mm_fk (Or.inl ⟨rfl, rfl, rfl⟩) o1 o2 oa ob (mm_0 oa (i1 u'.2.1)) (mm_0 ob (i2 u'.2.2)))
    (fun e a b e2 o1 oa ob o2 i1 i2 u => by
      have u' : false = false ∧ zun false a ∧ zun false b := u
      exact mm_fk (Or.inr ⟨rfl, rfl, rfl⟩) o1 o2 oa ob (mm_0 oa (i1 u'.2.1)) (mm_0 ob (i2 u'.2.2)))
    (fun e a _ _ _ u => absurd (zun_wh u).1 (by decide)) (fun e a b _ _ _ _ _ u => absurd (zun_wn u).1 (by decide))
    (fun k l r ok u => by
      have e := zun_1 ok u
      have hk := ok1_k ok
      by_cases q : k < 130
      · refine mm_key ok ?_
        have : k ≠ 114 := by intro z; subst z; exact absurd e (by decide)
        omega
      · exact mm_chg ok (by omega))
  exact fun t => ⟨(H t).1, (H t).2.1⟩
/-- m's mirrors, the whole -/
theorem m_mirrors {t : zT} (o : okS t 0) (u : zun false t) : MM0 t := mm_0 o ((mm_all t).1 o u)
