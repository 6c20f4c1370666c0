/-! m LAYS steps -/
theorem Fm_refl {h : hp} {r b n : Nat} : Fm h h r b n := ⟨FI_refl h, fun _ _ => rfl, fun x _ => sx_refl h x⟩
def LayS (s : zT) : Prop := ∀ (h : hp) (d r b : Nat) (P S : List (Nat × Nat)) (u : zT × Nat × Nat) (Q : qt), r < 10 → St h → RK h r (P ++ (zk s ++ S)) → hI h 126 r = (b : Nat) → b + zc s ≤ 40 → 4 * zbr s + 6 ≤ d → (∀ h', Fm h h' r b (zc s) → hI h' 126 r = ((b + zc s : Nat) : Int) → MEs h' r b (zi s u b P.length) → Q (.inl (some (vI ((P.length + (zk s).length : Nat) : Int)))) h') → Wc d 140 [vR (some 116), vI (r : Nat), vI (P.length : Nat)] h Q
def LayL (t : zT) : Prop := ∀ (h : hp) (d r b : Nat) (P S : List (Nat × Nat)) (u : zT × Nat × Nat) (v2 : Int) (Q : qt), r < 10 → St h → RK h r (P ++ (zk t ++ S)) → (S = [] ∨ ∃ S', S = (7, 125) :: S') → hI h 126 r = (b : Nat) → b + zc t ≤ 40 → 4 * zbr t + 7 ≤ d → (∀ h', Fm h h' r b (zc t) → hI h' 126 r = ((b + zc t : Nat) : Int) → MEs h' r b (zi t u b P.length) → Q (.inl (some (vI ((P.length + (zk t).length : Nat) : Int)))) h') → Wp d C_X4_laySteps Q 2 [vR (some 116), vI (r : Nat), vI v2, vI (P.length : Nat)] [] h
theorem lay_nil (v : Nat) : LayL (.leaf v) := by
  intro h d r b P S u v2 Q hr hS hK hSs hb h40 hd k
  obtain ⟨d, rfl⟩ : ∃ e, d = e + 1 := ⟨d - 1, by omega⟩
  have hK' : RK h r (P ++ S) := hK
  have kk := k h Fm_refl (by rw [hb]; rfl) MEs_nil
  have hl := hK'.1
  refine ss_X4_laySteps_2 hS ⟨by omega, ?_⟩
  rw [Int.toNat_natCast, hK'.2.1]
  rcases hSs with e | ⟨S', e⟩
  · subst e
    exact im (by simp) kk
  · subst e
    refine ip (by simp; omega) ?_
    refine c_isTok (s := 7) (w := 125) hS hr hK' ?_
    rw [at_P, decide_eq_true rfl]
    exact ss_X4_laySteps_22 hS (im (by decide) kk)
theorem lay_cons {s t : zT} (os : okS s 1) (hs : LayS s) (ht : LayL t) : LayL (zB 150 s t) := by
  intro h d r b P S u v2 Q hr hS hK hSs hb h40 hd k
  have hzc : zc (zB 150 s t) = zc s + zc t := rfl
  have hd' : 4 * max (zbr s) (zbr t) + 7 ≤ d := hd
  rw [hzc] at h40 k
  rw [zk_150, List.append_assoc] at hK
  have hl := hK.1
  obtain ⟨x, A, ex, -, hx7⟩ := zk_sk s os
  obtain ⟨d, rfl⟩ : ∃ e, d = e + 1 := ⟨d - 1, by omega⟩
  have hlen : (P ++ (zk s ++ (zk t ++ S))).length = P.length + (zk s).length + (zk t ++ S).length := by simp; omega
  have hs1 : 1 ≤ (zk s).length := by rw [ex]; simp
  refine ss_X4_laySteps_2 hS ⟨by omega, ?_⟩
  rw [Int.toNat_natCast, hK.2.1]
  refine ip (by omega) ?_
  refine c_isTok (s := 7) (w := 125) hS hr hK ?_
  have et : (P ++ (zk s ++ (zk t ++ S)))[P.length]? = some x := by rw [ex]; simp
  rw [et, decide_eq_false (by intro z; cases z; exact hx7 rfl)]
  refine ss_X4_laySteps_22 hS (ip rfl ?_)
  refine hs h (d + 1) r b P (zk t ++ S) u _ hr hS hK hb (by omega) (by omega) ?_
  intro h1 F1 e1 E1
  have S1 := Fm_St F1 hS
  refine ss_X4_laySteps_31 S1 ?_
  have hK1 := Fm_RK F1 hK
  have q := ht h1 (d + 1) r (b + zc s) (P ++ zk s) S u v2 Q hr S1 (by rw [List.append_assoc]; exact hK1) hSs e1 (by omega) (by omega) (fun h2 F2 e2 E2 => ?_)
  · rw [List.length_append] at q
    exact q
  · have kk := k h2 (Fm_trans (Fm_mono F1 (Nat.le_refl _) (by omega)) F2 (by omega) (by omega)) (by rw [e2]; congr 1; omega) ?_
    · rw [zk_150, List.length_append] at kk
      rw [List.length_append, Nat.add_assoc]
      exact kk
    · rw [zi_150]
      refine MEs_app (MEs_eq (fun i hi => F2.2.2 _ (Or.inl ?_)) E1) ?_
      · rw [(zi_len s).2 os] at hi; omega
      · rw [(zi_len s).2 os]
        rw [List.length_append] at E2
        exact E2
theorem lay_key {k : Nat} {l r0 : zT} (hk : ok1 k l r0) (h130 : k < 130) : LayS (zB k l r0) := by
  intro h d r b P S u Q hr hS hK hb h40 hd kk
  have hq := ok1_k hk
  have hz : zc (zB k l r0) = 1 := (ok1_S hk).2.1
  rw [zi_one hk, hz] at kk
  rw [hz] at h40
  obtain ⟨A, eA, hA⟩ := zk_key hk h130
  rw [eA] at hK kk
  have hl := hK.1
  have hlen : (P ++ ((5, k - 100) :: (A ++ [(7, 59)]) ++ S)).length = P.length + A.length + 2 + S.length := by simp; omega
  have et : (P ++ ((5, k - 100) :: (A ++ [(7, 59)]) ++ S))[P.length]? = some (5, k - 100) := by simp
  have e5 := hK.2.2 P.length _ et
  obtain ⟨d, rfl⟩ : ∃ e, d = e + 3 := ⟨d - 3, by omega⟩
  refine se_X4_layStep hS ?_
  rw [ix hr (by omega), Int.toNat_natCast, e5.1, e5.2]
  have e6 : (((5, k - 100) : Nat × Nat).2 : Int) = (k : Int) - 100 := by show ((k - 100 : Nat) : Int) = _; omega
  rw [e6]
  refine ⟨by omega, ip rfl ⟨by omega, im (by omega) (im (by omega) (im (by omega) (im (by omega) ?_)))⟩⟩
  rw [na_eq (by omega) (by omega), na_eq (by omega) (by omega)]
  refine c_adds2 hS hr hb (by omega) fun h1 F1 e1 f1 f2 f3 => ?_
  have S1 := Fm_St F1 hS
  refine ss_X4_layStep_336 S1 ?_
  refine c_find (sg := 59) (A := (5, k - 100) :: A) (B := S) S1 hr (Fm_RK F1 hK) (by simp) rfl (Sk_c (nB_1 (by decide)).1 (nB_1 (by decide)).2.1 (nB_1 (by decide)).2.2 (Sk_nB hA).1) ?_
  refine ss_X4_layStep_346 S1 ?_
  rw [na_eq (by simp; omega) (by simp; omega)]
  have q := kk h1 F1 e1 (MEs_cons ⟨?_, ?_, ?_, fun z => absurd rfl z⟩ MEs_nil)
  · have el : P.length + ((5, k - 100) :: A).length + 1 = P.length + ((5, k - 100) :: (A ++ [(7, 59)])).length := by simp; omega
    rw [show (((P.length + ((5, k - 100) :: A).length : Nat) : Int) + 1) = ((P.length + ((5, k - 100) :: A).length + 1 : Nat) : Int) from rfl, el]
    exact q
  · rw [f1]; unfold dz; rw [if_pos rfl, if_pos (show zg (zB k l r0) < 130 from h130)]; rfl
  · rw [f2]; unfold oz; rw [if_pos ⟨rfl, (show zg (zB k l r0) < 130 from h130)⟩]
  · rw [f3]; unfold ez; rw [if_pos rfl, if_pos (show zg (zB k l r0) < 130 from h130)]
theorem lay_chg {k : Nat} {l r0 : zT} (hk : ok1 k l r0) (h130 : 130 ≤ k) : LayS (zB k l r0) := by
  intro h d r b P S u Q hr hS hK hb h40 hd kk
  have hq := ok1_k hk
  have hz : zc (zB k l r0) = 1 := (ok1_S hk).2.1
  rw [zi_one hk, hz] at kk
  rw [hz] at h40
  obtain ⟨eA, oP, hA⟩ := zk_chg hk h130
  rw [eA] at hK kk
  have hl := hK.1
  have hlen : (P ++ (zk l ++ (6, k - 130) :: (zk r0 ++ [(7, 59)]) ++ S)).length = P.length + (zk l).length + (zk r0).length + 2 + S.length := by simp; omega
  obtain ⟨d, rfl⟩ : ∃ e, d = e + 3 := ⟨d - 3, by omega⟩
  have ets : (P ++ (zk l ++ (6, k - 130) :: (zk r0 ++ [(7, 59)]) ++ S))[P.length + (zk l).length]? = some (6, k - 130) := by
    rw [show P ++ (zk l ++ (6, k - 130) :: (zk r0 ++ [(7, 59)]) ++ S) = (P ++ zk l) ++ (6, k - 130) :: (zk r0 ++ [(7, 59)] ++ S) by simp, ← List.length_append]
    exact at_P
  have es := hK.2.2 _ _ ets
  have k22 : Wp (d + 2) C_X4_layStep Q 22 [vR (some 116), vI (r : Nat), vI (P.length : Nat), vU, vU, vU, vU, vU, vU, vU] [vI ((P.length + (zk l).length : Nat) : Int)] h := by
    refine ss_X4_layStep_22 hS ?_
    rw [ix hr (by omega), Int.toNat_natCast, es.2]
    refine ⟨by omega, ?_⟩
    rw [na_eq (x := 20) (by show _ ≤ (20 : Int) + ((k - 130 : Nat) : Int); omega) (by show (20 : Int) + ((k - 130 : Nat) : Int) < _; omega), na_eq (by omega) (by omega)]
    refine c_adds2 hS hr hb (by omega) fun h1 F1 e1 f1 f2 f3 => ?_
    have S1 := Fm_St F1 hS
    refine ss_X4_layStep_47 S1 ?_
    refine c_find (sg := 59) (A := zk l ++ (6, k - 130) :: zk r0) (B := S) S1 hr (Fm_RK F1 hK) (by simp) rfl (Sk_app (Sk_c (nB_1 (by decide)).1 (nB_1 (by decide)).2.1 (nB_1 (by decide)).2.2 (Sk_nB hA).1) (Sk_nB (zkP_nB oP)).1) ?_
    refine ss_X4_layStep_57 S1 ?_
    rw [na_eq (by simp; omega) (by simp; omega)]
    have q := kk h1 F1 e1 (MEs_cons ⟨?_, ?_, ?_, fun z => absurd rfl z⟩ MEs_nil)
    · have el : P.length + (zk l ++ (6, k - 130) :: zk r0).length + 1 = P.length + (zk l ++ (6, k - 130) :: (zk r0 ++ [(7, 59)])).length := by simp; omega
      rw [show (((P.length + (zk l ++ (6, k - 130) :: zk r0).length : Nat) : Int) + 1) = ((P.length + (zk l ++ (6, k - 130) :: zk r0).length + 1 : Nat) : Int) from rfl, el]
      exact q
    · rw [f1]; unfold dz; rw [if_pos rfl, if_neg (show ¬ zg (zB k l r0) < 130 by show ¬ k < 130; omega)]; show (20 : Int) + ((k - 130 : Nat) : Int) = (k : Int) - 110; omega
    · rw [f2]; unfold oz; rw [if_neg (fun z => absurd z.2 (show ¬ zg (zB k l r0) < 130 by show ¬ k < 130; omega))]
    · rw [f3]; unfold ez; rw [if_pos rfl, if_neg (show ¬ zg (zB k l r0) < 130 by show ¬ k < 130; omega)]; show ((P.length + (zk l).length : Nat) : Int) + 1 = (P.length : Int) + ((zk l).length : Nat) + 1; omega
  refine se_X4_layStep hS ?_
  rcases oP with ⟨x, y, -⟩ | ⟨x, f, y, -, oF⟩
  · subst y
    have e5 := hK.2.2 P.length (1, x) (by simp [zk, zn])
    rw [ix hr (by omega), Int.toNat_natCast, e5.1]
    refine ⟨by omega, im (show ¬ ((1 : Nat) : Int) = 5 by decide) ?_⟩
    exact c_behindN (x := x) (B := (6, k - 130) :: (zk r0 ++ [(7, 59)]) ++ S) hS hr hK rfl rfl k22
  · subst y
    have ezp : zk (zB 3 (zL x) f) = (3, x) :: (7, 91) :: (zk f ++ [(7, 93)]) := rfl
    have e5 := hK.2.2 P.length (3, x) (by rw [ezp]; simp)
    rw [ix hr (by omega), Int.toNat_natCast, e5.1]
    refine ⟨by omega, im (show ¬ ((3 : Nat) : Int) = 5 by decide) ?_⟩
    refine c_behindR (x := x) (A := zk f) (B := (6, k - 130) :: (zk r0 ++ [(7, 59)]) ++ S) hS hr hK (by rw [ezp]; simp) rfl (zkE_br f 0 1 oF.1 (by decide)) ?_
    have el : P.length + (zk f).length + 3 = P.length + (zk (zB 3 (zL x) f)).length := by rw [ezp]; simp; omega
    rw [el]
    exact k22
theorem lay_108 {e s t e2 : zT} (oe : okE e) (oe2 : okE e2) (os : okS s 0) (ot : okS t 0) (hs : LayL s) (ht : LayL t) : LayS (zB 108 e (zB 112 s (zB 113 t e2))) := by
  intro h d r b P S u Q hr hS hK hb h40 hd kk
  have hd' : 4 * (1 + max (zbr s) (zbr t)) + 6 ≤ d := hd
  have hzc : zc (zB 108 e (zB 112 s (zB 113 t e2))) = 3 + (zc s + zc t) := rfl
  rw [hzc] at h40 kk
  rw [zi_fk (Or.inl ⟨rfl, rfl, rfl⟩)] at kk
  have ezk : zk (zB 108 e (zB 112 s (zB 113 t e2))) = (5, 8) :: (zk e ++ (7, 123) :: (zk s ++ (7, 125) :: (5, 9) :: (7, 123) :: (zk t ++ (7, 125) :: (5, 10) :: (zk e2 ++ [(7, 59)])))) := rfl
  have lzk : (zk (zB 108 e (zB 112 s (zB 113 t e2)))).length = (zk e).length + (zk s).length + (zk t).length + 8 + (zk e2).length := by rw [ezk]; simp; omega
  have zmT : zm (zB 108 e (zB 112 s (zB 113 t e2))) b = b + 1 + zc s := rfl
  have zeT : ze (zB 108 e (zB 112 s (zB 113 t e2))) b = b + 2 + zc s + zc t := by unfold ze; rw [hzc]; omega
  have lzs := (zi_len s).1 os
  have lzt := (zi_len t).1 ot
  generalize eT : zB 108 e (zB 112 s (zB 113 t e2)) = T at hK kk ezk lzk zmT zeT
  have gT : zg T = 108 := by rw [← eT]; rfl
  have lzT : ∀ n, lz (n, T, b, P.length) = (P.length : Int) + ((zk e).length + (zk s).length + (zk t).length + 7 : Nat) := by
    intro n; rw [← eT]; rfl
  rw [ezk] at hK
  have hl := hK.1
  have hlen : (P ++ ((5, 8) :: (zk e ++ (7, 123) :: (zk s ++ (7, 125) :: (5, 9) :: (7, 123) :: (zk t ++ (7, 125) :: (5, 10) :: (zk e2 ++ [(7, 59)])))) ++ S)).length = P.length + (zk T).length + S.length := by rw [lzk]; simp; omega
  have e5 := hK.2.2 P.length (5, 8) (by simp)
  obtain ⟨d, rfl⟩ : ∃ e, d = e + 3 := ⟨d - 3, by omega⟩
  refine se_X4_layStep hS ?_
  rw [ix hr (by omega), Int.toNat_natCast, e5.1, e5.2]
  have ek : (((5, 8) : Nat × Nat).2 : Int) = 8 := rfl
  rw [ek]
  refine ⟨by omega, ip rfl ⟨by omega, ip rfl ?_⟩⟩
  refine ss_X4_layStep_91 hS ?_
  rw [na_eq (by omega) (by omega)]
  refine c_adds2 hS hr hb (by omega) fun h1 F1 n1 f1 f2 f3 => ?_
  have S1 := Fm_St F1 hS
  refine ss_X4_layStep_101 S1 ?_
  have K1 := Fm_RK F1 hK
  refine c_find (sg := 123) (A := (5, 8) :: zk e) (B := zk s ++ (7, 125) :: (5, 9) :: (7, 123) :: (zk t ++ (7, 125) :: (5, 10) :: (zk e2 ++ [(7, 59)])) ++ S) S1 hr K1 (by simp) rfl (Sk_c (by decide) (by decide) (by decide) (Sk_nB (zkE_nB e 0 oe.1)).2.1) ?_
  refine ss_X4_layStep_111 S1 ?_
  rw [na_eq (by simp; omega) (by simp; omega)]
  refine se_X4_laySteps S1 ?_
  have l1 : (P ++ (5, 8) :: (zk e ++ [(7, 123)])).length = P.length + (zk e).length + 2 := by simp; omega
  have K1' : RK h1 r ((P ++ (5, 8) :: (zk e ++ [(7, 123)])) ++ (zk s ++ ((7, 125) :: (5, 9) :: (7, 123) :: (zk t ++ (7, 125) :: (5, 10) :: (zk e2 ++ [(7, 59)])) ++ S))) := by
    have ee : (P ++ (5, 8) :: (zk e ++ [(7, 123)])) ++ (zk s ++ ((7, 125) :: (5, 9) :: (7, 123) :: (zk t ++ (7, 125) :: (5, 10) :: (zk e2 ++ [(7, 59)])) ++ S)) = P ++ ((5, 8) :: (zk e ++ (7, 123) :: (zk s ++ (7, 125) :: (5, 9) :: (7, 123) :: (zk t ++ (7, 125) :: (5, 10) :: (zk e2 ++ [(7, 59)])))) ++ S) := by simp
    rw [ee]; exact K1
  have a1 : (((P.length + ((5, 8) :: zk e).length : Nat) : Int) + 1) = (((P ++ (5, 8) :: (zk e ++ [(7, 123)])).length : Nat) : Int) := by rw [l1]; simp; omega
  rw [a1]
  refine hs h1 (d + 1) r (b + 1) _ _ (T, b, P.length) _ _ hr S1 K1' (Or.inr ⟨_, rfl⟩) n1 (by omega) (by omega) ?_
  intro h2 F2 n2 E2
  have S2 := Fm_St F2 S1
  have F12 : Fm h h2 r b (3 + (zc s + zc t)) := Fm_trans (Fm_mono F1 (Nat.le_refl _) (by omega)) F2 (by omega) (by omega)
  have K2 := Fm_RK F12 hK
  refine ss_X4_layStep_122 S2 ?_
  refine ip (by omega) ?_
  refine ss_X4_layStep_150 S2 ?_
  rw [na_eq (by omega) (by omega)]
  refine c_adds2 (i := b + 1 + zc s) S2 hr n2 (by omega) fun h3 F3 n3 g1 g2 g3 => ?_
  have S3 := Fm_St F3 S2
  have F13 : Fm h h3 r b (3 + (zc s + zc t)) := Fm_trans F12 F3 (by omega) (by omega)
  have K3 := Fm_RK F13 hK
  refine ss_X4_layStep_157 S3 ?_
  rw [l1, na_eq (by omega) (by omega)]
  refine se_X4_laySteps S3 ?_
  have l3 : (P ++ (5, 8) :: (zk e ++ (7, 123) :: (zk s ++ [(7, 125), (5, 9), (7, 123)]))).length = P.length + (zk e).length + (zk s).length + 5 := by simp; omega
  have K3' : RK h3 r ((P ++ (5, 8) :: (zk e ++ (7, 123) :: (zk s ++ [(7, 125), (5, 9), (7, 123)]))) ++ (zk t ++ ((7, 125) :: (5, 10) :: (zk e2 ++ [(7, 59)]) ++ S))) := by
    have ee : (P ++ (5, 8) :: (zk e ++ (7, 123) :: (zk s ++ [(7, 125), (5, 9), (7, 123)]))) ++ (zk t ++ ((7, 125) :: (5, 10) :: (zk e2 ++ [(7, 59)]) ++ S)) = P ++ ((5, 8) :: (zk e ++ (7, 123) :: (zk s ++ (7, 125) :: (5, 9) :: (7, 123) :: (zk t ++ (7, 125) :: (5, 10) :: (zk e2 ++ [(7, 59)])))) ++ S) := by simp
    rw [ee]; exact K3
  have a3 : (((P.length + (zk e).length + 2 + (zk s).length : Nat) : Int) + 3) = (((P ++ (5, 8) :: (zk e ++ (7, 123) :: (zk s ++ [(7, 125), (5, 9), (7, 123)]))).length : Nat) : Int) := by rw [l3]; omega
  rw [a3]
  refine ht h3 (d + 1) r (b + 1 + zc s + 1) _ _ (T, b, P.length) _ _ hr S3 K3' (Or.inr ⟨_, rfl⟩) n3 (by omega) (by omega) ?_
  intro h4 F4 n4 E4
  have S4 := Fm_St F4 S3
  have E4' : MEs h4 r (b + 1 + zc s + 1) (zi t (T, b, P.length) (b + 1 + zc s + 1) (P.length + (zk e).length + 1 + (zk s).length + 3 + 1)) := by
    rw [l3, show P.length + (zk e).length + (zk s).length + 5 = P.length + (zk e).length + 1 + (zk s).length + 3 + 1 by omega] at E4
    exact E4
  have F14 : Fm h h4 r b (3 + (zc s + zc t)) := Fm_trans F13 F4 (by omega) (by omega)
  refine ss_X4_layStep_168 S4 ?_
  refine ip (by omega) ?_
  refine ss_X4_layStep_196 S4 ?_
  rw [na_eq (by omega) (by omega)]
  refine c_adds2 (i := b + 1 + zc s + 1 + zc t) S4 hr n4 (by omega) fun h5 F5 n5 q1 q2 q3 => ?_
  have S5 := Fm_St F5 S4
  have F15 : Fm h h5 r b (3 + (zc s + zc t)) := Fm_trans F14 F5 (by omega) (by omega)
  refine ss_X4_layStep_203 S5 ?_
  rw [l3]
  refine im (by omega) ?_
  rw [na_eq (by omega) (by omega), na_eq (by omega) (by omega)]
  refine ss_X4_layStep_232 S5 ?_
  refine c_joins2 (i := b) (j := b + 1 + zc s) (k := b + 1 + zc s + 1 + zc t) S5 hr (by omega) (by omega) fun h6 G1 G2 G3 G4 G5 G6 => ?_
  have S6 := FI_St G1 S5 rfl
  have F16 : Fm h h6 r b (3 + (zc s + zc t)) := ⟨FI_trans F15.1 G1, fun j hj => (G2 j).trans (F15.2.1 j hj), fun x hx => sx_trans (F15.2.2 x hx) (G5 x (by omega) (by omega) (by omega))⟩
  have K6 := Fm_RK F16 hK
  refine ss_X4_layStep_235 S6 ?_
  rw [na_eq (by omega) (by omega)]
  have l6 : (P ++ (5, 8) :: (zk e ++ (7, 123) :: (zk s ++ (7, 125) :: (5, 9) :: (7, 123) :: (zk t ++ [(7, 125)])))).length = P.length + (zk e).length + (zk s).length + (zk t).length + 6 := by simp; omega
  refine c_find (sg := 59) (f := P.length + (zk e).length + (zk s).length + 5 + (zk t).length + 1) (P := P ++ (5, 8) :: (zk e ++ (7, 123) :: (zk s ++ (7, 125) :: (5, 9) :: (7, 123) :: (zk t ++ [(7, 125)])))) (A := (5, 10) :: zk e2) (B := S) S6 hr K6 (by simp) (by rw [l6]; omega) (Sk_c (by decide) (by decide) (by decide) (Sk_nB (zkE_nB e2 0 oe2.1)).1) ?_
  refine ss_X4_layStep_246 S6 ?_
  rw [na_eq (by simp; omega) (by simp; omega)]
  have x1 : sx h1 h5 (40 * r + b) := sx_trans (F2.2.2 _ (by omega)) (sx_trans (F3.2.2 _ (by omega)) (sx_trans (F4.2.2 _ (by omega)) (F5.2.2 _ (by omega))))
  have x3 : sx h3 h5 (40 * r + (b + 1 + zc s)) := sx_trans (F4.2.2 _ (by omega)) (F5.2.2 _ (by omega))
  have j1 := G6 (40 * r + b) (by omega)
  have j2 := G6 (40 * r + (b + 1 + zc s)) (by omega)
  have j3 := G6 (40 * r + (b + 1 + zc s + 1 + zc t)) (by omega)
  have me : ∀ n x, n ≠ 0 → hI h6 127 (40 * r + x) = dz (n, T, b, P.length) → hI h6 128 (40 * r + x) = (P.length : Nat) → (x = b ∨ x = b + 1 + zc s ∨ x = b + 1 + zc s + 1 + zc t) → ME h6 r x (n, T, b, P.length) := by
    intro n x hn y1 y2 hx
    have j := G6 (40 * r + x) (by omega)
    refine ⟨y1, ?_, ?_, fun _ => ⟨?_, j.2.2.1, ?_, ?_⟩⟩
    · rw [y2]; unfold oz; rw [if_neg (fun z => hn z.1)]
    · rw [j.1]; unfold ez; rw [if_neg hn]
    · rw [j.2.1, lzT]; omega
    · rw [j.2.2.2.1]; show _ = ((zm T b : Nat) : Int); rw [zmT]
    · rw [j.2.2.2.2]; show _ = ((ze T b : Nat) : Int); rw [zeT]; omega
  have q := kk h6 F16 ?_ (MEs_cons (me 1 b (by decide) ?_ ?_ (Or.inl rfl)) (MEs_app (MEs_eq (fun i hi => ?_) (l1 ▸ E2)) ?_))
  · have el : P.length + (zk e).length + (zk s).length + 5 + (zk t).length + 1 + ((5, 10) :: zk e2 : List (Nat × Nat)).length + 1 = P.length + (zk T).length := by rw [lzk]; simp; omega
    rw [← el] at q
    exact q
  · rw [G2, n5]; congr 1; omega
  · rw [G3, x1 127 (by decide) (by decide), f1]; unfold dz; rw [if_neg (show (1 : Nat) ≠ 0 by decide), if_pos (show (1 : Nat) = 1 from rfl)]; show _ = (zg T : Int) - 100; rw [gT]; rfl
  · rw [G4, x1 128 (by decide) (by decide), f2]
  · rw [lzs] at hi
    exact sx_trans (F3.2.2 _ (by omega)) (sx_trans (F4.2.2 _ (by omega)) (sx_trans (F5.2.2 _ (by omega)) (G5 _ (by omega) (by omega) (by omega))))
  · rw [lzs]
    refine MEs_cons (me 2 (b + 1 + zc s) (by decide) ?_ ?_ (Or.inr (Or.inl rfl))) (MEs_app (MEs_eq (fun i hi => ?_) E4') ?_)
    · rw [G3, x3 127 (by decide) (by decide), g1]; unfold dz; rw [if_neg (show (2 : Nat) ≠ 0 by decide), if_neg (show (2 : Nat) ≠ 1 by decide), if_pos (show (2 : Nat) = 2 from rfl)]; show _ = (if zg T = 108 then (9 : Int) else if zg T = 111 then 13 else 31); rw [gT]; rfl
    · rw [G4, x3 128 (by decide) (by decide), g2]
    · rw [lzt] at hi
      exact sx_trans (F5.2.2 _ (by omega)) (G5 _ (by omega) (by omega) (by omega))
    · rw [lzt]
      refine MEs_cons (me 3 (b + 1 + zc s + 1 + zc t) (by decide) ?_ ?_ (Or.inr (Or.inr rfl))) MEs_nil
      · rw [G3, q1]; unfold dz; rw [if_neg (show (3 : Nat) ≠ 0 by decide), if_neg (show (3 : Nat) ≠ 1 by decide), if_neg (show (3 : Nat) ≠ 2 by decide)]; show _ = (if zg T = 108 then (10 : Int) else if zg T = 111 then 12 else if zg T = 116 then 32 else 30); rw [gT]; rfl
      · rw [G4, q2]
theorem lay_111 {e s t e2 : zT} (oe : okE e) (oe2 : okE e2) (os : okS s 0) (ot : okS t 0) (hs : LayL s) (ht : LayL t) : LayS (zB 111 e (zB 117 s (zB 118 t e2))) := by
  intro h d r b P S u Q hr hS hK hb h40 hd kk
  have hd' : 4 * (1 + max (zbr s) (zbr t)) + 6 ≤ d := hd
  have hzc : zc (zB 111 e (zB 117 s (zB 118 t e2))) = 3 + (zc s + zc t) := rfl
  rw [hzc] at h40 kk
  rw [zi_fk (Or.inr ⟨rfl, rfl, rfl⟩)] at kk
  have ezk : zk (zB 111 e (zB 117 s (zB 118 t e2))) = (5, 11) :: (zk e ++ (7, 123) :: (zk s ++ (7, 125) :: (5, 12) :: (7, 123) :: (zk t ++ (7, 125) :: (5, 13) :: (zk e2 ++ [(7, 59)])))) := rfl
  have lzk : (zk (zB 111 e (zB 117 s (zB 118 t e2)))).length = (zk e).length + (zk s).length + (zk t).length + 8 + (zk e2).length := by rw [ezk]; simp; omega
  have zmT : zm (zB 111 e (zB 117 s (zB 118 t e2))) b = b + 1 + zc s := rfl
  have zeT : ze (zB 111 e (zB 117 s (zB 118 t e2))) b = b + 2 + zc s + zc t := by unfold ze; rw [hzc]; omega
  have lzs := (zi_len s).1 os
  have lzt := (zi_len t).1 ot
  generalize eT : zB 111 e (zB 117 s (zB 118 t e2)) = T at hK kk ezk lzk zmT zeT
  have gT : zg T = 111 := by rw [← eT]; rfl
  have lzT : ∀ n, lz (n, T, b, P.length) = (P.length : Int) + ((zk e).length + (zk s).length + (zk t).length + 7 : Nat) := by
    intro n; rw [← eT]; rfl
  rw [ezk] at hK
  have hl := hK.1
  have hlen : (P ++ ((5, 11) :: (zk e ++ (7, 123) :: (zk s ++ (7, 125) :: (5, 12) :: (7, 123) :: (zk t ++ (7, 125) :: (5, 13) :: (zk e2 ++ [(7, 59)])))) ++ S)).length = P.length + (zk T).length + S.length := by rw [lzk]; simp; omega
  have e5 := hK.2.2 P.length (5, 11) (by simp)
  obtain ⟨d, rfl⟩ : ∃ e, d = e + 3 := ⟨d - 3, by omega⟩
  refine se_X4_layStep hS ?_
  rw [ix hr (by omega), Int.toNat_natCast, e5.1, e5.2]
  have ek : (((5, 11) : Nat × Nat).2 : Int) = 11 := rfl
  rw [ek]
  refine ⟨by omega, ip rfl ⟨by omega, im (by decide) (ip rfl ?_)⟩⟩
  refine ss_X4_layStep_91 hS ?_
  rw [na_eq (by omega) (by omega)]
  refine c_adds2 hS hr hb (by omega) fun h1 F1 n1 f1 f2 f3 => ?_
  have S1 := Fm_St F1 hS
  refine ss_X4_layStep_101 S1 ?_
  have K1 := Fm_RK F1 hK
  refine c_find (sg := 123) (A := (5, 11) :: zk e) (B := zk s ++ (7, 125) :: (5, 12) :: (7, 123) :: (zk t ++ (7, 125) :: (5, 13) :: (zk e2 ++ [(7, 59)])) ++ S) S1 hr K1 (by simp) rfl (Sk_c (by decide) (by decide) (by decide) (Sk_nB (zkE_nB e 0 oe.1)).2.1) ?_
  refine ss_X4_layStep_111 S1 ?_
  rw [na_eq (by simp; omega) (by simp; omega)]
  refine se_X4_laySteps S1 ?_
  have l1 : (P ++ (5, 11) :: (zk e ++ [(7, 123)])).length = P.length + (zk e).length + 2 := by simp; omega
  have K1' : RK h1 r ((P ++ (5, 11) :: (zk e ++ [(7, 123)])) ++ (zk s ++ ((7, 125) :: (5, 12) :: (7, 123) :: (zk t ++ (7, 125) :: (5, 13) :: (zk e2 ++ [(7, 59)])) ++ S))) := by
    have ee : (P ++ (5, 11) :: (zk e ++ [(7, 123)])) ++ (zk s ++ ((7, 125) :: (5, 12) :: (7, 123) :: (zk t ++ (7, 125) :: (5, 13) :: (zk e2 ++ [(7, 59)])) ++ S)) = P ++ ((5, 11) :: (zk e ++ (7, 123) :: (zk s ++ (7, 125) :: (5, 12) :: (7, 123) :: (zk t ++ (7, 125) :: (5, 13) :: (zk e2 ++ [(7, 59)])))) ++ S) := by simp
    rw [ee]; exact K1
  have a1 : (((P.length + ((5, 11) :: zk e).length : Nat) : Int) + 1) = (((P ++ (5, 11) :: (zk e ++ [(7, 123)])).length : Nat) : Int) := by rw [l1]; simp; omega
  rw [a1]
  refine hs h1 (d + 1) r (b + 1) _ _ (T, b, P.length) _ _ hr S1 K1' (Or.inr ⟨_, rfl⟩) n1 (by omega) (by omega) ?_
  intro h2 F2 n2 E2
  have S2 := Fm_St F2 S1
  have F12 : Fm h h2 r b (3 + (zc s + zc t)) := Fm_trans (Fm_mono F1 (Nat.le_refl _) (by omega)) F2 (by omega) (by omega)
  have K2 := Fm_RK F12 hK
  refine ss_X4_layStep_122 S2 ?_
  refine im (by omega) (ip (by omega) ?_)
  refine ss_X4_layStep_150 S2 ?_
  rw [na_eq (by omega) (by omega)]
  refine c_adds2 (i := b + 1 + zc s) S2 hr n2 (by omega) fun h3 F3 n3 g1 g2 g3 => ?_
  have S3 := Fm_St F3 S2
  have F13 : Fm h h3 r b (3 + (zc s + zc t)) := Fm_trans F12 F3 (by omega) (by omega)
  have K3 := Fm_RK F13 hK
  refine ss_X4_layStep_157 S3 ?_
  rw [l1, na_eq (by omega) (by omega)]
  refine se_X4_laySteps S3 ?_
  have l3 : (P ++ (5, 11) :: (zk e ++ (7, 123) :: (zk s ++ [(7, 125), (5, 12), (7, 123)]))).length = P.length + (zk e).length + (zk s).length + 5 := by simp; omega
  have K3' : RK h3 r ((P ++ (5, 11) :: (zk e ++ (7, 123) :: (zk s ++ [(7, 125), (5, 12), (7, 123)]))) ++ (zk t ++ ((7, 125) :: (5, 13) :: (zk e2 ++ [(7, 59)]) ++ S))) := by
    have ee : (P ++ (5, 11) :: (zk e ++ (7, 123) :: (zk s ++ [(7, 125), (5, 12), (7, 123)]))) ++ (zk t ++ ((7, 125) :: (5, 13) :: (zk e2 ++ [(7, 59)]) ++ S)) = P ++ ((5, 11) :: (zk e ++ (7, 123) :: (zk s ++ (7, 125) :: (5, 12) :: (7, 123) :: (zk t ++ (7, 125) :: (5, 13) :: (zk e2 ++ [(7, 59)])))) ++ S) := by simp
    rw [ee]; exact K3
  have a3 : (((P.length + (zk e).length + 2 + (zk s).length : Nat) : Int) + 3) = (((P ++ (5, 11) :: (zk e ++ (7, 123) :: (zk s ++ [(7, 125), (5, 12), (7, 123)]))).length : Nat) : Int) := by rw [l3]; omega
  rw [a3]
  refine ht h3 (d + 1) r (b + 1 + zc s + 1) _ _ (T, b, P.length) _ _ hr S3 K3' (Or.inr ⟨_, rfl⟩) n3 (by omega) (by omega) ?_
  intro h4 F4 n4 E4
  have S4 := Fm_St F4 S3
  have E4' : MEs h4 r (b + 1 + zc s + 1) (zi t (T, b, P.length) (b + 1 + zc s + 1) (P.length + (zk e).length + 1 + (zk s).length + 3 + 1)) := by
    rw [l3, show P.length + (zk e).length + (zk s).length + 5 = P.length + (zk e).length + 1 + (zk s).length + 3 + 1 by omega] at E4
    exact E4
  have F14 : Fm h h4 r b (3 + (zc s + zc t)) := Fm_trans F13 F4 (by omega) (by omega)
  refine ss_X4_layStep_168 S4 ?_
  refine im (by omega) (ip (by omega) ?_)
  refine ss_X4_layStep_196 S4 ?_
  rw [na_eq (by omega) (by omega)]
  refine c_adds2 (i := b + 1 + zc s + 1 + zc t) S4 hr n4 (by omega) fun h5 F5 n5 q1 q2 q3 => ?_
  have S5 := Fm_St F5 S4
  have F15 : Fm h h5 r b (3 + (zc s + zc t)) := Fm_trans F14 F5 (by omega) (by omega)
  refine ss_X4_layStep_203 S5 ?_
  rw [l3]
  refine im (by omega) ?_
  rw [na_eq (by omega) (by omega), na_eq (by omega) (by omega)]
  refine ss_X4_layStep_232 S5 ?_
  refine c_joins2 (i := b) (j := b + 1 + zc s) (k := b + 1 + zc s + 1 + zc t) S5 hr (by omega) (by omega) fun h6 G1 G2 G3 G4 G5 G6 => ?_
  have S6 := FI_St G1 S5 rfl
  have F16 : Fm h h6 r b (3 + (zc s + zc t)) := ⟨FI_trans F15.1 G1, fun j hj => (G2 j).trans (F15.2.1 j hj), fun x hx => sx_trans (F15.2.2 x hx) (G5 x (by omega) (by omega) (by omega))⟩
  have K6 := Fm_RK F16 hK
  refine ss_X4_layStep_235 S6 ?_
  rw [na_eq (by omega) (by omega)]
  have l6 : (P ++ (5, 11) :: (zk e ++ (7, 123) :: (zk s ++ (7, 125) :: (5, 12) :: (7, 123) :: (zk t ++ [(7, 125)])))).length = P.length + (zk e).length + (zk s).length + (zk t).length + 6 := by simp; omega
  refine c_find (sg := 59) (f := P.length + (zk e).length + (zk s).length + 5 + (zk t).length + 1) (P := P ++ (5, 11) :: (zk e ++ (7, 123) :: (zk s ++ (7, 125) :: (5, 12) :: (7, 123) :: (zk t ++ [(7, 125)])))) (A := (5, 13) :: zk e2) (B := S) S6 hr K6 (by simp) (by rw [l6]; omega) (Sk_c (by decide) (by decide) (by decide) (Sk_nB (zkE_nB e2 0 oe2.1)).1) ?_
  refine ss_X4_layStep_246 S6 ?_
  rw [na_eq (by simp; omega) (by simp; omega)]
  have x1 : sx h1 h5 (40 * r + b) := sx_trans (F2.2.2 _ (by omega)) (sx_trans (F3.2.2 _ (by omega)) (sx_trans (F4.2.2 _ (by omega)) (F5.2.2 _ (by omega))))
  have x3 : sx h3 h5 (40 * r + (b + 1 + zc s)) := sx_trans (F4.2.2 _ (by omega)) (F5.2.2 _ (by omega))
  have j1 := G6 (40 * r + b) (by omega)
  have j2 := G6 (40 * r + (b + 1 + zc s)) (by omega)
  have j3 := G6 (40 * r + (b + 1 + zc s + 1 + zc t)) (by omega)
  have me : ∀ n x, n ≠ 0 → hI h6 127 (40 * r + x) = dz (n, T, b, P.length) → hI h6 128 (40 * r + x) = (P.length : Nat) → (x = b ∨ x = b + 1 + zc s ∨ x = b + 1 + zc s + 1 + zc t) → ME h6 r x (n, T, b, P.length) := by
    intro n x hn y1 y2 hx
    have j := G6 (40 * r + x) (by omega)
    refine ⟨y1, ?_, ?_, fun _ => ⟨?_, j.2.2.1, ?_, ?_⟩⟩
    · rw [y2]; unfold oz; rw [if_neg (fun z => hn z.1)]
    · rw [j.1]; unfold ez; rw [if_neg hn]
    · rw [j.2.1, lzT]; omega
    · rw [j.2.2.2.1]; show _ = ((zm T b : Nat) : Int); rw [zmT]
    · rw [j.2.2.2.2]; show _ = ((ze T b : Nat) : Int); rw [zeT]; omega
  have q := kk h6 F16 ?_ (MEs_cons (me 1 b (by decide) ?_ ?_ (Or.inl rfl)) (MEs_app (MEs_eq (fun i hi => ?_) (l1 ▸ E2)) ?_))
  · have el : P.length + (zk e).length + (zk s).length + 5 + (zk t).length + 1 + ((5, 13) :: zk e2 : List (Nat × Nat)).length + 1 = P.length + (zk T).length := by rw [lzk]; simp; omega
    rw [← el] at q
    exact q
  · rw [G2, n5]; congr 1; omega
  · rw [G3, x1 127 (by decide) (by decide), f1]; unfold dz; rw [if_neg (show (1 : Nat) ≠ 0 by decide), if_pos (show (1 : Nat) = 1 from rfl)]; show _ = (zg T : Int) - 100; rw [gT]; rfl
  · rw [G4, x1 128 (by decide) (by decide), f2]
  · rw [lzs] at hi
    exact sx_trans (F3.2.2 _ (by omega)) (sx_trans (F4.2.2 _ (by omega)) (sx_trans (F5.2.2 _ (by omega)) (G5 _ (by omega) (by omega) (by omega))))
  · rw [lzs]
    refine MEs_cons (me 2 (b + 1 + zc s) (by decide) ?_ ?_ (Or.inr (Or.inl rfl))) (MEs_app (MEs_eq (fun i hi => ?_) E4') ?_)
    · rw [G3, x3 127 (by decide) (by decide), g1]; unfold dz; rw [if_neg (show (2 : Nat) ≠ 0 by decide), if_neg (show (2 : Nat) ≠ 1 by decide), if_pos (show (2 : Nat) = 2 from rfl)]; show _ = (if zg T = 108 then (9 : Int) else if zg T = 111 then 13 else 31); rw [gT]; rfl
    · rw [G4, x3 128 (by decide) (by decide), g2]
    · rw [lzt] at hi
      exact sx_trans (F5.2.2 _ (by omega)) (G5 _ (by omega) (by omega) (by omega))
    · rw [lzt]
      refine MEs_cons (me 3 (b + 1 + zc s + 1 + zc t) (by decide) ?_ ?_ (Or.inr (Or.inr rfl))) MEs_nil
      · rw [G3, q1]; unfold dz; rw [if_neg (show (3 : Nat) ≠ 0 by decide), if_neg (show (3 : Nat) ≠ 1 by decide), if_neg (show (3 : Nat) ≠ 2 by decide)]; show _ = (if zg T = 108 then (10 : Int) else if zg T = 111 then 12 else if zg T = 116 then 32 else 30); rw [gT]; rfl
      · rw [G4, q2]
theorem lay_116 {e s t : zT} (oe : okE e) (os : okS s 0) (ot : okS t 0) (hs : LayL s) (ht : LayL t) : LayS (zB 116 e (zB 119 s t)) := by
  intro h d r b P S u Q hr hS hK hb h40 hd kk
  have hd' : 4 * (1 + max (zbr s) (zbr t)) + 6 ≤ d := hd
  have hzc : zc (zB 116 e (zB 119 s t)) = 3 + (zc s + zc t) := rfl
  rw [hzc] at h40 kk
  rw [zi_wn] at kk
  have ezk : zk (zB 116 e (zB 119 s t)) = (5, 16) :: (zk e ++ (7, 123) :: (zk s ++ (7, 125) :: (5, 9) :: (7, 123) :: (zk t ++ [(7, 125), (7, 59)]))) := rfl
  have lzk : (zk (zB 116 e (zB 119 s t))).length = (zk e).length + (zk s).length + (zk t).length + 7 := by rw [ezk]; simp; omega
  have zmT : zm (zB 116 e (zB 119 s t)) b = b + 1 + zc s := rfl
  have zeT : ze (zB 116 e (zB 119 s t)) b = b + 2 + zc s + zc t := by unfold ze; rw [hzc]; omega
  have lzs := (zi_len s).1 os
  have lzt := (zi_len t).1 ot
  generalize eT : zB 116 e (zB 119 s t) = T at hK kk ezk lzk zmT zeT
  have gT : zg T = 116 := by rw [← eT]; rfl
  have lzT : ∀ n, lz (n, T, b, P.length) = (P.length : Int) + 1 := by
    intro n; rw [← eT]; rfl
  rw [ezk] at hK
  have hl := hK.1
  have hlen : (P ++ ((5, 16) :: (zk e ++ (7, 123) :: (zk s ++ (7, 125) :: (5, 9) :: (7, 123) :: (zk t ++ [(7, 125), (7, 59)]))) ++ S)).length = P.length + (zk T).length + S.length := by rw [lzk]; simp; omega
  have e5 := hK.2.2 P.length (5, 16) (by simp)
  obtain ⟨d, rfl⟩ : ∃ e, d = e + 3 := ⟨d - 3, by omega⟩
  refine se_X4_layStep hS ?_
  rw [ix hr (by omega), Int.toNat_natCast, e5.1, e5.2]
  have ek : (((5, 16) : Nat × Nat).2 : Int) = 16 := rfl
  rw [ek]
  refine ⟨by omega, ip rfl ⟨by omega, im (by decide) (im (by decide) (ip rfl ?_))⟩⟩
  refine ss_X4_layStep_91 hS ?_
  rw [na_eq (by omega) (by omega)]
  refine c_adds2 hS hr hb (by omega) fun h1 F1 n1 f1 f2 f3 => ?_
  have S1 := Fm_St F1 hS
  refine ss_X4_layStep_101 S1 ?_
  have K1 := Fm_RK F1 hK
  refine c_find (sg := 123) (A := (5, 16) :: zk e) (B := zk s ++ (7, 125) :: (5, 9) :: (7, 123) :: (zk t ++ [(7, 125), (7, 59)]) ++ S) S1 hr K1 (by simp) rfl (Sk_c (by decide) (by decide) (by decide) (Sk_nB (zkE_nB e 0 oe.1)).2.1) ?_
  refine ss_X4_layStep_111 S1 ?_
  rw [na_eq (by simp; omega) (by simp; omega)]
  refine se_X4_laySteps S1 ?_
  have l1 : (P ++ (5, 16) :: (zk e ++ [(7, 123)])).length = P.length + (zk e).length + 2 := by simp; omega
  have K1' : RK h1 r ((P ++ (5, 16) :: (zk e ++ [(7, 123)])) ++ (zk s ++ ((7, 125) :: (5, 9) :: (7, 123) :: (zk t ++ [(7, 125), (7, 59)]) ++ S))) := by
    have ee : (P ++ (5, 16) :: (zk e ++ [(7, 123)])) ++ (zk s ++ ((7, 125) :: (5, 9) :: (7, 123) :: (zk t ++ [(7, 125), (7, 59)]) ++ S)) = P ++ ((5, 16) :: (zk e ++ (7, 123) :: (zk s ++ (7, 125) :: (5, 9) :: (7, 123) :: (zk t ++ [(7, 125), (7, 59)]))) ++ S) := by simp
    rw [ee]; exact K1
  have a1 : (((P.length + ((5, 16) :: zk e).length : Nat) : Int) + 1) = (((P ++ (5, 16) :: (zk e ++ [(7, 123)])).length : Nat) : Int) := by rw [l1]; simp; omega
  rw [a1]
  refine hs h1 (d + 1) r (b + 1) _ _ (T, b, P.length) _ _ hr S1 K1' (Or.inr ⟨_, rfl⟩) n1 (by omega) (by omega) ?_
  intro h2 F2 n2 E2
  have S2 := Fm_St F2 S1
  have F12 : Fm h h2 r b (3 + (zc s + zc t)) := Fm_trans (Fm_mono F1 (Nat.le_refl _) (by omega)) F2 (by omega) (by omega)
  have K2 := Fm_RK F12 hK
  refine ss_X4_layStep_122 S2 ?_
  refine im (by omega) (im (by omega) ?_)
  refine ss_X4_layStep_150 S2 ?_
  rw [na_eq (by omega) (by omega)]
  refine c_adds2 (i := b + 1 + zc s) S2 hr n2 (by omega) fun h3 F3 n3 g1 g2 g3 => ?_
  have S3 := Fm_St F3 S2
  have F13 : Fm h h3 r b (3 + (zc s + zc t)) := Fm_trans F12 F3 (by omega) (by omega)
  have K3 := Fm_RK F13 hK
  refine ss_X4_layStep_157 S3 ?_
  rw [l1, na_eq (by omega) (by omega)]
  refine se_X4_laySteps S3 ?_
  have l3 : (P ++ (5, 16) :: (zk e ++ (7, 123) :: (zk s ++ [(7, 125), (5, 9), (7, 123)]))).length = P.length + (zk e).length + (zk s).length + 5 := by simp; omega
  have K3' : RK h3 r ((P ++ (5, 16) :: (zk e ++ (7, 123) :: (zk s ++ [(7, 125), (5, 9), (7, 123)]))) ++ (zk t ++ ([(7, 125), (7, 59)] ++ S))) := by
    have ee : (P ++ (5, 16) :: (zk e ++ (7, 123) :: (zk s ++ [(7, 125), (5, 9), (7, 123)]))) ++ (zk t ++ ([(7, 125), (7, 59)] ++ S)) = P ++ ((5, 16) :: (zk e ++ (7, 123) :: (zk s ++ (7, 125) :: (5, 9) :: (7, 123) :: (zk t ++ [(7, 125), (7, 59)]))) ++ S) := by simp
    rw [ee]; exact K3
  have a3 : (((P.length + (zk e).length + 2 + (zk s).length : Nat) : Int) + 3) = (((P ++ (5, 16) :: (zk e ++ (7, 123) :: (zk s ++ [(7, 125), (5, 9), (7, 123)]))).length : Nat) : Int) := by rw [l3]; omega
  rw [a3]
  refine ht h3 (d + 1) r (b + 1 + zc s + 1) _ _ (T, b, P.length) _ _ hr S3 K3' (Or.inr ⟨_, rfl⟩) n3 (by omega) (by omega) ?_
  intro h4 F4 n4 E4
  have S4 := Fm_St F4 S3
  have E4' : MEs h4 r (b + 1 + zc s + 1) (zi t (T, b, P.length) (b + 1 + zc s + 1) (P.length + (zk e).length + 1 + (zk s).length + 4)) := by
    rw [l3, show P.length + (zk e).length + (zk s).length + 5 = P.length + (zk e).length + 1 + (zk s).length + 4 by omega] at E4
    exact E4
  have F14 : Fm h h4 r b (3 + (zc s + zc t)) := Fm_trans F13 F4 (by omega) (by omega)
  refine ss_X4_layStep_168 S4 ?_
  refine im (by omega) (im (by omega) ?_)
  refine ss_X4_layStep_196 S4 ?_
  rw [na_eq (by omega) (by omega)]
  refine c_adds2 (i := b + 1 + zc s + 1 + zc t) S4 hr n4 (by omega) fun h5 F5 n5 q1 q2 q3 => ?_
  have S5 := Fm_St F5 S4
  have F15 : Fm h h5 r b (3 + (zc s + zc t)) := Fm_trans F14 F5 (by omega) (by omega)
  refine ss_X4_layStep_203 S5 ?_
  rw [l3]
  refine ip (by omega) ?_
  rw [na_eq (by omega) (by omega)]
  refine ss_X4_layStep_232 S5 ?_
  refine c_joins2 (i := b) (j := b + 1 + zc s) (k := b + 1 + zc s + 1 + zc t) S5 hr (by omega) (by omega) fun h6 G1 G2 G3 G4 G5 G6 => ?_
  have S6 := FI_St G1 S5 rfl
  have F16 : Fm h h6 r b (3 + (zc s + zc t)) := ⟨FI_trans F15.1 G1, fun j hj => (G2 j).trans (F15.2.1 j hj), fun x hx => sx_trans (F15.2.2 x hx) (G5 x (by omega) (by omega) (by omega))⟩
  have K6 := Fm_RK F16 hK
  refine ss_X4_layStep_235 S6 ?_
  rw [na_eq (by omega) (by omega)]
  have l6 : (P ++ (5, 16) :: (zk e ++ (7, 123) :: (zk s ++ (7, 125) :: (5, 9) :: (7, 123) :: (zk t ++ [(7, 125)])))).length = P.length + (zk e).length + (zk s).length + (zk t).length + 6 := by simp; omega
  refine c_find (sg := 59) (f := P.length + (zk e).length + (zk s).length + 5 + (zk t).length + 1) (P := P ++ (5, 16) :: (zk e ++ (7, 123) :: (zk s ++ (7, 125) :: (5, 9) :: (7, 123) :: (zk t ++ [(7, 125)])))) (A := []) (B := S) S6 hr K6 (by simp) (by rw [l6]; omega) Sk_0 ?_
  refine ss_X4_layStep_246 S6 ?_
  rw [na_eq (by simp; omega) (by simp; omega)]
  have x1 : sx h1 h5 (40 * r + b) := sx_trans (F2.2.2 _ (by omega)) (sx_trans (F3.2.2 _ (by omega)) (sx_trans (F4.2.2 _ (by omega)) (F5.2.2 _ (by omega))))
  have x3 : sx h3 h5 (40 * r + (b + 1 + zc s)) := sx_trans (F4.2.2 _ (by omega)) (F5.2.2 _ (by omega))
  have j1 := G6 (40 * r + b) (by omega)
  have j2 := G6 (40 * r + (b + 1 + zc s)) (by omega)
  have j3 := G6 (40 * r + (b + 1 + zc s + 1 + zc t)) (by omega)
  have me : ∀ n x, n ≠ 0 → hI h6 127 (40 * r + x) = dz (n, T, b, P.length) → hI h6 128 (40 * r + x) = (P.length : Nat) → (x = b ∨ x = b + 1 + zc s ∨ x = b + 1 + zc s + 1 + zc t) → ME h6 r x (n, T, b, P.length) := by
    intro n x hn y1 y2 hx
    have j := G6 (40 * r + x) (by omega)
    refine ⟨y1, ?_, ?_, fun _ => ⟨?_, j.2.2.1, ?_, ?_⟩⟩
    · rw [y2]; unfold oz; rw [if_neg (fun z => hn z.1)]
    · rw [j.1]; unfold ez; rw [if_neg hn]
    · rw [j.2.1, lzT]
    · rw [j.2.2.2.1]; show _ = ((zm T b : Nat) : Int); rw [zmT]
    · rw [j.2.2.2.2]; show _ = ((ze T b : Nat) : Int); rw [zeT]; omega
  have q := kk h6 F16 ?_ (MEs_cons (me 1 b (by decide) ?_ ?_ (Or.inl rfl)) (MEs_app (MEs_eq (fun i hi => ?_) (l1 ▸ E2)) ?_))
  · have el : P.length + (zk e).length + (zk s).length + 5 + (zk t).length + 1 + ([] : List (Nat × Nat)).length + 1 = P.length + (zk T).length := by rw [lzk]; simp; omega
    rw [← el] at q
    exact q
  · rw [G2, n5]; congr 1; omega
  · rw [G3, x1 127 (by decide) (by decide), f1]; unfold dz; rw [if_neg (show (1 : Nat) ≠ 0 by decide), if_pos (show (1 : Nat) = 1 from rfl)]; show _ = (zg T : Int) - 100; rw [gT]; rfl
  · rw [G4, x1 128 (by decide) (by decide), f2]
  · rw [lzs] at hi
    exact sx_trans (F3.2.2 _ (by omega)) (sx_trans (F4.2.2 _ (by omega)) (sx_trans (F5.2.2 _ (by omega)) (G5 _ (by omega) (by omega) (by omega))))
  · rw [lzs]
    refine MEs_cons (me 2 (b + 1 + zc s) (by decide) ?_ ?_ (Or.inr (Or.inl rfl))) (MEs_app (MEs_eq (fun i hi => ?_) E4') ?_)
    · rw [G3, x3 127 (by decide) (by decide), g1]; unfold dz; rw [if_neg (show (2 : Nat) ≠ 0 by decide), if_neg (show (2 : Nat) ≠ 1 by decide), if_pos (show (2 : Nat) = 2 from rfl)]; show _ = (if zg T = 108 then (9 : Int) else if zg T = 111 then 13 else 31); rw [gT]; rfl
    · rw [G4, x3 128 (by decide) (by decide), g2]
    · rw [lzt] at hi
      exact sx_trans (F5.2.2 _ (by omega)) (G5 _ (by omega) (by omega) (by omega))
    · rw [lzt]
      refine MEs_cons (me 3 (b + 1 + zc s + 1 + zc t) (by decide) ?_ ?_ (Or.inr (Or.inr rfl))) MEs_nil
      · rw [G3, q1]; unfold dz; rw [if_neg (show (3 : Nat) ≠ 0 by decide), if_neg (show (3 : Nat) ≠ 1 by decide), if_neg (show (3 : Nat) ≠ 2 by decide)]; show _ = (if zg T = 108 then (10 : Int) else if zg T = 111 then 12 else if zg T = 116 then 32 else 30); rw [gT]; rfl
      · rw [G4, q2]
