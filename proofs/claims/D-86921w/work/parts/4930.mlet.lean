/-! m: let, unlet, push, pop -/
theorem su_comm {σ : zS} {f k g j : Nat} {v w : Int} (h : f ≠ g) : su (su σ f k v) g j w = su (su σ g j w) f k v := by
  funext a b
  unfold su
  by_cases q : a = g ∧ b = j
  · rw [if_pos q]
    by_cases p : a = f ∧ b = k
    · exact absurd (p.1.symm.trans q.1) h
    · rw [if_neg p, if_pos q]
  · rw [if_neg q, if_neg q]
theorem MV_v {h : hp} {σ : zS} {k : Nat} {v : Int} (z : MV h σ) : MV (sI h 134 k v) (su σ 1 k v) := by
  obtain ⟨⟨th, a1, a2, a3⟩, c1, c2, c3, c4, c5, c6⟩ := z
  refine ⟨⟨th, a1, by rw [hI_sI, if_neg (by omega)]; exact a2, a3⟩, fun j hj q => ?_, fun j hj => ?_, fun id hi => ?_, c4, fun s hs => ?_, fun j hj => ?_⟩
  · rw [su_f (by decide)] at q
    rw [hI_sI]
    by_cases e : j = k
    · subst e; rw [if_pos ⟨rfl, rfl⟩, su_at]
    · rw [if_neg (fun y => e y.2), su_k e]; exact c1 j hj q
  · rw [hI_sI, if_neg (by omega)]; exact c2 j hj
  · rw [hI_sI, if_neg (by omega), hI_sI, if_neg (by omega)]; exact c3 id hi
  · rw [hI_sI, if_neg (by omega)]; exact c5 s hs
  · rw [hI_sI, if_neg (by omega)]; exact c6 j hj
theorem MV_h {h : hp} {σ : zS} {k : Nat} {v : Int} (z : MV h σ) : MV (sI h 139 k v) (su σ 6 k v) := by
  obtain ⟨⟨th, a1, a2, a3⟩, c1, c2, c3, c4, c5, c6⟩ := z
  refine ⟨⟨th, a1, by rw [hI_sI, if_neg (by omega)]; exact a2, a3⟩, fun j hj q => ?_, fun j hj => ?_, fun id hi => ?_, c4, fun s hs => ?_, fun j hj => ?_⟩
  · rw [hI_sI, if_neg (by omega)]; exact c1 j hj q
  · rw [hI_sI, if_neg (by omega)]; exact c2 j hj
  · rw [hI_sI, if_neg (by omega), hI_sI, if_neg (by omega)]; exact c3 id hi
  · rw [hI_sI]
    by_cases e : s = k
    · subst e; rw [if_pos ⟨rfl, rfl⟩, su_at]
    · rw [if_neg (fun y => e y.2), su_k e]; exact c5 s hs
  · rw [hI_sI, if_neg (by omega)]; exact c6 j hj
theorem MV_p {h : hp} {σ : zS} {k : Nat} {v : Int} (z : MV h σ) : MV (sI h 140 k v) (su σ 7 k v) := by
  obtain ⟨⟨th, a1, a2, a3⟩, c1, c2, c3, c4, c5, c6⟩ := z
  refine ⟨⟨th, a1, by rw [hI_sI, if_neg (by omega)]; exact a2, a3⟩, fun j hj q => ?_, fun j hj => ?_, fun id hi => ?_, c4, fun s hs => ?_, fun j hj => ?_⟩
  · rw [hI_sI, if_neg (by omega)]; exact c1 j hj q
  · rw [hI_sI, if_neg (by omega)]; exact c2 j hj
  · rw [hI_sI, if_neg (by omega), hI_sI, if_neg (by omega)]; exact c3 id hi
  · rw [hI_sI, if_neg (by omega)]; exact c5 s hs
  · rw [hI_sI]
    by_cases e : j = k
    · subst e; rw [if_pos ⟨rfl, rfl⟩, su_at]
    · rw [if_neg (fun y => e y.2), su_k e]; exact c6 j hj
theorem MV_row {h : hp} {σ : zS} {k : Nat} {v : Int} (hv : -1 ≤ v ∧ v < 14) (z : MV h σ) : MV (sI h 135 k v) (su σ 2 k v) := by
  obtain ⟨⟨th, a1, a2, a3⟩, c1, c2, c3, c4, c5, c6⟩ := z
  refine ⟨⟨th, a1, by rw [hI_sI, if_neg (by omega)]; exact a2, a3⟩, fun j hj q => ?_, fun j hj => ?_, fun id hi => ?_, c4, fun s hs => ?_, fun j hj => ?_⟩
  · rw [hI_sI, if_neg (by omega)]; exact c1 j hj q
  · rw [hI_sI]
    by_cases e : j = k
    · subst e; rw [if_pos ⟨rfl, rfl⟩, su_at]; exact ⟨rfl, hv⟩
    · rw [if_neg (fun y => e y.2), su_k e]; exact c2 j hj
  · rw [hI_sI, if_neg (by omega), hI_sI, if_neg (by omega)]; exact c3 id hi
  · rw [hI_sI, if_neg (by omega)]; exact c5 s hs
  · rw [hI_sI, if_neg (by omega)]; exact c6 j hj
/-- a name comes, or goes -/
theorem MV_nv {h : hp} {σ : zS} {x th : Nat} {t : Bool} {v w : Int} (z : MV h σ) (hth : th < 2 ^ 26) (hb : ∀ k, k < 26 → bI (th.testBit k) = (if k = x then bI t else σ 0 k)) (vw : t = true → w = v) : MV (sI (sI h 116 35 (th : Nat)) 134 x w) (su (su σ 0 x (bI t)) 1 x v) := by
  obtain ⟨-, c1, c2, c3, c4, c5, c6⟩ := z
  refine ⟨⟨th, hth, by rw [hI_sI, if_neg (by omega), hI_sI, if_pos ⟨rfl, rfl⟩], fun k hk => ?_⟩, fun j hj q => ?_, fun j hj => ?_, fun id hi => ?_, c4, fun s hs => ?_, fun j hj => ?_⟩
  · rw [su_f (by decide), hb k hk]
    by_cases e : k = x
    · subst e; rw [if_pos rfl, su_at]
    · rw [if_neg e, su_k e]
  · rw [su_f (by decide)] at q
    rw [hI_sI]
    by_cases e : j = x
    · subst e
      rw [su_at] at q
      rw [if_pos ⟨rfl, rfl⟩, su_at]
      exact vw (by cases t with | true => rfl | false => exact absurd q (by decide))
    · rw [su_k e] at q
      rw [if_neg (fun y => e y.2), su_k e, hI_sI, if_neg (by omega), su_f (by decide)]; exact c1 j hj q
  · rw [hI_sI, if_neg (by omega), hI_sI, if_neg (by omega)]; exact c2 j hj
  · rw [hI_sI, if_neg (by omega), hI_sI, if_neg (by omega), hI_sI, if_neg (by omega), hI_sI, if_neg (by omega)]; exact c3 id hi
  · rw [hI_sI, if_neg (by omega), hI_sI, if_neg (by omega)]; exact c5 s hs
  · rw [hI_sI, if_neg (by omega), hI_sI, if_neg (by omega)]; exact c6 j hj
theorem MV_bit {h : hp} {σ : zS} {x : Nat} (z : MV h σ) (hx : x < 26) : n_and (n_shr (hI h 116 35) (x : Nat)) 1 = σ 0 x := by
  obtain ⟨⟨th, a1, a2, a3⟩, -⟩ := z
  rw [a2, bit_at (by omega) (by omega), a3 x hx]
theorem m_let {d r i x q n : Nat} {Q : qt} {h : hp} {σ : zS} {e : zT} {P S : List (Nat × Nat)} (hS : St h) (hr : r < 10) (hi : i < 400) (hK : RK h r (P ++ (zk e ++ S))) (hn : nxt zsp S) (hV : MV h σ) (hZ : Mz h) (hx : x < 26) (hq : hI h 128 i = (q : Nat)) (tq : (P ++ (zk e ++ S))[q]? = some (1, x)) (hE : hI h 129 i = (n : Nat)) (hP : n = P.length) (oe : okE e) (k : DmQ h σ (sLet σ x e true) Q) : Wc (d + 51) 199 [vR (some 116), vI (r : Nat), vI (i : Nat)] h Q := by
  obtain ⟨t1, t2, t3, t4⟩ := tk_at hr hK tq
  refine se_X4_doLet hS ?_
  rw [Int.toNat_natCast, hq, t1, Int.toNat_natCast, t3, MV_bit hV hx, hE]
  refine ⟨by omega, by omega, ?_⟩
  unfold sLet at k
  by_cases q1 : σ 0 x = bI true
  · rw [if_pos q1] at k
    exact ip q1 (k h (FMd_refl hS) hV)
  · rw [if_neg q1] at k
    refine im q1 ⟨by omega, ?_⟩
    refine c_rk hS hr hK hn hV hZ oe hP (fun w h' y hv w0 F V b fr => ?_) (fun v h' hv F V b fr => ?_)
    · rw [hv] at k
      refine ss_X4_doLet_44 (FMd_St F) (im (by rw [b]; omega) ?_)
      rw [b]
      exact k h' F V
    · rw [hv] at k
      dsimp only at k
      rw [if_neg (fun z => by cases z.1)] at k
      refine ss_X4_doLet_44 (FMd_St F) (ip b ⟨by show (0 : Int) ≤ ((x : Nat) : Int) ∧ ((x : Nat) : Int) < 26; omega, ?_⟩)
      have ex : ((((1, x) : Nat × Nat).2 : Nat) : Int).toNat = x := Int.toNat_natCast x
      rw [ex, shl1 x (by omega)]
      obtain ⟨⟨th, a1, a2, a3⟩, -⟩ := id V
      have p26 : 2 ^ x < 2 ^ 26 := Nat.pow_lt_pow_right (by decide) hx
      rw [a2, or_nat (by omega) (by omega), b]
      refine k _ (FMd_sI (FMd_sI F (by unfold pMd; omega)) (by unfold pMd; omega)) (MV_nv (t := true) V (Nat.or_lt_two_pow a1 p26) (fun j hj => ?_) (fun _ => rfl))
      rw [Nat.testBit_or, Nat.testBit_two_pow]
      by_cases ej : j = x
      · rw [if_pos ej, decide_eq_true ej.symm, Bool.or_true]
      · rw [if_neg ej, decide_eq_false (fun z => ej z.symm), Bool.or_false, a3 j hj]
theorem m_unlet {d r i x q n : Nat} {Q : qt} {h : hp} {σ : zS} {e : zT} {P S : List (Nat × Nat)} (hS : St h) (hr : r < 10) (hi : i < 400) (hK : RK h r (P ++ (zk e ++ S))) (hn : nxt zsp S) (hV : MV h σ) (hZ : Mz h) (hx : x < 26) (hq : hI h 128 i = (q : Nat)) (tq : (P ++ (zk e ++ S))[q]? = some (1, x)) (hE : hI h 129 i = (n : Nat)) (hP : n = P.length) (oe : okE e) (k : DmQ h σ (sLet σ x e false) Q) : Wc (d + 51) 200 [vR (some 116), vI (r : Nat), vI (i : Nat)] h Q := by
  obtain ⟨t1, t2, t3, t4⟩ := tk_at hr hK tq
  refine se_X4_doUnlet hS ?_
  rw [Int.toNat_natCast, hq, t1, Int.toNat_natCast, t3, MV_bit hV hx, hE]
  refine ⟨by omega, by omega, ?_⟩
  unfold sLet at k
  by_cases q1 : σ 0 x = bI false
  · rw [if_pos q1] at k
    exact ip q1 (k h (FMd_refl hS) hV)
  · rw [if_neg q1] at k
    refine im q1 ⟨by omega, ?_⟩
    refine c_rk hS hr hK hn hV hZ oe hP (fun w h' y hv w0 F V b fr => ?_) (fun v h' hv F V b fr => ?_)
    · rw [hv] at k
      refine ss_X4_doUnlet_42 (FMd_St F) (im (by rw [b]; omega) ?_)
      rw [b]
      exact k h' F V
    · rw [hv] at k
      dsimp only at k
      have x26 : (0 : Int) ≤ ((((1, x) : Nat × Nat).2 : Nat) : Int) ∧ ((((1, x) : Nat × Nat).2 : Nat) : Int) < 26 := by show (0 : Int) ≤ ((x : Nat) : Int) ∧ ((x : Nat) : Int) < 26; omega
      refine ss_X4_doUnlet_42 (FMd_St F) (ip b ⟨x26, ?_⟩)
      have ex : ((((1, x) : Nat × Nat).2 : Nat) : Int).toNat = x := Int.toNat_natCast x
      obtain ⟨⟨th, a1, a2, a3⟩, c1, -⟩ := id V
      have s1 : σ 0 x = 1 := by
        have := a3 x hx
        cases hb : th.testBit x with
        | true => rw [hb] at this; exact this
        | false => rw [hb] at this; exact absurd this q1
      rw [ex, c1 x hx s1]
      by_cases w : σ 1 x = l_l2i v
      · rw [if_neg (fun z => z.2 w)] at k
        refine ip w ⟨x26, ?_⟩
        obtain ⟨b', b1, b2, b3⟩ := and_not a1 hx
        rw [a2]
        have b2' : n_and ((th : Nat) : Int) (n_xor (n_shl 1 ((((1, x) : Nat × Nat).2 : Nat) : Int)) (-1)) = (b' : Nat) := b2
        rw [b2']
        refine k _ (FMd_sI (FMd_sI F (by unfold pMd; omega)) (by unfold pMd; omega)) (MV_nv (t := false) V b1 (fun j hj => ?_) (fun z => by cases z))
        rw [b3 j]
        by_cases ej : j = x
        · rw [if_pos ej, decide_eq_false (show ¬ (j ≠ x) from fun z => z ej), Bool.and_false]
        · rw [if_neg ej, decide_eq_true (show j ≠ x from ej), Bool.and_true, a3 j hj]
      · rw [if_pos ⟨rfl, w⟩] at k
        exact im w (k h' F V)
