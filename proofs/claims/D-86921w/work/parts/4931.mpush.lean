/-! m: push, pop, new, end -/
theorem ix1 {r q : Nat} (hr : r < 10) (hq : q < 1600) : n_add ((1600 * r + q : Nat) : Int) 1 = ((1600 * r + (q + 1) : Nat) : Int) := by rw [na_eq (by omega) (by omega)]; omega
theorem m_push {d r i x s q : Nat} {Q : qt} {h : hp} {σ : zS} {ts : List (Nat × Nat)} (hS : St h) (hr : r < 10) (hi : i < 400) (hK : RK h r ts) (hV : MV h σ) (h6 : 0 ≤ σ 6 s ∧ σ 6 s ≤ 30) (hx : x < 26) (hs : s < 4) (hq : hI h 128 i = (q : Nat)) (tq : ts[q]? = some (1, x)) (tq2 : ts[q + 1]? = some (4, s)) (k : DmQ h σ (sPush σ x s true) Q) : Wc (d + 1) 201 [vR (some 116), vI (r : Nat), vI (i : Nat)] h Q := by
  obtain ⟨t1, t2, t3, t4⟩ := tk_at hr hK tq
  obtain ⟨u1, u2, u3, u4⟩ := tk_at hr hK tq2
  have e1 := ix1 (r := r) (q := q) hr t4
  have t3' : hI h 125 (1600 * r + q) = ((x : Nat) : Int) := t3
  have u3' : hI h 125 (1600 * r + (q + 1)) = ((s : Nat) : Int) := u3
  obtain ⟨n, hn⟩ : ∃ n : Nat, σ 6 s = (n : Nat) := ⟨(σ 6 s).toNat, by omega⟩
  have m1 : n_mul 30 ((s : Nat) : Int) = ((30 * s : Nat) : Int) := by rw [nm_eq (by omega) (by omega)]; omega
  have m2 : n_add ((30 * s : Nat) : Int) ((n : Nat) : Int) = ((30 * s + n : Nat) : Int) := by rw [na_eq (by omega) (by omega)]; omega
  have v5 := hV.2.2.2.2.2.1 s hs
  refine se_X4_doPush hS ?_
  simp only [Int.toNat_natCast, hq, t1, t3', e1, u3', v5, hn, m1, m2]
  rw [MV_bit hV hx]
  clear t1 u1 e1 m1 m2
  unfold sPush at k
  rw [hn, Int.toNat_natCast] at k
  refine ⟨by omega, by omega, by omega, by omega, ?_⟩
  by_cases q0 : σ 0 x = 0
  · rw [if_pos q0] at k
    exact ip q0 (k h (FMd_refl hS) hV)
  · rw [if_neg q0, if_pos rfl] at k
    refine im q0 ⟨by omega, ?_⟩
    by_cases n30 : n = 30
    · rw [if_pos (by omega)] at k
      exact ip (by omega) (k h (FMd_refl hS) hV)
    · rw [if_neg (by omega)] at k
      refine im (by omega) ⟨by omega, by omega, by omega, by omega, by omega, by omega, ?_⟩
      have s1 : σ 0 x = 1 := by
        obtain ⟨⟨th, a1, a2, a3⟩, -⟩ := hV
        have := a3 x hx
        cases hb : th.testBit x with
        | true => rw [hb] at this; exact this
        | false => rw [hb] at this; exact absurd this q0
      rw [hV.2.1 x hx s1, na_eq (by omega) (by omega)]
      rw [su_comm (f := 1) (g := 6) (by decide)] at k
      exact k _ (FMd_sI (FMd_sI (FMd_sI (FMd_refl hS) (by unfold pMd; omega)) (by unfold pMd; omega)) (by unfold pMd; omega)) (MV_v (MV_h (MV_p hV)))
theorem m_pop {d r i x s q : Nat} {Q : qt} {h : hp} {σ : zS} {ts : List (Nat × Nat)} (hS : St h) (hr : r < 10) (hi : i < 400) (hK : RK h r ts) (hV : MV h σ) (h6 : 0 ≤ σ 6 s ∧ σ 6 s ≤ 30) (hx : x < 26) (hs : s < 4) (hq : hI h 128 i = (q : Nat)) (tq : ts[q]? = some (1, x)) (tq2 : ts[q + 1]? = some (4, s)) (k : DmQ h σ (sPush σ x s false) Q) : Wc (d + 1) 202 [vR (some 116), vI (r : Nat), vI (i : Nat)] h Q := by
  obtain ⟨t1, t2, t3, t4⟩ := tk_at hr hK tq
  obtain ⟨u1, u2, u3, u4⟩ := tk_at hr hK tq2
  have e1 := ix1 (r := r) (q := q) hr t4
  have t3' : hI h 125 (1600 * r + q) = ((x : Nat) : Int) := t3
  have u3' : hI h 125 (1600 * r + (q + 1)) = ((s : Nat) : Int) := u3
  obtain ⟨n, hn⟩ : ∃ n : Nat, σ 6 s = (n : Nat) := ⟨(σ 6 s).toNat, by omega⟩
  have m1 : n_mul 30 ((s : Nat) : Int) = ((30 * s : Nat) : Int) := by rw [nm_eq (by omega) (by omega)]; omega
  have v5 := hV.2.2.2.2.2.1 s hs
  refine se_X4_doPop hS ?_
  simp only [Int.toNat_natCast, hq, t1, t3', e1, u3', v5, hn, m1]
  rw [MV_bit hV hx]
  clear t1 u1 e1 m1
  unfold sPush at k
  rw [hn, Int.toNat_natCast] at k
  refine ⟨by omega, by omega, by omega, by omega, ?_⟩
  by_cases q0 : σ 0 x = 0
  · rw [if_pos q0] at k
    exact ip q0 (k h (FMd_refl hS) hV)
  · rw [if_neg q0, if_neg (by decide)] at k
    refine im q0 ⟨by omega, ?_⟩
    have s1 : σ 0 x = 1 := by
      obtain ⟨⟨th, a1, a2, a3⟩, -⟩ := hV
      have := a3 x hx
      cases hb : th.testBit x with
      | true => rw [hb] at this; exact this
      | false => rw [hb] at this; exact absurd this q0
    rw [hV.2.1 x hx s1]
    by_cases v0 : σ 1 x = 0
    · rw [if_neg (by omega)] at k
      refine ip v0 ⟨by omega, ?_⟩
      by_cases n0 : n = 0
      · rw [if_pos (by omega)] at k
        exact ip (by omega) (k h (FMd_refl hS) hV)
      · rw [if_neg (by omega)] at k
        refine im (by omega) ?_
        rw [ns_eq (by omega) (by omega)]
        have m2 : n_add ((30 * s : Nat) : Int) ((n : Nat) - 1 : Int) = ((30 * s + n - 1 : Nat) : Int) := by rw [na_eq (by omega) (by omega)]; omega
        rw [m2]
        clear m2
        rw [Int.toNat_natCast, hV.2.2.2.2.2.2 (30 * s + n - 1) (by omega)]
        refine ⟨by omega, by omega, by omega, by omega, by omega, ?_⟩
        rw [su_comm (f := 1) (g := 6) (by decide)] at k
        exact k _ (FMd_sI (FMd_sI (FMd_refl hS) (by unfold pMd; omega)) (by unfold pMd; omega)) (MV_v (MV_h hV))
    · rw [if_pos v0] at k
      exact im v0 (k h (FMd_refl hS) hV)
theorem MV_i {h : hp} {σ : zS} {k : Nat} {v : Int} (z : MV h σ) : MV (sL h 138 k v) (su σ 5 k v) := by
  obtain ⟨c0, c1, c2, c3, c4, c5, c6⟩ := z
  refine ⟨c0, c1, c2, c3, fun j hj => ?_, c5, c6⟩
  rw [hL_sL]
  by_cases e : j = k
  · subst e; rw [if_pos ⟨rfl, rfl⟩, su_at]
  · rw [if_neg (fun y => e y.2), su_k e]; exact c4 j hj
theorem MV_ks {h : hp} {σ : zS} {id n : Nat} {kd : Int} (z : MV h σ) (hn : n ≤ 12) : MV (sI (sI h 136 id kd) 137 id (n : Nat)) (su (su σ 3 id kd) 4 id (n : Nat)) := by
  obtain ⟨⟨th, a1, a2, a3⟩, c1, c2, c3, c4, c5, c6⟩ := z
  refine ⟨⟨th, a1, by rw [hI_sI, if_neg (by omega), hI_sI, if_neg (by omega)]; exact a2, a3⟩, fun j hj q => ?_, fun j hj => ?_, fun j hi => ?_, c4, fun s hs => ?_, fun j hj => ?_⟩
  · rw [hI_sI, if_neg (by omega), hI_sI, if_neg (by omega)]; exact c1 j hj q
  · rw [hI_sI, if_neg (by omega), hI_sI, if_neg (by omega)]; exact c2 j hj
  · rw [hI_sI, if_neg (by omega), hI_sI, hI_sI, su_f (by decide)]
    by_cases e : j = id
    · subst e
      rw [if_pos ⟨rfl, rfl⟩, if_pos ⟨rfl, rfl⟩, su_at, su_at]
      exact ⟨rfl, rfl, by omega, by omega⟩
    · rw [if_neg (fun y => e y.2), if_neg (fun y => e y.2), hI_sI, if_neg (by omega), su_k e, su_k e, su_f (by decide)]; exact c3 j hi
  · rw [hI_sI, if_neg (by omega), hI_sI, if_neg (by omega)]; exact c5 s hs
  · rw [hI_sI, if_neg (by omega), hI_sI, if_neg (by omega)]; exact c6 j hj
/-- a row's kind and size are set, its first i items are 0 -/
def sN4 (σ : zS) (id : Nat) (kd : Int) (n i : Nat) : zS := fun f j => if f = 3 ∧ j = id then kd else if f = 4 ∧ j = id then (n : Nat) else if f = 5 ∧ 12 * id ≤ j ∧ j < 12 * id + i then 0 else σ f j
theorem sN4_0 (σ : zS) (id : Nat) (kd : Int) (n : Nat) : su (su σ 3 id kd) 4 id (n : Nat) = sN4 σ id kd n 0 := by
  funext f j
  unfold su sN4
  by_cases a : f = 3 ∧ j = id
  · rw [if_pos a, if_pos a, if_neg (by omega)]
  · rw [if_neg a, if_neg a]
    by_cases b : f = 4 ∧ j = id
    · rw [if_pos b, if_pos b]
    · rw [if_neg b, if_neg b, if_neg (by omega)]
theorem sN4_s (σ : zS) (id : Nat) (kd : Int) (n i : Nat) : su (sN4 σ id kd n i) 5 (12 * id + i) 0 = sN4 σ id kd n (i + 1) := by
  funext f j
  unfold su sN4
  by_cases a : f = 5 ∧ j = 12 * id + i
  · rw [if_pos a, if_neg (by omega), if_neg (by omega), if_pos (by omega)]
  · rw [if_neg a]
    by_cases c : f = 5 ∧ 12 * id ≤ j ∧ j < 12 * id + i
    · rw [if_neg (by omega), if_neg (by omega), if_pos c, if_neg (by omega), if_neg (by omega), if_pos (by omega)]
    · rw [if_neg c, if_neg (c := f = 5 ∧ 12 * id ≤ j ∧ j < 12 * id + (i + 1)) (by omega)]
theorem sN4_R (σ : zS) (k id : Nat) (kd : Int) (n : Nat) : su (sN4 σ id kd n 12) 2 k (id : Nat) = sNR σ k id kd n := rfl
theorem c_newRow {d n : Nat} {Q : qt} {h : hp} {σ : zS} {kd : Int} (hS : St h) (hV : MV h σ) (hd : nid σ < 14) (hn : n ≤ 12) (k : ∀ h', FMd h h' → MV h' (sN4 σ (nid σ) kd n 12) → (∀ a j, 121 ≤ a → a ≤ 133 → hI h' a j = hI h a j) → Q (.inl (some (vI (nid σ : Nat)))) h') : Wc (d + 1) 204 [vR (some 116), vI kd, vI (n : Nat)] h Q := by
  refine se_X4_newRow hS ?_
  have v2 := hV.2.2.1
  have fin : ∀ (m i : Nat) (g : hp) (v4 : Int), i + m = 12 → FMd h g → MV g (sN4 σ (nid σ) kd n i) → (∀ a j, 121 ≤ a → a ≤ 133 → hI g a j = hI h a j) → Wp d C_X4_newRow Q 85 [vR (some 116), vI kd, vI (n : Nat), vI (nid σ : Nat), vI v4, vI (i : Nat)] [] g := by
    intro m
    induction m with
    | zero =>
      intro i g v4 hi F V fr
      obtain rfl : i = 12 := by omega
      exact ss_X4_newRow_85 (FMd_St F) (im (by omega) (k g F V fr))
    | succ m ih =>
      intro i g v4 hi F V fr
      refine ss_X4_newRow_85 (FMd_St F) (ip (by omega) ?_)
      rw [nm_eq (by omega) (by omega), na_eq (by omega) (by omega), na_eq (by omega) (by omega), show ((12 : Int) * (nid σ : Nat) + (i : Nat)).toNat = 12 * nid σ + i by omega]
      refine ⟨by omega, ?_⟩
      have V2 := MV_i (k := 12 * nid σ + i) (v := 0) V
      rw [sN4_s] at V2
      exact ih (i + 1) _ v4 (by omega) (FMd_sL F (by unfold pMd; omega)) V2 fr
  have inner : ∀ (id : Nat) (K : ∀ b : Bool, b = usd σ id → Wp d C_X4_newRow Q 16 [vR (some 116), vI kd, vI (n : Nat), vI (id : Nat), vI (bI b), vI 14] [] h) (m i : Nat) (b : Bool), i + m = 14 → b = ((List.range i).any fun k => σ 2 k == (id : Nat)) → Wp d C_X4_newRow Q 16 [vR (some 116), vI kd, vI (n : Nat), vI (id : Nat), vI (bI b), vI (i : Nat)] [] h := by
    intro id K m
    induction m with
    | zero =>
      intro i b hi hb
      obtain rfl : i = 14 := by omega
      exact K b hb
    | succ m ih =>
      intro i b hi hb
      refine ss_X4_newRow_16 hS (ip (by omega) ?_)
      rw [na_eq (by omega) (by omega), Int.toNat_natCast, (v2 i (by omega)).1]
      have nx : ∀ b' : Bool, b' = (b || (σ 2 i == (id : Nat))) → Wp d C_X4_newRow Q 16 [vR (some 116), vI kd, vI (n : Nat), vI (id : Nat), vI (bI b'), vI ((i : Nat) + 1)] [] h := fun b' e => ih (i + 1) b' (by omega) (by rw [e, hb, List.range_succ, List.any_append]; simp)
      cases b with
      | true => exact im (by decide) (nx true rfl)
      | false =>
        refine ip rfl ⟨by omega, ?_⟩
        by_cases e : σ 2 i = (id : Nat)
        · exact ip e (nx true (by rw [e]; simp))
        · exact im e (nx false (by simp; exact e))
  have outer : ∀ (m id : Nat), id + m = 14 → nidF σ m id = nid σ → Wp d C_X4_newRow Q 5 [vR (some 116), vI kd, vI (n : Nat), vI (id : Nat), vI 1, vU] [] h ∧ ∀ v5, Wp d C_X4_newRow Q 5 [vR (some 116), vI kd, vI (n : Nat), vI (id : Nat), vI 1, vI v5] [] h := by
    intro m
    induction m with
    | zero =>
      intro id hi e
      have : id = nid σ := e
      omega
    | succ m ih =>
      intro id hi e
      have body : Wp d C_X4_newRow Q 16 [vR (some 116), vI kd, vI (n : Nat), vI (id : Nat), vI 0, vI 0] [] h := by
        refine inner id (fun b hb => ?_) 14 0 false (by omega) rfl
        refine ss_X4_newRow_16 hS (im (by decide) ?_)
        unfold nidF at e
        cases b with
        | true =>
          rw [if_pos hb.symm] at e
          refine im (by decide) ?_
          rw [na_eq (by omega) (by omega)]
          exact (ih (id + 1) (by omega) e).2 _
        | false =>
          rw [if_neg (by rw [← hb]; decide)] at e
          refine ip rfl ?_
          rw [na_eq (by omega) (by omega), Int.add_zero, e]
          refine ss_X4_newRow_5 hS (ip rfl ⟨by omega, by omega, ?_⟩)
          rw [Int.toNat_natCast]
          have V0 := MV_ks (id := nid σ) (n := n) (kd := kd) hV hn
          rw [sN4_0] at V0
          exact fin 12 0 _ _ (by omega) (FMd_sI (FMd_sI (FMd_refl hS) (by unfold pMd; omega)) (by unfold pMd; omega)) V0 (fun a j a1 a2 => by rw [hI_sI, if_neg (by omega), hI_sI, if_neg (by omega)])
      exact ⟨ss_X4_newRow_5 hS (im (by decide) body), fun v5 => ss_X4_newRow_5 hS (im (by decide) body)⟩
  exact (outer 14 0 (by omega) rfl).1
