/-! m: new, end -/
theorem kd17 {kd : Nat} (h : kd < 5) : n_sub ((17 + kd : Nat) : Int) 17 = (kd : Nat) := by rw [ns_eq (by omega) (by omega)]; omega
theorem m_new {d r i x q n kd : Nat} {Q : qt} {h : hp} {σ : zS} {e : zT} {P S : List (Nat × Nat)} (hS : St h) (hr : r < 10) (hi : i < 400) (hK : RK h r (P ++ (zk e ++ S))) (hn : nxt zsp S) (hV : MV h σ) (hZ : Mz h) (hx : x < 6) (hkd : kd < 5) (hq : hI h 128 i = (q : Nat)) (tq : (P ++ (zk e ++ S))[q]? = some (3, x)) (tq2 : (P ++ (zk e ++ S))[q + 1]? = some (5, 17 + kd)) (hE : hI h 129 i = (n : Nat)) (hP : n = P.length) (oe : okE e) (k : DmQ h σ (sNew σ x (kd : Nat) e) Q) : Wc (d + 51) 203 [vR (some 116), vI (r : Nat), vI (i : Nat)] h Q := by
  obtain ⟨t1, t2, t3, t4⟩ := tk_at hr hK tq
  have t3' : hI h 125 (1600 * r + q) = ((x : Nat) : Int) := t3
  have v2 := hV.2.2.1 x (by omega)
  refine se_X4_doNew hS ?_
  simp only [Int.toNat_natCast, hq, t1, t3', v2.1, hE]
  clear t1
  refine ⟨by omega, by omega, by omega, ?_⟩
  unfold sNew at k
  by_cases q1 : σ 2 x < 0
  · rw [if_neg (by omega)] at k
    refine ip q1 ⟨by omega, ?_⟩
    refine c_rk hS hr hK hn hV hZ oe hP (fun w h' y hv w0 F V b fr => ?_) (fun v h' hv F V b fr => ?_)
    · rw [hv] at k
      refine ss_X4_doNew_41 (FMd_St F) (im (by rw [b]; omega) ?_)
      rw [b]
      exact k h' F V
    · rw [hv] at k
      dsimp only at k
      refine ss_X4_doNew_41 (FMd_St F) (ip b ?_)
      by_cases v0 : v < 0
      · rw [if_pos (Or.inl v0)] at k; exact ip v0 (k h' F V)
      · refine im v0 ?_
        by_cases v12 : 12 < v
        · rw [if_pos (Or.inr v12)] at k; exact ip v12 (k h' F V)
        · rw [if_neg (by omega)] at k
          refine im v12 ?_
          obtain ⟨n, rfl⟩ : ∃ n : Nat, v = (n : Nat) := ⟨v.toNat, by omega⟩
          have K' : RK h' r (P ++ (zk e ++ S)) := RK_eq (fun j => fr 123 j (by omega) (by omega)) (fun j => fr 124 j (by omega) (by omega)) (fun j => fr 125 j (by omega) (by omega)) hK
          obtain ⟨t1, -⟩ := tk_at hr hK tq
          obtain ⟨-, -, u3, u4⟩ := tk_at hr K' tq2
          have u3' : hI h' 125 (1600 * r + (q + 1)) = ((17 + kd : Nat) : Int) := u3
          rw [Int.toNat_natCast, fr 128 i (by omega) (by omega), hq, t1, ix1 hr t4, Int.toNat_natCast, u3', kd17 hkd, l2i_eq (by omega) (by omega)]
          clear t1
          refine ⟨by omega, by omega, ?_⟩
          rw [Int.toNat_natCast] at k
          obtain ⟨n1, n2, -⟩ := nid_ok (σ := σ) (k0 := x) (by omega) (by omega)
          refine c_newRow (FMd_St F) V n1 (by omega) (fun h2 F2 V2 _ => ?_)
          refine ss_X4_doNew_108 (FMd_St F2) ?_
          rw [ofR_some]
          refine ⟨by unfold inb; rw [stt_135 (FMd_St F2)]; exact ⟨by simp, by omega, by show ((x : Nat) : Int) < 14; omega⟩, ?_⟩
          rw [Int.toNat_natCast]
          exact k _ (FMd_sI (FMd_trans F F2) (by unfold pMd; omega)) (MV_row ⟨by omega, by omega⟩ V2)
  · rw [if_pos (by omega)] at k
    exact im q1 (k h (FMd_refl hS) hV)
theorem m_end {d r i x q n kd : Nat} {Q : qt} {h : hp} {σ : zS} {e : zT} {P S : List (Nat × Nat)} (hS : St h) (hr : r < 10) (hi : i < 400) (hK : RK h r (P ++ (zk e ++ S))) (hn : nxt zsp S) (hV : MV h σ) (hZ : Mz h) (hx : x < 6) (hkd : kd < 5) (hq : hI h 128 i = (q : Nat)) (tq : (P ++ (zk e ++ S))[q]? = some (3, x)) (tq2 : (P ++ (zk e ++ S))[q + 1]? = some (5, 17 + kd)) (hE : hI h 129 i = (n : Nat)) (hP : n = P.length) (oe : okE e) (k : DmQ h σ (sEnd σ x (kd : Nat) e) Q) : Wc (d + 51) 205 [vR (some 116), vI (r : Nat), vI (i : Nat)] h Q := by
  obtain ⟨t1, t2, t3, t4⟩ := tk_at hr hK tq
  obtain ⟨-, -, u3, u4⟩ := tk_at hr hK tq2
  have e1 := ix1 (r := r) (q := q) hr t4
  have t3' : hI h 125 (1600 * r + q) = ((x : Nat) : Int) := t3
  have u3' : hI h 125 (1600 * r + (q + 1)) = ((17 + kd : Nat) : Int) := u3
  have v2 := hV.2.2.1 x (by omega)
  have k17 := kd17 hkd
  refine se_X4_doEnd hS ?_
  simp only [Int.toNat_natCast, hq, t1, t3', e1, u3', k17, v2.1, hE]
  clear t1 e1 k17
  refine ⟨by omega, by omega, by omega, ?_⟩
  unfold sEnd at k
  by_cases q1 : σ 2 x < 0
  · rw [if_pos q1] at k
    exact ip q1 (k h (FMd_refl hS) hV)
  · rw [if_neg q1] at k
    obtain ⟨id, hid⟩ : ∃ id : Nat, σ 2 x = (id : Nat) := ⟨(σ 2 x).toNat, by omega⟩
    rw [hid, Int.toNat_natCast] at k
    have v3 := hV.2.2.2.1 id (by omega)
    rw [hid, Int.toNat_natCast, v3.1]
    refine im (by omega) ⟨by omega, by omega, by omega, ?_⟩
    by_cases kk : σ 3 id = (kd : Nat)
    · rw [if_neg (fun z => z kk)] at k
      refine ip kk ⟨by omega, ?_⟩
      refine c_rk hS hr hK hn hV hZ oe hP (fun w h' y hv w0 F V b fr => ?_) (fun v h' hv F V b fr => ?_)
      · rw [hv] at k
        refine ss_X4_doEnd_79 (FMd_St F) (im (by rw [b]; omega) ?_)
        rw [b]
        exact k h' F V
      · rw [hv] at k
        dsimp only at k
        have S' := FMd_St F
        have v3' := V.2.2.2.1 id (by omega)
        obtain ⟨m, hm⟩ : ∃ m : Nat, σ 4 id = (m : Nat) := ⟨(σ 4 id).toNat, by omega⟩
        have h137 : hI h' 137 id = (m : Nat) := by rw [v3'.2.1]; exact hm
        have loop : ∀ (c j : Nat) (b : Bool), j + c = m → (b = true ↔ v = σ 4 id ∧ ∀ l, l < j → σ 5 (12 * id + l) = 0) → Wp (d + 50) C_X4_doEnd Q 117 [vR (some 116), vI (r : Nat), vI (i : Nat), vI (x : Nat), vI (id : Nat), vJ v, vU, vI (bI b), vI (j : Nat)] [] h' := by
          intro c
          induction c with
          | zero =>
            intro j b hj hb
            obtain rfl : j = m := by omega
            refine ss_X4_doEnd_117 S' ⟨by omega, ?_⟩
            rw [Int.toNat_natCast, h137]
            refine im (by omega) ?_
            have hz : z0 σ id = true ↔ ∀ l, l < j → σ 5 (12 * id + l) = 0 := by
              unfold z0
              rw [List.all_eq_true, hm, Int.toNat_natCast]
              constructor
              · intro w l hl; have := w l (List.mem_range.mpr hl); simpa using this
              · intro w l hl; have := w l (List.mem_range.mp hl); simpa using this
            cases b with
            | true =>
              obtain ⟨h1, h2⟩ := hb.mp rfl
              rw [if_pos ⟨h1, hz.mpr h2⟩] at k
              refine im (by decide) ⟨by omega, ?_⟩
              rw [Int.toNat_natCast]
              exact k _ (FMd_sI F (by unfold pMd; omega)) (MV_row ⟨by omega, by omega⟩ V)
            | false =>
              rw [if_neg (fun z => by have := hb.mpr ⟨z.1, hz.mp z.2⟩; cases this)] at k
              exact ip rfl (k h' F V)
          | succ c ih =>
            intro j b hj hb
            refine ss_X4_doEnd_117 S' ⟨by omega, ?_⟩
            rw [Int.toNat_natCast, h137]
            refine ip (by omega) ?_
            rw [nm_eq (by omega) (by omega), na_eq (y := 1) (by omega) (by omega), na_eq (by omega) (by omega), show ((12 : Int) * (id : Nat) + (j : Nat)).toNat = 12 * id + j by omega, V.2.2.2.2.1 (12 * id + j) (by omega)]
            cases b with
            | false =>
              refine ip rfl ?_
              exact ih (j + 1) false (by omega) ⟨fun z => (by cases z), fun z => hb.mpr ⟨z.1, fun l hl => z.2 l (by omega)⟩⟩
            | true =>
              refine im (by decide) ⟨by omega, ?_⟩
              obtain ⟨h1, h2⟩ := hb.mp rfl
              by_cases zj : σ 5 (12 * id + j) = 0
              · refine ip zj ?_
                exact ih (j + 1) true (by omega) ⟨fun _ => ⟨h1, fun l hl => by
                  by_cases e : l = j
                  · rw [e]; exact zj
                  · exact h2 l (by omega)⟩, fun _ => rfl⟩
              · refine im zj ?_
                exact ih (j + 1) false (by omega) ⟨fun z => (by cases z), fun z => absurd (z.2 j (by omega)) zj⟩
        refine ss_X4_doEnd_79 S' (ip b ⟨by omega, ?_⟩)
        rw [Int.toNat_natCast, h137, ← hm]
        by_cases e1 : v = σ 4 id
        · exact ip e1 (loop m 0 true (by omega) ⟨fun _ => ⟨e1, fun l hl => absurd hl (Nat.not_lt_zero _)⟩, fun _ => rfl⟩)
        · exact im e1 (loop m 0 false (by omega) ⟨fun z => (by cases z), fun z => absurd z.1 e1⟩)
    · rw [if_pos kk] at k
      exact im kk (k h (FMd_refl hS) hV)
