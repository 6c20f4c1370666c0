/-! x: new, end -/
def sNew (σ : zS) (x : Nat) (kd : Int) (e : zT) : Nat ⊕ zS := if 0 ≤ σ 2 x then .inl 14 else match ev σ bn0 bi0 e with
  | .inl w => .inl w
  | .inr v => if v < 0 ∨ 12 < v then .inl 7 else .inr (sNR σ x (nid σ) kd v.toNat)
def z0 (σ : zS) (id : Nat) : Bool := (List.range (σ 4 id).toNat).all fun i => σ 5 (12 * id + i) == 0
def sEnd (σ : zS) (x : Nat) (kd : Int) (e : zT) : Nat ⊕ zS := if σ 2 x < 0 then .inl 2 else if σ 3 (σ 2 x).toNat ≠ kd then .inl 10 else match ev σ bn0 bi0 e with
  | .inl w => .inl w
  | .inr v => if v = σ 4 (σ 2 x).toNat ∧ z0 σ (σ 2 x).toNat = true then .inr (su σ 2 x (-1)) else .inl 8
theorem x_come {d lo hi o b x : Nat} {Q : qt} {h : hp} {σ : zS} {ρ : Nat → Nat} {e : zT} {kd : Int} (hS : St h) (hZ : XZ h σ ρ) (hFr : XFr h) (ho : hT h o = (26, 0)) (hx : x < 6) (f0 : hI h o 0 = (x : Nat)) (f1 : hI h o 1 = kd) (h0 : 0 ≤ kd) (h4 : kd ≤ 4) (f2 : hR h o 2 = some b) (re : RE h lo hi e b) (oe : okE e) (hd : (zk e).length + 8 ≤ d) (hb : hU h + 25 ≤ BUD) (k : DoQ h ρ σ (sNew σ x kd e) Q) : Wc d 342 [vR (some o), vR (some 68)] h Q := by
  obtain ⟨d, rfl⟩ : ∃ e, d = e + 2 := ⟨d - 2, by omega⟩
  have hl := zht_len e 0 oe.1 oe.2.2
  have h145 := hS.1
  refine se_X26_come hS ho ?_
  rw [f0, Int.toNat_natCast, ho_r hS hx, ofR_some]
  refine ⟨by omega, by rw [ho_t hS (by omega)]; simp, ?_⟩
  unfold sNew at k
  rcases hZ.1.2.1 x (by omega) with ⟨y1, y2⟩ | ⟨id, y1, y2, y3, -⟩
  · rw [if_neg (by omega)] at k
    refine ip y2 ?_
    rw [f2, ofR_some]
    refine c_eval hS hZ.1 (XB_free hFr) e b (d + 1) 0 _ re oe.1 (by omega) ?_
    cases hv : ev σ bn0 bi0 e with
    | inl w => rw [hv] at k; exact k h (FX_refl hS) rfl rfl hZ
    | inr v =>
      rw [hv] at k
      dsimp only at k
      refine ss_X26_come_31 hS ho ?_
      refine pu_isIn hS ?_
      refine ss_X26_come_40 hS ho ?_
      by_cases q : v < 0 ∨ 12 < v
      · rw [if_pos q] at k
        rw [show (decide (0 ≤ v) && decide (v ≤ 12)) = false by rw [Bool.eq_false_iff]; simp; omega]
        exact ip rfl (k h (FX_refl hS) rfl rfl hZ)
      · rw [if_neg q] at k
        rw [show (decide (0 ≤ v) && decide (v ≤ 12)) = true by simp; omega]
        refine im (by decide) ?_
        obtain ⟨n, rfl⟩ : ∃ n : Nat, v = (n : Nat) := ⟨v.toNat, by omega⟩
        rw [Int.toNat_natCast] at k
        rw [f0, Int.toNat_natCast, ho_r hS hx, ofR_some, f1, l2i_eq (by omega) (by omega)]
        refine ⟨by omega, ip (by rw [ho_t hS (by omega)]) ?_⟩
        refine c_make hS (by omega) h0 h4 (by omega) hb ?_
        obtain ⟨n1, n2, -⟩ := nid_ok (σ := σ) (k0 := x) (by omega) (by omega)
        refine k _ _ (FX_sR (FX_new (FX_refl hS)) (Or.inl ?_) (by unfold okRf; omega)) ⟨?_, ?_⟩ (by show hU h + n + 13 ≤ _; omega) (XZ_new hS (by omega) h0 h4 (by omega) n1 (fun j hj _ => n2 j hj) hZ)
        · unfold pEx; omega
        · rw [hI_sR, hI_new (by omega)]; exact hFr.1
        · rw [hR_sR, if_neg (by omega), hR_new (by omega)]; exact hFr.2
  · rw [if_pos (by omega)] at k
    exact im (by rw [y3]; simp) (k h (FX_refl hS) rfl rfl hZ)
theorem x_end {d lo hi o b x : Nat} {Q : qt} {h : hp} {σ : zS} {ρ : Nat → Nat} {e : zT} {kd : Int} (hS : St h) (hZ : XZ h σ ρ) (hFr : XFr h) (ho : hT h o = (26, 0)) (hx : x < 6) (f0 : hI h o 0 = (x : Nat)) (f1 : hI h o 1 = kd) (f2 : hR h o 2 = some b) (re : RE h lo hi e b) (oe : okE e) (hd : (zk e).length + 8 ≤ d) (k : DoQ h ρ σ (sEnd σ x kd e) Q) : Wc d 343 [vR (some o), vR (some 68)] h Q := by
  obtain ⟨d, rfl⟩ : ∃ e, d = e + 2 := ⟨d - 2, by omega⟩
  have hl := zht_len e 0 oe.1 oe.2.2
  have h145 := hS.1
  have no := fun (w : Nat) (k : DoQ h ρ σ (.inl w) Q) => k h (FX_refl hS) rfl rfl hZ
  refine se_X26_end hS ho ?_
  rw [f0]
  unfold sEnd at k
  refine c_rowOf hS hZ.1 hx (fun q => ?_) (fun q => ?_)
  · rw [if_pos q] at k; exact no 2 k
  rw [if_neg (by omega)] at k
  have ht := ho_t hS (k := x) (by omega)
  refine ss_X26_end_8 hS ho ?_
  rw [ofR_some]
  refine ip (by rw [ht]) ?_
  refine c_hkd hS hZ.1 (by omega) q ?_
  refine ss_X26_end_13 hS ho ?_
  rw [f1]
  by_cases kk : σ 3 (σ 2 x).toNat = kd
  · rw [if_neg (fun z => z kk)] at k
    refine ip kk ?_
    rw [f2, ofR_some]
    refine c_eval hS hZ.1 (XB_free hFr) e b (d + 1) 0 _ re oe.1 (by omega) ?_
    cases hv : ev σ bn0 bi0 e with
    | inl w => rw [hv] at k; exact no w k
    | inr v =>
      rw [hv] at k
      dsimp only at k
      refine ss_X26_end_36 hS ho ?_
      rw [ofR_some]
      refine ip (by rw [ht]) ?_
      refine c_hsz hS hZ.1 (by omega) q ?_
      refine ss_X26_end_42 hS ho ?_
      obtain ⟨id, hid⟩ : ∃ id : Nat, σ 2 x = (id : Nat) := ⟨(σ 2 x).toNat, by omega⟩
      obtain ⟨n, n1, n2⟩ : ∃ n : Nat, n ≤ 12 ∧ σ 4 (σ 2 x).toNat = (n : Nat) := by
        rcases hZ.1.2.1 x (by omega) with ⟨y, -⟩ | ⟨id', y1, y2, y3, -, -, -, -, ⟨n, n1, n2, n3⟩, -⟩
        · omega
        · exact ⟨n, n1, by rw [y2, Int.toNat_natCast]; exact n2⟩
      have fail : (∀ z : Prop, True) → ∀ v6 : Int, ¬ (v = σ 4 (σ 2 x).toNat ∧ z0 σ (σ 2 x).toNat = true) → Wp (d + 1) C_X26_end Q 57 [vR (some o), vR (some 68), vR (some (102 + x)), vJ v, vU, vI 0, vI v6] [] h := by
        intro _ v6 nz
        rw [if_neg nz] at k
        exact ss_X26_end_57 hS ho (ip rfl (ip rfl (no 8 k)))
      by_cases ev1 : v = σ 4 (σ 2 x).toNat
      · refine ip ev1 ?_
        have loop : ∀ (m i : Nat), i + m = n → (∀ j, j < i → σ 5 (12 * (σ 2 x).toNat + j) = 0) → Wp (d + 1) C_X26_end Q 57 [vR (some o), vR (some 68), vR (some (102 + x)), vJ v, vU, vI 1, vI (i : Nat)] [] h := by
          intro m
          induction m with
          | zero =>
            intro i hi hz
            have hz0 : z0 σ (σ 2 x).toNat = true := by
              unfold z0
              rw [List.all_eq_true]
              intro j hj
              rw [List.mem_range, n2, Int.toNat_natCast] at hj
              simp
              exact hz j (by omega)
            rw [if_pos ⟨ev1, hz0⟩] at k
            refine ss_X26_end_57 hS ho (im (by decide) ?_)
            rw [ofR_some]
            refine ip (by rw [ht]) ?_
            refine c_hsz hS hZ.1 (by omega) q ?_
            rw [n2]
            refine ss_X26_end_68 hS ho (im (by omega) (im (by decide) ?_))
            rw [ofR_some]
            refine ⟨by rw [ht]; simp, ?_⟩
            exact k _ ρ (FX_sR (FX_refl hS) (Or.inl (by unfold pEx; omega)) (by unfold okRf; omega)) ⟨hFr.1, by rw [hR_sR, if_neg (by omega)]; exact hFr.2⟩ (by show hU h ≤ _; omega) (XZ_gone hZ)
          | succ m ih =>
            intro i hi hz
            refine ss_X26_end_57 hS ho (im (by decide) ?_)
            rw [ofR_some]
            refine ip (by rw [ht]) ?_
            refine c_hsz hS hZ.1 (by omega) q ?_
            rw [n2]
            refine ss_X26_end_68 hS ho (ip (by omega) ?_)
            rw [ofR_some]
            refine ip (by rw [ht]) ?_
            refine c_hgt hS hZ.1 (by omega) q (by rw [n2]; omega) ?_
            refine ss_X26_end_77 hS ho ?_
            rw [na_eq (by omega) (by omega)]
            by_cases zi : σ 5 (12 * (σ 2 x).toNat + i) = 0
            · refine ip zi ?_
              exact ih (i + 1) (by omega) (fun j hj => by
                by_cases e : j = i
                · rw [e]; exact zi
                · exact hz j (by omega))
            · refine im zi ?_
              refine fail (fun _ => trivial) _ (fun w => zi ?_)
              have := List.all_eq_true.mp w.2 i (by rw [List.mem_range, n2, Int.toNat_natCast]; omega)
              simpa using this
        exact loop n 0 (by omega) (fun j hj => absurd hj (Nat.not_lt_zero _))
      · refine im ev1 ?_
        exact fail (fun _ => trivial) _ (fun w => ev1 w.1)
  · rw [if_pos kk] at k
    exact im kk (no 10 k)
