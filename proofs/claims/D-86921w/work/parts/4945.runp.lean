/-! RUNNING, in plain: what is refused has a reason; numbers stay in range -/
theorem ev_nz {σ : zS} {bn : Nat → Bool} {bi : Nat → Nat → Bool} : ∀ (e : zT) (lv w : Nat), zok e lv → ev σ bn bi e = .inl w → w ≠ 0 ∧ w < 17 := by
  intro e
  induction e with
  | leaf n => intro lv w z; exact z.elim
  | branch c l r ihl ihr =>
    intro lv w z h
    unfold ev at h
    by_cases k2 : c = 2
    · rw [if_pos k2] at h; cases h
    rw [if_neg k2] at h
    by_cases k1 : c = 1
    · rw [if_pos k1] at h
      split at h
      · cases h; decide
      · split at h
        · cases h; decide
        · cases h
    rw [if_neg k1] at h
    by_cases k35 : c = 35
    · rw [if_pos k35] at h
      split at h
      · cases h; decide
      · cases h
    rw [if_neg k35] at h
    by_cases k3 : c = 3
    · rw [if_pos k3] at h
      subst k3
      cases hr : ev σ bn bi r with
      | inl v =>
        rw [hr] at h
        cases h
        exact ihr 0 _ z.2 hr
      | inr i =>
        rw [hr] at h
        dsimp only at h
        split at h
        · cases h; decide
        · split at h
          · cases h; decide
          · split at h
            · cases h; decide
            · cases h
    rw [if_neg k3] at h
    by_cases k8 : c = 8
    · rw [if_pos k8] at h
      subst k8
      cases hr : ev σ bn bi l with
      | inl v => rw [hr] at h; cases h; exact ihl 2 _ z hr
      | inr i => rw [hr] at h; cases h
    rw [if_neg k8] at h
    by_cases k40 : c = 40
    · rw [if_pos k40] at h
      subst k40
      exact ihl 0 w z h
    rw [if_neg k40] at h
    obtain ⟨hc, lv1, lv2, z1, z2⟩ := two_k z k1 k2 k35 k3 k8 k40
    cases hl : ev σ bn bi l with
    | inl v => rw [hl] at h; cases h; exact ihl lv1 _ z1 hl
    | inr x =>
      rw [hl] at h
      dsimp only at h
      cases hr : ev σ bn bi r with
      | inl v => rw [hr] at h; cases h; exact ihr lv2 _ z2 hr
      | inr y =>
        rw [hr] at h
        dsimp only at h
        unfold rk at h
        (repeat' split at h) <;> cases h
        all_goals decide
theorem plv_nz {σ : zS} {p : zT} {w : Nat} (ok : okP p) (h : plv σ p = .inl w) : w ≠ 0 ∧ w < 17 := by
  rcases ok with ⟨x, e1, hx⟩ | ⟨x, e, e1, hx, oe⟩
  · subst e1
    rw [plv_n] at h
    split at h
    · cases h; decide
    · cases h
  · subst e1
    rw [plv_i] at h
    cases hv : ev σ bn0 bi0 e with
    | inl v => rw [hv] at h; cases h; exact ev_nz e 0 _ oe.1 hv
    | inr i =>
      rw [hv] at h
      dsimp only at h
      split at h
      · cases h; decide
      · split at h
        · cases h; decide
        · cases h
theorem sStep_nz {σ : zS} {k w : Nat} {l r : zT} {f : Bool} (hk : ok1 k l r) (h114 : k ≠ 114) (h106 : k ≠ 106 ∧ k ≠ 107) (h : sStep σ (zB k l r) f = .inl w) : w ≠ 0 ∧ w < 17 := by
  unfold sStep at h
  dsimp only at h
  rcases hk with ⟨k1, ⟨x, el, hx⟩, oe, -⟩ | ⟨k1, ⟨x, el, hx⟩, ⟨y, er, hy⟩⟩ | ⟨k1, ⟨x, el, hx⟩, ⟨j, e, er, hj1, hj2, oe, -⟩⟩ | ⟨k1, -⟩ | ⟨k1, okl, okr⟩ | ⟨k1, okl, oe, nh⟩
  · rw [if_pos (by omega)] at h
    unfold sLet at h
    split at h
    · cases h; split <;> decide
    · cases hv : ev σ bn0 bi0 r with
      | inl v => rw [hv] at h; cases h; exact ev_nz r 0 _ oe.1 hv
      | inr v =>
        rw [hv] at h
        dsimp only at h
        split at h
        · cases h; decide
        · cases h
  · rw [if_neg (by omega), if_pos k1] at h
    unfold sPush at h
    (repeat' split at h) <;> cases h
    all_goals decide
  · rw [if_neg (by omega), if_neg (by omega), if_pos k1] at h
    subst er
    have zo : okE (zl (zB j e (zL 0))) := oe
    split at h
    · unfold sNew at h
      split at h
      · cases h; decide
      · cases hv : ev σ bn0 bi0 (zl (zB j e (zL 0))) with
        | inl v => rw [hv] at h; cases h; exact ev_nz _ 0 _ zo.1 hv
        | inr v =>
          rw [hv] at h
          dsimp only at h
          split at h
          · cases h; decide
          · cases h
    · unfold sEnd at h
      split at h
      · cases h; decide
      · split at h
        · cases h; decide
        · cases hv : ev σ bn0 bi0 (zl (zB j e (zL 0))) with
          | inl v => rw [hv] at h; cases h; exact ev_nz _ 0 _ zo.1 hv
          | inr v =>
            rw [hv] at h
            dsimp only at h
            split at h
            · cases h
            · cases h; decide
  · exact absurd k1 (by omega)
  · rw [if_neg (by omega), if_neg (by omega), if_neg (by omega), if_pos k1] at h
    unfold sSwap at h
    cases hu : plv σ l with
    | inl v => rw [hu] at h; cases h; exact plv_nz okl hu
    | inr u =>
      rw [hu] at h
      dsimp only at h
      cases hv : plv σ r with
      | inl v => rw [hv] at h; cases h; exact plv_nz okr hv
      | inr v =>
        rw [hv] at h
        dsimp only at h
        split at h
        · cases h; decide
        · split at h
          · cases h; decide
          · cases h
  · rw [if_neg (by omega), if_neg (by omega), if_neg (by omega), if_neg (by omega)] at h
    unfold sChg at h
    cases hu : plv σ l with
    | inl v => rw [hu] at h; cases h; exact plv_nz okl hu
    | inr u =>
      rw [hu] at h
      dsimp only at h
      split at h
      · cases h; decide
      · cases hv : ev σ bn0 (bic u) r with
        | inl v => rw [hv] at h; cases h; exact ev_nz r 0 _ oe.1 hv
        | inr v => rw [hv] at h; cases h
theorem sCor_nz {σ : zS} {e : zEn} {f : Bool} {w : Nat} (oe : okE (cE e f)) (h : sCor σ e f = .inl w) : w ≠ 0 ∧ w < 17 := by
  unfold sCor at h
  cases hv : ev σ bn0 bi0 (cE e f) with
  | inl v => rw [hv] at h; cases h; exact ev_nz _ 0 _ oe.1 hv
  | inr v =>
    rw [hv] at h
    dsimp only at h
    cases hj : cJp e f (decide (v ≠ 0)) with
    | none => rw [hj] at h; cases h; decide
    | some q => rw [hj] at h; cases h
/-! the range of the numbers, and of the heights -/
def Zk (σ : zS) : Prop := Zr σ ∧ ∀ s, s < 4 → 0 ≤ σ 6 s ∧ σ 6 s ≤ 30
theorem Zk_o {σ : zS} {f k : Nat} {v : Int} (hf : f = 0 ∨ f = 2 ∨ f = 4) (z : Zk σ) : Zk (su σ f k v) := by
  obtain ⟨⟨a, b, c⟩, d⟩ := z
  refine ⟨⟨fun k hk => ?_, fun id j h1 h2 => ?_, fun j hj => ?_⟩, fun s hs => ?_⟩
  · rw [su_f (by omega)]; exact a k hk
  · rw [su_f (by omega), su_f (by omega)]; exact b id j h1 h2
  · rw [su_f (by omega)]; exact c j hj
  · rw [su_f (by omega)]; exact d s hs
theorem Zk_1 {σ : zS} {k : Nat} {v : Int} (hv : l_l2i v = v) (z : Zk σ) : Zk (su σ 1 k v) := by
  obtain ⟨⟨a, b, c⟩, d⟩ := z
  refine ⟨⟨fun j hj => ?_, fun id j h1 h2 => ?_, fun j hj => ?_⟩, fun s hs => ?_⟩
  · by_cases q : j = k
    · subst q; rw [su_at]; exact hv
    · rw [su_k q]; exact a j hj
  · rw [su_f (by decide), su_f (by decide)]; exact b id j h1 h2
  · rw [su_f (by decide)]; exact c j hj
  · rw [su_f (by decide)]; exact d s hs
theorem Zk_7 {σ : zS} {k : Nat} {v : Int} (hv : l_l2i v = v) (z : Zk σ) : Zk (su σ 7 k v) := by
  obtain ⟨⟨a, b, c⟩, d⟩ := z
  refine ⟨⟨fun j hj => ?_, fun id j h1 h2 => ?_, fun j hj => ?_⟩, fun s hs => ?_⟩
  · rw [su_f (by decide)]; exact a j hj
  · rw [su_f (by decide), su_f (by decide)]; exact b id j h1 h2
  · by_cases q : j = k
    · subst q; rw [su_at]; exact hv
    · rw [su_k q]; exact c j hj
  · rw [su_f (by decide)]; exact d s hs
theorem Zk_6 {σ : zS} {k : Nat} {v : Int} (hv : 0 ≤ v ∧ v ≤ 30) (z : Zk σ) : Zk (su σ 6 k v) := by
  obtain ⟨⟨a, b, c⟩, d⟩ := z
  refine ⟨⟨fun j hj => ?_, fun id j h1 h2 => ?_, fun j hj => ?_⟩, fun s hs => ?_⟩
  · rw [su_f (by decide)]; exact a j hj
  · rw [su_f (by decide), su_f (by decide)]; exact b id j h1 h2
  · rw [su_f (by decide)]; exact c j hj
  · by_cases q : s = k
    · subst q; rw [su_at]; exact hv
    · rw [su_k q]; exact d s hs
theorem cut0 (kd : Int) : cutz kd 0 = 0 := by
  unfold cutz
  (repeat' split) <;> first | rfl | decide
theorem Zk_new {σ : zS} {k id n : Nat} {kd : Int} (z : Zk σ) : Zk (sNR σ k id kd n) := by
  obtain ⟨⟨a, b, c⟩, d⟩ := z
  refine ⟨⟨fun j hj => ?_, fun id' j h1 h2 => ?_, fun j hj => ?_⟩, fun s hs => ?_⟩
  · rw [sNR_o (by omega)]; exact a j hj
  · by_cases q : id' = id
    · subst q
      rw [sNR_id.2.2 j h2]; exact cut0 _
    · obtain ⟨x1, x2, x3⟩ := sNR_x (σ := σ) (k := k) (kd := kd) (n := n) q
      rw [x1, x3 j h2]; exact b id' j h1 h2
  · rw [sNR_o (by omega)]; exact c j hj
  · rw [sNR_o (by omega)]; exact d s hs
theorem Zk_pst {σ : zS} {c : Nat × Nat} {v : Int} (r : c.1 ≠ 0 → c.2 < 12) (z : Zk σ) : Zk (pst σ c v) := by
  unfold pst
  split
  · exact Zk_1 (l2i2 v) z
  · rename_i q
    have r := r q
    obtain ⟨⟨a, b, e⟩, d⟩ := z
    refine ⟨⟨fun j hj => ?_, fun id j h1 h2 => ?_, fun j hj => ?_⟩, fun s hs => ?_⟩
    · rw [su_f (by decide)]; exact a j hj
    · rw [su_f (show 3 ≠ 5 by decide)]
      by_cases q2 : 12 * id + j = 12 * (c.1 - 1) + c.2
      · have : id = c.1 - 1 := by omega
        rw [q2, su_at, this]; exact cutz2 _ _
      · rw [su_k q2]; exact b id j h1 h2
    · rw [su_f (by decide)]; exact e j hj
    · rw [su_f (by decide)]; exact d s hs
/-- places are in range -/
def Pr (σ : zS) : Prop := ∀ p c, okP p → plv σ p = .inr c → c.1 ≠ 0 → c.1 - 1 < 14 ∧ c.2 < 12
theorem Pr_M {h : hp} {σ : zS} (hV : MV h σ) : Pr σ := fun p c ok hc => (pl_rng hV ok hc).2
theorem Pr_X {h : hp} {σ : zS} {ρ : Nat → Nat} (hZ : XZ h σ ρ) : Pr σ := by
  intro p c ok hc q
  rcases plv_ok ok hc with ⟨x, e1, hx, e2, -⟩ | ⟨x, e, id, j, e1, hx, oe, q1, q2, e2, q3⟩
  · rw [e2] at q; exact absurd rfl q
  · rcases hZ.1.2.1 x (by omega) with ⟨y, -⟩ | ⟨id', y1, y2, -, -, -, -, -, ⟨n, n1, n2, -⟩, -⟩
    · omega
    · have : id' = id := by omega
      subst this
      subst e2
      refine ⟨?_, ?_⟩
      · show id' + 1 - 1 < 14; omega
      · show j < 12; omega
theorem sStep_Zk {σ σ' : zS} {k : Nat} {l r : zT} {f : Bool} (pr : Pr σ) (hk : ok1 k l r) (z : Zk σ) (h114 : k ≠ 114) (h106 : k ≠ 106 ∧ k ≠ 107) (hs : sStep σ (zB k l r) f = .inr σ') : Zk σ' := by
  unfold sStep at hs
  dsimp only at hs
  rcases hk with ⟨k1, ⟨x, el, hx⟩, oe, -⟩ | ⟨k1, ⟨x, el, hx⟩, ⟨y, er, hy⟩⟩ | ⟨k1, ⟨x, el, hx⟩, ⟨j, e, er, hj1, hj2, oe, -⟩⟩ | ⟨k1, -⟩ | ⟨k1, okl, okr⟩ | ⟨k1, okl, oe, nh⟩
  · rw [if_pos (by omega)] at hs
    unfold sLet at hs
    split at hs
    · cases hs
    · cases hv : ev σ bn0 bi0 r with
      | inl v => rw [hv] at hs; cases hs
      | inr v =>
        rw [hv] at hs
        dsimp only at hs
        split at hs
        · cases hs
        · cases hs; exact Zk_1 (l2i2 v) (Zk_o (Or.inl rfl) z)
  · rw [if_neg (by omega), if_pos k1] at hs
    subst el; subst er
    have hy6 := z.2 y hy
    have zx := z.1.1 x hx
    have hs' : sPush σ x y (f == decide (k = 102)) = .inr σ' := hs
    clear hs
    unfold sPush at hs'
    split at hs'
    · cases hs'
    · split at hs'
      · split at hs'
        · cases hs'
        · rename_i q1 q2 q3
          cases hs'
          exact Zk_6 (by omega) (Zk_1 (by decide) (Zk_7 zx z))
      · split at hs'
        · cases hs'
        · split at hs'
          · cases hs'
          · rename_i q1 q2 q3 q4
            cases hs'
            exact Zk_6 (by omega) (Zk_1 (z.1.2.2 _ (by omega)) z)
  · rw [if_neg (by omega), if_neg (by omega), if_pos k1] at hs
    split at hs
    · unfold sNew at hs
      split at hs
      · cases hs
      · cases hv : ev σ bn0 bi0 (zl r) with
        | inl v => rw [hv] at hs; cases hs
        | inr v =>
          rw [hv] at hs
          dsimp only at hs
          split at hs
          · cases hs
          · cases hs; exact Zk_new z
    · unfold sEnd at hs
      split at hs
      · cases hs
      · split at hs
        · cases hs
        · cases hv : ev σ bn0 bi0 (zl r) with
          | inl v => rw [hv] at hs; cases hs
          | inr v =>
            rw [hv] at hs
            dsimp only at hs
            split at hs
            · cases hs; exact Zk_o (by omega) z
            · cases hs
  · exact absurd k1 (by omega)
  · rw [if_neg (by omega), if_neg (by omega), if_neg (by omega), if_pos k1] at hs
    unfold sSwap at hs
    cases hu : plv σ l with
    | inl v => rw [hu] at hs; cases hs
    | inr u =>
      rw [hu] at hs
      dsimp only at hs
      cases hv : plv σ r with
      | inl v => rw [hv] at hs; cases hs
      | inr v =>
        rw [hv] at hs
        dsimp only at hs
        split at hs
        · cases hs
        · split at hs
          · cases hs
          · cases hs
            exact Zk_pst (fun q => (pr _ _ okr hv q).2) (Zk_pst (fun q => (pr _ _ okl hu q).2) z)
  · rw [if_neg (by omega), if_neg (by omega), if_neg (by omega), if_neg (by omega)] at hs
    unfold sChg at hs
    cases hu : plv σ l with
    | inl v => rw [hu] at hs; cases hs
    | inr u =>
      rw [hu] at hs
      dsimp only at hs
      split at hs
      · cases hs
      · cases hv : ev σ bn0 (bic u) r with
        | inl v => rw [hv] at hs; cases hs
        | inr v =>
          rw [hv] at hs
          cases hs
          exact Zk_pst (fun q => (pr _ _ okl hu q).2) z
