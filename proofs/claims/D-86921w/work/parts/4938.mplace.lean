/-! m: places -/
def pns (p : zT) : Nat := if zg p = 1 then 0 else zbits (zr p)
def psi (σ : zS) (p : zT) (id : Nat) : Nat := if zg p = 1 then 0 else evS σ (zr p) id
theorem psn_eq {σ : zS} {p : zT} {c : Nat × Nat} : psn σ p c = if c.1 = 0 then (pns p).testBit c.2 else (psi σ p (c.1 - 1)).testBit c.2 := by
  unfold psn pns psi
  by_cases q : zg p = 1
  · simp only [if_pos q, Nat.zero_testBit, ite_self]
  · simp only [if_neg q]
/-- the place that m has found -/
def Pm (h : hp) (c : Nat × Nat) : Prop := (c.1 = 0 ∧ hI h 116 52 = -1 ∧ hI h 116 51 = (c.2 : Nat)) ∨ ∃ id, c.1 = id + 1 ∧ hI h 116 52 = ((id : Nat) : Int) ∧ hI h 116 53 = (c.2 : Nat)
/-- what m has seen -/
def Sn (h : hp) (ns : Nat) (is : Nat → Nat) : Prop := ns < 2 ^ 26 ∧ hI h 116 47 = (ns : Nat) ∧ ∀ id, id < 16 → is id < 2 ^ 12 ∧ hI h 141 id = (is id : Nat)
theorem pl_rng {h : hp} {σ : zS} {p : zT} {c : Nat × Nat} (hV : MV h σ) (ok : okP p) (hc : plv σ p = .inr c) : (c.1 = 0 → c.2 < 26 ∧ σ 0 c.2 = 1) ∧ (c.1 ≠ 0 → c.1 - 1 < 14 ∧ c.2 < 12) := by
  rcases plv_ok ok hc with ⟨x, e1, hx, e2, q⟩ | ⟨x, e, id, j, e1, hx, oe, q1, q2, e2, q3⟩
  · subst e2
    refine ⟨fun _ => ⟨hx, ?_⟩, fun z => absurd rfl z⟩
    obtain ⟨⟨th, a1, a2, a3⟩, -⟩ := hV
    have := a3 x hx
    cases hb : th.testBit x with
    | true => rw [hb] at this; exact this
    | false => rw [hb] at this; exact absurd this q
  · subst e2
    have a := (hV.2.2.1 x (by omega)).2
    have b := (hV.2.2.2.1 id (by omega)).2.2
    refine ⟨fun z => absurd z (Nat.succ_ne_zero _), fun _ => ⟨?_, ?_⟩⟩
    · show id + 1 - 1 < 14; omega
    · show j < 12; omega
theorem c_findP {d r ns n : Nat} {Q : qt} {h : hp} {σ : zS} {p : zT} {is : Nat → Nat} {P S : List (Nat × Nat)} (hS : St h) (hr : r < 10) (hK : RK h r (P ++ (zk p ++ S))) (hP : n = P.length) (hV : MV h σ) (h49 : hI h 116 49 = -1) (ok : okP p) (hs : Sn h ns is) (k1 : ∀ w h', plv σ p = .inl w → w ≠ 0 → FMd h h' → MV h' σ → hI h' 116 46 = (w : Nat) → Q (.inl none) h') (k2 : ∀ c h', plv σ p = .inr c → FMd h h' → MV h' σ → hI h' 116 46 = 0 → hI h' 116 49 = -1 → Pm h' c → Sn h' (ns ||| pns p) (fun id => is id ||| psi σ p id) → (∀ a j, 121 ≤ a → a ≤ 133 → hI h' a j = hI h a j) → Q (.inl none) h') : Wc (d + 51) 185 [vR (some 116), vI (r : Nat), vI (n : Nat)] h Q := by
  refine se_X4_findP hS ?_
  rcases ok with ⟨x, e1, hx⟩ | ⟨x, e, e1, hx, oe⟩
  · subst e1
    have tk : (P ++ (zk (zNam x) ++ S))[n]? = some (1, x) := by
      rw [hP, List.getElem?_append_right (Nat.le_refl _), Nat.sub_self]; rfl
    obtain ⟨t1, t2, t3, t4⟩ := tk_at hr hK tk
    have t2' : hI h 124 (1600 * r + n) = 1 := t2
    have t3' : hI h 125 (1600 * r + n) = (x : Nat) := t3
    rw [t1, Int.toNat_natCast, t2', t3', MV_bit hV hx]
    clear t1
    refine ⟨by omega, by omega, ip rfl ?_⟩
    rw [plv_n] at k1 k2
    have fr : ∀ w, FI [] [46, 51, 52] [] h (sI (sI (sI (sI (sI h 116 46 0) 116 51 (-1)) 116 52 (-1)) 116 51 (x : Nat)) 116 46 w) := fun w => FI_sI (FI_sI (FI_sI (FI_sI (FI_sI (FI_refl h) rfl) rfl) rfl) rfl) rfl
    have fm : ∀ w, FMd h (sI (sI (sI (sI (sI h 116 46 0) 116 51 (-1)) 116 52 (-1)) 116 51 (x : Nat)) 116 46 w) := fun w => FMd_FI (fr w) hS rfl (fun c j z => by unfold pG at z; unfold pMd; simp at z; omega)
    have h01 : σ 0 x = 0 ∨ σ 0 x = 1 := by
      obtain ⟨⟨th, a1, a2, a3⟩, -⟩ := hV
      have := a3 x hx
      rw [this]; exact bI_01 _
    by_cases q : σ 0 x = 1
    · refine ip q ?_
      refine k2 (0, x) _ (by rw [if_neg (by omega)]) (fm 0) (MV_FI (fr 0) rfl rfl hV) (by simp [hI_sI]) (by rw [FI_i (fr 0) rfl]; exact h49) (Or.inl ⟨rfl, by simp [hI_sI], by simp [hI_sI]⟩) ?_ (fun a j a1 a2 => FI_i (fr 0) (by unfold pG; simp; omega))
      obtain ⟨s1, s2, s3⟩ := hs
      have e0 : ns ||| pns (zNam x) = ns := Nat.or_zero ns
      rw [e0]
      exact ⟨s1, by rw [FI_i (fr 0) rfl]; exact s2, fun id hi => by
        have e1 : is id ||| psi σ (zNam x) id = is id := Nat.or_zero _
        dsimp only
        rw [e1, FI_i (fr 0) rfl]; exact s3 id hi⟩
    · refine im q ?_
      exact k1 1 _ (by rw [if_pos (by omega)]) (by decide) (fm 1) (MV_FI (fr 1) rfl rfl hV) (by simp [hI_sI])
  · subst e1
    have tk : (P ++ (zk (zB 3 (zL x) e) ++ S))[n]? = some (3, x) := by
      rw [hP, List.getElem?_append_right (Nat.le_refl _), Nat.sub_self]; rfl
    obtain ⟨t1, t2, t3, t4⟩ := tk_at hr hK tk
    have t2' : hI h 124 (1600 * r + n) = 3 := t2
    have t3' : hI h 125 (1600 * r + n) = (x : Nat) := t3
    rw [t1, Int.toNat_natCast, t2', t3']
    clear t1
    refine ⟨by omega, by omega, im (by decide) ?_⟩
    rw [plv_i] at k1 k2
    have n2 : n_add ((n : Nat) : Int) 2 = ((P ++ [(3, x), (7, 91)]).length : Nat) := by
      rw [na_eq (by omega) (by omega), hP]; simp
    rw [n2]
    clear n2
    obtain ⟨g, eg⟩ : ∃ y, y = sI (sI (sI h 116 46 0) 116 51 (-1)) 116 52 (-1) := ⟨_, rfl⟩
    rw [← eg]
    have fr : FI [] [46, 51, 52] [] h g := by rw [eg]; exact FI_sI (FI_sI (FI_sI (FI_refl h) rfl) rfl) rfl
    have Fg : FMd h g := FMd_FI fr hS rfl (fun c j z => by unfold pG at z; unfold pMd; simp at z; omega)
    have Sg := FMd_St Fg
    have Vg : MV g σ := MV_FI fr rfl rfl hV
    have el : P ++ (zk (zB 3 (zL x) e) ++ S) = (P ++ [(3, x), (7, 91)]) ++ (zk e ++ ((7, 93) :: S)) := by
      show P ++ (((3, x) :: (7, 91) :: (zk e ++ [(7, 93)])) ++ S) = _
      simp
    have Kg : RK g r ((P ++ [(3, x), (7, 91)]) ++ (zk e ++ ((7, 93) :: S))) := by
      rw [← el]; exact RK_eq (fun j => FI_i fr rfl) (fun j => FI_i fr rfl) (fun j => FI_i fr rfl) hK
    obtain ⟨s1, s2, s3⟩ := hs
    have g49 : hI g 116 49 = -1 := by rw [FI_i fr rfl]; exact h49
    refine c_reckon Sg hr Kg (fun y hy => by cases hy; decide) Vg (MB_free g49) oe s1 (by rw [FI_i fr rfl]; exact s2) (is := is) (fun id hi => ⟨(s3 id hi).1, by rw [FI_i fr rfl]; exact (s3 id hi).2⟩) (fun w h1 y hv w0 F b => ?_) (fun i h1 hv F b b47 b141 => ?_)
    · have F1 := FMd_trans Fg (FMd_Fre F Sg)
      refine ss_X4_findP_79 (FMd_St F1) (im (by rw [b]; omega) ?_)
      exact k1 w h1 (by rw [hv]) w0 F1 (MV_FI F rfl rfl Vg) b
    · have F1 := FMd_trans Fg (FMd_Fre F Sg)
      have V1 : MV h1 σ := MV_FI F rfl rfl Vg
      rw [hv] at k1 k2
      dsimp only at k1 k2
      refine ss_X4_findP_79 (FMd_St F1) (ip b ?_)
      obtain ⟨r1, r2, r3⟩ := V1.2.2.1 x (by omega)
      rw [Int.toNat_natCast, r1]
      refine ⟨by omega, ?_⟩
      have fin : ∀ u w, FI [] [46, 52, 53] [] h1 (sI (sI h1 116 52 u) 116 46 w) := fun u w => FI_sI (FI_sI (FI_refl h1) rfl) rfl
      have fin2 : ∀ u w, FI [] [46, 52, 53] [] h1 (sI (sI h1 116 52 u) 116 53 w) := fun u w => FI_sI (FI_sI (FI_refl h1) rfl) rfl
      have fm : ∀ h2, FI [] [46, 52, 53] [] h1 h2 → FMd h h2 := fun h2 f => FMd_trans F1 (FMd_FI f (FMd_St F1) rfl (fun c j z => by unfold pG at z; unfold pMd; simp at z; omega))
      by_cases q1 : σ 2 x < 0
      · refine ip q1 ?_
        exact k1 2 _ (by rw [if_pos q1]) (by decide) (fm _ (fin _ _)) (MV_FI (fin _ _) rfl rfl V1) (by simp [hI_sI])
      · refine im q1 ?_
        obtain ⟨id, hid⟩ : ∃ id : Nat, σ 2 x = (id : Nat) := ⟨(σ 2 x).toNat, by omega⟩
        rw [if_neg q1, hid, Int.toNat_natCast] at k1 k2
        obtain ⟨v3, v4, v5, v6⟩ := V1.2.2.2.1 id (by omega)
        rw [hid, Int.toNat_natCast, v4]
        by_cases q2 : i < 0
        · refine ip q2 ?_
          exact k1 3 _ (by rw [if_pos (Or.inl q2)]) (by decide) (fm _ (fin _ _)) (MV_FI (fin _ _) rfl rfl V1) (by simp [hI_sI])
        · refine im q2 ⟨by omega, ?_⟩
          by_cases q3 : i < σ 4 id
          · refine ip q3 ?_
            have f2 := fin2 ((id : Nat) : Int) (l_l2i i)
            refine k2 (id + 1, i.toNat) _ (by rw [if_neg (by omega)]) (fm _ f2) (MV_FI f2 rfl rfl V1) (by rw [hI_sI, if_neg (by omega), hI_sI, if_neg (by omega)]; exact b) (by rw [FI_i f2 rfl, FI_i F rfl]; exact g49) (Or.inr ⟨id, rfl, by simp [hI_sI], ?_⟩) ⟨?_, ?_, fun id' hi' => ?_⟩ (fun a j a1 a2 => by rw [FI_i f2 (by unfold pG; simp; omega), FI_i F (by unfold pG; simp; omega), FI_i fr (by unfold pG; simp; omega)])
            · rw [hI_sI, if_pos ⟨rfl, rfl⟩, l2i_eq (by omega) (by omega)]
              show i = ((i.toNat : Nat) : Int)
              omega
            · have : zbits e < 2 ^ 26 := zbits_lt e 0 oe.1
              exact Nat.or_lt_two_pow s1 this
            · rw [FI_i f2 rfl]; exact b47
            · refine ⟨(b141 id' hi').1, ?_⟩
              rw [FI_i f2 rfl]; exact (b141 id' hi').2
          · refine im q3 ?_
            exact k1 3 _ (by rw [if_pos (Or.inr (by omega))]) (by decide) (fm _ (fin _ _)) (MV_FI (fin _ _) rfl rfl V1) (by simp [hI_sI])
theorem ix12 {id j : Nat} (h1 : id < 14) (h2 : j < 12) : n_add (n_mul 12 ((id : Nat) : Int)) ((j : Nat) : Int) = ((12 * id + j : Nat) : Int) := by
  rw [nm_eq (by omega) (by omega), na_eq (by omega) (by omega)]; omega
def psg (σ : zS) (c : Nat × Nat) (v : Int) : zS := if c.1 = 0 then su σ 1 c.2 (l_l2i v) else su σ 5 (12 * (c.1 - 1) + c.2) v
theorem psg_cut {σ : zS} {c : Nat × Nat} {v : Int} : psg σ c (cutz (pkd σ c) v) = pst σ c v := by
  unfold psg pst pkd
  by_cases q : c.1 = 0
  · rw [if_pos q, if_pos q, if_pos q]
    have : cutz 0 v = l_l2i v := rfl
    rw [this, l2i2]
  · rw [if_neg q, if_neg q, if_neg q]
theorem c_gives {d : Nat} {Q : qt} {h : hp} {σ : zS} {c : Nat × Nat} {v : Int} (hS : St h) (hV : MV h σ) (hm : Pm h c) (r1 : c.1 = 0 → c.2 < 26) (r2 : c.1 ≠ 0 → c.1 - 1 < 14 ∧ c.2 < 12) (k : ∀ h', FMd h h' → MV h' (psg σ c v) → (∀ j, hI h' 116 j = hI h 116 j) → Q (.inl none) h') : Wc (d + 1) 195 [vR (some 116), vJ v] h Q := by
  refine se_X4_gives hS ?_
  rcases hm with ⟨m1, m2, m3⟩ | ⟨id, m1, m2, m3⟩
  · have hb := r1 m1
    refine ip (by rw [m2]; decide) ?_
    rw [m3, Int.toNat_natCast]
    refine ⟨by omega, k _ (FMd_sI (FMd_refl hS) (by unfold pMd; omega)) ?_ (fun j => by rw [hI_sI, if_neg (by omega)])⟩
    unfold psg
    rw [if_pos m1]; exact MV_v hV
  · have hb := r2 (by omega)
    refine im (by rw [m2]; omega) ?_
    rw [m2, m3, ix12 (by omega) hb.2, Int.toNat_natCast]
    refine ⟨by omega, k _ (FMd_sL (FMd_refl hS) (by unfold pMd; omega)) ?_ (fun j => rfl)⟩
    unfold psg
    rw [if_neg (by omega), show c.1 - 1 = id by omega]; exact MV_i hV
theorem pm_bits {d : Nat} {Q : qt} {h : hp} {v : Int} (hS : St h) (k : Q (.inl (some (vI (bz v)))) h) : Wc (d + 1) 196 [vI v] h Q := by
  refine se_X4_bitsOf hS ?_
  unfold bz at k
  by_cases k0 : v = 0
  · rw [if_pos k0] at k; exact ip k0 k
  rw [if_neg k0] at k
  refine im k0 ?_
  by_cases k1 : v = 1
  · rw [if_pos k1] at k; exact ip k1 k
  rw [if_neg k1] at k
  refine im k1 ?_
  by_cases k3 : v = 3
  · rw [if_pos k3] at k; exact ip k3 k
  rw [if_neg k3] at k
  exact im k3 k
theorem pm_cut {d : Nat} {Q : qt} {h : hp} {kd v : Int} (hS : St h) (k : Q (.inl (some (vJ (cutz kd v)))) h) : Wc (d + 1) 198 [vI kd, vJ v] h Q := by
  refine se_X4_cut hS ?_
  unfold cutz at k
  by_cases k0 : kd = 0
  · rw [if_pos k0] at k; exact ip k0 k
  rw [if_neg k0] at k
  refine im k0 ?_
  by_cases k1 : kd = 1
  · rw [if_pos k1] at k; exact ip k1 k
  rw [if_neg k1] at k
  refine im k1 ?_
  by_cases k2 : kd = 2
  · rw [if_pos k2] at k; exact ip k2 k
  rw [if_neg k2] at k
  refine im k2 ?_
  by_cases k3 : kd = 3
  · rw [if_pos k3] at k; exact ip k3 k
  rw [if_neg k3] at k
  exact im k3 k
theorem pm_turned {d : Nat} {Q : qt} {h : hp} {kd v w : Int} (hS : St h) (k : Q (.inl (some (vJ (tnz kd v w)))) h) : Wc (d + 2) 197 [vI kd, vJ v, vJ w] h Q := by
  refine se_X4_turned hS ?_
  refine pm_bits hS ?_
  have b0 : bz kd ≠ 0 := by have := bz_ok kd; omega
  refine ss_X4_turned_4 hS ⟨b0, ?_⟩
  have k29 : Wp (d + 1) C_X4_turned Q 29 [vI kd, vJ v, vU, vJ w, vU, vI (bz kd), vI (l_l2i (l_rem w (bz kd))), vU, vU] [vI (tz kd w)] h := by
    refine ss_X4_turned_29 hS ?_
    unfold tnz at k
    by_cases t0 : tz kd w = 0
    · rw [if_pos t0] at k; exact ip t0 k
    · rw [if_neg t0] at k
      refine im t0 ?_
      unfold az at k
      by_cases b64 : bz kd = 64
      · rw [if_pos b64] at k
        exact ip b64 (ss_X4_turned_57 hS (pm_cut hS k))
      · rw [if_neg b64] at k
        exact im b64 (ss_X4_turned_57 hS (pm_cut hS k))
  unfold tz at k29
  by_cases t0 : l_l2i (l_rem w (bz kd)) < 0
  · rw [if_pos t0] at k29; exact ip t0 k29
  · rw [if_neg t0] at k29; exact im t0 k29
