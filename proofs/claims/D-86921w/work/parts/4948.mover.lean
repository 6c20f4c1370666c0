/-! m leaves a routine; m goes over an instruction -/
theorem MoQ_to {h : hp} {σ : zS} {r p : Nat} {w f : Bool} {F : zF} {v : Nat ⊕ zO} {Q Q' : qt} (h1 : ∀ x h', Q (.inl (some (vI x))) h' → Q' (.inl (some (vI x))) h') (k : MoQ h σ r p w f F v Q) : MoQ h σ r p w f F v Q' := by
  cases v with
  | inl y => exact fun h' a b c => h1 _ _ (k h' a b c)
  | inr y => exact fun h' a b c => h1 _ _ (k h' a b c)
theorem cl_eq {R : Nat → Option zT} {r p : Nat} {t : zT} {e : zEn} (h1 : R r = some t) (h2 : (zi t (t, 0, 0) 0 0)[p]? = some e) : cl R r p = decide (zg e.2.1 = 106) := by
  unfold cl; rw [h1]; dsimp only; rw [h2]
theorem ix40 {r i : Nat} (hr : r < 10) (hi : i < 40) : n_add (n_mul 40 ((r : Nat) : Int)) ((i : Nat) : Int) = ((40 * r + i : Nat) : Int) := by
  rw [nm_eq (by omega) (by omega), na_eq (by omega) (by omega)]; omega
theorem nm1 {x : Nat} (h : x < 1000) (h0 : 0 < x) : n_sub ((x : Nat) : Int) 1 = ((x - 1 : Nat) : Int) := by rw [ns_eq (by omega) (by omega)]; omega
theorem m_leaves {d r p : Nat} {Q : qt} {h : hp} {R : Nat → Option zT} {σ : zS} {w f : Bool} {F : zF} (hS : St h) (hR : RIs h R) (hV : MV h σ) (hF : F.length ≤ 12) (hk : Fok R w F) (hM : Mr h r p f F) (k : MoQ h σ r p w f F (rLv R σ f F) Q) : Wc (d + 1) 178 [vR (some 116)] h Q := by
  refine se_X4_leaves hS ?_
  obtain ⟨m1, m2, m3, m4, m5⟩ := id hM
  rw [m4, m3]
  cases F with
  | nil => exact ip rfl (k h (FMo_refl hS) hV hM)
  | cons x F =>
    obtain ⟨r', p', w'⟩ := x
    unfold rLv at k
    dsimp only at k
    obtain ⟨k1, ⟨t, e, k2, k3, k4, k5, k6, k7⟩, k8⟩ := hk
    rw [cl_eq k2 k4] at k
    have z := hR r' k1
    rw [k2] at z
    obtain ⟨a1, a2, a3, a4, a5, a6, b1, b2, b3, b4, b5⟩ := z
    have hl : F.length + 1 ≤ 12 := hF
    have hp' : p' < 40 := by
      have := (zi_len t).1 a1 (t, 0, 0) 0 0
      by_cases q : p' < (zi t (t, 0, 0) 0 0).length
      · omega
      · rw [List.getElem?_eq_none (by omega)] at k4; cases k4
    have me := b5 p' e k4
    rw [Nat.zero_add] at me
    have e7 : hI h 127 (40 * r' + p') = (if zg e.2.1 = 106 then 6 else 7) := by
      rw [me.1]
      unfold dz
      rw [if_pos k5]
      rcases k6 with q | q
      · rw [if_pos (by omega), if_pos q, q]; rfl
      · rw [if_pos (by omega), if_neg (by omega), q]; rfl
    have hlen : (((r', p', w') :: F).length : Nat) = F.length + 1 := rfl
    refine im (by rw [hlen]; omega) ?_
    have k23 : Wp d C_X4_leaves Q 23 [vR (some 116), vU, vU, vU] [vI (bI f)] h := by
      refine ss_X4_leaves_23 hS ?_
      rw [m4, hlen, nm1 (by omega) (by omega), Nat.add_sub_cancel, Int.toNat_natCast]
      have q1 : hI h 142 F.length = (r' : Nat) := m5.1
      have q2 : hI h 143 F.length = (p' : Nat) := m5.2.1
      rw [q1, q2, ix40 k1 hp', Int.toNat_natCast, e7]
      refine ⟨by omega, by omega, by omega, ?_⟩
      obtain ⟨g, eg⟩ : ∃ x, x = sI (sI h 116 59 (F.length : Nat)) 116 55 (r' : Nat) := ⟨_, rfl⟩
      rw [← eg]
      have Fg : FMo h g := by rw [eg]; exact FMo_sI (FMo_sI (FMo_refl hS) (by unfold pMo; omega)) (by unfold pMo; omega)
      have Sg := FMo_St Fg
      have Vg : MV g σ := by rw [eg]; exact MV_r (by decide) (MV_r (by decide) hV)
      have g57 : hI g 116 57 = sg f := by rw [eg]; simp [hI_sI]; exact m3
      have g55 : hI g 116 55 = (r' : Nat) := by rw [eg]; simp [hI_sI]
      have g59 : hI g 116 59 = (F.length : Nat) := by rw [eg]; simp [hI_sI]
      have gF : MFr g F := MFr_eq (fun j hj => by rw [eg]; constructor <;> rw [hI_sI, if_neg (by omega), hI_sI, if_neg (by omega)]) m5.2.2
      clear eg
      have fin : ∀ (q : Nat) (c : Bool), c = decide (zg e.2.1 = 106) → q = (if f = c then p' + 1 else p') → ∀ v1 v2 : Int, Wp d C_X4_leaves Q 95 [vR (some 116), vI v1, vI v2, vI (bI (!c))] [vI (q : Nat), vR (some 116)] g := by
        intro q c ec eq v1 v2
        refine ss_X4_leaves_95 Sg ?_
        have last : ∀ x : Int, x = sg (f == (w == w')) → Wp d C_X4_leaves Q 116 [vR (some 116), vI v1, vI v2, vI (bI (!c))] [vI x, vR (some 116)] (sI g 116 56 (q : Nat)) := by
          intro x ex
          refine ss_X4_leaves_116 (St_sI Sg (by omega)) ?_
          rw [← ec] at k
          refine k _ (FMo_sI (FMo_sI Fg (by unfold pMo; omega)) (by unfold pMo; omega)) (MV_r (by decide) (MV_r (by decide) Vg)) ⟨?_, ?_, ?_, ?_, ?_⟩
          · rw [hI_sI, if_neg (by omega), hI_sI, if_neg (by omega)]; exact g55
          · rw [hI_sI, if_neg (by omega), hI_sI, if_pos ⟨rfl, rfl⟩, eq]
          · rw [hI_sI, if_pos ⟨rfl, rfl⟩, ex]
          · rw [hI_sI, if_neg (by omega), hI_sI, if_neg (by omega)]; exact g59
          · exact MFr_eq (fun j _ => by rw [hI_sI, if_neg (by omega), hI_sI, if_neg (by omega), hI_sI, if_neg (by omega), hI_sI, if_neg (by omega)]; exact ⟨rfl, rfl⟩) gF
        rw [← ec] at k7
        cases c with
        | true =>
          refine ip rfl ?_
          rw [g57]
          exact last _ (by rw [k7]; cases f <;> cases w' <;> rfl)
        | false =>
          refine im (by decide) ?_
          rw [g57, sg_n]
          exact last _ (by rw [k7]; cases f <;> cases w' <;> rfl)
      have k81 : ∀ c : Bool, c = decide (zg e.2.1 = 106) → Wp d C_X4_leaves Q 81 [vR (some 116), vI (bI f), vI (p' : Nat), vU] [vI (bI (!c))] g := by
        intro c ec
        refine ss_X4_leaves_81 Sg ?_
        rw [n1 (show p' < 1000 by omega)]
        by_cases fc : f = c
        · have := fin (p' + 1) c ec (by rw [if_pos fc]) (bI f) (p' : Nat)
          refine im ?_ this
          rw [fc]; cases c <;> decide
        · have := fin p' c ec (by rw [if_neg fc]) (bI f) (p' : Nat)
          refine ip ?_ this
          cases f <;> cases c <;> first | exact absurd rfl fc | rfl
      rcases k6 with q | q
      · rw [if_pos q]
        exact im (by decide) (k81 true (by rw [decide_eq_true q]))
      · rw [if_neg (show ¬ zg e.2.1 = 106 by omega)]
        exact ip rfl (k81 false (by rw [decide_eq_false (by omega)]))
    cases f with
    | true => exact ip rfl k23
    | false => exact im (by decide) k23
theorem m_over {d r i p : Nat} {Q : qt} {h : hp} {R : Nat → Option zT} {σ : zS} {w f : Bool} {F : zF} {t : zT} {e : zEn} (hS : St h) (hR : RIs h R) (hV : MV h σ) (hZ : Zk σ) (hr : r < 10) (ht : R r = some t) (ho : zord t = false) (he : (zi t (t, 0, 0) 0 0)[i]? = some e) (hF : F.length ≤ 12) (hM : Mr h r p f F) (hp : p ≤ 40) (hip : (f = true → i = p) ∧ (f = false → p = i + 1)) (k : MoQ h σ r p w f F (rStep R σ r w F f i e) Q) : Wc (d + 70) 179 [vR (some 116), vI (i : Nat)] h Q := by
  have z := hR r hr
  rw [ht] at z
  obtain ⟨a1, a2, a3, a4, a5, a6, b1, b2, b3, b4, b5⟩ := z
  rw [ho] at a2
  obtain ⟨i1, ⟨P, S, i2, i3⟩, i4, i5, i6, sh⟩ := zi_at a1 a2 he
  have hi : i < 40 := by omega
  have me := b5 i e he
  rw [Nat.zero_add] at me
  obtain ⟨m1, m2, m3, m4, m5⟩ := id hM
  rw [i2] at b3
  refine se_X4_over hS ?_
  rw [m1, m3, ix40 hr hi]
  have k23 : Wp (d + 69) C_X4_over Q 23 [vR (some 116), vI (i : Nat), vI ((40 * r + i : Nat) : Int), vU, vU, vU, vU, vU, vU, vU, vU] [vI (bI f)] h := by
    refine ss_X4_over_23 hS ?_
    rw [Int.toNat_natCast, me.1]
    have bd : (0 : Int) ≤ ((40 * r + i : Nat) : Int) ∧ ((40 * r + i : Nat) : Int) < 400 := by omega
    refine ⟨bd, ?_⟩
    obtain ⟨n, T, b, q⟩ := e
    dsimp only at i2 i3 i4 i6 sh b3
    unfold rStep at k
    dsimp only at k
    rcases sh with ⟨n0, kk, l, rr, eT, hk, h114⟩ | ⟨hn, kk, k2, k3, a, s, t', c, hkk, eT, oa, oc⟩
    · subst n0; subst eT
      rw [if_pos rfl] at k
      by_cases hc : kk = 106 ∨ kk = 107
      · have hc' : zg (zB kk l rr) = 106 ∨ zg (zB kk l rr) = 107 := hc
        rw [if_pos hc'] at k
        obtain ⟨x, el, er, hx⟩ : ∃ x, l = zL x ∧ rr = zL 0 ∧ x < 10 := by
          rcases hk with ⟨y, -⟩ | ⟨y, -⟩ | ⟨y, -⟩ | ⟨-, ⟨x, y1, y2⟩, y3⟩ | ⟨y, -⟩ | ⟨y, -⟩
          · omega
          · omega
          · omega
          · exact ⟨x, y1, y3, y2⟩
          · omega
          · omega
        subst el; subst er
        have tk : zk (zB kk (zL x) (zL 0)) = [(5, kk - 100), (2, x), (7, 59)] := by rcases hc with y | y <;> subst y <;> rfl
        rw [tk] at b3
        have ed : dz (0, zB kk (zL x) (zL 0), b, q) = ((kk - 100 : Nat) : Int) := by
          unfold dz; dsimp only
          rw [if_pos rfl, if_pos (show zg (zB kk (zL x) (zL 0)) < 130 by show kk < 130; omega)]
          show ((kk : Nat) : Int) - 100 = _
          omega
        have eo : oz (0, zB kk (zL x) (zL 0), b, q) = ((P.length + 1 : Nat) : Int) := by
          unfold oz; dsimp only
          rw [if_pos (show 0 = 0 ∧ zg (zB kk (zL x) (zL 0)) < 130 from ⟨rfl, by show kk < 130; omega⟩), i3]; rfl
        have tq : (P ++ ([(5, kk - 100), (2, x), (7, 59)] ++ S))[P.length + 1]? = some (2, x) := by rw [at_app]; rfl
        obtain ⟨t1, t2, t3, t4⟩ := tk_at hr b3 tq
        have t3' : hI h 125 (1600 * r + (P.length + 1)) = (x : Nat) := t3
        have k46 : Wp (d + 69) C_X4_over Q 46 [vR (some 116), vI (i : Nat), vI ((40 * r + i : Nat) : Int), vI (bI f), vI ((kk - 100 : Nat) : Int), vU, vU, vU, vU, vU, vU] [] h := by
          refine ss_X4_over_46 hS ?_
          rw [Int.toNat_natCast, me.2.1, eo, m1, t1, Int.toNat_natCast, t3']
          clear t1
          refine ⟨bd, by omega, ?_⟩
          have ent : ∀ c : Bool, c = decide (kk = 106) → Wp (d + 69) C_X4_over Q 80 [vR (some 116), vI (i : Nat), vI ((40 * r + i : Nat) : Int), vI (bI f), vI ((kk - 100 : Nat) : Int), vU, vU, vU, vU, vU, vU] [vI (bI (!c)), vI (i : Nat), vI (x : Nat), vR (some 116)] h := by
            intro c ec
            refine ss_X4_over_80 hS ?_
            refine m_enters (d := d + 68) hS hR hV hx hF hM (w := w) (MoQ_to (Q := Q) (fun _ _ z => z) ?_)
            rw [ec]; exact k
          rcases hc with y | y
          · subst y
            exact im (by decide) (ent true rfl)
          · subst y
            exact ip rfl (ent false rfl)
        rw [ed]
        rcases hc with y | y
        · subst y; exact ip rfl k46
        · subst y; exact im (by decide) (ip rfl k46)
      · have hc' : ¬ (zg (zB kk l rr) = 106 ∨ zg (zB kk l rr) = 107) := hc
        rw [if_neg hc'] at k
        have h106 : kk ≠ 106 ∧ kk ≠ 107 := by omega
        have k98 : ∀ v4 : Int, Wp (d + 69) C_X4_over Q 98 [vR (some 116), vI (i : Nat), vI ((40 * r + i : Nat) : Int), vI (bI f), vI v4, vU, vU, vU, vU, vU, vU] [] h := by
          intro v4
          refine ss_X4_over_98 hS ?_
          rw [m1]
          refine m_step (d := d + 9) hS hr hi b3 i3 hV hZ.1 hZ.2 hk h114 h106 me ?_
          cases hs : sStep σ (zB kk l rr) f with
          | inl x =>
            rw [hs] at k
            intro h' F' V'
            have x0 := (sStep_nz hk h114 h106 hs).1
            have M' := Mr_d F' hS hM
            refine ss_X4_over_108 (FMd_St F') (im (by omega) ?_)
            refine ss_X4_over_128 (FMd_St F') ?_
            rw [M'.2.1, na_eq (by omega) (by omega), Int.add_zero]
            refine k _ (FMo_sI (FMo_d F') (by unfold pMo; omega)) (MV_r (by decide) V') ⟨?_, ?_, ?_, ?_, ?_⟩
            · rw [hI_sI, if_neg (by omega)]; exact M'.1
            · rw [hI_sI, if_pos ⟨rfl, rfl⟩]
            · rw [hI_sI, if_neg (by omega)]; exact M'.2.2.1
            · rw [hI_sI, if_neg (by omega)]; exact M'.2.2.2.1
            · exact MFr_eq (fun j _ => by rw [hI_sI, if_neg (by omega), hI_sI, if_neg (by omega)]; exact ⟨rfl, rfl⟩) M'.2.2.2.2
          | inr σ' =>
            rw [hs] at k
            intro h' F' V'
            have M' := Mr_d F' hS hM
            refine ss_X4_over_108 (FMd_St F') (ip rfl ?_)
            refine ss_X4_over_128 (FMd_St F') ?_
            rw [M'.2.1, M'.2.2.1]
            have en : n_add ((p : Nat) : Int) (sg f) = (((if f = true then i + 1 else i) : Nat) : Int) := by
              cases f with
              | true => have := hip.1 rfl; show n_add ((p : Nat) : Int) 1 = ((i + 1 : Nat) : Int); rw [na_eq (by omega) (by omega)]; omega
              | false => have := hip.2 rfl; show n_add ((p : Nat) : Int) (-1) = ((i : Nat) : Int); rw [na_eq (by omega) (by omega)]; omega
            rw [en]
            have ww : (f == (w == w)) = f := by cases f <;> cases w <;> rfl
            refine k _ (FMo_sI (FMo_d F') (by unfold pMo; omega)) (MV_r (by decide) V') ⟨?_, ?_, ?_, ?_, ?_⟩
            · rw [hI_sI, if_neg (by omega)]; exact M'.1
            · rw [hI_sI, if_pos ⟨rfl, rfl⟩]
            · show _ = sg (f == (w == w))
              rw [hI_sI, if_neg (by omega), ww]; exact M'.2.2.1
            · rw [hI_sI, if_neg (by omega)]; exact M'.2.2.2.1
            · exact MFr_eq (fun j _ => by rw [hI_sI, if_neg (by omega), hI_sI, if_neg (by omega)]; exact ⟨rfl, rfl⟩) M'.2.2.2.2
        have hk2 := ok1_k hk
        by_cases k130 : kk < 130
        · have ed : dz (0, zB kk l rr, b, q) = ((kk - 100 : Nat) : Int) := by
            unfold dz; dsimp only
            rw [if_pos rfl, if_pos (show zg (zB kk l rr) < 130 from k130)]
            show ((kk : Nat) : Int) - 100 = _
            omega
          rw [ed]
          have c6 : ¬ ((kk - 100 : Nat) : Int) = 6 := by omega
          have c7 : ¬ ((kk - 100 : Nat) : Int) = 7 := by omega
          have c8 : ((kk - 100 : Nat) : Int) < 8 := by omega
          rw [if_neg c6, if_neg c7, if_pos c8]
          exact k98 _
        · have ed : dz (0, zB kk l rr, b, q) = ((kk - 110 : Nat) : Int) := by
            unfold dz; dsimp only
            rw [if_pos rfl, if_neg (show ¬ zg (zB kk l rr) < 130 from k130)]
            show ((kk : Nat) : Int) - 110 = _
            omega
          rw [ed]
          have c6 : ¬ ((kk - 110 : Nat) : Int) = 6 := by omega
          have c7 : ¬ ((kk - 110 : Nat) : Int) = 7 := by omega
          have c8 : ¬ ((kk - 110 : Nat) : Int) < 8 := by omega
          have c20 : ¬ ((kk - 110 : Nat) : Int) < 20 := by omega
          rw [if_neg c6, if_neg c7, if_neg c8, if_neg c20]
          exact k98 _
    · have n0 : ¬ n = 0 := by omega
      rw [if_neg n0] at k
      have hzc := zc_fk (e := a) (s := s) (t := t') (e2 := c) hkk
      have hzk := zk_fk (e := a) (s := s) (t := t') (e2 := c) hkk
      have hg : zg T = 108 ∨ zg T = 111 := by
        rw [eT]; show kk = 108 ∨ kk = 111
        unfold fkk at hkk; omega
      have hm : zm T b = b + 1 + zc s := by
        unfold zm
        rw [if_neg (by omega), eT]; rfl
      have hze : ze T b = b + zc T - 1 := rfl
      have hzT : zc T = 3 + (zc s + zc t') := by rw [eT]; exact hzc
      have hza : zl T = a ∧ zr (zr (zr T)) = c ∧ zl (zr T) = s ∧ zl (zr (zr T)) = t' := by rw [eT]; exact ⟨rfl, rfl, rfl, rfl⟩
      obtain ⟨e1, e2, e3, e4⟩ := me
      obtain ⟨e130, e131, e132, e133⟩ := e4 n0
      have d8 : 8 ≤ dz (n, T, b, q) ∧ dz (n, T, b, q) < 14 := by
        unfold dz; dsimp only
        rcases hn with y | y | y <;> subst y
        · rw [if_neg (by decide), if_pos rfl]; omega
        · rw [if_neg (by decide), if_neg (by decide), if_pos rfl]
          rcases hg with y | y
          · rw [if_pos y]; omega
          · rw [if_neg (by omega), if_pos y]; omega
        · rw [if_neg (by decide), if_neg (by decide), if_neg (by decide)]
          rcases hg with y | y
          · rw [if_pos y]; omega
          · rw [if_neg (by omega), if_pos y]; omega
      rw [if_neg (by omega), if_neg (by omega), if_neg (by omega), if_pos (by omega)]
      refine c_seeN hS (fun h1 F1 Z1 => ?_)
      have M1 : FMd h h1 := FMd_FI F1 hS rfl (fun c j z => by unfold pG at z; unfold pMd; simp at z; omega)
      have S1 := FMd_St M1
      have V1 : MV h1 σ := MV_FI F1 rfl rfl hV
      have K1 : RK h1 r (P ++ (zk T ++ S)) := RK_eq (fun j => FI_i F1 rfl) (fun j => FI_i F1 rfl) (fun j => FI_i F1 rfl) b3
      rw [eT, hzk] at K1
      have k206 : ∀ (E : zT) (n' : Nat) (v5 : Int) (X Y : List (Nat × Nat)), RK h1 r (X ++ (zk E ++ Y)) → nxt zsp Y → okE E → n' = X.length → cE (n, T, b, q) f = E → Wp (d + 69) C_X4_over Q 206 [vR (some 116), vI (i : Nat), vI ((40 * r + i : Nat) : Int), vI (bI f), vI (dz (n, T, b, q)), vI v5, vU, vU, vU, vU, vU] [vI (n' : Nat), vI (r : Nat), vR (some 116)] h1 := by
        intro E n' v5 X Y KE nY oE en eE
        refine ss_X4_over_206 S1 ?_
        unfold sCor at k
        rw [eE] at k
        refine c_rk (d := d + 19) S1 hr KE nY V1 Z1 oE en (fun x h2 y hv x0 F2 V2 b46 fr => ?_) (fun v h2 hv F2 V2 b46 fr => ?_)
        · rw [hv] at k
          have M2 := FMd_trans M1 F2
          refine ss_X4_over_209 (FMd_St M2) (im (by rw [b46]; omega) ?_)
          rw [b46]
          exact k h2 (FMo_d M2) V2 (Mr_d M2 hS hM)
        · rw [hv] at k
          dsimp only at k
          have M2 := FMd_trans M1 F2
          have S2 := FMd_St M2
          have M' := Mr_d M2 hS hM
          refine ss_X4_over_209 S2 (ip b46 ?_)
          have fin : ∀ s' : Bool, s' = decide (v ≠ 0) → Wp (d + 69) C_X4_over Q 235 [vR (some 116), vI (i : Nat), vI ((40 * r + i : Nat) : Int), vI (bI f), vI (dz (n, T, b, q)), vI v5, vJ v, vU, vU, vU, vU] [vI (bI s')] h2 := by
            intro s' es
            refine m_c235 S2 hr hi hn hg i5 (by rw [fr 131 _ (by decide) (by decide), FI_i F1 rfl]; exact e131) (by rw [fr 132 _ (by decide) (by decide), FI_i F1 rfl]; exact e132) (by rw [fr 133 _ (by decide) (by decide), FI_i F1 rfl]; exact e133) (by omega) (fun y => ?_) (fun x y => ?_)
            · rw [← es, y] at k
              refine k _ (FMo_sI (FMo_d M2) (by unfold pMo; omega)) (MV_r (by decide) V2) ⟨?_, ?_, ?_, ?_, ?_⟩
              · rw [hI_sI, if_neg (by omega)]; exact M'.1
              · rw [hI_sI, if_pos ⟨rfl, rfl⟩]; exact M'.2.1
              · rw [hI_sI, if_neg (by omega)]; exact M'.2.2.1
              · rw [hI_sI, if_neg (by omega)]; exact M'.2.2.2.1
              · exact MFr_eq (fun j _ => by rw [hI_sI, if_neg (by omega), hI_sI, if_neg (by omega)]; exact ⟨rfl, rfl⟩) M'.2.2.2.2
            · rw [← es, y] at k
              have ww : (f == (w == w)) = f := by cases f <;> cases w <;> rfl
              refine k _ (FMo_sI (FMo_d M2) (by unfold pMo; omega)) (MV_r (by decide) V2) ⟨?_, ?_, ?_, ?_, ?_⟩
              · rw [hI_sI, if_neg (by omega)]; exact M'.1
              · rw [hI_sI, if_pos ⟨rfl, rfl⟩]
              · show _ = sg (f == (w == w))
                rw [hI_sI, if_neg (by omega), ww]; exact M'.2.2.1
              · rw [hI_sI, if_neg (by omega)]; exact M'.2.2.2.1
              · exact MFr_eq (fun j _ => by rw [hI_sI, if_neg (by omega), hI_sI, if_neg (by omega)]; exact ⟨rfl, rfl⟩) M'.2.2.2.2
          by_cases v0 : v = 0
          · exact ip v0 (fin false (by rw [decide_eq_false (fun y => y v0)]))
          · exact im v0 (fin true (by rw [decide_eq_true v0]))
      have k179 : ∀ g : Bool, cE (n, T, b, q) f = (if g = true then zl T else zr (zr (zr T))) → Wp (d + 69) C_X4_over Q 179 [vR (some 116), vI (i : Nat), vI ((40 * r + i : Nat) : Int), vI (bI f), vI (dz (n, T, b, q)), vU, vU, vU, vU, vU, vU] [vI (bI g)] h1 := by
        intro g eg
        rw [hza.1, hza.2.1] at eg
        refine ss_X4_over_179 S1 ?_
        rw [Int.toNat_natCast, FI_i F1 (b := 130) rfl, FI_i F1 (b := 129) rfl, FI_i F1 (b := 116) (j := 55) rfl, m1, e130, e3]
        cases g with
        | true =>
          have ee : ez (n, T, b, q) = ((P.length + 1 : Nat) : Int) := by
            unfold ez; dsimp only
            rw [if_neg n0, i3]; rfl
          rw [ee]
          refine im (by decide) ⟨bd, k206 a (P.length + 1) _ (P ++ [(5, kk - 100)]) _ (by
            have := K1
            rw [show P ++ ((5, kk - 100) :: (zk a ++ (7, 123) :: (zk s ++ (7, 125) :: (5, zw1 kk) :: (7, 123) :: (zk t' ++ (7, 125) :: (5, zw2 kk) :: (zk c ++ [(7, 59)])))) ++ S) = (P ++ [(5, kk - 100)]) ++ (zk a ++ ((7, 123) :: (zk s ++ (7, 125) :: (5, zw1 kk) :: (7, 123) :: (zk t' ++ (7, 125) :: (5, zw2 kk) :: (zk c ++ (7, 59) :: S)))))  by simp] at this
            exact this) nx123 oa (by simp) eg⟩
        | false =>
          have ee : lz (n, T, b, q) = ((P.length + ((zk a).length + (zk s).length + (zk t').length + 7) : Nat) : Int) := by
            unfold lz; dsimp only
            rw [if_pos hg, i3, hza.1, hza.2.2.1, hza.2.2.2]; omega
          rw [ee]
          refine ip rfl ⟨bd, k206 c (P.length + ((zk a).length + (zk s).length + (zk t').length + 7)) _ (P ++ ((5, kk - 100) :: (zk a ++ (7, 123) :: (zk s ++ (7, 125) :: (5, zw1 kk) :: (7, 123) :: (zk t' ++ [(7, 125), (5, zw2 kk)]))))) _ (by
            have := K1
            rw [show P ++ ((5, kk - 100) :: (zk a ++ (7, 123) :: (zk s ++ (7, 125) :: (5, zw1 kk) :: (7, 123) :: (zk t' ++ (7, 125) :: (5, zw2 kk) :: (zk c ++ [(7, 59)])))) ++ S) = (P ++ ((5, kk - 100) :: (zk a ++ (7, 123) :: (zk s ++ (7, 125) :: (5, zw1 kk) :: (7, 123) :: (zk t' ++ [(7, 125), (5, zw2 kk)]))))) ++ (zk c ++ ((7, 59) :: S)) by simp] at this
            exact this) nx59 oc (by simp; omega) eg⟩
      refine ss_X4_over_139 S1 ?_
      clear k k206 d8 e1 e2 e3 e4 e130 e131 e132 e133 K1 hm hze hzT hza hzc hzk i5 b3
      have g8 : zg T = 111 → ¬ zg T = 108 := fun y => by omega
      rcases hg with g | g
      · rcases hn with y | y | y <;> subst y
        · have ed : dz (1, T, b, q) = 8 := by unfold dz; dsimp only; rw [if_neg (by decide), if_pos rfl, g]; rfl
          have c0 := k179 true (by unfold cE; rw [if_pos g]; rfl)
          rw [ed] at c0 ⊢
          exact ip rfl (ss_X4_over_174 S1 c0)
        · have ed : dz (2, T, b, q) = 9 := by unfold dz; dsimp only; rw [if_neg (by decide), if_neg (by decide), if_pos rfl, if_pos g]
          cases f with
          | true =>
            have c0 := k179 false (by unfold cE; rw [if_pos g]; rfl)
            rw [ed] at c0 ⊢
            exact im (by decide) (im (by decide) (im (by decide) (im (by decide) (ss_X4_over_178 S1 c0))))
          | false =>
            have c0 := k179 true (by unfold cE; rw [if_pos g]; rfl)
            rw [ed] at c0 ⊢
            exact im (by decide) (im (by decide) (ip rfl (ip rfl (ss_X4_over_174 S1 c0))))
        · have ed : dz (3, T, b, q) = 10 := by unfold dz; dsimp only; rw [if_neg (by decide), if_neg (by decide), if_neg (by decide), if_pos g]
          have c0 := k179 false (by unfold cE; rw [if_pos g]; rfl)
          rw [ed] at c0 ⊢
          cases f with
          | true => exact im (by decide) (im (by decide) (im (by decide) (im (by decide) (ss_X4_over_178 S1 c0))))
          | false => exact im (by decide) (im (by decide) (ip rfl (im (by decide) (ss_X4_over_178 S1 c0))))
      · have g9 := g8 g
        rcases hn with y | y | y <;> subst y
        · have ed : dz (1, T, b, q) = 11 := by unfold dz; dsimp only; rw [if_neg (by decide), if_pos rfl, g]; rfl
          have c0 := k179 true (by unfold cE; rw [if_neg g9]; rfl)
          rw [ed] at c0 ⊢
          exact im (by decide) (ip rfl (ss_X4_over_174 S1 c0))
        · have ed : dz (2, T, b, q) = 13 := by unfold dz; dsimp only; rw [if_neg (by decide), if_neg (by decide), if_pos rfl, if_neg g9, if_pos g]
          have c0 := k179 false (by unfold cE; rw [if_neg g9]; rfl)
          rw [ed] at c0 ⊢
          cases f with
          | true => exact im (by decide) (im (by decide) (im (by decide) (im (by decide) (ss_X4_over_178 S1 c0))))
          | false => exact im (by decide) (im (by decide) (ip rfl (im (by decide) (ss_X4_over_178 S1 c0))))
        · have ed : dz (3, T, b, q) = 12 := by unfold dz; dsimp only; rw [if_neg (by decide), if_neg (by decide), if_neg (by decide), if_neg g9, if_pos g]
          cases f with
          | true =>
            have c0 := k179 true (by unfold cE; rw [if_neg g9]; rfl)
            rw [ed] at c0 ⊢
            exact im (by decide) (im (by decide) (im (by decide) (ip rfl (ss_X4_over_174 S1 c0))))
          | false =>
            have c0 := k179 false (by unfold cE; rw [if_neg g9]; rfl)
            rw [ed] at c0 ⊢
            exact im (by decide) (im (by decide) (ip rfl (im (by decide) (ss_X4_over_178 S1 c0))))
  cases f with
  | true => exact ip rfl k23
  | false => exact im (by decide) k23
