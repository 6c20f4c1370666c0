/-! x goes over an instruction, and takes one step -/
theorem x_instr {d lo hi r i p c : Nat} {Q : qt} {h : hp} {R : Nat → Option zT} {σ : zS} {ρ : Nat → Nat} {w f : Bool} {F : zF} {t : zT} {e : zEn} (hS : St h) (rI : RIs h R) (hZ : XZ h σ ρ) (hFr : XFr h) (hX : Xr h r p w F) (hF : F.length ≤ 12) (ok : okS t 0) (un : zun false t) (hz : zc t ≤ 40) (hzk : (zk t).length ≤ 1600) (he : (zi t (t, 0, 0) 0 0)[i]? = some e) (rc : RCe h lo hi e c) (hl : 145 ≤ lo) (hh : hi ≤ hN h) (hc : 145 ≤ c) (cN : c < hN h) (hd : 1640 ≤ d) (hb : hU h + 25 ≤ BUD) (k : XoQ h ρ σ p (rStep R σ r w F f i e) Q) : vsel [(35, 381), (36, 383), (37, 387)] (hT h c).1 fun y => Wc d y [vR (some c), vR (some 68), vI (i : Nat), vI (bI f)] h Q := by
  obtain ⟨i1, ⟨P, S, i2, -⟩, i4, i5, i6, sh⟩ := zi_at ok un he
  have hlen : (zk e.2.1).length ≤ 1600 := by
    rw [i2] at hzk
    simp only [List.length_append] at hzk
    omega
  unfold rStep at k
  rcases sh with ⟨n0, kk, l, rr, eT, hk, h114⟩ | ⟨hn, kk, k2, k3, a, s, t', z, hkk, eT, oa, oz⟩
  · rw [if_pos n0] at k
    unfold RCe at rc
    rw [if_pos n0] at rc
    obtain ⟨tc, a, f0, rt⟩ := rc
    rw [eT] at k tc rt hlen
    by_cases hcl : kk = 106 ∨ kk = 107
    · have hcl' : zg (zB kk l rr) = 106 ∨ zg (zB kk l rr) = 107 := hcl
      rw [if_pos hcl'] at k tc
      have rg := RT_rng hk rt
      rcases RT_1 hk rt with ⟨y, -⟩ | ⟨y, -⟩ | ⟨y, -⟩ | ⟨y, -⟩ | ⟨-, x, el, er, hx, ta, a0, a1⟩ | ⟨y, -⟩ | ⟨y, -⟩
      · omega
      · omega
      · omega
      · omega
      · subst el
        refine vsel_of (y := 381) (by rw [tc]; rfl) ?_
        have eg : hI h a 1 = bI (decide (kk = 106)) := by
          rw [a1]
          by_cases q : kk = 106
          · rw [if_pos q, decide_eq_true q]; rfl
          · rw [if_neg q, decide_eq_false q]; rfl
        exact x_enter hS rI hZ hFr hX hF tc hc f0 ta (by omega) hx a0 eg (by omega) k
      · omega
      · omega
    · have hcl' : ¬ (zg (zB kk l rr) = 106 ∨ zg (zB kk l rr) = 107) := hcl
      rw [if_neg hcl'] at k tc
      obtain ⟨d, rfl⟩ : ∃ e, d = e + 1 := ⟨d - 1, by omega⟩
      refine vsel_of (y := 383) (by rw [tc]; rfl) (se_X36_go hS tc ?_)
      rw [f0, ofR_some, ofR_some]
      have tcr : ∀ {h'}, FX (pEx h) h h' → c < hN h → hT h' c = (36, 0) := fun F' q => ((F'.2.2.2 c q).1).trans tc
      cases f with
      | true =>
        refine im (by decide) ?_
        have xs := fun (Q' : qt) (kq : DoQ h ρ σ (sStep σ (zB kk l rr) true) Q') => x_step (d := d) (f := true) hS hZ hFr hl hh hk h114 (by omega) rt (by omega) hb kq
        refine xs _ ?_
        cases hs : sStep σ (zB kk l rr) true with
        | inl x => rw [hs] at k; exact fun h' F' n' u' Z' => k h' F' (by omega) Z'
        | inr σ' =>
          rw [hs] at k
          intro h' ρ' F' fr' u' Z'
          refine ss_X36_go_12 F'.2.2.1 (tcr F' cN) ?_
          rw [n1 (by omega)]
          exact k h' ρ' (FXo_E F') u' fr' Z' (Xr_E F' hS hX)
      | false =>
        refine ip rfl ?_
        have xs := fun (Q' : qt) (kq : DoQ h ρ σ (sStep σ (zB kk l rr) false) Q') => x_step (d := d) (f := false) hS hZ hFr hl hh hk h114 (by omega) rt (by omega) hb kq
        refine xs _ ?_
        cases hs : sStep σ (zB kk l rr) false with
        | inl x => rw [hs] at k; exact fun h' F' n' u' Z' => k h' F' (by omega) Z'
        | inr σ' =>
          rw [hs] at k
          intro h' ρ' F' fr' u' Z'
          refine ss_X36_go_24 F'.2.2.1 (tcr F' cN) ?_
          exact k h' ρ' (FXo_E F') u' fr' Z' (Xr_E F' hS hX)
  · rw [if_neg (by omega)] at k
    have tc : hT h c = (37, 0) := by
      unfold RCe at rc
      rw [if_neg (by omega)] at rc
      exact rc.1
    refine vsel_of (y := 387) (by rw [tc]; rfl) ?_
    refine x_corner hS hZ hFr hn hkk eT oa oz rc (by omega) (by omega) ?_
    cases hs : sCor σ e f with
    | inl x => rw [hs] at k; exact k h (FX_refl hS) (by omega) hZ
    | inr q => rw [hs] at k; exact k h ρ (FX_refl hS) (by omega) hFr hZ hX
theorem rf_t {h : hp} (hS : St h) {x : Nat} (hx : x < 17) : hT h (85 + x) = (2, 0) := by
  have : x = 0 ∨ x = 1 ∨ x = 2 ∨ x = 3 ∨ x = 4 ∨ x = 5 ∨ x = 6 ∨ x = 7 ∨ x = 8 ∨ x = 9 ∨ x = 10 ∨ x = 11 ∨ x = 12 ∨ x = 13 ∨ x = 14 ∨ x = 15 ∨ x = 16 := by omega
  rcases this with e | e | e | e | e | e | e | e | e | e | e | e | e | e | e | e | e <;> subst e
  · exact stt_85 hS
  · exact stt_86 hS
  · exact stt_87 hS
  · exact stt_88 hS
  · exact stt_89 hS
  · exact stt_90 hS
  · exact stt_91 hS
  · exact stt_92 hS
  · exact stt_93 hS
  · exact stt_94 hS
  · exact stt_95 hS
  · exact stt_96 hS
  · exact stt_97 hS
  · exact stt_98 hS
  · exact stt_99 hS
  · exact stt_100 hS
  · exact stt_101 hS
/-- the answer of one step of x -/
def XgQ (h : hp) (ρ : Nat → Nat) (σ : zS) (v : Nat ⊕ zO) (Q : qt) : Prop := match v with
  | .inl x => ∀ h', FX (pEx h) h h' → hU h' ≤ hU h + 25 → XZ h' σ ρ → Q (.inr (85 + x)) h'
  | .inr o => ∀ h' ρ', FX (pXo h) h h' → hU h' ≤ hU h + 25 → XFr h' → XZ h' o.1 ρ' → Xr h' o.2.1 o.2.2.1 o.2.2.2.1 o.2.2.2.2 → Q (.inl none) h'
theorem x_goOnce {d r p : Nat} {Q : qt} {h : hp} {R : Nat → Option zT} {σ : zS} {ρ : Nat → Nat} {w f : Bool} {F : zF} (hS : St h) (rI : RIs h R) (hZ : XZ h σ ρ) (hFr : XFr h) (hn : Rn R r p w F) (hX : Xr h r p w F) (hb : hU h + 25 ≤ BUD) (k : XgQ h ρ σ (rgo R σ r p w F f) Q) : Wc (d + 1641) 78 [vR (some 68), vI (bI f)] h Q := by
  obtain ⟨hr, ⟨t, ht, ho, hp⟩, hF, hk⟩ := hn
  have z := rI r hr
  rw [ht] at z
  obtain ⟨a1, a2, a3, a4, a5, ⟨rc, a6, a7⟩, -⟩ := z
  rw [ho] at a2
  obtain ⟨x1, x2, x3, x4, x5⟩ := id hX
  obtain ⟨b1, -, -, lo, hi, pp, l, arr, ys, cs, es, b2, b3, -, b4, -, -, -, -, b9, b10, b11, b12⟩ := id a7
  have el : cs.length = zc t := by
    rw [RC_len b11, b12 a2]
    exact (zi_len t).1 a1 _ _ _
  refine se_X0_goOnce hS ?_
  rw [x1, x2, Int.toNat_natCast, a6, ofR_some, b4, ofR_some, ofR_some, ofR_some]
  refine ⟨by omega, by rw [b1]; simp, ?_⟩
  have go : ∀ (i : Nat) (e : zEn), (zi t (t, 0, 0) 0 0)[i]? = some e → i < zc t → rgo R σ r p w F f = rStep R σ r w F f i e → cR (Wc (d + 1640)) 406 [vR (some l), vI (i : Nat)] h (fun x4 h3 => Wp (d + 1640) C_X0_goOnce Q 66 [vR (some 68), vI (bI f), vR (some l), vI (i : Nat)] [vR x4, vR (some 68)] h3) (fun e5 h6 => Q (.inr e5) h6) := by
    intro i e he hi' eq
    rw [eq] at k
    refine c_get (d := d + 1635) hS b9 (by omega) ?_
    have ce : RCe h lo hi e (cs.getD i 0) := RC_get b11 (by rw [b12 a2]; exact he)
    have cm : cs.getD i 0 ∈ cs := by
      rw [List.getD_eq_getElem?_getD, List.getElem?_eq_getElem (by omega)]
      exact List.getElem_mem _
    have ctag := RC_mem b11 _ cm
    refine ss_X0_goOnce_66 hS ⟨Or.inr ⟨_, rfl, by simp; exact ctag⟩, ?_⟩
    rw [ofR_some]
    refine x_instr hS rI hZ hFr hX hF a1 a2 a3 a5 he ce b2 b3 (b10 _ cm) (b9.2.2.2.1 _ cm).1 (by omega) hb ?_
    cases hs : rStep R σ r w F f i e with
    | inl x => rw [hs] at k; exact k
    | inr o =>
      rw [hs] at k
      intro h' ρ' F' u' fr' Z' X'
      refine ss_X0_goOnce_75 F'.2.2.1 ?_
      refine k _ ρ' (FXo_sI F' (by omega)) (by exact u') ⟨by rw [hI_sI, if_neg (by omega)]; exact fr'.1, fr'.2⟩ (XZ_68 (fun a ha => sm_sI (sm_refl _ _) ha) rfl Z') ⟨?_, ?_, ?_, ?_, ?_⟩
      · rw [hI_sI, if_neg (by omega)]; exact X'.1
      · rw [hI_sI, if_pos ⟨rfl, rfl⟩]
      · rw [hI_sI, if_neg (by omega)]; exact X'.2.2.1
      · rw [hI_sI, if_neg (by omega)]; exact X'.2.2.2.1
      · exact XFm_eq (fun j _ => by rw [hI_sI, if_neg (by omega), hI_sI, if_neg (by omega), hI_sI, if_neg (by omega)]; exact ⟨rfl, rfl, rfl⟩) X'.2.2.2.2
  have cs1 := rgo_cs (σ := σ) (w := w) (f := f) (F := F) rI hr ht hp
  cases hf : f with
  | true =>
    rw [← hf]
    refine im (by rw [hf]; decide) (ip (by rw [b9.1]) ?_)
    refine c_size hS b9 ?_
    refine ss_X0_goOnce_27 hS ?_
    rw [el, x2, ofR_some]
    rcases cs1 with ⟨en, er⟩ | ⟨en, i, e, he, i1, i2, i3, er⟩
    · have pe : p = zc t := by rcases en with y | y
                               · exact y.2
                               · rw [hf] at y; cases y.1
      refine im (by omega) ?_
      clear go
      cases F with
      | nil =>
        rw [x4]
        rw [er] at k
        exact ip rfl (k h (FX_refl hS) (by omega) hZ)
      | cons y F =>
        obtain ⟨r', p', w'⟩ := y
        obtain ⟨k1, ⟨t1, e1, k2, k3, k4, k5, k6, k7⟩, k8⟩ := hk
        have er' : rgo R σ r p w ((r', p', w') :: F) f = .inr (σ, r', (if f = decide (zg e1.2.1 = 106) then p' + 1 else p'), w', F) := by rw [← cl_eq k2 k4]; exact er
        have z' := rI r' k1
        rw [k2] at z'
        obtain ⟨y1, y2, y3, y4, y5, ⟨rc1, y6, y7⟩, -⟩ := z'
        rw [k3] at y2
        have hp1 : p' < zc t1 := (zi_at y1 y2 k4).1
        have hlen : (((r', p', w') :: F).length : Nat) = F.length + 1 := rfl
        have hl12 : F.length + 1 ≤ 12 := hF
        have q79 : hI h 79 F.length = (r' : Nat) := x5.1
        have q80 : hI h 80 F.length = (p' : Nat) := x5.2.1
        have q81 : hI h 81 F.length = sg w' := x5.2.2.1
        rw [x4, hlen, nm1 (by omega) (by omega), Nat.add_sub_cancel, Int.toNat_natCast, q79, q80, Int.toNat_natCast, y6, ofR_some]
        obtain ⟨g, eg⟩ : ∃ y, y = sI h 68 24 (F.length : Nat) := ⟨_, rfl⟩
        rw [← eg]
        have Fg : FX (pXo h) h g := by rw [eg]; exact FXo_sI (FX_refl hS) (by omega)
        have Sg : St g := Fg.2.2.1
        have Xg : XR g t1 rc1 := XR_eq Fg.1 (fun y y1 y2 y3 => FXr_sm (FXr_o Fg) y1 y2 y3) y7
        obtain ⟨c1, -, -, lo1, hi1, pp1, l1, arr1, ys1, cs1, es1, d1, d2, -, d4, -, -, -, -, d9, d10, d11, d12⟩ := Xg
        have T1 : hT h rc1 = (33, 0) := by rw [← c1, eg]; rfl
        have R1 : hR h rc1 1 = some l1 := by rw [← d4, eg]; rfl
        have TL : hT h l1 = (44, 0) := by rw [← d9.1, eg]; rfl
        rw [R1, ofR_some]
        refine im (by omega) ⟨by omega, by omega, by rw [T1]; simp, by omega, ip (by rw [TL]) ?_⟩
        have el : cs1.length = zc t1 := by
          rw [RC_len d11, d12 y2]
          exact (zi_len t1).1 y1 _ _ _
        refine c_get (d := d + 1635) Sg d9 (by omega) ?_
        have ce : RCe g lo1 hi1 e1 (cs1.getD p' 0) := RC_get d11 (by rw [d12 y2]; exact k4)
        unfold RCe at ce
        rw [if_pos k5, if_pos k6] at ce
        obtain ⟨tc, a', ca, rt⟩ := ce
        refine ss_X0_goOnce_135 Sg ?_
        rw [ofR_some, ca, ofR_some]
        have ct : hT g a' = (27, 0) ∧ hI g a' 1 = bI (decide (zg e1.2.1 = 106)) ∧ 145 ≤ a' := by
          obtain ⟨-, -, -, -, -, sh⟩ := zi_at y1 y2 k4
          rcases sh with ⟨-, kk, l, rr, eT, hk', -⟩ | ⟨q, -⟩
          · rw [eT] at rt k6 ⊢
            have k6' : kk = 106 ∨ kk = 107 := k6
            have rg := RT_rng hk' rt
            rcases RT_1 hk' rt with ⟨y, -⟩ | ⟨y, -⟩ | ⟨y, -⟩ | ⟨y, -⟩ | ⟨-, x, el, er, hx, ta, a0, a1⟩ | ⟨y, -⟩ | ⟨y, -⟩
            · omega
            · omega
            · omega
            · omega
            · refine ⟨ta, ?_, by omega⟩
              rw [a1]
              show _ = bI (decide (kk = 106))
              by_cases q : kk = 106
              · rw [if_pos q, decide_eq_true q]; rfl
              · rw [if_neg q, decide_eq_false q]; rfl
            · omega
            · omega
          · omega
        have g24 : hI g 68 24 = (F.length : Nat) := by rw [eg, hI_sI, if_pos ⟨rfl, rfl⟩]
        have g79 : hI g 79 F.length = (r' : Nat) := by rw [eg, hI_sI, if_neg (by omega)]; exact q79
        have g80 : hI g 80 F.length = (p' : Nat) := by rw [eg, hI_sI, if_neg (by omega)]; exact q80
        have g81 : hI g 81 F.length = sg w' := by rw [eg, hI_sI, if_neg (by omega)]; exact q81
        have gF : XFm g F := XFm_eq (fun j _ => by rw [eg, hI_sI, if_neg (by omega), hI_sI, if_neg (by omega), hI_sI, if_neg (by omega)]; exact ⟨rfl, rfl, rfl⟩) x5.2.2.2
        have Zg : XZ g σ ρ := by rw [eg]; exact XZ_68 (fun a ha => sm_sI (sm_refl _ _) ha) rfl hZ
        have frg : XFr g := ⟨by rw [eg, hI_sI, if_neg (by omega)]; exact hFr.1, by rw [eg]; exact hFr.2⟩
        have Ug : hU g = hU h := by rw [eg]; rfl
        rw [g24, Int.toNat_natCast, g79, g80, g81, ct.2.1, n1 (show p' < 1000 by omega)]
        have fin : ∀ q : Nat, q = (if f = decide (zg e1.2.1 = 106) then p' + 1 else p') → Q (.inl none) (sI (sI (sI g 68 19 (r' : Nat)) 68 21 (sg w')) 68 20 (q : Nat)) := by
          intro q eq
          rw [er', ← eq] at k
          refine k _ ρ (FXo_sI (FXo_sI (FXo_sI Fg (by omega)) (by omega)) (by omega)) (by show hU g ≤ _; omega) ⟨?_, frg.2⟩ ?_ ⟨?_, ?_, ?_, ?_, ?_⟩
          · rw [hI_sI, if_neg (by omega), hI_sI, if_neg (by omega), hI_sI, if_neg (by omega)]; exact frg.1
          · exact XZ_68 (fun a ha => sm_sI (sm_sI (sm_sI (sm_refl _ _) ha) ha) ha) rfl Zg
          · simp [hI_sI]
          · simp [hI_sI]
          · simp [hI_sI]
          · simp [hI_sI]; exact g24
          · exact XFm_eq (fun j _ => by simp [hI_sI]) gF
        refine ⟨Or.inr ⟨_, rfl, by rw [tc]; simp⟩, by rw [tc]; simp, by rw [ct.1]; simp, by omega, by omega, ?_⟩
        by_cases fc : f = decide (zg e1.2.1 = 106)
        · refine ip (by rw [fc]) ⟨by omega, fin _ (by rw [if_pos fc])⟩
        · refine im ?_ ⟨by omega, fin _ (by rw [if_neg fc])⟩
          revert fc
          generalize decide (zg e1.2.1 = 106) = cc
          intro fc
          cases f <;> cases cc <;> first | exact absurd rfl fc | decide
    · have := i2 hf
      subst this
      refine ip (by omega) (im (by rw [hf]; decide) ?_)
      rw [ofR_some]
      exact ip (by rw [b9.1]) (go i e he i1 er)
  | false =>
    rw [← hf]
    refine ip (by rw [hf]; rfl) ?_
    rcases cs1 with ⟨en, er⟩ | ⟨en, i, e, he, i1, i2, i3, er⟩
    · have pe : p = 0 := by rcases en with y | y
                            · rw [hf] at y; cases y.1
                            · exact y.2
      refine im (by omega) ?_
      clear go
      cases F with
      | nil =>
        rw [x4]
        rw [er] at k
        exact ip rfl (k h (FX_refl hS) (by omega) hZ)
      | cons y F =>
        obtain ⟨r', p', w'⟩ := y
        obtain ⟨k1, ⟨t1, e1, k2, k3, k4, k5, k6, k7⟩, k8⟩ := hk
        have er' : rgo R σ r p w ((r', p', w') :: F) f = .inr (σ, r', (if f = decide (zg e1.2.1 = 106) then p' + 1 else p'), w', F) := by rw [← cl_eq k2 k4]; exact er
        have z' := rI r' k1
        rw [k2] at z'
        obtain ⟨y1, y2, y3, y4, y5, ⟨rc1, y6, y7⟩, -⟩ := z'
        rw [k3] at y2
        have hp1 : p' < zc t1 := (zi_at y1 y2 k4).1
        have hlen : (((r', p', w') :: F).length : Nat) = F.length + 1 := rfl
        have hl12 : F.length + 1 ≤ 12 := hF
        have q79 : hI h 79 F.length = (r' : Nat) := x5.1
        have q80 : hI h 80 F.length = (p' : Nat) := x5.2.1
        have q81 : hI h 81 F.length = sg w' := x5.2.2.1
        rw [x4, hlen, nm1 (by omega) (by omega), Nat.add_sub_cancel, Int.toNat_natCast, q79, q80, Int.toNat_natCast, y6, ofR_some]
        obtain ⟨g, eg⟩ : ∃ y, y = sI h 68 24 (F.length : Nat) := ⟨_, rfl⟩
        rw [← eg]
        have Fg : FX (pXo h) h g := by rw [eg]; exact FXo_sI (FX_refl hS) (by omega)
        have Sg : St g := Fg.2.2.1
        have Xg : XR g t1 rc1 := XR_eq Fg.1 (fun y y1 y2 y3 => FXr_sm (FXr_o Fg) y1 y2 y3) y7
        obtain ⟨c1, -, -, lo1, hi1, pp1, l1, arr1, ys1, cs1, es1, d1, d2, -, d4, -, -, -, -, d9, d10, d11, d12⟩ := Xg
        have T1 : hT h rc1 = (33, 0) := by rw [← c1, eg]; rfl
        have R1 : hR h rc1 1 = some l1 := by rw [← d4, eg]; rfl
        have TL : hT h l1 = (44, 0) := by rw [← d9.1, eg]; rfl
        rw [R1, ofR_some]
        refine im (by omega) ⟨by omega, by omega, by rw [T1]; simp, by omega, ip (by rw [TL]) ?_⟩
        have el : cs1.length = zc t1 := by
          rw [RC_len d11, d12 y2]
          exact (zi_len t1).1 y1 _ _ _
        refine c_get (d := d + 1635) Sg d9 (by omega) ?_
        have ce : RCe g lo1 hi1 e1 (cs1.getD p' 0) := RC_get d11 (by rw [d12 y2]; exact k4)
        unfold RCe at ce
        rw [if_pos k5, if_pos k6] at ce
        obtain ⟨tc, a', ca, rt⟩ := ce
        refine ss_X0_goOnce_135 Sg ?_
        rw [ofR_some, ca, ofR_some]
        have ct : hT g a' = (27, 0) ∧ hI g a' 1 = bI (decide (zg e1.2.1 = 106)) ∧ 145 ≤ a' := by
          obtain ⟨-, -, -, -, -, sh⟩ := zi_at y1 y2 k4
          rcases sh with ⟨-, kk, l, rr, eT, hk', -⟩ | ⟨q, -⟩
          · rw [eT] at rt k6 ⊢
            have k6' : kk = 106 ∨ kk = 107 := k6
            have rg := RT_rng hk' rt
            rcases RT_1 hk' rt with ⟨y, -⟩ | ⟨y, -⟩ | ⟨y, -⟩ | ⟨y, -⟩ | ⟨-, x, el, er, hx, ta, a0, a1⟩ | ⟨y, -⟩ | ⟨y, -⟩
            · omega
            · omega
            · omega
            · omega
            · refine ⟨ta, ?_, by omega⟩
              rw [a1]
              show _ = bI (decide (kk = 106))
              by_cases q : kk = 106
              · rw [if_pos q, decide_eq_true q]; rfl
              · rw [if_neg q, decide_eq_false q]; rfl
            · omega
            · omega
          · omega
        have g24 : hI g 68 24 = (F.length : Nat) := by rw [eg, hI_sI, if_pos ⟨rfl, rfl⟩]
        have g79 : hI g 79 F.length = (r' : Nat) := by rw [eg, hI_sI, if_neg (by omega)]; exact q79
        have g80 : hI g 80 F.length = (p' : Nat) := by rw [eg, hI_sI, if_neg (by omega)]; exact q80
        have g81 : hI g 81 F.length = sg w' := by rw [eg, hI_sI, if_neg (by omega)]; exact q81
        have gF : XFm g F := XFm_eq (fun j _ => by rw [eg, hI_sI, if_neg (by omega), hI_sI, if_neg (by omega), hI_sI, if_neg (by omega)]; exact ⟨rfl, rfl, rfl⟩) x5.2.2.2
        have Zg : XZ g σ ρ := by rw [eg]; exact XZ_68 (fun a ha => sm_sI (sm_refl _ _) ha) rfl hZ
        have frg : XFr g := ⟨by rw [eg, hI_sI, if_neg (by omega)]; exact hFr.1, by rw [eg]; exact hFr.2⟩
        have Ug : hU g = hU h := by rw [eg]; rfl
        rw [g24, Int.toNat_natCast, g79, g80, g81, ct.2.1, n1 (show p' < 1000 by omega)]
        have fin : ∀ q : Nat, q = (if f = decide (zg e1.2.1 = 106) then p' + 1 else p') → Q (.inl none) (sI (sI (sI g 68 19 (r' : Nat)) 68 21 (sg w')) 68 20 (q : Nat)) := by
          intro q eq
          rw [er', ← eq] at k
          refine k _ ρ (FXo_sI (FXo_sI (FXo_sI Fg (by omega)) (by omega)) (by omega)) (by show hU g ≤ _; omega) ⟨?_, frg.2⟩ ?_ ⟨?_, ?_, ?_, ?_, ?_⟩
          · rw [hI_sI, if_neg (by omega), hI_sI, if_neg (by omega), hI_sI, if_neg (by omega)]; exact frg.1
          · exact XZ_68 (fun a ha => sm_sI (sm_sI (sm_sI (sm_refl _ _) ha) ha) ha) rfl Zg
          · simp [hI_sI]
          · simp [hI_sI]
          · simp [hI_sI]
          · simp [hI_sI]; exact g24
          · exact XFm_eq (fun j _ => by simp [hI_sI]) gF
        refine ⟨Or.inr ⟨_, rfl, by rw [tc]; simp⟩, by rw [tc]; simp, by rw [ct.1]; simp, by omega, by omega, ?_⟩
        by_cases fc : f = decide (zg e1.2.1 = 106)
        · refine ip (by rw [fc]) ⟨by omega, fin _ (by rw [if_pos fc])⟩
        · refine im ?_ ⟨by omega, fin _ (by rw [if_neg fc])⟩
          revert fc
          generalize decide (zg e1.2.1 = 106) = cc
          intro fc
          cases f <;> cases cc <;> first | exact absurd rfl fc | decide
    · have := i3 hf
      subst this
      refine ip (by omega) (ip (by rw [hf]; rfl) ?_)
      rw [nm1 (by omega) (by omega), Nat.add_sub_cancel]
      exact ip (by rw [b9.1]) (go i e he i1 er)
