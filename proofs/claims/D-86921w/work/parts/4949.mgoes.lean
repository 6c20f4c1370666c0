/-! one step of the run never is refused for nothing, and keeps the run whole -/
theorem cE_ok {e : zEn} {f : Bool} {k k2 k3 : Nat} {a s t c : zT} (et : e.2.1 = zB k a (zB k2 s (zB k3 t c))) (oa : okE a) (oc : okE c) : okE (cE e f) := by
  have hza : zl e.2.1 = a ∧ zr (zr (zr e.2.1)) = c := by rw [et]; exact ⟨rfl, rfl⟩
  unfold cE
  rw [hza.1, hza.2]
  (repeat' split) <;> assumption
theorem cJp_le {e : zEn} {f s : Bool} {q k k2 k3 : Nat} {a s' t c : zT} (hk : fkk k k2 k3) (et : e.2.1 = zB k a (zB k2 s' (zB k3 t c))) (h : cJp e f s = some q) : q ≤ e.2.2.1 + zc e.2.1 := by
  have hzc : zc e.2.1 = 3 + (zc s' + zc t) := by rw [et]; exact zc_fk hk
  have hg : zg e.2.1 ≠ 115 := by rw [et]; show k ≠ 115; unfold fkk at hk; omega
  have hm : zm e.2.1 e.2.2.1 = e.2.2.1 + 1 + zc s' := by unfold zm; rw [if_neg hg, et]; rfl
  have hze : ze e.2.1 e.2.2.1 = e.2.2.1 + zc e.2.1 - 1 := rfl
  unfold cJp at h
  rw [hm, hze] at h
  (repeat' split at h) <;> first | (cases h; omega) | cases h
theorem rStep_in {h : hp} {R : Nat → Option zT} {σ : zS} {r i : Nat} {w f : Bool} {F : zF} {t : zT} {e : zEn} (hR : RIs h R) (hV : Pr σ) (hZ : Zk σ) (hr : r < 10) (ht : R r = some t) (ho : zord t = false) (he : (zi t (t, 0, 0) 0 0)[i]? = some e) (hF : F.length ≤ 12) (hk : Fok R w F) : match rStep R σ r w F f i e with
    | .inl x => x ≠ 0 ∧ x < 17
    | .inr o => Zk o.1 ∧ Rn R o.2.1 o.2.2.1 o.2.2.2.1 o.2.2.2.2 := by
  have z := hR r hr
  rw [ht] at z
  obtain ⟨a1, a2, a3, a4, a5, a6, b⟩ := z
  rw [ho] at a2
  obtain ⟨i1, -, i4, i5, i6, sh⟩ := zi_at a1 a2 he
  unfold rStep
  rcases sh with ⟨n0, kk, l, rr, eT, hk1, h114⟩ | ⟨hn, kk, k2, k3, a, s, t', c, hkk, eT, oa, oc⟩
  · rw [if_pos n0]
    by_cases hc : zg e.2.1 = 106 ∨ zg e.2.1 = 107
    · rw [if_pos hc]
      obtain ⟨x, el, hx⟩ : ∃ x, l = zL x ∧ x < 10 := by
        rw [eT] at hc
        have hc' : kk = 106 ∨ kk = 107 := hc
        rcases hk1 with ⟨y, -⟩ | ⟨y, -⟩ | ⟨y, -⟩ | ⟨-, ⟨x, y1, y2⟩, y3⟩ | ⟨y, -⟩ | ⟨y, -⟩
        · omega
        · omega
        · omega
        · exact ⟨x, y1, y2⟩
        · omega
        · omega
      have ex : zn (zl e.2.1) = x := by rw [eT, el]; rfl
      rw [ex]
      cases h2 : R x with
      | none => exact (by decide : (13 : Nat) ≠ 0 ∧ (13 : Nat) < 17)
      | some t2 =>
        dsimp only
        by_cases o2 : zord t2 = true
        · rw [if_pos o2]; exact (by decide : (13 : Nat) ≠ 0 ∧ (13 : Nat) < 17)
        rw [if_neg o2]
        by_cases f12 : F.length = 12
        · rw [if_pos f12]; exact (by decide : (11 : Nat) ≠ 0 ∧ (11 : Nat) < 17)
        rw [if_neg f12]
        refine ⟨hZ, hx, ⟨t2, h2, by cases hh : zord t2 <;> simp_all, ?_⟩, ?_, hr, ⟨t, e, ht, ho, he, n0, hc, rfl⟩, hk⟩
        · dsimp only; split
          · exact Nat.zero_le _
          · exact Nat.le_refl _
        · show F.length + 1 ≤ 12; omega
    · rw [if_neg hc]
      have hc' : ¬ (kk = 106 ∨ kk = 107) := by rw [eT] at hc; exact hc
      rw [eT]
      cases hs : sStep σ (zB kk l rr) f with
      | inl x => exact sStep_nz hk1 h114 (by omega) hs
      | inr σ' =>
        refine ⟨sStep_Zk hV hk1 hZ h114 (by omega) hs, hr, ⟨t, ht, ho, ?_⟩, hF, hk⟩
        dsimp only; split <;> omega
  · rw [if_neg (by omega)]
    cases hs : sCor σ e f with
    | inl x => exact sCor_nz (cE_ok eT oa oc) hs
    | inr q =>
      refine ⟨hZ, hr, ⟨t, ht, ho, ?_⟩, hF, hk⟩
      unfold sCor at hs
      cases hv : ev σ bn0 bi0 (cE e f) with
      | inl v => rw [hv] at hs; cases hs
      | inr v =>
        rw [hv] at hs
        dsimp only at hs
        cases hj : cJp e f (decide (v ≠ 0)) with
        | none => rw [hj] at hs; cases hs
        | some q' =>
          rw [hj] at hs
          cases hs
          have := cJp_le hkk eT hj
          show q ≤ zc t
          omega
/-- where the run is at an end, or which instruction comes -/
theorem rgo_cs {h : hp} {R : Nat → Option zT} {σ : zS} {r p : Nat} {w f : Bool} {F : zF} {t : zT} (hR : RIs h R) (hr : r < 10) (ht : R r = some t) (hp : p ≤ zc t) : (((f = true ∧ p = zc t) ∨ (f = false ∧ p = 0)) ∧ rgo R σ r p w F f = rLv R σ f F) ∨ (¬ ((f = true ∧ p = zc t) ∨ (f = false ∧ p = 0)) ∧ ∃ i e, (zi t (t, 0, 0) 0 0)[i]? = some e ∧ i < zc t ∧ (f = true → i = p) ∧ (f = false → p = i + 1) ∧ rgo R σ r p w F f = rStep R σ r w F f i e) := by
  have z := hR r hr
  rw [ht] at z
  have hl := (zi_len t).1 z.1 (t, 0, 0) 0 0
  unfold rgo
  rw [ht]
  dsimp only
  cases f with
  | true =>
    by_cases q : zc t ≤ p
    · refine Or.inl ⟨Or.inl ⟨rfl, by omega⟩, ?_⟩
      rw [if_pos (by rw [if_pos rfl]; exact q)]
    · refine Or.inr ⟨by simp; omega, p, (zi t (t, 0, 0) 0 0)[p]'(by omega), List.getElem?_eq_getElem (by omega), by omega, fun _ => rfl, (fun y => by cases y), ?_⟩
      rw [if_neg (by rw [if_pos rfl]; exact q), if_pos rfl, List.getElem?_eq_getElem (by omega)]
  | false =>
    by_cases q : p = 0
    · refine Or.inl ⟨Or.inr ⟨rfl, q⟩, ?_⟩
      rw [if_pos (by rw [if_neg (by decide)]; exact q)]
    · refine Or.inr ⟨by simp; omega, p - 1, (zi t (t, 0, 0) 0 0)[p - 1]'(by omega), List.getElem?_eq_getElem (by omega), by omega, fun y => (by cases y), fun _ => by omega, ?_⟩
      rw [if_neg (by rw [if_neg (by decide)]; exact q), if_neg (by decide), List.getElem?_eq_getElem (by omega)]
theorem rgo_in {h : hp} {R : Nat → Option zT} {σ : zS} {r p : Nat} {w f : Bool} {F : zF} (hR : RIs h R) (hV : Pr σ) (hZ : Zk σ) (hn : Rn R r p w F) : match rgo R σ r p w F f with
    | .inl x => x ≠ 0 ∧ x < 17
    | .inr o => Zk o.1 ∧ Rn R o.2.1 o.2.2.1 o.2.2.2.1 o.2.2.2.2 := by
  obtain ⟨hr, ⟨t, ht, ho, hp⟩, hF, hk⟩ := hn
  rcases rgo_cs (σ := σ) (w := w) (f := f) (F := F) hR hr ht hp with ⟨-, e1⟩ | ⟨-, i, e, he, i1, i2, i3, e1⟩
  · rw [e1]
    cases F with
    | nil => exact (by decide : (12 : Nat) ≠ 0 ∧ (12 : Nat) < 17)
    | cons x F =>
      obtain ⟨r', p', w'⟩ := x
      obtain ⟨k1, ⟨t', e', k2, k3, k4, -, -, -⟩, k8⟩ := hk
      have z := hR r' k1
      rw [k2] at z
      have hl := (zi_len t').1 z.1 (t', 0, 0) 0 0
      have hp' : p' < zc t' := by
        by_cases q : p' < (zi t' (t', 0, 0) 0 0).length
        · omega
        · rw [List.getElem?_eq_none (by omega)] at k4; cases k4
      refine ⟨hZ, k1, ⟨t', k2, k3, ?_⟩, ?_, k8⟩
      · dsimp only; split <;> omega
      · have : F.length + 1 ≤ 12 := hF
        show F.length ≤ 12; omega
  · rw [e1]
    exact rStep_in hR hV hZ hr ht ho he hF hk
/-! m: one step -/
def fw (w b : Bool) : Bool := w == !b
def GmQ (h : hp) (σ : zS) (r p : Nat) (w : Bool) (F : zF) (c : Int) (b : Bool) (v : Nat ⊕ zO) (Q : qt) : Prop := match v with
  | .inl x => ∀ h', FMr h h' → MV h' σ → Mr h' r p w F → hI h' 116 62 = (x : Nat) → hI h' 116 58 = c → Q (.inl (some (vI 0))) h'
  | .inr o => ∀ h', FMr h h' → MV h' o.1 → Mr h' o.2.1 o.2.2.1 o.2.2.2.1 o.2.2.2.2 → hI h' 116 62 = 0 → hI h' 116 58 = n_add c (if b = true then -1 else 1) → Q (.inl (some (vI 1))) h'
theorem Mr_set {h : hp} {r p : Nat} {f f' : Bool} {F : zF} (z : Mr h r p f F) : Mr (sI h 116 57 (sg f')) r p f' F := by
  obtain ⟨m1, m2, m3, m4, m5⟩ := z
  refine ⟨?_, ?_, ?_, ?_, ?_⟩
  · rw [hI_sI, if_neg (by omega)]; exact m1
  · rw [hI_sI, if_neg (by omega)]; exact m2
  · rw [hI_sI, if_pos ⟨rfl, rfl⟩]
  · rw [hI_sI, if_neg (by omega)]; exact m4
  · exact MFr_eq (fun j _ => by rw [hI_sI, if_neg (by omega), hI_sI, if_neg (by omega)]; exact ⟨rfl, rfl⟩) m5
theorem Mr_58 {h : hp} {r p j : Nat} {f : Bool} {F : zF} {x : Int} (hj : j = 58 ∨ j = 62) (z : Mr h r p f F) : Mr (sI h 116 j x) r p f F := by
  obtain ⟨m1, m2, m3, m4, m5⟩ := z
  refine ⟨?_, ?_, ?_, ?_, ?_⟩
  · rw [hI_sI, if_neg (by omega)]; exact m1
  · rw [hI_sI, if_neg (by omega)]; exact m2
  · rw [hI_sI, if_neg (by omega)]; exact m3
  · rw [hI_sI, if_neg (by omega)]; exact m4
  · exact MFr_eq (fun j _ => by rw [hI_sI, if_neg (by omega), hI_sI, if_neg (by omega)]; exact ⟨rfl, rfl⟩) m5
theorem MoQ_to2 {h : hp} {σ : zS} {r p : Nat} {w f : Bool} {F : zF} {v : Nat ⊕ zO} {Q Q' : qt} (h1 : ∀ x h', St h' → Q (.inl (some (vI x))) h' → Q' (.inl (some (vI x))) h') (k : MoQ h σ r p w f F v Q) : MoQ h σ r p w f F v Q' := by
  cases v with
  | inl y => exact fun h' a b c => h1 _ _ (FMo_St a) (k h' a b c)
  | inr y => exact fun h' a b c => h1 _ _ (FMo_St a) (k h' a b c)
theorem m_tail {d r p : Nat} {Q : qt} {h : hp} {σ : zS} {f b : Bool} {F : zF} {v2 c : Int} {x : Nat} (hS : St h) (hV : MV h σ) (hM : Mr h r p f F) (hc : hI h 116 58 = c) (c32 : s32 c = c) (k1 : x ≠ 0 → ∀ h', FMr h h' → MV h' σ → Mr h' r p (f == !b) F → hI h' 116 62 = (x : Nat) → hI h' 116 58 = c → Q (.inl (some (vI 0))) h') (k2 : x = 0 → ∀ h', FMr h h' → MV h' σ → Mr h' r p (f == !b) F → hI h' 116 62 = 0 → hI h' 116 58 = n_add c (if b = true then -1 else 1) → Q (.inl (some (vI 1))) h') : Wp d C_X4_goes Q 103 [vR (some 116), vI (bI b), vI v2] [vI (x : Nat), vR (some 116)] h := by
  refine ss_X4_goes_103 hS ?_
  obtain ⟨g, eg⟩ : ∃ y, y = sI h 116 62 (x : Nat) := ⟨_, rfl⟩
  have Sg : St g := by rw [eg]; exact St_sI hS (by omega)
  have Vg : MV g σ := by rw [eg]; exact MV_r (by decide) hV
  have Mg : Mr g r p f F := by rw [eg]; exact Mr_58 (by omega) hM
  have Fg : FMr h g := by rw [eg]; exact FMr_sI (FMr_refl hS) (by unfold pMr; omega)
  have g62 : hI g 116 62 = (x : Nat) := by rw [eg, hI_sI, if_pos ⟨rfl, rfl⟩]
  have g58 : hI g 116 58 = c := by rw [eg, hI_sI, if_neg (by omega)]; exact hc
  have k124 : ∀ y : Int, y = sg (f == !b) → Wp d C_X4_goes Q 124 [vR (some 116), vI (bI b), vI v2] [vI y, vR (some 116)] g := by
    intro y ey
    subst ey
    refine ss_X4_goes_124 Sg ?_
    rw [g62, g58]
    obtain ⟨h1, e1⟩ : ∃ y, y = sI g 116 57 (sg (f == !b)) := ⟨_, rfl⟩
    have S1 : St h1 := by rw [e1]; exact St_sI Sg (by omega)
    have V1 : MV h1 σ := by rw [e1]; exact MV_r (by decide) Vg
    have M1 : Mr h1 r p (f == !b) F := by rw [e1]; exact Mr_set Mg
    have F1 : FMr h h1 := by rw [e1]; exact FMr_sI Fg (by unfold pMr; omega)
    have h62 : hI h1 116 62 = (x : Nat) := by rw [e1, hI_sI, if_neg (by omega)]; exact g62
    rw [← e1]
    have fin : ∀ z : Int, (x = 0 → z = (if b = true then -1 else 1)) → (x ≠ 0 → z = 0) → Wp d C_X4_goes Q 152 [vR (some 116), vI (bI b), vI v2] [vI z, vI c, vR (some 116)] h1 := by
      intro z z1 z2
      refine ss_X4_goes_152 S1 ?_
      rw [h62]
      have S2 : ∀ y, St (sI h1 116 58 y) := fun y => St_sI S1 (by omega)
      by_cases x0 : x = 0
      · refine ip (by omega) (ss_X4_goes_168 (S2 _) ⟨Or.inr rfl, ?_⟩)
        exact k2 x0 _ (FMr_sI F1 (by unfold pMr; omega)) (MV_r (by decide) V1) (Mr_58 (by omega) M1) (by rw [hI_sI, if_neg (by omega), h62, x0]; rfl) (by rw [hI_sI, if_pos ⟨rfl, rfl⟩, z1 x0])
      · refine im (by omega) (ss_X4_goes_168 (S2 _) ⟨Or.inl rfl, ?_⟩)
        exact k1 x0 _ (FMr_sI F1 (by unfold pMr; omega)) (MV_r (by decide) V1) (Mr_58 (by omega) M1) (by rw [hI_sI, if_neg (by omega), h62]) (by rw [hI_sI, if_pos ⟨rfl, rfl⟩, z2 x0]; show s32 (c + 0) = c; rw [Int.add_zero]; exact c32)
    by_cases x0 : x = 0
    · refine ip (by omega) ?_
      cases b with
      | true => exact im (by decide) (fin _ (fun _ => rfl) (fun y => absurd x0 y))
      | false => exact ip rfl (fin _ (fun _ => rfl) (fun y => absurd x0 y))
    · exact im (by omega) (fin _ (fun y => absurd y x0) (fun _ => rfl))
  rw [← eg, hM.2.2.1]
  cases b with
  | true =>
    refine im (by decide) ?_
    rw [sg_n]
    exact k124 _ (by cases f <;> rfl)
  | false =>
    exact ip rfl (k124 _ (by cases f <;> rfl))
theorem m_goes {d r p : Nat} {Q : qt} {h : hp} {R : Nat → Option zT} {σ : zS} {w b : Bool} {F : zF} {c : Int} (hS : St h) (hR : RIs h R) (hV : MV h σ) (hZ : Zk σ) (hn : Rn R r p w F) (hM : Mr h r p w F) (hc : hI h 116 58 = c) (c32 : s32 c = c) (k : GmQ h σ r p w F c b (rgo R σ r p w F (fw w b)) Q) : Wc (d + 71) 177 [vR (some 116), vI (bI b)] h Q := by
  have hin := rgo_in (f := fw w b) hR (Pr_M hV) hZ hn
  obtain ⟨hr, ⟨t, ht, ho, hp⟩, hF, hk⟩ := hn
  have z := hR r hr
  rw [ht] at z
  obtain ⟨a1, a2, a3, a4, a5, a6, b1, b2, b3, b4, b5⟩ := z
  obtain ⟨m1, m2, m3, m4, m5⟩ := id hM
  refine se_X4_goes hS ?_
  rw [m3, sg_n]
  obtain ⟨f, ef⟩ : ∃ f, f = fw w b := ⟨_, rfl⟩
  rw [← ef] at k hin
  obtain ⟨g, eg⟩ : ∃ y, y = sI h 116 57 (sg f) := ⟨_, rfl⟩
  have Sg : St g := by rw [eg]; exact St_sI hS (by omega)
  have Vg : MV g σ := by rw [eg]; exact MV_r (by decide) hV
  have Mg : Mr g r p f F := by rw [eg]; exact Mr_set hM
  have Fg : FMr h g := by rw [eg]; exact FMr_sI (FMr_refl hS) (by unfold pMr; omega)
  have g58 : hI g 116 58 = c := by rw [eg, hI_sI, if_neg (by omega)]; exact hc
  have Rg := RIs_M Fg hS hR
  have wf : (f == !b) = w := by rw [ef]; unfold fw; cases w <;> cases b <;> rfl
  have wf2 : ∀ w', ((f == (w == w')) == !b) = w' := by intro w'; rw [ef]; unfold fw; cases w <;> cases b <;> cases w' <;> rfl
  -- what comes behind leaves and over
  have tail : ∀ (v : Nat ⊕ zO) (v2 : Int), v = rgo R σ r p w F f → MoQ g σ r p w f F v (fun o h' => match o with
      | .inl (some (.inl x)) => Wp (d + 70) C_X4_goes Q 103 [vR (some 116), vI (bI b), vI v2] [vI x, vR (some 116)] h'
      | .inr a => Q (.inr a) h'
      | _ => False) := by
    intro v v2 ev
    rw [← ev] at k hin
    cases v with
    | inl x =>
      intro h' F' V' M'
      have e58 : hI h' 116 58 = c := by rw [FMo_i F' Sg (by decide) (by unfold pMo pMd; omega)]; exact g58
      refine m_tail (FMo_St F') V' M' e58 c32 (fun x0 h2 F2 V2 M2 q1 q2 => ?_) (fun x0 => absurd x0 hin.1)
      rw [wf] at M2
      exact k h2 (FMr_trans Fg (FMr_trans (FMr_o F') F2)) V2 M2 q1 q2
    | inr o =>
      intro h' F' V' M'
      have e58 : hI h' 116 58 = c := by rw [FMo_i F' Sg (by decide) (by unfold pMo pMd; omega)]; exact g58
      refine m_tail (x := 0) (FMo_St F') V' M' e58 c32 (fun x0 => absurd rfl x0) (fun x0 h2 F2 V2 M2 q1 q2 => ?_)
      rw [wf2] at M2
      exact k h2 (FMr_trans Fg (FMr_trans (FMr_o F') F2)) V2 M2 q1 q2
  have k65 : ∀ s0 : Bool, (s0 = true ↔ ((f = true ∧ p = zc t) ∨ (f = false ∧ p = 0))) → Wp (d + 70) C_X4_goes Q 65 [vR (some 116), vI (bI b), vU] [vI (bI s0)] g := by
    intro s0 hs0
    refine ss_X4_goes_65 Sg ?_
    rcases rgo_cs (σ := σ) (w := w) (f := f) (F := F) hR hr ht hp with ⟨en, e1⟩ | ⟨en, i, e, he, i1, i2, i3, e1⟩
    · rw [hs0.mpr en]
      refine im (by decide) ?_
      refine m_leaves (d := d + 69) Sg Rg Vg hF hk Mg (MoQ_to2 (fun x h' Sx y => ?_) (tail _ (bI true) e1.symm))
      exact ss_X4_goes_75 Sx y
    · have s0f : s0 = false := by
        cases s0 with
        | true => exact absurd (hs0.mp rfl) en
        | false => rfl
      rw [s0f]
      refine ip rfl ?_
      rw [Mg.2.2.1, Mg.2.1]
      have k100 : Wp (d + 70) C_X4_goes Q 100 [vR (some 116), vI (bI b), vI (bI false)] [vI (i : Nat), vR (some 116), vR (some 116)] g := by
        refine ss_X4_goes_100 Sg ?_
        exact m_over (d := d) Sg Rg Vg hZ hr ht ho he hF Mg (by omega) ⟨i2, i3⟩ (MoQ_to (fun _ _ y => y) (tail _ (bI false) e1.symm))
      cases f with
      | true =>
        have := i2 rfl
        subst this
        exact ip rfl k100
      | false =>
        have := i3 rfl
        subst this
        rw [nm1 (by omega) (by omega), Nat.add_sub_cancel]
        exact im (by decide) k100
  have k18 : Wp (d + 70) C_X4_goes Q 18 [vR (some 116), vI (bI b), vU] [vI (sg f), vR (some 116)] h := by
    refine ss_X4_goes_18 hS ?_
    rw [m1, m2, Int.toNat_natCast, b4, ← eg]
    cases hf : f with
    | true =>
      refine ip rfl ⟨by omega, ?_⟩
      by_cases q : p = zc t
      · exact ip (by omega) (k65 true ⟨fun _ => Or.inl ⟨hf, q⟩, fun _ => rfl⟩)
      · exact im (by omega) (k65 false ⟨(fun y => by cases y), fun y => by rw [hf] at y; simp at y; exact absurd y q⟩)
    | false =>
      refine im (by decide) ?_
      by_cases q : p = 0
      · exact ip (by omega) (k65 true ⟨fun _ => Or.inr ⟨hf, q⟩, fun _ => rfl⟩)
      · exact im (by omega) (k65 false ⟨(fun y => by cases y), fun y => by rw [hf] at y; simp at y; exact absurd y q⟩)
  cases b with
  | true =>
    have : f = !w := by rw [ef]; cases w <;> rfl
    rw [this] at k18
    exact im (by decide) k18
  | false =>
    have : f = w := by rw [ef]; cases w <;> rfl
    rw [this] at k18
    exact ip rfl k18
