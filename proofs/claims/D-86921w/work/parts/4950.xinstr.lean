/-! x's RUN -/
def pXo (h : hp) (a j : Nat) : Prop := pEx h a j ∨ (a = 68 ∧ (j = 19 ∨ j = 20 ∨ j = 21 ∨ j = 24)) ∨ a = 79 ∨ a = 80 ∨ a = 81
def pXr (h : hp) (a j : Nat) : Prop := pEx h a j ∨ (a = 68 ∧ 19 ≤ j ∧ j ≤ 24) ∨ a = 79 ∨ a = 80 ∨ a = 81
theorem pEx_tag {h h1 : hp} {c j : Nat} (e : hT h1 c = hT h c) (z : pEx h1 c j) : pEx h c j := by unfold pEx at z ⊢; rw [e] at z; exact z
theorem FXo_E {h h' : hp} (a : FX (pEx h) h h') : FX (pXo h) h h' := FX_mono a (fun _ _ _ z => Or.inl z)
theorem FXr_o {h h' : hp} (a : FX (pXo h) h h') : FX (pXr h) h h' := FX_mono a (fun c j _ z => by
  rcases z with z | z | z | z | z
  · exact Or.inl z
  · exact Or.inr (Or.inl (by omega))
  · exact Or.inr (Or.inr (Or.inl z))
  · exact Or.inr (Or.inr (Or.inr (Or.inl z)))
  · exact Or.inr (Or.inr (Or.inr (Or.inr z))))
/-- two frames, one behind the other: what is new in the second may be anything -/
theorem FX_trn {p : hp → Nat → Nat → Prop} {h h1 h2 : hp} (hp : ∀ c j, c < hN h → hT h1 c = hT h c → p h1 c j → p h c j) (a : FX (p h) h h1) (b : FX (p h1) h1 h2) : FX (p h) h h2 := by
  obtain ⟨a1, a2, a3, a4⟩ := a
  obtain ⟨b1, b2, b3, b4⟩ := b
  refine ⟨by omega, by omega, b3, fun c hc => ?_⟩
  obtain ⟨c1, c2⟩ := a4 c hc
  obtain ⟨d1, d2⟩ := b4 c (by omega)
  refine ⟨d1.trans c1, fun j => ?_⟩
  rcases c2 j with z | ⟨z1, z2, z3⟩
  · exact Or.inl z
  · rcases d2 j with y | ⟨y1, y2, y3⟩
    · exact Or.inl (hp c j hc c1 y)
    · exact Or.inr ⟨y1.trans z1, y2.trans z2, y3.trans z3⟩
theorem FXr_trans {h h1 h2 : hp} (a : FX (pXr h) h h1) (b : FX (pXr h1) h1 h2) : FX (pXr h) h h2 := FX_trn (fun c j _ e z => by
  rcases z with z | z
  · exact Or.inl (pEx_tag e z)
  · exact Or.inr z) a b
theorem FXo_trans {h h1 h2 : hp} (a : FX (pXo h) h h1) (b : FX (pXo h1) h1 h2) : FX (pXo h) h h2 := FX_trn (fun c j _ e z => by
  rcases z with z | z
  · exact Or.inl (pEx_tag e z)
  · exact Or.inr z) a b
theorem FXo_sI {h h' : hp} (a : FX (pXo h) h h') {c j : Nat} {x : Int} (hc : (c = 68 ∧ (j = 19 ∨ j = 20 ∨ j = 21 ∨ j = 24)) ∨ c = 79 ∨ c = 80 ∨ c = 81) : FX (pXo h) h (sI h' c j x) :=
  FX_sI a (Or.inl (Or.inr hc)) (by omega)
/-- a place that x's run does not touch -/
theorem FXr_a {h h' : hp} (a : FX (pXr h) h h') (hS : St h) {c j : Nat} (hc : c < 145) (h1 : c ≠ 68 ∨ (j < 19 ∨ (24 < j ∧ j < 28) ∨ 30 < j)) (h2 : c ≠ 73 ∧ c ≠ 74 ∧ c ≠ 76 ∧ c ≠ 77 ∧ c ≠ 79 ∧ c ≠ 80 ∧ c ≠ 81) (h3 : c < 102 ∨ 107 < c) : hI h' c j = hI h c j ∧ hL h' c j = hL h c j ∧ hR h' c j = hR h c j :=
  FX_at a (Nat.lt_of_lt_of_le hc hS.1) (by unfold pXr pEx; omega)
theorem FXr_sm {h h' : hp} (a : FX (pXr h) h h') {c : Nat} (h1 : 145 ≤ c) (h2 : c < hN h) (h3 : imm (hT h c).1) : sm h h' c := FX_sm a h2 (fun j z => by unfold pXr pEx at z; unfold imm at h3; omega)
theorem RIs_X {h h' : hp} {R : Nat → Option zT} (a : FX (pXr h) h h') (hS : St h) (z : RIs h R) : RIs h' R := by
  intro r hr
  have z1 := z r hr
  have e : ∀ c j, 116 ≤ c → c < 145 → hI h' c j = hI h c j := fun c j c1 c2 => (FXr_a a hS c2 (by omega) (by omega) (by omega)).1
  have e72 : hR h' 72 r = hR h 72 r := (FXr_a a hS (by decide) (by omega) (by decide) (by decide)).2.2
  cases hR : R r with
  | none =>
    rw [hR] at z1
    exact ⟨e72.trans z1.1, (e 121 r (by decide) (by decide)).trans z1.2⟩
  | some t =>
    rw [hR] at z1
    obtain ⟨a1, a2, a3, a4, a5, ⟨rc, a6, a7⟩, b1, b2, b3, b4, b5⟩ := z1
    refine ⟨a1, a2, a3, a4, a5, ⟨rc, e72.trans a6, XR_eq a.1 (fun c c1 c2 c3 => FXr_sm a c1 c2 c3) a7⟩, (e 121 r (by decide) (by decide)).trans b1, (e 122 r (by decide) (by decide)).trans b2, RK_eq (fun j => e 123 j (by decide) (by decide)) (fun j => e 124 j (by decide) (by decide)) (fun j => e 125 j (by decide) (by decide)) b3, (e 126 r (by decide) (by decide)).trans b4, MEs_eq (fun i _ c c1 c2 => e c _ (by omega) (by omega)) b5⟩
theorem MV_X {h h' : hp} {σ : zS} (a : FX (pXr h) h h') (hS : St h) (z : MV h σ) : MV h' σ := by
  have e : ∀ c j, 116 ≤ c → c < 145 → hI h' c j = hI h c j ∧ hL h' c j = hL h c j := fun c j c1 c2 => ⟨(FXr_a a hS c2 (by omega) (by omega) (by omega)).1, (FXr_a a hS c2 (by omega) (by omega) (by omega)).2.1⟩
  obtain ⟨⟨th, a1, a2, a3⟩, c1, c2, c3, c4, c5, c6⟩ := z
  refine ⟨⟨th, a1, (e 116 35 (by decide) (by decide)).1.trans a2, a3⟩, fun k hk q => (e 134 k (by decide) (by decide)).1.trans (c1 k hk q), fun k hk => ?_, fun id hi => ?_, fun j hj => (e 138 j (by decide) (by decide)).2.trans (c4 j hj), fun s hs => (e 139 s (by decide) (by decide)).1.trans (c5 s hs), fun j hj => (e 140 j (by decide) (by decide)).1.trans (c6 j hj)⟩
  · rw [(e 135 k (by decide) (by decide)).1]; exact c2 k hk
  · rw [(e 136 id (by decide) (by decide)).1, (e 137 id (by decide) (by decide)).1]; exact c3 id hi
theorem XZ_M {h h' : hp} {σ : zS} {ρ : Nat → Nat} (a : FMr h h') (z : XZ h σ ρ) (hS : St h) : XZ h' σ ρ := by
  have s : ∀ c, c < hN h → c ≠ 116 → (c < 134 ∨ 143 < c) → sm h h' c := fun c c1 c2 c3 => FX_sm a.1 c1 (fun j => by unfold pMr pMd; omega)
  have h0 := hS.1
  obtain ⟨⟨x, b⟩, c, d⟩ := z
  refine ⟨⟨fun k hk => by rw [(s 73 (by omega) (by decide) (by decide)).2.1, (s 74 (by omega) (by decide) (by decide)).2.1]; exact x k hk, XRw_eq (by rw [a.2.1]; exact Nat.le_refl _) (fun _ => rfl) (fun _ => rfl) (fun _ => rfl) (fun _ => rfl) (fun k hk => (s _ (by omega) (by omega) (by omega)).2.2.2 0) (fun y y1 y2 _ _ => s y y2 (by omega) (by omega)) b⟩, fun s' hs => by rw [(s 77 (by omega) (by decide) (by decide)).2.1]; exact c s' hs, fun j hj => by rw [(s 76 (by omega) (by decide) (by decide)).2.1]; exact d j hj⟩
def XFm (h : hp) : zF → Prop
  | [] => True
  | x :: F => hI h 79 F.length = (x.1 : Nat) ∧ hI h 80 F.length = (x.2.1 : Nat) ∧ hI h 81 F.length = sg x.2.2 ∧ XFm h F
theorem XFm_eq {h h' : hp} : ∀ {F : zF}, (∀ j, j < F.length → hI h' 79 j = hI h 79 j ∧ hI h' 80 j = hI h 80 j ∧ hI h' 81 j = hI h 81 j) → XFm h F → XFm h' F := by
  intro F
  induction F with
  | nil => intro _ _; trivial
  | cons x F ih =>
    intro e z
    have e0 := e F.length (Nat.lt_succ_self _)
    exact ⟨e0.1.trans z.1, e0.2.1.trans z.2.1, e0.2.2.trans z.2.2.1, ih (fun j hj => e j (Nat.lt_succ_of_lt hj)) z.2.2.2⟩
def Xr (h : hp) (r p : Nat) (w : Bool) (F : zF) : Prop := hI h 68 19 = (r : Nat) ∧ hI h 68 20 = (p : Nat) ∧ hI h 68 21 = sg w ∧ hI h 68 24 = (F.length : Nat) ∧ XFm h F
theorem Xr_E {h h' : hp} {r p : Nat} {w : Bool} {F : zF} (a : FX (pEx h) h h') (hS : St h) (z : Xr h r p w F) : Xr h' r p w F := by
  have h0 := hS.1
  have e : ∀ c j, (c = 68 ∧ j < 28) ∨ c = 79 ∨ c = 80 ∨ c = 81 → hI h' c j = hI h c j := fun c j hc => (FX_at a (by omega) (by unfold pEx; omega)).1
  obtain ⟨m1, m2, m3, m4, m5⟩ := z
  exact ⟨(e 68 19 (by omega)).trans m1, (e 68 20 (by omega)).trans m2, (e 68 21 (by omega)).trans m3, (e 68 24 (by omega)).trans m4, XFm_eq (fun j _ => ⟨e 79 j (by omega), e 80 j (by omega), e 81 j (by omega)⟩) m5⟩
/-- the answer of x's going over an instruction; the place is not set yet -/
def XoQ (h : hp) (ρ : Nat → Nat) (σ : zS) (p : Nat) (v : Nat ⊕ zO) (Q : qt) : Prop := match v with
  | .inl x => ∀ h', FX (pEx h) h h' → hU h' ≤ hU h + 25 → XZ h' σ ρ → Q (.inr (85 + x)) h'
  | .inr o => ∀ h' ρ', FX (pXo h) h h' → hU h' ≤ hU h + 25 → XFr h' → XZ h' o.1 ρ' → Xr h' o.2.1 p o.2.2.2.1 o.2.2.2.2 → Q (.inl (some (vI (o.2.2.1 : Nat)))) h'
theorem sg_neg (w : Bool) : n_neg (sg w) = sg (!w) := by cases w <;> decide
/-- x enters a routine -/
theorem x_enter {d r x i p c a : Nat} {Q : qt} {h : hp} {R : Nat → Option zT} {σ : zS} {ρ : Nat → Nat} {w f g : Bool} {F : zF} (hS : St h) (rI : RIs h R) (hZ : XZ h σ ρ) (hFr : XFr h) (hX : Xr h r p w F) (hF : F.length ≤ 12) (ho : hT h c = (35, 0)) (hc : 145 ≤ c) (f0 : hR h c 0 = some a) (ta : hT h a = (27, 0)) (ha : 145 ≤ a) (hx : x < 10) (a0 : hI h a 0 = (x : Nat)) (a1 : hI h a 1 = bI g) (hd : 20 ≤ d) (k : XoQ h ρ σ p (match R x with
      | none => .inl 13
      | some t2 => if zord t2 = true then .inl 13 else if F.length = 12 then .inl 11 else .inr (σ, x, (if f = g then 0 else zc t2), (w == g), (r, i, w) :: F)) Q) : Wc d 381 [vR (some c), vR (some 68), vI (i : Nat), vI (bI f)] h Q := by
  obtain ⟨d, rfl⟩ : ∃ e, d = e + 9 := ⟨d - 9, by omega⟩
  have z := rI x hx
  obtain ⟨x1, x2, x3, x4, x5⟩ := id hX
  refine se_X35_go hS ho ?_
  rw [f0, ofR_some, a0, Int.toNat_natCast]
  refine ⟨by rw [ta]; simp, by omega, ?_⟩
  cases hx2 : R x with
  | none =>
    rw [hx2] at k z
    exact ip z.1 (ss_X35_go_27 hS ho (k h (FX_refl hS) (by omega) hZ))
  | some t2 =>
    rw [hx2] at k z
    obtain ⟨b1, b2, b3, b4, b5, ⟨rc, b6, b7⟩, -⟩ := z
    dsimp only at k
    rw [b6, ofR_some]
    refine im (by intro q; cases q) (ip (by rw [b7.1]) ?_)
    refine c_isOrd hS b1 b2 b7 ?_
    refine ss_X35_go_24 hS ho ?_
    cases hz : zord t2 with
    | true =>
      rw [hz, if_pos rfl] at k
      exact im (by decide) (ss_X35_go_27 hS ho (k h (FX_refl hS) (by omega) hZ))
    | false =>
      rw [hz, if_neg (by decide)] at k
      refine ip rfl ?_
      rw [x4, x3, x1, f0, ofR_some, ofR_some]
      by_cases f12 : F.length = 12
      · rw [if_pos f12] at k
        exact ip (by omega) (k h (FX_refl hS) (by omega) hZ)
      rw [if_neg f12] at k
      rw [n1 (show F.length < 1000 by omega), Int.toNat_natCast]
      have ea : ∀ j, hI (sI (sI (sI (sI h 79 F.length (r : Nat)) 80 F.length (i : Nat)) 81 F.length (sg w)) 68 24 ((F.length + 1 : Nat) : Int)) a j = hI h a j := fun j => by
        rw [hI_sI, if_neg (by omega), hI_sI, if_neg (by omega), hI_sI, if_neg (by omega), hI_sI, if_neg (by omega)]
      rw [ea 0, a0]
      obtain ⟨e, ee⟩ : ∃ y, y = sI (sI (sI (sI (sI h 79 F.length (r : Nat)) 80 F.length (i : Nat)) 81 F.length (sg w)) 68 24 ((F.length + 1 : Nat) : Int)) 68 19 (x : Nat) := ⟨_, rfl⟩
      rw [← ee]
      have Fe : FX (pXo h) h e := by rw [ee]; exact FXo_sI (FXo_sI (FXo_sI (FXo_sI (FXo_sI (FX_refl hS) (by omega)) (by omega)) (by omega)) (by omega)) (by omega)
      have Se : St e := Fe.2.2.1
      have eT : ∀ y, hT e y = hT h y := fun y => by rw [ee]; rfl
      have eR : ∀ y j, hR e y j = hR h y j := fun y j => by rw [ee]; rfl
      have eN : hN e = hN h ∧ hU e = hU h := by rw [ee]; exact ⟨rfl, rfl⟩
      have ea1 : hI e a 1 = bI g := by rw [ee, hI_sI, if_neg (by omega), ea 1]; exact a1
      have smE : ∀ y, y ≠ 68 → y ≠ 79 → y ≠ 80 → y ≠ 81 → sm h e y := fun y y1 y2 y3 y4 => by rw [ee]; exact sm_sI (sm_sI (sm_sI (sm_sI (sm_sI (sm_refl _ _) y2) y3) y4) y1) y1
      have fe : XFm e ((r, i, w) :: F) := by
        refine ⟨by rw [ee]; simp [hI_sI], by rw [ee]; simp [hI_sI], by rw [ee]; simp [hI_sI], XFm_eq (fun j hj => ?_) x5⟩
        rw [ee]
        refine ⟨?_, ?_, ?_⟩ <;> rw [hI_sI, if_neg (by omega), hI_sI, if_neg (by omega), hI_sI, if_neg (by omega), hI_sI, if_neg (by omega), hI_sI, if_neg (by omega)]
      have e19 : hI e 68 19 = (x : Nat) := by rw [ee]; simp [hI_sI]
      have e20 : hI e 68 20 = (p : Nat) := by rw [ee]; simp [hI_sI]; exact x2
      have e24 : hI e 68 24 = ((F.length + 1 : Nat) : Int) := by rw [ee]; simp [hI_sI]
      have e28 : hI e 68 28 = -1 := by rw [ee]; simp [hI_sI]; exact hFr.1
      clear ee ea
      have k132 : ∀ y : Int, y = sg (w == g) → Wp (d + 8) C_X35_go Q 132 [vR (some c), vR (some 68), vI (i : Nat), vI (bI f), vR (some rc)] [vI y, vR (some 68)] e := by
        intro y ey
        subst ey
        refine ss_X35_go_132 Se ((eT c).trans ho) ?_
        rw [eR c 0, f0, ofR_some, ofR_some]
        refine ⟨by rw [eT, ta]; simp, ?_⟩
        have ea2 : hI (sI e 68 21 (sg (w == g))) a 1 = bI g := by rw [hI_sI, if_neg (by omega)]; exact ea1
        rw [ea2]
        obtain ⟨e2, ee2⟩ : ∃ y, y = sI e 68 21 (sg (w == g)) := ⟨_, rfl⟩
        rw [← ee2]
        have F2 : FX (pXo h) h e2 := by rw [ee2]; exact FXo_sI Fe (by omega)
        have S2 : St e2 := F2.2.2.1
        have T2 : hT e2 c = (35, 0) := by rw [ee2]; exact (eT c).trans ho
        have Z2 : XZ e2 σ ρ := by
          obtain ⟨⟨q1, q2⟩, q3, q4⟩ := hZ
          have s2 : ∀ y, y ≠ 68 → y ≠ 79 → y ≠ 80 → y ≠ 81 → sm h e2 y := fun y y1 y2 y3 y4 => by rw [ee2]; exact sm_sI (smE y y1 y2 y3 y4) y1
          exact ⟨⟨fun j hj => by rw [(s2 73 (by decide) (by decide) (by decide) (by decide)).2.1, (s2 74 (by decide) (by decide) (by decide) (by decide)).2.1]; exact q1 j hj, XRw_eq (by rw [ee2]; exact Nat.le_of_eq eN.1.symm) (fun _ => rfl) (fun _ => rfl) (fun _ => rfl) (fun _ => rfl) (fun j hj => (s2 _ (by omega) (by omega) (by omega) (by omega)).2.2.2 0) (fun y y1 _ _ _ => s2 y (by omega) (by omega) (by omega) (by omega)) q2⟩, fun s hs => by rw [(s2 77 (by decide) (by decide) (by decide) (by decide)).2.1]; exact q3 s hs, fun j hj => by rw [(s2 76 (by decide) (by decide) (by decide) (by decide)).2.1]; exact q4 j hj⟩
        have X2 : Xr e2 x p (w == g) ((r, i, w) :: F) := by
          rw [ee2]
          refine ⟨by rw [hI_sI, if_neg (by omega)]; exact e19, by rw [hI_sI, if_neg (by omega)]; exact e20, by rw [hI_sI, if_pos ⟨rfl, rfl⟩], by rw [hI_sI, if_neg (by omega)]; exact e24, XFm_eq (fun j _ => by rw [hI_sI, if_neg (by omega), hI_sI, if_neg (by omega), hI_sI, if_neg (by omega)]; exact ⟨rfl, rfl, rfl⟩) fe⟩
        have fr2 : XFr e2 := ⟨by rw [ee2, hI_sI, if_neg (by omega)]; exact e28, by rw [ee2]; exact (eR 68 29).trans hFr.2⟩
        have U2 : hU e2 ≤ hU h + 25 := by rw [ee2]; show hU e ≤ _; rw [eN.2]; omega
        by_cases fg : f = g
        · rw [if_pos fg] at k
          subst fg
          exact ip rfl (ss_X35_go_160 S2 T2 (k e2 ρ F2 U2 fr2 Z2 X2))
        · rw [if_neg fg] at k
          refine im (by cases f <;> cases g <;> first | exact absurd rfl fg | decide) ?_
          have X7 : XR e2 t2 rc := XR_eq F2.1 (fun y y1 y2 y3 => FXr_sm (FXr_o F2) y1 y2 y3) b7
          obtain ⟨c1, -, -, lo, hi, pp, l, arr, ys, cs, es, -, -, -, q4, -, -, -, -, q9, -, q11, q12⟩ := X7
          have T1 : hT e rc = (33, 0) := by have : hT e2 rc = hT e rc := by rw [ee2]; rfl
                                            rw [← this]; exact c1
          have R1 : hR e rc 1 = some l := by have : hR e2 rc 1 = hR e rc 1 := by rw [ee2]; rfl
                                             rw [← this]; exact q4
          have TL : hT e l = (44, 0) := by have : hT e2 l = hT e l := by rw [ee2]; rfl
                                           rw [← this]; exact q9.1
          rw [R1, ofR_some]
          refine ⟨by rw [T1]; simp, ip (by rw [TL]) ?_⟩
          refine c_size S2 q9 ?_
          have hlen : cs.length = zc t2 := by
            rw [RC_len q11, q12 (by rw [hz] at b2; exact b2)]
            exact (zi_len t2).1 b1 _ _ _
          rw [hlen]
          exact ss_X35_go_160 S2 T2 (k e2 ρ F2 U2 fr2 Z2 X2)
      have ea1' : hI e a 1 = bI g := ea1
      refine im (by omega) ⟨by omega, by omega, by omega, by rw [ta]; simp, by rw [ta]; simp, ?_⟩
      rw [ea1']
      cases g with
      | true => exact im (by decide) (k132 _ (by cases w <;> rfl))
      | false =>
        refine ip rfl ?_
        rw [sg_neg]
        exact k132 _ (by cases w <;> rfl)
