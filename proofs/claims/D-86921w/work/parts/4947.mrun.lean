/-! THE RUN: routine, place, way, and the calls that wait -/
abbrev zF : Type := List (Nat × Nat × Bool)
def sg (w : Bool) : Int := if w = true then 1 else -1
theorem sg_n (w : Bool) : n_sub 0 (sg w) = sg (!w) := by cases w <;> decide
abbrev zO : Type := zS × Nat × Nat × Bool × zF
/-- over the instruction e, which is at i -/
def rStep (R : Nat → Option zT) (σ : zS) (r : Nat) (w : Bool) (F : zF) (f : Bool) (i : Nat) (e : zEn) : Nat ⊕ zO :=
  if e.1 = 0 then (if zg e.2.1 = 106 ∨ zg e.2.1 = 107 then (match R (zn (zl e.2.1)) with
      | none => .inl 13
      | some t2 => if zord t2 = true then .inl 13 else if F.length = 12 then .inl 11 else .inr (σ, zn (zl e.2.1), (if f = decide (zg e.2.1 = 106) then 0 else zc t2), (w == decide (zg e.2.1 = 106)), (r, i, w) :: F))
    else match sStep σ e.2.1 f with
      | .inl v => .inl v
      | .inr σ' => .inr (σ', r, (if f = true then i + 1 else i), w, F))
  else match sCor σ e f with
    | .inl v => .inl v
    | .inr q => .inr (σ, r, q, w, F)
def cl (R : Nat → Option zT) (r p : Nat) : Bool := match R r with
  | none => false
  | some t => match (zi t (t, 0, 0) 0 0)[p]? with
    | none => false
    | some e => decide (zg e.2.1 = 106)
def rLv (R : Nat → Option zT) (σ : zS) (f : Bool) : zF → Nat ⊕ zO
  | [] => .inl 12
  | (r', p', w') :: F' => .inr (σ, r', (if f = cl R r' p' then p' + 1 else p'), w', F')
/-- one step of the run -/
def rgo (R : Nat → Option zT) (σ : zS) (r p : Nat) (w : Bool) (F : zF) (f : Bool) : Nat ⊕ zO := match R r with
  | none => .inl 0
  | some t => if (if f = true then zc t ≤ p else p = 0) then rLv R σ f F
    else match (zi t (t, 0, 0) 0 0)[if f = true then p else p - 1]? with
      | none => .inl 0
      | some e => rStep R σ r w F f (if f = true then p else p - 1) e
/-- the calls that wait are calls; the ways fit -/
def Fok (R : Nat → Option zT) : Bool → zF → Prop
  | _, [] => True
  | w, (r', p', w') :: F => r' < 10 ∧ (∃ t e, R r' = some t ∧ zord t = false ∧ (zi t (t, 0, 0) 0 0)[p']? = some e ∧ e.1 = 0 ∧ (zg e.2.1 = 106 ∨ zg e.2.1 = 107) ∧ w = (w' == decide (zg e.2.1 = 106))) ∧ Fok R w' F
def Rn (R : Nat → Option zT) (r p : Nat) (w : Bool) (F : zF) : Prop := r < 10 ∧ (∃ t, R r = some t ∧ zord t = false ∧ p ≤ zc t) ∧ F.length ≤ 12 ∧ Fok R w F
/-! m's -/
def pMr (a j : Nat) : Prop := pMd a j ∨ (a = 116 ∧ 55 ≤ j ∧ j ≤ 59) ∨ (a = 116 ∧ j = 62) ∨ a = 142 ∨ a = 143
def FMr (h h' : hp) : Prop := FX pMr h h' ∧ hN h' = hN h ∧ hU h' = hU h
theorem FMr_refl {h : hp} (hS : St h) : FMr h h := ⟨FX_refl hS, rfl, rfl⟩
theorem FMr_trans {h h1 h2 : hp} (a : FMr h h1) (b : FMr h1 h2) : FMr h h2 := ⟨FX_trans a.1 b.1, b.2.1.trans a.2.1, b.2.2.trans a.2.2⟩
theorem FMr_St {h h' : hp} (a : FMr h h') : St h' := a.1.2.2.1
theorem FMr_sI {h h' : hp} (a : FMr h h') {c j : Nat} {x : Int} (hc : pMr c j) : FMr h (sI h' c j x) :=
  ⟨FX_sI a.1 (Or.inl hc) (by unfold pMr pMd at hc; omega), a.2.1, a.2.2⟩
theorem FMr_d {h h' : hp} (a : FMd h h') : FMr h h' := ⟨FX_mono a.1 (fun _ _ _ z => Or.inl z), a.2.1, a.2.2⟩
theorem FMd_i {h h' : hp} (a : FMd h h') (hS : St h) {c j : Nat} (hc : c < 145) (hp : ¬ pMd c j) : hI h' c j = hI h c j := (FX_at a.1 (Nat.lt_of_lt_of_le hc hS.1) hp).1
theorem FMr_i {h h' : hp} (a : FMr h h') (hS : St h) {c j : Nat} (hc : c < 145) (hp : ¬ pMr c j) : hI h' c j = hI h c j := (FX_at a.1 (Nat.lt_of_lt_of_le hc hS.1) hp).1
def pMo (a j : Nat) : Prop := pMd a j ∨ (a = 116 ∧ 55 ≤ j ∧ j ≤ 59 ∧ j ≠ 58) ∨ a = 142 ∨ a = 143
def FMo (h h' : hp) : Prop := FX pMo h h' ∧ hN h' = hN h ∧ hU h' = hU h
theorem FMo_refl {h : hp} (hS : St h) : FMo h h := ⟨FX_refl hS, rfl, rfl⟩
theorem FMo_trans {h h1 h2 : hp} (a : FMo h h1) (b : FMo h1 h2) : FMo h h2 := ⟨FX_trans a.1 b.1, b.2.1.trans a.2.1, b.2.2.trans a.2.2⟩
theorem FMo_St {h h' : hp} (a : FMo h h') : St h' := a.1.2.2.1
theorem FMo_sI {h h' : hp} (a : FMo h h') {c j : Nat} {x : Int} (hc : pMo c j) : FMo h (sI h' c j x) :=
  ⟨FX_sI a.1 (Or.inl hc) (by unfold pMo pMd at hc; omega), a.2.1, a.2.2⟩
theorem FMo_d {h h' : hp} (a : FMd h h') : FMo h h' := ⟨FX_mono a.1 (fun _ _ _ z => Or.inl z), a.2.1, a.2.2⟩
theorem FMo_i {h h' : hp} (a : FMo h h') (hS : St h) {c j : Nat} (hc : c < 145) (hp : ¬ pMo c j) : hI h' c j = hI h c j := (FX_at a.1 (Nat.lt_of_lt_of_le hc hS.1) hp).1
theorem FMr_o {h h' : hp} (a : FMo h h') : FMr h h' := ⟨FX_mono a.1 (fun _ _ _ z => by unfold pMo pMd at z; unfold pMr pMd; omega), a.2.1, a.2.2⟩
def MFr (h : hp) : zF → Prop
  | [] => True
  | x :: F => hI h 142 F.length = (x.1 : Nat) ∧ hI h 143 F.length = (x.2.1 : Nat) ∧ MFr h F
theorem MFr_eq {h h' : hp} : ∀ {F : zF}, (∀ j, j < F.length → hI h' 142 j = hI h 142 j ∧ hI h' 143 j = hI h 143 j) → MFr h F → MFr h' F := by
  intro F
  induction F with
  | nil => intro _ _; trivial
  | cons x F ih =>
    intro e z
    have e0 := e F.length (Nat.lt_succ_self _)
    exact ⟨e0.1.trans z.1, e0.2.trans z.2.1, ih (fun j hj => e j (Nat.lt_succ_of_lt hj)) z.2.2⟩
def Mr (h : hp) (r p : Nat) (f : Bool) (F : zF) : Prop := hI h 116 55 = (r : Nat) ∧ hI h 116 56 = (p : Nat) ∧ hI h 116 57 = sg f ∧ hI h 116 59 = (F.length : Nat) ∧ MFr h F
theorem Mr_d {h h' : hp} {r p : Nat} {f : Bool} {F : zF} (a : FMd h h') (hS : St h) (z : Mr h r p f F) : Mr h' r p f F := by
  have e : ∀ j, 55 ≤ j → hI h' 116 j = hI h 116 j := fun j hj => FMd_i a hS (by decide) (by unfold pMd; omega)
  exact ⟨(e 55 (by decide)).trans z.1, (e 56 (by decide)).trans z.2.1, (e 57 (by decide)).trans z.2.2.1, (e 59 (by decide)).trans z.2.2.2.1, MFr_eq (fun j _ => ⟨FMd_i a hS (by decide) (by unfold pMd; omega), FMd_i a hS (by decide) (by unfold pMd; omega)⟩) z.2.2.2.2⟩
theorem RK_r {h h' : hp} {r : Nat} {ts : List (Nat × Nat)} (a : FMr h h') (hS : St h) (z : RK h r ts) : RK h' r ts := RK_eq (fun j => FMr_i a hS (by decide) (by unfold pMr pMd; omega)) (fun j => FMr_i a hS (by decide) (by unfold pMr pMd; omega)) (fun j => FMr_i a hS (by decide) (by unfold pMr pMd; omega)) z
theorem RIs_M {h h' : hp} {R : Nat → Option zT} (a : FMr h h') (hS : St h) (z : RIs h R) : RIs h' R := by
  intro r hr
  have z1 := z r hr
  have e : ∀ c j, 68 ≤ c → c < 134 → c ≠ 116 → hI h' c j = hI h c j ∧ hR h' c j = hR h c j := fun c j c1 c2 c3 => by
    have := FX_at a.1 (c := c) (j := j) (Nat.lt_of_lt_of_le (show c < 145 by omega) hS.1) (by unfold pMr pMd; omega)
    exact ⟨this.1, this.2.2⟩
  cases hR : R r with
  | none =>
    rw [hR] at z1
    exact ⟨(e 72 r (by decide) (by decide) (by decide)).2.trans z1.1, (e 121 r (by decide) (by decide) (by decide)).1.trans z1.2⟩
  | some t =>
    rw [hR] at z1
    obtain ⟨a1, a2, a3, a4, a5, ⟨rc, a6, a7⟩, b1, b2, b3, b4, b5⟩ := z1
    refine ⟨a1, a2, a3, a4, a5, ⟨rc, (e 72 r (by decide) (by decide) (by decide)).2.trans a6, XR_eq (by rw [a.2.1]; exact Nat.le_refl _) (fun c c1 c2 _ => FX_sm a.1 c2 (fun j => by unfold pMr pMd; omega)) a7⟩, (e 121 r (by decide) (by decide) (by decide)).1.trans b1, (e 122 r (by decide) (by decide) (by decide)).1.trans b2, RK_r a hS b3, (e 126 r (by decide) (by decide) (by decide)).1.trans b4, MEs_eq (fun i _ c c1 c2 => (e c _ (by omega) (by omega) (by omega)).1) b5⟩
/-- the answer of m's going over an instruction; f is the way it goes, w the way of the run -/
def MoQ (h : hp) (σ : zS) (r p : Nat) (w f : Bool) (F : zF) (v : Nat ⊕ zO) (Q : qt) : Prop := match v with
  | .inl x => ∀ h', FMo h h' → MV h' σ → Mr h' r p f F → Q (.inl (some (vI (x : Nat)))) h'
  | .inr o => ∀ h', FMo h h' → MV h' o.1 → Mr h' o.2.1 o.2.2.1 (f == (w == o.2.2.2.1)) o.2.2.2.2 → Q (.inl (some (vI 0))) h'
theorem MV_r {h : hp} {σ : zS} {j : Nat} {x : Int} (hj : j ≠ 35) (z : MV h σ) : MV (sI h 116 j x) σ :=
  MV_FI (mj := [j]) (as := []) (FI_sI (FI_refl h) (by unfold pG; simp)) (by simp; omega) rfl z
theorem m_enters {d r r2 i p : Nat} {Q : qt} {h : hp} {R : Nat → Option zT} {σ : zS} {w f c : Bool} {F : zF} (hS : St h) (hR : RIs h R) (hV : MV h σ) (h2 : r2 < 10) (hF : F.length ≤ 12) (hM : Mr h r p f F) (k : MoQ h σ r p w f F (match R r2 with
      | none => .inl 13
      | some t2 => if zord t2 = true then .inl 13 else if F.length = 12 then .inl 11 else .inr (σ, r2, (if f = c then 0 else zc t2), (w == c), (r, i, w) :: F)) Q) : Wc (d + 1) 180 [vR (some 116), vI (r2 : Nat), vI (i : Nat), vI (bI (!c))] h Q := by
  refine se_X4_enters hS ?_
  have z := hR r2 h2
  rw [Int.toNat_natCast]
  refine ⟨by omega, ?_⟩
  cases h2' : R r2 with
  | none =>
    rw [h2'] at k z
    exact ip z.2 (ss_X4_enters_18 hS (k h (FMo_refl hS) hV hM))
  | some t2 =>
    rw [h2'] at k z
    obtain ⟨a1, a2, a3, a4, a5, a6, b1, b2, b3, b4, b5⟩ := z
    dsimp only at k
    rw [b1, b2]
    refine im (by decide) ⟨by omega, ?_⟩
    cases ho : zord t2 with
    | true =>
      rw [ho, if_pos rfl] at k
      exact im (by decide) (ss_X4_enters_18 hS (k h (FMo_refl hS) hV hM))
    | false =>
      rw [ho, if_neg (by decide)] at k
      refine ip rfl ?_
      obtain ⟨m1, m2, m3, m4, m5⟩ := hM
      rw [m4, m3, m1]
      by_cases f12 : F.length = 12
      · rw [if_pos f12] at k
        exact ip (by omega) (k h (FMo_refl hS) hV ⟨m1, m2, m3, m4, m5⟩)
      rw [if_neg f12] at k
      rw [n1 (show F.length < 1000 by omega), Int.toNat_natCast]
      refine im (by omega) ⟨by omega, by omega, ?_⟩
      obtain ⟨g, eg⟩ : ∃ x, x = sI (sI (sI (sI h 142 F.length (r : Nat)) 143 F.length (i : Nat)) 116 59 ((F.length + 1 : Nat) : Int)) 116 55 (r2 : Nat) := ⟨_, rfl⟩
      rw [← eg]
      have Fg : FMo h g := by rw [eg]; exact FMo_sI (FMo_sI (FMo_sI (FMo_sI (FMo_refl hS) (by unfold pMo; omega)) (by unfold pMo; omega)) (by unfold pMo; omega)) (by unfold pMo; omega)
      have Sg := FMo_St Fg
      have Vg : MV g σ := by
        rw [eg]
        refine MV_r (by decide) (MV_r (by decide) (MV_FI (mj := []) (as := [142, 143]) (FI_sI (FI_sI (FI_refl h) rfl) rfl) rfl rfl hV))
      have g57 : hI g 116 57 = sg f := by rw [eg]; simp [hI_sI]; exact m3
      have g26 : hI g 126 r2 = (zc t2 : Nat) := by rw [FMo_i Fg hS (by decide) (by unfold pMo pMd; omega)]; exact b4
      have gF : MFr g ((r, i, w) :: F) := by
        refine ⟨by rw [eg]; simp [hI_sI], by rw [eg]; simp [hI_sI], MFr_eq (fun j hj => ?_) m5⟩
        rw [eg]
        constructor
        · rw [hI_sI, if_neg (by omega), hI_sI, if_neg (by omega), hI_sI, if_neg (by omega), hI_sI, if_neg (by omega)]
        · rw [hI_sI, if_neg (by omega), hI_sI, if_neg (by omega), hI_sI, if_neg (by omega), hI_sI, if_neg (by omega)]
      have g55 : hI g 116 55 = (r2 : Nat) := by rw [eg]; simp [hI_sI]
      have g59 : hI g 116 59 = ((F.length + 1 : Nat) : Int) := by rw [eg]; simp [hI_sI]
      clear eg
      have fin : ∀ (q : Nat) (x : Int), q = (if f = c then 0 else zc t2) → x = sg (f == (w == (w == c))) → Wp d C_X4_enters Q 120 [vR (some 116), vI (r2 : Nat), vI (i : Nat), vI (bI (!c))] [vI x, vR (some 116)] (sI g 116 56 (q : Nat)) := by
        intro q x eq ex
        refine ss_X4_enters_120 (St_sI Sg (by omega)) ?_
        refine k _ (FMo_sI (FMo_sI Fg (by unfold pMo; omega)) (by unfold pMo; omega)) (MV_r (by decide) (MV_r (by decide) Vg)) ⟨?_, ?_, ?_, ?_, ?_⟩
        · rw [hI_sI, if_neg (by omega), hI_sI, if_neg (by omega)]; exact g55
        · rw [hI_sI, if_neg (by omega), hI_sI, if_pos ⟨rfl, rfl⟩, eq]
        · rw [hI_sI, if_pos ⟨rfl, rfl⟩, ex]
        · rw [hI_sI, if_neg (by omega), hI_sI, if_neg (by omega)]; exact g59
        · exact MFr_eq (fun j _ => by rw [hI_sI, if_neg (by omega), hI_sI, if_neg (by omega), hI_sI, if_neg (by omega), hI_sI, if_neg (by omega)]; exact ⟨rfl, rfl⟩) gF
      have k99 : ∀ q : Nat, q = (if f = c then 0 else zc t2) → Wp d C_X4_enters Q 99 [vR (some 116), vI (r2 : Nat), vI (i : Nat), vI (bI (!c))] [vI (q : Nat), vR (some 116)] g := by
        intro q eq
        refine ss_X4_enters_99 Sg ?_
        have e57 : hI (sI g 116 56 (q : Nat)) 116 57 = sg f := by rw [hI_sI, if_neg (by omega)]; exact g57
        cases c with
        | true =>
          refine ip rfl ?_
          rw [g57]
          exact fin q _ eq (by cases f <;> cases w <;> rfl)
        | false =>
          refine im (by decide) ?_
          rw [g57, sg_n]
          exact fin q _ eq (by cases f <;> cases w <;> rfl)
      have k86 : Wp d C_X4_enters Q 86 [vR (some 116), vI (r2 : Nat), vI (i : Nat), vI (bI (!c))] [vI (bI (!f)), vI (bI (!c)), vR (some 116)] g := by
        refine ss_X4_enters_86 Sg ?_
        by_cases fc : f = c
        · have := k99 0 (by rw [if_pos fc])
          rw [fc]
          exact ip rfl this
        · have := k99 (zc t2) (by rw [if_neg fc])
          rw [Int.toNat_natCast, g26]
          refine im ?_ ⟨by omega, this⟩
          cases f <;> cases c <;> first | exact absurd rfl fc | decide
      cases f with
      | true => exact im (by decide) k86
      | false => exact ip rfl k86
