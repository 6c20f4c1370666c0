/-! corners, there -/
theorem n1 {x : Nat} (h : x < 1000) : n_add ((x : Nat) : Int) 1 = ((x + 1 : Nat) : Int) := by rw [na_eq (by omega) (by omega)]; omega
theorem x_gf {d c : Nat} {Q : qt} {h : hp} {e : zEn} {s : Bool} (hS : St h) (ho : hT h c = (37, 0)) (he : e.1 = 1 ∨ e.1 = 2 ∨ e.1 = 3) (hg : zg e.2.1 = 108 ∨ zg e.2.1 = 111) (f1 : hI h c 1 = (if zg e.2.1 = 108 then (e.1 : Int) - 1 else (e.1 : Int) + 2)) (f2 : hI h c 2 = (e.2.2.1 : Nat)) (f3 : hI h c 3 = (zm e.2.1 e.2.2.1 : Nat)) (f4 : hI h c 4 = (ze e.2.1 e.2.2.1 : Nat)) (hb : e.2.2.1 < 1000 ∧ zm e.2.1 e.2.2.1 < 1000 ∧ ze e.2.1 e.2.2.1 < 1000) (k1 : cJp e true s = none → Q (.inr 100) h) (k2 : ∀ q, cJp e true s = some q → Q (.inl (some (vI (q : Nat)))) h) : Wc (d + 2) 388 [vR (some c), vR (some 68), vI (bI s)] h Q := by
  obtain ⟨n, T, b, p⟩ := e
  dsimp only at he hg f1 f2 f3 f4 hb
  refine se_X37_goForward hS ho ?_
  rw [f1, f2, f3, f4, n1 hb.1, n1 hb.2.1, n1 hb.2.2]
  have mu : ∀ (z : Bool) (q : Nat), (z = false → cJp (n, T, b, p) true s = none) → (z = true → cJp (n, T, b, p) true s = some q) → ∀ {x5 : Int}, x5 = bI z → cI (Wc (d + 1)) 389 [vR (some c), vR (some 68), vI x5, vI (q : Nat)] h (fun x2 h1 => Q (.inl (some (vI x2))) h1) (fun e3 h4 => Q (.inr e3) h4) := by
    intro z q z1 z2 x5 e5
    subst e5
    exact x_must hS ho (fun y => k1 (z1 y)) (fun y => k2 q (z2 y))
  rcases hg with g | g
  · rw [if_pos g]
    rcases he with e1 | e1 | e1 <;> subst e1
    · have c0 : cJp (1, T, b, p) true s = some (if s = true then b + 1 else zm T b + 1) := by unfold cJp; rw [if_pos g]; rfl
      refine ip rfl ?_
      cases s with
      | true => exact im (by decide) (ss_X37_goForward_59 hS ho (k2 _ c0))
      | false => exact ip rfl (ss_X37_goForward_59 hS ho (k2 _ c0))
    · have c0 : cJp (2, T, b, p) true s = (if s = true then some (ze T b + 1) else none) := by unfold cJp; rw [if_pos g]; rfl
      refine im (by decide) (ip rfl (mu s _ ?_ ?_ rfl))
      · intro y; rw [c0, y]; rfl
      · intro y; rw [c0, y]; rfl
    · have c0 : cJp (3, T, b, p) true s = (if s = true then none else some (ze T b + 1)) := by unfold cJp; rw [if_pos g]; rfl
      refine im (by decide) (im (by decide) (ip rfl ?_))
      cases s with
      | true =>
        refine im (by decide) (ss_X37_goForward_84 hS ho ?_)
        rw [ofR_some, f4, n1 hb.2.2]
        exact ip (by rw [ho]) (mu false _ (fun _ => c0) (fun y => by cases y) rfl)
      | false =>
        refine ip rfl (ss_X37_goForward_84 hS ho ?_)
        rw [ofR_some, f4, n1 hb.2.2]
        exact ip (by rw [ho]) (mu true _ (fun y => by cases y) (fun _ => c0) rfl)
  · have g8 : ¬ zg T = 108 := by omega
    rw [if_neg g8]
    rcases he with e1 | e1 | e1 <;> subst e1
    · have c0 : cJp (1, T, b, p) true s = (if s = true then some (b + 1) else none) := by unfold cJp; rw [if_neg g8]; rfl
      refine im (by decide) (im (by decide) (im (by decide) (ip rfl (mu s _ ?_ ?_ rfl))))
      · intro y; rw [c0, y]; rfl
      · intro y; rw [c0, y]; rfl
    · have c0 : cJp (2, T, b, p) true s = some (if s = true then ze T b + 1 else zm T b + 1) := by unfold cJp; rw [if_neg g8]; rfl
      refine im (by decide) (im (by decide) (im (by decide) (im (by decide) (ip rfl ?_))))
      cases s with
      | true => exact im (by decide) (ss_X37_goForward_126 hS ho (k2 _ c0))
      | false => exact ip rfl (ss_X37_goForward_126 hS ho (k2 _ c0))
    · have c0 : cJp (3, T, b, p) true s = (if s = true then none else some (b + 1)) := by unfold cJp; rw [if_neg g8]; rfl
      refine im (by decide) (im (by decide) (im (by decide) (im (by decide) (im (by decide) ?_))))
      cases s with
      | true =>
        refine im (by decide) (ss_X37_goForward_138 hS ho ?_)
        rw [ofR_some, f2, n1 hb.1]
        exact ip (by rw [ho]) (mu false _ (fun _ => c0) (fun y => by cases y) rfl)
      | false =>
        refine ip rfl (ss_X37_goForward_138 hS ho ?_)
        rw [ofR_some, f2, n1 hb.1]
        exact ip (by rw [ho]) (mu true _ (fun y => by cases y) (fun _ => c0) rfl)
/-! and back -/
theorem x_gb {d c : Nat} {Q : qt} {h : hp} {e : zEn} {s : Bool} (hS : St h) (ho : hT h c = (37, 0)) (he : e.1 = 1 ∨ e.1 = 2 ∨ e.1 = 3) (hg : zg e.2.1 = 108 ∨ zg e.2.1 = 111) (f1 : hI h c 1 = (if zg e.2.1 = 108 then (e.1 : Int) - 1 else (e.1 : Int) + 2)) (f2 : hI h c 2 = (e.2.2.1 : Nat)) (f3 : hI h c 3 = (zm e.2.1 e.2.2.1 : Nat)) (f4 : hI h c 4 = (ze e.2.1 e.2.2.1 : Nat)) (k1 : cJp e false s = none → Q (.inr 100) h) (k2 : ∀ q, cJp e false s = some q → Q (.inl (some (vI (q : Nat)))) h) : Wc (d + 2) 390 [vR (some c), vR (some 68), vI (bI s)] h Q := by
  obtain ⟨n, T, b, p⟩ := e
  dsimp only at he hg f1 f2 f3 f4
  refine se_X37_goBack hS ho ?_
  rw [f1, f2, f3, f4]
  have mu : ∀ (z : Bool) (q : Nat), (z = false → cJp (n, T, b, p) false s = none) → (z = true → cJp (n, T, b, p) false s = some q) → ∀ {x5 : Int}, x5 = bI z → cI (Wc (d + 1)) 389 [vR (some c), vR (some 68), vI x5, vI (q : Nat)] h (fun x2 h1 => Q (.inl (some (vI x2))) h1) (fun e3 h4 => Q (.inr e3) h4) := by
    intro z q z1 z2 x5 e5
    subst e5
    exact x_must hS ho (fun y => k1 (z1 y)) (fun y => k2 q (z2 y))
  rcases hg with g | g
  · rw [if_pos g]
    rcases he with e1 | e1 | e1 <;> subst e1
    · have c0 : cJp (1, T, b, p) false s = (if s = true then some b else none) := by unfold cJp; rw [if_pos g]; rfl
      refine ip rfl (mu s _ ?_ ?_ rfl)
      · intro y; rw [c0, y]; rfl
      · intro y; rw [c0, y]; rfl
    · have c0 : cJp (2, T, b, p) false s = (if s = false then some b else none) := by unfold cJp; rw [if_pos g]; rfl
      refine im (by decide) (ip rfl ?_)
      cases s with
      | true => exact im (by decide) (mu false _ (fun _ => c0) (fun y => by cases y) rfl)
      | false => exact ip rfl (mu true _ (fun y => by cases y) (fun _ => c0) rfl)
    · have c0 : cJp (3, T, b, p) false s = some (if s = true then zm T b else ze T b) := by unfold cJp; rw [if_pos g]; rfl
      refine im (by decide) (im (by decide) (ip rfl ?_))
      cases s with
      | true => exact im (by decide) (k2 _ c0)
      | false => exact ip rfl (k2 _ c0)
  · have g8 : ¬ zg T = 108 := by omega
    rw [if_neg g8]
    rcases he with e1 | e1 | e1 <;> subst e1
    · have c0 : cJp (1, T, b, p) false s = some (if s = true then b else ze T b) := by unfold cJp; rw [if_neg g8]; rfl
      refine im (by decide) (im (by decide) (im (by decide) (ip rfl ?_)))
      cases s with
      | true => exact im (by decide) (k2 _ c0)
      | false => exact ip rfl (k2 _ c0)
    · have c0 : cJp (2, T, b, p) false s = (if s = true then none else some (zm T b)) := by unfold cJp; rw [if_neg g8]; rfl
      refine im (by decide) (im (by decide) (im (by decide) (im (by decide) (ip rfl ?_))))
      cases s with
      | true => exact im (by decide) (mu false _ (fun _ => c0) (fun y => by cases y) rfl)
      | false => exact ip rfl (mu true _ (fun y => by cases y) (fun _ => c0) rfl)
    · have c0 : cJp (3, T, b, p) false s = (if s = false then none else some (zm T b)) := by unfold cJp; rw [if_neg g8]; rfl
      refine im (by decide) (im (by decide) (im (by decide) (im (by decide) (im (by decide) (mu s _ ?_ ?_ rfl)))))
      · intro y; rw [c0, y]; rfl
      · intro y; rw [c0, y]; rfl
/-- the two tests of a step -/
theorem x_corner {d lo hi c k k2 k3 : Nat} {Q : qt} {h : hp} {σ : zS} {ρ : Nat → Nat} {e : zEn} {f : Bool} {a s t z : zT} {i : Int} (hS : St h) (hZ : XZ h σ ρ) (hFr : XFr h) (he : e.1 = 1 ∨ e.1 = 2 ∨ e.1 = 3) (hk : fkk k k2 k3) (et : e.2.1 = zB k a (zB k2 s (zB k3 t z))) (oa : okE a) (oz : okE z) (rc : RCe h lo hi e c) (hb : e.2.2.1 + zc e.2.1 ≤ 40) (hd : (zk e.2.1).length + 20 ≤ d) (kq : CoQ h (sCor σ e f) Q) : Wc d 387 [vR (some c), vR (some 68), vI i, vI (bI f)] h Q := by
  have hzc := zc_fk (e := a) (s := s) (t := t) (e2 := z) hk
  have hzk := zk_fk (e := a) (s := s) (t := t) (e2 := z) hk
  have hk2 : k = 108 ∨ k = 111 := by unfold fkk at hk; omega
  have hg : zg e.2.1 = 108 ∨ zg e.2.1 = 111 := by rw [et]; exact hk2
  have hm : zm e.2.1 e.2.2.1 = e.2.2.1 + 1 + zc s := by
    unfold zm
    rw [if_neg (by omega), et]; rfl
  have hze : ze e.2.1 e.2.2.1 = e.2.2.1 + zc e.2.1 - 1 := rfl
  have hza : zr (zr (zr e.2.1)) = z ∧ zl e.2.1 = a := by rw [et]; exact ⟨rfl, rfl⟩
  unfold RCe at rc
  rw [if_neg (by omega)] at rc
  obtain ⟨ho, ⟨x, f0, rt⟩, rc⟩ := rc
  rw [if_neg (by omega)] at rc
  obtain ⟨f1, f2, f3, f4⟩ := rc
  rw [et] at rt
  obtain ⟨q1, q2, tx, b, p, q, cc, ys, zs, r0, r1, r2, r3, re1, -, -, -, -, re2⟩ := RT_fk hk rt
  rw [← et] at hzc
  have tx' : (hT h x).1 ∈ [29, 30] := by
    rw [tx]
    by_cases w : k = 108
    · rw [if_pos w]; simp
    · rw [if_neg w]; simp
  have la := zht_len a 0 oa.1 oa.2.2
  have lz := zht_len z 0 oz.1 oz.2.2
  rw [et, hzk] at hd
  simp only [List.length_append, List.length_cons, List.length_nil] at hd
  obtain ⟨d, rfl⟩ : ∃ e, d = e + 4 := ⟨d - 4, by omega⟩
  unfold sCor at kq
  have hb3 : e.2.2.1 < 1000 ∧ zm e.2.1 e.2.2.1 < 1000 ∧ ze e.2.1 e.2.2.1 < 1000 := by omega
  have k101 : ∀ (w : Bool) (v4 : av), (match cJp e f w with
      | none => Q (.inr 100) h
      | some q => Q (.inl (some (vI (q : Nat)))) h) → ∀ g : Bool, Wp (d + 3) C_X37_go Q 101 [vR (some c), vR (some 68), vI i, vI (bI f), vI (bI g), vU] [vI (bI w)] h := by
    intro w v4 kw g
    refine ss_X37_go_101 hS ho ?_
    cases f with
    | true =>
      refine im (by decide) (x_gf hS ho he hg f1 f2 f3 f4 hb3 (fun y => ?_) (fun q y => ?_))
      · rw [y] at kw; exact kw
      · rw [y] at kw
        exact ss_X37_go_114 hS ho (ss_X37_go_124 hS ho kw)
    | false =>
      refine ip rfl (x_gb hS ho he hg f1 f2 f3 f4 (fun y => ?_) (fun q y => ?_))
      · rw [y] at kw; exact kw
      · rw [y] at kw
        exact ss_X37_go_124 hS ho kw
  have k91 : ∀ (v : Int) (g : Bool), (match cJp e f (decide (v ≠ 0)) with
      | none => Q (.inr 100) h
      | some q => Q (.inl (some (vI (q : Nat)))) h) → Wp (d + 3) C_X37_go Q 91 [vR (some c), vR (some 68), vI i, vI (bI f), vI (bI g), vU] [vJ v] h := by
    intro v g kv
    refine ss_X37_go_91 hS ho ?_
    by_cases v0 : v = 0
    · rw [decide_eq_false (fun y => y v0)] at kv
      exact ip v0 (k101 false vU kv g)
    · rw [decide_eq_true v0] at kv
      exact im v0 (k101 true vU kv g)
  have k63 : ∀ g : Bool, cE e f = (if g = true then a else z) → Wp (d + 3) C_X37_go Q 63 [vR (some c), vR (some 68), vI i, vI (bI f), vU, vU] [vI (bI g)] h := by
    intro g eg
    rw [eg] at kq
    refine ss_X37_go_63 hS ho ?_
    rw [f0, ofR_some, ofR_some, r0, r3]
    have fin : ∀ (E : zT) (y : Nat), RE h lo hi E y → okE E → zht E + 5 ≤ d + 3 → CoQ h (match ev σ bn0 bi0 E with
        | .inl w => .inl w
        | .inr v => match cJp e f (decide (v ≠ 0)) with
          | none => .inl 15
          | some q => .inr q) Q → Wp (d + 3) C_X37_go Q 87 [vR (some c), vR (some 68), vI i, vI (bI f), vI (bI g), vU] [vR (some y)] h := by
      intro E y reE okE' hdE kE
      refine ss_X37_go_87 hS ho ?_
      rw [ofR_some]
      refine c_eval hS hZ.1 (XB_free hFr) E y (d + 3) 0 _ reE okE'.1 hdE ?_
      cases hv : ev σ bn0 bi0 E with
      | inl w => rw [hv] at kE; exact kE
      | inr v =>
        rw [hv] at kE
        dsimp only at kE
        refine k91 v g ?_
        cases hj : cJp e f (decide (v ≠ 0)) with
        | none => rw [hj] at kE; exact kE
        | some q => rw [hj] at kE; exact kE
    cases g with
    | true => exact im (by decide) ⟨tx', fin a b re1 oa (by omega) kq⟩
    | false => exact ip rfl ⟨tx', fin z cc re2 oz (by omega) kq⟩
  refine se_X37_go hS ho ?_
  rw [f1]
  have ec : ∀ g : Bool, (cE e f = if g = true then zl e.2.1 else zr (zr (zr e.2.1))) → cE e f = (if g = true then a else z) := by
    intro g y; rw [y, hza.1, hza.2]
  clear f1 f2 f3 f4 k91 k101 kq hd hm hze hzc hzk hb hb3
  obtain ⟨n, T, bb, pp⟩ := e
  dsimp only at he hg ec ⊢
  rcases hg with g | g
  · rw [if_pos g]
    rcases he with e1 | e1 | e1 <;> subst e1
    · have c0 := ec true (by unfold cE; rw [if_pos g]; rfl)
      cases f with
      | true => exact im (by decide) (ip rfl (ss_X37_go_27 hS ho (k63 true c0)))
      | false => exact ip rfl (ip rfl (ss_X37_go_58 hS ho (k63 true c0)))
    · cases f with
      | true =>
        have c0 := ec false (by unfold cE; rw [if_pos g]; rfl)
        exact im (by decide) (im (by decide) (im (by decide) (im (by decide) (k63 false c0))))
      | false =>
        have c0 := ec true (by unfold cE; rw [if_pos g]; rfl)
        exact ip rfl (im (by decide) (ip rfl (ss_X37_go_58 hS ho (k63 true c0))))
    · have c0 := ec false (by unfold cE; rw [if_pos g]; rfl)
      cases f with
      | true => exact im (by decide) (im (by decide) (im (by decide) (im (by decide) (k63 false c0))))
      | false => exact ip rfl (im (by decide) (im (by decide) (im (by decide) (k63 false c0))))
  · have g8 : ¬ zg T = 108 := by omega
    rw [if_neg g8]
    rcases he with e1 | e1 | e1 <;> subst e1
    · have c0 := ec true (by unfold cE; rw [if_neg g8]; rfl)
      cases f with
      | true => exact im (by decide) (im (by decide) (ip rfl (ss_X37_go_27 hS ho (k63 true c0))))
      | false => exact ip rfl (im (by decide) (im (by decide) (ip rfl (ss_X37_go_58 hS ho (k63 true c0)))))
    · have c0 := ec false (by unfold cE; rw [if_neg g8]; rfl)
      cases f with
      | true => exact im (by decide) (im (by decide) (im (by decide) (im (by decide) (k63 false c0))))
      | false => exact ip rfl (im (by decide) (im (by decide) (im (by decide) (k63 false c0))))
    · cases f with
      | true =>
        have c0 := ec true (by unfold cE; rw [if_neg g8]; rfl)
        exact im (by decide) (im (by decide) (im (by decide) (ip rfl (ss_X37_go_27 hS ho (k63 true c0)))))
      | false =>
        have c0 := ec false (by unfold cE; rw [if_neg g8]; rfl)
        exact ip rfl (im (by decide) (im (by decide) (im (by decide) (k63 false c0))))
