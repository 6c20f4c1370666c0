/-! x DOES ONE STEP, there or back -/
theorem DoQ_to {h : hp} {ρ : Nat → Nat} {σ : zS} {v : Nat ⊕ zS} {Q Q' : qt} (h1 : ∀ e h', Q (.inr e) h' → Q' (.inr e) h') (h2 : ∀ h', Q (.inl none) h' → Q' (.inl none) h') (k : DoQ h ρ σ v Q) : DoQ h ρ σ v Q' := by
  cases v with
  | inl w => exact fun h' a b c d => h1 _ _ (k h' a b c d)
  | inr w => exact fun h' ρ' a b c d => h2 _ (k h' ρ' a b c d)
theorem DmQ_to {h : hp} {σ : zS} {v : Nat ⊕ zS} {Q Q' : qt} (h1 : ∀ x h', Q (.inl (some (vI x))) h' → Q' (.inl (some (vI x))) h') (k : DmQ h σ v Q) : DmQ h σ v Q' := by
  cases v with
  | inl w => exact fun h' a b => h1 _ _ (k h' a b)
  | inr w => exact fun h' a b => h1 _ _ (k h' a b)
def bop (op : Nat) : Nat := if op = 0 then 1 else if op = 1 then 0 else if op = 4 then 5 else if op = 5 then 4 else op
def sStep (σ : zS) : zT → Bool → Nat ⊕ zS
  | .leaf _, _ => .inl 0
  | .branch k l r, f =>
    if k = 100 ∨ k = 101 then sLet σ (zn l) r (f == decide (k = 100))
    else if k = 102 ∨ k = 103 then sPush σ (zn l) (zn r) (f == decide (k = 102))
    else if k = 104 ∨ k = 105 then (if (f == decide (k = 104)) = true then sNew σ (zn l) ((zg r - 160 : Nat) : Int) (zl r) else sEnd σ (zn l) ((zg r - 160 : Nat) : Int) (zl r))
    else if k = 133 then sSwap σ l r
    else sChg σ l (if f = true then k - 130 else bop (k - 130)) r
abbrev VFw : List (Nat × Nat) := [(20, 300), (21, 308), (24, 327), (25, 334), (26, 341)]
abbrev VBk : List (Nat × Nat) := [(20, 302), (21, 310), (24, 329), (25, 336), (26, 344)]
theorem RT_rng {h : hp} {lo hi k a : Nat} {l r : zT} (hk : ok1 k l r) (z : RT h lo hi (zB k l r) [a]) : lo ≤ a ∧ a < hi := by
  have hq := ok1_k hk
  unfold RT at z
  rw [if_neg (by omega), if_neg (by omega), if_neg (by omega), if_neg (by omega)] at z
  obtain ⟨a', e, q1, q2, -⟩ := z
  cases e
  exact ⟨q1, q2⟩
theorem how_x {k : Nat} (h : 130 ≤ k ∧ k ≤ 135 ∧ k ≠ 133) : how k = xop (k - 130) ∧ (k - 130 = 0 ∨ k - 130 = 1 ∨ k - 130 = 2 ∨ k - 130 = 4 ∨ k - 130 = 5) := by
  have : k = 130 ∨ k = 131 ∨ k = 132 ∨ k = 134 ∨ k = 135 := by omega
  rcases this with e | e | e | e | e <;> subst e <;> exact ⟨by decide, by decide⟩
theorem bop_in {op : Nat} (h : op = 0 ∨ op = 1 ∨ op = 2 ∨ op = 4 ∨ op = 5) : bop op = 0 ∨ bop op = 1 ∨ bop op = 2 ∨ bop op = 4 ∨ bop op = 5 := by
  rcases h with e | e | e | e | e <;> subst e <;> decide
theorem pu_opp {d op : Nat} {Q : qt} {h : hp} (hS : St h) (hop : op = 0 ∨ op = 1 ∨ op = 2 ∨ op = 4 ∨ op = 5) (k : Q (.inl (some (vI (xop (bop op))))) h) : Wc (d + 1) 307 [vI (xop op)] h Q := by
  refine se_X21_opposite hS ?_
  rcases hop with e | e | e | e | e <;> subst e
  · exact ip rfl k
  · exact im (by decide) (ip rfl k)
  · exact im (by decide) (im (by decide) (im (by decide) (im (by decide) k)))
  · exact im (by decide) (im (by decide) (ip rfl k))
  · exact im (by decide) (im (by decide) (im (by decide) (ip rfl k)))
theorem zht_p {p : zT} (ok : okP p) : zht (zr p) ≤ (zk p).length := by
  rcases ok with ⟨x, e1, hx⟩ | ⟨x, e, e1, hx, oe⟩
  · subst e1; exact Nat.zero_le _
  · subst e1
    have := zht_len e 0 oe.1 oe.2.2
    show zht e ≤ ((3, x) :: (7, 91) :: (zk e ++ [(7, 93)])).length
    simp; omega
theorem x_step {d lo hi a k : Nat} {Q : qt} {h : hp} {σ : zS} {ρ : Nat → Nat} {l r : zT} {f : Bool} (hS : St h) (hZ : XZ h σ ρ) (hFr : XFr h) (hl : 145 ≤ lo) (hh : hi ≤ hN h) (hk : ok1 k l r) (h114 : k ≠ 114) (h106 : k ≠ 106 ∧ k ≠ 107) (z : RT h lo hi (zB k l r) [a]) (hd : (zk (zB k l r)).length + 20 ≤ d) (hb : hU h + 25 ≤ BUD) (kq : DoQ h ρ σ (sStep σ (zB k l r) f) Q) : vsel (if f = true then VFw else VBk) (hT h a).1 fun y => Wc d y [vR (some a), vR (some 68)] h Q := by
  have rg := RT_rng hk z
  have rg2 : 145 ≤ a ∧ a < hN h := by omega
  obtain ⟨d, rfl⟩ : ∃ e, d = e + 3 := ⟨d - 3, by omega⟩
  unfold sStep at kq
  dsimp only at kq
  rcases RT_1 hk z with ⟨k1, x, b, el, hx, oe, nh, t1, f0, f2, f1, re⟩ | ⟨k1, -⟩ | ⟨k1, x, y, el, er, hx, hy, t1, f0, f1, f2⟩ | ⟨k1, x, j, e, b, el, er, hx, hj1, hj2, oe, nh, t1, f0, f1, f3, f2, re⟩ | ⟨k1, -⟩ | ⟨k1, b, c, okl, okr, t1, f0, f1, rp, rq⟩ | ⟨k1, b, c, okl, oe, nh, t1, fh, f0, f2, rp, re⟩
  · subst el
    rw [if_pos k1] at kq
    have hlen : (zk r).length + 4 ≤ (zk (zB k (zL x) r)).length := by
      rcases k1 with e | e <;> subst e
      · show _ ≤ ((5, 0) :: (1, x) :: (7, 61) :: (zk r ++ [(7, 59)])).length
        simp
      · show _ ≤ ((5, 1) :: (1, x) :: (7, 61) :: (zk r ++ [(7, 59)])).length
        simp
    have ft : hI h a 2 = bI (decide (k = 100)) := by
      rw [f2]
      by_cases q : k = 100
      · rw [if_pos q, decide_eq_true q]; rfl
      · rw [if_neg q, decide_eq_false q]; rfl
    cases f with
    | true =>
      refine vsel_of (y := 327) (by rw [t1]; rfl) (se_X24_doForward hS t1 ?_)
      rw [ft]
      have e2 : (true == decide (k = 100)) = decide (k = 100) := by cases decide (k = 100) <;> rfl
      rw [e2] at kq
      exact x_let hS hZ hFr t1 rg2 hx f0 f1 re oe (by omega) (DoQ_to (fun _ _ z => z) (fun _ z => z) kq)
    | false =>
      refine vsel_of (y := 329) (by rw [t1]; rfl) (se_X24_doBack hS t1 ?_)
      rw [ft]
      by_cases q : k = 100
      · rw [decide_eq_true q] at kq ⊢
        exact im (by decide) (x_let (t := false) hS hZ hFr t1 rg2 hx f0 f1 re oe (by omega) (DoQ_to (fun _ _ z => z) (fun _ z => z) kq))
      · rw [decide_eq_false q] at kq ⊢
        exact ip rfl (x_let (t := true) hS hZ hFr t1 rg2 hx f0 f1 re oe (by omega) (DoQ_to (fun _ _ z => z) (fun _ z => z) kq))
  · exact absurd k1 h114
  · subst el; subst er
    rw [if_neg (by omega), if_pos k1] at kq
    have ft : hI h a 2 = bI (decide (k = 102)) := by
      rw [f2]
      by_cases q : k = 102
      · rw [if_pos q, decide_eq_true q]; rfl
      · rw [if_neg q, decide_eq_false q]; rfl
    cases f with
    | true =>
      refine vsel_of (y := 334) (by rw [t1]; rfl) (se_X25_doForward hS t1 ?_)
      rw [ft]
      have e2 : (true == decide (k = 102)) = decide (k = 102) := by cases decide (k = 102) <;> rfl
      rw [e2] at kq
      exact x_push2 hS hZ hFr t1 rg2 hx hy f0 f1 (DoQ_to (fun _ _ z => z) (fun _ z => z) kq)
    | false =>
      refine vsel_of (y := 336) (by rw [t1]; rfl) (se_X25_doBack hS t1 ?_)
      rw [ft]
      by_cases q : k = 102
      · rw [decide_eq_true q] at kq ⊢
        exact im (by decide) (x_push2 (t := false) hS hZ hFr t1 rg2 hx hy f0 f1 (DoQ_to (fun _ _ z => z) (fun _ z => z) kq))
      · rw [decide_eq_false q] at kq ⊢
        exact ip rfl (x_push2 (t := true) hS hZ hFr t1 rg2 hx hy f0 f1 (DoQ_to (fun _ _ z => z) (fun _ z => z) kq))
  · subst el; subst er
    rw [if_neg (by omega), if_neg (by omega), if_pos k1] at kq
    have hlen : (zk e).length + 4 ≤ (zk (zB k (zL x) (zB j e (zL 0)))).length := by
      have ej : zk (zB j e (zL 0)) = (5, j - 143) :: zk e := by
        conv => lhs; unfold zk
        (repeat' rw [if_neg (by omega)])
      rcases k1 with e' | e' <;> subst e'
      · show _ ≤ ((5, 4) :: (3, x) :: (zk (zB j e (zL 0)) ++ [(7, 59)])).length
        rw [ej]; simp
      · show _ ≤ ((5, 5) :: (3, x) :: (zk (zB j e (zL 0)) ++ [(7, 59)])).length
        rw [ej]; simp
    have ekd : (j : Int) - 160 = ((j - 160 : Nat) : Int) := by omega
    rw [ekd] at f1
    have kq' : DoQ h ρ σ (if (f == decide (k = 104)) = true then sNew σ x ((j - 160 : Nat) : Int) e else sEnd σ x ((j - 160 : Nat) : Int) e) Q := kq
    clear kq
    have doNew : ∀ {Q'}, DoQ h ρ σ (sNew σ x ((j - 160 : Nat) : Int) e) Q' → Wc (d + 2) 342 [vR (some a), vR (some 68)] h Q' := fun {Q'} k' => x_come hS hZ hFr t1 hx f0 f1 (by omega) (by omega) f2 re oe (by omega) hb k'
    have doEnd : ∀ {Q'}, DoQ h ρ σ (sEnd σ x ((j - 160 : Nat) : Int) e) Q' → Wc (d + 2) 343 [vR (some a), vR (some 68)] h Q' := fun {Q'} k' => x_end hS hZ hFr t1 hx f0 f1 f2 re oe (by omega) k'
    cases f with
    | true =>
      refine vsel_of (y := 341) (by rw [t1]; rfl) (se_X26_doForward hS t1 ?_)
      rw [f3]
      by_cases q : k = 104
      · rw [decide_eq_true q, if_pos (by decide)] at kq'
        rw [if_pos q]
        refine im (by decide) (doNew ?_)
        cases hv : sNew σ x ((j - 160 : Nat) : Int) e with
        | inl w => rw [hv] at kq'; exact kq'
        | inr w =>
          rw [hv] at kq'
          exact fun h' ρ' F1 F2 F3 F4 => ss_X26_doForward_12 F1.2.2.1 ((F1.2.2.2 a rg2.2).1.trans t1) (kq' h' ρ' F1 F2 F3 F4)
      · rw [decide_eq_false q, if_neg (by decide)] at kq'
        rw [if_neg q]
        exact ip rfl (doEnd (DoQ_to (fun _ _ z => z) (fun _ z => z) kq'))
    | false =>
      refine vsel_of (y := 344) (by rw [t1]; rfl) (se_X26_doBack hS t1 ?_)
      rw [f3]
      by_cases q : k = 104
      · rw [decide_eq_true q, if_neg (by decide)] at kq'
        rw [if_pos q]
        refine im (by decide) (doEnd ?_)
        cases hv : sEnd σ x ((j - 160 : Nat) : Int) e with
        | inl w => rw [hv] at kq'; exact kq'
        | inr w =>
          rw [hv] at kq'
          exact fun h' ρ' F1 F2 F3 F4 => ss_X26_doBack_12 F1.2.2.1 ((F1.2.2.2 a rg2.2).1.trans t1) (kq' h' ρ' F1 F2 F3 F4)
      · rw [decide_eq_false q, if_pos (by decide)] at kq'
        rw [if_neg q]
        exact ip rfl (doNew (DoQ_to (fun _ _ z => z) (fun _ z => z) kq'))
  · exact absurd k1 (by omega)
  · rw [if_neg (by omega), if_neg (by omega), if_neg (by omega), if_pos k1] at kq
    subst k1
    have hzk := (zk_chg hk (by decide)).1
    have l1 := zht_p okl
    have l2 := zht_p okr
    rw [hzk] at hd
    simp only [List.length_append, List.length_cons] at hd
    cases f with
    | true =>
      refine vsel_of (y := 300) (by rw [t1]; rfl) ?_
      exact x_swap hS hZ hFr t1 rg2 hl hh f0 f1 rp rq okl okr (by omega) (by omega) kq
    | false =>
      refine vsel_of (y := 302) (by rw [t1]; rfl) (se_X20_doBack hS t1 ?_)
      exact x_swap hS hZ hFr t1 rg2 hl hh f0 f1 rp rq okl okr (by omega) (by omega) (DoQ_to (fun _ _ z => z) (fun _ z => z) kq)
  · rw [if_neg (by omega), if_neg (by omega), if_neg (by omega), if_neg (by omega)] at kq
    have hzk := (zk_chg hk (by omega)).1
    have l1 := zht_p okl
    have l2 := zht_len r 0 oe.1 oe.2.2
    rw [hzk] at hd
    simp only [List.length_append, List.length_cons] at hd
    obtain ⟨hx1, hx2⟩ := how_x k1
    cases f with
    | true =>
      refine vsel_of (y := 308) (by rw [t1]; rfl) (se_X21_doForward hS t1 ?_)
      rw [fh, hx1]
      rw [if_pos rfl] at kq
      exact x_chg hS hZ hFr t1 rg2 hl hh f0 f2 rp re okl oe nh hx2 (by omega) (by omega) (DoQ_to (fun _ _ z => z) (fun _ z => z) kq)
    | false =>
      refine vsel_of (y := 310) (by rw [t1]; rfl) (se_X21_doBack hS t1 ?_)
      rw [fh, hx1]
      rw [if_neg (by decide)] at kq
      refine pu_opp hS hx2 ?_
      refine ss_X21_doBack_9 hS t1 ?_
      rw [ofR_some]
      refine ip (by rw [t1]) ?_
      exact x_chg hS hZ hFr t1 rg2 hl hh f0 f2 rp re okl oe nh (bop_in hx2) (by omega) (by omega) (DoQ_to (fun _ _ z => z) (fun _ z => z) kq)
/-! x GOES over a corner -/
/-- the test -/
def cE (e : zEn) (f : Bool) : zT := if zg e.2.1 = 108 then (if e.1 = 1 ∨ (e.1 = 2 ∧ f = false) then zl e.2.1 else zr (zr (zr e.2.1))) else (if e.1 = 1 ∨ (e.1 = 3 ∧ f = true) then zl e.2.1 else zr (zr (zr e.2.1)))
/-- where it leads to -/
def cJp (e : zEn) (f s : Bool) : Option Nat :=
  if zg e.2.1 = 108 then
    (if e.1 = 1 then (if f = true then some (if s = true then e.2.2.1 + 1 else zm e.2.1 e.2.2.1 + 1) else if s = true then some e.2.2.1 else none)
    else if e.1 = 2 then (if s = f then some (if f = true then ze e.2.1 e.2.2.1 + 1 else e.2.2.1) else none)
    else (if f = true then (if s = true then none else some (ze e.2.1 e.2.2.1 + 1)) else some (if s = true then zm e.2.1 e.2.2.1 else ze e.2.1 e.2.2.1)))
  else
    (if e.1 = 1 then (if f = true then (if s = true then some (e.2.2.1 + 1) else none) else some (if s = true then e.2.2.1 else ze e.2.1 e.2.2.1))
    else if e.1 = 2 then (if f = true then some (if s = true then ze e.2.1 e.2.2.1 + 1 else zm e.2.1 e.2.2.1 + 1) else if s = true then none else some (zm e.2.1 e.2.2.1))
    else (if s = f then none else some (if f = true then e.2.2.1 + 1 else zm e.2.1 e.2.2.1)))
/-- over a corner: why not, or where to -/
def sCor (σ : zS) (e : zEn) (f : Bool) : Nat ⊕ Nat := match ev σ bn0 bi0 (cE e f) with
  | .inl w => .inl w
  | .inr v => match cJp e f (decide (v ≠ 0)) with
    | none => .inl 15
    | some q => .inr q
def CoQ (h : hp) (v : Nat ⊕ Nat) (Q : qt) : Prop := match v with
  | .inl w => Q (.inr (85 + w)) h
  | .inr q => Q (.inl (some (vI (q : Nat)))) h
theorem x_must {d o : Nat} {Q : qt} {h : hp} {s : Bool} {q : Int} (hS : St h) (ho : hT h o = (37, 0)) (k1 : s = false → Q (.inr 100) h) (k2 : s = true → Q (.inl (some (vI q))) h) : Wc (d + 1) 389 [vR (some o), vR (some 68), vI (bI s), vI q] h Q := by
  refine se_X37_must hS ho ?_
  cases s with
  | true => exact im (by decide) (k2 rfl)
  | false => exact ip rfl (k1 rfl)
