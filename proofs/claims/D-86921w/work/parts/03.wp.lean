/-! Wp: the least fixed point -/
def clo (C : (Nat → ti)) (W : wt) (X : xt) (Q : qt) : Prop := ∀ (W' : wt) (X' : xt) (Q' : qt), (∀ y as h q, W' y as h q → W y as h q) → (∀ pc ls st h, X' pc ls st h → X pc ls st h) → (∀ o h, Q' o h → Q o h) → ∀ pc ls st h, C pc W' X' Q' pc ls st h → X pc ls st h
def wl (C : (Nat → ti)) (W : wt) (Q : qt) : xt := fun pc ls st h => ∀ X : xt, clo C W X Q → X pc ls st h
/-- the method y, called with depth d -/
def Wc : Nat → wt
  | 0, _, _, _, _ => False
  | d + 1, y, as, h, Q => wl (cs y) (Wc d) Q 0 (ent (mL y) as) [] h
/-- within a method of code C at depth d -/
def Wp (d : Nat) (C : (Nat → ti)) (Q : qt) : xt := wl C (Wc d) Q
theorem Wc_of {d y : Nat} {as : List av} {h : hp} {Q : qt} {C : (Nat → ti)} (hc : cs y = C) {n : Nat} (hn : mL y = n) (k : Wp d C Q 0 (ent n as) [] h) : Wc (d + 1) y as h Q := by
  subst hc; subst hn; exact k
theorem wl_step {C : (Nat → ti)} {W : wt} {Q : qt} {pc : Nat} {ls st : List av} {h : hp} (k : C pc W (wl C W Q) Q pc ls st h) : wl C W Q pc ls st h :=
  fun X hX => hX W (wl C W Q) Q (fun _ _ _ _ z => z) (fun _ _ _ _ z => z X hX) (fun _ _ z => z) pc ls st h k
theorem wl_mono {C : (Nat → ti)} {W W2 : wt} {Q Q2 : qt} {pc : Nat} {ls st : List av} {h : hp} (hW : ∀ y as h q, W y as h q → W2 y as h q) (hQ : ∀ o h, Q o h → Q2 o h) (k : wl C W Q pc ls st h) : wl C W2 Q2 pc ls st h :=
  fun X hX => k X fun W' X' Q' a b c => hX W' X' Q' (fun y as h q z => hW _ _ _ _ (a y as h q z)) b (fun o h z => hQ _ _ (c o h z))
theorem Wc_mono {d : Nat} {y : Nat} {as : List av} {h : hp} {Q Q2 : qt} (hQ : ∀ o h, Q o h → Q2 o h) (k : Wc d y as h Q) : Wc d y as h Q2 := by
  cases d with
  | zero => exact k
  | succ d => exact wl_mono (fun _ _ _ _ z => z) hQ k
theorem Wc_up (d : Nat) : ∀ {y : Nat} {as : List av} {h : hp} {Q : qt}, Wc d y as h Q → Wc (d + 1) y as h Q := by
  induction d with
  | zero => intro y as h Q k; exact k.elim
  | succ d ih => intro y as h Q k; exact wl_mono (fun _ _ _ _ z => ih z) (fun _ _ z => z) k
theorem Wc_le {d e : Nat} (hde : d ≤ e) {y : Nat} {as : List av} {h : hp} {Q : qt} (k : Wc d y as h Q) : Wc e y as h Q := by
  obtain ⟨n, rfl⟩ := Nat.exists_eq_add_of_le hde
  clear hde
  induction n with
  | zero => exact k
  | succ n ih => exact Wc_up _ ih
theorem Wp_mono {d : Nat} {C : (Nat → ti)} {Q Q2 : qt} {pc : Nat} {ls st : List av} {h : hp} (hQ : ∀ o h, Q o h → Q2 o h) (k : Wp d C Q pc ls st h) : Wp d C Q2 pc ls st h := wl_mono (fun _ _ _ _ z => z) hQ k
/-- n instructions on, up to a place of 'stop' -/
def go (C : (Nat → ti)) (W : wt) (Q : qt) (stop : Nat → Bool) : Nat → xt → xt
  | 0, X => X
  | n + 1, X => fun pc ls st h => bif stop pc then X pc ls st h else C pc W (go C W Q stop n X) Q pc ls st h
theorem wl_go {C : (Nat → ti)} {W : wt} {Q : qt} (stop : Nat → Bool) (n : Nat) : ∀ {pc : Nat} {ls st : List av} {h : hp}, go C W Q stop n (wl C W Q) pc ls st h → wl C W Q pc ls st h := by
  induction n with
  | zero => intro pc ls st h k; exact k
  | succ n ih =>
    intro pc ls st h k
    cases hs : stop pc with
    | true => simp only [go, hs, cond_true] at k; exact k
    | false =>
      simp only [go, hs, cond_false] at k
      exact fun X hX => hX W (go C W Q stop n (wl C W Q)) Q (fun _ _ _ _ z => z) (fun _ _ _ _ z => ih z X hX) (fun _ _ z => z) pc ls st h k
/-- from a place on, up to 'stop' or n instructions further -/
theorem Wp_go {d : Nat} {C : (Nat → ti)} {Q : qt} (stop : Nat → Bool) (n : Nat) {pc : Nat} {ls st : List av} {h : hp} (k : C pc (Wc d) (go C (Wc d) Q stop n (Wp d C Q)) Q pc ls st h) : Wp d C Q pc ls st h :=
  fun X hX => hX (Wc d) (go C (Wc d) Q stop n (Wp d C Q)) Q (fun _ _ _ _ z => z) (fun _ _ _ _ z => wl_go stop n z X hX) (fun _ _ z => z) pc ls st h k
