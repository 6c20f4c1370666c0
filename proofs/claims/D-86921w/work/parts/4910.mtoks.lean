/-! m: THE TOKENS OF A ROUTINE -/
def RK (h : hp) (r : Nat) (ts : List (Nat × Nat)) : Prop := ts.length ≤ 1600 ∧ hI h 123 r = (ts.length : Nat) ∧ ∀ j x, ts[j]? = some x → hI h 124 (1600 * r + j) = (x.1 : Nat) ∧ hI h 125 (1600 * r + j) = (x.2 : Nat)
theorem ix {r t : Nat} (hr : r < 10) (ht : t < 1600) : n_add (n_mul 1600 (r : Nat)) (t : Nat) = ((1600 * r + t : Nat) : Int) := by
  rw [nm_eq (by omega) (by omega), na_eq (by omega) (by omega)]; omega
theorem ix4 {r t : Nat} (hr : r < 10) (ht : t < 40) : n_add (n_mul 40 (r : Nat)) (t : Nat) = ((40 * r + t : Nat) : Int) := by
  rw [nm_eq (by omega) (by omega), na_eq (by omega) (by omega)]; omega
theorem RK_eq {h h' : hp} {r : Nat} {ts : List (Nat × Nat)} (e3 : ∀ j, hI h' 123 j = hI h 123 j) (e4 : ∀ j, hI h' 124 j = hI h 124 j) (e5 : ∀ j, hI h' 125 j = hI h 125 j) (k : RK h r ts) : RK h' r ts :=
  ⟨k.1, (e3 r).trans k.2.1, fun j x hx => ⟨(e4 _).trans (k.2.2 j x hx).1, (e5 _).trans (k.2.2 j x hx).2⟩⟩
theorem c_isTok {d : Nat} {Q : qt} {h : hp} {r t s w : Nat} {ts : List (Nat × Nat)} (hS : St h) (hr : r < 10) (hK : RK h r ts) (k : Q (.inl (some (vI (bI (decide (ts[t]? = some (s, w))))))) h) : Wc (d + 1) 139 [vR (some 116), vI (r : Nat), vI (t : Nat), vI (s : Nat), vI (w : Nat)] h Q := by
  refine se_X4_isToken hS ?_
  refine ⟨by omega, ?_⟩
  rw [Int.toNat_natCast, hK.2.1]
  have hl := hK.1
  by_cases ht : t < ts.length
  · refine ip (by omega) ?_
    have e : ts[t]? = some ts[t] := List.getElem?_eq_getElem ht
    have e2 := hK.2.2 t _ e
    rw [ix hr (by omega), Int.toNat_natCast, e2.1, e2.2]
    rw [e] at k
    generalize ts[t] = x at k
    obtain ⟨a, b⟩ := x
    refine ⟨by omega, ?_⟩
    by_cases q1 : a = s
    · refine ip (by rw [q1]) ⟨by omega, ?_⟩
      by_cases q2 : b = w
      · refine ip (by rw [q2]) ?_
        rw [decide_eq_true (by rw [q1, q2])] at k
        exact k
      · refine im (by show ¬ ((b : Nat) : Int) = (w : Nat); omega) ?_
        rw [decide_eq_false (by intro z; cases z; exact q2 rfl)] at k
        exact k
    · refine im (by show ¬ ((a : Nat) : Int) = (s : Nat); omega) ?_
      rw [decide_eq_false (by intro z; cases z; exact q1 rfl)] at k
      exact k
  · refine im (by omega) ?_
    rw [List.getElem?_eq_none (by omega), decide_eq_false (by intro z; cases z)] at k
    exact k
/-- A is gone over by find from o open braces to o' -/
def Sk (sg : Nat) : Nat → List (Nat × Nat) → Nat → Prop
  | o, [], o' => o = o'
  | o, t :: A, o' => ¬ (o = 0 ∧ t = (7, sg)) ∧ (if t = (7, 123) then Sk sg (o + 1) A o' else if t = (7, 125) then 0 < o ∧ Sk sg (o - 1) A o' else Sk sg o A o')
/-- within at least one open op -/
def Bl (op cl : Nat) : Nat → List (Nat × Nat) → Nat → Prop
  | o, [], o' => o = o'
  | o, t :: A, o' => if t = (7, op) then Bl op cl (o + 1) A o' else if t = (7, cl) then 1 < o ∧ Bl op cl (o - 1) A o' else Bl op cl o A o'
theorem Sk_app {sg : Nat} {B : List (Nat × Nat)} {p q : Nat} (hB : Sk sg p B q) : ∀ {A : List (Nat × Nat)} {o : Nat}, Sk sg o A p → Sk sg o (A ++ B) q := by
  intro A
  induction A with
  | nil => intro o z; rw [show o = p from z]; exact hB
  | cons t A ih =>
    intro o z
    obtain ⟨z1, z2⟩ := z
    refine ⟨z1, ?_⟩
    split at z2
    · exact ip ‹_› (ih z2)
    · split at z2
      · exact im ‹_› (ip ‹_› ⟨z2.1, ih z2.2⟩)
      · exact im ‹_› (im ‹_› (ih z2))
theorem Bl_app {op cl : Nat} {B : List (Nat × Nat)} {p q : Nat} (hB : Bl op cl p B q) : ∀ {A : List (Nat × Nat)} {o : Nat}, Bl op cl o A p → Bl op cl o (A ++ B) q := by
  intro A
  induction A with
  | nil => intro o z; rw [show o = p from z]; exact hB
  | cons t A ih =>
    intro o z
    unfold Bl at z
    show (if t = (7, op) then Bl op cl (o + 1) (A ++ B) q else if t = (7, cl) then 1 < o ∧ Bl op cl (o - 1) (A ++ B) q else Bl op cl o (A ++ B) q)
    split at z
    · exact ip ‹_› (ih z)
    · split at z
      · exact im ‹_› (ip ‹_› ⟨z.1, ih z.2⟩)
      · exact im ‹_› (im ‹_› (ih z))
/-- what is within braces is gone over -/
theorem Sk_Bl {sg : Nat} : ∀ {A : List (Nat × Nat)} {o o' : Nat}, 1 ≤ o → Bl 123 125 o A o' → Sk sg o A o' := by
  intro A
  induction A with
  | nil => intro o o' _ z; exact z
  | cons t A ih =>
    intro o o' ho z
    unfold Bl at z
    refine ⟨fun q => by omega, ?_⟩
    split at z
    · exact ip ‹_› (ih (by omega) z)
    · split at z
      · exact im ‹_› (ip ‹_› ⟨by omega, ih (by omega) z.2⟩)
      · exact im ‹_› (im ‹_› (ih ho z))
theorem Sk_plain {sg o : Nat} : ∀ {A : List (Nat × Nat)}, (∀ t ∈ A, t ≠ (7, 123) ∧ t ≠ (7, 125) ∧ t ≠ (7, sg)) → Sk sg o A o := by
  intro A
  induction A with
  | nil => intro _; rfl
  | cons t A ih =>
    intro z
    have z0 := z t (List.mem_cons_self ..)
    exact ⟨fun q => z0.2.2 q.2, im z0.1 (im z0.2.1 (ih (fun x hx => z x (List.mem_cons_of_mem _ hx))))⟩
theorem Bl_plain {op cl o : Nat} : ∀ {A : List (Nat × Nat)}, (∀ t ∈ A, t ≠ (7, op) ∧ t ≠ (7, cl)) → Bl op cl o A o := by
  intro A
  induction A with
  | nil => intro _; rfl
  | cons t A ih =>
    intro z
    have z0 := z t (List.mem_cons_self ..)
    show (if t = (7, op) then _ else if t = (7, cl) then _ else _)
    exact im z0.1 (im z0.2 (ih (fun x hx => z x (List.mem_cons_of_mem _ hx))))
theorem at_P {P : List (Nat × Nat)} {x : Nat × Nat} {B : List (Nat × Nat)} : (P ++ x :: B)[P.length]? = some x := by simp
theorem find_loop {d : Nat} {Q : qt} {h : hp} {r sg : Nat} {ts : List (Nat × Nat)} {v2 : Int} (hS : St h) (hr : r < 10) (hK : RK h r ts) : ∀ (A P B : List (Nat × Nat)) (o : Nat), ts = P ++ (A ++ (7, sg) :: B) → Sk sg o A 0 → o ≤ P.length → Q (.inl (some (vI ((P.length + A.length : Nat) : Int)))) h → Wp (d + 1) C_X4_find Q 6 [vR (some 116), vI (r : Nat), vI v2, vI (sg : Nat), vI (P.length : Nat), vI (o : Nat)] [] h := by
  intro A
  have hl := hK.1
  induction A with
  | nil =>
    intro P B o e z ho k
    have z0 : o = 0 := z
    subst z0
    refine ss_X4_find_6 hS (im (by decide) ?_)
    refine c_isTok hS hr hK ?_
    rw [show ts[P.length]? = some (7, sg) by rw [e]; exact at_P, decide_eq_true rfl]
    refine ss_X4_find_21 hS (im (by decide) ?_)
    exact k
  | cons t A ih =>
    intro P B o e z ho k
    obtain ⟨z1, z2⟩ := z
    have hlen : ts.length = P.length + A.length + B.length + 2 := by rw [e]; simp; omega
    have et : ts[P.length]? = some t := by rw [e]; exact at_P
    have nx : ∀ o' : Nat, Sk sg o' A 0 → o' ≤ P.length + 1 → Wp (d + 1) C_X4_find Q 6 [vR (some 116), vI (r : Nat), vI v2, vI (sg : Nat), vI ((P.length : Int) + 1), vI (o' : Nat)] [] h := by
      intro o' hz ho'
      have q := ih (P ++ [t]) B o' (by rw [e]; simp) hz (by simp; omega) (by
        have : (P ++ [t]).length + A.length = P.length + (t :: A).length := by simp; omega
        rw [this]; exact k)
      rw [List.length_append] at q
      exact q
    have k37 : cI (Wc (d + 1)) 139 [vR (some 116), vI (r : Nat), vI (P.length : Nat), vI 7, vI 123] h (fun x2 h1 => Wp (d + 1) C_X4_find Q 37 [vR (some 116), vI (r : Nat), vI v2, vI (sg : Nat), vI (P.length : Nat), vI (o : Nat)] [vI x2, vI (o : Nat)] h1) (fun e3 h4 => Q (.inr e3) h4) := by
      refine c_isTok (s := 7) (w := 123) hS hr hK ?_
      rw [et]
      refine ss_X4_find_37 hS ?_
      by_cases t1 : t = (7, 123)
      · rw [if_pos t1] at z2
        rw [decide_eq_true (by rw [t1])]
        refine im (by decide) ?_
        rw [na_eq (by omega) (by omega), na_eq (by omega) (by omega)]
        exact nx (o + 1) z2 (by omega)
      · rw [if_neg t1] at z2
        rw [decide_eq_false (by intro q; cases q; exact t1 rfl)]
        refine ip rfl ?_
        refine c_isTok (s := 7) (w := 125) hS hr hK ?_
        rw [et]
        refine ss_X4_find_55 hS ?_
        by_cases t2 : t = (7, 125)
        · rw [if_pos t2] at z2
          rw [decide_eq_true (by rw [t2])]
          refine im (by decide) ?_
          rw [na_eq (by omega) (by omega), na_eq (by omega) (by omega), show ((o : Nat) : Int) + (-1) = ((o - 1 : Nat) : Int) by omega]
          exact nx (o - 1) z2.2 (by omega)
        · rw [if_neg t2] at z2
          rw [decide_eq_false (by intro q; cases q; exact t2 rfl)]
          refine ip rfl ?_
          rw [na_eq (by omega) (by omega), na_eq (by omega) (by omega), Int.add_zero]
          exact nx o z2 (by omega)
    refine ss_X4_find_6 hS ?_
    by_cases o0 : o = 0
    · refine im (by omega) ?_
      refine c_isTok hS hr hK ?_
      rw [et, decide_eq_false (by intro q; cases q; exact z1 ⟨o0, rfl⟩)]
      exact ss_X4_find_21 hS (ip rfl k37)
    · exact ip (by omega) k37
theorem c_find {d : Nat} {Q : qt} {h : hp} {r sg f : Nat} {ts P A B : List (Nat × Nat)} (hS : St h) (hr : r < 10) (hK : RK h r ts) (e : ts = P ++ (A ++ (7, sg) :: B)) (hf : f = P.length) (hA : Sk sg 0 A 0) (k : Q (.inl (some (vI ((f + A.length : Nat) : Int)))) h) : Wc (d + 2) 143 [vR (some 116), vI (r : Nat), vI (f : Nat), vI (sg : Nat)] h Q := by
  subst hf
  exact se_X4_find hS (find_loop hS hr hK A P B 0 e hA (by omega) k)
theorem behind_loop {d : Nat} {Q : qt} {h : hp} {r : Nat} {ts : List (Nat × Nat)} {v2 : Int} (hS : St h) (hr : r < 10) (hK : RK h r ts) : ∀ (A P B : List (Nat × Nat)) (o : Nat), ts = P ++ (A ++ (7, 93) :: B) → Bl 91 93 o A 1 → 1 ≤ o → o ≤ P.length → Q (.inl (some (vI ((P.length + A.length + 1 : Nat) : Int)))) h → Wp (d + 1) C_X4_behindP Q 27 [vR (some 116), vI (r : Nat), vI v2, vI (P.length : Nat), vI (o : Nat)] [] h := by
  intro A
  have hl := hK.1
  induction A with
  | nil =>
    intro P B o e z ho ho2 k
    have z0 : o = 1 := z
    subst z0
    have hlen : ts.length = P.length + B.length + 1 := by rw [e]; simp; omega
    have et : ts[P.length]? = some (7, 93) := by rw [e]; exact at_P
    refine ss_X4_behindP_27 hS ?_
    refine c_isTok (s := 7) (w := 91) hS hr hK ?_
    rw [et, decide_eq_false (by decide)]
    refine ss_X4_behindP_39 hS (ip rfl ?_)
    refine c_isTok (s := 7) (w := 93) hS hr hK ?_
    rw [et, decide_eq_true rfl]
    refine ss_X4_behindP_56 hS (im (by decide) (im (by decide) ?_))
    rw [na_eq (by omega) (by omega)]
    exact k
  | cons t A ih =>
    intro P B o e z ho ho2 k
    unfold Bl at z
    have hlen : ts.length = P.length + A.length + B.length + 2 := by rw [e]; simp; omega
    have et : ts[P.length]? = some t := by rw [e]; exact at_P
    have nx : ∀ o' : Nat, Bl 91 93 o' A 1 → 1 ≤ o' → o' ≤ P.length + 1 → Wp (d + 1) C_X4_behindP Q 27 [vR (some 116), vI (r : Nat), vI v2, vI ((P.length : Int) + 1), vI (o' : Nat)] [] h := by
      intro o' hz ho1 ho'
      have q := ih (P ++ [t]) B o' (by rw [e]; simp) hz ho1 (by simp; omega) (by
        have : (P ++ [t]).length + A.length = P.length + (t :: A).length := by simp; omega
        rw [this]; exact k)
      rw [List.length_append] at q
      exact q
    refine ss_X4_behindP_27 hS ?_
    refine c_isTok (s := 7) (w := 91) hS hr hK ?_
    rw [et]
    refine ss_X4_behindP_39 hS ?_
    by_cases t1 : t = (7, 91)
    · rw [if_pos t1] at z
      rw [decide_eq_true (by rw [t1]), bI_t, na_eq (x := (o : Nat)) (by omega) (by omega), na_eq (by omega) (by omega)]
      have q := nx (o + 1) z (by omega) (by omega)
      exact im (show ¬ (1 : Int) = 0 by decide) (ip (show (0 : Int) < (o : Nat) + 1 by omega) q)
    · rw [if_neg t1] at z
      rw [decide_eq_false (by intro q; cases q; exact t1 rfl)]
      refine ip rfl ?_
      refine c_isTok (s := 7) (w := 93) hS hr hK ?_
      rw [et]
      refine ss_X4_behindP_56 hS ?_
      by_cases t2 : t = (7, 93)
      · rw [if_pos t2] at z
        rw [decide_eq_true (by rw [t2])]
        refine im (by decide) ?_
        rw [na_eq (x := (o : Nat)) (by omega) (by omega), na_eq (by omega) (by omega), show ((o : Nat) : Int) + (-1) = ((o - 1 : Nat) : Int) by omega]
        exact ip (by omega) (nx (o - 1) z.2 (by omega) (by omega))
      · rw [if_neg t2] at z
        rw [decide_eq_false (by intro q; cases q; exact t2 rfl), bI_f, na_eq (x := (o : Nat)) (by omega) (by omega), na_eq (by omega) (by omega), Int.add_zero]
        have q := nx o z ho (by omega)
        exact ip (show (0 : Int) = 0 from rfl) (ip (show (0 : Int) < (o : Nat) by omega) q)
theorem closes_loop {d : Nat} {Q : qt} {h : hp} {r : Nat} {ts : List (Nat × Nat)} {v2 : Int} (hS : St h) (hr : r < 10) (hK : RK h r ts) : ∀ (A P B : List (Nat × Nat)) (o : Nat), ts = P ++ (A ++ (7, 125) :: B) → Bl 123 125 o A 1 → 1 ≤ o → o ≤ P.length → Q (.inl (some (vI ((P.length + A.length + 0 : Nat) : Int)))) h → Wp (d + 1) C_X4_closes Q 5 [vR (some 116), vI (r : Nat), vI v2, vI (P.length : Nat), vI (o : Nat)] [] h := by
  intro A
  have hl := hK.1
  induction A with
  | nil =>
    intro P B o e z ho ho2 k
    have z0 : o = 1 := z
    subst z0
    have hlen : ts.length = P.length + B.length + 1 := by rw [e]; simp; omega
    have et : ts[P.length]? = some (7, 125) := by rw [e]; exact at_P
    refine ss_X4_closes_5 hS ?_
    refine c_isTok (s := 7) (w := 123) hS hr hK ?_
    rw [et, decide_eq_false (by decide)]
    refine ss_X4_closes_17 hS (ip rfl ?_)
    refine c_isTok (s := 7) (w := 125) hS hr hK ?_
    rw [et, decide_eq_true rfl]
    refine ss_X4_closes_34 hS (im (by decide) (im (by decide) ?_))
    rw [na_eq (by omega) (by omega), ns_eq (by omega) (by omega), Int.add_sub_cancel]
    exact k
  | cons t A ih =>
    intro P B o e z ho ho2 k
    unfold Bl at z
    have hlen : ts.length = P.length + A.length + B.length + 2 := by rw [e]; simp; omega
    have et : ts[P.length]? = some t := by rw [e]; exact at_P
    have nx : ∀ o' : Nat, Bl 123 125 o' A 1 → 1 ≤ o' → o' ≤ P.length + 1 → Wp (d + 1) C_X4_closes Q 5 [vR (some 116), vI (r : Nat), vI v2, vI ((P.length : Int) + 1), vI (o' : Nat)] [] h := by
      intro o' hz ho1 ho'
      have q := ih (P ++ [t]) B o' (by rw [e]; simp) hz ho1 (by simp; omega) (by
        have : (P ++ [t]).length + A.length = P.length + (t :: A).length := by simp; omega
        rw [this]; exact k)
      rw [List.length_append] at q
      exact q
    refine ss_X4_closes_5 hS ?_
    refine c_isTok (s := 7) (w := 123) hS hr hK ?_
    rw [et]
    refine ss_X4_closes_17 hS ?_
    by_cases t1 : t = (7, 123)
    · rw [if_pos t1] at z
      rw [decide_eq_true (by rw [t1]), bI_t, na_eq (x := (o : Nat)) (by omega) (by omega), na_eq (by omega) (by omega)]
      have q := nx (o + 1) z (by omega) (by omega)
      exact im (show ¬ (1 : Int) = 0 by decide) (ip (show (0 : Int) < (o : Nat) + 1 by omega) q)
    · rw [if_neg t1] at z
      rw [decide_eq_false (by intro q; cases q; exact t1 rfl)]
      refine ip rfl ?_
      refine c_isTok (s := 7) (w := 125) hS hr hK ?_
      rw [et]
      refine ss_X4_closes_34 hS ?_
      by_cases t2 : t = (7, 125)
      · rw [if_pos t2] at z
        rw [decide_eq_true (by rw [t2])]
        refine im (by decide) ?_
        rw [na_eq (x := (o : Nat)) (by omega) (by omega), na_eq (by omega) (by omega), show ((o : Nat) : Int) + (-1) = ((o - 1 : Nat) : Int) by omega]
        exact ip (by omega) (nx (o - 1) z.2 (by omega) (by omega))
      · rw [if_neg t2] at z
        rw [decide_eq_false (by intro q; cases q; exact t2 rfl), bI_f, na_eq (x := (o : Nat)) (by omega) (by omega), na_eq (by omega) (by omega), Int.add_zero]
        have q := nx o z ho (by omega)
        exact ip (show (0 : Int) = 0 from rfl) (ip (show (0 : Int) < (o : Nat) by omega) q)
theorem c_behindN {d : Nat} {Q : qt} {h : hp} {r x f : Nat} {ts P B : List (Nat × Nat)} (hS : St h) (hr : r < 10) (hK : RK h r ts) (e : ts = P ++ (1, x) :: B) (hf : f = P.length) (k : Q (.inl (some (vI ((f + 1 : Nat) : Int)))) h) : Wc (d + 2) 141 [vR (some 116), vI (r : Nat), vI (f : Nat)] h Q := by
  subst hf
  have hl := hK.1
  have hlen : ts.length = P.length + B.length + 1 := by rw [e]; simp; omega
  refine se_X4_behindP hS ?_
  rw [ix hr (by omega), Int.toNat_natCast, (hK.2.2 P.length (1, x) (by rw [e]; exact at_P)).1, na_eq (by omega) (by omega)]
  exact ⟨by omega, ip rfl k⟩
theorem c_behindR {d : Nat} {Q : qt} {h : hp} {r x f : Nat} {ts P A B : List (Nat × Nat)} (hS : St h) (hr : r < 10) (hK : RK h r ts) (e : ts = P ++ (3, x) :: (7, 91) :: (A ++ (7, 93) :: B)) (hf : f = P.length) (hA : Bl 91 93 1 A 1) (k : Q (.inl (some (vI ((f + A.length + 3 : Nat) : Int)))) h) : Wc (d + 2) 141 [vR (some 116), vI (r : Nat), vI (f : Nat)] h Q := by
  subst hf
  have hl := hK.1
  have hlen : ts.length = P.length + A.length + B.length + 3 := by rw [e]; simp; omega
  refine se_X4_behindP hS ?_
  rw [ix hr (by omega), Int.toNat_natCast, (hK.2.2 P.length (3, x) (by rw [e]; exact at_P)).1, na_eq (by omega) (by omega)]
  refine ⟨by omega, im (show ¬ ((3 : Nat) : Int) = 1 by decide) ?_⟩
  refine ss_X4_behindP_27 hS ?_
  refine c_isTok (t := P.length + 1) (s := 7) (w := 91) hS hr hK ?_
  have et : ts[P.length + 1]? = some (7, 91) := by rw [e]; simp
  rw [et, decide_eq_true rfl]
  refine ss_X4_behindP_39 hS (im (by decide) (ip (by decide) ?_))
  rw [na_eq (by omega) (by omega)]
  have q := behind_loop (d := d) (v2 := (P.length : Nat)) hS hr hK A (P ++ [(3, x), (7, 91)]) B 1 (by rw [e]; simp) hA (by omega) (by simp) (Q := Q) (by
    have : (P ++ [(3, x), (7, 91)]).length + A.length + 1 = P.length + A.length + 3 := by simp; omega
    rw [this]; exact k)
  rw [List.length_append] at q
  exact q
theorem c_closes {d : Nat} {Q : qt} {h : hp} {r f : Nat} {ts P A B : List (Nat × Nat)} (hS : St h) (hr : r < 10) (hK : RK h r ts) (e : ts = P ++ (7, 123) :: (A ++ (7, 125) :: B)) (hf : f = P.length) (hA : Bl 123 125 1 A 1) (k : Q (.inl (some (vI ((f + A.length + 1 : Nat) : Int)))) h) : Wc (d + 2) 160 [vR (some 116), vI (r : Nat), vI (f : Nat)] h Q := by
  subst hf
  have hl := hK.1
  have hlen : ts.length = P.length + A.length + B.length + 2 := by rw [e]; simp; omega
  refine se_X4_closes hS ?_
  refine ss_X4_closes_5 hS ?_
  refine c_isTok (s := 7) (w := 123) hS hr hK ?_
  have et : ts[P.length]? = some (7, 123) := by rw [e]; exact at_P
  rw [et, decide_eq_true rfl]
  refine ss_X4_closes_17 hS (im (by decide) (ip (by decide) ?_))
  rw [na_eq (by omega) (by omega)]
  have q := closes_loop (d := d) (v2 := (P.length : Nat)) hS hr hK A (P ++ [(7, 123)]) B 1 (by rw [e]; simp) hA (by omega) (by simp) (Q := Q) (by
    have : (P ++ [(7, 123)]).length + A.length + 0 = P.length + A.length + 1 := by simp; omega
    rw [this]; exact k)
  rw [List.length_append] at q
  exact q
theorem c_stepEnd {d : Nat} {Q : qt} {h : hp} {r f : Nat} {ts P A B : List (Nat × Nat)} (hS : St h) (hr : r < 10) (hK : RK h r ts) (e : ts = P ++ (A ++ (7, 59) :: B)) (hf : f = P.length) (hA : Sk 59 0 A 0) (k : Q (.inl (some (vI ((f + A.length + 1 : Nat) : Int)))) h) : Wc (d + 3) 156 [vR (some 116), vI (r : Nat), vI (f : Nat)] h Q := by
  have hl := hK.1
  have hlen : ts.length = P.length + A.length + B.length + 1 := by rw [e]; simp; omega
  refine se_X4_stepEnd hS ?_
  refine c_find (sg := 59) hS hr hK e hf hA ?_
  refine ss_X4_stepEnd_8 hS ?_
  rw [na_eq (by omega) (by omega)]
  exact k
theorem c_adds {d : Nat} {Q : qt} {h : hp} {r i : Nat} {v2 v3 v4 : Int} (hS : St h) (hr : r < 10) (hi : hI h 126 r = (i : Nat)) (h40 : i < 40) (k : Q (.inl (some (vI (i : Nat)))) (sI (sI (sI (sI h 127 (40 * r + i) v2) 128 (40 * r + i) v3) 129 (40 * r + i) v4) 126 r ((i + 1 : Nat) : Int))) : Wc (d + 1) 142 [vR (some 116), vI (r : Nat), vI v2, vI v3, vI v4] h Q := by
  refine se_X4_adds hS ?_
  rw [Int.toNat_natCast, hi, ix4 hr h40, na_eq (by omega) (by omega), ns_eq (by omega) (by omega), Int.toNat_natCast, Int.add_sub_cancel]
  exact ⟨by omega, by omega, by omega, by omega, by omega, by omega, by omega, k⟩
def jn (h : hp) (x : Nat) (f l i j k : Int) : hp := sI (sI (sI (sI (sI h 129 x f) 130 x l) 131 x i) 132 x j) 133 x k
theorem St_jn {h : hp} {x : Nat} {f l i j k : Int} (hS : St h) : St (jn h x f l i j k) := St_sI (St_sI (St_sI (St_sI (St_sI hS (by omega)) (by omega)) (by omega)) (by omega)) (by omega)
theorem c_joins {d : Nat} {Q : qt} {h : hp} {r i j k : Nat} {f l : Int} (hS : St h) (hr : r < 10) (hi : i < 40) (hj : j < 40) (hk : k < 40) (kk : Q (.inl none) (jn (jn (jn h (40 * r + i) f l i j k) (40 * r + j) f l i j k) (40 * r + k) f l i j k)) : Wc (d + 1) 144 [vR (some 116), vI (r : Nat), vI (i : Nat), vI (j : Nat), vI (k : Nat), vI f, vI l] h Q := by
  refine se_X4_joins hS ?_
  refine ss_X4_joins_3 hS (ip (by decide) (ip rfl ?_))
  refine ss_X4_joins_34 hS ?_
  rw [ix4 hr hi, Int.toNat_natCast]
  refine ⟨by omega, by omega, by omega, by omega, by omega, ?_⟩
  have S1 : St (jn h (40 * r + i) f l i j k) := St_jn hS
  refine ss_X4_joins_3 S1 (ip (by decide) (im (by decide) (ip (by decide) ?_)))
  refine ss_X4_joins_34 S1 ?_
  rw [ix4 hr hj, Int.toNat_natCast]
  refine ⟨by omega, by omega, by omega, by omega, by omega, ?_⟩
  have S2 : St (jn (jn h (40 * r + i) f l i j k) (40 * r + j) f l i j k) := St_jn S1
  refine ss_X4_joins_3 S2 (ip (by decide) (im (by decide) (im (by decide) ?_)))
  refine ss_X4_joins_34 S2 ?_
  rw [ix4 hr hk, Int.toNat_natCast]
  refine ⟨by omega, by omega, by omega, by omega, by omega, ?_⟩
  have S3 : St (jn (jn (jn h (40 * r + i) f l i j k) (40 * r + j) f l i j k) (40 * r + k) f l i j k) := St_jn S2
  exact ss_X4_joins_3 S3 (im (by decide) kk)
