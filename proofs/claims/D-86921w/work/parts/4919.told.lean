/-! told, drop -/
theorem told_loop {d r : Nat} {Q : qt} {h : hp} {v2 : Int} {ts : List (Nat × Nat)} (hS : St h) (hr : r < 10) (hK : RK h r ts) (hn : ∀ x ∈ ts, x.1 = 1 → x.2 < 26) : ∀ (A P : List (Nat × Nat)) (o m s n : Nat), ts = P ++ A → Bl 123 125 (o + 1) A 1 → o ≤ P.length → m ≤ P.length → s ≤ P.length → n < 2 ^ 26 →
    (∀ o' m' s' n' : Nat, (o', m', s', n') = tf A (o, m, s, n) → Wp (d + 1) C_X4_told Q 44 [vR (some 116), vI (r : Nat), vI v2, vI (o' : Nat), vI (m' : Nat), vI (s' : Nat), vI (n' : Nat), vI (ts.length : Nat)] [] h) →
    Wp (d + 1) C_X4_told Q 44 [vR (some 116), vI (r : Nat), vI v2, vI (o : Nat), vI (m : Nat), vI (s : Nat), vI (n : Nat), vI (P.length : Nat)] [] h := by
  intro A
  have hl := hK.1
  induction A with
  | nil =>
    intro P o m s n e z ho hm hs hn' k
    rw [List.append_nil] at e
    have q := k o m s n rfl
    rw [e] at q
    exact q
  | cons x A ih =>
    intro P o m s n e z ho hm hs hn' k
    unfold Bl at z
    have hlen : ts.length = P.length + A.length + 1 := by rw [e]; simp; omega
    have et : ts[P.length]? = some x := by rw [e]; exact at_P
    have e5 := hK.2.2 _ _ et
    have hx26 : x.1 = 1 → x.2 < 26 := hn x (by rw [e]; simp)
    refine ss_X4_told_44 hS ⟨by omega, ?_⟩
    rw [Int.toNat_natCast, hK.2.1]
    refine ip (by omega) ?_
    have k134 : ∀ (s1 : Nat), s1 = tw x o → tst x o ≤ P.length + 1 → Bl 123 125 (tst x o + 1) A 1 → Wp (d + 1) C_X4_told Q 134 [vR (some 116), vI (r : Nat), vI v2, vI (tst x o : Nat), vI (max m (tst x o) : Nat), vI (s : Nat), vI (n : Nat), vI (P.length : Nat)] [vI (s1 : Nat), vI (s : Nat)] h := by
      intro s1 hs1 ht hB
      have hs2 : s1 ≤ 1 := by rw [hs1]; unfold tw; split <;> decide
      refine ss_X4_told_134 hS ?_
      rw [ix hr (by omega), Int.toNat_natCast, e5.1, e5.2]
      refine ⟨by omega, ?_⟩
      have nx : ∀ n2 : Nat, n2 = (if x.1 = 1 then 2 ^ x.2 else 0) → n2 < 2 ^ 26 → Wp (d + 1) C_X4_told Q 175 [vR (some 116), vI (r : Nat), vI v2, vI (tst x o : Nat), vI (max m (tst x o) : Nat), vI (n_add (s : Nat) (s1 : Nat)), vI (n : Nat), vI (P.length : Nat)] [vI (n2 : Nat), vI (n : Nat)] h := by
        intro n2 en2 hn2
        refine ss_X4_told_175 hS ?_
        have b := or26 hn' hn2
        rw [b.1, na_eq (by omega) (by omega), na_eq (by omega) (by omega)]
        have q := ih (P ++ [x]) (tst x o) (max m (tst x o)) (s + s1) (n ||| n2) (by rw [e]; simp) hB (by simp; omega) (by simp; omega) (by simp; omega) b.2 (fun o' m' s' n' ez => k o' m' s' n' (by rw [ez, hs1, en2]; rfl))
        rw [List.length_append] at q
        exact q
      by_cases x1 : x.1 = 1
      · refine ip (by rw [x1]; rfl) ⟨by omega, ?_⟩
        have b := shl26 (hx26 x1)
        rw [b.1]
        exact nx _ (by rw [if_pos x1]) b.2
      · refine im (by omega) ?_
        exact nx 0 (by rw [if_neg x1]) (by decide)
    have k93 : ∀ (c : Int), ((o : Nat) : Int) + c = (tst x o : Nat) → c = 0 ∨ c = 1 ∨ c = -1 → tst x o ≤ P.length + 1 → Bl 123 125 (tst x o + 1) A 1 → Wp (d + 1) C_X4_told Q 93 [vR (some 116), vI (r : Nat), vI v2, vI (o : Nat), vI (m : Nat), vI (s : Nat), vI (n : Nat), vI (P.length : Nat)] [vI c, vI (o : Nat)] h := by
      intro c hc hc2 ht hB
      refine ss_X4_told_93 hS ?_
      rw [na_eq (by omega) (by omega), hc]
      have k107 : Wp (d + 1) C_X4_told Q 107 [vR (some 116), vI (r : Nat), vI v2, vI (tst x o : Nat), vI (m : Nat), vI (s : Nat), vI (n : Nat), vI (P.length : Nat)] [vI ((max m (tst x o) : Nat) : Int)] h := by
        refine ss_X4_told_107 hS ?_
        by_cases t0 : tst x o = 0
        · refine ip (by omega) ?_
          refine c_isTok (s := 7) (w := 59) hS hr hK ?_
          rw [et]
          refine ss_X4_told_126 hS ?_
          by_cases x59 : x = (7, 59)
          · rw [decide_eq_true (by rw [x59])]
            refine im (by decide) ?_
            exact k134 1 (by unfold tw; rw [if_pos ⟨t0, x59⟩]) ht hB
          · rw [decide_eq_false (by intro q; cases q; exact x59 rfl)]
            refine ip rfl ?_
            refine ss_X4_told_133 hS ?_
            exact k134 0 (by unfold tw; rw [if_neg (fun q => x59 q.2)]) ht hB
        · refine im (by omega) ?_
          refine ss_X4_told_133 hS ?_
          exact k134 0 (by unfold tw; rw [if_neg (fun q => t0 q.1)]) ht hB
      by_cases q : ((m : Nat) : Int) < (tst x o : Nat)
      · refine ip q ?_
        rw [show max m (tst x o) = tst x o by omega] at k107
        exact k107
      · refine im q ?_
        rw [show max m (tst x o) = m by omega] at k107
        exact k107
    refine c_isTok (s := 7) (w := 123) hS hr hK ?_
    rw [et]
    refine ss_X4_told_67 hS ?_
    by_cases x1 : x = (7, 123)
    · rw [if_pos x1] at z
      have ts1 : tst x o = o + 1 := by unfold tst; rw [if_pos x1]
      rw [decide_eq_true (by rw [x1])]
      refine im (by decide) ?_
      exact k93 1 (by rw [ts1]; omega) (by omega) (by omega) (by rw [ts1]; exact z)
    · rw [if_neg x1] at z
      rw [decide_eq_false (by intro q; cases q; exact x1 rfl)]
      refine ip rfl ?_
      refine c_isTok (s := 7) (w := 125) hS hr hK ?_
      rw [et]
      refine ss_X4_told_85 hS ?_
      by_cases x2 : x = (7, 125)
      · rw [if_pos x2] at z
        have ts1 : tst x o = o - 1 := by unfold tst; rw [if_neg x1, if_pos x2]
        rw [decide_eq_true (by rw [x2])]
        refine im (by decide) ?_
        exact k93 (-1) (by rw [ts1]; have := z.1; omega) (by omega) (by omega) (by rw [ts1]; have := z.1; rw [show o - 1 + 1 = o + 1 - 1 by omega]; exact z.2)
      · rw [if_neg x2] at z
        have ts1 : tst x o = o := by unfold tst; rw [if_neg x1, if_neg x2]
        rw [decide_eq_false (by intro q; cases q; exact x2 rfl)]
        refine ip rfl ?_
        exact k93 0 (by rw [ts1]; omega) (by omega) (by omega) (by rw [ts1]; exact z)
/-- names are names -/
theorem zkE_26 : ∀ (e : zT) (lv : Nat), zok e lv → ∀ x ∈ zk e, x.1 = 1 → x.2 < 26 := by
  intro e
  induction e with
  | leaf n => intro lv h; exact h.elim
  | branch c l r ihl ihr =>
    intro lv h
    have no : ∀ {a b : Nat}, a ≠ 1 → (((a, b) : Nat × Nat).1 = 1 → ((a, b) : Nat × Nat).2 < 26) := fun q z => absurd z q
    by_cases k1 : c = 1
    · subst k1; exact mem_c (fun _ => h) mem_n
    by_cases k2 : c = 2
    · subst k2; exact mem_c (no (by decide)) mem_n
    by_cases k35 : c = 35
    · subst k35; exact mem_c (no (by decide)) (mem_c (no (by decide)) mem_n)
    by_cases k3 : c = 3
    · subst k3; exact mem_c (no (by decide)) (mem_c (no (by decide)) (mem_2 (ihr 0 h.2) (mem_c (no (by decide)) mem_n)))
    by_cases k8 : c = 8
    · subst k8; exact mem_c (no (by decide)) (ihl 2 h)
    by_cases k40 : c = 40
    · subst k40; exact mem_c (no (by decide)) (mem_2 (ihl 0 h) (mem_c (no (by decide)) mem_n))
    obtain ⟨hc, v, w, h1, h2⟩ := two_k h k1 k2 k35 k3 k8 k40
    rcases hc with q | q | q | q | q | q | q | q | q | q <;> subst q
    · exact mem_c (no (by decide)) (mem_2 (ihl v h1) (mem_c (no (by decide)) (mem_2 (ihr w h2) (mem_c (no (by decide)) mem_n))))
    · exact mem_c (no (by decide)) (mem_2 (ihl v h1) (mem_c (no (by decide)) (mem_2 (ihr w h2) (mem_c (no (by decide)) mem_n))))
    all_goals exact mem_2 (ihl v h1) (mem_c (no (by decide)) (ihr w h2))
theorem zkP_26 {p : zT} (oP : okP p) : ∀ x ∈ zk p, x.1 = 1 → x.2 < 26 := by
  have no : ∀ {a b : Nat}, a ≠ 1 → (((a, b) : Nat × Nat).1 = 1 → ((a, b) : Nat × Nat).2 < 26) := fun q z => absurd z q
  rcases oP with ⟨x, e, hx⟩ | ⟨x, e, q, hx, oe⟩
  · subst e; exact mem_c (fun _ => hx) mem_n
  · subst q; exact mem_c (no (by decide)) (mem_c (no (by decide)) (mem_2 (zkE_26 e 0 oe.1) (mem_c (no (by decide)) mem_n)))
theorem zk_26 : ∀ t : zT, (okS t 0 → ∀ x ∈ zk t, x.1 = 1 → x.2 < 26) ∧ (okS t 1 → ∀ x ∈ zk t, x.1 = 1 → x.2 < 26) := by
  have no : ∀ {a b : Nat}, a ≠ 1 → (((a, b) : Nat × Nat).1 = 1 → ((a, b) : Nat × Nat).2 < 26) := fun q z => absurd z q
  have fk : ∀ {k k2 k3 : Nat} {e s t e2 : zT}, ((k = 108 ∧ k2 = 112 ∧ k3 = 113) ∨ (k = 111 ∧ k2 = 117 ∧ k3 = 118)) → okE e → okE e2 → (∀ x ∈ zk s, x.1 = 1 → x.2 < 26) → (∀ x ∈ zk t, x.1 = 1 → x.2 < 26) → ∀ x ∈ zk (zB k e (zB k2 s (zB k3 t e2))), x.1 = 1 → x.2 < 26 := by
    intro k k2 k3 e s t e2 hk o1 o2 i1 i2
    rw [zk_fk hk]
    exact mem_c (no (by decide)) (mem_2 (zkE_26 e 0 o1.1) (mem_c (no (by decide)) (mem_2 i1 (mem_c (no (by decide)) (mem_c (no (by decide)) (mem_c (no (by decide)) (mem_2 i2 (mem_c (no (by decide)) (mem_c (no (by decide)) (mem_2 (zkE_26 e2 0 o2.1) (mem_c (no (by decide)) mem_n)))))))))))
  have H := ok_ind (P0 := fun t => ∀ x ∈ zk t, x.1 = 1 → x.2 < 26) (P1 := fun t => ∀ x ∈ zk t, x.1 = 1 → x.2 < 26) (fun v => mem_n)
    (fun s t _ _ i1 i2 => by rw [zk_150]; exact mem_2 i1 i2)
    (fun e s t e2 o1 _ _ o2 i1 i2 => fk (Or.inl ⟨rfl, rfl, rfl⟩) o1 o2 i1 i2)
    (fun e s t e2 o1 _ _ o2 i1 i2 => fk (Or.inr ⟨rfl, rfl, rfl⟩) o1 o2 i1 i2)
    (fun e s o1 _ i1 => by rw [zk_wh]; exact mem_c (no (by decide)) (mem_2 (zkE_26 e 0 o1.1) (mem_c (no (by decide)) (mem_2 i1 (mem_c (no (by decide)) (mem_c (no (by decide)) mem_n))))))
    (fun e s t o1 _ _ i1 i2 => by rw [zk_wn]; exact mem_c (no (by decide)) (mem_2 (zkE_26 e 0 o1.1) (mem_c (no (by decide)) (mem_2 i1 (mem_c (no (by decide)) (mem_c (no (by decide)) (mem_c (no (by decide)) (mem_2 i2 (mem_c (no (by decide)) (mem_c (no (by decide)) mem_n))))))))))
    (fun k l r hk => by
      rcases hk with ⟨q, ⟨x, e, hx⟩, oe, -⟩ | ⟨q, ⟨x, e, hx⟩, y, e2, -⟩ | ⟨q, ⟨x, e, hx⟩, j, f, e2, j1, j2, oe, -⟩ | ⟨q, ⟨x, e, hx⟩, e2⟩ | ⟨q, o1, o2⟩ | ⟨q, o1, o2, -⟩
      · subst e
        have w : zk (zB k (zL x) r) = (5, k - 100) :: (1, x) :: (7, 61) :: (zk r ++ [(7, 59)]) := by rcases q with q | q | q <;> subst q <;> rfl
        rw [w]
        exact mem_c (no (by decide)) (mem_c (fun _ => hx) (mem_c (no (by decide)) (mem_2 (zkE_26 r 0 oe.1) (mem_c (no (by decide)) mem_n))))
      · subst e; subst e2
        have w : zk (zB k (zL x) (zL y)) = [(5, k - 100), (1, x), (4, y), (7, 59)] := by rcases q with q | q <;> subst q <;> rfl
        rw [w]
        exact mem_c (no (by decide)) (mem_c (fun _ => hx) (mem_c (no (by decide)) (mem_c (no (by decide)) mem_n)))
      · subst e; subst e2
        have ej : zk (zB j f (zL 0)) = (5, j - 143) :: zk f := by
          have : j = 160 ∨ j = 161 ∨ j = 162 ∨ j = 163 ∨ j = 164 := by omega
          rcases this with y | y | y | y | y <;> subst y <;> rfl
        have w : zk (zB k (zL x) (zB j f (zL 0))) = (5, k - 100) :: (3, x) :: (zk (zB j f (zL 0)) ++ [(7, 59)]) := by rcases q with q | q <;> subst q <;> rfl
        rw [w, ej]
        exact mem_c (no (by decide)) (mem_c (no (by decide)) (mem_c (no (by decide)) (mem_2 (zkE_26 f 0 oe.1) (mem_c (no (by decide)) mem_n))))
      · subst e; subst e2
        have w : zk (zB k (zL x) (zL 0)) = [(5, k - 100), (2, x), (7, 59)] := by rcases q with q | q <;> subst q <;> rfl
        rw [w]
        exact mem_c (no (by decide)) (mem_c (no (by decide)) (mem_c (no (by decide)) mem_n))
      · subst q
        exact mem_2 (zkP_26 o1) (mem_c (no (by decide)) (mem_2 (zkP_26 o2) (mem_c (no (by decide)) mem_n)))
      · have w : zk (zB k l r) = zk l ++ (6, k - 130) :: (zk r ++ [(7, 59)]) := by
          have : k = 130 ∨ k = 131 ∨ k = 132 ∨ k = 134 ∨ k = 135 := by omega
          rcases this with y | y | y | y | y <;> subst y <;> rfl
        rw [w]
        exact mem_2 (zkP_26 o1) (mem_c (no (by decide)) (mem_2 (zkE_26 r 0 o2.1) (mem_c (no (by decide)) mem_n))))
  exact fun t => ⟨(H t).1, (H t).2.1⟩
def tval (t : zT) (b : Int) : Int := if b = 0 then (zc t : Nat) else if b = 1 then ((zls t).length : Nat) else if b = 2 then bI (zord t) else if b = 3 then (zbr t : Nat) else (zbits t : Nat)
def toldV (ρ : Nat → Option zT) (a b : Int) : Int := if ¬ (0 ≤ a ∧ a ≤ 9) ∨ ¬ (0 ≤ b ∧ b ≤ 4) then -1 else match ρ a.toNat with
  | none => -2
  | some t => tval t b
theorem c_toldM {d : Nat} {Q : qt} {h : hp} {ρ : Nat → Option zT} {a b : Int} (hS : St h) (hR0 : RIs h ρ) (k : Q (.inl (some (vI (toldV ρ a b)))) h) : Wc (d + 4) 147 [vR (some 116), vI a, vI b] h Q := by
  refine se_X4_told hS ?_
  refine pu_mIsRoutine hS ?_
  refine ss_X4_told_4 hS ?_
  unfold toldV at k
  by_cases ha : 0 ≤ a ∧ a ≤ 9
  · rw [show (decide (0 ≤ a) && decide (a ≤ 9)) = true by simp; omega]
    refine im (by decide) ?_
    refine pu_in hS ?_
    refine ss_X4_told_13 hS ?_
    by_cases hb : 0 ≤ b ∧ b ≤ 4
    · rw [show (decide (0 ≤ b) && decide (b ≤ 4)) = true by simp; omega]
      rw [if_neg (by omega)] at k
      refine im (by decide) ⟨by omega, ?_⟩
      obtain ⟨r, rfl⟩ : ∃ r : Nat, a = (r : Nat) := ⟨a.toNat, by omega⟩
      rw [Int.toNat_natCast] at k ⊢
      have hr : r < 10 := by omega
      have hI0 := hR0 r hr
      cases hρ : ρ r with
      | none =>
        rw [hρ] at k hI0
        exact ip hI0.2 k
      | some t =>
        rw [hρ] at k hI0
        obtain ⟨ok, un, hz, hbr, hlen, -, m1, m2, m3, m4, m5⟩ := hI0
        refine im (by rw [m1]; decide) ?_
        have q := told_loop (d := d + 2) (v2 := b) (Q := Q) hS hr m3 ((zk_26 t).1 ok) (zk t) [] 0 0 0 0 rfl ((zk_br t).1 ok 1 (by decide)) (by simp) (by simp) (by simp) (by decide) (fun o' m' s' n' ez => ?_)
        · exact q
        · rw [tf_whole ok] at ez
          cases ez
          refine ss_X4_told_44 hS ⟨by omega, ?_⟩
          rw [Int.toNat_natCast, m3.2.1]
          refine im (by omega) ?_
          have k2 : Q (.inl (some (vI (tval t b)))) h := k
          clear k
          have k := k2
          unfold tval at k
          by_cases b0 : b = 0
          · rw [if_pos b0] at k
            refine ip b0 ⟨by omega, ?_⟩
            rw [m4]
            exact ss_X4_told_241 hS k
          rw [if_neg b0] at k
          refine im b0 ?_
          by_cases b1 : b = 1
          · rw [if_pos b1] at k
            exact ip b1 (ss_X4_told_241 hS k)
          rw [if_neg b1] at k
          refine im b1 ?_
          by_cases b2 : b = 2
          · rw [if_pos b2] at k
            refine ip b2 ⟨by omega, ?_⟩
            rw [m2]
            cases hz : zord t with
            | true => rw [hz] at k; exact im (by decide) (ss_X4_told_241 hS k)
            | false => rw [hz] at k; exact ip rfl (ss_X4_told_241 hS k)
          rw [if_neg b2] at k
          refine im b2 ?_
          by_cases b3 : b = 3
          · rw [if_pos b3] at k
            exact ip b3 (ss_X4_told_241 hS k)
          rw [if_neg b3] at k
          exact im b3 (ss_X4_told_241 hS k)
    · rw [show (decide (0 ≤ b) && decide (b ≤ 4)) = false by rw [Bool.eq_false_iff]; simp; omega]
      rw [if_pos (Or.inr hb)] at k
      exact ip rfl (ss_X4_told_16 hS k)
  · rw [show (decide (0 ≤ a) && decide (a ≤ 9)) = false by rw [Bool.eq_false_iff]; simp; omega]
    rw [if_pos (Or.inl ha)] at k
    exact ip rfl (ss_X4_told_16 hS k)
