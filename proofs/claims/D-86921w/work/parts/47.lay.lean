/-! x LAYS the instructions of a tree -/
def FL (h h' : hp) (l arr : Nat) : Prop := hN h ≤ hN h' ∧ hU h ≤ hU h' ∧ (∀ c, c < hN h → c ≠ l → c ≠ arr → sm h h' c) ∧ St h'
def Lw (h : hp) (l arr lo hi : Nat) (xs : List Nat) (n : Nat) : Prop := St h ∧ 145 ≤ lo ∧ (hi ≤ l ∧ 145 ≤ l) ∧ l < hN h ∧ RL h l xs arr ∧ (arr = 1 ∨ hi ≤ arr) ∧ hU h + 120 * n ≤ BUD ∧ xs.length + n ≤ 40
def LyR (g w : Nat) (h : hp) (l arr lo hi : Nat) (xs : List Nat) (es : List zEn) (h' : hp) (arr' : Nat) (ys : List Nat) : Prop :=
  RL h' l (xs ++ ys) arr' ∧ (arr' = arr ∨ hN h ≤ arr') ∧ (∀ y ∈ ys, g ≤ y) ∧ RC h' lo hi es ys ∧ FL h h' l arr ∧ hU h' ≤ w
def LyQ (g w : Nat) (h : hp) (l arr lo hi : Nat) (xs : List Nat) (es : List zEn) (K : hp → Prop) : Prop := ∀ h' arr' ys, LyR g w h l arr lo hi xs es h' arr' ys → K h'
theorem Lw_le {h : hp} {l arr lo hi n m : Nat} {xs : List Nat} (hw : Lw h l arr lo hi xs n) (hm : m ≤ n) : Lw h l arr lo hi xs m := by
  obtain ⟨a1, a2, a3, a4, a5, a6, a7, a8⟩ := hw
  exact ⟨a1, a2, a3, a4, a5, a6, by omega, by omega⟩
theorem Lw_next {g w : Nat} {h h1 : hp} {l arr arr1 lo hi n m : Nat} {xs ys : List Nat} {es : List zEn} (hw : Lw h l arr lo hi xs n) (r : LyR g w h l arr lo hi xs es h1 arr1 ys) (hn : xs.length + es.length + m ≤ 40) (hb : w + 120 * m ≤ BUD) : Lw h1 l arr1 lo hi (xs ++ ys) m := by
  obtain ⟨hS, h1', h2, h3, hL, h4, h5, h6⟩ := hw
  obtain ⟨r1, r2, r3, r4, r5, r6⟩ := r
  have hl := RC_len r4
  have := r5.1
  exact ⟨r5.2.2.2, h1', h2, by omega, r1, by omega, by omega, by rw [List.length_append]; omega⟩
theorem RL_ne {h : hp} {l arr x : Nat} {xs : List Nat} (hS : St h) (z : RL h l xs arr) (hx : (hT h x).1 ≤ 37) : x ≠ l ∧ x ≠ arr := by
  refine ⟨fun e => ?_, fun e => ?_⟩
  · rw [e, z.1] at hx; exact absurd hx (by decide)
  · rw [e, (RL_arr hS z).2] at hx; exact absurd hx (by decide)
theorem LyR_trans {g g2 w w2 : Nat} {h h1 h2 : hp} {l arr arr1 arr2 lo hi n : Nat} {xs ys zs : List Nat} {es fs : List zEn} (hw : Lw h l arr lo hi xs n) (hg : g ≤ g2) (r : LyR g w h l arr lo hi xs es h1 arr1 ys) (q : LyR g2 w2 h1 l arr1 lo hi (xs ++ ys) fs h2 arr2 zs) : LyR g w2 h l arr lo hi xs (es ++ fs) h2 arr2 (ys ++ zs) := by
  obtain ⟨hS, h1', h2', h3, hL, h4, h5, h6⟩ := hw
  obtain ⟨r1, r2, r3, r4, ⟨f1, f2, f3, f4⟩, r6⟩ := r
  obtain ⟨q1, q2, q3, q4, ⟨e1, e2, e3, e4⟩, q6⟩ := q
  refine ⟨by rw [← List.append_assoc]; exact q1, by omega, fun y hy => ?_, RC_app q4 (RC_eq h1' e1 (fun c c1 c2 _ => e3 c (by omega) (by omega) (by omega)) (fun c hc => ?_) r4), ⟨by omega, by omega, fun c c1 c2 c3 => sm_trans (f3 c c1 c2 c3) (e3 c (by omega) c2 (by omega)), e4⟩, q6⟩
  · rcases List.mem_append.mp hy with z | z
    · exact r3 y z
    · exact Nat.le_trans hg (q3 y z)
  · have hm := r1.2.2.2.1 c (List.mem_append.mpr (Or.inr hc))
    have hn := RL_ne f4 r1 hm.2
    exact e3 c hm.1 hn.1 hn.2
theorem LyR_pre {g w : Nat} {h h1 h2 : hp} {l arr arr2 lo hi n : Nat} {xs ys : List Nat} {es : List zEn} (hw : Lw h l arr lo hi xs n) (hn : hN h ≤ hN h1) (hu : hU h ≤ hU h1) (hs : ∀ c, c < hN h → sm h h1 c) (r : LyR g w h1 l arr lo hi xs es h2 arr2 ys) : LyR g w h l arr lo hi xs es h2 arr2 ys := by
  obtain ⟨r1, r2, r3, r4, ⟨f1, f2, f3, f4⟩, r6⟩ := r
  exact ⟨r1, by omega, r3, r4, ⟨by omega, by omega, fun c c1 c2 c3 => sm_trans (hs c c1) (f3 c (by omega) c2 c3), f4⟩, r6⟩
theorem Lw_alloc {h h1 : hp} {l arr lo hi n m : Nat} {xs : List Nat} (hw : Lw h l arr lo hi xs n) (hS1 : St h1) (hn : hN h ≤ hN h1) (hs : ∀ c, c < hN h → sm h h1 c) (hb : hU h1 + 120 * m ≤ BUD) (hm : m ≤ n) : Lw h1 l arr lo hi xs m := by
  obtain ⟨hS, h1', h2, h3, hL, h4, h5, h6⟩ := hw
  have ha := RL_arr hS hL
  refine ⟨hS1, h1', h2, by omega, RL_sm hS hn (fun c hc => hs c ?_) hL, h4, hb, by omega⟩
  rcases hc with e | e | e
  · omega
  · omega
  · exact (hL.2.2.2.1 c e).1
/-- a cell goes behind those that there are -/
theorem ly_add {d : Nat} {Q : qt} {g : Nat} {h : hp} {l arr lo hi o : Nat} {xs : List Nat} {e : zEn} (hw : Lw h l arr lo hi xs 0) (hb : hU h + 100 ≤ BUD) (ho : o < hN h) (hk : (hT h o).1 ≤ 37) (hg : g ≤ o) (hc : RCe h lo hi e o) (k : ∀ h' arr', LyR g (hU h + 100) h l arr lo hi xs [e] h' arr' [o] → Q (.inl (some (vI 1))) h') : Wc (d + 8) 401 [vR (some l), vR (some o)] h Q := by
  obtain ⟨hS, h1, h2, h3, hL, h4, h5, h6⟩ := hw
  have ha := RL_arr hS hL
  have hn := RL_ne hS hL hk
  refine c_add hS (by omega) h3 hL ⟨ho, hk⟩ hn.1 (by omega) (by omega) ?_
  intro h' arr' r1 r2 r3 r4 r5 r6
  exact k h' arr' ⟨r1, by omega, fun y hy => by rw [List.mem_singleton.mp hy]; exact hg, ⟨o, [], rfl, RCe_eq h1 (by omega) (fun c c1 c2 _ => r3 c (by omega) (by omega) (Or.inl (by omega))) (r3 o ho hn.1 (Or.inl hn.2)) hc, rfl⟩, ⟨by omega, r4, fun c c1 c2 c3 => r3 c c1 c2 (Or.inl c3), r6⟩, r5⟩
theorem c_n35 {d : Nat} {Q : qt} {h : hp} {o : Nat} {p : Option Nat} (hS : St h) (ht : hT h o = (35, 0)) (k : Q (.inl none) (sR h o 0 p)) : Wc (d + 2) 380 [vR (some o), vR p] h Q := se_X35_init hS ht (se_X34_init hS (by rw [ht]; decide) (ss_X35_init_4 hS ht k))
theorem c_n36 {d : Nat} {Q : qt} {h : hp} {o : Nat} {p : Option Nat} (hS : St h) (ht : hT h o = (36, 0)) (k : Q (.inl none) (sR h o 0 p)) : Wc (d + 2) 382 [vR (some o), vR p] h Q := se_X36_init hS ht (se_X34_init hS (by rw [ht]; decide) (ss_X36_init_4 hS ht k))
theorem c_n37 {d : Nat} {Q : qt} {h : hp} {o : Nat} {p : Option Nat} {w : Int} (hS : St h) (ht : hT h o = (37, 0)) (k : Q (.inl none) (sI (sR h o 0 p) o 1 w)) : Wc (d + 2) 384 [vR (some o), vR p, vI w] h Q := se_X37_init hS ht (se_X34_init hS (by rw [ht]; decide) (ss_X37_init_4 hS ht k))
theorem ly_36 {d : Nat} {Q : qt} {h : hp} {a l arr lo hi b p : Nat} {xs : List Nat} {t : zT} (hw : Lw h l arr lo hi xs 1) (ht : (hT h a).1 ∈ [20, 21, 24, 25, 26]) (hR0 : RT h lo hi t [a]) (hk : ¬ (zg t = 106 ∨ zg t = 107)) (k : LyQ (hN h) (hU h + 120) h l arr lo hi xs [(0, t, b, p)] (fun h' => Q (.inl none) h')) : Wc (d + 10) 295 [vR (some a), vR (some l)] h Q := by
  have hS := hw.1
  have h145 := hS.1
  have hm := RT_mem hR0 a (List.mem_singleton.mpr rfl)
  have hb : hU h + 120 * 1 ≤ BUD := hw.2.2.2.2.2.2.1
  have hil : hi ≤ l := hw.2.2.1.1
  have hln : l < hN h := hw.2.2.2.1
  have har : arr = 1 ∨ hi ≤ arr := hw.2.2.2.2.2.1
  have hlo : 145 ≤ lo := hw.2.1
  refine se_X19_lay hS ht ⟨by omega, ?_⟩
  have S1 : St (hNew h 36 0 1) := St_new hS
  refine c_n36 S1 (hT_newa rfl) ?_
  obtain ⟨h1, e1⟩ : ∃ x, x = sR (hNew h 36 0 1) (hN h) 0 (some a) := ⟨_, rfl⟩
  have sm1 : ∀ c, c < hN h → sm h h1 c := fun c hc => by rw [e1]; exact sm_sR (sm_new (sm_refl _ _) hc) (by omega)
  have n1 : hN h1 = hN h + 1 := by rw [e1]; rfl
  have u1 : hU h1 = hU h + 14 := by rw [e1]; show hU h + 1 + 13 = _; omega
  have S2 : St h1 := by rw [e1]; exact St_sR S1 (by unfold okRf; omega)
  have t1 : hT h1 (hN h) = (36, 0) := by rw [e1, hT_sR]; exact hT_newa rfl
  have f1 : hR h1 (hN h) 0 = some a := by rw [e1, hR_sR, if_pos ⟨rfl, rfl⟩]
  rw [← e1]
  refine ss_X19_lay_9 S2 (by rw [(sm1 a (by omega)).1]; exact ht) ?_
  have w1 := Lw_alloc hw S2 (by omega) sm1 (m := 0) (by omega) (by omega)
  rw [ofR_some]
  refine ip (by rw [w1.2.2.2.2.1.1]) ?_
  have c1 : RCe h1 lo hi (0, t, b, p) (hN h) := by
    unfold RCe
    rw [if_pos rfl]
    exact ⟨by rw [if_neg hk]; exact t1, a, f1, RT_eq hlo (by omega) (fun c x1 x2 _ => sm1 c (by omega)) hR0⟩
  refine ly_add (g := hN h) w1 (by omega) (by omega) (by rw [t1]; decide) (Nat.le_refl _) c1 fun h2 arr2 r => ?_
  have r5 := r.2.2.2.2.1
  refine ss_X19_lay_14 r5.2.2.2 (by rw [(r5.2.2.1 a (by omega) (by omega) (by omega)).1, (sm1 a (by omega)).1]; exact ht) ?_
  have r' := LyR_pre hw (by omega) (by omega) sm1 r
  exact k h2 arr2 [hN h] ⟨r'.1, r'.2.1, r'.2.2.1, r'.2.2.2.1, r'.2.2.2.2.1, by have := r'.2.2.2.2.2; omega⟩
theorem ly_35 {d : Nat} {Q : qt} {h : hp} {a l arr lo hi b p : Nat} {xs : List Nat} {t : zT} (hw : Lw h l arr lo hi xs 1) (ht : hT h a = (27, 0)) (hR0 : RT h lo hi t [a]) (hk : zg t = 106 ∨ zg t = 107) (k : LyQ (hN h) (hU h + 120) h l arr lo hi xs [(0, t, b, p)] (fun h' => Q (.inl none) h')) : Wc (d + 10) 346 [vR (some a), vR (some l)] h Q := by
  have hS := hw.1
  have h145 := hS.1
  have hm := RT_mem hR0 a (List.mem_singleton.mpr rfl)
  have hb : hU h + 120 * 1 ≤ BUD := hw.2.2.2.2.2.2.1
  have hil : hi ≤ l := hw.2.2.1.1
  have hln : l < hN h := hw.2.2.2.1
  have har : arr = 1 ∨ hi ≤ arr := hw.2.2.2.2.2.1
  have hlo : 145 ≤ lo := hw.2.1
  refine se_X27_lay hS ht ⟨by omega, ?_⟩
  have S1 : St (hNew h 35 0 1) := St_new hS
  refine c_n35 S1 (hT_newa rfl) ?_
  obtain ⟨h1, e1⟩ : ∃ x, x = sR (hNew h 35 0 1) (hN h) 0 (some a) := ⟨_, rfl⟩
  have sm1 : ∀ c, c < hN h → sm h h1 c := fun c hc => by rw [e1]; exact sm_sR (sm_new (sm_refl _ _) hc) (by omega)
  have n1 : hN h1 = hN h + 1 := by rw [e1]; rfl
  have u1 : hU h1 = hU h + 14 := by rw [e1]; show hU h + 1 + 13 = _; omega
  have S2 : St h1 := by rw [e1]; exact St_sR S1 (by unfold okRf; omega)
  have t1 : hT h1 (hN h) = (35, 0) := by rw [e1, hT_sR]; exact hT_newa rfl
  have f1 : hR h1 (hN h) 0 = some a := by rw [e1, hR_sR, if_pos ⟨rfl, rfl⟩]
  rw [← e1]
  refine ss_X27_lay_9 S2 (by rw [(sm1 a (by omega)).1]; exact ht) ?_
  have w1 := Lw_alloc hw S2 (by omega) sm1 (m := 0) (by omega) (by omega)
  rw [ofR_some]
  refine ip (by rw [w1.2.2.2.2.1.1]) ?_
  have c1 : RCe h1 lo hi (0, t, b, p) (hN h) := by
    unfold RCe
    rw [if_pos rfl]
    exact ⟨by rw [if_pos hk]; exact t1, a, f1, RT_eq hlo (by omega) (fun c x1 x2 _ => sm1 c (by omega)) hR0⟩
  refine ly_add (g := hN h) w1 (by omega) (by omega) (by rw [t1]; decide) (Nat.le_refl _) c1 fun h2 arr2 r => ?_
  have r5 := r.2.2.2.2.1
  refine ss_X27_lay_14 r5.2.2.2 (by rw [(r5.2.2.1 a (by omega) (by omega) (by omega)).1, (sm1 a (by omega)).1]; exact ht) ?_
  have r' := LyR_pre hw (by omega) (by omega) sm1 r
  exact k h2 arr2 [hN h] ⟨r'.1, r'.2.1, r'.2.2.1, r'.2.2.2.1, r'.2.2.2.2.1, by have := r'.2.2.2.2.2; omega⟩
def LyS (t : zT) : Prop := ∀ (h : hp) (d l arr lo hi a b p : Nat) (xs : List Nat) (u : zT × Nat × Nat) (Q : qt), 4 * zbr t + 20 ≤ d → b = xs.length → Lw h l arr lo hi xs (zc t) → RT h lo hi t [a] → LyQ (hN h) (hU h + 120 * zc t) h l arr lo hi xs (zi t u b p) (fun h' => Q (.inl none) h') → vsel [(20, 295), (21, 295), (23, 312), (24, 295), (25, 295), (26, 295), (27, 346), (29, 356), (30, 360), (31, 312), (32, 312)] (hT h a).1 fun y => Wc d y [vR (some a), vR (some l)] h Q
def LyP (t : zT) : Prop := ∀ (h : hp) (d l arr lo hi a b p : Nat) (xs ys : List Nat) (u : zT × Nat × Nat) (Q : qt), 4 * zbr t + 21 ≤ d → b = xs.length → Lw h l arr lo hi xs (zc t) → RPt h lo hi a ys → RT h lo hi t ys → LyQ (hN h) (hU h + 120 * zc t) h l arr lo hi xs (zi t u b p) (fun h' => Q (.inl none) h') → Wc d 233 [vR (some a), vR (some l)] h Q
def LyL (t : zT) : Prop := ∀ (h : hp) (d l arr lo hi a b p ls la : Nat) (xs ys pre : List Nat) (u : zT × Nat × Nat) (v3 : av) (Q : qt), 4 * zbr t + 20 ≤ d → b = xs.length → Lw h l arr lo hi xs (zc t) → lo ≤ a ∧ a < hi → hT h a = (5, 0) → hR h a 0 = some ls → lo ≤ ls ∧ ls < hi → RL h ls (pre ++ ys) la → (la = 1 ∨ (lo ≤ la ∧ la < hi)) → RT h lo hi t ys → LyQ (hN h) (hU h + 120 * zc t) h l arr lo hi xs (zi t u b p) (fun h' => Q (.inl none) h') → Wp d C_X5_lay Q 2 [vR (some a), vR (some l), vI (pre.length : Nat), v3] [] h
theorem LyP_of {t : zT} (hl : LyL t) : LyP t := by
  intro h d l arr lo hi a b p xs ys u Q hd hb hw hp hR0 k
  obtain ⟨z1, z2, z3, ls, la, z4, z5, z6, z7, z8⟩ := hp
  obtain ⟨d, rfl⟩ : ∃ e, d = e + 1 := ⟨d - 1, by omega⟩
  refine se_X5_lay hw.1 z3 ?_
  exact hl h d l arr lo hi a b p ls la xs ys [] u vU Q (by omega) hb hw ⟨z1, z2⟩ z3 z4 ⟨z5, z6⟩ z7 z8 hR0 k
theorem RT_kind {h : hp} {lo hi : Nat} : ∀ t : zT, okS t 1 → ∀ a, RT h lo hi t [a] → (hT h a).1 ∈ [20, 21, 23, 24, 25, 26, 27, 29, 30, 31, 32] := by
  have H := ok_ind (P0 := fun _ => True) (P1 := fun t => ∀ a, RT h lo hi t [a] → (hT h a).1 ∈ [20, 21, 23, 24, 25, 26, 27, 29, 30, 31, 32]) (fun _ => trivial) (fun _ _ _ _ _ _ => trivial)
    (fun e s t e2 _ _ _ _ _ _ a z => by rw [(RT_fk (Or.inl ⟨rfl, rfl, rfl⟩) z).2.2.1]; decide)
    (fun e s t e2 _ _ _ _ _ _ a z => by rw [(RT_fk (Or.inr ⟨rfl, rfl, rfl⟩) z).2.2.1]; decide)
    (fun e s _ _ _ a z => by rw [(RT_wh z).2.2.1]; decide)
    (fun e s t _ _ _ _ _ a z => by rw [(RT_wn z).2.2.1]; decide)
    (fun k l r hk a z => by
      obtain ⟨K, t1, t2⟩ := code_step hk z
      rw [t1]
      rcases t2 with e | e | e | e | e | e | e <;> subst e <;> decide)
  exact fun t => (H t).2.1
theorem ly_nil (v : Nat) : LyL (.leaf v) := by
  intro h d l arr lo hi a b p ls la xs ys pre u v3 Q hd hb hw ha ht hls hls2 hL hla hR0 k
  have hy : ys = [] := hR0
  subst hy
  obtain ⟨d, rfl⟩ : ∃ e, d = e + 1 := ⟨d - 1, by omega⟩
  have hS := hw.1
  refine ss_X5_lay_2 hS ht ?_
  rw [hls, ofR_some]
  refine ip (by rw [hL.1]) ?_
  refine c_size hS hL ?_
  refine ss_X5_lay_12 hS ht ?_
  refine im (by simp) ?_
  exact k h arr [] ⟨by rw [List.append_nil]; exact hw.2.2.2.2.1, Or.inl rfl, fun y hy => (by cases hy), rfl, ⟨Nat.le_refl _, Nat.le_refl _, fun c _ _ _ => sm_refl _ _, hS⟩, by omega⟩
theorem ly_cons {s t : zT} (os : okS s 1) (hs : LyS s) (ht : LyL t) : LyL (zB 150 s t) := by
  intro h d l arr lo hi a b p ls la xs ys pre u v3 Q hd hb hw ha hta hls hls2 hL hla hR0 k
  obtain ⟨x, ys', e, r1, r2⟩ := RT_cons hR0
  subst e
  have hd' : 4 * max (zbr s) (zbr t) + 20 ≤ d := hd
  obtain ⟨d, rfl⟩ : ∃ e, d = e + 5 := ⟨d - 5, by omega⟩
  have hS := hw.1
  have h73 := RL_73 hL
  have hlen : (pre ++ x :: ys').length = pre.length + ys'.length + 1 := by simp; omega
  have hzc : zc (zB 150 s t) = zc s + zc t := rfl
  have hil : hi ≤ l := hw.2.2.1.1
  have hln : l < hN h := hw.2.2.2.1
  have har : arr = 1 ∨ hi ≤ arr := hw.2.2.2.2.2.1
  have hlo : 145 ≤ lo := hw.2.1
  have hbu := hw.2.2.2.2.2.2.1
  have h40 := hw.2.2.2.2.2.2.2
  refine ss_X5_lay_2 hS hta ?_
  rw [hls, ofR_some]
  refine ip (by rw [hL.1]) ?_
  refine c_size hS hL ?_
  refine ss_X5_lay_12 hS hta ?_
  refine ip (by omega) ?_
  rw [hls, ofR_some]
  refine ip (by rw [hL.1]) ?_
  refine c_get hS hL (by omega) ?_
  have hg : (pre ++ x :: ys').getD pre.length 0 = x := by simp
  rw [hg]
  refine ss_X5_lay_25 hS hta ?_
  refine ⟨Or.inr ⟨x, rfl, RT_kind s os x r1⟩, ?_⟩
  rw [ofR_some]
  refine hs h _ l arr lo hi x b p xs u _ (by omega) hb (Lw_le hw (by omega)) r1 ?_
  intro h1 arr1 zs1 r
  have w1 := Lw_next (m := zc t) hw r (by rw [(zi_len s).2 os]; omega) (by omega)
  have r5 := r.2.2.2.2.1
  have smT : ∀ c, lo ≤ c → c < hi → imm (hT h c).1 → sm h h1 c := fun c c1 c2 _ => r5.2.2.1 c (by omega) (by omega) (by omega)
  have hsa := r5.2.2.1 a (by omega) (by omega) (by omega)
  refine ss_X5_lay_34 r5.2.2.2 (hsa.1.trans hta) ?_
  rw [na_eq (by omega) (by omega)]
  have lenz : zs1.length = zc s := by rw [RC_len r.2.2.2.1, (zi_len s).2 os]
  have hL1 : RL h1 ls (pre ++ x :: ys') la := RL_eq r5.1 (fun c hc => by rcases hc with e | e <;> exact r5.2.2.1 c (by omega) (by omega) (by omega)) (fun y hy => by
    have hm := hL.2.2.2.1 y hy
    have hn := RL_ne hS hw.2.2.2.2.1 hm.2
    rw [(r5.2.2.1 y hm.1 hn.1 hn.2).1]; exact hm.2) hL
  have q := ht h1 (d + 5) l arr1 lo hi a (b + zc s) (p + (zk s).length) ls la (xs ++ zs1) ys' (pre ++ [x]) u (vR (some x)) Q (by omega) (by rw [List.length_append]; omega) w1 ha (hsa.1.trans hta) ((hsa.2.2.2 0).trans hls) hls2 (by rw [List.append_assoc]; exact hL1) hla (RT_eq hlo r5.1 smT r2) (fun h2 arr2 zs2 q => by
    have R := LyR_trans hw r5.1 r q
    rw [← zi_150] at R
    refine k h2 arr2 (zs1 ++ zs2) ⟨R.1, R.2.1, R.2.2.1, R.2.2.2.1, R.2.2.2.2.1, ?_⟩
    have a1 := R.2.2.2.2.2
    have a2 := r.2.2.2.2.2
    omega)
  rw [List.length_append] at q
  exact q
theorem ly_one {k : Nat} {l r : zT} (hk : ok1 k l r) (hu : k ≠ 114) : LyS (zB k l r) := by
  intro h d ll arr lo hi a b p xs u Q hd hb hw hR0 kk
  have hz : zc (zB k l r) = 1 := (ok1_S hk).2.1
  have hq := ok1_k hk
  rw [zi_one hk, hz] at kk
  rw [hz] at hw
  obtain ⟨d, rfl⟩ : ∃ e, d = e + 10 := ⟨d - 10, by omega⟩
  have hR1 := hR0
  unfold RT at hR0
  rw [if_neg (by omega), if_neg (by omega), if_neg (by omega), if_neg (by omega)] at hR0
  obtain ⟨x, e, -, -, hR0⟩ := hR0
  cases e
  have gk : zg (zB k l r) = k := rfl
  split at hR0
  · exact vsel_of (y := 295) (by rw [hR0.1]; rfl) (ly_36 hw (by rw [hR0.1]; decide) hR1 (by rw [gk]; omega) kk)
  split at hR0
  · exact vsel_of (y := 295) (by rw [hR0.1]; rfl) (ly_36 hw (by rw [hR0.1]; decide) hR1 (by rw [gk]; omega) kk)
  split at hR0
  · exact vsel_of (y := 295) (by rw [hR0.1]; rfl) (ly_36 hw (by rw [hR0.1]; decide) hR1 (by rw [gk]; omega) kk)
  split at hR0
  · rename_i q; exact vsel_of (y := 346) (by rw [hR0.1]; rfl) (ly_35 hw hR0.1 hR1 q kk)
  rw [if_neg (by omega), if_neg (by omega), if_neg (by omega)] at hR0
  split at hR0
  · exact vsel_of (y := 295) (by rw [hR0.1]; rfl) (ly_36 hw (by rw [hR0.1]; decide) hR1 (by rw [gk]; omega) kk)
  · exact vsel_of (y := 295) (by rw [hR0.1]; rfl) (ly_36 hw (by rw [hR0.1]; decide) hR1 (by rw [gk]; omega) kk)
