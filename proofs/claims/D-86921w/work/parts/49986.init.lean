set_option maxRecDepth 20000
/-! THE CONSTRUCTORS. What is known of a heap in the making: tags, references, ints of the cells from 68 on -/
def lkT : List (Nat × Nat × Nat) → Nat → Nat × Nat
  | [], _ => (0, 0)
  | e :: T, a => if a = e.1 then e.2 else lkT T a
def lkR : List (Nat × Nat × Nat) → Nat → Nat → Option Nat
  | [], _, _ => none
  | e :: R, a, j => if a = e.1 ∧ j = e.2.1 then some e.2.2 else lkR R a j
def lkI : List (Nat × Nat × Int) → Nat → Nat → Int
  | [], _, _ => 0
  | e :: I, a, j => if a = e.1 ∧ j = e.2.1 then e.2.2 else lkI I a j
def exc (a : Nat) : Bool := decide (a = 70) || (decide (85 ≤ a) && decide (a ≤ 101))
def Bt (h0 : hp) (N u : Nat) (T R : List (Nat × Nat × Nat)) (I : List (Nat × Nat × Int)) (h : hp) : Prop :=
  hN h = N ∧ hU h = u ∧ (∀ a, a < 68 → sm h0 h a) ∧ (∀ a, 68 ≤ a → a < N → hT h a = lkT T a ∧ (∀ j, hI h a j = lkI I a j) ∧ (∀ j, hL h a j = 0) ∧ (exc a = false → ∀ j, hR h a j = lkR R a j)) ∧ (∀ e ∈ R, e.1 < N) ∧ (∀ e ∈ I, e.1 < N) ∧ 68 ≤ N
theorem lkR_out {a : Nat} : ∀ {R : List (Nat × Nat × Nat)}, (∀ e ∈ R, e.1 ≠ a) → ∀ j, lkR R a j = none := by
  intro R
  induction R with
  | nil => intro _ j; rfl
  | cons e R ih =>
    intro h j
    show (if a = e.1 ∧ j = e.2.1 then some e.2.2 else lkR R a j) = none
    rw [if_neg (fun z => h e (List.mem_cons_self ..) z.1.symm)]
    exact ih (fun x hx => h x (List.mem_cons_of_mem _ hx)) j
theorem lkI_out {a : Nat} : ∀ {I : List (Nat × Nat × Int)}, (∀ e ∈ I, e.1 ≠ a) → ∀ j, lkI I a j = 0 := by
  intro I
  induction I with
  | nil => intro _ j; rfl
  | cons e I ih =>
    intro h j
    show (if a = e.1 ∧ j = e.2.1 then e.2.2 else lkI I a j) = 0
    rw [if_neg (fun z => h e (List.mem_cons_self ..) z.1.symm)]
    exact ih (fun x hx => h x (List.mem_cons_of_mem _ hx)) j
theorem Bt_new {h0 h : hp} {N u k n c : Nat} {T R : List (Nat × Nat × Nat)} {I : List (Nat × Nat × Int)} (B : Bt h0 N u T R I h) : Bt h0 (N + 1) (u + c + 13) ((N, k, n) :: T) R I (hNew h k n c) := by
  obtain ⟨b1, b2, b3, b4, b5, b6, b7⟩ := B
  refine ⟨by rw [hN_new, b1], by rw [hU_new, b2], fun a ha => sm_new (b3 a ha) (by omega), fun a a1 a2 => ?_, fun e he => by have := b5 e he; omega, fun e he => by have := b6 e he; omega, by omega⟩
  by_cases q : a = N
  · subst q
    have hb : a = hN h := b1.symm
    refine ⟨?_, fun j => ?_, fun j => ?_, fun _ j => ?_⟩
    · rw [hT_newa hb]; show (k, n) = (if a = a then (k, n) else lkT T a); rw [if_pos rfl]
    · rw [hI_newa hb, lkI_out (fun e he => by have := b6 e he; omega)]
    · exact congrFun (if_pos hb : (if a = hN h then (fun _ => (0 : Int)) else hL h a) = fun _ => 0) j
    · rw [hR_newa hb, lkR_out (fun e he => by have := b5 e he; omega)]
  · have hb : a ≠ hN h := by omega
    obtain ⟨c1, c2, c3, c4⟩ := b4 a a1 (by omega)
    refine ⟨?_, fun j => ?_, fun j => ?_, fun z j => ?_⟩
    · rw [hT_new hb, c1]; show lkT T a = (if a = N then (k, n) else lkT T a); rw [if_neg q]
    · rw [hI_new hb]; exact c2 j
    · rw [hL_new hb]; exact c3 j
    · rw [hR_new hb]; exact c4 z j
theorem Bt_sR {h0 h : hp} {N u b k x : Nat} {T R : List (Nat × Nat × Nat)} {I : List (Nat × Nat × Int)} (B : Bt h0 N u T R I h) (hb : 68 ≤ b ∧ b < N) : Bt h0 N u T ((b, k, x) :: R) I (sR h b k (some x)) := by
  obtain ⟨b1, b2, b3, b4, b5, b6, b7⟩ := B
  refine ⟨b1, b2, fun a ha => sm_sR (b3 a ha) (by omega), fun a a1 a2 => ?_, fun e he => ?_, b6, b7⟩
  · obtain ⟨c1, c2, c3, c4⟩ := b4 a a1 a2
    refine ⟨c1, c2, c3, fun z j => ?_⟩
    rw [hR_sR]
    show (if a = b ∧ j = k then some x else hR h a j) = (if a = b ∧ j = k then some x else lkR R a j)
    by_cases q : a = b ∧ j = k
    · rw [if_pos q, if_pos q]
    · rw [if_neg q, if_neg q]; exact c4 z j
  · rcases List.mem_cons.mp he with q | q
    · rw [q]; exact hb.2
    · exact b5 e q
theorem Bt_sI {h0 h : hp} {N u b k : Nat} {x : Int} {T R : List (Nat × Nat × Nat)} {I : List (Nat × Nat × Int)} (B : Bt h0 N u T R I h) (hb : 68 ≤ b ∧ b < N) : Bt h0 N u T R ((b, k, x) :: I) (sI h b k x) := by
  obtain ⟨b1, b2, b3, b4, b5, b6, b7⟩ := B
  refine ⟨b1, b2, fun a ha => sm_sI (b3 a ha) (by omega), fun a a1 a2 => ?_, b5, fun e he => ?_, b7⟩
  · obtain ⟨c1, c2, c3, c4⟩ := b4 a a1 a2
    refine ⟨c1, fun j => ?_, c3, c4⟩
    rw [hI_sI]
    show (if a = b ∧ j = k then x else hI h a j) = (if a = b ∧ j = k then x else lkI I a j)
    by_cases q : a = b ∧ j = k
    · rw [if_pos q, if_pos q]
    · rw [if_neg q, if_neg q]; exact c2 j
  · rcases List.mem_cons.mp he with q | q
    · rw [q]; exact hb.2
    · exact b6 e q
/-- references of the exceptions are not looked at -/
theorem Bt_sRx {h0 h : hp} {N u b k : Nat} {x : Option Nat} {T R : List (Nat × Nat × Nat)} {I : List (Nat × Nat × Int)} (B : Bt h0 N u T R I h) (hb : 68 ≤ b) (he : exc b = true) : Bt h0 N u T R I (sR h b k x) := by
  obtain ⟨b1, b2, b3, b4, b5, b6, b7⟩ := B
  refine ⟨b1, b2, fun a ha => sm_sR (b3 a ha) (by omega), fun a a1 a2 => ?_, b5, b6, b7⟩
  obtain ⟨c1, c2, c3, c4⟩ := b4 a a1 a2
  refine ⟨c1, c2, c3, fun z j => ?_⟩
  have q : a ≠ b := fun y => by subst y; rw [z] at he; cases he
  rw [hR_sR, if_neg (fun y => q y.1)]
  exact c4 z j
theorem Bt_T {h0 h : hp} {N u a : Nat} {T R : List (Nat × Nat × Nat)} {I : List (Nat × Nat × Int)} (B : Bt h0 N u T R I h) (a1 : 68 ≤ a) (a2 : a < N) : hT h a = lkT T a := (B.2.2.2.1 a a1 a2).1
/-- a new array, kept in a field -/
theorem st_arr {h0 h : hp} {N u o k n j kk : Nat} {T R : List (Nat × Nat × Nat)} {I : List (Nat × Nat × Int)} {W : hp → Prop} (B : Bt h0 N u T R I h) (ho : 68 ≤ o ∧ o < N) (ht : (lkT T o).1 = kk) (hu : u + n + 13 ≤ BUD) (w : ∀ g, Bt h0 (N + 1) (u + n + 13) ((N, k, n) :: T) ((o, j, N) :: R) I g → W g) : 0 ≤ ((n : Nat) : Int) ∧ hU h + (((n : Nat) : Int)).toNat + 13 ≤ BUD ∧ ((hT (hNew h k (((n : Nat) : Int)).toNat (((n : Nat) : Int)).toNat) o).1 ∈ [kk] ∧ W (sR (hNew h k (((n : Nat) : Int)).toNat (((n : Nat) : Int)).toNat) o j (some (hN h)))) := by
  rw [Int.toNat_natCast, B.2.1]
  have B1 : Bt h0 (N + 1) (u + n + 13) ((N, k, n) :: T) R I (hNew h k n n) := Bt_new B
  refine ⟨by omega, hu, ?_, ?_⟩
  · rw [Bt_T B1 ho.1 (by omega)]
    show (if o = N then (k, n) else lkT T o).1 ∈ [kk]
    rw [if_neg (by omega), ht]
    exact List.mem_singleton.mpr rfl
  · rw [B.1]
    exact w _ (Bt_sR B1 ⟨ho.1, by omega⟩)
theorem st_int {h0 h : hp} {N u o j kk : Nat} {x : Int} {T R : List (Nat × Nat × Nat)} {I : List (Nat × Nat × Int)} {W : hp → Prop} (B : Bt h0 N u T R I h) (ho : 68 ≤ o ∧ o < N) (ht : (lkT T o).1 = kk) (w : ∀ g, Bt h0 N u T R ((o, j, x) :: I) g → W g) : (hT h o).1 ∈ [kk] ∧ W (sI h o j x) := by
  refine ⟨?_, w _ (Bt_sI B ho)⟩
  rw [Bt_T B ho.1 ho.2, ht]
  exact List.mem_singleton.mpr rfl
/-- the exceptions' own constructor -/
theorem c_thr {d o : Nat} {Q : qt} {h0 g : hp} {N u : Nat} {T R : List (Nat × Nat × Nat)} {I : List (Nat × Nat × Int)} (B : Bt h0 N u T R I g) (ho : 68 ≤ o ∧ o < N) (ht : (lkT T o).1 = 1 ∨ (lkT T o).1 = 2) (he : exc o = true) (k : ∀ g', Bt h0 N u T R I g' → Q (.inl none) g') : Wc (d + 2) 395 [vR (some o), vR none, vR none, vI 0, vI 0] g Q := by
  have tg : ∀ {g' : hp}, Bt h0 N u T R I g' → (hT g' o).1 ∈ [1, 2] := fun B' => by
    rw [Bt_T B' ho.1 ho.2]
    rcases ht with z | z <;> rw [z] <;> decide
  refine Wc_of cs_J1_init rfl (tr_J1_init_0 ⟨rfl, ?_, Wc_of cs_J0_init_2 rfl (tr_J0_init_2_0 ⟨rfl, tr_J0_init_2_4 ?_⟩)⟩)
  · rw [Bt_T B ho.1 ho.2]
    rcases ht with z | z <;> rw [z] <;> decide
  · have B1 := Bt_sRx B ho.1 he (k := 0) (x := some o)
    refine ⟨tg B, fun r2 _ => ?_⟩
    have B2 := Bt_sRx B1 ho.1 he (k := 1) (x := r2)
    refine ⟨tg B1, fun r4 _ => ?_⟩
    have B3 := Bt_sRx B2 ho.1 he (k := 2) (x := r4)
    have B4 := Bt_sRx B3 ho.1 he (k := 1) (x := none)
    have B5 := Bt_sRx B4 ho.1 he (k := 3) (x := none)
    have B6 := Bt_sRx B5 ho.1 he (k := 0) (x := none)
    have B7 := Bt_sRx B6 ho.1 he (k := 2) (x := none)
    exact ⟨tg B2, ip rfl ⟨tg B3, tg B4, tg B5, ip rfl ⟨tg B6, k _ B7⟩⟩⟩
/-! lists that grow -/
def exT : Nat → Nat → Nat → List (Nat × Nat × Nat) → List (Nat × Nat × Nat)
  | 0, _, _, T => T
  | m + 1, b, k, T => exT m (b + 1) k ((b, k, 0) :: T)
def exR : Nat → Nat → Nat → Nat → List (Nat × Nat × Nat) → List (Nat × Nat × Nat)
  | 0, _, _, _, R => R
  | m + 1, a, i, b, R => exR m a (i + 1) (b + 1) ((a, i, b) :: R)
def exI : Nat → Nat → Nat → List (Nat × Nat × Int) → List (Nat × Nat × Int)
  | 0, _, _, I => I
  | m + 1, b, i, I => exI m (b + 1) (i + 1) ((b, 6, ((i : Nat) : Int)) :: I)
def exJ : Nat → Nat → List (Nat × Nat × Int) → List (Nat × Nat × Int)
  | 0, _, I => I
  | m + 1, i, I => exJ m (i + 1) ((135, i, -1) :: I)
theorem lk_1 {T : List (Nat × Nat × Nat)} {e : Nat × Nat × Nat} {a : Nat} (h : a ≠ e.1) : lkT (e :: T) a = lkT T a := by show (if a = e.1 then e.2 else lkT T a) = _; rw [if_neg h]
theorem lk_2 {R : List (Nat × Nat × Nat)} {e : Nat × Nat × Nat} {a j : Nat} (h : a ≠ e.1) : lkR (e :: R) a j = lkR R a j := by show (if a = e.1 ∧ j = e.2.1 then some e.2.2 else lkR R a j) = _; rw [if_neg (fun z => h z.1)]
/-- the refusals -/
theorem xi_154 {d : Nat} {Q : qt} {h0 : hp} : ∀ (m i u : Nat) (T R : List (Nat × Nat × Nat)) (I : List (Nat × Nat × Int)) (h : hp), i + m = 17 → Bt h0 (85 + i) u T R I h → u + 20 * m ≤ 200000 → lkT T 68 = (0, 0) → lkT T 71 = (107, 17) → lkR R 68 11 = some 71 → (∀ g, Bt h0 102 (u + 20 * m) (exT m (85 + i) 2 T) (exR m 71 i (85 + i) R) (exI m (85 + i) i I) g → Wp (d + 3) C_X0_init Q 185 [vR (some 68), vI 0] [] g) → Wp (d + 3) C_X0_init Q 154 [vR (some 68), vI (i : Nat)] [] h := by
  intro m
  induction m with
  | zero =>
    intro i u T R I h hi B hu f68 f71 r11 k
    have e : i = 17 := by omega
    subst e
    have t68 : hT h 68 = (0, 0) := by rw [Bt_T B (by decide) (by decide)]; exact f68
    have r : hR h 68 11 = some 71 := by rw [(B.2.2.2.1 68 (by decide) (by decide)).2.2.2 rfl]; exact r11
    have t71 : hT h 71 = (107, 17) := by rw [Bt_T B (by decide) (by decide)]; exact f71
    refine tr_X0_init_154 ⟨by rw [t68]; decide, ?_⟩
    rw [r, ofR_some, t71]
    exact ⟨by decide, by decide, by decide, im (by decide) ⟨by decide, k h B⟩⟩
  | succ m ih =>
    intro i u T R I h hi B hu f68 f71 r11 k
    have t68 : hT h 68 = (0, 0) := by rw [Bt_T B (by decide) (by omega)]; exact f68
    have r : hR h 68 11 = some 71 := by rw [(B.2.2.2.1 68 (by decide) (by omega)).2.2.2 rfl]; exact r11
    have t71 : hT h 71 = (107, 17) := by rw [Bt_T B (by decide) (by omega)]; exact f71
    have hb : hU h + 7 + 13 ≤ BUD := by rw [B.2.1]; unfold BUD; omega
    have B1 : Bt h0 (85 + i + 1) (u + 7 + 13) ((85 + i, 2, 0) :: T) R I (hNew h 2 0 7) := Bt_new B
    have ex : exc (85 + i) = true := by unfold exc; simp; omega
    have l1 : lkT ((85 + i, 2, 0) :: T) (85 + i) = (2, 0) := by show (if 85 + i = 85 + i then (2, 0) else lkT T (85 + i)) = _; rw [if_pos rfl]
    have nN : hN h = 85 + i := B.1
    refine tr_X0_init_154 ⟨by rw [t68]; decide, ?_⟩
    rw [r, ofR_some, t71]
    refine ⟨by decide, by decide, by decide, ip (by show ((i : Nat) : Int) < ((17 : Nat) : Int); omega) ⟨by rw [t68]; decide, hb, rfl, rfl, ?_⟩⟩
    rw [ofR_some, nN]
    refine ⟨by rw [Bt_T B1 (by omega) (by omega), l1]; decide, Wc_of cs_X2_init rfl (tr_X2_init_0 ⟨rfl, ?_, c_thr B1 (by omega) (Or.inr (by rw [l1])) ex (fun g2 B2 => tr_X2_init_8 ?_)⟩)⟩
    · rw [Bt_T B1 (by omega) (by omega), l1]; decide
    · refine ⟨by rw [Bt_T B2 (by omega) (by omega), l1]; decide, ?_⟩
      have B3 := Bt_sI B2 (b := 85 + i) (k := 6) (x := ((i : Nat) : Int)) (by omega)
      have t71' : hT (sI g2 (85 + i) 6 ((i : Nat) : Int)) 71 = (107, 17) := by rw [Bt_T B3 (by decide) (by omega), lk_1 (by show 71 ≠ 85 + i; omega)]; exact f71
      have B4 := Bt_sR B3 (b := 71) (k := i) (x := 85 + i) (by omega)
      refine tr_X0_init_176 ?_
      rw [ofR_some, Int.toNat_natCast]
      refine ⟨⟨by rw [t71']; decide, by omega, by rw [t71']; show ((i : Nat) : Int) < ((17 : Nat) : Int); omega⟩, Or.inr ⟨_, rfl, by rw [Bt_T B3 (by omega) (by omega), l1]; decide⟩, by decide, ?_⟩
      rw [n1k (by omega)]
      refine ih (i + 1) (u + 20) ((85 + i, 2, 0) :: T) ((71, i, 85 + i) :: R) ((85 + i, 6, ((i : Nat) : Int)) :: I) _ (by omega) B4 (by omega) (by rw [lk_1 (by show 68 ≠ 85 + i; omega)]; exact f68) (by rw [lk_1 (by show 71 ≠ 85 + i; omega)]; exact f71) (by rw [lk_2 (by show 68 ≠ 71; decide)]; exact r11) (fun g B => k g ?_)
      rw [show u + 20 + 20 * m = u + 20 * (m + 1) by omega] at B
      exact B
theorem xi_185 {d : Nat} {Q : qt} {h0 : hp} : ∀ (m i u : Nat) (T R : List (Nat × Nat × Nat)) (I : List (Nat × Nat × Int)) (h : hp), i + m = 6 → Bt h0 (102 + i) u T R I h → u + 14 * m ≤ 200000 → lkT T 68 = (0, 0) → lkT T 75 = (109, 6) → lkR R 68 15 = some 75 → (∀ g, Bt h0 108 (u + 14 * m) (exT m (102 + i) 3 T) (exR m 75 i (102 + i) R) I g → Wp (d + 3) C_X0_init Q 212 [vR (some 68), vI 0] [] g) → Wp (d + 3) C_X0_init Q 185 [vR (some 68), vI (i : Nat)] [] h := by
  intro m
  induction m with
  | zero =>
    intro i u T R I h hi B hu f68 fa rf k
    have e : i = 6 := by omega
    subst e
    exact tr_X0_init_185 (im (by decide) ⟨by decide, k h B⟩)
  | succ m ih =>
    intro i u T R I h hi B hu f68 fa rf k
    have t68 : hT h 68 = (0, 0) := by rw [Bt_T B (by decide) (by omega)]; exact f68
    have r : hR h 68 15 = some 75 := by rw [(B.2.2.2.1 68 (by decide) (by omega)).2.2.2 rfl]; exact rf
    have hb : hU h + 1 + 13 ≤ BUD := by rw [B.2.1]; unfold BUD; omega
    have B1 : Bt h0 (102 + i + 1) (u + 1 + 13) ((102 + i, 3, 0) :: T) R I (hNew h 3 0 1) := Bt_new B
    have l1 : lkT ((102 + i, 3, 0) :: T) (102 + i) = (3, 0) := by show (if 102 + i = 102 + i then (3, 0) else lkT T (102 + i)) = _; rw [if_pos rfl]
    have nN : hN h = 102 + i := B.1
    refine tr_X0_init_185 (ip (by show ((i : Nat) : Int) < ((6 : Nat) : Int); omega) ⟨by rw [t68]; decide, hb, rfl, rfl, ?_⟩)
    rw [ofR_some, nN, r]
    refine ⟨by rw [Bt_T B1 (by omega) (by omega), l1]; decide, Wc_of cs_X3_init rfl (tr_X3_init_0 ⟨rfl, ?_⟩)⟩
    have ta : hT (hNew h 3 0 1) 75 = (109, 6) := by rw [Bt_T B1 (by decide) (by omega), lk_1 (by show 75 ≠ 102 + i; omega)]; exact fa
    have B4 := Bt_sR B1 (b := 75) (k := i) (x := 102 + i) (by omega)
    refine tr_X0_init_203 ?_
    rw [ofR_some, Int.toNat_natCast]
    refine ⟨⟨by rw [ta]; decide, by omega, by rw [ta]; show ((i : Nat) : Int) < ((6 : Nat) : Int); omega⟩, Or.inr ⟨_, rfl, by rw [Bt_T B1 (by omega) (by omega), l1]; decide⟩, by decide, ?_⟩
    rw [n1k (by omega)]
    refine ih (i + 1) (u + 14) ((102 + i, 3, 0) :: T) ((75, i, 102 + i) :: R) I _ (by omega) B4 (by omega) (by rw [lk_1 (by show 68 ≠ 102 + i; omega)]; exact f68) (by rw [lk_1 (by show 75 ≠ 102 + i; omega)]; exact fa) (by rw [lk_2 (by show 68 ≠ 75; decide)]; exact rf) (fun g B => k g ?_)
    rw [show u + 14 + 14 * m = u + 14 * (m + 1) by omega] at B
    exact B
theorem xi_212 {d : Nat} {Q : qt} {h0 : hp} : ∀ (m i u : Nat) (T R : List (Nat × Nat × Nat)) (I : List (Nat × Nat × Int)) (h : hp), i + m = 8 → Bt h0 (108 + i) u T R I h → u + 14 * m ≤ 200000 → lkT T 68 = (0, 0) → lkT T 78 = (109, 8) → lkR R 68 18 = some 78 → (∀ g, Bt h0 116 (u + 14 * m) (exT m (108 + i) 3 T) (exR m 78 i (108 + i) R) I g → Q (.inl none) g) → Wp (d + 3) C_X0_init Q 212 [vR (some 68), vI (i : Nat)] [] h := by
  intro m
  induction m with
  | zero =>
    intro i u T R I h hi B hu f68 fa rf k
    have e : i = 8 := by omega
    subst e
    exact tr_X0_init_212 (im (by decide) (k h B))
  | succ m ih =>
    intro i u T R I h hi B hu f68 fa rf k
    have t68 : hT h 68 = (0, 0) := by rw [Bt_T B (by decide) (by omega)]; exact f68
    have r : hR h 68 18 = some 78 := by rw [(B.2.2.2.1 68 (by decide) (by omega)).2.2.2 rfl]; exact rf
    have hb : hU h + 1 + 13 ≤ BUD := by rw [B.2.1]; unfold BUD; omega
    have B1 : Bt h0 (108 + i + 1) (u + 1 + 13) ((108 + i, 3, 0) :: T) R I (hNew h 3 0 1) := Bt_new B
    have l1 : lkT ((108 + i, 3, 0) :: T) (108 + i) = (3, 0) := by show (if 108 + i = 108 + i then (3, 0) else lkT T (108 + i)) = _; rw [if_pos rfl]
    have nN : hN h = 108 + i := B.1
    refine tr_X0_init_212 (ip (by show ((i : Nat) : Int) < ((8 : Nat) : Int); omega) ⟨by rw [t68]; decide, hb, rfl, rfl, ?_⟩)
    rw [ofR_some, nN, r]
    refine ⟨by rw [Bt_T B1 (by omega) (by omega), l1]; decide, Wc_of cs_X3_init rfl (tr_X3_init_0 ⟨rfl, ?_⟩)⟩
    have ta : hT (hNew h 3 0 1) 78 = (109, 8) := by rw [Bt_T B1 (by decide) (by omega), lk_1 (by show 78 ≠ 108 + i; omega)]; exact fa
    have B4 := Bt_sR B1 (b := 78) (k := i) (x := 108 + i) (by omega)
    refine tr_X0_init_230 ?_
    rw [ofR_some, Int.toNat_natCast]
    refine ⟨⟨by rw [ta]; decide, by omega, by rw [ta]; show ((i : Nat) : Int) < ((8 : Nat) : Int); omega⟩, Or.inr ⟨_, rfl, by rw [Bt_T B1 (by omega) (by omega), l1]; decide⟩, by decide, ?_⟩
    rw [n1k (by omega)]
    refine ih (i + 1) (u + 14) ((108 + i, 3, 0) :: T) ((78, i, 108 + i) :: R) I _ (by omega) B4 (by omega) (by rw [lk_1 (by show 68 ≠ 108 + i; omega)]; exact f68) (by rw [lk_1 (by show 78 ≠ 108 + i; omega)]; exact fa) (by rw [lk_2 (by show 68 ≠ 78; decide)]; exact rf) (fun g B => k g ?_)
    rw [show u + 14 + 14 * m = u + 14 * (m + 1) by omega] at B
    exact B
def Tx1 : List (Nat × Nat × Nat) := [(84, 102, 6000), (83, 102, 6000), (82, 102, 6000), (81, 104, 12), (80, 104, 12), (79, 104, 12), (78, 109, 8), (77, 104, 4), (76, 104, 120), (75, 109, 6), (74, 104, 26), (73, 100, 26), (72, 108, 10), (71, 107, 17), (70, 1, 0), (69, 102, 600), (68, 0, 0)]
def Rx1 : List (Nat × Nat × Nat) := [(68, 38, 84), (68, 34, 83), (68, 33, 82), (68, 27, 81), (68, 26, 80), (68, 25, 79), (68, 18, 78), (68, 17, 77), (68, 16, 76), (68, 15, 75), (68, 14, 74), (68, 13, 73), (68, 12, 72), (68, 11, 71), (68, 8, 70), (68, 0, 69)]
def Ix1 : List (Nat × Nat × Int) := [(68, 28, -1), (68, 19, -1)]
def Tx2 : List (Nat × Nat × Nat) := exT 8 108 3 (exT 6 102 3 (exT 17 85 2 Tx1))
def Rx2 : List (Nat × Nat × Nat) := exR 8 78 0 108 (exR 6 75 0 102 (exR 17 71 0 85 Rx1))
def Ix2 : List (Nat × Nat × Int) := exI 17 85 0 Ix1
theorem x_init {d : Nat} {Q : qt} {h0 h : hp} (B : Bt h0 69 53 [(68, 0, 0)] [] [] h) (k : ∀ g, Bt h0 116 19656 Tx2 Rx2 Ix2 g → Q (.inl none) g) : Wc (d + 4) 0 [vR (some 68)] h Q := by
  refine Wc_of cs_X0_init rfl (tr_X0_init_0 ⟨rfl, ?_⟩)
  refine tr_X0_init_4 (st_arr (o := 68) (k := 102) (n := 600) (j := 0) (kk := 0) (W := fun g => Wp (d + 3) C_X0_init Q 13 [vR (some 68), vU] [] g) B (by decide) rfl (by decide) (fun g4 B4 => ?_))
  have B13 := Bt_new B4 (k := 1) (n := 0) (c := 6)
  have n13 := B4.1
  refine tr_X0_init_13 ⟨by rw [B4.2.1]; decide, rfl, rfl, ?_⟩
  rw [ofR_some, n13]
  refine ⟨by rw [Bt_T B13 (by decide) (by decide)]; decide, Wc_of cs_X1_init rfl (tr_X1_init_0 ⟨rfl, by rw [Bt_T B13 (by decide) (by decide)]; decide, c_thr B13 (by decide) (Or.inl rfl) rfl (fun g14 B14 => ?_)⟩)⟩
  have B21 := Bt_sR B14 (b := 68) (k := 8) (x := 70) (by decide)
  refine tr_X0_init_21 ?_
  rw [ofR_some]
  refine ⟨by rw [Bt_T B14 (by decide) (by decide)]; decide, ?_⟩
  refine tr_X0_init_24 (st_arr (o := 68) (k := 107) (n := 17) (j := 11) (kk := 0) (W := fun g => Wp (d + 3) C_X0_init Q 33 [vR (some 68), vU] [] g) B21 (by decide) rfl (by decide) (fun g24 B24 => ?_))
  refine tr_X0_init_33 (st_arr (o := 68) (k := 108) (n := 10) (j := 12) (kk := 0) (W := fun g => Wp (d + 3) C_X0_init Q 42 [vR (some 68), vU] [] g) B24 (by decide) rfl (by decide) (fun g33 B33 => ?_))
  refine tr_X0_init_42 (st_arr (o := 68) (k := 100) (n := 26) (j := 13) (kk := 0) (W := fun g => Wp (d + 3) C_X0_init Q 50 [vR (some 68), vU] [] g) B33 (by decide) rfl (by decide) (fun g42 B42 => ?_))
  refine tr_X0_init_50 (st_arr (o := 68) (k := 104) (n := 26) (j := 14) (kk := 0) (W := fun g => Wp (d + 3) C_X0_init Q 58 [vR (some 68), vU] [] g) B42 (by decide) rfl (by decide) (fun g50 B50 => ?_))
  refine tr_X0_init_58 (st_arr (o := 68) (k := 109) (n := 6) (j := 15) (kk := 0) (W := fun g => Wp (d + 3) C_X0_init Q 67 [vR (some 68), vU] [] g) B50 (by decide) rfl (by decide) (fun g58 B58 => ?_))
  refine tr_X0_init_67 (st_arr (o := 68) (k := 104) (n := 120) (j := 16) (kk := 0) (W := fun g => Wp (d + 3) C_X0_init Q 75 [vR (some 68), vU] [] g) B58 (by decide) rfl (by decide) (fun g67 B67 => ?_))
  refine tr_X0_init_75 (st_arr (o := 68) (k := 104) (n := 4) (j := 17) (kk := 0) (W := fun g => Wp (d + 3) C_X0_init Q 82 [vR (some 68), vU] [] g) B67 (by decide) rfl (by decide) (fun g75 B75 => ?_))
  refine tr_X0_init_82 (st_arr (o := 68) (k := 109) (n := 8) (j := 18) (kk := 0) (W := fun g => Wp (d + 3) C_X0_init Q 91 [vR (some 68), vU] [] g) B75 (by decide) rfl (by decide) (fun g82 B82 => ?_))
  refine tr_X0_init_91 (st_int (o := 68) (j := 19) (x := -1) (kk := 0) (W := fun g => Wp (d + 3) C_X0_init Q 96 [vR (some 68), vU] [] g) B82 (by decide) rfl (fun g91 B91 => ?_))
  refine tr_X0_init_96 (st_arr (o := 68) (k := 104) (n := 12) (j := 25) (kk := 0) (W := fun g => Wp (d + 3) C_X0_init Q 104 [vR (some 68), vU] [] g) B91 (by decide) rfl (by decide) (fun g96 B96 => ?_))
  refine tr_X0_init_104 (st_arr (o := 68) (k := 104) (n := 12) (j := 26) (kk := 0) (W := fun g => Wp (d + 3) C_X0_init Q 112 [vR (some 68), vU] [] g) B96 (by decide) rfl (by decide) (fun g104 B104 => ?_))
  refine tr_X0_init_112 (st_arr (o := 68) (k := 104) (n := 12) (j := 27) (kk := 0) (W := fun g => Wp (d + 3) C_X0_init Q 120 [vR (some 68), vU] [] g) B104 (by decide) rfl (by decide) (fun g112 B112 => ?_))
  refine tr_X0_init_120 (st_int (o := 68) (j := 28) (x := -1) (kk := 0) (W := fun g => Wp (d + 3) C_X0_init Q 125 [vR (some 68), vU] [] g) B112 (by decide) rfl (fun g120 B120 => ?_))
  refine tr_X0_init_125 (st_arr (o := 68) (k := 102) (n := 6000) (j := 33) (kk := 0) (W := fun g => Wp (d + 3) C_X0_init Q 134 [vR (some 68), vU] [] g) B120 (by decide) rfl (by decide) (fun g125 B125 => ?_))
  refine tr_X0_init_134 (st_arr (o := 68) (k := 102) (n := 6000) (j := 34) (kk := 0) (W := fun g => Wp (d + 3) C_X0_init Q 143 [vR (some 68), vU] [] g) B125 (by decide) rfl (by decide) (fun g134 B134 => ?_))
  refine tr_X0_init_143 (st_arr (o := 68) (k := 102) (n := 6000) (j := 38) (kk := 0) (W := fun g => Wp (d + 3) C_X0_init Q 152 [vR (some 68), vU] [] g) B134 (by decide) rfl (by decide) (fun g143 B143 => ?_))
  have BX : Bt h0 85 19120 Tx1 Rx1 Ix1 g143 := B143
  refine tr_X0_init_152 ⟨by decide, ?_⟩
  refine xi_154 17 0 19120 Tx1 Rx1 Ix1 g143 rfl BX (by decide) (by decide) (by decide) (by decide) (fun g1 C1 => ?_)
  refine xi_185 6 0 _ _ _ _ g1 rfl C1 (by decide) (by decide) (by decide) (by decide) (fun g2 C2 => ?_)
  exact xi_212 8 0 _ _ _ _ g2 rfl C2 (by decide) (by decide) (by decide) (by decide) (fun g3 C3 => k g3 C3)
def Tm : List (Nat × Nat × Nat) := [(144, 105, 12), (143, 104, 12), (142, 104, 12), (141, 104, 16), (140, 104, 120), (139, 104, 4), (138, 105, 192), (137, 104, 16), (136, 104, 16), (135, 104, 14), (134, 104, 26), (133, 104, 400), (132, 104, 400), (131, 104, 400), (130, 104, 400), (129, 104, 400), (128, 104, 400), (127, 104, 400), (126, 104, 10), (125, 104, 16000), (124, 104, 16000), (123, 104, 10), (122, 100, 10), (121, 100, 10), (120, 104, 1600), (119, 104, 1600), (118, 102, 12000), (117, 102, 600)]
def Rm : List (Nat × Nat × Nat) := [(116, 65, 144), (116, 61, 143), (116, 60, 142), (116, 48, 141), (116, 43, 140), (116, 42, 139), (116, 41, 138), (116, 40, 137), (116, 39, 136), (116, 37, 135), (116, 36, 134), (116, 34, 133), (116, 33, 132), (116, 32, 131), (116, 31, 130), (116, 30, 129), (116, 29, 128), (116, 28, 127), (116, 27, 126), (116, 26, 125), (116, 25, 124), (116, 24, 123), (116, 23, 122), (116, 22, 121), (116, 10, 120), (116, 9, 119), (116, 2, 118), (116, 0, 117)]
def Im : List (Nat × Nat × Int) := [(116, 49, -1)]
theorem mi_248 {d : Nat} {Q : qt} {h0 : hp} {u : Nat} {T R : List (Nat × Nat × Nat)} (f16 : lkT T 116 = (4, 0)) (f35 : lkT T 135 = (104, 14)) (rf : lkR R 116 37 = some 135) : ∀ (m i : Nat) (I : List (Nat × Nat × Int)) (h : hp), i + m = 14 → Bt h0 145 u T R I h → (∀ g, Bt h0 145 u T R (exJ m i I) g → Q (.inl none) g) → Wp d C_X4_init Q 248 [vR (some 116), vI (i : Nat)] [] h := by
  intro m
  induction m with
  | zero =>
    intro i I h hi B k
    have e : i = 14 := by omega
    subst e
    exact tr_X4_init_248 (im (by decide) (k h B))
  | succ m ih =>
    intro i I h hi B k
    have t16 : hT h 116 = (4, 0) := by rw [Bt_T B (by decide) (by decide)]; exact f16
    have r : hR h 116 37 = some 135 := by rw [(B.2.2.2.1 116 (by decide) (by decide)).2.2.2 rfl]; exact rf
    have ta : hT h 135 = (104, 14) := by rw [Bt_T B (by decide) (by decide)]; exact f35
    refine tr_X4_init_248 (ip (by show ((i : Nat) : Int) < ((14 : Nat) : Int); omega) ⟨by rw [t16]; decide, ?_⟩)
    rw [r, ofR_some, Int.toNat_natCast]
    refine ⟨⟨by rw [ta]; decide, by omega, by rw [ta]; show ((i : Nat) : Int) < ((14 : Nat) : Int); omega⟩, by decide, ?_⟩
    rw [n1k (by omega)]
    exact ih (i + 1) ((135, i, -1) :: I) _ (by omega) (Bt_sI B (by decide)) k
def Tz : List (Nat × Nat × Nat) := Tm ++ (116, 4, 0) :: Tx2
def Rz : List (Nat × Nat × Nat) := Rm ++ Rx2
def Iz : List (Nat × Nat × Int) := exJ 14 0 (Im ++ Ix2)
theorem m_init {d : Nat} {Q : qt} {h0 h : hp} (B : Bt h0 117 19735 ((116, 4, 0) :: Tx2) Rx2 Ix2 h) (k : ∀ g, Bt h0 145 71179 Tz Rz Iz g → Q (.inl none) g) : Wc (d + 4) 174 [vR (some 116)] h Q := by
  refine Wc_of cs_X4_init rfl (tr_X4_init_0 ⟨rfl, ?_⟩)
  refine tr_X4_init_4 (st_arr (o := 116) (k := 102) (n := 600) (j := 0) (kk := 4) (W := fun g => Wp (d + 3) C_X4_init Q 13 [vR (some 116), vU] [] g) B (by decide) rfl (by decide) (fun g4 B4 => ?_))
  refine tr_X4_init_13 (st_arr (o := 116) (k := 102) (n := 12000) (j := 2) (kk := 4) (W := fun g => Wp (d + 3) C_X4_init Q 22 [vR (some 116), vU] [] g) B4 (by decide) rfl (by decide) (fun g13 B13 => ?_))
  refine tr_X4_init_22 (st_arr (o := 116) (k := 104) (n := 1600) (j := 9) (kk := 4) (W := fun g => Wp (d + 3) C_X4_init Q 31 [vR (some 116), vU] [] g) B13 (by decide) rfl (by decide) (fun g22 B22 => ?_))
  refine tr_X4_init_31 (st_arr (o := 116) (k := 104) (n := 1600) (j := 10) (kk := 4) (W := fun g => Wp (d + 3) C_X4_init Q 40 [vR (some 116), vU] [] g) B22 (by decide) rfl (by decide) (fun g31 B31 => ?_))
  refine tr_X4_init_40 (st_arr (o := 116) (k := 100) (n := 10) (j := 22) (kk := 4) (W := fun g => Wp (d + 3) C_X4_init Q 48 [vR (some 116), vU] [] g) B31 (by decide) rfl (by decide) (fun g40 B40 => ?_))
  refine tr_X4_init_48 (st_arr (o := 116) (k := 100) (n := 10) (j := 23) (kk := 4) (W := fun g => Wp (d + 3) C_X4_init Q 56 [vR (some 116), vU] [] g) B40 (by decide) rfl (by decide) (fun g48 B48 => ?_))
  refine tr_X4_init_56 (st_arr (o := 116) (k := 104) (n := 10) (j := 24) (kk := 4) (W := fun g => Wp (d + 3) C_X4_init Q 64 [vR (some 116), vU] [] g) B48 (by decide) rfl (by decide) (fun g56 B56 => ?_))
  refine tr_X4_init_64 (st_arr (o := 116) (k := 104) (n := 16000) (j := 25) (kk := 4) (W := fun g => Wp (d + 3) C_X4_init Q 73 [vR (some 116), vU] [] g) B56 (by decide) rfl (by decide) (fun g64 B64 => ?_))
  refine tr_X4_init_73 (st_arr (o := 116) (k := 104) (n := 16000) (j := 26) (kk := 4) (W := fun g => Wp (d + 3) C_X4_init Q 82 [vR (some 116), vU] [] g) B64 (by decide) rfl (by decide) (fun g73 B73 => ?_))
  refine tr_X4_init_82 (st_arr (o := 116) (k := 104) (n := 10) (j := 27) (kk := 4) (W := fun g => Wp (d + 3) C_X4_init Q 90 [vR (some 116), vU] [] g) B73 (by decide) rfl (by decide) (fun g82 B82 => ?_))
  refine tr_X4_init_90 (st_arr (o := 116) (k := 104) (n := 400) (j := 28) (kk := 4) (W := fun g => Wp (d + 3) C_X4_init Q 99 [vR (some 116), vU] [] g) B82 (by decide) rfl (by decide) (fun g90 B90 => ?_))
  refine tr_X4_init_99 (st_arr (o := 116) (k := 104) (n := 400) (j := 29) (kk := 4) (W := fun g => Wp (d + 3) C_X4_init Q 108 [vR (some 116), vU] [] g) B90 (by decide) rfl (by decide) (fun g99 B99 => ?_))
  refine tr_X4_init_108 (st_arr (o := 116) (k := 104) (n := 400) (j := 30) (kk := 4) (W := fun g => Wp (d + 3) C_X4_init Q 117 [vR (some 116), vU] [] g) B99 (by decide) rfl (by decide) (fun g108 B108 => ?_))
  refine tr_X4_init_117 (st_arr (o := 116) (k := 104) (n := 400) (j := 31) (kk := 4) (W := fun g => Wp (d + 3) C_X4_init Q 126 [vR (some 116), vU] [] g) B108 (by decide) rfl (by decide) (fun g117 B117 => ?_))
  refine tr_X4_init_126 (st_arr (o := 116) (k := 104) (n := 400) (j := 32) (kk := 4) (W := fun g => Wp (d + 3) C_X4_init Q 135 [vR (some 116), vU] [] g) B117 (by decide) rfl (by decide) (fun g126 B126 => ?_))
  refine tr_X4_init_135 (st_arr (o := 116) (k := 104) (n := 400) (j := 33) (kk := 4) (W := fun g => Wp (d + 3) C_X4_init Q 144 [vR (some 116), vU] [] g) B126 (by decide) rfl (by decide) (fun g135 B135 => ?_))
  refine tr_X4_init_144 (st_arr (o := 116) (k := 104) (n := 400) (j := 34) (kk := 4) (W := fun g => Wp (d + 3) C_X4_init Q 153 [vR (some 116), vU] [] g) B135 (by decide) rfl (by decide) (fun g144 B144 => ?_))
  refine tr_X4_init_153 (st_arr (o := 116) (k := 104) (n := 26) (j := 36) (kk := 4) (W := fun g => Wp (d + 3) C_X4_init Q 161 [vR (some 116), vU] [] g) B144 (by decide) rfl (by decide) (fun g153 B153 => ?_))
  refine tr_X4_init_161 (st_arr (o := 116) (k := 104) (n := 14) (j := 37) (kk := 4) (W := fun g => Wp (d + 3) C_X4_init Q 169 [vR (some 116), vU] [] g) B153 (by decide) rfl (by decide) (fun g161 B161 => ?_))
  refine tr_X4_init_169 (st_arr (o := 116) (k := 104) (n := 16) (j := 39) (kk := 4) (W := fun g => Wp (d + 3) C_X4_init Q 177 [vR (some 116), vU] [] g) B161 (by decide) rfl (by decide) (fun g169 B169 => ?_))
  refine tr_X4_init_177 (st_arr (o := 116) (k := 104) (n := 16) (j := 40) (kk := 4) (W := fun g => Wp (d + 3) C_X4_init Q 185 [vR (some 116), vU] [] g) B169 (by decide) rfl (by decide) (fun g177 B177 => ?_))
  refine tr_X4_init_185 (st_arr (o := 116) (k := 105) (n := 192) (j := 41) (kk := 4) (W := fun g => Wp (d + 3) C_X4_init Q 194 [vR (some 116), vU] [] g) B177 (by decide) rfl (by decide) (fun g185 B185 => ?_))
  refine tr_X4_init_194 (st_arr (o := 116) (k := 104) (n := 4) (j := 42) (kk := 4) (W := fun g => Wp (d + 3) C_X4_init Q 201 [vR (some 116), vU] [] g) B185 (by decide) rfl (by decide) (fun g194 B194 => ?_))
  refine tr_X4_init_201 (st_arr (o := 116) (k := 104) (n := 120) (j := 43) (kk := 4) (W := fun g => Wp (d + 3) C_X4_init Q 209 [vR (some 116), vU] [] g) B194 (by decide) rfl (by decide) (fun g201 B201 => ?_))
  refine tr_X4_init_209 (st_arr (o := 116) (k := 104) (n := 16) (j := 48) (kk := 4) (W := fun g => Wp (d + 3) C_X4_init Q 217 [vR (some 116), vU] [] g) B201 (by decide) rfl (by decide) (fun g209 B209 => ?_))
  refine tr_X4_init_217 (st_int (o := 116) (j := 49) (x := -1) (kk := 4) (W := fun g => Wp (d + 3) C_X4_init Q 222 [vR (some 116), vU] [] g) B209 (by decide) rfl (fun g217 B217 => ?_))
  refine tr_X4_init_222 (st_arr (o := 116) (k := 104) (n := 12) (j := 60) (kk := 4) (W := fun g => Wp (d + 3) C_X4_init Q 230 [vR (some 116), vU] [] g) B217 (by decide) rfl (by decide) (fun g222 B222 => ?_))
  refine tr_X4_init_230 (st_arr (o := 116) (k := 104) (n := 12) (j := 61) (kk := 4) (W := fun g => Wp (d + 3) C_X4_init Q 238 [vR (some 116), vU] [] g) B222 (by decide) rfl (by decide) (fun g230 B230 => ?_))
  refine tr_X4_init_238 (st_arr (o := 116) (k := 105) (n := 12) (j := 65) (kk := 4) (W := fun g => Wp (d + 3) C_X4_init Q 246 [vR (some 116), vU] [] g) B230 (by decide) rfl (by decide) (fun g238 B238 => ?_))
  refine tr_X4_init_246 ⟨by decide, ?_⟩
  exact mi_248 (T := Tz) (R := Rz) (by decide) (by decide) (by decide) 14 0 (Im ++ Ix2) _ rfl B238 k
