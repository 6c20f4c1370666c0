/-! ORDINARY ONES TURNED -/
def zno (e : zT) : zT := zB 61 e (zNum 0)
def zpl (n : Nat) (e : zT) : Bool := decide (zg e = 43 ∨ zg e = 45 ∨ zg e = 94) && (decide (zg (zl e) = 1) && (decide (zn (zl (zl e)) = n) && !zhas n (zr e)))
def zts (n : Nat) (e : zT) : List zT :=
  if zpl n e = true then [zB (130 + (if zg e = 43 then 0 else if zg e = 45 then 1 else 2)) (zNam n) (zr e)]
  else if zhas n e = false then [zB 102 (zL n) (zL 3), zB 130 (zNam n) e]
  else [zB 100 (zL 25) e, zB 133 (zNam n) (zNam 25), zB 102 (zL 25) (zL 3), zB 101 (zL 25) (zNum 0)]
def zwh (c : Nat) (e : zT) (S : List zT) : List zT := [zB 100 (zL c) (zNum 0), zB 111 (zno (zNam c)) (zB 117 (zL 0) (zB 118 (zol (S ++ [zB 130 (zNam c) (zNum 1)])) (zno e))), zB 102 (zL c) (zL 3), zB 101 (zL c) (zNum 0)]
def zwn (c : Nat) (e : zT) (A B : List zT) : List zT := [zB 100 (zL c) (zno e), zB 108 (zno (zNam c)) (zB 112 (zol A) (zB 113 (zol B) (zno (zNam c)))), zB 102 (zL c) (zL 3), zB 101 (zL c) (zNum 0)]
def ztt : zT → Nat → List zT × List zT
  | .leaf _, _ => ([], [])
  | .branch k l r, w =>
    if k = 150 then ((ztt l w).1 ++ (ztt r w).1, [])
    else if k = 114 then (zts (zn l) r, [])
    else if k = 115 then (zwh (24 - w) l (ztt r (w + 1)).1, [])
    else if k = 116 then (zwn (24 - w) l (ztt r (w + 1)).1 (ztt r (w + 1)).2, [])
    else if k = 119 then ((ztt l w).1, (ztt r w).1)
    else ([], [])
theorem ztt_150 (s t : zT) (w : Nat) : (ztt (zB 150 s t) w).1 = (ztt s w).1 ++ (ztt t w).1 := rfl
theorem ztt_114 (l r : zT) (w : Nat) : (ztt (zB 114 l r) w).1 = zts (zn l) r := rfl
theorem ztt_115 (l r : zT) (w : Nat) : (ztt (zB 115 l r) w).1 = zwh (24 - w) l (ztt r (w + 1)).1 := rfl
theorem ztt_116 (e a b : zT) (w : Nat) : (ztt (zB 116 e (zB 119 a b)) w).1 = zwn (24 - w) e (ztt a (w + 1)).1 (ztt b (w + 1)).1 := rfl
/-! what turned steps are -/
def Nb (t : zT) : Prop := ∀ c, 20 ≤ c → c < 26 → (zbits t).testBit c = false
theorem or_f {a b : Bool} (h : (a || b) = false) : a = false ∧ b = false := by cases a <;> cases b <;> simp_all
theorem Nb_150 {s t : zT} (h : Nb (zB 150 s t)) : Nb s ∧ Nb t := by
  have e : ∀ c, 20 ≤ c → c < 26 → (zbits s).testBit c = false ∧ (zbits t).testBit c = false := fun c c1 c2 => or_f (by have := h c c1 c2; rwa [show zbits (zB 150 s t) = zbits s ||| zbits t from rfl, Nat.testBit_or] at this)
  exact ⟨fun c c1 c2 => (e c c1 c2).1, fun c c1 c2 => (e c c1 c2).2⟩
theorem Nb_e {e : zT} {lv : Nat} (o : zok e lv) (h : Nb e) {c : Nat} (c1 : 20 ≤ c) (c2 : c < 26) : zhas c e = false := (zbits_has e lv c o c2).symm.trans (h c c1 c2)
theorem Nb_wh {e s : zT} (h : Nb (zB 115 e s)) : Nb e ∧ Nb s := by
  have e : ∀ c, 20 ≤ c → c < 26 → (zbits e).testBit c = false ∧ (zbits s).testBit c = false := fun c c1 c2 => or_f (by have := h c c1 c2; rwa [show zbits (zB 115 e s) = zbits e ||| zbits s from rfl, Nat.testBit_or] at this)
  exact ⟨fun c c1 c2 => (e c c1 c2).1, fun c c1 c2 => (e c c1 c2).2⟩
theorem Nb_wn {e s t : zT} (h : Nb (zB 116 e (zB 119 s t))) : Nb e ∧ Nb s ∧ Nb t := by
  have e : ∀ c, 20 ≤ c → c < 26 → (zbits e).testBit c = false ∧ (zbits s).testBit c = false ∧ (zbits t).testBit c = false := fun c c1 c2 => by
    have := h c c1 c2
    rw [show zbits (zB 116 e (zB 119 s t)) = zbits e ||| (zbits s ||| zbits t) from rfl, Nat.testBit_or, Nat.testBit_or] at this
    exact ⟨(or_f this).1, or_f (or_f this).2⟩
  exact ⟨fun c c1 c2 => (e c c1 c2).1, fun c c1 c2 => (e c c1 c2).2.1, fun c c1 c2 => (e c c1 c2).2.2⟩
theorem Nb_st {x : Nat} {e : zT} (h : Nb (zB 114 (zL x) e)) : ¬ (20 ≤ x ∧ x < 26) ∧ Nb e := by
  have e : ∀ c, 20 ≤ c → c < 26 → (2 ^ x).testBit c = false ∧ (zbits e).testBit c = false := fun c c1 c2 => or_f (by have := h c c1 c2; rwa [show zbits (zB 114 (zL x) e) = 2 ^ x ||| zbits e from rfl, Nat.testBit_or] at this)
  refine ⟨fun z => ?_, fun c c1 c2 => (e c c1 c2).2⟩
  have := (e x z.1 z.2).1
  rw [Nat.testBit_two_pow_self] at this
  cases this
theorem okE_num {v : Nat} (h : v < 1000000000) : okE (zNum v) := ⟨h, by show 0 ≤ 9; omega, rfl, rfl⟩
theorem okE_nam {v : Nat} (h : v < 26) : okE (zNam v) := ⟨h, by show 0 ≤ 9; omega, rfl, rfl⟩
theorem okE_no {e : zT} (o : okE e) (d : zdp e ≤ 8) : okE (zno e) := ⟨⟨o.1, show 0 < 1000000000 by decide⟩, by show max (zdp e) 0 + 1 ≤ 9; omega, o.2.2, rfl, rfl⟩
theorem zhas_no (c : Nat) (e : zT) : zhas c (zno e) = zhas c e := by show (zhas c e || false) = _; rw [Bool.or_false]
theorem k_let {c : Nat} {e : zT} (hc : c < 26) (o : okE e) (n : zhas c e = false) {k : Nat} (hk : k = 100 ∨ k = 101) : ok1 k (zL c) e := Or.inl ⟨by omega, ⟨c, rfl, hc⟩, o, fun _ => n⟩
theorem k_push {c : Nat} (hc : c < 26) : ok1 102 (zL c) (zL 3) := Or.inr (Or.inl ⟨by omega, ⟨c, rfl, hc⟩, ⟨3, rfl, by decide⟩⟩)
theorem okP_n {c : Nat} (hc : c < 26) : okP (zNam c) := Or.inl ⟨c, rfl, hc⟩
theorem k_chg {c k : Nat} {e : zT} (hc : c < 26) (hk : 130 ≤ k ∧ k ≤ 132) (o : okE e) (n : zhas c e = false) : ok1 k (zNam c) e := Or.inr (Or.inr (Or.inr (Or.inr (Or.inr ⟨by omega, okP_n hc, o, by show (true && zhas c e) = false; rw [n]; rfl⟩))))
theorem k_swap {c b : Nat} (hc : c < 26) (hb : b < 26) : ok1 133 (zNam c) (zNam b) := Or.inr (Or.inr (Or.inr (Or.inr (Or.inl ⟨rfl, okP_n hc, okP_n hb⟩))))
/-- a good list of steps that can be taken back, of at most b braces -/
def TL (b : Nat) (S : List zT) : Prop := Al (fun s => okS s 1 ∧ zun false s ∧ zbr s ≤ b) S
theorem TL_1 {k : Nat} {l r : zT} {b : Nat} (o : ok1 k l r) (h : k ≠ 114) : okS (zB k l r) 1 ∧ zun false (zB k l r) ∧ zbr (zB k l r) ≤ b := by
  obtain ⟨o1, o2, o3⟩ := ok1_S o
  refine ⟨o1, ?_, by omega⟩
  have hk := ok1_k o
  show zun false (.branch k l r)
  unfold zun
  rw [if_neg (by omega), if_neg (by omega), if_neg (by omega), if_neg (by omega), if_neg h]
theorem TL_zol : ∀ {S : List zT} {b : Nat}, TL b S → okS (zol S) 0 ∧ zun false (zol S) ∧ zbr (zol S) ≤ b ∧ zc (zol S) = zcs S := by
  intro S
  induction S with
  | nil => intro b _; exact ⟨rfl, trivial, Nat.zero_le _, rfl⟩
  | cons s S ih =>
    intro b a
    obtain ⟨i1, i2, i3, i4⟩ := ih a.2
    obtain ⟨a1, a2, a3⟩ := a.1
    refine ⟨⟨rfl, a1, i1⟩, ⟨a2, i2⟩, ?_, ?_⟩
    · show max (zbr s) (zbr (zol S)) ≤ b; omega
    · show zc s + zc (zol S) = zc s + zcs S; omega
theorem TL_mono {S : List zT} {b c : Nat} (h : b ≤ c) (a : TL b S) : TL c S := Al_mp (fun s z => ⟨z.1, z.2.1, by have := z.2.2; omega⟩) a
theorem TL_app {A B : List zT} {b : Nat} (h1 : TL b A) (h2 : TL b B) : TL b (A ++ B) := Al_app.2 ⟨h1, h2⟩
theorem zpl_t {n : Nat} {e : zT} (o : okE e) (h : zpl n e = true) : ∃ k l r, e = zB k l r ∧ (k = 43 ∨ k = 45 ∨ k = 94) ∧ zk e = (1, n) :: (7, k) :: zk r ∧ zhas n r = false ∧ okE r := by
  unfold zpl at h
  simp only [Bool.and_eq_true, decide_eq_true_eq, Bool.not_eq_true'] at h
  obtain ⟨h1, h2, h3, h4⟩ := h
  obtain ⟨o1, o2, o3⟩ := o
  cases e with
  | leaf v => exact o1.elim
  | branch k l r =>
    have h1' : k = 43 ∨ k = 45 ∨ k = 94 := h1
    have h2' : zg l = 1 := h2
    have h3' : zn (zl l) = n := h3
    have kl : zk l = [(1, n)] := by
      cases l with
      | leaf v => cases h2'
      | branch k1 a b =>
        have e1 : k1 = 1 := h2'
        subst e1
        subst h3'
        rfl
    have zz : zok r 1 ∧ zdp r ≤ zdp (.branch k l r) ∧ zlf r := by
      rcases h1' with y | y | y <;> subst y <;> exact ⟨o1.2.2, Nat.le_max_right _ _, o3.2⟩
    refine ⟨k, l, r, rfl, h1', ?_, h4, zok_mono (Nat.zero_le _) zz.1, by have := zz.2.1; omega, zz.2.2⟩
    have e2 : zk (.branch k l r) = zk l ++ (7, k) :: zk r := by rcases h1' with y | y | y <;> subst y <;> rfl
    rw [e2, kl]
    rfl
theorem zks_c (s : zT) (S : List zT) : zks (s :: S) = zk s ++ zks S := rfl
theorem zcs_c (s : zT) (S : List zT) : zcs (s :: S) = zc s + zcs S := rfl
theorem zcs_0 : zcs [] = 0 := rfl
theorem zks_0 : zks [] = [] := rfl
theorem zW_0 : zW [] = 0 := rfl
theorem zk_let {k : Nat} (hk : k = 100 ∨ k = 101 ∨ k = 114) (c : Nat) (e : zT) : zk (zB k (zL c) e) = (5, k - 100) :: (1, c) :: (7, 61) :: (zk e ++ [(7, 59)]) := by rcases hk with y | y | y <;> subst y <;> rfl
theorem zk_push (c : Nat) : zk (zB 102 (zL c) (zL 3)) = [(5, 2), (1, c), (4, 3), (7, 59)] := rfl
theorem zk_swap (c b : Nat) : zk (zB 133 (zNam c) (zNam b)) = [(1, c), (6, 3), (1, b), (7, 59)] := rfl
theorem zk_cg {k : Nat} (hk : k = 130 ∨ k = 131 ∨ k = 132) (c : Nat) (e : zT) : zk (zB k (zNam c) e) = (1, c) :: (6, k - 130) :: (zk e ++ [(7, 59)]) := by rcases hk with y | y | y <;> subst y <;> rfl
theorem tk_num (v : Nat) : zk (zNum v) = [(2, v)] := rfl
theorem tk_nam (v : Nat) : zk (zNam v) = [(1, v)] := rfl
theorem zk_no (e : zT) : zk (zno e) = (7, 40) :: (zk e ++ [(7, 61), (2, 0), (7, 41)]) := by
  show (7, 40) :: (zk e ++ (7, 61) :: ([(2, 0)] ++ [(7, 41)])) = _
  rfl
theorem tw5 (a : Nat) : zpw (5, a) = 7 := rfl
theorem tw1 (a : Nat) : zpw (1, a) = 2 := rfl
theorem tw4 (a : Nat) : zpw (4, a) = 2 := rfl
theorem tw7 (a : Nat) : zpw (7, a) = 2 := rfl
theorem w20 : zpw (2, 0) = 2 := by decide
theorem w21 : zpw (2, 1) = 2 := by decide
theorem zc_k {k : Nat} {l r : zT} (o : ok1 k l r) : zc (zB k l r) = 1 := (ok1_S o).2.1
def TW (t : zT) (S : List zT) : Prop := (zks S).length ≤ (zk t).length + 5 * zcs S ∧ zW (zks S) ≤ zW (zk t) + 25 * zcs S
theorem ts_ok {n : Nat} {e : zT} (hn : n < 20) (o : okE e) (nb : Nb e) (b : Nat) : TL b (zts n e) ∧ TW (zB 114 (zL n) e) (zts n e) := by
  have h25 : zhas 25 e = false := Nb_e o.1 nb (by decide) (by decide)
  have l1 : zk (zB 114 (zL n) e) = (5, 114 - 100) :: (1, n) :: (7, 61) :: (zk e ++ [(7, 59)]) := zk_let (by omega) n e
  unfold TW zts
  rw [l1]
  split
  · rename_i hp
    obtain ⟨k, l, r, ee, hk, ek, nr, or⟩ := zpl_t o hp
    have ok : ok1 (130 + (if zg e = 43 then 0 else if zg e = 45 then 1 else 2)) (zNam n) (zr e) := by
      subst ee
      exact k_chg (by omega) (by split <;> (try split) <;> omega) or nr
    have er : zr e = r := by rw [ee]; rfl
    have hk3 : 130 + (if zg e = 43 then 0 else if zg e = 45 then 1 else 2) = 130 ∨ 130 + (if zg e = 43 then 0 else if zg e = 45 then 1 else 2) = 131 ∨ 130 + (if zg e = 43 then 0 else if zg e = 45 then 1 else 2) = 132 := by split <;> (try split) <;> omega
    refine ⟨⟨TL_1 ok (by omega), trivial⟩, ?_⟩
    rw [zcs_c, zc_k ok, zcs_0, zks_c, zks_0, zk_cg hk3, er, ek]
    simp only [List.length_append, List.length_cons, List.length_nil, zW_c, zW_app, zW_0, tw5, tw1, tw7, zpw_6 (show 130 + (if zg e = 43 then 0 else if zg e = 45 then 1 else 2) - 130 < 6 by omega)]
    omega
  · split
    · rename_i h0
      have o1 := k_push (c := n) (by omega)
      have o2 : ok1 130 (zNam n) e := k_chg (by omega) (by omega) o h0
      refine ⟨⟨TL_1 o1 (by decide), TL_1 o2 (by decide), trivial⟩, ?_⟩
      rw [zcs_c, zc_k o1, zcs_c, zc_k o2, zcs_0, zks_c, zks_c, zks_0, zk_push, zk_cg (Or.inl rfl)]
      simp only [List.length_append, List.length_cons, List.length_nil, zW_c, zW_app, zW_0, tw5, tw1, tw7, tw4, zpw_6 (show 130 - 130 < 6 by omega)]
      omega
    · have o1 : ok1 100 (zL 25) e := k_let (by decide) o h25 (Or.inl rfl)
      have o2 : ok1 133 (zNam n) (zNam 25) := k_swap (by omega) (by decide)
      have o3 := k_push (c := 25) (by decide)
      have o4 : ok1 101 (zL 25) (zNum 0) := k_let (by decide) (okE_num (by decide)) rfl (Or.inr rfl)
      refine ⟨⟨TL_1 o1 (by decide), TL_1 o2 (by decide), TL_1 o3 (by decide), TL_1 o4 (by decide), trivial⟩, ?_⟩
      rw [zcs_c, zc_k o1, zcs_c, zc_k o2, zcs_c, zc_k o3, zcs_c, zc_k o4, zcs_0, zks_c, zks_c, zks_c, zks_c, zks_0, zk_push, zk_swap, zk_let (Or.inl rfl), zk_let (Or.inr (Or.inl rfl)), tk_num]
      simp only [List.length_append, List.length_cons, List.length_nil, zW_c, zW_app, zW_0, tw5, tw1, tw7, tw4, w20, zpw_6 (show 3 < 6 by omega)]
      omega
theorem twh_ok {c b : Nat} {e s : zT} {S : List zT} (hc : c < 26) (o : okE e) (d8 : zdp e ≤ 8) (hS : TL b S) (hW : TW s S) : TL (1 + b) (zwh c e S) ∧ TW (zB 115 e s) (zwh c e S) ∧ zcs (zwh c e S) = 7 + zcs S := by
  have o1 : ok1 100 (zL c) (zNum 0) := k_let hc (okE_num (by decide)) rfl (Or.inl rfl)
  have o2 : ok1 130 (zNam c) (zNum 1) := k_chg hc (by omega) (okE_num (by decide)) rfl
  have o3 := k_push hc
  have o4 : ok1 101 (zL c) (zNum 0) := k_let hc (okE_num (by decide)) rfl (Or.inr rfl)
  have hS2 : TL b (S ++ [zB 130 (zNam c) (zNum 1)]) := TL_app hS ⟨TL_1 o2 (by decide), trivial⟩
  obtain ⟨z1, z2, z3, z4⟩ := TL_zol hS2
  have z5 : zcs (S ++ [zB 130 (zNam c) (zNum 1)]) = zcs S + 1 := by rw [zcs_app, zcs_c, zc_k o2, zcs_0]
  have ef : zc (zB 111 (zno (zNam c)) (zB 117 (zL 0) (zB 118 (zol (S ++ [zB 130 (zNam c) (zNum 1)])) (zno e)))) = 3 + (0 + zc (zol (S ++ [zB 130 (zNam c) (zNum 1)]))) := rfl
  have ec : zcs (zwh c e S) = 7 + zcs S := by
    unfold zwh
    rw [zcs_c, zc_k o1, zcs_c, ef, zcs_c, zc_k o3, zcs_c, zc_k o4, zcs_0, z4, z5]
    omega
  refine ⟨⟨TL_1 o1 (by decide), ⟨⟨okE_no (okE_nam hc) (by show 0 ≤ 8; omega), rfl, rfl, rfl, z1, okE_no o d8⟩, ⟨rfl, trivial, z2⟩, ?_⟩, TL_1 o3 (by decide), TL_1 o4 (by decide), trivial⟩, ?_, ec⟩
  · show 1 + max 0 (zbr (zol (S ++ [zB 130 (zNam c) (zNum 1)]))) ≤ 1 + b; omega
  · obtain ⟨h1, h2⟩ := hW
    unfold TW
    rw [ec]
    unfold zwh
    rw [zks_c, zks_c, zks_c, zks_c, zks_0, zk_fk (Or.inr ⟨rfl, rfl, rfl⟩), zk_wh, zk_push, zk_let (Or.inl rfl), zk_let (Or.inr (Or.inl rfl)), tk_num, zk_zol, zks_app, zks_c, zks_0, zk_cg (Or.inl rfl), zk_no, zk_no, tk_nam, tk_num, show zk (zL 0) = [] from rfl]
    simp only [List.length_append, List.length_cons, List.length_nil, zW_c, zW_app, zW_0, tw5, tw1, tw7, tw4, w20, w21, zpw_6 (show 130 - 130 < 6 by omega)]
    omega
theorem twn_ok {c b1 b2 : Nat} {e s t : zT} {A B : List zT} (hc : c < 26) (o : okE e) (d8 : zdp e ≤ 8) (nh : zhas c e = false) (hA : TL b1 A) (hB : TL b2 B) (wA : TW s A) (wB : TW t B) : TL (1 + max b1 b2) (zwn c e A B) ∧ TW (zB 116 e (zB 119 s t)) (zwn c e A B) ∧ zcs (zwn c e A B) = 6 + (zcs A + zcs B) := by
  have o1 : ok1 100 (zL c) (zno e) := k_let hc (okE_no o d8) (by rw [zhas_no]; exact nh) (Or.inl rfl)
  have o3 := k_push hc
  have o4 : ok1 101 (zL c) (zNum 0) := k_let hc (okE_num (by decide)) rfl (Or.inr rfl)
  obtain ⟨x1, x2, x3, x4⟩ := TL_zol hA
  obtain ⟨y1, y2, y3, y4⟩ := TL_zol hB
  have oc := okE_no (okE_nam hc) (by show 0 ≤ 8; omega)
  have ef : zc (zB 108 (zno (zNam c)) (zB 112 (zol A) (zB 113 (zol B) (zno (zNam c))))) = 3 + (zc (zol A) + zc (zol B)) := rfl
  have ec : zcs (zwn c e A B) = 6 + (zcs A + zcs B) := by
    unfold zwn
    rw [zcs_c, zc_k o1, zcs_c, ef, zcs_c, zc_k o3, zcs_c, zc_k o4, zcs_0, x4, y4]
    omega
  refine ⟨⟨TL_1 o1 (by decide), ⟨⟨oc, rfl, x1, rfl, y1, oc⟩, ⟨rfl, x2, y2⟩, ?_⟩, TL_1 o3 (by decide), TL_1 o4 (by decide), trivial⟩, ?_, ec⟩
  · show 1 + max (zbr (zol A)) (zbr (zol B)) ≤ 1 + max b1 b2; omega
  · obtain ⟨h1, h2⟩ := wA
    obtain ⟨h3, h4⟩ := wB
    unfold TW
    rw [ec]
    unfold zwn
    rw [zks_c, zks_c, zks_c, zks_c, zks_0, zk_fk (Or.inl ⟨rfl, rfl, rfl⟩), zk_wn, zk_push, zk_let (Or.inl rfl), zk_let (Or.inr (Or.inl rfl)), tk_num, zk_zol, zk_zol, zk_no, zk_no, tk_nam]
    simp only [List.length_append, List.length_cons, List.length_nil, zW_c, zW_app, zW_0, tw5, tw1, tw7, tw4, w20]
    omega
/-- what turned steps are, all -/
def TT (t : zT) : Prop := ∀ w, w + zbr t ≤ 5 → Nb t → zun true t → zt8 t → TL (zbr t) (ztt t w).1 ∧ TW t (ztt t w).1
theorem tt_all : ∀ t : zT, (okS t 0 → TT t) ∧ (okS t 1 → TT t) := by
  have H := ok_ind (P0 := TT) (P1 := TT)
    (fun v w _ _ _ _ => ⟨trivial, by show 0 ≤ 0 + 5 * 0; omega, by show 0 ≤ 0 + 25 * 0; omega⟩)
    (fun s t _ _ a b w hw nb un t8 => by
      have hw' : w + max (zbr s) (zbr t) ≤ 5 := hw
      obtain ⟨n1, n2⟩ := Nb_150 nb
      obtain ⟨a1, a2, a3⟩ := a w (by omega) n1 (zun_150 un).1 t8.1
      obtain ⟨b1, b2, b3⟩ := b w (by omega) n2 (zun_150 un).2 t8.2
      rw [ztt_150]
      refine ⟨TL_app (TL_mono (show zbr s ≤ max (zbr s) (zbr t) by omega) a1) (TL_mono (show zbr t ≤ max (zbr s) (zbr t) by omega) b1), ?_, ?_⟩
      · rw [zks_app, zcs_app, List.length_append, zk_150, List.length_append]; omega
      · rw [zks_app, zcs_app, zW_app, zk_150, zW_app]; omega)
    (fun e s t e2 _ _ _ _ _ _ w _ _ un _ => absurd (zun_fk (Or.inl ⟨rfl, rfl, rfl⟩) un).1 (by decide))
    (fun e s t e2 _ _ _ _ _ _ w _ _ un _ => absurd (zun_fk (Or.inr ⟨rfl, rfl, rfl⟩) un).1 (by decide))
    (fun e s oe _ a w hw nb un t8 => by
      have hw' : w + (1 + zbr s) ≤ 5 := hw
      obtain ⟨n1, n2⟩ := Nb_wh nb
      have t8' : zdp e ≤ 8 ∧ zt8 s := t8
      obtain ⟨a1, a2⟩ := a (w + 1) (by omega) n2 (zun_wh un).2 t8'.2
      obtain ⟨r1, r2, -⟩ := twh_ok (c := 24 - w) (b := zbr s) (by omega) oe t8'.1 a1 a2
      exact ⟨r1, r2⟩)
    (fun e s t oe _ _ a b w hw nb un t8 => by
      have hw' : w + (1 + max (zbr s) (zbr t)) ≤ 5 := hw
      obtain ⟨n1, n2, n3⟩ := Nb_wn nb
      have t8' : zdp e ≤ 8 ∧ (zt8 s ∧ zt8 t) := t8
      have un' : true = true ∧ (zun true s ∧ zun true t) := un
      obtain ⟨a1, a2⟩ := a (w + 1) (by omega) n2 un'.2.1 t8'.2.1
      obtain ⟨b1, b2⟩ := b (w + 1) (by omega) n3 un'.2.2 t8'.2.2
      obtain ⟨r1, r2, -⟩ := twn_ok (c := 24 - w) (b1 := zbr s) (b2 := zbr t) (by omega) oe t8'.1 (Nb_e oe.1 n1 (by omega) (by omega)) a1 b1 a2 b2
      exact ⟨r1, r2⟩)
    (fun k l r o w hw nb un t8 => by
      have e := zun_1 o un
      have hk := ok1_k o
      have k4 : k = 114 := of_decide_eq_true e.symm
      subst k4
      rcases o with ⟨q, ⟨x, el, hx⟩, oe, -⟩ | ⟨q, -⟩ | ⟨q, -⟩ | ⟨q, -⟩ | ⟨q, -⟩ | ⟨q, -⟩
      · subst el
        obtain ⟨n1, n2⟩ := Nb_st nb
        exact ts_ok (n := x) (by omega) oe n2 _
      all_goals omega)
  exact fun t => ⟨(H t).1, (H t).2.1⟩
theorem ptk_pos {x : Nat × Nat} (h : okt x) : 0 < (ptk x).length := by
  obtain ⟨c, u, e, -⟩ := ptk_f h
  rw [e]; exact Nat.succ_pos _
theorem zpw_2 {x : Nat × Nat} (h : okt x) : 2 ≤ zpw x := by
  have e := h
  unfold zpw
  by_cases q : x.1 = 5
  · rw [if_pos q]; decide
  · rw [if_neg q]
    have : 0 < (ptk x).length := ptk_pos h
    omega
theorem zW_2 : ∀ (A : List (Nat × Nat)), oka A → 2 * A.length ≤ zW A := by
  intro A
  induction A with
  | nil => intro _; exact Nat.le_refl _
  | cons x A ih =>
    intro h
    have h1 := zpw_2 (h x (List.mem_cons_self ..))
    have h2 := ih (fun y hy => h y (List.mem_cons_of_mem _ hy))
    rw [zW_c, List.length_cons]
    omega
def ztu (t : zT) : zT := zol (ztt t 0).1
/-- a turned routine is a good one -/
theorem Gt_tu {t : zT} (g : Gt t) (ho : zord t = true) (nb : Nb t) (h40 : zc (ztu t) ≤ 40) : Gt (ztu t) ∧ zord (ztu t) = false := by
  obtain ⟨ok, un, c40, b5, l, w, t8⟩ := g
  rw [ho] at un w
  obtain ⟨a1, a2, a3⟩ := (tt_all t).1 ok 0 (by omega) nb un t8
  obtain ⟨z1, z2, z3, z4⟩ := TL_zol a1
  have zo := zord_f z1 z2
  have w2 := zW_2 (zk t) ((zk_ok t).1 ok)
  have w' : zW (zk t) ≤ 2400 := w
  have h40' : zcs (ztt t 0).1 ≤ 40 := by rw [← z4]; exact h40
  refine ⟨⟨z1, by rw [show zord (ztu t) = false from zo]; exact z2, h40, by unfold ztu; omega, ?_, ?_, (t8_f _).1 z1 z2⟩, zo⟩
  · unfold ztu; rw [zk_zol]; omega
  · rw [show zord (ztu t) = false from zo]
    unfold ztu
    rw [zk_zol]
    show _ ≤ 6000
    omega
