/-! MIRRORS -/
def zmk (k : Nat) : Nat := if k < 108 then (if k % 2 = 0 then k + 1 else k - 1) else if k = 130 then 131 else if k = 131 then 130 else if k = 134 then 135 else if k = 135 then 134 else k
def zse (r e : zT) : zT := zB (zg r) (zl r) (zB (zg (zr r)) (zl (zr r)) e)
def zmi : zT → zT
  | .leaf _ => zL 0
  | .branch k l r =>
    if k = 150 then zap (zmi r) (zcons (zmi l) (zL 0))
    else if k = 112 ∨ k = 117 then zB k (zmi l) (zmi r)
    else if k = 113 ∨ k = 118 then zB k (zmi l) r
    else if k = 108 ∨ k = 111 then zB k (zr (zr r)) (zse (zmi r) l)
    else zB (zmk k) l r
theorem zmi_150 (s t : zT) : zmi (zB 150 s t) = zap (zmi t) (zcons (zmi s) (zL 0)) := rfl
theorem zmi_fk {k k2 k3 : Nat} {e s t e2 : zT} (hk : (k = 108 ∧ k2 = 112 ∧ k3 = 113) ∨ (k = 111 ∧ k2 = 117 ∧ k3 = 118)) : zmi (zB k e (zB k2 s (zB k3 t e2))) = zB k e2 (zB k2 (zmi s) (zB k3 (zmi t) e)) := by
  rcases hk with ⟨a, b, c⟩ | ⟨a, b, c⟩ <;> subst a b c <;> rfl
theorem zmi_1 {k : Nat} {l r : zT} (h : ok1 k l r) : zmi (zB k l r) = zB (zmk k) l r := by
  have hk := ok1_k h
  unfold zmi
  rw [if_neg (by omega), if_neg (by omega), if_neg (by omega), if_neg (by omega)]
theorem zmi_wh (e s : zT) : zmi (zB 115 e s) = zB 115 e s := rfl
theorem zmi_wn (e s t : zT) : zmi (zB 116 e (zB 119 s t)) = zB 116 e (zB 119 s t) := rfl
theorem zol_app (A : List zT) (s : zT) : zol (A ++ [s]) = zap (zol A) (zcons s (zL 0)) := by
  induction A with
  | nil => rfl
  | cons u A ih => show zB 150 u (zol (A ++ [s])) = zB 150 u (zap (zol A) (zcons s (zL 0))); rw [ih]
theorem zmi_zol : ∀ {t : zT}, okS t 0 → zmi t = zol ((zls t).reverse.map zmi) := by
  intro t
  induction t with
  | leaf n => intro _; rfl
  | branch k s t _ ih =>
    intro o
    unfold okS at o
    rw [if_pos rfl] at o
    obtain ⟨ek, -, o2⟩ := o
    subst ek
    show zap (zmi t) (zcons (zmi s) (zL 0)) = zol ((s :: zls t).reverse.map zmi)
    rw [List.reverse_cons, List.map_append, show List.map zmi [s] = [zmi s] from rfl, zol_app, ← ih o2]
/-! a list behind another -/
theorem zap_g {a : zT} (oa : okS a 0) (s : zT) (os : okS s 1) : okS (zap a (zcons s (zL 0))) 0 ∧ zc (zap a (zcons s (zL 0))) = zc a + zc s ∧ zbr (zap a (zcons s (zL 0))) = max (zbr a) (zbr s) ∧ zk (zap a (zcons s (zL 0))) = zk a ++ zk s ∧ ∀ b, zun b a → zun b s → zun b (zap a (zcons s (zL 0))) := by
  induction a with
  | leaf n =>
    refine ⟨⟨rfl, os, rfl⟩, ?_, ?_, ?_, fun b _ u => ⟨u, trivial⟩⟩
    · show zc s + 0 = 0 + zc s; omega
    · show max (zbr s) 0 = max 0 (zbr s); omega
    · show zk s ++ [] = [] ++ zk s; simp
  | branch k u t _ ih =>
    unfold okS at oa
    rw [if_pos rfl] at oa
    obtain ⟨ek, o1, o2⟩ := oa
    subst ek
    obtain ⟨i1, i2, i3, i4, i5⟩ := ih o2
    refine ⟨⟨rfl, o1, i1⟩, ?_, ?_, ?_, fun b ua us => ?_⟩
    · show zc u + zc (zap t (zcons s (zL 0))) = zc u + zc t + zc s; omega
    · show max (zbr u) (zbr (zap t (zcons s (zL 0)))) = max (max (zbr u) (zbr t)) (zbr s); omega
    · show zk u ++ zk (zap t (zcons s (zL 0))) = (zk u ++ zk t) ++ zk s; rw [i4, List.append_assoc]
    · have ua' : zun b u ∧ zun b t := ua
      exact ⟨ua'.1, i5 b ua'.2 us⟩
theorem zmk_ok {k : Nat} {l r : zT} (h : ok1 k l r) : ok1 (zmk k) l r := by
  have hk := ok1_k h
  rcases h with ⟨q, a⟩ | ⟨q, a⟩ | ⟨q, a⟩ | ⟨q, a⟩ | ⟨q, a⟩ | ⟨q, a⟩
  · refine Or.inl ⟨?_, a.1, a.2.1, fun z => a.2.2 (fun y => z (by subst y; rfl))⟩
    rcases q with y | y | y <;> subst y <;> decide
  · refine Or.inr (Or.inl ⟨?_, a⟩)
    rcases q with y | y <;> subst y <;> decide
  · refine Or.inr (Or.inr (Or.inl ⟨?_, a⟩))
    rcases q with y | y <;> subst y <;> decide
  · refine Or.inr (Or.inr (Or.inr (Or.inl ⟨?_, a⟩)))
    rcases q with y | y <;> subst y <;> decide
  · subst q; exact Or.inr (Or.inr (Or.inr (Or.inr (Or.inl ⟨rfl, a⟩))))
  · refine Or.inr (Or.inr (Or.inr (Or.inr (Or.inr ⟨?_, a⟩))))
    have : k = 130 ∨ k = 131 ∨ k = 132 ∨ k = 134 ∨ k = 135 := by omega
    rcases this with y | y | y | y | y <;> subst y <;> decide
theorem zmk_k {k : Nat} {l r : zT} (h : ok1 k l r) (hk : k < 130) : ∃ A, zk (zB k l r) = (5, k - 100) :: A ∧ zk (zB (zmk k) l r) = (5, zmk k - 100) :: A := by
  have q := ok1_k h
  have : k = 100 ∨ k = 101 ∨ k = 102 ∨ k = 103 ∨ k = 104 ∨ k = 105 ∨ k = 106 ∨ k = 107 ∨ k = 114 := by omega
  rcases this with y | y | y | y | y | y | y | y | y <;> subst y <;> exact ⟨_, rfl, rfl⟩
theorem zmk_2 {k : Nat} {l r : zT} (h : ok1 k l r) (hk : 130 ≤ k) : zk (zB k l r) = zk l ++ (6, k - 130) :: (zk r ++ [(7, 59)]) ∧ zk (zB (zmk k) l r) = zk l ++ (6, zmk k - 130) :: (zk r ++ [(7, 59)]) := by
  have q := ok1_k h
  have : k = 130 ∨ k = 131 ∨ k = 132 ∨ k = 133 ∨ k = 134 ∨ k = 135 := by omega
  rcases this with y | y | y | y | y | y <;> subst y <;> exact ⟨rfl, rfl⟩
theorem zpw_6 {j : Nat} (hj : j < 6) : zpw (6, j) = 3 := by
  have : j = 0 ∨ j = 1 ∨ j = 2 ∨ j = 3 ∨ j = 4 ∨ j = 5 := by omega
  rcases this with y | y | y | y | y | y <;> subst y <;> rfl
theorem zW_c (x : Nat × Nat) (A : List (Nat × Nat)) : zW (x :: A) = zpw x + zW A := rfl
/-- what a mirror keeps -/
def MKs (m : Nat) (t : zT) : Prop := okS (zmi t) m ∧ zc (zmi t) = zc t ∧ zbr (zmi t) = zbr t ∧ (zk (zmi t)).length = (zk t).length ∧ zW (zk (zmi t)) = zW (zk t) ∧ ∀ b, zun b t → zun b (zmi t)
theorem mk_fk {k k2 k3 : Nat} {e s t e2 : zT} (hk : (k = 108 ∧ k2 = 112 ∧ k3 = 113) ∨ (k = 111 ∧ k2 = 117 ∧ k3 = 118)) (o1 : okE e) (o2 : okE e2) (a : MKs 0 s) (b : MKs 0 t) : MKs 1 (zB k e (zB k2 s (zB k3 t e2))) := by
  obtain ⟨a1, a2, a3, a4, a5, a6⟩ := a
  obtain ⟨b1, b2, b3, b4, b5, b6⟩ := b
  unfold MKs
  rw [zmi_fk hk, zk_fk hk, zk_fk hk]
  refine ⟨?_, ?_, ?_, ?_, ?_, fun c u => ?_⟩
  · rcases hk with ⟨x, y, z⟩ | ⟨x, y, z⟩ <;> subst x y z <;> exact ⟨o2, rfl, a1, rfl, b1, o1⟩
  · rcases hk with ⟨x, y, z⟩ | ⟨x, y, z⟩ <;> subst x y z <;> (show 3 + (zc (zmi s) + zc (zmi t)) = 3 + (zc s + zc t); omega)
  · rcases hk with ⟨x, y, z⟩ | ⟨x, y, z⟩ <;> subst x y z <;> (show 1 + max (zbr (zmi s)) (zbr (zmi t)) = 1 + max (zbr s) (zbr t); omega)
  · simp only [List.length_cons, List.length_append, List.length_nil]; omega
  · simp only [zW_c, zW_app, show zW [] = 0 from rfl]; omega
  · rcases hk with ⟨x, y, z⟩ | ⟨x, y, z⟩ <;> subst x y z
    · have u' : c = false ∧ zun c s ∧ zun c t := u
      exact ⟨u'.1, a6 c u'.2.1, b6 c u'.2.2⟩
    · have u' : c = false ∧ zun c s ∧ zun c t := u
      exact ⟨u'.1, a6 c u'.2.1, b6 c u'.2.2⟩
theorem mk_all : ∀ t : zT, (okS t 0 → MKs 0 t) ∧ (okS t 1 → MKs 1 t) := by
  have H := ok_ind (P0 := MKs 0) (P1 := MKs 1)
    (fun v => ⟨rfl, rfl, rfl, rfl, rfl, fun _ _ => trivial⟩)
    (fun s t o1 o2 a b => by
      obtain ⟨a1, a2, a3, a4, a5, a6⟩ := a
      obtain ⟨b1, b2, b3, b4, b5, b6⟩ := b
      obtain ⟨z1, z2, z3, z4, z5⟩ := zap_g b1 (zmi s) a1
      unfold MKs
      rw [zmi_150, z4]
      refine ⟨z1, ?_, ?_, ?_, ?_, fun c u => ?_⟩
      · rw [z2]; show _ = zc s + zc t; omega
      · rw [z3]; show _ = max (zbr s) (zbr t); omega
      · rw [List.length_append, zk_150, List.length_append]; omega
      · rw [zW_app, zk_150, zW_app]; omega
      · have u' : zun c s ∧ zun c t := u
        exact z5 c (b6 c u'.2) (a6 c u'.1))
    (fun e a b e2 o1 _ _ o2 i1 i2 => mk_fk (Or.inl ⟨rfl, rfl, rfl⟩) o1 o2 i1 i2)
    (fun e a b e2 o1 _ _ o2 i1 i2 => mk_fk (Or.inr ⟨rfl, rfl, rfl⟩) o1 o2 i1 i2)
    (fun e a oe oa _ => ⟨⟨oe, oa⟩, rfl, rfl, rfl, rfl, fun _ u => u⟩)
    (fun e a b oe oa ob _ _ => ⟨⟨oe, rfl, oa, ob⟩, rfl, rfl, rfl, rfl, fun _ u => u⟩)
    (fun k l r h => by
      have hk := ok1_k h
      have hm := zmk_ok h
      obtain ⟨m1, m2, m3⟩ := ok1_S hm
      obtain ⟨n1, n2, n3⟩ := ok1_S h
      unfold MKs
      rw [zmi_1 h, m2, m3, n2, n3]
      refine ⟨m1, rfl, rfl, ?_, ?_, fun c u => ?_⟩
      · by_cases q : k < 130
        · obtain ⟨A, e1, e2⟩ := zmk_k h q
          rw [e1, e2, List.length_cons, List.length_cons]
        · obtain ⟨e1, e2⟩ := zmk_2 h (by omega)
          rw [e1, e2]; simp only [List.length_append, List.length_cons]
      · by_cases q : k < 130
        · obtain ⟨A, e1, e2⟩ := zmk_k h q
          rw [e1, e2]; rfl
        · obtain ⟨e1, e2⟩ := zmk_2 h (by omega)
          rw [e1, e2, zW_app, zW_app, zW_c, zW_c, zpw_6 (by have := ok1_k hm; omega), zpw_6 (by omega)]
      · have e := zun_1 h u
        have hq : k = 100 ∨ k = 101 ∨ k = 102 ∨ k = 103 ∨ k = 104 ∨ k = 105 ∨ k = 106 ∨ k = 107 ∨ k = 114 ∨ k = 130 ∨ k = 131 ∨ k = 132 ∨ k = 133 ∨ k = 134 ∨ k = 135 := by omega
        rcases hq with y | y | y | y | y | y | y | y | y | y | y | y | y | y | y <;> subst y <;> exact e)
  exact fun t => ⟨(H t).1, (H t).2.1⟩
theorem Al_ok : ∀ {t : zT}, okS t 0 → Al (fun s => okS s 1) (zls t) := by
  intro t
  induction t with
  | leaf n => intro _; trivial
  | branch k s t _ ih =>
    intro o
    unfold okS at o
    rw [if_pos rfl] at o
    exact ⟨o.2.1, ih o.2.2⟩
theorem zc_1 : ∀ {s : zT}, okS s 1 → 1 ≤ zc s := by
  have H := ok_ind (P0 := fun _ => True) (P1 := fun s => 1 ≤ zc s) (fun _ => trivial) (fun _ _ _ _ _ _ => trivial)
    (fun e a b e2 _ _ _ _ _ _ => by show 1 ≤ 3 + _; omega) (fun e a b e2 _ _ _ _ _ _ => by show 1 ≤ 3 + _; omega)
    (fun e a _ _ _ => by show 1 ≤ 2 + _; omega) (fun e a b _ _ _ _ _ => by show 1 ≤ 3 + _; omega)
    (fun k l r h => by rw [(ok1_S h).2.1]; exact Nat.le_refl _)
  exact fun {s} => (H s).2.1
theorem Al_mp {P Q : zT → Prop} (f : ∀ s, P s → Q s) : ∀ {S : List zT}, Al P S → Al Q S := by
  intro S
  induction S with
  | nil => intro _; trivial
  | cons s S ih => intro z; exact ⟨f s z.1, ih z.2⟩
theorem zls_40 {t : zT} (o : okS t 0) : (zls t).length ≤ zc t := zls_len o (Al_mp (fun _ => zc_1) (Al_ok o))
theorem t8_f : ∀ t : zT, (okS t 0 → zun false t → zt8 t) ∧ (okS t 1 → zun false t → zt8 t) := by
  have H := ok_ind (P0 := fun t => zun false t → zt8 t) (P1 := fun t => zun false t → zt8 t) (fun _ _ => trivial)
    (fun s t _ _ a b u => ⟨a (zun_150 u).1, b (zun_150 u).2⟩)
    (fun e a b e2 _ _ _ _ i1 i2 u => by have u' : false = false ∧ zun false a ∧ zun false b := u; exact ⟨i1 u'.2.1, i2 u'.2.2⟩)
    (fun e a b e2 _ _ _ _ i1 i2 u => by have u' : false = false ∧ zun false a ∧ zun false b := u; exact ⟨i1 u'.2.1, i2 u'.2.2⟩)
    (fun e a _ _ _ u => absurd (zun_wh u).1 (by decide)) (fun e a b _ _ _ _ _ u => absurd (zun_wn u).1 (by decide))
    (fun k l r h _ => t8_1 h)
  exact fun t => ⟨(H t).1, (H t).2.1⟩
theorem zord_f : ∀ {t : zT}, okS t 0 → zun false t → zord t = false := by
  intro t o u
  cases t with
  | leaf n => rfl
  | branch k s t =>
    unfold okS at o
    rw [if_pos rfl] at o
    obtain ⟨ek, o1, o2⟩ := o
    subst ek
    exact zord_un o1 u
/-- a mirror is a good routine -/
theorem Gt_mi {t : zT} (g : Gt t) (ho : zord t = false) : Gt (zmi t) ∧ zord (zmi t) = false ∧ zc (zmi t) = zc t := by
  obtain ⟨ok, un, c40, b5, l, w, t8⟩ := g
  rw [ho] at un w
  obtain ⟨a1, a2, a3, a4, a5, a6⟩ := (mk_all t).1 ok
  have u := a6 false un
  have zo := zord_f a1 u
  refine ⟨⟨a1, by rw [zo]; exact u, by omega, by omega, by omega, ?_, (t8_f _).1 a1 u⟩, zo, a2⟩
  rw [zo, a5]
  exact w
