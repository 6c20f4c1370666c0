/-! WHERE the instructions are: in the code, in the tokens -/
def Ats (Φ : Nat → zEn → Prop) (b : Nat) (es : List zEn) : Prop := ∀ i e, es[i]? = some e → Φ (b + i) e
theorem Ats_nil {Φ : Nat → zEn → Prop} {b : Nat} : Ats Φ b [] := fun i e q => by simp at q
theorem Ats_cons {Φ : Nat → zEn → Prop} {b : Nat} {e : zEn} {es : List zEn} (k1 : Φ b e) (k2 : Ats Φ (b + 1) es) : Ats Φ b (e :: es) := by
  intro i f q
  cases i with
  | zero => simp at q; subst q; exact k1
  | succ i => simp at q; have := k2 i f q; rw [show b + 1 + i = b + (i + 1) by omega] at this; exact this
theorem Ats_app {Φ : Nat → zEn → Prop} {b : Nat} {es fs : List zEn} (k1 : Ats Φ b es) (k2 : Ats Φ (b + es.length) fs) : Ats Φ b (es ++ fs) := by
  intro i f q
  by_cases hi : i < es.length
  · rw [List.getElem?_append_left hi] at q; exact k1 i f q
  · rw [List.getElem?_append_right (by omega)] at q
    have := k2 _ f q
    rw [show b + es.length + (i - es.length) = b + i by omega] at this; exact this
def fkk (k k2 k3 : Nat) : Prop := (k = 108 ∧ k2 = 112 ∧ k3 = 113) ∨ (k = 111 ∧ k2 = 117 ∧ k3 = 118)
/-- what an instruction may be -/
def En (e : zEn) : Prop := (e.1 = 0 ∧ ∃ k l r, e.2.1 = zB k l r ∧ ok1 k l r) ∨ ((e.1 = 1 ∨ e.1 = 2 ∨ e.1 = 3) ∧ ((∃ k k2 k3 a s t c, fkk k k2 k3 ∧ e.2.1 = zB k a (zB k2 s (zB k3 t c)) ∧ okE a ∧ okE c) ∨ zg e.2.1 = 115 ∨ zg e.2.1 = 116))
def zpos (e : zEn) : Nat := if e.1 = 2 then zm e.2.1 e.2.2.1 else if e.1 = 3 then ze e.2.1 e.2.2.1 else e.2.2.1
def Zin (t : zT) (b p : Nat) (j : Nat) (e : zEn) : Prop := (∃ P S, zk t = P ++ (zk e.2.1 ++ S) ∧ e.2.2.2 = p + P.length) ∧ En e ∧ b ≤ e.2.2.1 ∧ e.2.2.1 + zc e.2.1 ≤ b + zc t ∧ j = zpos e ∧ ∀ q, zun q t → zun q e.2.1
theorem Zin_sub {s t : zT} {b p b' p' : Nat} {X Y : List (Nat × Nat)} {es : List zEn} (hz : zk t = X ++ (zk s ++ Y)) (hp : p' = p + X.length) (h1 : b ≤ b') (h2 : b' + zc s ≤ b + zc t) (hu : ∀ q, zun q t → zun q s) (k : Ats (Zin s b' p') b' es) : Ats (Zin t b p) b' es := by
  intro i e q
  obtain ⟨⟨P, S, e1, e2⟩, c2, c3, c4, c5, c6⟩ := k i e q
  refine ⟨⟨X ++ P, S ++ Y, ?_, ?_⟩, c2, by omega, by omega, c5, fun q z => c6 q (hu q z)⟩
  · rw [hz, e1]; simp
  · rw [e2, hp, List.length_append]; omega
theorem zun_fk2 {q : Bool} {k k2 k3 : Nat} {e s t e2 : zT} (hk : fkk k k2 k3) (z : zun q (zB k e (zB k2 s (zB k3 t e2)))) : q = false ∧ zun q s ∧ zun q t := by
  rcases hk with ⟨h1, h2, h3⟩ | ⟨h1, h2, h3⟩ <;> subst h1 <;> subst h2 <;> subst h3 <;> exact z
theorem zi_in : ∀ t : zT, (okS t 0 → ∀ u b p, Ats (Zin t b p) b (zi t u b p)) ∧ (okS t 1 → ∀ u b p, Ats (Zin t b p) b (zi t u b p)) := by
  have fk : ∀ k k2 k3 (e a b' e2 : zT), fkk k k2 k3 → okE e → okS a 0 → okS b' 0 → okE e2 → (∀ u b p, Ats (Zin a b p) b (zi a u b p)) → (∀ u b p, Ats (Zin b' b p) b (zi b' u b p)) → ∀ u b p, Ats (Zin (zB k e (zB k2 a (zB k3 b' e2))) b p) b (zi (zB k e (zB k2 a (zB k3 b' e2))) u b p) := by
    intro k k2 k3 e a c e2 hk oe oa oc oe2 ia ic u b p
    have hzc := zc_fk (e := e) (s := a) (t := c) (e2 := e2) hk
    have hzk := zk_fk (e := e) (s := a) (t := c) (e2 := e2) hk
    have hzm : zm (zB k e (zB k2 a (zB k3 c e2))) b = b + 1 + zc a := by
      have : zg (zB k e (zB k2 a (zB k3 c e2))) ≠ 115 := by show k ≠ 115; unfold fkk at hk; omega
      unfold zm; rw [if_neg this]; rfl
    have sh : ∀ n, (n = 1 ∨ n = 2 ∨ n = 3) → En (n, zB k e (zB k2 a (zB k3 c e2)), b, p) := fun n hn => Or.inr ⟨hn, Or.inl ⟨k, k2, k3, e, a, c, e2, hk, rfl, oe, oe2⟩⟩
    have self : ∀ n, (n = 1 ∨ n = 2 ∨ n = 3) → ∀ j, j = zpos (n, zB k e (zB k2 a (zB k3 c e2)), b, p) → Zin (zB k e (zB k2 a (zB k3 c e2))) b p j (n, zB k e (zB k2 a (zB k3 c e2)), b, p) := fun n hn j hj => ⟨⟨[], [], by simp, rfl⟩, sh n hn, Nat.le_refl _, Nat.le_refl _, hj, fun q z => z⟩
    rw [zi_fk hk]
    refine Ats_cons (self 1 (by decide) b rfl) (Ats_app ?_ (Ats_cons ?_ (Ats_app ?_ (Ats_cons ?_ Ats_nil))))
    · refine Zin_sub (X := (5, k - 100) :: (zk e ++ [(7, 123)])) (Y := (7, 125) :: (5, zw1 k) :: (7, 123) :: (zk c ++ (7, 125) :: (5, zw2 k) :: (zk e2 ++ [(7, 59)]))) (by rw [hzk]; simp) (by simp; omega) (by omega) (by omega) (fun q z => (zun_fk2 hk z).2.1) (ia _ _ _)
    · rw [(zi_len a).1 oa]
      refine self 2 (by decide) _ ?_
      show b + 1 + zc a = zm _ b
      rw [hzm]
    · rw [(zi_len a).1 oa]
      refine Zin_sub (X := (5, k - 100) :: (zk e ++ (7, 123) :: (zk a ++ [(7, 125), (5, zw1 k), (7, 123)]))) (Y := (7, 125) :: (5, zw2 k) :: (zk e2 ++ [(7, 59)])) (by rw [hzk]; simp) (by simp; omega) (by omega) (by omega) (fun q z => (zun_fk2 hk z).2.2) (ic _ _ _)
    · rw [(zi_len a).1 oa, (zi_len c).1 oc]
      refine self 3 (by decide) _ ?_
      show _ = ze _ b
      unfold ze
      rw [hzc]; omega
  have H := ok_ind (P0 := fun t => ∀ u b p, Ats (Zin t b p) b (zi t u b p)) (P1 := fun t => ∀ u b p, Ats (Zin t b p) b (zi t u b p)) (fun v u b p => Ats_nil)
    (fun s t o1 o2 i1 i2 u b p => by
      rw [zi_150]
      refine Ats_app (Zin_sub (X := []) (Y := zk t) (zk_150 s t) rfl (Nat.le_refl _) (by show b + zc s ≤ b + (zc s + zc t); omega) (fun q z => z.1) (i1 u b p)) ?_
      rw [(zi_len s).2 o1]
      exact Zin_sub (X := zk s) (Y := []) (by rw [zk_150]; simp) rfl (by omega) (by show b + zc s + zc t ≤ b + (zc s + zc t); omega) (fun q z => z.2) (i2 u _ _))
    (fun e a b e2 o1 o2 o3 o4 i1 i2 => fk 108 112 113 e a b e2 (Or.inl ⟨rfl, rfl, rfl⟩) o1 o2 o3 o4 i1 i2)
    (fun e a b e2 o1 o2 o3 o4 i1 i2 => fk 111 117 118 e a b e2 (Or.inr ⟨rfl, rfl, rfl⟩) o1 o2 o3 o4 i1 i2)
    (fun e a oe oa ia u b p => by
      have hzc : zc (zB 115 e a) = 2 + zc a := rfl
      have self : ∀ n, (n = 1 ∨ n = 2 ∨ n = 3) → ∀ j, j = zpos (n, zB 115 e a, b, p) → Zin (zB 115 e a) b p j (n, zB 115 e a, b, p) := fun n hn j hj => ⟨⟨[], [], by simp, rfl⟩, Or.inr ⟨hn, Or.inr (Or.inl rfl)⟩, Nat.le_refl _, Nat.le_refl _, hj, fun q z => z⟩
      rw [zi_wh]
      refine Ats_cons (self 1 (by decide) b rfl) (Ats_app ?_ (Ats_cons ?_ Ats_nil))
      · exact Zin_sub (X := (5, 15) :: (zk e ++ [(7, 123)])) (Y := [(7, 125), (7, 59)]) (by rw [zk_wh]; simp) (by simp; omega) (by omega) (by omega) (fun q z => (show q = true ∧ zun q a from z).2) (ia _ _ _)
      · rw [(zi_len a).1 oa]
        refine self 3 (by decide) _ ?_
        show _ = ze _ b
        unfold ze
        rw [hzc]; omega)
    (fun e a c oe oa oc ia ic u b p => by
      have hzc : zc (zB 116 e (zB 119 a c)) = 3 + (zc a + zc c) := rfl
      have self : ∀ n, (n = 1 ∨ n = 2 ∨ n = 3) → ∀ j, j = zpos (n, zB 116 e (zB 119 a c), b, p) → Zin (zB 116 e (zB 119 a c)) b p j (n, zB 116 e (zB 119 a c), b, p) := fun n hn j hj => ⟨⟨[], [], by simp, rfl⟩, Or.inr ⟨hn, Or.inr (Or.inr rfl)⟩, Nat.le_refl _, Nat.le_refl _, hj, fun q z => z⟩
      rw [zi_wn]
      refine Ats_cons (self 1 (by decide) b rfl) (Ats_app ?_ (Ats_cons ?_ (Ats_app ?_ (Ats_cons ?_ Ats_nil))))
      · exact Zin_sub (X := (5, 16) :: (zk e ++ [(7, 123)])) (Y := (7, 125) :: (5, 9) :: (7, 123) :: (zk c ++ [(7, 125), (7, 59)])) (by rw [zk_wn]; simp) (by simp; omega) (by omega) (by omega) (fun q z => (show q = true ∧ zun q a ∧ zun q c from z).2.1) (ia _ _ _)
      · rw [(zi_len a).1 oa]
        exact self 2 (by decide) _ rfl
      · rw [(zi_len a).1 oa]
        exact Zin_sub (X := (5, 16) :: (zk e ++ (7, 123) :: (zk a ++ [(7, 125), (5, 9), (7, 123)]))) (Y := [(7, 125), (7, 59)]) (by rw [zk_wn]; simp) (by simp; omega) (by omega) (by omega) (fun q z => (show q = true ∧ zun q a ∧ zun q c from z).2.2) (ic _ _ _)
      · rw [(zi_len a).1 oa, (zi_len c).1 oc]
        refine self 3 (by decide) _ ?_
        show _ = ze _ b
        unfold ze
        rw [hzc]; omega)
    (fun k l r h u b p => by
      rw [zi_one h]
      exact Ats_cons ⟨⟨[], [], by simp, rfl⟩, Or.inl ⟨rfl, k, l, r, rfl, h⟩, Nat.le_refl _, Nat.le_refl _, rfl, fun q z => z⟩ Ats_nil)
  exact fun t => ⟨(H t).1, (H t).2.1⟩
/-- an instruction of a routine that goes there and back -/
theorem zi_at {t : zT} {i : Nat} {e : zEn} (ok : okS t 0) (un : zun false t) (h : (zi t (t, 0, 0) 0 0)[i]? = some e) : i < zc t ∧ (∃ P S, zk t = P ++ (zk e.2.1 ++ S) ∧ e.2.2.2 = P.length) ∧ e.2.2.1 + zc e.2.1 ≤ zc t ∧ i = zpos e ∧ zun false e.2.1 ∧ ((e.1 = 0 ∧ ∃ k l r, e.2.1 = zB k l r ∧ ok1 k l r ∧ k ≠ 114) ∨ ((e.1 = 1 ∨ e.1 = 2 ∨ e.1 = 3) ∧ ∃ k k2 k3 a s t c, fkk k k2 k3 ∧ e.2.1 = zB k a (zB k2 s (zB k3 t c)) ∧ okE a ∧ okE c)) := by
  have hl := (zi_len t).1 ok (t, 0, 0) 0 0
  have hi : i < zc t := by
    by_cases z : i < (zi t (t, 0, 0) 0 0).length
    · omega
    · rw [List.getElem?_eq_none (by omega)] at h; cases h
  obtain ⟨⟨P, S, c1, c2⟩, c3, c4, c5, c6, c7⟩ := (zi_in t).1 ok (t, 0, 0) 0 0 i e h
  rw [Nat.zero_add] at c2 c5 c6
  have u := c7 false un
  refine ⟨hi, ⟨P, S, c1, c2⟩, c5, c6, u, ?_⟩
  rcases c3 with ⟨x, k, l, r, y1, y2⟩ | ⟨x, y | y | y⟩
  · refine Or.inl ⟨x, k, l, r, y1, y2, fun z => ?_⟩
    rw [y1, z] at u
    exact absurd (show false = true from u) (by decide)
  · exact Or.inr ⟨x, y⟩
  · exfalso
    cases hh : e.2.1 with
    | leaf n => rw [hh] at y; exact absurd (show 0 = 115 from y) (by decide)
    | branch k l r =>
      rw [hh] at y u
      have : k = 115 := y
      subst this
      exact absurd (show false = true ∧ zun false r from u).1 (by decide)
  · exfalso
    cases hh : e.2.1 with
    | leaf n => rw [hh] at y; exact absurd (show 0 = 116 from y) (by decide)
    | branch k l r =>
      rw [hh] at y u
      have : k = 116 := y
      subst this
      exact absurd (show false = true ∧ zun false r from u).1 (by decide)
