/-! m reckons: sum, product, factor -/
def nxt (c : Nat → Bool) (S : List (Nat × Nat)) : Prop := ∀ x, S.head? = some x → ¬ (x.1 = 7 ∧ c x.2 = true)
def zsp (c : Nat) : Bool := zsum c || zpro c
/-- a factor -/
def EF (h0 : hp) (σ : zS) (bi : Nat → Nat → Bool) (r : Nat) (ts : List (Nat × Nat)) (e : zT) : Prop := ∀ (h : hp) (d ns : Nat) (is : Nat → Nat) (P S : List (Nat × Nat)) (Q : qt), Fve h0 h → ts = P ++ (zk e ++ S) → Es h r P.length ns is → 4 * zdp e + 4 ≤ d → EmQ h0 σ r P.length ns is e (ev σ bn0 bi e) (fun v h' => Q (.inl (some (vJ v))) h') (fun v h' => Q (.inl (some (vJ v))) h') → Wc d 189 [vR (some 116)] h Q
/-- a product, up to what is behind it -/
def EG (h0 : hp) (σ : zS) (bi : Nat → Nat → Bool) (r : Nat) (ts : List (Nat × Nat)) (e : zT) : Prop := ∀ (h : hp) (d ns : Nat) (is : Nat → Nat) (P S : List (Nat × Nat)) (Q : qt), Fve h0 h → ts = P ++ (zk e ++ S) → Es h r P.length ns is → 4 * zdp e + 4 ≤ d → EmQ h0 σ r P.length ns is e (ev σ bn0 bi e) (fun v h' => ∀ v3 v4 v5 : av, Wp d C_X4_product Q 5 [vR (some 116), vJ v, vU, v3, v4, v5] [] h') (fun v h' => Q (.inl (some (vJ v))) h') → Wp d C_X4_product Q 0 [vR (some 116), vU, vU, vU, vU, vU] [] h
def ES (h0 : hp) (σ : zS) (bi : Nat → Nat → Bool) (r : Nat) (ts : List (Nat × Nat)) (e : zT) : Prop := ∀ (h : hp) (d ns : Nat) (is : Nat → Nat) (P S : List (Nat × Nat)) (Q : qt), Fve h0 h → ts = P ++ (zk e ++ S) → nxt zpro S → Es h r P.length ns is → 4 * zdp e + 5 ≤ d → EmQ h0 σ r P.length ns is e (ev σ bn0 bi e) (fun v h' => ∀ v3 v4 v5 : av, Wp d C_X4_sum Q 5 [vR (some 116), vJ v, vU, v3, v4, v5] [] h') (fun v h' => Q (.inl (some (vJ v))) h') → Wp d C_X4_sum Q 0 [vR (some 116), vU, vU, vU, vU, vU] [] h
theorem EmQ_fail {h0 : hp} {σ : zS} {r p ns w : Nat} {is : Nat → Nat} {e : zT} {K F : Int → hp → Prop} (k : EmQ h0 σ r p ns is e (.inl w) K F) : ∀ h' x, Fve h0 h' → hI h' 116 46 = (w : Nat) → w ≠ 0 → F x h' := k
theorem hd_at {P S : List (Nat × Nat)} {x : Nat × Nat} (h : (P ++ S)[P.length]? = some x) : S.head? = some x := by
  rw [List.getElem?_append_right (Nat.le_refl _), Nat.sub_self] at h
  cases S with
  | nil => simp at h
  | cons y S => simpa using h
theorem zpro_of {c : Nat} (h : c = 42 ∨ c = 47 ∨ c = 37 ∨ c = 38) : zpro c = true := by rcases h with e | e | e | e <;> subst e <;> rfl
theorem zsum_of {c : Nat} (h : c = 43 ∨ c = 45 ∨ c = 94 ∨ c = 124) : zsum c = true := by rcases h with e | e | e | e <;> subst e <;> rfl
/-- a whole product -/
theorem EG_fn {h0 : hp} {σ : zS} {bi : Nat → Nat → Bool} {r : Nat} {ts : List (Nat × Nat)} {e : zT} (hS0 : St h0) (hr : r < 10) (hK0 : RK h0 r ts) (g : EG h0 σ bi r ts e) {h : hp} {d ns : Nat} {is : Nat → Nat} {P S : List (Nat × Nat)} {Q : qt} (hF : Fve h0 h) (et : ts = P ++ (zk e ++ S)) (hn : nxt zpro S) (hE : Es h r P.length ns is) (hd : 4 * zdp e + 5 ≤ d) (k : EmQ h0 σ r P.length ns is e (ev σ bn0 bi e) (fun v h' => Q (.inl (some (vJ v))) h') (fun v h' => Q (.inl (some (vJ v))) h')) : Wc d 188 [vR (some 116)] h Q := by
  obtain ⟨d, rfl⟩ : ∃ e, d = e + 2 + 1 := ⟨d - 3, by omega⟩
  have hS := FI_St hF hS0 rfl
  refine Wc_of cs_X4_product rfl ?_
  refine g h (d + 2) ns is P S Q hF et hE (by omega) ?_
  cases hv : ev σ bn0 bi e with
  | inl w => rw [hv] at k; exact k
  | inr v =>
    rw [hv] at k
    intro h1 F1 E1 v3 v4 v5
    have kk := k h1 F1 E1
    have S1 := FI_St F1 hS0 rfl
    have K1 := RK_Fve F1 hK0
    have no : ∀ c, c = 42 ∨ c = 47 ∨ c = 37 ∨ c = 38 → decide (ts[P.length + (zk e).length]? = some (7, c)) = false := by
      intro c hc
      refine decide_eq_false (fun q => ?_)
      rw [et, ← List.append_assoc, ← List.length_append] at q
      exact hn _ (hd_at q) ⟨rfl, zpro_of hc⟩
    refine ss_X4_product_5 S1 (ip E1.2.2.1 ?_)
    refine c_isH (c := 42) S1 hr K1 E1 ?_
    rw [no 42 (by omega)]
    refine ss_X4_product_18 S1 (ip rfl ?_)
    refine c_isH (c := 47) S1 hr K1 E1 ?_
    rw [no 47 (by omega)]
    refine ss_X4_product_27 S1 (ip rfl ?_)
    refine c_isH (c := 37) S1 hr K1 E1 ?_
    rw [no 37 (by omega)]
    refine ss_X4_product_36 S1 (ip rfl ?_)
    refine c_isH (c := 38) S1 hr K1 E1 ?_
    rw [no 38 (by omega)]
    exact ss_X4_product_45 S1 (ip rfl (ss_X4_product_164 S1 kk))
/-- a whole sum -/
theorem ES_fn {h0 : hp} {σ : zS} {bi : Nat → Nat → Bool} {r : Nat} {ts : List (Nat × Nat)} {e : zT} (hS0 : St h0) (hr : r < 10) (hK0 : RK h0 r ts) (g : ES h0 σ bi r ts e) {h : hp} {d ns : Nat} {is : Nat → Nat} {P S : List (Nat × Nat)} {Q : qt} (hF : Fve h0 h) (et : ts = P ++ (zk e ++ S)) (hn : nxt zsp S) (hE : Es h r P.length ns is) (hd : 4 * zdp e + 6 ≤ d) (k : EmQ h0 σ r P.length ns is e (ev σ bn0 bi e) (fun v h' => Q (.inl (some (vJ v))) h') (fun v h' => Q (.inl (some (vJ v))) h')) : Wc d 187 [vR (some 116)] h Q := by
  obtain ⟨d, rfl⟩ : ∃ e, d = e + 2 + 1 := ⟨d - 3, by omega⟩
  have hS := FI_St hF hS0 rfl
  refine Wc_of cs_X4_sum rfl ?_
  refine g h (d + 2) ns is P S Q hF et (fun x hx q => hn x hx ⟨q.1, by unfold zsp; rw [q.2, Bool.or_true]⟩) hE (by omega) ?_
  cases hv : ev σ bn0 bi e with
  | inl w => rw [hv] at k; exact k
  | inr v =>
    rw [hv] at k
    intro h1 F1 E1 v3 v4 v5
    have kk := k h1 F1 E1
    have S1 := FI_St F1 hS0 rfl
    have K1 := RK_Fve F1 hK0
    refine ss_X4_sum_5 S1 (ip E1.2.2.1 ?_)
    rw [E1.1, E1.2.1, Int.toNat_natCast, K1.2.1]
    refine ⟨by omega, ?_⟩
    by_cases q : P.length + (zk e).length < ts.length
    · refine ip (by omega) ?_
      have ht : ts[P.length + (zk e).length]? = some ts[P.length + (zk e).length] := List.getElem?_eq_getElem q
      generalize ts[P.length + (zk e).length] = x at ht
      obtain ⟨t1, t2, t3, t4, t5⟩ := at_tok hr K1 E1 ht
      refine se_X4_sortHere S1 ?_
      rw [t1, Int.toNat_natCast, t2]
      refine ⟨by omega, ?_⟩
      refine ss_X4_sum_32 S1 ?_
      rw [t1, Int.toNat_natCast, t3]
      refine ⟨by omega, ?_⟩
      refine pu_isSum S1 ?_
      refine ss_X4_sum_53 S1 ?_
      have hx : S.head? = some x := by
        rw [et, ← List.append_assoc, ← List.length_append] at ht
        exact hd_at ht
      have hz : (decide (((x.1 : Nat) : Int) = 7) && (decide (((x.2 : Nat) : Int) = 43) || (decide (((x.2 : Nat) : Int) = 45) || (decide (((x.2 : Nat) : Int) = 94) || decide (((x.2 : Nat) : Int) = 124))))) = false := by
        rw [Bool.eq_false_iff]
        intro z
        simp at z
        refine hn x hx ⟨by omega, ?_⟩
        unfold zsp
        rw [zsum_of (by omega), Bool.true_or]
      rw [hz]
      exact ip rfl kk
    · exact im (by omega) kk
theorem EG_F {h0 : hp} {σ : zS} {bi : Nat → Nat → Bool} {r : Nat} {ts : List (Nat × Nat)} {e : zT} (hS0 : St h0) (g : EF h0 σ bi r ts e) : EG h0 σ bi r ts e := by
  intro h d ns is P S Q hF et hE hd k
  have hS := FI_St hF hS0 rfl
  refine ss_X4_product_0 hS ?_
  refine g h d ns is P S _ hF et hE hd ?_
  cases hv : ev σ bn0 bi e with
  | inl w =>
    rw [hv] at k
    intro h1 x F1 b1 w0
    have S1 := FI_St F1 hS0 rfl
    refine ss_X4_product_4 S1 (ss_X4_product_5 S1 (im (by rw [b1]; omega) (ss_X4_product_164 S1 ?_)))
    exact k h1 x F1 b1 w0
  | inr v =>
    rw [hv] at k
    intro h1 F1 E1
    have S1 := FI_St F1 hS0 rfl
    exact ss_X4_product_4 S1 (k h1 F1 E1 _ _ _)
theorem ES_G {h0 : hp} {σ : zS} {bi : Nat → Nat → Bool} {r : Nat} {ts : List (Nat × Nat)} {e : zT} (hS0 : St h0) (hr : r < 10) (hK0 : RK h0 r ts) (g : EG h0 σ bi r ts e) : ES h0 σ bi r ts e := by
  intro h d ns is P S Q hF et hn hE hd k
  have hS := FI_St hF hS0 rfl
  refine ss_X4_sum_0 hS ?_
  refine EG_fn hS0 hr hK0 g hF et hn hE hd ?_
  cases hv : ev σ bn0 bi e with
  | inl w =>
    rw [hv] at k
    intro h1 x F1 b1 w0
    have S1 := FI_St F1 hS0 rfl
    refine ss_X4_sum_4 S1 (ss_X4_sum_5 S1 (im (by rw [b1]; omega) ?_))
    exact k h1 x F1 b1 w0
  | inr v =>
    rw [hv] at k
    intro h1 F1 E1
    have S1 := FI_St F1 hS0 rfl
    exact ss_X4_sum_4 S1 (k h1 F1 E1 _ _ _)
theorem evS_two {σ : zS} {c : Nat} {l r : zT} (hc : c = 60 ∨ c = 61 ∨ c = 43 ∨ c = 45 ∨ c = 94 ∨ c = 124 ∨ c = 42 ∨ c = 47 ∨ c = 37 ∨ c = 38) (id : Nat) : evS σ (zB c l r) id = evS σ l id ||| evS σ r id := by
  rcases hc with q | q | q | q | q | q | q | q | q | q <;> subst q <;> rfl
theorem ev_two {σ : zS} {bn : Nat → Bool} {bi : Nat → Nat → Bool} {c : Nat} {l r : zT} (hc : c = 60 ∨ c = 61 ∨ c = 43 ∨ c = 45 ∨ c = 94 ∨ c = 124 ∨ c = 42 ∨ c = 47 ∨ c = 37 ∨ c = 38) : ev σ bn bi (zB c l r) = (match ev σ bn bi l with
      | .inl w => .inl w
      | .inr x => (match ev σ bn bi r with
        | .inl w => .inl w
        | .inr y => rk c x y)) := by
  rcases hc with q | q | q | q | q | q | q | q | q | q <;> subst q <;> rfl
theorem Es_or {h : hp} {r p q ns ns2 : Nat} {is is2 : Nat → Nat} (k : Es h r p ns is) (hp : p = q) (h1 : ns = ns2) (h2 : ∀ id, is id = is2 id) : Es h r q ns2 is2 := by
  subst hp; subst h1
  obtain ⟨a1, a2, a3, a4, a5, a6⟩ := k
  exact ⟨a1, a2, a3, a4, a5, fun id hi => by rw [← h2]; exact a6 id hi⟩
/-- one more factor -/
theorem EG_pro {h0 : hp} {σ : zS} {bi : Nat → Nat → Bool} {r c : Nat} {ts : List (Nat × Nat)} {l e : zT} (hS0 : St h0) (hr : r < 10) (hK0 : RK h0 r ts) (hc : c = 42 ∨ c = 47 ∨ c = 37 ∨ c = 38) (gl : EG h0 σ bi r ts l) (ge : EF h0 σ bi r ts e) : EG h0 σ bi r ts (zB c l e) := by
  intro h d ns is P S Q hF et hE hd k
  have zt : zk (zB c l e) = zk l ++ (7, c) :: zk e := (zk_two (Or.inr (zpro_of hc))).1
  have zb : zbits (zB c l e) = zbits l ||| zbits e := (zk_two (Or.inr (zpro_of hc))).2.1
  have zd : zdp (zB c l e) = max (zdp l) (zdp e) := zdp_two (Or.inr (zpro_of hc))
  rw [zd] at hd
  rw [zt] at et
  have et1 : ts = P ++ (zk l ++ ((7, c) :: (zk e ++ S))) := by rw [et]; simp
  have et2 : ts = (P ++ zk l ++ [(7, c)]) ++ (zk e ++ S) := by rw [et]; simp
  rw [ev_two (by omega)] at k
  refine gl h d ns is P _ Q hF et1 hE (by omega) ?_
  cases hv : ev σ bn0 bi l with
  | inl w => rw [hv] at k; exact k
  | inr x =>
    rw [hv] at k
    dsimp only at k
    intro h1 F1 E1 v3 v4 v5
    have S1 := FI_St F1 hS0 rfl
    have K1 := RK_Fve F1 hK0
    have ht : ts[P.length + (zk l).length]? = some (7, c) := by
      rw [et1, ← List.append_assoc, ← List.length_append]; exact at_P
    obtain ⟨t1, t2, t3, t4, t5⟩ := at_tok hr K1 E1 ht
    obtain ⟨d, rfl⟩ : ∃ e, d = e + 2 := ⟨d - 2, by omega⟩
    have k48 : Wp (d + 2) C_X4_product Q 48 [vR (some 116), vJ x, vU, v3, v4, v5] [] h1 := by
      refine ss_X4_product_48 S1 ?_
      rw [t1, Int.toNat_natCast, t3, E1.2.1, na_eq (by omega) (by omega)]
      refine ⟨by omega, ?_⟩
      have lp : (P ++ zk l ++ [(7, c)]).length = P.length + (zk l).length + 1 := by simp; omega
      have F2 : Fve h0 (sI h1 116 44 (((P.length + (zk l).length : Nat) : Int) + 1)) := FI_sI F1 rfl
      have E2 : Es (sI h1 116 44 (((P.length + (zk l).length : Nat) : Int) + 1)) r (P ++ zk l ++ [(7, c)]).length (ns ||| zbits l) (fun id => is id ||| evS σ l id) := by
        rw [lp]; exact Es_p (q := P.length + (zk l).length + 1) E1
      refine ge _ (d + 2) _ _ _ S _ F2 et2 E2 (by omega) ?_
      cases hv2 : ev σ bn0 bi e with
      | inl w =>
        rw [hv2] at k
        intro h3 y F3 b3 w0
        have S3 := FI_St F3 hS0 rfl
        refine ss_X4_product_81 S3 (im (by rw [b3]; omega) ?_)
        exact k h3 0 F3 b3 w0
      | inr y =>
        rw [hv2] at k
        dsimp only at k
        intro h3 F3 E3
        have S3 := FI_St F3 hS0 rfl
        have E3' : Es h3 r (P.length + (zk (zB c l e)).length) (ns ||| zbits (zB c l e)) (fun id => is id ||| evS σ (zB c l e) id) := by
          refine Es_or E3 ?_ ?_ (fun id => ?_)
          · rw [lp, zt]; simp; omega
          · rw [zb, Nat.or_assoc]
          · show is id ||| evS σ l id ||| evS σ e id = _; rw [evS_two (by omega), Nat.or_assoc]
        refine ss_X4_product_81 S3 (ip E3.2.2.1 ?_)
        have go : ∀ v, rk c x y = .inr v → ∀ v4' : av, Wp (d + 2) C_X4_product Q 160 [vR (some 116), vJ x, vU, vI (c : Nat), vJ y, vU] [vJ v] h3 := by
          intro v hv3 _
          rw [hv3] at k
          exact ss_X4_product_160 S3 (k h3 F3 E3' _ _ _)
        have zero : y = 0 → (c = 47 ∨ c = 37) → Wp (d + 2) C_X4_product Q 111 [vR (some 116), vJ x, vU, vI (c : Nat), vJ y, vU] [] h3 := by
          intro y0 hc2
          have hrk : rk c x y = .inl 4 := by rcases hc2 with q | q <;> subst q <;> subst y0 <;> rfl
          rw [hrk] at k
          refine ss_X4_product_111 S3 ?_
          refine se_X4_refuse S3 ?_
          exact k _ 0 (FI_sI F3 rfl) (by rw [hI_sI, if_pos ⟨rfl, rfl⟩]; rfl) (by decide)
        have k117 : (y ≠ 0 ∨ c = 42 ∨ c = 38) → Wp (d + 2) C_X4_product Q 117 [vR (some 116), vJ x, vU, vI (c : Nat), vJ y, vU] [] h3 := by
          intro hy
          refine ss_X4_product_117 S3 ?_
          rcases hc with q | q | q | q
          · subst q
            exact ip rfl (go (l_mul x y) rfl vU)
          · subst q
            have y0 : y ≠ 0 := by rcases hy with z | z | z <;> first | exact z | omega
            exact im (by decide) (im (by decide) (ip rfl ⟨y0, go (l_div x y) (by show (if y = 0 then (.inl 4 : Nat ⊕ Int) else .inr (l_div x y)) = _; rw [if_neg y0]) vU⟩))
          · subst q
            have y0 : y ≠ 0 := by rcases hy with z | z | z <;> first | exact z | omega
            exact im (by decide) (im (by decide) (im (by decide) ⟨y0, go (l_rem x y) (by show (if y = 0 then (.inl 4 : Nat ⊕ Int) else .inr (l_rem x y)) = _; rw [if_neg y0]) vU⟩))
          · subst q
            exact im (by decide) (ip rfl (go (l_and x y) rfl vU))
        by_cases y0 : y = 0
        · refine ip y0 ?_
          by_cases c47 : c = 47
          · exact ip (by omega) (zero y0 (Or.inl c47))
          · refine im (by omega) ?_
            by_cases c37 : c = 37
            · exact ip (by omega) (zero y0 (Or.inr c37))
            · exact im (by omega) (k117 (by omega))
        · exact im y0 (k117 (Or.inl y0))
    have is : ∀ c2 : Nat, decide (ts[P.length + (zk l).length]? = some (7, c2)) = decide (c = c2) := by
      intro c2
      rw [ht]
      by_cases q : c = c2
      · rw [decide_eq_true q, decide_eq_true (by rw [q])]
      · rw [decide_eq_false q, decide_eq_false (by intro z; cases z; exact q rfl)]
    refine ss_X4_product_5 S1 (ip E1.2.2.1 ?_)
    refine c_isH (c := 42) S1 hr K1 E1 ?_
    rw [is 42]
    refine ss_X4_product_18 S1 ?_
    by_cases c42 : c = 42
    · rw [decide_eq_true c42]; exact im (by decide) k48
    rw [decide_eq_false c42]
    refine ip rfl ?_
    refine c_isH (c := 47) S1 hr K1 E1 ?_
    rw [is 47]
    refine ss_X4_product_27 S1 ?_
    by_cases c47 : c = 47
    · rw [decide_eq_true c47]; exact im (by decide) k48
    rw [decide_eq_false c47]
    refine ip rfl ?_
    refine c_isH (c := 37) S1 hr K1 E1 ?_
    rw [is 37]
    refine ss_X4_product_36 S1 ?_
    by_cases c37 : c = 37
    · rw [decide_eq_true c37]; exact im (by decide) k48
    rw [decide_eq_false c37]
    refine ip rfl ?_
    refine c_isH (c := 38) S1 hr K1 E1 ?_
    rw [is 38]
    refine ss_X4_product_45 S1 ?_
    rw [decide_eq_true (by omega)]
    exact im (by decide) k48
/-- one more product -/
theorem ES_sum {h0 : hp} {σ : zS} {bi : Nat → Nat → Bool} {r c : Nat} {ts : List (Nat × Nat)} {l e : zT} (hS0 : St h0) (hr : r < 10) (hK0 : RK h0 r ts) (hc : c = 43 ∨ c = 45 ∨ c = 94 ∨ c = 124) (gl : ES h0 σ bi r ts l) (ge : EG h0 σ bi r ts e) : ES h0 σ bi r ts (zB c l e) := by
  intro h d ns is P S Q hF et hn hE hd k
  have zt : zk (zB c l e) = zk l ++ (7, c) :: zk e := (zk_two (Or.inl (zsum_of hc))).1
  have zb : zbits (zB c l e) = zbits l ||| zbits e := (zk_two (Or.inl (zsum_of hc))).2.1
  have zd : zdp (zB c l e) = max (zdp l) (zdp e) := zdp_two (Or.inl (zsum_of hc))
  rw [zd] at hd
  rw [zt] at et
  have et1 : ts = P ++ (zk l ++ ((7, c) :: (zk e ++ S))) := by rw [et]; simp
  have et2 : ts = (P ++ zk l ++ [(7, c)]) ++ (zk e ++ S) := by rw [et]; simp
  rw [ev_two (by omega)] at k
  refine gl h d ns is P _ Q hF et1 (fun x hx q => by cases hx; rcases hc with z | z | z | z <;> subst z <;> exact absurd q.2 (by decide)) hE (by omega) ?_
  cases hv : ev σ bn0 bi l with
  | inl w => rw [hv] at k; exact k
  | inr x =>
    rw [hv] at k
    dsimp only at k
    intro h1 F1 E1 v3 v4 v5
    have S1 := FI_St F1 hS0 rfl
    have K1 := RK_Fve F1 hK0
    have ht : ts[P.length + (zk l).length]? = some (7, c) := by
      rw [et1, ← List.append_assoc, ← List.length_append]; exact at_P
    obtain ⟨t1, t2, t3, t4, t5⟩ := at_tok hr K1 E1 ht
    obtain ⟨d, rfl⟩ : ∃ e, d = e + 2 := ⟨d - 2, by omega⟩
    refine ss_X4_sum_5 S1 (ip E1.2.2.1 ?_)
    refine ⟨by rw [E1.1]; omega, ?_⟩
    rw [E1.1, E1.2.1, Int.toNat_natCast, K1.2.1]
    refine ip (by omega) ?_
    refine se_X4_sortHere S1 ?_
    rw [t1, Int.toNat_natCast, t2]
    refine ⟨by omega, ?_⟩
    refine ss_X4_sum_32 S1 ?_
    rw [t1, Int.toNat_natCast, t3]
    refine ⟨by omega, ?_⟩
    refine pu_isSum S1 ?_
    refine ss_X4_sum_53 S1 ?_
    have hz : (decide ((((7, c) : Nat × Nat).1 : Int) = 7) && (decide ((((7, c) : Nat × Nat).2 : Int) = 43) || (decide ((((7, c) : Nat × Nat).2 : Int) = 45) || (decide ((((7, c) : Nat × Nat).2 : Int) = 94) || decide ((((7, c) : Nat × Nat).2 : Int) = 124))))) = true := by
      rcases hc with q | q | q | q <;> subst q <;> rfl
    rw [hz]
    refine im (by decide) ?_
    rw [t1, Int.toNat_natCast, t3, E1.2.1, na_eq (by omega) (by omega)]
    refine ⟨by omega, ?_⟩
    have lp : (P ++ zk l ++ [(7, c)]).length = P.length + (zk l).length + 1 := by simp; omega
    have F2 : Fve h0 (sI h1 116 44 (((P.length + (zk l).length : Nat) : Int) + 1)) := FI_sI F1 rfl
    have E2 : Es (sI h1 116 44 (((P.length + (zk l).length : Nat) : Int) + 1)) r (P ++ zk l ++ [(7, c)]).length (ns ||| zbits l) (fun id => is id ||| evS σ l id) := by
      rw [lp]; exact Es_p (q := P.length + (zk l).length + 1) E1
    refine EG_fn hS0 hr hK0 ge F2 et2 hn E2 (by omega) ?_
    cases hv2 : ev σ bn0 bi e with
    | inl w =>
      rw [hv2] at k
      intro h3 y F3 b3 w0
      have S3 := FI_St F3 hS0 rfl
      have fin : ∀ v (v3' v4' v5' : av), Wp (d + 2) C_X4_sum Q 5 [vR (some 116), vJ v, vU, v3', v4', v5'] [] h3 := fun v _ _ _ => ss_X4_sum_5 S3 (im (by rw [b3]; omega) (k h3 v F3 b3 w0))
      refine ss_X4_sum_89 S3 ?_
      rcases hc with q | q | q | q <;> subst q
      · exact ip rfl (fin _ _ _ _)
      · exact im (by decide) (ip rfl (fin _ _ _ _))
      · exact im (by decide) (im (by decide) (ip rfl (fin _ _ _ _)))
      · exact im (by decide) (im (by decide) (im (by decide) (fin _ _ _ _)))
    | inr y =>
      rw [hv2] at k
      dsimp only at k
      intro h3 F3 E3
      have S3 := FI_St F3 hS0 rfl
      have E3' : Es h3 r (P.length + (zk (zB c l e)).length) (ns ||| zbits (zB c l e)) (fun id => is id ||| evS σ (zB c l e) id) := by
        refine Es_or E3 ?_ ?_ (fun id => ?_)
        · rw [lp, zt]; simp; omega
        · rw [zb, Nat.or_assoc]
        · show is id ||| evS σ l id ||| evS σ e id = _; rw [evS_two (by omega), Nat.or_assoc]
      refine ss_X4_sum_89 S3 ?_
      rcases hc with q | q | q | q <;> subst q
      · exact ip rfl (k h3 F3 E3' _ _ _)
      · exact im (by decide) (ip rfl (k h3 F3 E3' _ _ _))
      · exact im (by decide) (im (by decide) (ip rfl (k h3 F3 E3' _ _ _)))
      · exact im (by decide) (im (by decide) (im (by decide) (k h3 F3 E3' _ _ _)))
