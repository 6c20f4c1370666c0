/-! m reckons: factors -/
theorem fac4 {h0 h : hp} {d r p ns : Nat} {is : Nat → Nat} {ts : List (Nat × Nat)} {x : Nat × Nat} {Q : qt} (hS : St h) (hr : r < 10) (hK : RK h r ts) (hE : Es h r p ns is) (ht : ts[p]? = some x) (k : Wp (d + 1) C_X4_factor Q 4 [vR (some 116), vU, vU, vU, vU, vU, vU, vU] [vI (x.1 : Nat)] h) : Wc (d + 2) 189 [vR (some 116)] h Q := by
  obtain ⟨t1, t2, t3, t4, t5⟩ := at_tok hr hK hE ht
  refine se_X4_factor hS ?_
  refine se_X4_sortHere hS ?_
  rw [t1, Int.toNat_natCast, t2]
  exact ⟨by omega, k⟩
theorem Es_0 {h : hp} {σ : zS} {r p q ns : Nat} {is : Nat → Nat} {e : zT} (k : Es h r p ns is) (hp : p = q) (hb : zbits e = 0) (hs : ∀ id, evS σ e id = 0) : Es h r q (ns ||| zbits e) (fun id => is id ||| evS σ e id) :=
  Es_or k hp (by rw [hb, Nat.or_zero]) (fun id => by rw [hs, Nat.or_zero])
theorem EF_num {h0 : hp} {σ : zS} {bi : Nat → Nat → Bool} {r : Nat} {ts : List (Nat × Nat)} (hS0 : St h0) (hr : r < 10) (hK0 : RK h0 r ts) (l q : zT) : EF h0 σ bi r ts (zB 2 l q) := by
  intro h d ns is P S Q hF et hE hd k
  obtain ⟨d, rfl⟩ : ∃ e, d = e + 2 := ⟨d - 2, by omega⟩
  have hS := FI_St hF hS0 rfl
  have K1 := RK_Fve hF hK0
  have et' : ts = P ++ (2, zn l) :: S := et
  have ht : ts[P.length]? = some (2, zn l) := by rw [et']; exact at_P
  obtain ⟨t1, t2, t3, t4, t5⟩ := at_tok hr K1 hE ht
  refine fac4 (h0 := h0) hS hr K1 hE ht ?_
  refine ss_X4_factor_4 hS ?_
  rw [t1, Int.toNat_natCast, t3, hE.2.1, na_eq (by omega) (by omega)]
  refine ⟨by omega, ip rfl ?_⟩
  exact k _ (FI_sI hF rfl) (Es_0 (Es_p (q := P.length + 1) hE) rfl rfl (fun _ => rfl))
theorem EF_nam {h0 : hp} {σ : zS} {bi : Nat → Nat → Bool} {r : Nat} {ts : List (Nat × Nat)} (hS0 : St h0) (hr : r < 10) (hK0 : RK h0 r ts) (hV : MV h0 σ) (l q : zT) (hx : zn l < 26) : EF h0 σ bi r ts (zB 1 l q) := by
  intro h d ns is P S Q hF et hE hd k
  obtain ⟨d, rfl⟩ : ∃ e, d = e + 2 := ⟨d - 2, by omega⟩
  have hS := FI_St hF hS0 rfl
  have K1 := RK_Fve hF hK0
  have V1 : MV h σ := MV_FI hF rfl rfl hV
  have et' : ts = P ++ (1, zn l) :: S := et
  have ht : ts[P.length]? = some (1, zn l) := by rw [et']; exact at_P
  obtain ⟨t1, t2, t3, t4, t5⟩ := at_tok hr K1 hE ht
  obtain ⟨⟨th, th1, th2, th3⟩, vv, -⟩ := V1
  refine fac4 (h0 := h0) hS hr K1 hE ht ?_
  refine ss_X4_factor_4 hS ?_
  rw [t1, Int.toNat_natCast, t3, hE.2.1, na_eq (by omega) (by omega), hE.2.2.2.2.1, th2]
  show _ ∧ (if ((1 : Nat) : Int) = 2 then _ else (if ((1 : Nat) : Int) = 1 then (if n_and (n_shr ((th : Nat) : Int) ((zn l : Nat) : Int)) 1 = 1 then _ else _) else _))
  rw [bit_at (by omega) (by omega)]
  have b := bit_or hE.2.2.2.1 hx
  refine ⟨by omega, im (by decide) (ip rfl ?_)⟩
  have e0 := th3 (zn l) hx
  have kev : ev σ bn0 bi (zB 1 l q) = if σ 0 (zn l) = 0 then .inl 1 else .inr (σ 1 (zn l)) := by
    show (if σ 0 (zn l) = 0 then (.inl 1 : Nat ⊕ Int) else if bn0 (zn l) = true then .inl 6 else .inr (σ 1 (zn l))) = _
    rw [if_neg (show ¬ bn0 (zn l) = true from Bool.false_ne_true)]
  rw [kev] at k
  have F2 : Fve h0 (sI (sI h 116 44 (((P.length : Nat) : Int) + 1)) 116 47 (n_or ((ns : Nat) : Int) (n_shl 1 ((zn l : Nat) : Int)))) := FI_sI (FI_sI hF rfl) rfl
  have S2 := FI_St F2 hS0 rfl
  cases hb : th.testBit (zn l) with
  | true =>
    rw [hb] at e0
    rw [if_neg (by rw [e0]; decide)] at k
    refine ip rfl ⟨by show (0 : Int) ≤ ((zn l : Nat) : Int) ∧ ((zn l : Nat) : Int) < 26; omega, ?_⟩
    refine ss_X4_factor_86 S2 ?_
    have ev1 : hI h 134 (((1, zn l) : Nat × Nat).2 : Int).toNat = σ 1 (zn l) := by
      show hI h 134 (((zn l : Nat) : Int)).toNat = _
      rw [Int.toNat_natCast]
      exact vv (zn l) hx (by rw [e0]; rfl)
    rw [ev1]
    refine k _ F2 ?_
    obtain ⟨a1, a2, a3, a4, a5, a6⟩ := Es_p (q := P.length + 1) hE
    refine ⟨by rw [hI_sI, if_neg (by omega)]; exact a1, by rw [hI_sI, if_neg (by omega)]; exact a2, by rw [hI_sI, if_neg (by omega)]; exact a3, Nat.or_lt_two_pow a4 (shl26 hx).2, by rw [hI_sI, if_pos ⟨rfl, rfl⟩, b]; rfl, fun id hi => ?_⟩
    have e1 : is id ||| evS σ (zB 1 l q) id = is id := Nat.or_zero _
    refine ⟨by show is id ||| evS σ (zB 1 l q) id < _; rw [e1]; exact (a6 id hi).1, ?_⟩
    rw [hI_sI, if_neg (by omega)]
    show _ = ((is id ||| evS σ (zB 1 l q) id : Nat) : Int)
    rw [e1]; exact (a6 id hi).2
  | false =>
    rw [hb] at e0
    rw [if_pos (by rw [e0]; rfl)] at k
    refine im (by decide) ?_
    refine se_X4_refuse S2 ?_
    have F3 := FI_sI F2 (b := 116) (j := 46) (x := 1) rfl
    refine ss_X4_factor_86 (FI_St F3 hS0 rfl) ?_
    exact k _ _ F3 (by rw [hI_sI, if_pos ⟨rfl, rfl⟩]; rfl) (by decide)
theorem EF_size {h0 : hp} {σ : zS} {bi : Nat → Nat → Bool} {r : Nat} {ts : List (Nat × Nat)} (hS0 : St h0) (hr : r < 10) (hK0 : RK h0 r ts) (hV : MV h0 σ) (l q : zT) (hx : zn l < 6) : EF h0 σ bi r ts (zB 35 l q) := by
  intro h d ns is P S Q hF et hE hd k
  obtain ⟨d, rfl⟩ : ∃ e, d = e + 2 := ⟨d - 2, by omega⟩
  have hS := FI_St hF hS0 rfl
  have K1 := RK_Fve hF hK0
  have V1 : MV h σ := MV_FI hF rfl rfl hV
  have et' : ts = P ++ (7, 35) :: (3, zn l) :: S := et
  have ht : ts[P.length]? = some (7, 35) := by rw [et']; exact at_P
  have ht2 : ts[P.length + 1]? = some (3, zn l) := by rw [et']; simp
  obtain ⟨t1, t2, t3, t4, t5⟩ := at_tok hr K1 hE ht
  have hl := K1.1
  have hlen : ts.length = P.length + S.length + 2 := by rw [et']; simp; omega
  have e2 := K1.2.2 _ _ ht2
  obtain ⟨-, -, v2, v3, -⟩ := V1
  obtain ⟨y1, y2, y3⟩ := v2 (zn l) (by omega)
  refine fac4 (h0 := h0) hS hr K1 hE ht ?_
  refine ss_X4_factor_4 hS ?_
  have i2 : n_add (n_mul 1600 (hI h 116 45)) (n_add (hI h 116 44) 1) = ((1600 * r + (P.length + 1) : Nat) : Int) := by
    rw [hE.1, hE.2.1, na_eq (x := ((P.length : Nat) : Int)) (by omega) (by omega)]; exact ix (t := P.length + 1) hr (by omega)
  rw [i2, t1, Int.toNat_natCast, Int.toNat_natCast, t3, e2.2, hE.2.1, na_eq (x := ((P.length : Nat) : Int)) (by omega) (by omega), na_eq (by omega) (by omega)]
  have i3 : ((((3, zn l) : Nat × Nat).2 : Nat) : Int).toNat = zn l := Int.toNat_natCast _
  rw [i3, y1]
  refine ⟨by omega, im (by decide) (im (by decide) (im (by decide) (im (by decide) (ip rfl ⟨by omega, by show (0 : Int) ≤ ((zn l : Nat) : Int) ∧ ((zn l : Nat) : Int) < 14; omega, ?_⟩))))⟩
  have kev : ev σ bn0 bi (zB 35 l q) = if σ 2 (zn l) < 0 then .inl 2 else .inr (σ 4 (σ 2 (zn l)).toNat) := rfl
  rw [kev] at k
  have F2 : Fve h0 (sI (sI h 116 44 (((P.length : Nat) : Int) + 1)) 116 44 (((P.length : Nat) : Int) + 1 + 1)) := FI_sI (FI_sI hF rfl) rfl
  have S2 := FI_St F2 hS0 rfl
  by_cases s0 : σ 2 (zn l) < 0
  · rw [if_pos s0] at k
    refine ip s0 ?_
    refine se_X4_refuse S2 ?_
    have F3 := FI_sI F2 (b := 116) (j := 46) (x := 2) rfl
    have S3 := FI_St F3 hS0 rfl
    refine ss_X4_factor_288 S3 (ss_X4_factor_298 S3 ?_)
    exact k _ _ F3 (by rw [hI_sI, if_pos ⟨rfl, rfl⟩]; rfl) (by decide)
  · rw [if_neg s0] at k
    obtain ⟨y4, y5, y6, y7⟩ := v3 (σ 2 (zn l)).toNat (by omega)
    rw [y5]
    refine im s0 ⟨by omega, ?_⟩
    refine ss_X4_factor_298 S2 ?_
    exact k _ F2 (Es_0 (Es_p (q := P.length + 2) (Es_p (q := P.length + 1) hE)) rfl rfl (fun _ => rfl))
theorem EF_minus {h0 : hp} {σ : zS} {bi : Nat → Nat → Bool} {r : Nat} {ts : List (Nat × Nat)} (hS0 : St h0) (hr : r < 10) (hK0 : RK h0 r ts) (l q : zT) (g : EF h0 σ bi r ts l) : EF h0 σ bi r ts (zB 8 l q) := by
  intro h d ns is P S Q hF et hE hd k
  have hd' : 4 * (zdp l + 1) + 4 ≤ d := hd
  obtain ⟨d, rfl⟩ : ∃ e, d = e + 2 := ⟨d - 2, by omega⟩
  have hS := FI_St hF hS0 rfl
  have K1 := RK_Fve hF hK0
  have et' : ts = P ++ (8, 45) :: (zk l ++ S) := et
  have et2 : ts = (P ++ [(8, 45)]) ++ (zk l ++ S) := by rw [et']; simp
  have ht : ts[P.length]? = some (8, 45) := by rw [et']; exact at_P
  obtain ⟨t1, t2, t3, t4, t5⟩ := at_tok hr K1 hE ht
  have kev : ev σ bn0 bi (zB 8 l q) = (match ev σ bn0 bi l with
      | .inl w => .inl w
      | .inr v => .inr (l_neg v)) := rfl
  rw [kev] at k
  refine fac4 (h0 := h0) hS hr K1 hE ht ?_
  refine ss_X4_factor_4 hS ?_
  rw [t1, Int.toNat_natCast, t3, hE.2.1, na_eq (by omega) (by omega)]
  refine ⟨by omega, im (by decide) (im (by decide) (ip rfl ?_))⟩
  have lp : (P ++ [(8, 45)]).length = P.length + 1 := by simp
  have F2 : Fve h0 (sI h 116 44 (((P.length : Nat) : Int) + 1)) := FI_sI hF rfl
  refine g _ (d + 1) ns is _ S _ F2 et2 (by rw [lp]; exact Es_p (q := P.length + 1) hE) (by omega) ?_
  cases hv : ev σ bn0 bi l with
  | inl w =>
    rw [hv] at k
    intro h3 x F3 b3 w0
    exact ss_X4_factor_97 (FI_St F3 hS0 rfl) (k h3 _ F3 b3 w0)
  | inr v =>
    rw [hv] at k
    intro h3 F3 E3
    refine ss_X4_factor_97 (FI_St F3 hS0 rfl) ?_
    have e0 : l_sub 0 v = l_neg v := by unfold l_sub l_neg; rw [Int.zero_sub]
    rw [e0]
    refine k h3 F3 (Es_or E3 ?_ rfl (fun _ => rfl))
    rw [lp]; show _ = P.length + ((8, 45) :: zk l).length; simp; omega
theorem zsp_no {c : Nat} (h : c = 41 ∨ c = 93 ∨ c = 60 ∨ c = 61) {S : List (Nat × Nat)} : nxt zsp ((7, c) :: S) := by
  intro x hx q
  cases hx
  rcases h with e | e | e | e <;> subst e <;> exact absurd q.2 (by decide)
theorem EF_paren {h0 : hp} {σ : zS} {bi : Nat → Nat → Bool} {r : Nat} {ts : List (Nat × Nat)} (hS0 : St h0) (hr : r < 10) (hK0 : RK h0 r ts) (l q : zT) (g : ES h0 σ bi r ts l) : EF h0 σ bi r ts (zB 40 l q) := by
  intro h d ns is P S Q hF et hE hd k
  have hd' : 4 * (zdp l + 1) + 4 ≤ d := hd
  obtain ⟨d, rfl⟩ : ∃ e, d = e + 3 := ⟨d - 3, by omega⟩
  have hS := FI_St hF hS0 rfl
  have K1 := RK_Fve hF hK0
  have et' : ts = P ++ ((7, 40) :: (zk l ++ [(7, 41)]) ++ S) := et
  have et2 : ts = (P ++ [(7, 40)]) ++ (zk l ++ (7, 41) :: S) := by rw [et']; simp
  have ht : ts[P.length]? = some (7, 40) := by rw [et']; simp
  obtain ⟨t1, t2, t3, t4, t5⟩ := at_tok hr K1 hE ht
  have kev : ev σ bn0 bi (zB 40 l q) = ev σ bn0 bi l := rfl
  rw [kev] at k
  refine fac4 (h0 := h0) hS hr K1 hE ht ?_
  refine ss_X4_factor_4 hS ?_
  rw [t1, Int.toNat_natCast, t3, hE.2.1, na_eq (by omega) (by omega)]
  refine ⟨by omega, im (by decide) (im (by decide) (im (by decide) (im (by decide) (im (by decide) ?_))))⟩
  have lp : (P ++ [(7, 40)]).length = P.length + 1 := by simp
  have F2 : Fve h0 (sI h 116 44 (((P.length : Nat) : Int) + 1)) := FI_sI hF rfl
  refine ES_fn hS0 hr hK0 g F2 et2 (zsp_no (by omega)) (by rw [lp]; exact Es_p (q := P.length + 1) hE) (by omega) ?_
  cases hv : ev σ bn0 bi l with
  | inl w =>
    rw [hv] at k
    intro h3 x F3 b3 w0
    have S3 := FI_St F3 hS0 rfl
    refine ss_X4_factor_303 S3 (im (by rw [b3]; omega) (ss_X4_factor_372 S3 ?_))
    exact k _ _ (FI_sI F3 rfl) (by rw [hI_sI, if_neg (by omega)]; exact b3) w0
  | inr v =>
    rw [hv] at k
    intro h3 F3 E3
    have S3 := FI_St F3 hS0 rfl
    have K3 := RK_Fve F3 hK0
    refine ss_X4_factor_303 S3 (ip E3.2.2.1 ?_)
    refine c_isH (c := 41) S3 hr K3 E3 ?_
    have ht3 : ts[(P ++ [(7, 40)]).length + (zk l).length]? = some (7, 41) := by
      rw [et2, ← List.append_assoc, ← List.length_append]; exact at_P
    rw [ht3, decide_eq_true rfl]
    refine ss_X4_factor_317 S3 (im (by decide) (ss_X4_factor_372 S3 ?_))
    have hl := K1.1
    have hlen : ts.length = P.length + (zk l).length + S.length + 2 := by rw [et']; simp; omega
    rw [E3.2.1, na_eq (by rw [lp]; omega) (by rw [lp]; omega)]
    refine k _ (FI_sI F3 rfl) (Es_or (Es_p (q := (P ++ [(7, 40)]).length + (zk l).length + 1) E3) ?_ rfl (fun _ => rfl))
    rw [lp]; show _ = P.length + ((7, 40) :: (zk l ++ [(7, 41)])).length; simp; omega
theorem EF_cmp {h0 : hp} {σ : zS} {bi : Nat → Nat → Bool} {r c : Nat} {ts : List (Nat × Nat)} (hS0 : St h0) (hr : r < 10) (hK0 : RK h0 r ts) (hc : c = 60 ∨ c = 61) (l q : zT) (g : ES h0 σ bi r ts l) (g2 : ES h0 σ bi r ts q) : EF h0 σ bi r ts (zB c l q) := by
  intro h d ns is P S Q hF et hE hd k
  have zt : zk (zB c l q) = (7, 40) :: (zk l ++ (7, c) :: (zk q ++ [(7, 41)])) := (zk_cmp hc).1
  have zb : zbits (zB c l q) = zbits l ||| zbits q := (zk_cmp hc).2.1
  have zd : zdp (zB c l q) = max (zdp l) (zdp q) + 1 := by rcases hc with e | e <;> subst e <;> rfl
  rw [zd] at hd
  rw [zt] at et
  obtain ⟨d, rfl⟩ : ∃ e, d = e + 3 := ⟨d - 3, by omega⟩
  have hS := FI_St hF hS0 rfl
  have K1 := RK_Fve hF hK0
  have et2 : ts = (P ++ [(7, 40)]) ++ (zk l ++ (7, c) :: (zk q ++ (7, 41) :: S)) := by rw [et]; simp
  have et3 : ts = (P ++ [(7, 40)] ++ zk l ++ [(7, c)]) ++ (zk q ++ (7, 41) :: S) := by rw [et]; simp
  have ht : ts[P.length]? = some (7, 40) := by rw [et]; simp
  have hl := K1.1
  have hlen : ts.length = P.length + (zk l).length + (zk q).length + S.length + 3 := by rw [et]; simp; omega
  obtain ⟨t1, t2, t3, t4, t5⟩ := at_tok hr K1 hE ht
  rw [ev_two (by omega)] at k
  refine fac4 (h0 := h0) hS hr K1 hE ht ?_
  refine ss_X4_factor_4 hS ?_
  rw [t1, Int.toNat_natCast, t3, hE.2.1, na_eq (by omega) (by omega)]
  refine ⟨by omega, im (by decide) (im (by decide) (im (by decide) (im (by decide) (im (by decide) ?_))))⟩
  have lp : (P ++ [(7, 40)]).length = P.length + 1 := by simp
  have F2 : Fve h0 (sI h 116 44 (((P.length : Nat) : Int) + 1)) := FI_sI hF rfl
  refine ES_fn hS0 hr hK0 g F2 et2 (zsp_no (by omega)) (by rw [lp]; exact Es_p (q := P.length + 1) hE) (by omega) ?_
  cases hv : ev σ bn0 bi l with
  | inl w =>
    rw [hv] at k
    intro h3 x F3 b3 w0
    have S3 := FI_St F3 hS0 rfl
    refine ss_X4_factor_303 S3 (im (by rw [b3]; omega) (ss_X4_factor_372 S3 ?_))
    exact k _ _ (FI_sI F3 rfl) (by rw [hI_sI, if_neg (by omega)]; exact b3) w0
  | inr v =>
    rw [hv] at k
    dsimp only at k
    intro h3 F3 E3
    have S3 := FI_St F3 hS0 rfl
    have K3 := RK_Fve F3 hK0
    refine ss_X4_factor_303 S3 (ip E3.2.2.1 ?_)
    refine c_isH (c := 41) S3 hr K3 E3 ?_
    have ht3 : ts[(P ++ [(7, 40)]).length + (zk l).length]? = some (7, c) := by
      rw [et2, ← List.append_assoc, ← List.length_append]; exact at_P
    rw [ht3, decide_eq_false (by intro z; cases z; omega)]
    refine ss_X4_factor_317 S3 (ip rfl ?_)
    refine c_isH (c := 60) S3 hr K3 E3 ?_
    rw [ht3]
    refine ss_X4_factor_326 S3 ?_
    rw [E3.2.1, na_eq (by rw [lp]; omega) (by rw [lp]; omega)]
    have lp2 : (P ++ [(7, 40)] ++ zk l ++ [(7, c)]).length = (P ++ [(7, 40)]).length + (zk l).length + 1 := by simp; omega
    have F4 : Fve h0 (sI h3 116 44 ((((P ++ [(7, 40)]).length + (zk l).length : Nat) : Int) + 1)) := FI_sI F3 rfl
    refine ES_fn hS0 hr hK0 g2 F4 et3 (zsp_no (by omega)) (by rw [lp2]; exact Es_p (q := (P ++ [(7, 40)]).length + (zk l).length + 1) E3) (by omega) ?_
    cases hv2 : ev σ bn0 bi q with
    | inl w =>
      rw [hv2] at k
      intro h5 x F5 b5 w0
      have S5 := FI_St F5 hS0 rfl
      have fin : ∀ (u : Int) (v5 v6 v7 : av), Wp (d + 2) C_X4_factor Q 372 [vR (some 116), vI 7, vI 40, vJ u, vU, v5, v6, v7] [] h5 := fun u _ _ _ => ss_X4_factor_372 S5 (k _ u (FI_sI F5 rfl) (by rw [hI_sI, if_neg (by omega)]; exact b5) w0)
      have f66 := fun v5 => ss_X4_factor_366 (v1 := 7) (v2 := 40) (v3 := v) (v5 := v5) (v6 := x) (d := d + 2) (Q := Q) S5 (ss_X4_factor_371 S5 (fin 1 _ _ _))
      have f70 := fun v5 => ss_X4_factor_370 (v1 := 7) (v2 := 40) (v3 := v) (v5 := v5) (v6 := x) (d := d + 2) (Q := Q) S5 (ss_X4_factor_371 S5 (fin 0 _ _ _))
      refine ss_X4_factor_342 S5 ?_
      split
      · split
        · exact f66 _
        · exact f70 _
      · split
        · exact f66 _
        · exact f70 _
    | inr y =>
      rw [hv2] at k
      dsimp only at k
      intro h5 F5 E5
      have S5 := FI_St F5 hS0 rfl
      have lz : (P ++ [(7, 40)] ++ zk l ++ [(7, c)]).length + (zk q).length + 1 = P.length + (zk (zB c l q)).length := by rw [lp2, lp, zt]; simp; omega
      have fin : ∀ (u : Int) (v5 v6 v7 : av), rk c v y = .inr u → Wp (d + 2) C_X4_factor Q 372 [vR (some 116), vI 7, vI 40, vJ u, vU, v5, v6, v7] [] h5 := by
        intro u _ _ _ hu
        rw [hu] at k
        refine ss_X4_factor_372 S5 ?_
        rw [E5.2.1, na_eq (by rw [lp2, lp]; omega) (by rw [lp2, lp]; omega)]
        refine k _ (FI_sI F5 rfl) (Es_or (Es_p (q := (P ++ [(7, 40)] ++ zk l ++ [(7, c)]).length + (zk q).length + 1) E5) lz ?_ (fun id => ?_))
        · rw [zb, Nat.or_assoc]
        · show is id ||| evS σ l id ||| evS σ q id = _; rw [evS_two (by omega), Nat.or_assoc]
      have f66 := fun v5 (hu : rk c v y = .inr 1) => ss_X4_factor_366 (v1 := 7) (v2 := 40) (v3 := v) (v5 := v5) (v6 := y) (d := d + 2) (Q := Q) S5 (ss_X4_factor_371 S5 (fin 1 _ _ _ hu))
      have f70 := fun v5 (hu : rk c v y = .inr 0) => ss_X4_factor_370 (v1 := 7) (v2 := 40) (v3 := v) (v5 := v5) (v6 := y) (d := d + 2) (Q := Q) S5 (ss_X4_factor_371 S5 (fin 0 _ _ _ hu))
      refine ss_X4_factor_342 S5 ?_
      rcases hc with e | e
      · subst e
        rw [decide_eq_true rfl]
        refine im (by decide) ?_
        by_cases lt : v < y
        · exact ip lt (f66 _ (by show (.inr (if v < y then 1 else 0) : Nat ⊕ Int) = _; rw [if_pos lt]))
        · exact im lt (f70 _ (by show (.inr (if v < y then 1 else 0) : Nat ⊕ Int) = _; rw [if_neg lt]))
      · subst e
        rw [decide_eq_false (by decide)]
        refine ip rfl ?_
        by_cases lt : v = y
        · exact ip lt (f66 _ (by show (.inr (if v = y then 1 else 0) : Nat ⊕ Int) = _; rw [if_pos lt]))
        · exact im lt (f70 _ (by show (.inr (if v = y then 1 else 0) : Nat ⊕ Int) = _; rw [if_neg lt]))
