/-! m reckons: items; all -/
theorem EF_item {h0 : hp} {σ : zS} {bi : Nat → Nat → Bool} {r : Nat} {ts : List (Nat × Nat)} (hS0 : St h0) (hr : r < 10) (hK0 : RK h0 r ts) (hV : MV h0 σ) (hB : MB h0 bi) (l i : zT) (hx : zn l < 6) (g : ES h0 σ bi r ts i) : EF h0 σ bi r ts (zB 3 l i) := by
  intro h d ns is P S Q hF et hE hd k
  have hd' : 4 * (zdp i + 1) + 4 ≤ d := hd
  obtain ⟨d, rfl⟩ : ∃ e, d = e + 2 := ⟨d - 2, by omega⟩
  have hS := FI_St hF hS0 rfl
  have K1 := RK_Fve hF hK0
  have et' : ts = P ++ ((3, zn l) :: (7, 91) :: (zk i ++ [(7, 93)]) ++ S) := et
  have et2 : ts = (P ++ [(3, zn l), (7, 91)]) ++ (zk i ++ (7, 93) :: S) := by rw [et']; simp
  have ht : ts[P.length]? = some (3, zn l) := by rw [et']; simp
  have hl := K1.1
  have hlen : ts.length = P.length + (zk i).length + S.length + 3 := by rw [et']; simp; omega
  obtain ⟨t1, t2, t3, t4, t5⟩ := at_tok hr K1 hE ht
  refine fac4 (h0 := h0) hS hr K1 hE ht ?_
  refine ss_X4_factor_4 hS ?_
  rw [t1, Int.toNat_natCast, t3, hE.2.1, na_eq (by omega) (by omega), na_eq (by omega) (by omega)]
  refine ⟨by omega, im (show ¬ ((3 : Nat) : Int) = 2 by decide) (im (show ¬ ((3 : Nat) : Int) = 1 by decide) (im (show ¬ ((3 : Nat) : Int) = 8 by decide) (ip rfl ?_)))⟩
  have lp : (P ++ [(3, zn l), (7, 91)]).length = P.length + 2 := by simp
  have F2 : Fve h0 (sI (sI h 116 44 (((P.length : Nat) : Int) + 1)) 116 44 (((P.length : Nat) : Int) + 1 + 1)) := FI_sI (FI_sI hF rfl) rfl
  refine ES_fn hS0 hr hK0 g F2 et2 (zsp_no (by omega)) (by rw [lp]; exact Es_p (q := P.length + 2) (Es_p (q := P.length + 1) hE)) (by omega) ?_
  have kev : ev σ bn0 bi (zB 3 l i) = (match ev σ bn0 bi i with
      | .inl w => .inl w
      | .inr j => if σ 2 (zn l) < 0 then .inl 2 else if j < 0 ∨ σ 4 (σ 2 (zn l)).toNat ≤ j then .inl 3 else if bi (σ 2 (zn l)).toNat j.toNat = true then .inl 6 else .inr (σ 5 (12 * (σ 2 (zn l)).toNat + j.toNat))) := rfl
  rw [kev] at k
  cases hv : ev σ bn0 bi i with
  | inl w =>
    rw [hv] at k
    intro h3 x F3 b3 w0
    have S3 := FI_St F3 hS0 rfl
    refine ss_X4_factor_121 S3 (im (by rw [b3]; omega) ?_)
    exact k _ _ (FI_sI F3 rfl) (by rw [hI_sI, if_neg (by omega)]; exact b3) w0
  | inr j =>
    rw [hv] at k
    dsimp only at k
    intro h3 F3 E3
    have S3 := FI_St F3 hS0 rfl
    obtain ⟨-, -, v2, v3, v4, -⟩ : MV h3 σ := MV_FI F3 rfl rfl hV
    obtain ⟨y1, y2, y3⟩ := v2 (zn l) (by omega)
    have B3 := MB_Fve F3 hB
    refine ss_X4_factor_121 S3 (ip E3.2.2.1 ?_)
    have i3 : ((((3, zn l) : Nat × Nat).2 : Nat) : Int).toNat = zn l := Int.toNat_natCast _
    rw [i3, y1, E3.2.1, na_eq (by rw [lp]; omega) (by rw [lp]; omega)]
    refine ⟨by show (0 : Int) ≤ ((zn l : Nat) : Int) ∧ ((zn l : Nat) : Int) < 14; omega, ?_⟩
    have F4 : Fve h0 (sI h3 116 44 ((((P ++ [(3, zn l), (7, 91)]).length + (zk i).length : Nat) : Int) + 1)) := FI_sI F3 rfl
    have S4 := FI_St F4 hS0 rfl
    have E4 := Es_p (q := (P ++ [(3, zn l), (7, 91)]).length + (zk i).length + 1) E3
    by_cases s0 : σ 2 (zn l) < 0
    · rw [if_pos s0] at k
      refine ip s0 ?_
      refine se_X4_refuse S4 ?_
      exact k _ _ (FI_sI F4 rfl) (by rw [hI_sI, if_pos ⟨rfl, rfl⟩]; rfl) (by decide)
    · rw [if_neg s0] at k
      obtain ⟨id, hid⟩ : ∃ id : Nat, σ 2 (zn l) = (id : Nat) := ⟨(σ 2 (zn l)).toNat, by omega⟩
      rw [hid, Int.toNat_natCast] at k
      rw [hid, Int.toNat_natCast]
      obtain ⟨y4, y5, y6, y7⟩ := v3 id (by omega)
      rw [y5]
      refine im (by omega) ?_
      have k179 : (j < 0 ∨ σ 4 id ≤ j) → Wp (d + 1) C_X4_factor Q 179 [vR (some 116), vI 3, vI (zn l : Nat), vJ j, vU, vI (id : Nat), vU, vU] [] (sI h3 116 44 ((((P ++ [(3, zn l), (7, 91)]).length + (zk i).length : Nat) : Int) + 1)) := by
        intro q
        rw [if_pos q] at k
        refine ss_X4_factor_179 S4 ?_
        refine se_X4_refuse S4 ?_
        exact k _ _ (FI_sI F4 rfl) (by rw [hI_sI, if_pos ⟨rfl, rfl⟩]; rfl) (by decide)
      by_cases j0 : j < 0
      · exact ip j0 (k179 (Or.inl j0))
      · refine im j0 ⟨by omega, ?_⟩
        by_cases js : j < σ 4 id
        · refine ip js ?_
          rw [if_neg (by omega)] at k
          obtain ⟨jn, hjn⟩ : ∃ jn : Nat, j = (jn : Nat) := ⟨j.toNat, by omega⟩
          subst hjn
          rw [Int.toNat_natCast] at k
          have bb := B3 id jn
          have k211 : bi id jn = false → Wp (d + 1) C_X4_factor Q 211 [vR (some 116), vI 3, vI (zn l : Nat), vJ (jn : Nat), vU, vI (id : Nat), vU, vU] [] (sI h3 116 44 ((((P ++ [(3, zn l), (7, 91)]).length + (zk i).length : Nat) : Int) + 1)) := by
            intro hb
            rw [if_neg (by rw [hb]; decide)] at k
            refine ss_X4_factor_211 S4 ?_
            have jn12 : jn < 12 := by omega
            rw [l2i_eq (by omega) (by omega), nm_eq (by omega) (by omega), na_eq (by omega) (by omega), Int.toNat_natCast, show ((12 : Int) * (id : Nat) + (jn : Nat)).toNat = 12 * id + jn by omega]
            refine ⟨by omega, by omega, by omega, ?_⟩
            have e138 : hL (sI h3 116 44 ((((P ++ [(3, zn l), (7, 91)]).length + (zk i).length : Nat) : Int) + 1)) 138 (12 * id + jn) = σ 5 (12 * id + jn) := v4 _ (by omega)
            rw [e138]
            obtain ⟨a1, a2, a3, a4, a5, a6⟩ := E4
            have ai := a6 id (by omega)
            have p12 : 2 ^ jn < 2 ^ 12 := Nat.pow_lt_pow_right (by decide) jn12
            have eor : n_or (hI (sI h3 116 44 ((((P ++ [(3, zn l), (7, 91)]).length + (zk i).length : Nat) : Int) + 1)) 141 id) (n_shl 1 (jn : Int)) = (((is id ||| evS σ i id) ||| 2 ^ jn : Nat) : Int) := by
              have a7 : hI (sI h3 116 44 ((((P ++ [(3, zn l), (7, 91)]).length + (zk i).length : Nat) : Int) + 1)) 141 id = ((is id ||| evS σ i id : Nat) : Int) := ai.2
              rw [a7, shl1 jn (by omega)]
              have a8 : is id ||| evS σ i id < 2 ^ 12 := ai.1
              exact or_nat (by omega) (by omega)
            rw [eor]
            refine k _ (FI_sI F4 rfl) ?_
            have hun := ev_un i _ hv
            have es : ∀ id', evS σ (zB 3 l i) id' = evS σ i id' ||| (if id = id' then 2 ^ jn else 0) := by
              intro id'
              show evS σ i id' ||| (match ev σ bn0 bi0 i with
                | .inl _ => 0
                | .inr i => if σ 2 (zn l) = (id' : Nat) then 2 ^ i.toNat else 0) = _
              rw [hun]
              dsimp only
              rw [hid, Int.toNat_natCast]
              by_cases q : id = id'
              · rw [if_pos q, if_pos (by rw [q])]
              · rw [if_neg q, if_neg (by omega)]
            refine ⟨by rw [hI_sI, if_neg (by omega)]; exact a1, ?_, by rw [hI_sI, if_neg (by omega)]; exact a3, a4, by rw [hI_sI, if_neg (by omega)]; exact a5, fun id' hi => ?_⟩
            · rw [hI_sI, if_neg (by omega)]
              refine Eq.trans a2 ?_
              rw [lp]
              show _ = ((P.length + ((3, zn l) :: (7, 91) :: (zk i ++ [(7, 93)])).length : Nat) : Int)
              simp; omega
            · show (is id' ||| evS σ (zB 3 l i) id' < 2 ^ 12) ∧ hI _ 141 id' = ((is id' ||| evS σ (zB 3 l i) id' : Nat) : Int)
              rw [es id']
              by_cases q : id = id'
              · subst q
                rw [if_pos rfl, ← Nat.or_assoc, hI_sI, if_pos ⟨rfl, rfl⟩]
                exact ⟨Nat.or_lt_two_pow ai.1 p12, rfl⟩
              · rw [if_neg q, Nat.or_zero, hI_sI, if_neg (fun z => q z.2.symm)]
                exact a6 id' hi
          by_cases q49 : ((id : Nat) : Int) = hI h3 116 49
          · refine ip q49 ?_
            by_cases q50 : ((jn : Nat) : Int) = hI h3 116 50
            · rw [if_pos (by rw [bb]; exact decide_eq_true ⟨q49.symm, q50.symm⟩)] at k
              refine ip q50 ?_
              refine se_X4_refuse S4 ?_
              exact k _ _ (FI_sI F4 rfl) (by rw [hI_sI, if_pos ⟨rfl, rfl⟩]; rfl) (by decide)
            · exact im q50 (k211 (by rw [bb]; exact decide_eq_false (fun z => q50 z.2.symm)))
          · exact im q49 (k211 (by rw [bb]; exact decide_eq_false (fun z => q49 z.1.symm)))
        · exact im js (k179 (Or.inr (by omega)))
theorem ev_all {h0 : hp} {σ : zS} {bi : Nat → Nat → Bool} {r : Nat} {ts : List (Nat × Nat)} (hS0 : St h0) (hr : r < 10) (hK0 : RK h0 r ts) (hV : MV h0 σ) (hB : MB h0 bi) : ∀ e : zT, (zok e 2 → EF h0 σ bi r ts e) ∧ (zok e 1 → EG h0 σ bi r ts e) ∧ (zok e 0 → ES h0 σ bi r ts e) := by
  intro e
  induction e with
  | leaf n => exact ⟨fun z => z.elim, fun z => z.elim, fun z => z.elim⟩
  | branch c l q ihl ihr =>
    have up : (EF h0 σ bi r ts (zB c l q)) → (zok (zB c l q) 2 → EF h0 σ bi r ts (zB c l q)) ∧ (zok (zB c l q) 1 → EG h0 σ bi r ts (zB c l q)) ∧ (zok (zB c l q) 0 → ES h0 σ bi r ts (zB c l q)) := fun f => ⟨fun _ => f, fun _ => EG_F hS0 f, fun _ => ES_G hS0 hr hK0 (EG_F hS0 f)⟩
    by_cases k1 : c = 1
    · subst k1
      by_cases hx : zn l < 26
      · exact up (EF_nam hS0 hr hK0 hV l q hx)
      · exact ⟨fun z => absurd z hx, fun z => absurd z hx, fun z => absurd z hx⟩
    by_cases k2 : c = 2
    · subst k2; exact up (EF_num hS0 hr hK0 l q)
    by_cases k35 : c = 35
    · subst k35
      by_cases hx : zn l < 6
      · exact up (EF_size hS0 hr hK0 hV l q hx)
      · exact ⟨fun z => absurd z hx, fun z => absurd z hx, fun z => absurd z hx⟩
    by_cases k3 : c = 3
    · subst k3
      have f : zok (zB 3 l q) 0 → EF h0 σ bi r ts (zB 3 l q) := fun z => EF_item hS0 hr hK0 hV hB l q z.1 (ihr.2.2 z.2)
      exact ⟨fun z => f z, fun z => EG_F hS0 (f z), fun z => ES_G hS0 hr hK0 (EG_F hS0 (f z))⟩
    by_cases k8 : c = 8
    · subst k8
      have f : zok (zB 8 l q) 0 → EF h0 σ bi r ts (zB 8 l q) := fun z => EF_minus hS0 hr hK0 l q (ihl.1 z)
      exact ⟨fun z => f z, fun z => EG_F hS0 (f z), fun z => ES_G hS0 hr hK0 (EG_F hS0 (f z))⟩
    by_cases k40 : c = 40
    · subst k40
      have f : zok (zB 40 l q) 0 → EF h0 σ bi r ts (zB 40 l q) := fun z => EF_paren hS0 hr hK0 l q (ihl.2.2 z)
      exact ⟨fun z => f z, fun z => EG_F hS0 (f z), fun z => ES_G hS0 hr hK0 (EG_F hS0 (f z))⟩
    by_cases k6 : c = 60 ∨ c = 61
    · have f : zok l 0 ∧ zok q 0 → EF h0 σ bi r ts (zB c l q) := fun z => EF_cmp hS0 hr hK0 k6 l q (ihl.2.2 z.1) (ihr.2.2 z.2)
      have un : ∀ lv, zok (zB c l q) lv → zok l 0 ∧ zok q 0 := by
        intro lv z
        rcases k6 with e | e <;> subst e <;> exact z
      exact ⟨fun z => f (un 2 z), fun z => EG_F hS0 (f (un 1 z)), fun z => ES_G hS0 hr hK0 (EG_F hS0 (f (un 0 z)))⟩
    have un : ∀ lv, zok (zB c l q) lv → (zsum c = true ∧ lv = 0 ∧ zok l 0 ∧ zok q 1) ∨ (zpro c = true ∧ lv ≤ 1 ∧ zok l 1 ∧ zok q 2) := by
      intro lv z
      unfold zok at z
      rw [if_neg k1, if_neg k2, if_neg k35, if_neg k3, if_neg k8, if_neg k40, if_neg k6] at z
      split at z
      · rename_i s; exact Or.inl ⟨s, z⟩
      · split at z
        · rename_i s; exact Or.inr ⟨s, z⟩
        · exact z.elim
    have gg : zpro c = true → zok l 1 → zok q 2 → EG h0 σ bi r ts (zB c l q) := fun s z1 z2 => EG_pro hS0 hr hK0 (by have := zpro_k s; omega) (ihl.2.1 z1) (ihr.1 z2)
    refine ⟨fun z => ?_, fun z => ?_, fun z => ?_⟩
    · rcases un 2 z with ⟨-, y, -⟩ | ⟨-, y, -⟩ <;> omega
    · rcases un 1 z with ⟨-, y, -⟩ | ⟨s, -, z1, z2⟩
      · omega
      · exact gg s z1 z2
    · rcases un 0 z with ⟨s, -, z1, z2⟩ | ⟨s, -, z1, z2⟩
      · exact ES_sum hS0 hr hK0 (by have := zsum_k s; omega) (ihl.2.2 z1) (ihr.2.1 z2)
      · exact ES_G hS0 hr hK0 (gg s z1 z2)
/-- m's reckon -/
abbrev Fre (h h' : hp) : Prop := FI [] [44, 45, 46, 47] [141] h h'
theorem c_reckon {d r ns : Nat} {Q : qt} {h : hp} {σ : zS} {bi : Nat → Nat → Bool} {is : Nat → Nat} {e : zT} {P S : List (Nat × Nat)} (hS : St h) (hr : r < 10) (hK : RK h r (P ++ (zk e ++ S))) (hn : nxt zsp S) (hV : MV h σ) (hB : MB h bi) (oe : okE e) (hns : ns < 2 ^ 26) (h47 : hI h 116 47 = (ns : Nat)) (his : ∀ id, id < 16 → is id < 2 ^ 12 ∧ hI h 141 id = (is id : Nat)) (k1 : ∀ w h' x, ev σ bn0 bi e = .inl w → w ≠ 0 → Fre h h' → hI h' 116 46 = (w : Nat) → Q (.inl (some (vJ x))) h') (k2 : ∀ v h', ev σ bn0 bi e = .inr v → Fre h h' → hI h' 116 46 = 0 → hI h' 116 47 = ((ns ||| zbits e : Nat) : Int) → (∀ id, id < 16 → is id ||| evS σ e id < 2 ^ 12 ∧ hI h' 141 id = ((is id ||| evS σ e id : Nat) : Int)) → Q (.inl (some (vJ v))) h') : Wc (d + 50) 186 [vR (some 116), vI (r : Nat), vI (P.length : Nat)] h Q := by
  refine se_X4_reckon hS ?_
  obtain ⟨g, eg⟩ : ∃ x, x = sI (sI (sI h 116 45 (r : Nat)) 116 44 (P.length : Nat)) 116 46 0 := ⟨_, rfl⟩
  rw [← eg]
  have Fg : Fre h g := by rw [eg]; exact FI_sI (FI_sI (FI_sI (FI_refl h) rfl) rfl) rfl
  have Sg := FI_St Fg hS rfl
  have Kg : RK g r (P ++ (zk e ++ S)) := RK_eq (fun j => FI_i Fg rfl) (fun j => FI_i Fg rfl) (fun j => FI_i Fg rfl) hK
  have Vg : MV g σ := MV_FI Fg rfl rfl hV
  have Bg : MB g bi := fun id i => by rw [FI_i Fg rfl, FI_i Fg rfl]; exact hB id i
  have Eg : Es g r P.length ns is := ⟨by rw [eg]; simp [hI_sI], by rw [eg]; simp [hI_sI], by rw [eg]; simp [hI_sI], hns, by rw [eg]; simp [hI_sI]; exact h47, fun id hi => ⟨(his id hi).1, by rw [eg, hI_sI, if_neg (by omega), hI_sI, if_neg (by omega), hI_sI, if_neg (by omega)]; exact (his id hi).2⟩⟩
  have hz := oe.2.1
  refine ES_fn Sg hr Kg ((ev_all Sg hr Kg Vg Bg e).2.2 oe.1) (FI_refl g) rfl hn Eg (by omega) ?_
  cases hv : ev σ bn0 bi e with
  | inl w => exact fun h' x F b w0 => k1 w h' x hv w0 (FI_trans Fg (FI_mono F (by decide) (by decide) (by decide))) b
  | inr v => exact fun h' F E => k2 v h' hv (FI_trans Fg (FI_mono F (by decide) (by decide) (by decide))) E.2.2.1 E.2.2.2.2.1 E.2.2.2.2.2
