/-! m: how many instructions it would be, turned -/
def zte (e : zEn) : Nat := if e.1 = 0 then zcs (zts (zn (zl e.2.1)) (zr e.2.1)) else if e.1 = 1 then (if zg e.2.1 = 115 then 7 else 6) else 0
def zces : List zEn → Nat
  | [] => 0
  | e :: es => zte e + zces es
theorem zces_app (A B : List zEn) : zces (A ++ B) = zces A + zces B := by
  induction A with
  | nil => show zces B = 0 + zces B; omega
  | cons e A ih => show zte e + zces (A ++ B) = zte e + zces A + zces B; omega
theorem zces_c (e : zEn) (es : List zEn) : zces (e :: es) = zte e + zces es := rfl
theorem zcs_wh {c : Nat} {e : zT} {S : List zT} : zcs (zwh c e S) = 7 + zcs S := by
  have zcol : ∀ S : List zT, zc (zol S) = zcs S := by
    intro S
    induction S with
    | nil => rfl
    | cons s S ih => show zc s + zc (zol S) = zc s + zcs S; rw [ih]
  have e1 : zcs (zwh c e S) = 1 + ((3 + (0 + zc (zol (S ++ [zB 130 (zNam c) (zNum 1)])))) + (1 + (1 + 0))) := rfl
  rw [e1, zcol, zcs_app, show zcs [zB 130 (zNam c) (zNum 1)] = 1 from rfl]
  omega
theorem zcs_wn {c : Nat} {e : zT} {A B : List zT} : zcs (zwn c e A B) = 6 + (zcs A + zcs B) := by
  have zcol : ∀ S : List zT, zc (zol S) = zcs S := by
    intro S
    induction S with
    | nil => rfl
    | cons s S ih => show zc s + zc (zol S) = zc s + zcs S; rw [ih]
  have e1 : zcs (zwn c e A B) = 1 + ((3 + (zc (zol A) + zc (zol B))) + (1 + (1 + 0))) := rfl
  rw [e1, zcol, zcol]
  omega
theorem zces_t : ∀ t : zT, (okS t 0 → zun true t → ∀ w u b p, zces (zi t u b p) = zcs (ztt t w).1) ∧ (okS t 1 → zun true t → ∀ w u b p, zces (zi t u b p) = zcs (ztt t w).1) := by
  have H := ok_ind (P0 := fun t => zun true t → ∀ w u b p, zces (zi t u b p) = zcs (ztt t w).1) (P1 := fun t => zun true t → ∀ w u b p, zces (zi t u b p) = zcs (ztt t w).1)
    (fun v _ w u b p => rfl)
    (fun s t _ _ i1 i2 un w u b p => by rw [zi_150, zces_app, i1 (zun_150 un).1 w, i2 (zun_150 un).2 w, ztt_150, zcs_app])
    (fun e s t e2 _ _ _ _ _ _ u => absurd (zun_fk (Or.inl ⟨rfl, rfl, rfl⟩) u).1 (by decide))
    (fun e s t e2 _ _ _ _ _ _ u => absurd (zun_fk (Or.inr ⟨rfl, rfl, rfl⟩) u).1 (by decide))
    (fun e s oe o a un w u b p => by
      rw [zi_wh, zces_c, zces_app, a (zun_wh un).2 (w + 1), zces_c, ztt_115, zcs_wh]
      show 7 + (zcs (ztt s (w + 1)).1 + (0 + 0)) = _
      omega)
    (fun e s t oe o1 o2 a b un w u c p => by
      have u' : true = true ∧ (zun true s ∧ zun true t) := un
      rw [zi_wn, zces_c, zces_app, a u'.2.1 (w + 1), zces_c, zces_app, b u'.2.2 (w + 1), zces_c, ztt_116, zcs_wn]
      show 6 + (zcs (ztt s (w + 1)).1 + (0 + (zcs (ztt t (w + 1)).1 + (0 + 0)))) = _
      omega)
    (fun k l r o un w u b p => by
      have e := zun_1 o un
      have k4 : k = 114 := of_decide_eq_true e.symm
      subst k4
      rw [zi_one o, ztt_114]
      show zcs (zts (zn l) r) + 0 = _
      omega)
  exact fun t => ⟨(H t).1, (H t).2.1⟩
/-- an instruction of an ordinary routine -/
theorem zi_or {t : zT} {i : Nat} {e : zEn} (ok : okS t 0) (un : zun true t) (h : (zi t (t, 0, 0) 0 0)[i]? = some e) : i < zc t ∧ ((e.1 = 0 ∧ ∃ x ex P S, e.2.1 = zB 114 (zL x) ex ∧ x < 26 ∧ okE ex ∧ zk t = P ++ (zk e.2.1 ++ S) ∧ e.2.2.2 = P.length) ∨ (e.1 = 1 ∧ (zg e.2.1 = 115 ∨ zg e.2.1 = 116)) ∨ ((e.1 = 2 ∨ e.1 = 3) ∧ (zg e.2.1 = 115 ∨ zg e.2.1 = 116))) := by
  have hl := (zi_len t).1 ok (t, 0, 0) 0 0
  have hi : i < zc t := by
    by_cases z : i < (zi t (t, 0, 0) 0 0).length
    · omega
    · rw [List.getElem?_eq_none (by omega)] at h; cases h
  obtain ⟨⟨P, S, c1, c2⟩, c3, c4, c5, c6, c7⟩ := (zi_in t).1 ok (t, 0, 0) 0 0 i e h
  rw [Nat.zero_add] at c2
  have u := c7 true un
  refine ⟨hi, ?_⟩
  rcases c3 with ⟨x, k, l, r, y1, y2⟩ | ⟨x, y⟩
  · rw [y1] at u
    have e1 := zun_1 y2 u
    have k4 : k = 114 := of_decide_eq_true e1.symm
    subst k4
    rcases y2 with ⟨q, ⟨x1, el, hx⟩, oe, -⟩ | ⟨q, -⟩ | ⟨q, -⟩ | ⟨q, -⟩ | ⟨q, -⟩ | ⟨q, -⟩
    · subst el
      exact Or.inl ⟨x, x1, r, P, S, y1, hx, oe, c1, c2⟩
    all_goals omega
  · have y' : zg e.2.1 = 115 ∨ zg e.2.1 = 116 := by
      rcases y with ⟨k, k2, k3, a, s, t2, c, hk, e1, -⟩ | z
      · rw [e1] at u
        exact absurd (zun_fk2 hk u).1 (by decide)
      · exact z
    rcases x with z | z | z
    · exact Or.inr (Or.inl ⟨z, y'⟩)
    · exact Or.inr (Or.inr ⟨Or.inl z, y'⟩)
    · exact Or.inr (Or.inr ⟨Or.inr z, y'⟩)
theorem zts_len {n : Nat} {e : zT} : zcs (zts n e) = (if zpl n e = true then 1 else if zhas n e = false then 2 else 4) := by
  unfold zts
  split
  · rename_i h
    rw [zcs_c, zcs_0]
    have : 130 + (if zg e = 43 then 0 else if zg e = 45 then 1 else 2) = 130 ∨ 130 + (if zg e = 43 then 0 else if zg e = 45 then 1 else 2) = 131 ∨ 130 + (if zg e = 43 then 0 else if zg e = 45 then 1 else 2) = 132 := by split <;> (try split) <;> omega
    rcases this with y | y | y <;> rw [y] <;> rfl
  · split <;> rfl
/-- one instruction is weighed -/
theorem ms_set {d r i p acc n : Nat} {Q : qt} {h : hp} {ts P B : List (Nat × Nat)} {e : zT} {w6 w7 w8 w9 : av} (hS : St h) (hr : r < 10) (hK : RK h r ts) (hi : i < 40) (hn : n < 26) (oe : okE e) (et : ts = P ++ ((5, 14) :: (1, n) :: (7, 61) :: (zk e ++ (7, 59) :: B))) (ep : p = P.length) (h27 : hI h 127 (40 * r + i) = 14) (h28 : hI h 128 (40 * r + i) = ((p + 1 : Nat) : Int)) (hacc : acc ≤ 1000)
    (k : ∀ w5 w6 w7 w8 w9, Wp (d + 4) C_X4_turnedSize Q 201 [vR (some 116), vI (r : Nat), vI ((acc + zcs (zts n e) : Nat) : Int), vI (i : Nat), vI ((40 * r + i : Nat) : Int), w5, w6, w7, w8, w9] [] h) : Wp (d + 4) C_X4_turnedSize Q 52 [vR (some 116), vI (r : Nat), vI (acc : Nat), vI (i : Nat), vI ((40 * r + i : Nat) : Int), vI ((p + 3 : Nat) : Int), w6, w7, w8, w9] [vI ((p + 3 + (zk e).length : Nat) : Int)] h := by
  have zp := zk_pos e 0 oe.1
  have ftot : p + (zk e).length + 4 ≤ 1600 := by
    have := hK.1
    rw [et] at this
    simp only [List.length_append, List.length_cons] at this
    omega
  have lt0 : p < 1600 := by omega
  have lt1 : p + 1 < 1600 := by omega
  have lt3 : p + 3 < 1600 := by omega
  obtain ⟨y, hy⟩ : ∃ y, y = (zk e ++ [(7, 59)]).getD 1 (0, 0) := ⟨_, rfl⟩
  obtain ⟨s1, s0⟩ := snd_at oe.1 B
  rw [← hy] at s1
  have hx1 : ts[p + 1]? = some (1, n) := by rw [et, ep]; simp
  have hx3 : ts[p + 3]? = (zk e)[0]? := by rw [← s0, et, ep, List.getElem?_append_right (by omega), show P.length + 3 - P.length = 3 by omega]; rfl
  have hx4 : ts[p + 4]? = some y := by rw [← s1, et, ep, List.getElem?_append_right (by omega), show P.length + 4 - P.length = 4 by omega]; rfl
  have mp := mplT_eq hn oe
  have hmp : mplT n e = (decide ((zk e)[0]? = some (1, n)) && (decide (tsm (zk e) 0 = 1) && (tsu y && (decide (y.2 ≠ 124) && !tin n ((zk e).drop 2))))) := by rw [hy]; rfl
  have tin_h := tin_e oe.1 hn
  have etE : ts = (P ++ [(5, 14), (1, n), (7, 61)]) ++ (zk e ++ (7, 59) :: B) := by rw [et]; simp
  have e3 : p + 3 = (P ++ [(5, 14), (1, n), (7, 61)]).length := by rw [ep]; simp
  have hlen := zts_len (n := n) (e := e)
  have p199 : ∀ (m : Nat) (w9 : Int), m = zcs (zts n e) → m ≤ 4 → Wp (d + 4) C_X4_turnedSize Q 199 [vR (some 116), vI (r : Nat), vI (acc : Nat), vI (i : Nat), vI ((40 * r + i : Nat) : Int), vI ((p + 3 : Nat) : Int), vI ((p + 3 + (zk e).length : Nat) : Int), vI (n : Nat), vI (y.2 : Nat), vI w9] [vI (m : Nat), vI (acc : Nat)] h := by
    intro m w9 em m4
    refine ss_X4_turnedSize_199 hS ?_
    rw [nk (by omega) (by omega), em]
    exact k _ _ _ _ _
  have p168f : ∀ w9 : av, zpl n e = false → Wp (d + 4) C_X4_turnedSize Q 168 [vR (some 116), vI (r : Nat), vI (acc : Nat), vI (i : Nat), vI ((40 * r + i : Nat) : Int), vI ((p + 3 : Nat) : Int), vI ((p + 3 + (zk e).length : Nat) : Int), vI (n : Nat), vI (y.2 : Nat), w9] [vI 0] h := by
    intro w9 zf
    refine ss_X4_turnedSize_168 hS (ip rfl (c_stands hS hr hK etE e3 rfl ?_))
    refine ss_X4_turnedSize_191 hS ?_
    rw [tin_h]
    rw [zf, if_neg (by decide)] at hlen
    cases hh : zhas n e with
    | false => exact ip rfl (p199 2 _ (by rw [hlen, hh]; rfl) (by omega))
    | true => exact im (by decide) (p199 4 _ (by rw [hlen, hh]; rfl) (by omega))
  have p167 : ∀ w9 : av, zpl n e = false → Wp (d + 4) C_X4_turnedSize Q 167 [vR (some 116), vI (r : Nat), vI (acc : Nat), vI (i : Nat), vI ((40 * r + i : Nat) : Int), vI ((p + 3 : Nat) : Int), vI ((p + 3 + (zk e).length : Nat) : Int), vI (n : Nat), vI (y.2 : Nat), w9] [] h := fun w9 zf => ss_X4_turnedSize_167 hS (p168f w9 zf)
  have p137 : ∀ w9 : av, (zk e)[0]? = some (1, n) → tsm (zk e) 0 = 1 → Wp (d + 4) C_X4_turnedSize Q 137 [vR (some 116), vI (r : Nat), vI (acc : Nat), vI (i : Nat), vI ((40 * r + i : Nat) : Int), vI ((p + 3 : Nat) : Int), vI ((p + 3 + (zk e).length : Nat) : Int), vI (n : Nat), vI (y.2 : Nat), w9] [vI (bI (tsu y))] h := by
    intro w9 c1 c2
    refine ss_X4_turnedSize_137 hS ?_
    cases c3 : tsu y with
    | false => exact ip rfl (p167 w9 (by rw [← mp, hmp, c3]; simp))
    | true =>
      refine im (by decide) ?_
      by_cases c4 : y.2 = 124
      · exact ip (by omega) (p167 w9 (by rw [← mp, hmp, c4]; simp))
      · refine im (by omega) ?_
        rw [show n_add ((p + 3 : Nat) : Int) 2 = ((p + 5 : Nat) : Int) by rw [na_eq (by omega) (by omega)]; omega]
        have l2 : 2 ≤ (zk e).length := by
          cases hz : zk e with
          | nil => rw [hz] at zp; exact absurd zp (by decide)
          | cons a L =>
            cases L with
            | nil => rw [hy, hz] at c3; cases (show false = true from c3)
            | cons b L => simp
        have etH : ts = (P ++ [(5, 14), (1, n), (7, 61)] ++ (zk e).take 2) ++ ((zk e).drop 2 ++ (7, 59) :: B) := by
          rw [et]
          simp
          rw [← List.append_assoc, List.take_append_drop]
        refine c_stands hS hr hK etH (by rw [ep]; simp; omega) (by rw [List.length_drop]; omega) ?_
        cases c5 : tin n ((zk e).drop 2) with
        | true => exact ss_X4_turnedSize_160 hS (im (by decide) (p167 w9 (by rw [← mp, hmp, c5]; simp)))
        | false =>
          have zt : zpl n e = true := by rw [← mp, hmp, c1, c2, c3, c5]; simp [c4]
          refine ss_X4_turnedSize_160 hS (ip rfl (ss_X4_turnedSize_168 hS (im (by decide) (p199 1 _ ?_ (by omega)))))
          rw [hlen, zt]; rfl
  have p101 : Wp (d + 4) C_X4_turnedSize Q 101 [vR (some 116), vI (r : Nat), vI (acc : Nat), vI (i : Nat), vI ((40 * r + i : Nat) : Int), vI ((p + 3 : Nat) : Int), vI ((p + 3 + (zk e).length : Nat) : Int), vI (n : Nat), vI (y.2 : Nat), w9] [vI (bI (decide (ts[p + 3]? = some (1, n))))] h := by
    rw [hx3]
    refine ss_X4_turnedSize_101 hS ?_
    by_cases c1 : (zk e)[0]? = some (1, n)
    · rw [show decide ((zk e)[0]? = some (1, n)) = true by simp [c1]]
      refine im (by decide) (c_sums hS hr hK etE e3 rfl ?_)
      refine ss_X4_turnedSize_113 hS ?_
      by_cases c2 : tsm (zk e) 0 = 1
      · rw [c2]
        refine ip rfl ?_
        have q : ∀ K : Int → hp → Prop, K (bI (tsu y)) h → cI (Wc (d + 4)) 165 [vI (y.1 : Nat), vI (y.2 : Nat)] h K (fun e h' => Q (.inr e) h') := fun K kk => c_isSum hS kk
        have hi4 : (0 : Int) ≤ ((1600 * r + (p + 4) : Nat) : Int) ∧ ((1600 * r + (p + 4) : Nat) : Int) < 16000 := by omega
        have p83' := p137 w9 c1 c2
        have i1 := ix1 (r := r) (q := p + 3) hr lt3
        have i0 := ix (r := r) (t := p + 3) hr lt3
        clear p137 p167 p168f p199
        obtain ⟨-, t2, -, -⟩ := tk_at (q := p + 4) (x := y) hr hK hx4
        rw [i0, i1, Int.toNat_natCast, show p + 3 + 1 = p + 4 from rfl, t2]
        exact ⟨hi4, q _ p83'⟩
      · exact im (by omega) (p167 w9 (by rw [← mp, hmp]; simp [c2]))
    · rw [show decide ((zk e)[0]? = some (1, n)) = false by simp [c1]]
      exact ip rfl (p167 w9 (by rw [← mp, hmp]; simp [c1]))
  have h40 : (0 : Int) ≤ ((40 * r + i : Nat) : Int) ∧ ((40 * r + i : Nat) : Int) < 400 := by omega
  have hi1 : (0 : Int) ≤ ((1600 * r + (p + 1) : Nat) : Int) ∧ ((1600 * r + (p + 1) : Nat) : Int) < 16000 := by omega
  have hi4 : (0 : Int) ≤ ((1600 * r + (p + 4) : Nat) : Int) ∧ ((1600 * r + (p + 4) : Nat) : Int) < 16000 := by omega
  have ca : ∀ K : Int → hp → Prop, K (bI (decide (ts[p + 3]? = some (1, n)))) h → cI (Wc (d + 4)) 139 [vR (some 116), vI (r : Nat), vI ((p + 3 : Nat) : Int), vI 1, vI (n : Nat)] h K (fun e h' => Q (.inr e) h') := fun K kk => c_isTok (s := 1) hS hr hK kk
  have j4 := ix1 (r := r) (q := p + 3) hr lt3
  have i3 := ix (r := r) (t := p + 3) hr lt3
  have i1 := ix (r := r) (t := p + 1) hr lt1
  clear p137 p167 p168f p199
  obtain ⟨-, -, t2, -⟩ := tk_at (q := p + 1) (x := (1, n)) hr hK hx1
  obtain ⟨-, -, t3, -⟩ := tk_at (q := p + 4) (x := y) hr hK hx4
  refine ss_X4_turnedSize_52 hS ?_
  rw [i3, j4, Int.toNat_natCast, Int.toNat_natCast, h28, i1, Int.toNat_natCast, t2, show p + 3 + 1 = p + 4 from rfl, t3]
  exact ⟨h40, hi1, hi4, ca _ p101⟩
theorem ms_loop2 {d r : Nat} {Q : qt} {h : hp} {t : zT} (hS : St h) (hr : r < 10) (ok : okS t 0) (un : zun true t) (hz : zc t ≤ 40) (hK : RK h r (zk t)) (h26 : hI h 126 r = (zc t : Nat)) (mes : MEs h r 0 (zi t (t, 0, 0) 0 0)) (k : Q (.inl (some (vI (zces (zi t (t, 0, 0) 0 0) : Nat)))) h) : ∀ (n i acc : Nat) (w4 w5 w6 w7 w8 w9 : av), i + n = zc t → acc + zces ((zi t (t, 0, 0) 0 0).drop i) = zces (zi t (t, 0, 0) 0 0) → acc ≤ 7 * i → Wp (d + 4) C_X4_turnedSize Q 4 [vR (some 116), vI (r : Nat), vI (acc : Nat), vI (i : Nat), w4, w5, w6, w7, w8, w9] [] h := by
  have hl := (zi_len t).1 ok (t, 0, 0) 0 0
  intro n
  induction n with
  | zero =>
    intro i acc w4 w5 w6 w7 w8 w9 hi ha hb
    have e0 : zces ((zi t (t, 0, 0) 0 0).drop i) = 0 := by rw [List.drop_of_length_le (by omega)]; rfl
    rw [e0, Nat.add_zero] at ha
    refine ss_X4_turnedSize_4 hS ⟨by omega, ?_⟩
    rw [Int.toNat_natCast, h26]
    refine im (by omega) ?_
    rw [ha]
    exact k
  | succ n ih =>
    intro i acc w4 w5 w6 w7 w8 w9 hi ha hb
    have hi2 : i < (zi t (t, 0, 0) 0 0).length := by omega
    have hd := List.drop_eq_getElem_cons hi2
    obtain ⟨e, he⟩ : ∃ e, (zi t (t, 0, 0) 0 0)[i]? = some e := ⟨_, List.getElem?_eq_getElem hi2⟩
    have he2 : (zi t (t, 0, 0) 0 0)[i] = e := by
      have := List.getElem?_eq_getElem hi2
      rw [he] at this
      exact (Option.some.inj this).symm
    rw [hd, he2, zces_c] at ha
    obtain ⟨-, ty⟩ := zi_or ok un he
    have me := mes i e he
    rw [Nat.zero_add] at me
    obtain ⟨m1, m2, m3, -⟩ := me
    have hz7 : zte e ≤ 7 := by
      unfold zte
      split
      · rw [zts_len]; split; omega; split <;> omega
      · split
        · split <;> omega
        · omega
    have nx : ∀ (acc' : Nat) (w4 w5 w6 w7 w8 w9 : av), acc' = acc + zte e → Wp (d + 4) C_X4_turnedSize Q 4 [vR (some 116), vI (r : Nat), vI (acc' : Nat), vI ((i + 1 : Nat) : Int), w4, w5, w6, w7, w8, w9] [] h := fun acc' w4 w5 w6 w7 w8 w9 ea => ih (i + 1) acc' w4 w5 w6 w7 w8 w9 (by omega) (by omega) (by omega)
    have h40 : (0 : Int) ≤ ((40 * r + i : Nat) : Int) ∧ ((40 * r + i : Nat) : Int) < 400 := by omega
    have lt : ((i : Nat) : Int) < ((zc t : Nat) : Int) := by omega
    have i40lt : i < 40 := by omega
    have accb : acc ≤ 1000 := by omega
    have p237 : ∀ (m a : Nat) (w5 w6 w7 w8 w9 : av), a + m = acc + zte e → Wp (d + 4) C_X4_turnedSize Q 237 [vR (some 116), vI (r : Nat), vI (a : Nat), vI (i : Nat), vI ((40 * r + i : Nat) : Int), w5, w6, w7, w8, w9] [vI (m : Nat), vI (a : Nat)] h := by
      intro m a w5 w6 w7 w8 w9 ea
      refine ss_X4_turnedSize_237 hS ?_
      have b1 : a < 100000 := by omega
      have b2 : m < 100000 := by omega
      have b3 : i < 100000 := by omega
      rw [n1k b3, nk b1 b2]
      exact nx _ _ _ _ _ _ _ ea
    have i40 := ix40 (r := r) (i := i) hr i40lt
    refine ss_X4_turnedSize_4 hS ⟨by omega, ?_⟩
    rw [Int.toNat_natCast, h26]
    refine ip lt ?_
    rw [i40, Int.toNat_natCast, m1, m3]
    clear i40
    refine ⟨h40, ?_⟩
    rcases ty with ⟨e0, x, ex, P, B, e21, hx, oe, ek, ep⟩ | ⟨e1, eg⟩ | ⟨e1, eg⟩
    · have d14 : dz e = 14 := by unfold dz; rw [if_pos e0, e21]; rfl
      have z3 : ez e = ((P.length + 3 : Nat) : Int) := by unfold ez; rw [if_pos e0, e21, ep]; show ((P.length : Nat) : Int) + 3 = _; omega
      have z1 : oz e = ((P.length + 1 : Nat) : Int) := by unfold oz; rw [e21, ep, if_pos ⟨e0, show 114 < 130 by decide⟩]; omega
      have hte : zte e = zcs (zts x ex) := by unfold zte; rw [if_pos e0, e21]; rfl
      rw [e21, zk_let (by omega)] at ek
      have ek2 : zk t = P ++ ((5, 14) :: (1, x) :: (7, 61) :: (zk ex ++ (7, 59) :: B)) := by rw [ek]; simp
      rw [d14, z3]
      refine ip rfl ⟨h40, ?_⟩
      have nb : ∀ y ∈ zk ex, nB y := zkE_nB ex 0 oe.1
      refine c_find (P := P ++ [(5, 14), (1, x), (7, 61)]) (A := zk ex) (B := B) hS hr hK (by rw [ek2]; simp) (by simp) (Sk_nB nb).1 ?_
      refine ms_set hS hr hK i40lt hx oe ek2 rfl (by rw [m1, d14]) (by rw [m2, z1]) accb (fun w5 w6 w7 w8 w9 => ?_)
      refine ss_X4_turnedSize_201 hS ⟨h40, ?_⟩
      rw [Int.toNat_natCast, m1, d14]
      refine im (by decide) ⟨h40, im (by decide) (p237 0 (acc + zcs (zts x ex)) _ _ _ _ _ (by omega))⟩
    · have d1 : dz e = (if zg e.2.1 = 115 then 15 else 16) := by
        unfold dz; rw [if_neg (by omega), if_pos e1]
        rcases eg with z | z <;> rw [z] <;> rfl
      have hte : zte e = (if zg e.2.1 = 115 then 7 else 6) := by unfold zte; rw [if_neg (by omega), if_pos e1]
      rw [d1]
      have n14 : ¬ ((if zg e.2.1 = 115 then (15 : Int) else 16) = 14) := by split <;> decide
      refine im n14 ?_
      refine ss_X4_turnedSize_201 hS ⟨h40, ?_⟩
      rw [Int.toNat_natCast, m1, d1]
      by_cases z : zg e.2.1 = 115
      · rw [if_pos z] at hte ⊢
        exact ip rfl (p237 7 acc _ _ _ _ _ (by omega))
      · rw [if_neg z] at hte ⊢
        exact im (by decide) ⟨h40, ip rfl (p237 6 acc _ _ _ _ _ (by omega))⟩
    · have d1 : dz e = 31 ∨ dz e = 30 ∨ dz e = 32 := by
        unfold dz; rw [if_neg (by omega), if_neg (by omega)]
        rcases eg with z | z <;> rw [z] <;> (split <;> decide)
      have hte : zte e = 0 := by unfold zte; rw [if_neg (by omega), if_neg (by omega)]
      refine im (by omega) ?_
      refine ss_X4_turnedSize_201 hS ⟨h40, ?_⟩
      rw [Int.toNat_natCast, m1]
      exact im (by omega) ⟨h40, im (by omega) (p237 0 acc _ _ _ _ _ (by omega))⟩
theorem m_tsize {d r : Nat} {Q : qt} {h : hp} {t : zT} {o : Int} (hS : St h) (hr : r < 10) (ok : okS t 0) (un : zun true t) (hz : zc t ≤ 40) (mr : MR h r t o) (k : Q (.inl (some (vI (zc (ztu t) : Nat)))) h) : Wc (d + 5) 163 [vR (some 116), vI (r : Nat)] h Q := by
  obtain ⟨-, -, rk, h26, mes⟩ := mr
  have zcol : zc (ztu t) = zces (zi t (t, 0, 0) 0 0) := by
    rw [(zces_t t).1 ok un 0]
    have : ∀ S : List zT, zc (zol S) = zcs S := by
      intro S
      induction S with
      | nil => rfl
      | cons s S ih => show zc s + zc (zol S) = zc s + zcs S; rw [ih]
    exact this _
  rw [zcol] at k
  exact se_X4_turnedSize hS (ms_loop2 hS hr ok un hz rk h26 mes k (zc t) 0 0 _ _ _ _ _ _ (by omega) (by rw [List.drop_zero, Nat.zero_add]) (by omega))
