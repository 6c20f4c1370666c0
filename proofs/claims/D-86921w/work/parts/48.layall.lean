/-! x LAYS an if or a from -/
theorem RC_split {h : hp} {lo hi : Nat} {fs : List zEn} {zs : List Nat} : ∀ {es : List zEn} {ys : List Nat}, ys.length = es.length → RC h lo hi (es ++ fs) (ys ++ zs) → RC h lo hi es ys ∧ RC h lo hi fs zs := by
  intro es
  induction es with
  | nil => intro ys hl z; rw [List.length_eq_zero_iff.mp hl] at z ⊢; exact ⟨rfl, z⟩
  | cons e es ih =>
    intro ys hl z
    cases ys with
    | nil => cases hl
    | cons y ys =>
      obtain ⟨c, cs, e1, z1, z2⟩ := z
      cases e1
      obtain ⟨q1, q2⟩ := ih (by simpa using hl) z2
      exact ⟨⟨y, ys, rfl, z1, q1⟩, q2⟩
theorem RCe_9 {h : hp} {lo hi c w q : Nat} {T : zT} (z : RCe h lo hi (9, T, w, q) c) : hT h c = (37, 0) := by
  unfold RCe at z
  rw [if_neg (show (9 : Nat) ≠ 0 by decide)] at z
  exact z.1
theorem PT_eq {h h' : hp} {lo hi : Nat} (hl : 145 ≤ lo) (hn : hN h ≤ hN h') (hs : ∀ c, lo ≤ c → c < hi → imm (hT h c).1 → sm h h' c) {p : Nat} {ys : List Nat} {t : zT} (z : RPt h lo hi p ys) (y : RT h lo hi t ys) : RPt h' lo hi p ys ∧ RT h' lo hi t ys :=
  ⟨RPt_eq hl hn hs (fun x hx => by obtain ⟨m1, m2, m3, m4⟩ := RT_mem y x hx; rw [(hs x m1 m2 (imm_in m3 (by omega))).1]; exact m4) z, RT_eq hl hn hs y⟩
def kn (h : hp) (c : Nat) (i j k : Int) : hp := sI (sI (sI h c 2 i) c 3 j) c 4 k
theorem sm_kn {h : hp} {c x : Nat} {i j k : Int} (hx : x ≠ c) : sm h (kn h c i j k) x := sm_sI (sm_sI (sm_sI (sm_refl _ _) hx) hx) hx
theorem St_kn {h : hp} {c : Nat} {i j k : Int} (hS : St h) (hc : 145 ≤ c) : St (kn h c i j k) := St_sI (St_sI (St_sI hS (by omega)) (by omega)) (by omega)
theorem RCe_kn {h : hp} {lo hi c w q n b p : Nat} {T : zT} {i j k : Int} (hl : 145 ≤ lo) (hc : hi ≤ c) (z : RCe h lo hi (9, T, w, q) c) (hn : n ≠ 0 ∧ n ≠ 9) (hw : (w : Int) = if zg T = 108 then (n : Int) - 1 else (n : Int) + 2) (hi1 : i = (b : Nat)) (hj : j = (zm T b : Nat)) (hk : k = (ze T b : Nat)) : RCe (kn h c i j k) lo hi (n, T, b, p) c := by
  unfold RCe at z
  rw [if_neg (show (9 : Nat) ≠ 0 by decide), if_pos (show (9 : Nat) = 9 from rfl)] at z
  obtain ⟨z1, ⟨a, z2, z3⟩, z4⟩ := z
  have z3' : RT (kn h c i j k) lo hi T [a] := RT_eq (h := h) (h' := kn h c i j k) hl (Nat.le_refl (hN h)) (fun x _ x2 _ => sm_kn (by omega)) z3
  have y1 : hT (kn h c i j k) c = (37, 0) := z1
  have y2 : hR (kn h c i j k) c 0 = some a := z2
  have y3 : hI (kn h c i j k) c 1 = if zg T = 108 then (n : Int) - 1 else (n : Int) + 2 := by
    unfold kn
    rw [hI_sI, if_neg (by omega), hI_sI, if_neg (by omega), hI_sI, if_neg (by omega)]
    exact z4.trans hw
  have y4 : hI (kn h c i j k) c 2 = (b : Nat) := by
    unfold kn
    rw [hI_sI, if_neg (by omega), hI_sI, if_neg (by omega), hI_sI, if_pos ⟨rfl, rfl⟩]
    exact hi1
  have y5 : hI (kn h c i j k) c 3 = (zm T b : Nat) := by
    unfold kn
    rw [hI_sI, if_neg (by omega), hI_sI, if_pos ⟨rfl, rfl⟩]
    exact hj
  have y6 : hI (kn h c i j k) c 4 = (ze T b : Nat) := by
    unfold kn
    rw [hI_sI, if_pos ⟨rfl, rfl⟩]
    exact hk
  generalize kn h c i j k = g at z3' y1 y2 y3 y4 y5 y6
  unfold RCe
  rw [if_neg (show n ≠ 0 from hn.1), if_neg (show n ≠ 9 from hn.2)]
  exact ⟨y1, ⟨a, y2, z3'⟩, y3, y4, y5, y6⟩
theorem ly_join {d : Nat} {Q : qt} {h : hp} {l arr lo hi a b p k k2 k3 ca cb cc w0 : Nat} {xs : List Nat} {e s t e2 T : zT} {u : zT × Nat × Nat} (hk : (k = 108 ∧ k2 = 112 ∧ k3 = 113) ∨ (k = 111 ∧ k2 = 117 ∧ k3 = 118)) (eT : T = zB k e (zB k2 s (zB k3 t e2))) (os : okS s 0) (ot : okS t 0) (hs : LyP s) (ht : LyP t) (hd : 4 * max (zbr s) (zbr t) + 21 ≤ d) (hb : b = xs.length) (hw : Lw h l arr lo hi xs 0) (hbu : hU h + 306 + 120 * (zc s + zc t) ≤ BUD) (h40 : xs.length + (3 + (zc s + zc t)) ≤ 40) (hR0 : RT h lo hi T [a]) (hw0 : (w0 : Int) = if k = 108 then 0 else 3) (c1 : RCe h lo hi (9, T, w0, 0) ca) (c2 : RCe h lo hi (9, T, w0 + 1, 0) cb) (c3 : RCe h lo hi (9, T, w0 + 2, 0) cc) (hc : hi ≤ ca ∧ ca < cb ∧ cb < cc ∧ cc < hN h) (kk : ∀ h' arr' ys, RL h' l (xs ++ ys) arr' → (arr' = arr ∨ hN h ≤ arr') → (∀ y ∈ ys, ca ≤ y) → RC h' lo hi (zi T u b p) ys → hN h ≤ hN h' → hU h ≤ hU h' → (∀ c, c < ca → c ≠ l → c ≠ arr → sm h h' c) → St h' → hU h' ≤ hU h + 300 + 120 * (zc s + zc t) → Q (.inl none) h') : Wc (d + 1) 385 [vR (some l), vR (some a), vR (some ca), vR (some cb), vR (some cc)] h Q := by
  obtain ⟨d, rfl⟩ : ∃ e, d = e + 8 := ⟨d - 8, by omega⟩
  have hS := hw.1
  have h145 := hS.1
  have hL := hw.2.2.2.2.1
  have hil : hi ≤ l := hw.2.2.1.1
  have hln : l < hN h := hw.2.2.2.1
  have har : arr = 1 ∨ hi ≤ arr := hw.2.2.2.2.2.1
  have hlo : 145 ≤ lo := hw.2.1
  have hR1 := hR0
  rw [eT] at hR1
  obtain ⟨x1, x2, hta, eb, p1, q1, ec, ys, zs, f0, f1, f2, f3, re, rp1, rt1, rp2, rt2, re2⟩ := RT_fk hk hR1
  have hka : (hT h a).1 ∈ [29, 30] := by rw [hta]; split <;> simp
  have ka := RCe_9 c1
  have kb := RCe_9 c2
  have kc := RCe_9 c3
  have na := RL_ne hS hL (x := ca) (by rw [ka]; decide)
  have nb := RL_ne hS hL (x := cb) (by rw [kb]; decide)
  have nc := RL_ne hS hL (x := cc) (by rw [kc]; decide)
  have lz1 := (zi_len s).1 os
  have lz2 := (zi_len t).1 ot
  refine se_X37_join hS ?_
  rw [ofR_some]
  refine ip (by rw [hL.1]) ?_
  refine c_size hS hL ?_
  refine ss_X37_join_6 hS ?_
  rw [ofR_some]
  refine ip (by rw [hL.1]) ?_
  refine ly_add (g := ca) hw (by omega) (by omega) (by rw [ka]; decide) (Nat.le_refl _) c1 fun h1 arr1 r1 => ?_
  have F1 := r1.2.2.2.2.1
  have u1 := r1.2.2.2.2.2
  have w1 : Lw h1 l arr1 lo hi (xs ++ [ca]) (zc s) := Lw_next hw r1 (by simp; omega) (by omega)
  have smT1 : ∀ c, lo ≤ c → c < hi → imm (hT h c).1 → sm h h1 c := fun c y1 y2 _ => F1.2.2.1 c (by omega) (by omega) (by omega)
  have hsa := F1.2.2.1 a (by omega) (by omega) (by omega)
  refine ss_X37_join_15 F1.2.2.2 ?_
  rw [ofR_some]
  refine ⟨by rw [hsa.1]; exact hka, ?_⟩
  rw [hsa.2.2.2 1, f1, ofR_some]
  obtain ⟨P1, P2⟩ := PT_eq hlo F1.1 smT1 rp1 rt1
  refine ip (by rw [P1.2.2.1]) ?_
  refine hs h1 _ l arr1 lo hi p1 (b + 1) (p + (zk e).length + 1 + 1) (xs ++ [ca]) ys (T, b, p) _ (by omega) (by simp; omega) w1 P1 P2 ?_
  intro h2 arr2 ys2 r2
  have R2 := LyR_trans hw (by have := F1.1; omega) r1 r2
  have F2 := R2.2.2.2.2.1
  have u2 := R2.2.2.2.2.2
  have w2 : Lw h2 l arr2 lo hi (xs ++ ([ca] ++ ys2)) 0 := Lw_next hw R2 (by simp [lz1]; omega) (by omega)
  have smT2 : ∀ c, lo ≤ c → c < hi → imm (hT h c).1 → sm h h2 c := fun c y1 y2 _ => F2.2.2.1 c (by omega) (by omega) (by omega)
  refine ss_X37_join_24 F2.2.2.2 ?_
  rw [ofR_some]
  refine ip (by rw [w2.2.2.2.2.1.1]) ?_
  refine c_size F2.2.2.2 w2.2.2.2.2.1 ?_
  refine ss_X37_join_30 F2.2.2.2 ?_
  rw [ofR_some]
  refine ip (by rw [w2.2.2.2.2.1.1]) ?_
  have sb := F2.2.2.1 cb (by omega) nb.1 nb.2
  refine ly_add (g := ca) w2 (by omega) (by have := F2.1; omega) (by rw [sb.1, kb]; decide) (by omega) (RCe_eq hlo F2.1 smT2 sb c2) fun h3 arr3 r3 => ?_
  have R3 := LyR_trans hw (Nat.le_refl _) R2 r3
  have F3 := R3.2.2.2.2.1
  have u3 := R3.2.2.2.2.2
  have w3 : Lw h3 l arr3 lo hi (xs ++ ([ca] ++ ys2 ++ [cb])) (zc t) := Lw_next hw R3 (by simp [lz1]; omega) (by omega)
  have smT3 : ∀ c, lo ≤ c → c < hi → imm (hT h c).1 → sm h h3 c := fun c y1 y2 _ => F3.2.2.1 c (by omega) (by omega) (by omega)
  have hsa3 := F3.2.2.1 a (by omega) (by omega) (by omega)
  refine ss_X37_join_39 F3.2.2.2 ?_
  rw [ofR_some]
  refine ⟨by rw [hsa3.1]; exact hka, ?_⟩
  rw [hsa3.2.2.2 2, f2, ofR_some]
  obtain ⟨P3, P4⟩ := PT_eq hlo F3.1 smT3 rp2 rt2
  refine ip (by rw [P3.2.2.1]) ?_
  have l2 : ys2.length = zc s := by rw [RC_len r2.2.2.2.1, lz1]
  refine ht h3 _ l arr3 lo hi q1 (b + 1 + zc s + 1) (p + (zk e).length + 1 + (zk s).length + 3 + 1) (xs ++ ([ca] ++ ys2 ++ [cb])) zs (T, b, p) _ (by omega) (by simp; omega) w3 P3 P4 ?_
  intro h4 arr4 ys4 r4
  have R4 := LyR_trans hw (by have := F3.1; omega) R3 r4
  have F4 := R4.2.2.2.2.1
  have u4 := R4.2.2.2.2.2
  have w4 : Lw h4 l arr4 lo hi (xs ++ ([ca] ++ ys2 ++ [cb] ++ ys4)) 0 := Lw_next hw R4 (by simp [lz1, lz2]; omega) (by omega)
  have smT4 : ∀ c, lo ≤ c → c < hi → imm (hT h c).1 → sm h h4 c := fun c y1 y2 _ => F4.2.2.1 c (by omega) (by omega) (by omega)
  have l4 : ys4.length = zc t := by rw [RC_len r4.2.2.2.1, lz2]
  refine ss_X37_join_48 F4.2.2.2 ?_
  rw [ofR_some]
  refine ip (by rw [w4.2.2.2.2.1.1]) ?_
  refine c_size F4.2.2.2 w4.2.2.2.2.1 ?_
  refine ss_X37_join_54 F4.2.2.2 ?_
  rw [ofR_some]
  refine ip (by rw [w4.2.2.2.2.1.1]) ?_
  have sc := F4.2.2.1 cc (by omega) nc.1 nc.2
  refine ly_add (g := ca) w4 (by omega) (by have := F4.1; omega) (by rw [sc.1, kc]; decide) (by omega) (RCe_eq hlo F4.1 smT4 sc c3) fun h5 arr5 r5 => ?_
  have R5 := LyR_trans hw (Nat.le_refl _) R4 r5
  have F5 := R5.2.2.2.2.1
  have u5 := R5.2.2.2.2.2
  have S5 := F5.2.2.2
  obtain ⟨A1, A2⟩ := RC_split (RC_len R4.2.2.2.1) R5.2.2.2.1
  obtain ⟨A3, A4⟩ := RC_split (RC_len R3.2.2.2.1) A1
  obtain ⟨A5, A6⟩ := RC_split (RC_len R2.2.2.2.1) A3
  obtain ⟨A7, A8⟩ := RC_split (RC_len r1.2.2.2.1) A5
  obtain ⟨_, _, y0, B1, -⟩ := A7
  cases y0
  obtain ⟨_, _, y0, B2, -⟩ := A6
  cases y0
  obtain ⟨_, _, y0, B3, -⟩ := A2
  cases y0
  have i1 : ((xs.length : Nat) : Int) = (b : Nat) := by rw [hb]
  have i2 : (((xs ++ ([ca] ++ ys2)).length : Nat) : Int) = (zm T b : Nat) := by
    have z1 : zm T b = b + 1 + zc s := by rw [eT]; unfold zm; rw [if_neg (by show k ≠ 115; omega)]; rfl
    rw [z1]; simp; omega
  have i3 : (((xs ++ ([ca] ++ ys2 ++ [cb] ++ ys4)).length : Nat) : Int) = (ze T b : Nat) := by
    have z1 : ze T b = b + 2 + zc s + zc t := by rw [eT]; unfold ze; rw [zc_fk hk]; omega
    rw [z1]; simp; omega
  refine ss_X37_join_64 S5 ?_
  rw [ofR_some]
  refine ip (by rw [RCe_9 B1]) ?_
  refine se_X37_know S5 (RCe_9 B1) ?_
  generalize hi' : ((xs.length : Nat) : Int) = vi at i1 ⊢
  generalize hj' : (((xs ++ ([ca] ++ ys2)).length : Nat) : Int) = vj at i2 ⊢
  generalize hk' : (((xs ++ ([ca] ++ ys2 ++ [cb] ++ ys4)).length : Nat) : Int) = vk at i3 ⊢
  have S6 : St (kn h5 ca vi vj vk) := St_kn S5 (by omega)
  refine ss_X37_join_75 S6 ?_
  rw [ofR_some]
  refine ip (by show (hT h5 cb).1 = 37; rw [RCe_9 B2]) ?_
  refine se_X37_know S6 (show hT h5 cb = (37, 0) from RCe_9 B2) ?_
  have S7 : St (kn (kn h5 ca vi vj vk) cb vi vj vk) := St_kn S6 (by omega)
  refine ss_X37_join_85 S7 ?_
  rw [ofR_some]
  refine ip (by show (hT h5 cc).1 = 37; rw [RCe_9 B3]) ?_
  refine se_X37_know S7 (show hT h5 cc = (37, 0) from RCe_9 B3) ?_
  obtain ⟨h8, e8⟩ : ∃ x, x = kn (kn (kn h5 ca vi vj vk) cb vi vj vk) cc vi vj vk := ⟨_, rfl⟩
  show Q (.inl none) (kn (kn (kn h5 ca vi vj vk) cb vi vj vk) cc vi vj vk)
  have gT : zg T = k := by rw [eT]; rfl
  have S8 : St h8 := by rw [e8]; exact St_kn S7 (by omega)
  have n8 : hN h8 = hN h5 := by rw [e8]; rfl
  have u8 : hU h8 = hU h5 := by rw [e8]; rfl
  have t8 : ∀ x, hT h8 x = hT h5 x := fun x => by rw [e8]; rfl
  have smx : ∀ x, x ≠ ca → x ≠ cb → x ≠ cc → sm h5 h8 x := fun x y1 y2 y3 => by rw [e8]; exact sm_trans (sm_trans (sm_kn y1) (sm_kn y2)) (sm_kn y3)
  have C1 : RCe h8 lo hi (1, T, b, p) ca := by
    rw [e8]
    refine RCe_eq (h := kn h5 ca vi vj vk) hlo (Nat.le_refl (hN h5)) (fun c y1 y2 _ => sm_trans (sm_kn (by omega)) (sm_kn (by omega))) (sm_trans (sm_kn (by omega)) (sm_kn (by omega))) (RCe_kn (n := 1) hlo hc.1 B1 (by decide) ?_ i1 i2 i3)
    rw [gT, hw0]; split <;> rfl
  have C2 : RCe h8 lo hi (2, T, b, p) cb := by
    rw [e8]
    refine RCe_eq (h := kn (kn h5 ca vi vj vk) cb vi vj vk) hlo (Nat.le_refl (hN h5)) (fun c y1 y2 _ => sm_kn (by omega)) (sm_kn (by omega)) (RCe_kn (n := 2) hlo (by omega) (RCe_eq (h := h5) hlo (Nat.le_refl (hN h5)) (fun c y1 y2 _ => sm_kn (by omega)) (sm_kn (by omega)) B2) (by decide) ?_ i1 i2 i3)
    rw [gT, Int.natCast_add, hw0]; split <;> rfl
  have C3 : RCe h8 lo hi (3, T, b, p) cc := by
    rw [e8]
    refine RCe_kn (n := 3) hlo (by omega) (RCe_eq (h := h5) hlo (Nat.le_refl (hN h5)) (fun c y1 y2 _ => sm_trans (sm_kn (by omega)) (sm_kn (by omega))) (sm_trans (sm_kn (by omega)) (sm_kn (by omega))) B3) (by decide) ?_ i1 i2 i3
    rw [gT, Int.natCast_add, hw0]; split <;> rfl
  rw [← e8]
  clear e8
  have hL5 := R5.1
  have m5a := RL_ne S5 hL5 (x := ca) (by rw [RCe_9 B1]; decide)
  have m5b := RL_ne S5 hL5 (x := cb) (by rw [RCe_9 B2]; decide)
  have m5c := RL_ne S5 hL5 (x := cc) (by rw [RCe_9 B3]; decide)
  have smT5 : ∀ c, lo ≤ c → c < hi → imm (hT h5 c).1 → sm h5 h8 c := fun c y1 y2 _ => smx c (by omega) (by omega) (by omega)
  have n1 := F1.1
  have n3 := F3.1
  have X3 : RC h8 lo hi [(3, T, b, p)] [cc] := ⟨cc, [], rfl, C3, rfl⟩
  have X2 := RC_app X3 (RC_eq hlo (Nat.le_of_eq n8.symm) smT5 (fun c hc' => by
    have := r4.2.2.1 c hc'
    exact smx c (by omega) (by omega) (by omega)) A4)
  have X1 : RC h8 lo hi ((2, T, b, p) :: (zi t (T, b, p) (b + 1 + zc s + 1) (p + (zk e).length + 1 + (zk s).length + 3 + 1) ++ [(3, T, b, p)])) (cb :: (ys4 ++ [cc])) := ⟨cb, _, rfl, C2, X2⟩
  have X0 := RC_app X1 (RC_eq hlo (Nat.le_of_eq n8.symm) smT5 (fun c hc' => by
    have := r2.2.2.1 c hc'
    exact smx c (by omega) (by omega) (by omega)) A8)
  refine kk h8 arr5 (ca :: (ys2 ++ cb :: (ys4 ++ [cc]))) ?_ R5.2.1 ?_ ?_ (by rw [n8]; exact F5.1) (by rw [u8]; exact F5.2.1) (fun c y1 y2 y3 => sm_trans (F5.2.2.1 c (by omega) y2 y3) (smx c (by omega) (by omega) (by omega))) S8 ?_
  · have hL6 : RL h8 l (xs ++ ([ca] ++ ys2 ++ [cb] ++ ys4 ++ [cc])) arr5 := by
      refine RL_eq (Nat.le_of_eq n8.symm) (fun c hc => ?_) (fun x hx => by rw [t8]; exact (hL5.2.2.2.1 x hx).2) hL5
      rcases hc with e | ⟨e, -⟩
      · rw [e]; exact smx l (fun z => m5a.1 z.symm) (fun z => m5b.1 z.symm) (fun z => m5c.1 z.symm)
      · rw [e]; exact smx arr5 (fun z => m5a.2 z.symm) (fun z => m5b.2 z.symm) (fun z => m5c.2 z.symm)
    simpa using hL6
  · intro y hy
    refine R5.2.2.1 y ?_
    simpa using hy
  · rw [eT, zi_fk hk, ← eT]
    exact ⟨ca, _, rfl, C1, X0⟩
  · omega
theorem co_new {h h1 : hp} {a lo hi w : Nat} {T : zT} {wi : Int} (hS : St h) (hlo : 145 ≤ lo) (hhi : hi ≤ hN h) (hR0 : RT h lo hi T [a]) (hw : wi = (w : Nat)) (e1 : h1 = sI (sR (hNew h 37 0 5) (hN h) 0 (some a)) (hN h) 1 wi) : St h1 ∧ hN h1 = hN h + 1 ∧ hU h1 = hU h + 18 ∧ (∀ c, c < hN h → sm h h1 c) ∧ RCe h1 lo hi (9, T, w, 0) (hN h) := by
  have h145 := hS.1
  have S1 : St (hNew h 37 0 5) := St_new hS
  have sm1 : ∀ c, c < hN h → sm h h1 c := fun c hc => by rw [e1]; exact sm_sI (sm_sR (sm_new (sm_refl _ _) hc) (by omega)) (by omega)
  have n1 : hN h1 = hN h + 1 := by rw [e1]; rfl
  refine ⟨by rw [e1]; exact St_sI (St_sR S1 (by unfold okRf; omega)) (by omega), n1, by rw [e1]; show hU h + 5 + 13 = _; omega, sm1, ?_⟩
  unfold RCe
  rw [if_neg (show (9 : Nat) ≠ 0 by decide), if_pos (show (9 : Nat) = 9 from rfl)]
  refine ⟨by rw [e1, hT_sI, hT_sR]; exact hT_newa rfl, ⟨a, by rw [e1, hR_sI, hR_sR, if_pos ⟨rfl, rfl⟩], RT_eq hlo (by omega) (fun c x1 x2 _ => sm1 c (by omega)) hR0⟩, ?_⟩
  rw [e1, hI_sI, if_pos ⟨rfl, rfl⟩]
  exact hw
theorem ly_108 {e s t e2 : zT} (os : okS s 0) (ot : okS t 0) (hs : LyP s) (ht : LyP t) : LyS (zB 108 e (zB 112 s (zB 113 t e2))) := by
  intro h d l arr lo hi a b p xs u Q hd hb hw hR0 kk
  have hd' : 4 * (1 + max (zbr s) (zbr t)) + 20 ≤ d := hd
  obtain ⟨d, rfl⟩ : ∃ e, d = e + 4 := ⟨d - 4, by omega⟩
  have hzc : zc (zB 108 e (zB 112 s (zB 113 t e2))) = 3 + (zc s + zc t) := rfl
  rw [hzc] at hw kk
  have hS := hw.1
  have h145 := hS.1
  have hil : hi ≤ l := hw.2.2.1.1
  have hln : l < hN h := hw.2.2.2.1
  have har : arr = 1 ∨ hi ≤ arr := hw.2.2.2.2.2.1
  have hlo : 145 ≤ lo := hw.2.1
  have hbu := hw.2.2.2.2.2.2.1
  obtain ⟨x1, x2, hta, -⟩ := RT_fk (Or.inl ⟨rfl, rfl, rfl⟩) hR0
  have hta' : hT h a = (29, 0) := hta
  generalize eT : zB 108 e (zB 112 s (zB 113 t e2)) = T at hR0 kk
  refine vsel_of (y := 356) (by rw [hta']; rfl) ?_
  refine se_X29_lay hS hta' ⟨by omega, ?_⟩
  refine c_n37 (St_new hS) (hT_newa rfl) ?_
  obtain ⟨h1, e1⟩ : ∃ x, x = sI (sR (hNew h 37 0 5) (hN h) 0 (some a)) (hN h) 1 0 := ⟨_, rfl⟩
  rw [← e1]
  obtain ⟨S1, n1, u1, m1, C1⟩ := co_new (w := 0) hS hlo (by omega) hR0 rfl e1
  have R1 : RT h1 lo hi T [a] := RT_eq hlo (by omega) (fun c x1 x2 _ => m1 c (by omega)) hR0
  refine ss_X29_lay_9 S1 ((m1 a (by omega)).1.trans hta') ⟨by omega, ?_⟩
  refine c_n37 (St_new S1) (hT_newa rfl) ?_
  obtain ⟨h2, e2⟩ : ∃ x, x = sI (sR (hNew h1 37 0 5) (hN h1) 0 (some a)) (hN h1) 1 1 := ⟨_, rfl⟩
  rw [← e2]
  obtain ⟨S2, n2, u2, m2, C2⟩ := co_new (w := 1) S1 hlo (by omega) R1 rfl e2
  have R2 : RT h2 lo hi T [a] := RT_eq hlo (by omega) (fun c x1 x2 _ => m2 c (by omega)) R1
  refine ss_X29_lay_19 S2 ((m2 a (by omega)).1.trans ((m1 a (by omega)).1.trans hta')) ⟨by omega, ?_⟩
  refine c_n37 (St_new S2) (hT_newa rfl) ?_
  obtain ⟨h3, e3⟩ : ∃ x, x = sI (sR (hNew h2 37 0 5) (hN h2) 0 (some a)) (hN h2) 1 2 := ⟨_, rfl⟩
  rw [← e3]
  obtain ⟨S3, n3, u3, m3, C3⟩ := co_new (w := 2) S2 hlo (by omega) R2 rfl e3
  have R3 : RT h3 lo hi T [a] := RT_eq hlo (by omega) (fun c x1 x2 _ => m3 c (by omega)) R2
  have M : ∀ c, c < hN h → sm h h3 c := fun c hc => sm_trans (sm_trans (m1 c hc) (m2 c (by omega))) (m3 c (by omega))
  refine ss_X29_lay_29 S3 ((M a (by omega)).1.trans hta') ?_
  have w3 : Lw h3 l arr lo hi xs 0 := Lw_alloc hw S3 (by omega) M (by omega) (by omega)
  have h40 := hw.2.2.2.2.2.2.2
  have C1' : RCe h3 lo hi (9, T, 0, 0) (hN h) := RCe_eq hlo (by omega) (fun c x1 x2 _ => sm_trans (m2 c (by omega)) (m3 c (by omega))) (sm_trans (m2 _ (by omega)) (m3 _ (by omega))) C1
  have C2' : RCe h3 lo hi (9, T, 1, 0) (hN h1) := RCe_eq hlo (by omega) (fun c x1 x2 _ => m3 c (by omega)) (m3 _ (by omega)) C2
  refine ly_join (u := u) (p := p) (w0 := 0) (Or.inl ⟨rfl, rfl, rfl⟩) eT.symm os ot hs ht (by omega) hb w3 (by omega) (by omega) R3 rfl C1' C2' C3 (by omega) fun h4 arr4 ys q1 q2 q3 q4 q5 q6 q7 q8 q9 => ?_
  refine kk h4 arr4 ys ⟨q1, by omega, q3, q4, ⟨by omega, by omega, fun c c1 c2 c3 => sm_trans (M c c1) (q7 c c1 c2 c3), q8⟩, ?_⟩
  omega
theorem ly_111 {e s t e2 : zT} (os : okS s 0) (ot : okS t 0) (hs : LyP s) (ht : LyP t) : LyS (zB 111 e (zB 117 s (zB 118 t e2))) := by
  intro h d l arr lo hi a b p xs u Q hd hb hw hR0 kk
  have hd' : 4 * (1 + max (zbr s) (zbr t)) + 20 ≤ d := hd
  obtain ⟨d, rfl⟩ : ∃ e, d = e + 4 := ⟨d - 4, by omega⟩
  have hzc : zc (zB 111 e (zB 117 s (zB 118 t e2))) = 3 + (zc s + zc t) := rfl
  rw [hzc] at hw kk
  have hS := hw.1
  have h145 := hS.1
  have hil : hi ≤ l := hw.2.2.1.1
  have hln : l < hN h := hw.2.2.2.1
  have har : arr = 1 ∨ hi ≤ arr := hw.2.2.2.2.2.1
  have hlo : 145 ≤ lo := hw.2.1
  have hbu := hw.2.2.2.2.2.2.1
  obtain ⟨x1, x2, hta, -⟩ := RT_fk (Or.inr ⟨rfl, rfl, rfl⟩) hR0
  have hta' : hT h a = (30, 0) := hta
  generalize eT : zB 111 e (zB 117 s (zB 118 t e2)) = T at hR0 kk
  refine vsel_of (y := 360) (by rw [hta']; rfl) ?_
  refine se_X30_lay hS hta' ⟨by omega, ?_⟩
  refine c_n37 (St_new hS) (hT_newa rfl) ?_
  obtain ⟨h1, e1⟩ : ∃ x, x = sI (sR (hNew h 37 0 5) (hN h) 0 (some a)) (hN h) 1 3 := ⟨_, rfl⟩
  rw [← e1]
  obtain ⟨S1, n1, u1, m1, C1⟩ := co_new (w := 3) hS hlo (by omega) hR0 rfl e1
  have R1 : RT h1 lo hi T [a] := RT_eq hlo (by omega) (fun c x1 x2 _ => m1 c (by omega)) hR0
  refine ss_X30_lay_9 S1 ((m1 a (by omega)).1.trans hta') ⟨by omega, ?_⟩
  refine c_n37 (St_new S1) (hT_newa rfl) ?_
  obtain ⟨h2, e2⟩ : ∃ x, x = sI (sR (hNew h1 37 0 5) (hN h1) 0 (some a)) (hN h1) 1 4 := ⟨_, rfl⟩
  rw [← e2]
  obtain ⟨S2, n2, u2, m2, C2⟩ := co_new (w := 4) S1 hlo (by omega) R1 rfl e2
  have R2 : RT h2 lo hi T [a] := RT_eq hlo (by omega) (fun c x1 x2 _ => m2 c (by omega)) R1
  refine ss_X30_lay_19 S2 ((m2 a (by omega)).1.trans ((m1 a (by omega)).1.trans hta')) ⟨by omega, ?_⟩
  refine c_n37 (St_new S2) (hT_newa rfl) ?_
  obtain ⟨h3, e3⟩ : ∃ x, x = sI (sR (hNew h2 37 0 5) (hN h2) 0 (some a)) (hN h2) 1 5 := ⟨_, rfl⟩
  rw [← e3]
  obtain ⟨S3, n3, u3, m3, C3⟩ := co_new (w := 5) S2 hlo (by omega) R2 rfl e3
  have R3 : RT h3 lo hi T [a] := RT_eq hlo (by omega) (fun c x1 x2 _ => m3 c (by omega)) R2
  have M : ∀ c, c < hN h → sm h h3 c := fun c hc => sm_trans (sm_trans (m1 c hc) (m2 c (by omega))) (m3 c (by omega))
  refine ss_X30_lay_29 S3 ((M a (by omega)).1.trans hta') ?_
  have w3 : Lw h3 l arr lo hi xs 0 := Lw_alloc hw S3 (by omega) M (by omega) (by omega)
  have h40 := hw.2.2.2.2.2.2.2
  have C1' : RCe h3 lo hi (9, T, 3, 0) (hN h) := RCe_eq hlo (by omega) (fun c x1 x2 _ => sm_trans (m2 c (by omega)) (m3 c (by omega))) (sm_trans (m2 _ (by omega)) (m3 _ (by omega))) C1
  have C2' : RCe h3 lo hi (9, T, 4, 0) (hN h1) := RCe_eq hlo (by omega) (fun c x1 x2 _ => m3 c (by omega)) (m3 _ (by omega)) C2
  refine ly_join (u := u) (p := p) (w0 := 3) (Or.inr ⟨rfl, rfl, rfl⟩) eT.symm os ot hs ht (by omega) hb w3 (by omega) (by omega) R3 rfl C1' C2' C3 (by omega) fun h4 arr4 ys q1 q2 q3 q4 q5 q6 q7 q8 q9 => ?_
  refine kk h4 arr4 ys ⟨q1, by omega, q3, q4, ⟨by omega, by omega, fun c c1 c2 c3 => sm_trans (M c c1) (q7 c c1 c2 c3), q8⟩, ?_⟩
  omega
theorem zun_150 {b : Bool} {s t : zT} (z : zun b (zB 150 s t)) : zun b s ∧ zun b t := by
  unfold zun at z
  rw [if_pos (by omega)] at z
  exact z
theorem zun_fk {b : Bool} {k k2 k3 : Nat} {e s t e2 : zT} (hk : (k = 108 ∧ k2 = 112 ∧ k3 = 113) ∨ (k = 111 ∧ k2 = 117 ∧ k3 = 118)) (z : zun b (zB k e (zB k2 s (zB k3 t e2)))) : b = false ∧ zun b s ∧ zun b t := by
  unfold zun at z
  rw [if_neg (by omega), if_neg (by omega), if_pos (by omega)] at z
  obtain ⟨z1, z2⟩ := z
  unfold zun at z2
  rw [if_pos (by omega)] at z2
  obtain ⟨z3, z4⟩ := z2
  unfold zun at z4
  rw [if_neg (by omega), if_pos (by omega)] at z4
  exact ⟨z1, z3, z4⟩
theorem zun_wh {b : Bool} {e s : zT} (z : zun b (zB 115 e s)) : b = true ∧ zun b s := by
  unfold zun at z
  rw [if_neg (by omega), if_neg (by omega), if_neg (by omega), if_pos (by omega)] at z
  exact z
theorem zun_wn {b : Bool} {e s t : zT} (z : zun b (zB 116 e (zB 119 s t))) : b = true ∧ zun b s ∧ zun b t := by
  unfold zun at z
  rw [if_neg (by omega), if_neg (by omega), if_neg (by omega), if_pos (by omega)] at z
  obtain ⟨z1, z2⟩ := z
  unfold zun at z2
  rw [if_pos (by omega)] at z2
  exact ⟨z1, z2⟩
theorem zun_1 {b : Bool} {k : Nat} {l r : zT} (hk : ok1 k l r) (z : zun b (zB k l r)) : b = decide (k = 114) := by
  have := ok1_k hk
  unfold zun at z
  rw [if_neg (by omega), if_neg (by omega), if_neg (by omega), if_neg (by omega)] at z
  split at z
  · rename_i q; rw [z, decide_eq_true q]
  · rename_i q; rw [z, decide_eq_false q]
theorem ly_all : ∀ t : zT, (okS t 0 → zun false t → LyL t) ∧ (okS t 1 → zun false t → LyS t) := by
  have H := ok_ind (P0 := fun t => zun false t → LyL t) (P1 := fun t => zun false t → LyS t) (fun v _ => ly_nil v)
    (fun s t os ot i1 i2 z => ly_cons os (i1 (zun_150 z).1) (i2 (zun_150 z).2))
    (fun e s t e2 _ os ot _ i1 i2 z => ly_108 os ot (LyP_of (i1 (zun_fk (Or.inl ⟨rfl, rfl, rfl⟩) z).2.1)) (LyP_of (i2 (zun_fk (Or.inl ⟨rfl, rfl, rfl⟩) z).2.2)))
    (fun e s t e2 _ os ot _ i1 i2 z => ly_111 os ot (LyP_of (i1 (zun_fk (Or.inr ⟨rfl, rfl, rfl⟩) z).2.1)) (LyP_of (i2 (zun_fk (Or.inr ⟨rfl, rfl, rfl⟩) z).2.2)))
    (fun e s _ _ _ z => absurd (zun_wh z).1 (by decide))
    (fun e s t _ _ _ _ _ z => absurd (zun_wn z).1 (by decide))
    (fun k l r hk z => ly_one hk (fun q => by have := zun_1 hk z; rw [q] at this; exact absurd this (by decide)))
  exact fun t => ⟨(H t).1, (H t).2.1⟩
