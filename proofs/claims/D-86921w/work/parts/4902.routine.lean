/-! x: frames of whole calls -/
def FX (p : Nat → Nat → Prop) (h h' : hp) : Prop := hN h ≤ hN h' ∧ hU h ≤ hU h' ∧ St h' ∧ ∀ a, a < hN h → hT h' a = hT h a ∧ ∀ j, p a j ∨ (hI h' a j = hI h a j ∧ hL h' a j = hL h a j ∧ hR h' a j = hR h a j)
theorem FX_refl {p : Nat → Nat → Prop} {h : hp} (hS : St h) : FX p h h := ⟨Nat.le_refl _, Nat.le_refl _, hS, fun _ _ => ⟨rfl, fun _ => Or.inr ⟨rfl, rfl, rfl⟩⟩⟩
theorem FX_trans {p : Nat → Nat → Prop} {h h1 h2 : hp} (a : FX p h h1) (b : FX p h1 h2) : FX p h h2 := by
  refine ⟨Nat.le_trans a.1 b.1, Nat.le_trans a.2.1 b.2.1, b.2.2.1, fun c hc => ?_⟩
  obtain ⟨a1, a2⟩ := a.2.2.2 c hc
  obtain ⟨b1, b2⟩ := b.2.2.2 c (Nat.lt_of_lt_of_le hc a.1)
  refine ⟨b1.trans a1, fun j => ?_⟩
  rcases a2 j with q | q
  · exact Or.inl q
  · rcases b2 j with z | z
    · exact Or.inl z
    · exact Or.inr ⟨z.1.trans q.1, z.2.1.trans q.2.1, z.2.2.trans q.2.2⟩
theorem FX_mono {p q : Nat → Nat → Prop} {h h' : hp} (a : FX p h h') (hp : ∀ c j, c < hN h → p c j → q c j) : FX q h h' :=
  ⟨a.1, a.2.1, a.2.2.1, fun c hc => ⟨(a.2.2.2 c hc).1, fun j => ((a.2.2.2 c hc).2 j).imp (hp c j hc) id⟩⟩
theorem FX_sm {p : Nat → Nat → Prop} {h h' : hp} (a : FX p h h') {c : Nat} (hc : c < hN h) (hp : ∀ j, ¬ p c j) : sm h h' c := by
  obtain ⟨a1, a2⟩ := a.2.2.2 c hc
  exact ⟨a1, fun j => ((a2 j).resolve_left (hp j)).1, fun j => ((a2 j).resolve_left (hp j)).2.1, fun j => ((a2 j).resolve_left (hp j)).2.2⟩
theorem FX_at {p : Nat → Nat → Prop} {h h' : hp} (a : FX p h h') {c j : Nat} (hc : c < hN h) (hp : ¬ p c j) : hI h' c j = hI h c j ∧ hL h' c j = hL h c j ∧ hR h' c j = hR h c j := ((a.2.2.2 c hc).2 j).resolve_left hp
theorem FX_sI {p : Nat → Nat → Prop} {h h' : hp} (a : FX p h h') {c j : Nat} {x : Int} (hc : p c j ∨ hN h ≤ c) (h68 : 68 ≤ c ∧ (c < 85 ∨ 101 < c)) : FX p h (sI h' c j x) := by
  refine ⟨a.1, a.2.1, St_sI a.2.2.1 h68, fun b hb => ⟨(a.2.2.2 b hb).1, fun i => ?_⟩⟩
  rcases (a.2.2.2 b hb).2 i with q | q
  · exact Or.inl q
  · by_cases z : b = c ∧ i = j
    · rcases hc with y | y
      · left; rw [z.1, z.2]; exact y
      · exact absurd z.1 (by omega)
    · right
      rw [hI_sI, if_neg z]
      exact q
theorem FX_sR {p : Nat → Nat → Prop} {h h' : hp} (a : FX p h h') {c j : Nat} {x : Option Nat} (hc : p c j ∨ hN h ≤ c) (h68 : okRf c j) : FX p h (sR h' c j x) := by
  refine ⟨a.1, a.2.1, St_sR a.2.2.1 h68, fun b hb => ⟨(a.2.2.2 b hb).1, fun i => ?_⟩⟩
  rcases (a.2.2.2 b hb).2 i with q | q
  · exact Or.inl q
  · by_cases z : b = c ∧ i = j
    · rcases hc with y | y
      · left; rw [z.1, z.2]; exact y
      · exact absurd z.1 (by omega)
    · right
      rw [hR_sR, if_neg z]
      exact q
theorem FX_sL {p : Nat → Nat → Prop} {h h' : hp} (a : FX p h h') {c j : Nat} {x : Int} (hc : p c j ∨ hN h ≤ c) : FX p h (sL h' c j x) := by
  refine ⟨a.1, a.2.1, St_sL a.2.2.1, fun b hb => ⟨(a.2.2.2 b hb).1, fun i => ?_⟩⟩
  rcases (a.2.2.2 b hb).2 i with q | q
  · exact Or.inl q
  · by_cases z : b = c ∧ i = j
    · rcases hc with y | y
      · left; rw [z.1, z.2]; exact y
      · exact absurd z.1 (by omega)
    · right
      rw [hL_sL, if_neg z]
      exact q
theorem FX_new {p : Nat → Nat → Prop} {h h' : hp} (a : FX p h h') {k n c : Nat} : FX p h (hNew h' k n c) := by
  have h1 := a.1
  have h2 := a.2.1
  refine ⟨by rw [hN_new]; omega, by rw [hU_new]; omega, St_new a.2.2.1, fun b hb => ?_⟩
  obtain ⟨a1, a2⟩ := a.2.2.2 b hb
  rw [hT_new (by omega)]
  exact ⟨a1, fun i => by rw [hI_new (by omega), hL_new (by omega), hR_new (by omega)]; exact a2 i⟩
theorem FX_FS {h h' : hp} (a : FS h h') (hS : St h) : FX psf h h' :=
  ⟨a.1, a.2.1, FS_St a hS, fun c hc => ⟨(a.2.2 c hc).1, fun j => ((a.2.2 c hc).2.1 j).imp id (fun q => ⟨q, (a.2.2 c hc).2.2.1 j, (a.2.2 c hc).2.2.2 j⟩)⟩⟩
theorem FX_FI {xj mj as : List Nat} {h h' : hp} (a : FI xj mj as h h') (hS : St h) (ho : okA as = true) : FX (fun c j => pG xj mj as c j = true) h h' := by
  have S' := FI_St a hS ho
  obtain ⟨a1, a2, a3, a4, a5, a6⟩ := a
  refine ⟨by omega, by omega, S', fun c hc => ⟨by rw [a3], fun j => ?_⟩⟩
  cases q : pG xj mj as c j with
  | true => exact Or.inl q
  | false => exact Or.inr ⟨a6 c j q, by rw [a4], by rw [a5]⟩
/-! x: a routine with the steps t lies at rc -/
def XR (h : hp) (t : zT) (rc : Nat) : Prop := hT h rc = (33, 0) ∧ 145 ≤ rc ∧ rc < hN h ∧ ∃ lo hi p l arr ys cs es, 145 ≤ lo ∧ hi ≤ hN h ∧ hR h rc 0 = some p ∧ hR h rc 1 = some l ∧ RPt h lo hi p ys ∧ RT h lo hi t ys ∧ 145 ≤ l ∧ l < hN h ∧ RL h l cs arr ∧ (∀ y ∈ cs, 145 ≤ y) ∧ RC h lo hi es cs ∧ (zun false t → es = zi t (t, 0, 0) 0 0)
theorem RC_mem {h : hp} {lo hi : Nat} : ∀ {es : List zEn} {ys : List Nat}, RC h lo hi es ys → ∀ y ∈ ys, (hT h y).1 = 35 ∨ (hT h y).1 = 36 ∨ (hT h y).1 = 37 := by
  intro es
  induction es with
  | nil => intro ys z y hy; rw [show ys = [] from z] at hy; cases hy
  | cons e es ih =>
    intro ys z y hy
    obtain ⟨c, cs, e1, z1, z2⟩ := z
    subst e1
    rcases List.mem_cons.mp hy with q | q
    · subst q
      unfold RCe at z1
      split at z1
      · rw [z1.1]; split <;> simp
      · rw [z1.1]; simp
    · exact ih z2 y q
theorem XR_eq {h h' : hp} {t : zT} {rc : Nat} (hn : hN h ≤ hN h') (hs : ∀ c, 145 ≤ c → c < hN h → imm (hT h c).1 → sm h h' c) (z : XR h t rc) : XR h' t rc := by
  obtain ⟨z1, z2, z3, lo, hi, p, l, arr, ys, cs, es, a1, a2, a3, a4, a5, a6, a7, a8, a9, a10, a11, a12⟩ := z
  have q := hs rc z2 z3 (by rw [z1]; exact imm_in (by decide) (by decide))
  have smT : ∀ c, lo ≤ c → c < hi → imm (hT h c).1 → sm h h' c := fun c c1 c2 c3 => hs c (by omega) (by omega) c3
  obtain ⟨P1, P2⟩ := PT_eq a1 hn smT a5 a6
  have smC : ∀ y ∈ cs, sm h h' y := fun y hy => by
    have m := RC_mem a11 y hy
    exact hs y (a10 y hy) (a9.2.2.2.1 y hy).1 (imm_in (by omega) (by omega))
  refine ⟨q.1.trans z1, z2, by omega, lo, hi, p, l, arr, ys, cs, es, a1, by omega, (q.2.2.2 0).trans a3, (q.2.2.2 1).trans a4, P1, P2, a7, by omega, ?_, a10, RC_eq a1 hn smT smC a11, a12⟩
  refine RL_eq hn (fun c hc => ?_) (fun x hx => by rw [(smC x hx).1]; exact (a9.2.2.2.1 x hx).2) a9
  rcases hc with e | ⟨e, e2⟩
  · rw [e]; exact hs l a7 a8 (by rw [a9.1]; exact imm_in (by decide) (by decide))
  · rw [e]
    rcases a9.2.2.2.2.2 with ⟨w, -⟩ | ⟨-, w2, -, cap, w, -⟩
    · omega
    · exact hs arr e2 w2 (by rw [w]; exact Or.inr rfl)
theorem RT_kindO {h : hp} {lo hi : Nat} : ∀ t : zT, okS t 1 → zun true t → ∀ a, RT h lo hi t [a] → (hT h a).1 ∈ [23, 31, 32] := by
  have H := ok_ind (P0 := fun _ => True) (P1 := fun t => zun true t → ∀ a, RT h lo hi t [a] → (hT h a).1 ∈ [23, 31, 32]) (fun _ => trivial) (fun _ _ _ _ _ _ => trivial)
    (fun e s t e2 _ _ _ _ _ _ u a z => absurd (zun_fk (Or.inl ⟨rfl, rfl, rfl⟩) u).1 (by decide))
    (fun e s t e2 _ _ _ _ _ _ u a z => absurd (zun_fk (Or.inr ⟨rfl, rfl, rfl⟩) u).1 (by decide))
    (fun e s _ _ _ u a z => by rw [(RT_wh z).2.2.1]; decide)
    (fun e s t _ _ _ _ _ u a z => by rw [(RT_wn z).2.2.1]; decide)
    (fun k l r hk u a z => by
      have k1 : k = 114 := by have := zun_1 hk u; exact of_decide_eq_true this.symm
      subst k1
      unfold RT at z
      rw [if_neg (by omega), if_neg (by omega), if_neg (by omega), if_neg (by omega)] at z
      obtain ⟨b, e, -, -, z⟩ := z
      cases e
      rw [if_neg (by omega), if_pos rfl] at z
      rw [z.1]; decide)
  exact fun t => (H t).2.1
theorem ly_ord : ∀ t : zT, okS t 0 → zun true t → ∀ (h : hp) (d l lo hi a ls la : Nat) (ys pre : List Nat) (v3 : av) (Q : qt), St h → hT h a = (5, 0) → hR h a 0 = some ls → RL h ls (pre ++ ys) la → RT h lo hi t ys → Q (.inl none) h → Wp (d + 5) C_X5_lay Q 2 [vR (some a), vR (some l), vI (pre.length : Nat), v3] [] h := by
  have H := ok_ind (P0 := fun t => zun true t → ∀ (h : hp) (d l lo hi a ls la : Nat) (ys pre : List Nat) (v3 : av) (Q : qt), St h → hT h a = (5, 0) → hR h a 0 = some ls → RL h ls (pre ++ ys) la → RT h lo hi t ys → Q (.inl none) h → Wp (d + 5) C_X5_lay Q 2 [vR (some a), vR (some l), vI (pre.length : Nat), v3] [] h) (P1 := fun _ => True)
    (fun v _ h d l lo hi a ls la ys pre v3 Q hS ht hls hL hR0 k => by
      have hy : ys = [] := hR0
      subst hy
      refine ss_X5_lay_2 hS ht ?_
      rw [hls, ofR_some]
      refine ip (by rw [hL.1]) ?_
      refine c_size hS hL ?_
      refine ss_X5_lay_12 hS ht ?_
      exact im (by simp) k)
    (fun s t os ot _ i2 u h d l lo hi a ls la ys pre v3 Q hS ht hls hL hR0 k => by
      obtain ⟨x, ys', e, r1, r2⟩ := RT_cons hR0
      subst e
      have hlen : (pre ++ x :: ys').length = pre.length + ys'.length + 1 := by simp; omega
      have h73 := RL_73 hL
      refine ss_X5_lay_2 hS ht ?_
      rw [hls, ofR_some]
      refine ip (by rw [hL.1]) ?_
      refine c_size hS hL ?_
      refine ss_X5_lay_12 hS ht ?_
      refine ip (by omega) ?_
      rw [hls, ofR_some]
      refine ip (by rw [hL.1]) ?_
      refine c_get hS hL (by omega) ?_
      have hg : (pre ++ x :: ys').getD pre.length 0 = x := by simp
      rw [hg]
      refine ss_X5_lay_25 hS ht ?_
      refine ⟨Or.inr ⟨x, rfl, RT_kind s os x r1⟩, ?_⟩
      rw [ofR_some]
      have hk := RT_kindO s os (zun_150 u).1 x r1
      refine vsel_of (y := 312) ?_ (se_X22_lay hS hk ?_)
      · have hk' : (hT h x).1 = 23 ∨ (hT h x).1 = 31 ∨ (hT h x).1 = 32 := by simpa using hk
        rcases hk' with e | e | e <;> rw [e] <;> rfl
      · refine ss_X5_lay_34 hS ht ?_
        rw [na_eq (by omega) (by omega)]
        have q := i2 (zun_150 u).2 h d l lo hi a ls la ys' (pre ++ [x]) (vR (some x)) Q hS ht hls (by rw [List.append_assoc]; exact hL) r2 k
        rw [List.length_append] at q
        exact q)
    (fun _ _ _ _ _ _ _ _ _ _ => trivial) (fun _ _ _ _ _ _ _ _ _ _ => trivial) (fun _ _ _ _ _ => trivial) (fun _ _ _ _ _ _ _ _ => trivial) (fun _ _ _ _ => trivial)
  exact fun t => (H t).1
/-- new Routine(part) -/
theorem c_newR {d : Nat} {Q : qt} {h : hp} {o p lo hi : Nat} {ys : List Nat} {t : zT} (hS : St h) (ho : hT h o = (33, 0)) (ho2 : hi ≤ o ∧ o < hN h) (hlo : 145 ≤ lo) (hk : okS t 0) (hu : zun false t ∨ zun true t) (hz : zc t ≤ 40) (hb : zbr t ≤ 5) (hp : RPt h lo hi p ys) (hR0 : RT h lo hi t ys) (hbu : hU h + 16 + 120 * zc t ≤ BUD) (k : ∀ h', XR h' t o → RPt h' lo hi p ys → RT h' lo hi t ys → hN h ≤ hN h' → hU h ≤ hU h' → hU h' ≤ hU h + 16 + 120 * zc t → St h' → (∀ c, c < hN h → c ≠ o → c ≠ 1 → sm h h' c) → Q (.inl none) h') : Wc (d + 50) 377 [vR (some o), vR (some p)] h Q := by
  have h145 := hS.1
  refine se_X33_init hS ho ?_
  refine ss_X33_init_4 hS ho ?_
  refine ⟨by omega, ?_⟩
  have S1 : St (hNew h 44 0 3) := St_new hS
  refine se_J4_init S1 (hT_newa rfl) ?_
  refine se_J3_init S1 (hT_newa rfl) ?_
  refine Wc_of cs_J2_init rfl (tr_J2_init_0 ⟨rfl, ?_⟩)
  refine ss_J3_init_4 S1 (hT_newa rfl) ?_
  have S2 : St (sI (hNew h 44 0 3) (hN h) 0 0) := St_sI S1 (by omega)
  refine ss_J4_init_4 S2 (by rw [hT_sI]; exact hT_newa rfl) ?_
  have S3 : St (sR (sI (hNew h 44 0 3) (hN h) 0 0) (hN h) 1 (some 1)) := St_sR S2 (by unfold okRf; omega)
  have t3 : hT (sR (sI (hNew h 44 0 3) (hN h) 0 0) (hN h) 1 (some 1)) o = (33, 0) := by rw [hT_sR, hT_sI, hT_new (by omega)]; exact ho
  have hp1 := hp.1
  have hp2 := hp.2.1
  have t5 : hT (sR (sI (hNew h 44 0 3) (hN h) 0 0) (hN h) 1 (some 1)) p = (5, 0) := by rw [hT_sR, hT_sI, hT_new (by omega)]; exact hp.2.2.1
  refine ss_X33_init_12 S3 t3 ?_
  rw [ofR_some]
  refine ⟨by rw [t3]; simp, ?_⟩
  rw [ofR_some]
  refine ip (by rw [t5]) ?_
  rw [show hR (sR (sR (sI (hNew h 44 0 3) (hN h) 0 0) (hN h) 1 (some 1)) o 1 (some (hN h))) o 1 = some (hN h) by rw [hR_sR, if_pos ⟨rfl, rfl⟩]]
  obtain ⟨h2, e2⟩ : ∃ x, x = sR (sR (sR (sI (hNew h 44 0 3) (hN h) 0 0) (hN h) 1 (some 1)) o 1 (some (hN h))) o 0 (some p) := ⟨_, rfl⟩
  rw [← e2]
  have S4 : St h2 := by rw [e2]; exact St_sR (St_sR S3 (by unfold okRf; omega)) (by unfold okRf; omega)
  have n2 : hN h2 = hN h + 1 := by rw [e2]; rfl
  have u2 : hU h2 = hU h + 16 := by rw [e2]; show hU h + 3 + 13 = _; omega
  have sm2 : ∀ c, c < hN h → c ≠ o → sm h h2 c := fun c c1 c2 => by rw [e2]; exact sm_sR (sm_sR (sm_sR (sm_sI (sm_new (sm_refl _ _) c1) (by omega)) (by omega)) c2) c2
  have o0 : hT h2 o = (33, 0) := by rw [e2]; exact t3
  have o1 : hR h2 o 0 = some p := by rw [e2, hR_sR, if_pos ⟨rfl, rfl⟩]
  have o2 : hR h2 o 1 = some (hN h) := by rw [e2, hR_sR, if_neg (by omega), hR_sR, if_pos ⟨rfl, rfl⟩]
  have L2 : RL h2 (hN h) [] 1 := by
    refine ⟨?_, ?_, ?_, fun x hx => (by cases hx), ?_, Or.inl ⟨rfl, rfl⟩⟩
    · rw [e2, hT_sR, hT_sR, hT_sR, hT_sI]; exact hT_newa rfl
    · rw [e2, hR_sR, if_neg (by omega), hR_sR, if_neg (by omega), hR_sR, if_pos ⟨rfl, rfl⟩]
    · rw [e2, hI_sR, hI_sR, hI_sR, hI_sI, if_neg (by omega)]; exact hI_newa rfl
    · rw [e2, hI_sR, hI_sR, hI_sR, hI_sI, if_pos ⟨rfl, rfl⟩]; rfl
  have smT : ∀ c, lo ≤ c → c < hi → imm (hT h c).1 → sm h h2 c := fun c c1 c2 _ => sm2 c (by omega) (by omega)
  obtain ⟨P1, P2⟩ := PT_eq hlo (by omega) smT hp hR0
  by_cases hf : zun false t
  · refine (LyP_of ((ly_all t).1 hk hf)) h2 _ (hN h) 1 lo hi p 0 0 [] ys (t, 0, 0) _ (by omega) rfl ⟨S4, hlo, by omega, by omega, L2, Or.inl rfl, by omega, by rw [List.length_nil]; omega⟩ P1 P2 ?_
    intro h3 arr3 cs r
    obtain ⟨r1, r2, r3, r4, ⟨f1, f2, f3, f4⟩, r6⟩ := r
    have so := f3 o (by omega) (by omega) (by omega)
    have smT3 : ∀ c, lo ≤ c → c < hi → imm (hT h2 c).1 → sm h2 h3 c := fun c c1 c2 _ => f3 c (by omega) (by omega) (by omega)
    obtain ⟨P3, P4⟩ := PT_eq hlo (by omega) smT3 P1 P2
    exact k h3 ⟨so.1.trans o0, by omega, by omega, lo, hi, p, hN h, arr3, ys, cs, _, hlo, by omega, (so.2.2.2 0).trans o1, (so.2.2.2 1).trans o2, P3, P4, h145, by omega, r1, fun y hy => by have := r3 y hy; omega, r4, fun _ => rfl⟩ P3 P4 (by omega) (by omega) (by omega) f4 (fun c c1 c2 c3 => sm_trans (sm2 c c1 c2) (f3 c (by omega) (by omega) c3))
  · have ht := hu.resolve_left hf
    obtain ⟨z1, z2, z3, ls, la, z4, z5, z6, z7, z8⟩ := P1
    refine se_X5_lay S4 z3 ?_
    refine ly_ord t hk ht h2 _ (hN h) lo hi p ls la ys [] vU _ S4 z3 z4 z7 P2 ?_
    exact k h2 ⟨o0, by omega, by omega, lo, hi, p, hN h, 1, ys, [], [], hlo, by omega, o1, o2, ⟨z1, z2, z3, ls, la, z4, z5, z6, z7, z8⟩, P2, h145, by omega, L2, fun y hy => (by cases hy), rfl, fun z => absurd z hf⟩ ⟨z1, z2, z3, ls, la, z4, z5, z6, z7, z8⟩ P2 (by omega) (by omega) (by omega) S4 (fun c c1 c2 _ => sm2 c c1 c2)
def pKp (r : Nat) (a j : Nat) : Prop := a = 1 ∨ (a = 68 ∧ j = 19) ∨ (a = 72 ∧ j = r)
/-- keep(part, r) -/
theorem c_keep {d : Nat} {Q : qt} {h : hp} {p lo hi r : Nat} {ys : List Nat} {t : zT} (hS : St h) (hr : r < 10) (hlo : 145 ≤ lo) (hhi : hi ≤ hN h) (hk : okS t 0) (hu : zun false t ∨ zun true t) (hz : zc t ≤ 40) (hb : zbr t ≤ 5) (hp : RPt h lo hi p ys) (hR0 : RT h lo hi t ys) (hbu : hU h + 31 + 120 * zc t ≤ BUD) (k : ∀ h' o, XR h' t o → hR h' 72 r = some o → hI h' 68 19 = -1 → hU h' ≤ hU h + 31 + 120 * zc t → FX (pKp r) h h' → Q (.inl (some (vI (zc t : Nat)))) h') : Wc (d + 70) 38 [vR (some 68), vR (some p), vI (r : Nat)] h Q := by
  have h145 := hS.1
  refine se_X0_keep hS ?_
  refine im (by simp) ?_
  refine ⟨by omega, ?_⟩
  have S1 : St (hNew h 33 0 2) := St_new hS
  have sm1 : ∀ c, c < hN h → sm h (hNew h 33 0 2) c := fun c hc => sm_new (sm_refl _ _) hc
  obtain ⟨P1, P2⟩ := PT_eq hlo (by rw [hN_new]; omega) (fun c c1 c2 _ => sm1 c (by omega)) hp hR0
  refine c_newR S1 (hT_newa rfl) (by rw [hN_new]; omega) hlo hk hu hz hb P1 P2 (by rw [hU_new]; omega) ?_
  intro h1 x1 p1 t1 n1 v1 v2 s1 f1
  rw [hN_new] at n1 f1
  rw [hU_new] at v1 v2
  have st := stt_72 s1
  have pk := p1.2.2.1
  have pl := p1.1
  refine ss_X0_keep_21 s1 ?_
  rw [ofR_some]
  refine ⟨⟨by rw [st]; simp, by omega, by rw [st]; show (r : Int) < ((10 : Nat) : Int); omega⟩, Or.inr ⟨_, rfl, by rw [x1.1]; simp⟩, ?_⟩
  refine im (by simp) ?_
  rw [ofR_some]
  refine ip (by rw [pk]) ?_
  rw [Int.toNat_natCast]
  have S2 : St (sI (sR h1 72 r (some (hN h))) 68 19 (-1)) := St_sI (St_sR s1 (by unfold okRf; omega)) (by omega)
  have sm2 : ∀ c, 145 ≤ c → sm h1 (sI (sR h1 72 r (some (hN h))) 68 19 (-1)) c := fun c c1 => sm_sI (sm_sR (sm_refl _ _) (by omega)) (by omega)
  obtain ⟨P3, P4⟩ := PT_eq (h := h1) (h' := sI (sR h1 72 r (some (hN h))) 68 19 (-1)) hlo (Nat.le_refl (hN h1)) (fun c c1 c2 _ => sm2 c (by omega)) p1 t1
  refine c_code S2 hk P3 P4 (by omega) hb ?_
  refine k _ (hN h) (XR_eq (h := h1) (Nat.le_refl (hN h1)) (fun c c1 _ _ => sm2 c c1) x1) (by rw [hR_sI, hR_sR, if_pos ⟨rfl, rfl⟩]) (by rw [hI_sI, if_pos ⟨rfl, rfl⟩]) (by show hU h1 ≤ _; omega) ?_
  have F1 : FX (pKp r) h h1 := ⟨by omega, by omega, s1, fun a ha => ⟨by
      by_cases a1 : a = 1
      · rw [a1, stt_1 s1, stt_1 hS]
      · exact (sm_trans (sm1 a ha) (f1 a (by omega) (by omega) a1)).1, fun j => by
      by_cases a1 : a = 1
      · exact Or.inl (Or.inl a1)
      · have q := sm_trans (sm1 a ha) (f1 a (by omega) (by omega) a1)
        exact Or.inr ⟨q.2.1 j, q.2.2.1 j, q.2.2.2 j⟩⟩⟩
  exact FX_sI (FX_sR F1 (Or.inl (Or.inr (Or.inr ⟨rfl, rfl⟩))) (by unfold okRf; omega)) (Or.inl (Or.inr (Or.inl ⟨rfl, rfl⟩))) (by omega)
