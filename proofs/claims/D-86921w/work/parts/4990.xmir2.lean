/-! x: the mirror of a step -/
theorem oldp_RE {n lo hi : Nat} {h h' : hp} {e : zT} {b : Nat} (F : Fw n h h') (hh : hi ≤ hN h) (re : RE h lo hi e b) : REp h' (PX lo hi h h') e b :=
  REp_eq (fun c hc => ⟨Or.inl hc, F.2.2.2.2 c (Nat.lt_of_lt_of_le hc.2 hh)⟩) (RE_iff.1 re)
theorem oldp_RPl {n lo hi : Nat} {h h' : hp} {e : zT} {b : Nat} (F : Fw n h h') (hh : hi ≤ hN h) (re : RPl h lo hi e b) : RPlp h' (PX lo hi h h') e b :=
  RPlp_eq (fun c hc => ⟨Or.inl hc, F.2.2.2.2 c (Nat.lt_of_lt_of_le hc.2 hh)⟩) (RPl_iff.1 re)
theorem oldp_RT {n lo hi : Nat} {h h' : hp} {t : zT} {xs : List Nat} (F : Fw n h h') (hh : hi ≤ hN h) (re : RT h lo hi t xs) : RTp h' (PX lo hi h h') t xs :=
  RTp_eq F.1 (fun c hc => ⟨Or.inl hc, F.2.2.2.2 c (Nat.lt_of_lt_of_le hc.2 hh)⟩) (RT_iff.1 re)
abbrev vtM : List (Nat × Nat) := [(20, 299), (21, 306), (23, 314), (24, 326), (25, 333), (26, 340), (27, 349), (29, 358), (30, 362), (31, 314), (32, 314)]
def XM1 (s : zT) : Prop := ∀ (d a lo hi : Nat) (h : hp) (Q : qt), St h → 145 ≤ lo → hi ≤ hN h → RT h lo hi s [a] → zc s ≤ 40 → hU h + 200 * zc s ≤ BUD → 16 * zbr s + 12 ≤ d → (∀ h' x, Fw (200 * zc s - 100) h h' → RTp h' (PX lo hi h h') (zmi s) [x] → Q (.inl (some (vR (some x)))) h') → vsel vtM (hT h a).1 fun y => Wc d y [vR (some a)] h Q
theorem RT_one {h : hp} {lo hi k a : Nat} {l r : zT} (ok : ok1 k l r) (rt : RT h lo hi (zB k l r) [a]) : lo ≤ a ∧ a < hi ∧
      (if k = 100 ∨ k = 101 then hT h a = (24, 0) ∧ hI h a 0 = (zn l : Nat) ∧ hI h a 2 = (if k = 100 then 1 else 0) ∧ ∃ b, hR h a 1 = some b ∧ RE h lo hi r b
      else if k = 114 then hT h a = (23, 0) ∧ hI h a 0 = (zn l : Nat) ∧ ∃ b, hR h a 1 = some b ∧ RE h lo hi r b
      else if k = 102 ∨ k = 103 then hT h a = (25, 0) ∧ hI h a 0 = (zn l : Nat) ∧ hI h a 1 = (zn r : Nat) ∧ hI h a 2 = (if k = 102 then 1 else 0)
      else if k = 104 ∨ k = 105 then hT h a = (26, 0) ∧ hI h a 0 = (zn l : Nat) ∧ hI h a 1 = (zg r : Int) - 160 ∧ hI h a 3 = (if k = 104 then 1 else 0) ∧ ∃ b, hR h a 2 = some b ∧ RE h lo hi (zl r) b
      else if k = 106 ∨ k = 107 then hT h a = (27, 0) ∧ hI h a 0 = (zn l : Nat) ∧ hI h a 1 = (if k = 106 then 1 else 0)
      else if k = 133 then hT h a = (20, 0) ∧ ∃ b c, hR h a 0 = some b ∧ hR h a 1 = some c ∧ RPl h lo hi l b ∧ RPl h lo hi r c
      else hT h a = (21, 0) ∧ hI h a 1 = how k ∧ ∃ b c, hR h a 0 = some b ∧ hR h a 2 = some c ∧ RPl h lo hi l b ∧ RE h lo hi r c) := by
  have hk := ok1_k ok
  clear ok
  have rt' : RT h lo hi (.branch k l r) [a] := rt
  clear rt
  unfold RT at rt'
  rw [if_neg (by omega), if_neg (by omega), if_neg (by omega), if_neg (by omega)] at rt'
  obtain ⟨a', e, a1, a2, y⟩ := rt'
  cases e
  refine ⟨a1, a2, ?_⟩
  split at y
  · rename_i q; rw [if_pos q]; exact y
  rename_i q; rw [if_neg q]
  split at y
  · rename_i q; rw [if_pos q]; exact y
  rename_i q; rw [if_neg q]
  split at y
  · rename_i q; rw [if_pos q]; exact y
  rename_i q; rw [if_neg q]
  split at y
  · rename_i q; rw [if_pos q]; exact y
  rename_i q; rw [if_neg q]
  split at y
  · rename_i q; rw [if_pos q]; exact y
  rename_i q; rw [if_neg q]
  rw [if_neg (by omega), if_neg (by omega), if_neg (by omega)] at y
  exact y
theorem xm_24 {k : Nat} {l r : zT} (ok : ok1 k l r) (hk : k = 100 ∨ k = 101) : XM1 (zB k l r) := by
  intro d a lo hi h Q hS hl hh rt _ hu hd q
  have zc1 := (ok1_S ok).2.1
  rw [zmi_1 ok, zc1] at q
  rw [zc1] at hu
  obtain ⟨d, rfl⟩ : ∃ e, d = e + 12 := ⟨d - 12, by omega⟩
  obtain ⟨a1, a2, y⟩ := RT_one ok rt
  rw [if_pos hk] at y
  obtain ⟨t, i0, i2, b, r1, re⟩ := y
  have an : a ≠ hN h := by omega
  have S1 : St (hNew h 24 0 3) := St_new hS
  have fin : ∀ v : Int, v = (if zmk k = 100 then 1 else 0) → Q (.inl (some (vR (some (hN h))))) (sI (sR (sI (hNew h 24 0 3) (hN h) 0 (zn l : Nat)) (hN h) 1 (some b)) (hN h) 2 v) := by
    intro v ev
    have F : Fw 16 h (sI (sR (sI (hNew h 24 0 3) (hN h) 0 (zn l : Nat)) (hN h) 1 (some b)) (hN h) 2 v) := Fw_sI (Fw_sR (Fw_sI (Fw_new hS (k := 24) (n := 0) (c := 3)) hS (Nat.le_refl _)) hS (Nat.le_refl _)) hS (Nat.le_refl _)
    refine q _ _ (Fw_mono F (by omega)) (mkp_24 (b := b) ?_ (Or.inr ⟨Nat.le_refl _, Nat.lt_succ_self _⟩) ?_ ?_ ?_ ?_ (oldp_RE F hh re))
    · rcases hk with z | z <;> subst z <;> decide
    · rw [hT_sI, hT_sR, hT_sI]; exact hT_newa rfl
    · rw [hI_sI, if_neg (by omega), hI_sR, hI_sI, if_pos ⟨rfl, rfl⟩]
    · rw [hI_sI, if_pos ⟨rfl, rfl⟩]; exact ev
    · rw [hR_sI, hR_sR, if_pos ⟨rfl, rfl⟩]
  refine vsel_of (y := 326) (by rw [t]; rfl) (se_X24_mirror hS t ?_)
  rw [hT_new an, hI_new an, hI_new an, hR_new an, i0, i2, r1, t]
  refine ⟨by omega, List.mem_singleton.mpr rfl, List.mem_singleton.mpr rfl, List.mem_singleton.mpr rfl, ?_⟩
  rcases hk with z | z <;> subst z
  · exact im (by decide) (c_n24 S1 (hT_newa rfl) (Or.inl rfl) (fin 0 rfl))
  · exact ip rfl (c_n24 S1 (hT_newa rfl) (Or.inr rfl) (fin 1 rfl))
theorem xm_25 {k : Nat} {l r : zT} (ok : ok1 k l r) (hk : k = 102 ∨ k = 103) : XM1 (zB k l r) := by
  intro d a lo hi h Q hS hl hh rt _ hu hd q
  have zc1 := (ok1_S ok).2.1
  rw [zmi_1 ok, zc1] at q
  rw [zc1] at hu
  obtain ⟨d, rfl⟩ : ∃ e, d = e + 12 := ⟨d - 12, by omega⟩
  obtain ⟨a1, a2, y⟩ := RT_one ok rt
  rw [if_neg (by omega), if_neg (by omega), if_pos hk] at y
  obtain ⟨t, i0, i1, i2⟩ := y
  have an : a ≠ hN h := by omega
  have S1 : St (hNew h 25 0 3) := St_new hS
  have fin : ∀ v : Int, v = (if zmk k = 102 then 1 else 0) → Q (.inl (some (vR (some (hN h))))) (sI (sI (sI (hNew h 25 0 3) (hN h) 0 (zn l : Nat)) (hN h) 1 (zn r : Nat)) (hN h) 2 v) := by
    intro v ev
    have F : Fw 16 h (sI (sI (sI (hNew h 25 0 3) (hN h) 0 (zn l : Nat)) (hN h) 1 (zn r : Nat)) (hN h) 2 v) := Fw_sI (Fw_sI (Fw_sI (Fw_new hS (k := 25) (n := 0) (c := 3)) hS (Nat.le_refl _)) hS (Nat.le_refl _)) hS (Nat.le_refl _)
    refine q _ _ (Fw_mono F (by omega)) (mkp_25 ?_ (Or.inr ⟨Nat.le_refl _, Nat.lt_succ_self _⟩) ?_ ?_ ?_ ?_)
    · rcases hk with z | z <;> subst z <;> decide
    · rw [hT_sI, hT_sI, hT_sI]; exact hT_newa rfl
    · rw [hI_sI, if_neg (by omega), hI_sI, if_neg (by omega), hI_sI, if_pos ⟨rfl, rfl⟩]
    · rw [hI_sI, if_neg (by omega), hI_sI, if_pos ⟨rfl, rfl⟩]
    · rw [hI_sI, if_pos ⟨rfl, rfl⟩]; exact ev
  refine vsel_of (y := 333) (by rw [t]; rfl) (se_X25_mirror hS t ?_)
  rw [hT_new an, hI_new an, hI_new an, hI_new an, i0, i1, i2, t]
  refine ⟨by omega, List.mem_singleton.mpr rfl, List.mem_singleton.mpr rfl, List.mem_singleton.mpr rfl, ?_⟩
  rcases hk with z | z <;> subst z
  · exact im (by decide) (c_n25 S1 (hT_newa rfl) (Or.inl rfl) (fin 0 rfl))
  · exact ip rfl (c_n25 S1 (hT_newa rfl) (Or.inr rfl) (fin 1 rfl))
theorem xm_26 {k : Nat} {l r : zT} (ok : ok1 k l r) (hk : k = 104 ∨ k = 105) : XM1 (zB k l r) := by
  intro d a lo hi h Q hS hl hh rt _ hu hd q
  have zc1 := (ok1_S ok).2.1
  rw [zmi_1 ok, zc1] at q
  rw [zc1] at hu
  obtain ⟨d, rfl⟩ : ∃ e, d = e + 12 := ⟨d - 12, by omega⟩
  obtain ⟨a1, a2, y⟩ := RT_one ok rt
  rw [if_neg (by omega), if_neg (by omega), if_neg (by omega), if_pos hk] at y
  obtain ⟨t, i0, i1, i3, b, r1, re⟩ := y
  have an : a ≠ hN h := by omega
  have S1 : St (hNew h 26 0 4) := St_new hS
  have fin : ∀ v : Int, v = (if zmk k = 104 then 1 else 0) → Q (.inl (some (vR (some (hN h))))) (sI (sR (sI (sI (hNew h 26 0 4) (hN h) 0 (zn l : Nat)) (hN h) 1 ((zg r : Int) - 160)) (hN h) 2 (some b)) (hN h) 3 v) := by
    intro v ev
    have F : Fw 17 h (sI (sR (sI (sI (hNew h 26 0 4) (hN h) 0 (zn l : Nat)) (hN h) 1 ((zg r : Int) - 160)) (hN h) 2 (some b)) (hN h) 3 v) := Fw_sI (Fw_sR (Fw_sI (Fw_sI (Fw_new hS (k := 26) (n := 0) (c := 4)) hS (Nat.le_refl _)) hS (Nat.le_refl _)) hS (Nat.le_refl _)) hS (Nat.le_refl _)
    refine q _ _ (Fw_mono F (by omega)) (mkp_26 (b := b) ?_ (Or.inr ⟨Nat.le_refl _, Nat.lt_succ_self _⟩) ?_ ?_ ?_ ?_ ?_ (oldp_RE F hh re))
    · rcases hk with z | z <;> subst z <;> decide
    · rw [hT_sI, hT_sR, hT_sI, hT_sI]; exact hT_newa rfl
    · rw [hI_sI, if_neg (by omega), hI_sR, hI_sI, if_neg (by omega), hI_sI, if_pos ⟨rfl, rfl⟩]
    · rw [hI_sI, if_neg (by omega), hI_sR, hI_sI, if_pos ⟨rfl, rfl⟩]
    · rw [hI_sI, if_pos ⟨rfl, rfl⟩]; exact ev
    · rw [hR_sI, hR_sR, if_pos ⟨rfl, rfl⟩]
  refine vsel_of (y := 340) (by rw [t]; rfl) (se_X26_mirror hS t ?_)
  rw [hT_new an, hI_new an, hI_new an, hI_new an, hR_new an, i0, i1, i3, r1, t]
  refine ⟨by omega, List.mem_singleton.mpr rfl, List.mem_singleton.mpr rfl, List.mem_singleton.mpr rfl, List.mem_singleton.mpr rfl, ?_⟩
  rcases hk with z | z <;> subst z
  · exact im (by decide) (c_n26 S1 (hT_newa rfl) (Or.inl rfl) (fin 0 rfl))
  · exact ip rfl (c_n26 S1 (hT_newa rfl) (Or.inr rfl) (fin 1 rfl))
theorem xm_27 {k : Nat} {l r : zT} (ok : ok1 k l r) (hk : k = 106 ∨ k = 107) : XM1 (zB k l r) := by
  intro d a lo hi h Q hS hl hh rt _ hu hd q
  have zc1 := (ok1_S ok).2.1
  rw [zmi_1 ok, zc1] at q
  rw [zc1] at hu
  obtain ⟨d, rfl⟩ : ∃ e, d = e + 12 := ⟨d - 12, by omega⟩
  obtain ⟨a1, a2, y⟩ := RT_one ok rt
  rw [if_neg (by omega), if_neg (by omega), if_neg (by omega), if_neg (by omega), if_pos hk] at y
  obtain ⟨t, i0, i1⟩ := y
  have an : a ≠ hN h := by omega
  have S1 : St (hNew h 27 0 2) := St_new hS
  have fin : ∀ v : Int, v = (if zmk k = 106 then 1 else 0) → Q (.inl (some (vR (some (hN h))))) (sI (sI (hNew h 27 0 2) (hN h) 0 (zn l : Nat)) (hN h) 1 v) := by
    intro v ev
    have F : Fw 15 h (sI (sI (hNew h 27 0 2) (hN h) 0 (zn l : Nat)) (hN h) 1 v) := Fw_sI (Fw_sI (Fw_new hS (k := 27) (n := 0) (c := 2)) hS (Nat.le_refl _)) hS (Nat.le_refl _)
    refine q _ _ (Fw_mono F (by omega)) (mkp_27 ?_ (Or.inr ⟨Nat.le_refl _, Nat.lt_succ_self _⟩) ?_ ?_ ?_)
    · rcases hk with z | z <;> subst z <;> decide
    · rw [hT_sI, hT_sI]; exact hT_newa rfl
    · rw [hI_sI, if_neg (by omega), hI_sI, if_pos ⟨rfl, rfl⟩]
    · rw [hI_sI, if_pos ⟨rfl, rfl⟩]; exact ev
  refine vsel_of (y := 349) (by rw [t]; rfl) (se_X27_mirror hS t ?_)
  rw [hT_new an, hI_new an, hI_new an, i0, i1, t]
  refine ⟨by omega, List.mem_singleton.mpr rfl, List.mem_singleton.mpr rfl, ?_⟩
  rcases hk with z | z <;> subst z
  · exact im (by decide) (c_n27 S1 (hT_newa rfl) (Or.inl rfl) (fin 0 rfl))
  · exact ip rfl (c_n27 S1 (hT_newa rfl) (Or.inr rfl) (fin 1 rfl))
theorem xm_20 {l r : zT} (ok : ok1 133 l r) : XM1 (zB 133 l r) := by
  intro d a lo hi h Q hS hl hh rt _ hu hd q
  rw [zmi_1 ok, show zmk 133 = 133 from rfl] at q
  obtain ⟨d, rfl⟩ : ∃ e, d = e + 12 := ⟨d - 12, by omega⟩
  obtain ⟨a1, a2, y⟩ := RT_one ok rt
  rw [if_neg (by omega), if_neg (by omega), if_neg (by omega), if_neg (by omega), if_neg (by omega), if_pos rfl] at y
  have F := Fw_refl hS
  exact vsel_of (y := 299) (by rw [y.1]; rfl) (se_X20_mirror hS y.1 (q h a (Fw_mono F (Nat.zero_le _)) (oldp_RT F hh rt)))
theorem xm_21 {k : Nat} {l r : zT} (ok : ok1 k l r) (hk : 130 ≤ k ∧ k ≤ 135 ∧ k ≠ 133) : XM1 (zB k l r) := by
  intro d a lo hi h Q hS hl hh rt _ hu hd q
  have zc1 := (ok1_S ok).2.1
  rw [zmi_1 ok, zc1] at q
  rw [zc1] at hu
  obtain ⟨d, rfl⟩ : ∃ e, d = e + 12 := ⟨d - 12, by omega⟩
  obtain ⟨a1, a2, y⟩ := RT_one ok rt
  rw [if_neg (by omega), if_neg (by omega), if_neg (by omega), if_neg (by omega), if_neg (by omega), if_neg (by omega)] at y
  obtain ⟨t, i1, b, c, r0, r2, re, re2⟩ := y
  have an : a ≠ hN h := by omega
  have S1 : St (hNew h 21 0 3) := St_new hS
  have tn : hT (hNew h 21 0 3) a = (21, 0) := (hT_new an).trans t
  have hk5 : k = 130 ∨ k = 131 ∨ k = 132 ∨ k = 134 ∨ k = 135 := by omega
  have fin : Wp (d + 11) C_X21_mirror Q 15 [vR (some a)] [vI (how (zmk k)), vR (some b), vR (some (hN h)), vR (some (hN h))] (hNew h 21 0 3) := by
    refine ss_X21_mirror_15 S1 tn ?_
    rw [ofR_some, hT_newa rfl, hR_new an, r2]
    refine ⟨by decide, c_n21 S1 (hT_newa rfl) ?_⟩
    have F : Fw 16 h (sR (sI (sR (hNew h 21 0 3) (hN h) 0 (some b)) (hN h) 1 (how (zmk k))) (hN h) 2 (some c)) := Fw_sR (Fw_sI (Fw_sR (Fw_new hS (k := 21) (n := 0) (c := 3)) hS (Nat.le_refl _)) hS (Nat.le_refl _)) hS (Nat.le_refl _)
    refine q _ _ (Fw_mono F (by omega)) (mkp_21 (b := b) (c := c) ?_ (Or.inr ⟨Nat.le_refl _, Nat.lt_succ_self _⟩) ?_ ?_ ?_ ?_ (oldp_RPl F hh re) (oldp_RE F hh re2))
    · rcases hk5 with z | z | z | z | z <;> subst z <;> decide
    · rw [hT_sR, hT_sI, hT_sR]; exact hT_newa rfl
    · rw [hI_sR, hI_sI, if_pos ⟨rfl, rfl⟩]
    · rw [hR_sR, if_neg (by omega), hR_sI, hR_sR, if_pos ⟨rfl, rfl⟩]
    · rw [hR_sR, if_pos ⟨rfl, rfl⟩]
  refine vsel_of (y := 306) (by rw [t]; rfl) (se_X21_mirror hS t ?_)
  rw [hT_new an, hI_new an, hR_new an, i1, r0, t]
  refine ⟨by omega, List.mem_singleton.mpr rfl, List.mem_singleton.mpr rfl, ?_⟩
  clear rt hu re re2 r0 r2 i1 t tn ok zc1 q hk
  rcases hk5 with z | z | z | z | z <;> subst z
  · exact se_X21_opposite S1 (ip rfl fin)
  · exact se_X21_opposite S1 (im (by decide) (ip rfl fin))
  · exact se_X21_opposite S1 (im (by decide) (im (by decide) (im (by decide) (im (by decide) fin))))
  · exact se_X21_opposite S1 (im (by decide) (im (by decide) (ip rfl fin)))
  · exact se_X21_opposite S1 (im (by decide) (im (by decide) (im (by decide) (ip rfl fin))))
def XM0 (t : zT) : Prop := ∀ (d p lo hi : Nat) (h : hp) (ys : List Nat) (Q : qt), St h → 145 ≤ lo → hi ≤ hN h → RPt h lo hi p ys → RT h lo hi t ys → zc t ≤ 40 → hU h + 200 * zc t + 130 ≤ BUD → 16 * zbr t + 13 ≤ d → (∀ h' p' ys', Fw (200 * zc t + 30) h h' → RPtp h' (PX lo hi h h') p' ys' → RTp h' (PX lo hi h h') (zmi t) ys' → Q (.inl (some (vR (some p')))) h') → Wc d 239 [vR (some p)] h Q
/-! the loop of Part.mirror -/
def zcs : List zT → Nat
  | [] => 0
  | s :: S => zc s + zcs S
theorem zcs_app (A B : List zT) : zcs (A ++ B) = zcs A + zcs B := by
  induction A with
  | nil => show zcs B = 0 + zcs B; omega
  | cons s A ih => show zc s + zcs (A ++ B) = zc s + zcs A + zcs B; omega
theorem zcs_zls : ∀ {t : zT}, okS t 0 → zcs (zls t) = zc t := by
  intro t
  induction t with
  | leaf n => intro _; rfl
  | branch k s t _ ih =>
    intro o
    unfold okS at o
    rw [if_pos rfl] at o
    obtain ⟨ek, o1, o2⟩ := o
    subst ek
    show zc s + zcs (zls t) = zc s + zc t
    rw [ih o2]
theorem RTp_tag {h : hp} {P : Nat → Prop} {s : zT} {x : Nat} (hP : ∀ c, P c → c < hN h) (z : RTp h P s [x]) : (hT h x).1 ≤ 37 := by
  have r : RT h 0 (hN h) s [x] := RT_iff.2 (RTp_eq (Nat.le_refl _) (fun c hc => ⟨⟨Nat.zero_le _, hP c hc⟩, sm_refl _ _⟩) z)
  exact (RT_mem r x (List.mem_singleton.mpr rfl)).2.2.2
theorem Fw_Fl {n N l arr : Nat} {h0 h h' : hp} (a : Fw n h0 h) (b : Fl N h0 h h' l arr) (hl : hN h0 ≤ l) : Fw (n + N) h0 h' := by
  obtain ⟨a1, a2, a3, a4, a5⟩ := a
  obtain ⟨b1, b2, b3, b4, b5⟩ := b
  exact ⟨by omega, by omega, by omega, b4, fun c hc => sm_trans (a5 c hc) (b5 c (by omega) (by omega) (Or.inr hc))⟩
theorem xl_loop {p lo hi d b : Nat} {Q : qt} {h0 : hp} {ys : List Nat} {t0 : zT} (hS0 : St h0) (hl : 145 ≤ lo) (hh : hi ≤ hN h0) (rp : RPt h0 lo hi p ys) (rt : RT h0 lo hi t0 ys) (hd : 16 * b + 12 ≤ d + 8) : ∀ (n : Nat) (S A : List zT) (y1 y2 xs : List Nat) (h : hp) (arr m : Nat), S.length = n → ys = y1 ++ y2 → RTL h0 lo hi S y1 → Al (fun s => okS s 1 ∧ XM1 s ∧ zbr s ≤ b) S → Fw m h0 h → LM h0 (fun c => lo ≤ c ∧ c < hi) h (hN h0 + 1) arr A xs → hT h (hN h0) = (5, 0) → hR h (hN h0) 0 = some (hN h0 + 1) → arr ≠ hN h0 → xs.length + n ≤ 40 → zcs S ≤ 40 → hU h0 + m + 200 * zcs S + 100 ≤ BUD → (∀ h' xs' arr', Fw (m + 200 * zcs S) h0 h' → LM h0 (fun c => lo ≤ c ∧ c < hi) h' (hN h0 + 1) arr' (A ++ S.reverse.map zmi) xs' → hT h' (hN h0) = (5, 0) → hR h' (hN h0) 0 = some (hN h0 + 1) → Q (.inl (some (vR (some (hN h0))))) h') → Wp (d + 8) C_X5_mirror Q 20 [vR (some p), vR (some (hN h0)), vI ((n : Int) - 1)] [] h := by
  intro n
  induction n with
  | zero =>
    intro S A y1 y2 xs h arr m hn ey rl al F M t5 r5 _ _ _ _ k
    have e0 : S = [] := List.length_eq_zero_iff.1 hn
    subst e0
    have hS := F.2.2.2.1
    have tp : hT h p = (5, 0) := by rw [(F.2.2.2.2 p (by have := rp.2.1; omega)).1]; exact rp.2.2.1
    refine ss_X5_mirror_20 hS tp (ip (by decide) (k h xs arr (Fw_mono F (by omega)) ?_ t5 r5))
    rw [show A ++ List.map zmi ([] : List zT).reverse = A from List.append_nil A]
    exact M
  | succ n ih =>
    intro S A y1 y2 xs h arr m hn ey rl al F M t5 r5 n5 hx40 hz hu k
    obtain ⟨S0, s, e0⟩ : ∃ S0 s, S = S0 ++ [s] := by
      rcases List.eq_nil_or_concat S with q | ⟨S0, s, q⟩
      · rw [q] at hn; cases hn
      · exact ⟨S0, s, by rw [q, List.concat_eq_append]⟩
    subst e0
    rw [List.length_append, List.length_singleton] at hn
    rw [zcs_app, show zcs [s] = zc s from rfl] at hz hu k
    rw [List.reverse_append, List.map_append, show List.map zmi [s].reverse = [zmi s] from rfl] at k
    obtain ⟨al0, ⟨os, ms, bs⟩, -⟩ := Al_app.1 al
    obtain ⟨ya, yb, e1, l1, y, zs, e2, l2, l3⟩ := RTL_app rl
    have l3' : zs = [] := l3
    subst l3' e2 e1
    have hS := F.2.2.2.1
    have len := RTL_len l1
    have hn0 := F.1
    have h145 := hS0.1
    obtain ⟨rp1, rt1⟩ := PT_eq hl F.1 (fun c c1 c2 _ => F.2.2.2.2 c (by omega)) rp rt
    obtain ⟨p1, p2, tp, ls, la, f0, f1, f2, rL, -⟩ := rp1
    have r2 : RT h lo hi s [y] := RT_eq hl F.1 (fun c c1 c2 _ => F.2.2.2.2 c (by omega)) l2
    have hyl : ys.length = n + 1 + y2.length := by rw [ey]; simp; omega
    have gd : ys.getD n 0 = y := by rw [ey, show n = ya.length by omega]; simp
    refine ss_X5_mirror_20 hS tp (im (by omega) ?_)
    rw [ofR_some, f0, ofR_some, t5, r5, show (((n + 1 : Nat) : Int) - 1) = ((n : Nat) : Int) by omega]
    refine ⟨List.mem_singleton.mpr rfl, ip (by rw [rL.1]) (c_get hS rL (by omega) ?_)⟩
    rw [gd]
    refine ss_X5_mirror_38 hS tp ⟨Or.inr ⟨y, rfl, RT_kind s os y r2⟩, ?_⟩
    rw [ofR_some]
    refine ms (d + 8) y lo hi h _ hS hl (by omega) r2 (by omega) (by have := F.2.2.1; omega) (by omega) (fun h1 x F1 rx => ?_)
    have S1 := F1.2.2.2.1
    have hn1 := F1.1
    have zs1 := zc_1 os
    have M1 := LM_Fw (fun c hc => ⟨by omega, by omega⟩) hS0 F.1 M F1
    obtain ⟨m1, m2, m3, m4, m5⟩ := id M
    have tp1 : hT h1 p = (5, 0) := by rw [(F1.2.2.2.2 p (by omega)).1]; exact tp
    have ax : RTp h1 (AP h0 (fun c => lo ≤ c ∧ c < hi) h1 (hN h0 + 1) arr) (zmi s) [x] := by
      refine RTp_eq (Nat.le_refl _) (fun c hc => ⟨?_, sm_refl _ _⟩) rx
      unfold AP
      rcases hc with z | z
      · exact ⟨Or.inl z, by omega, by omega⟩
      · exact ⟨Or.inr ⟨by omega, z.2⟩, by omega, by omega⟩
    have tg : (hT h1 x).1 ≤ 37 := RTp_tag (fun c hc => by rcases hc with z | z <;> omega) rx
    refine ss_X5_mirror_44 S1 tp1 ?_
    rw [ofR_some]
    refine ip (by rw [M1.2.2.1.1]) (LM_add (N := 100) (fun c hc => ⟨by omega, by omega⟩) hS0 (by omega) S1 M1 ax tg (by omega) (by have := F.2.2.1; have := F1.2.2.1; omega) (by omega) (fun h2 arr2 L2 M2 ea => ?_))
    have F2 : Fw (m + (200 * zc s - 100) + 100) h0 h2 := Fw_Fl (Fw_trans F F1) L2 (by omega)
    have sp : sm h h2 (hN h0) := sm_trans (F1.2.2.2.2 _ (by omega)) (L2.2.2.2.2 _ (by omega) (by omega) (Or.inl (fun z => n5 z.symm)))
    have tp2 : hT h2 p = (5, 0) := by rw [(F2.2.2.2.2 p (by omega)).1]; exact rp.2.2.1
    refine ss_X5_mirror_49 L2.2.2.2.1 tp2 ?_
    rw [na_eq (by omega) (by omega)]
    refine ih S0 (A ++ [zmi s]) ya (y :: y2) (xs ++ [x]) h2 arr2 (m + 200 * zc s) (by omega) (by rw [ey]; simp) l1 al0 (Fw_mono F2 (by omega)) M2 (by rw [sp.1]; exact t5) (by rw [sp.2.2.2]; exact r5) (by omega) (by rw [List.length_append, List.length_singleton]; omega) (by omega) (by omega) (fun h3 xs3 arr3 F3 M3 t3 r3 => k h3 xs3 arr3 (Fw_mono F3 (by omega)) ?_ t3 r3)
    rw [List.append_assoc] at M3
    exact M3
theorem xm_0 {t : zT} (o : okS t 0) (a : Al XM1 (zls t)) : XM0 t := by
  intro d p lo hi h ys Q hS hl hh rp rt hz hu hd k
  obtain ⟨d, rfl⟩ : ∃ x, d = x + 9 := ⟨d - 9, by omega⟩
  have h145 := hS.1
  have aok := Al_ok o
  have len := zls_40 o
  have rl := RTL_of o rt
  have zz := zcs_zls o
  have hyl := RTL_len rl
  have S1 : St (hNew h 5 0 1) := St_new hS
  have hn1 : hN (hNew h 5 0 1) = hN h + 1 := hN_new
  refine se_X5_mirror hS rp.2.2.1 ⟨by omega, ?_⟩
  refine c_newPart S1 (by rw [hN_new]; omega) (hT_newa rfl) (by rw [hU_new]; omega) ?_
  rw [hn1]
  obtain ⟨g, eg, F, gn, t5, r5, M⟩ := LM_new hS (fun c => lo ≤ c ∧ c < hi)
  rw [← eg]
  have hSg := F.2.2.2.1
  obtain ⟨rp1, rt1⟩ := PT_eq hl F.1 (fun c c1 c2 _ => F.2.2.2.2 c (by omega)) rp rt
  obtain ⟨p1, p2, tp, ls, la, f0, f1, f2, rL, -⟩ := rp1
  refine ss_X5_mirror_7 hSg tp ?_
  rw [f0, ofR_some]
  refine ip (by rw [rL.1]) (c_size hSg rL ?_)
  refine ss_X5_mirror_17 hSg tp ?_
  rw [ns_eq (by omega) (by omega), hyl]
  refine xl_loop (t0 := t) (b := zbr t) hS hl hh rp rt (by omega) (zls t).length (zls t) [] ys [] [] g 1 30 rfl (by simp) rl (Al_and aok (Al_and a (Al_br o))) F M t5 r5 (by omega) (by simp; omega) (by omega) (by omega) (fun h' xs' arr' F' M' t' r' => ?_)
  rw [List.nil_append] at M'
  obtain ⟨m1, m2, m3, m4, m5⟩ := M'
  have hn' := F'.1
  refine k h' (hN h) xs' (Fw_mono F' (by omega)) ⟨Or.inr ⟨Nat.le_refl _, by omega⟩, t', hN h + 1, arr', r', Or.inr ⟨by omega, m2⟩, m3, m4.imp id (fun z => Or.inr z)⟩ ?_
  rw [zmi_zol o]
  exact RTp_eq (Nat.le_refl _) (fun c hc => ⟨hc.1, sm_refl _ _⟩) m5
theorem xm_fk {k k2 k3 : Nat} {e s t e2 : zT} (hk : (k = 108 ∧ k2 = 112 ∧ k3 = 113) ∨ (k = 111 ∧ k2 = 117 ∧ k3 = 118)) (ms : XM0 s) (mt : XM0 t) : XM1 (zB k e (zB k2 s (zB k3 t e2))) := by
  intro d a lo hi h Q hS hl hh rt hz hu hd q
  have hbr : zbr (zB k e (zB k2 s (zB k3 t e2))) = 1 + max (zbr s) (zbr t) := by rcases hk with ⟨a, b, c⟩ | ⟨a, b, c⟩ <;> subst a b c <;> rfl
  have hzc : zc (zB k e (zB k2 s (zB k3 t e2))) = 3 + (zc s + zc t) := by rcases hk with ⟨a, b, c⟩ | ⟨a, b, c⟩ <;> subst a b c <;> rfl
  rw [zmi_fk hk, hzc] at q
  rw [hzc] at hu hz
  rw [hbr] at hd
  obtain ⟨d, rfl⟩ : ∃ e, d = e + 12 := ⟨d - 12, by omega⟩
  obtain ⟨a1, a2, ta, b, p, w, c, ys, zs, f0, f1, f2, f3, re, rp, rs, rw0, rtt, re2⟩ := RT_fk hk rt
  have h145 := hS.1
  have an : a ≠ hN h := by omega
  have fin : ∀ (K p1 p2 : Nat) (ys1 zs1 : List Nat) (g1 g2 : hp), K = (if k = 108 then 29 else 30) → Fw (200 * zc s + 30) (hNew h K 0 4) g1 → RPtp g1 (PX lo hi (hNew h K 0 4) g1) p1 ys1 → RTp g1 (PX lo hi (hNew h K 0 4) g1) (zmi s) ys1 → Fw (200 * zc t + 30) g1 g2 → RPtp g2 (PX lo hi g1 g2) p2 zs1 → RTp g2 (PX lo hi g1 g2) (zmi t) zs1 → Q (.inl (some (vR (some (hN h))))) (sR (sR (sR (sR g2 (hN h) 0 (some c)) (hN h) 1 (some p1)) (hN h) 2 (some p2)) (hN h) 3 (some b)) := by
    intro K p1 p2 ys1 zs1 g1 g2 eK F1 w1 w2 F2 v1 v2
    have F0 : Fw 17 h (hNew h K 0 4) := Fw_new hS
    have n0 : hN (hNew h K 0 4) = hN h + 1 := hN_new
    have n1 := F1.1
    have n2 := F2.1
    have F3 : Fw (17 + (200 * zc s + 30) + (200 * zc t + 30)) h (sR (sR (sR (sR g2 (hN h) 0 (some c)) (hN h) 1 (some p1)) (hN h) 2 (some p2)) (hN h) 3 (some b)) := Fw_sR (Fw_sR (Fw_sR (Fw_sR (Fw_trans (Fw_trans F0 F1) F2) hS (Nat.le_refl _)) hS (Nat.le_refl _)) hS (Nat.le_refl _)) hS (Nat.le_refl _)
    have hN3 : hN (sR (sR (sR (sR g2 (hN h) 0 (some c)) (hN h) 1 (some p1)) (hN h) 2 (some p2)) (hN h) 3 (some b)) = hN g2 := rfl
    have sr : ∀ x, x ≠ hN h → sm g2 (sR (sR (sR (sR g2 (hN h) 0 (some c)) (hN h) 1 (some p1)) (hN h) 2 (some p2)) (hN h) 3 (some b)) x := fun x hx => sm_sR (sm_sR (sm_sR (sm_sR (sm_refl _ _) hx) hx) hx) hx
    have m1 : ∀ x, PX lo hi (hNew h K 0 4) g1 x → PX lo hi h (sR (sR (sR (sR g2 (hN h) 0 (some c)) (hN h) 1 (some p1)) (hN h) 2 (some p2)) (hN h) 3 (some b)) x ∧ sm g1 (sR (sR (sR (sR g2 (hN h) 0 (some c)) (hN h) 1 (some p1)) (hN h) 2 (some p2)) (hN h) 3 (some b)) x := by
      intro x hx
      have hx1 : x < hN g1 ∧ x ≠ hN h := by rcases hx with z | z <;> omega
      refine ⟨?_, sm_trans (F2.2.2.2.2 x hx1.1) (sr x hx1.2)⟩
      rcases hx with z | z
      · exact Or.inl z
      · exact Or.inr ⟨by omega, by rw [hN3]; omega⟩
    have m2 : ∀ x, PX lo hi g1 g2 x → PX lo hi h (sR (sR (sR (sR g2 (hN h) 0 (some c)) (hN h) 1 (some p1)) (hN h) 2 (some p2)) (hN h) 3 (some b)) x ∧ sm g2 (sR (sR (sR (sR g2 (hN h) 0 (some c)) (hN h) 1 (some p1)) (hN h) 2 (some p2)) (hN h) 3 (some b)) x := by
      intro x hx
      have hx1 : x ≠ hN h := by rcases hx with z | z <;> omega
      refine ⟨?_, sr x hx1⟩
      rcases hx with z | z
      · exact Or.inl z
      · exact Or.inr ⟨by omega, by rw [hN3]; omega⟩
    have tn : hT g2 (hN h) = (K, 0) := by rw [(F2.2.2.2.2 _ (by omega)).1, (F1.2.2.2.2 _ (by omega)).1]; exact hT_newa rfl
    refine q _ _ (Fw_mono F3 (by omega)) (mkp_fk (b := c) (p := p1) (q := p2) (c := b) (ys := ys1) (zs := zs1) hk (Or.inr ⟨Nat.le_refl _, by rw [hN3]; omega⟩) ?_ ?_ ?_ ?_ ?_ (oldp_RE F3 hh re2) (RPtp_eq (by rw [hN3]; exact n2) m1 (RTp_P w2) w1) (RTp_eq (by rw [hN3]; exact n2) m1 w2) (RPtp_eq (h := g2) (by rw [hN3]; exact Nat.le_refl _) m2 (RTp_P v2) v1) (RTp_eq (h := g2) (by rw [hN3]; exact Nat.le_refl _) m2 v2) (oldp_RE F3 hh re))
    · rw [hT_sR, hT_sR, hT_sR, hT_sR, tn, eK]
    · rw [hR_sR, if_neg (by omega), hR_sR, if_neg (by omega), hR_sR, if_neg (by omega), hR_sR, if_pos ⟨rfl, rfl⟩]
    · rw [hR_sR, if_neg (by omega), hR_sR, if_neg (by omega), hR_sR, if_pos ⟨rfl, rfl⟩]
    · rw [hR_sR, if_neg (by omega), hR_sR, if_pos ⟨rfl, rfl⟩]
    · rw [hR_sR, if_pos ⟨rfl, rfl⟩]
  have step : ∀ (K : Nat) (Q1 : qt), (∀ h' p' ys', Fw (200 * zc s + 30) (hNew h K 0 4) h' → RPtp h' (PX lo hi (hNew h K 0 4) h') p' ys' → RTp h' (PX lo hi (hNew h K 0 4) h') (zmi s) ys' → Q1 (.inl (some (vR (some p')))) h') → Wc (d + 11) 239 [vR (some p)] (hNew h K 0 4) Q1 := by
    intro K Q1 k1
    have F0 : Fw 17 h (hNew h K 0 4) := Fw_new hS
    obtain ⟨u1, u2⟩ := PT_eq hl F0.1 (fun c c1 c2 _ => F0.2.2.2.2 c (by omega)) rp rs
    exact ms _ p lo hi _ ys Q1 F0.2.2.2.1 hl (by have := F0.1; omega) u1 u2 (by omega) (by have := F0.2.2.1; omega) (by omega) k1
  have step2 : ∀ (K : Nat) (g1 : hp) (Q1 : qt), Fw (200 * zc s + 30) (hNew h K 0 4) g1 → (∀ h' p' ys', Fw (200 * zc t + 30) g1 h' → RPtp h' (PX lo hi g1 h') p' ys' → RTp h' (PX lo hi g1 h') (zmi t) ys' → Q1 (.inl (some (vR (some p')))) h') → Wc (d + 11) 239 [vR (some w)] g1 Q1 := by
    intro K g1 Q1 F1 k1
    have F0 : Fw (17 + (200 * zc s + 30)) h g1 := Fw_trans (Fw_new hS) F1
    obtain ⟨u1, u2⟩ := PT_eq hl F0.1 (fun c c1 c2 _ => F0.2.2.2.2 c (by omega)) rw0 rtt
    exact mt _ w lo hi _ zs Q1 F0.2.2.2.1 hl (by have := F0.1; omega) u1 u2 (by omega) (by have := F0.2.2.1; omega) (by omega) k1
  have w5 : ∀ K, (hT (hNew h K 0 4) p).1 = 5 := fun K => by rw [hT_new (by have := rp.2.1; omega), rp.2.2.1]
  have hu17 : hU h + 4 + 13 ≤ BUD := by omega
  rcases hk with ⟨x, y, z⟩ | ⟨x, y, z⟩ <;> subst x y z
  · rw [if_pos rfl] at ta
    refine vsel_of (y := 358) (by rw [ta]; rfl) (se_X29_mirror hS ta ?_)
    rw [hR_new an, hR_new an, f1, f3, hT_new an, ta, ofR_some]
    refine ⟨hu17, List.mem_singleton.mpr rfl, List.mem_singleton.mpr rfl, ip (w5 29) (step 29 _ (fun g1 p1 ys1 F1 w1 w2 => ?_))⟩
    have sa : sm h g1 a := sm_trans ((Fw_new hS (k := 29) (n := 0) (c := 4)).2.2.2.2 a (by omega)) (F1.2.2.2.2 a (by rw [hN_new]; omega))
    have sw : (hT g1 w).1 = 5 := by rw [(F1.2.2.2.2 w (by rw [hN_new]; have := rw0.2.1; omega)).1, hT_new (by have := rw0.2.1; omega), rw0.2.2.1]
    refine ss_X29_mirror_15 F1.2.2.2.1 (sa.1.trans ta) ?_
    rw [sa.2.2.2, f2, ofR_some]
    refine ip sw (step2 29 g1 _ F1 (fun g2 p2 zs1 F2 v1 v2 => ?_))
    have sb : sm h g2 a := sm_trans sa (F2.2.2.2.2 a (by have := F1.1; rw [hN_new] at this; omega))
    have tn : hT g2 (hN h) = (29, 0) := by rw [(F2.2.2.2.2 _ (by have := F1.1; rw [hN_new] at this; omega)).1, (F1.2.2.2.2 _ (by rw [hN_new]; omega)).1]; exact hT_newa rfl
    refine ss_X29_mirror_22 F2.2.2.2.1 (sb.1.trans ta) ?_
    rw [ofR_some, tn, sb.2.2.2, f0]
    exact ⟨by decide, c_n29 F2.2.2.2.1 tn (fin 29 p1 p2 ys1 zs1 g1 g2 rfl F1 w1 w2 F2 v1 v2)⟩
  · rw [if_neg (by decide)] at ta
    refine vsel_of (y := 362) (by rw [ta]; rfl) (se_X30_mirror hS ta ?_)
    rw [hR_new an, hR_new an, f1, f3, hT_new an, ta, ofR_some]
    refine ⟨hu17, List.mem_singleton.mpr rfl, List.mem_singleton.mpr rfl, ip (w5 30) (step 30 _ (fun g1 p1 ys1 F1 w1 w2 => ?_))⟩
    have sa : sm h g1 a := sm_trans ((Fw_new hS (k := 30) (n := 0) (c := 4)).2.2.2.2 a (by omega)) (F1.2.2.2.2 a (by rw [hN_new]; omega))
    have sw : (hT g1 w).1 = 5 := by rw [(F1.2.2.2.2 w (by rw [hN_new]; have := rw0.2.1; omega)).1, hT_new (by have := rw0.2.1; omega), rw0.2.2.1]
    refine ss_X30_mirror_15 F1.2.2.2.1 (sa.1.trans ta) ?_
    rw [sa.2.2.2, f2, ofR_some]
    refine ip sw (step2 30 g1 _ F1 (fun g2 p2 zs1 F2 v1 v2 => ?_))
    have sb : sm h g2 a := sm_trans sa (F2.2.2.2.2 a (by have := F1.1; rw [hN_new] at this; omega))
    have tn : hT g2 (hN h) = (30, 0) := by rw [(F2.2.2.2.2 _ (by have := F1.1; rw [hN_new] at this; omega)).1, (F1.2.2.2.2 _ (by rw [hN_new]; omega)).1]; exact hT_newa rfl
    refine ss_X30_mirror_22 F2.2.2.2.1 (sb.1.trans ta) ?_
    rw [ofR_some, tn, sb.2.2.2, f0]
    exact ⟨by decide, c_n30 F2.2.2.2.1 tn (fin 30 p1 p2 ys1 zs1 g1 g2 rfl F1 w1 w2 F2 v1 v2)⟩
theorem xm_all : ∀ t : zT, (okS t 0 → zun false t → Al XM1 (zls t)) ∧ (okS t 1 → zun false t → XM1 t) := by
  have H := ok_ind (P0 := fun t => zun false t → Al XM1 (zls t)) (P1 := fun t => zun false t → XM1 t)
    (fun _ _ => trivial)
    (fun s t _ _ a b u => ⟨a (zun_150 u).1, b (zun_150 u).2⟩)
    (fun e a b e2 o1 oa ob o2 i1 i2 u => by
      have u' : false = false ∧ zun false a ∧ zun false b := u
      exact xm_fk (Or.inl ⟨rfl, rfl, rfl⟩) (xm_0 oa (i1 u'.2.1)) (xm_0 ob (i2 u'.2.2)))
    (fun e a b e2 o1 oa ob o2 i1 i2 u => by
      have u' : false = false ∧ zun false a ∧ zun false b := u
      exact xm_fk (Or.inr ⟨rfl, rfl, rfl⟩) (xm_0 oa (i1 u'.2.1)) (xm_0 ob (i2 u'.2.2)))
    (fun e a _ _ _ u => absurd (zun_wh u).1 (by decide)) (fun e a b _ _ _ _ _ u => absurd (zun_wn u).1 (by decide))
    (fun k l r ok u => by
      have e := zun_1 ok u
      have hk := ok1_k ok
      have n114 : k ≠ 114 := by intro z; subst z; exact absurd e (by decide)
      have hq : k = 100 ∨ k = 101 ∨ k = 102 ∨ k = 103 ∨ k = 104 ∨ k = 105 ∨ k = 106 ∨ k = 107 ∨ k = 133 ∨ (130 ≤ k ∧ k ≤ 135 ∧ k ≠ 133) := by omega
      rcases hq with y | y | y | y | y | y | y | y | y | y
      · exact xm_24 ok (Or.inl y)
      · exact xm_24 ok (Or.inr y)
      · exact xm_25 ok (Or.inl y)
      · exact xm_25 ok (Or.inr y)
      · exact xm_26 ok (Or.inl y)
      · exact xm_26 ok (Or.inr y)
      · exact xm_27 ok (Or.inl y)
      · exact xm_27 ok (Or.inr y)
      · subst y; exact xm_20 ok
      · exact xm_21 ok y)
  exact fun t => ⟨(H t).1, (H t).2.1⟩
/-- x's Part.mirror -/
theorem x_mirror {t : zT} (o : okS t 0) (u : zun false t) : XM0 t := xm_0 o ((xm_all t).1 o u)
