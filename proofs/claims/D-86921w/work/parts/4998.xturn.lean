set_option maxRecDepth 10000
/-! x turns: new steps for a list -/
theorem LM_len {h0 h : hp} {P0 : Nat → Prop} {l arr : Nat} {S : List zT} {xs : List Nat} (m : LM h0 P0 h l arr S xs) : xs.length = S.length := by
  have : ∀ (P : Nat → Prop) (S : List zT) (xs : List Nat), RTp h P (zol S) xs → xs.length = S.length := by
    intro P S
    induction S with
    | nil => intro xs z; rw [show xs = [] from z]; rfl
    | cons s S ih => intro xs z; obtain ⟨x, ys, e, -, z2⟩ := RTp_cons.1 z; rw [e, List.length_cons, List.length_cons, ih ys z2]
  exact this _ S xs m.2.2.2.2
def Fk (N : Nat) (h0 h h' : hp) (l arr arr' : Nat) : Prop := Fl N h0 h h' l arr ∧ (arr' = arr ∨ hN h ≤ arr')
theorem Fk_refl {h0 h : hp} {l arr : Nat} (hS : St h) : Fk 0 h0 h h l arr arr := ⟨⟨Nat.le_refl _, Nat.le_refl _, Nat.le_refl _, hS, fun c _ _ _ => sm_refl _ _⟩, Or.inl rfl⟩
theorem Fk_Fw {n : Nat} {h0 h h' : hp} {l arr : Nat} (a : Fw n h h') : Fk n h0 h h' l arr arr := ⟨⟨a.1, a.2.1, a.2.2.1, a.2.2.2.1, fun c hc _ _ => a.2.2.2.2 c hc⟩, Or.inl rfl⟩
theorem Fk_trans {n m : Nat} {h0 h h1 h2 : hp} {l arr arr1 arr2 : Nat} (a : Fk n h0 h h1 l arr arr1) (b : Fk m h0 h1 h2 l arr1 arr2) : Fk (n + m) h0 h h2 l arr arr2 := by
  obtain ⟨⟨a1, a2, a3, a4, a5⟩, a6⟩ := a
  obtain ⟨⟨b1, b2, b3, b4, b5⟩, b6⟩ := b
  exact ⟨⟨by omega, by omega, by omega, b4, fun c c1 c2 c3 => sm_trans (a5 c c1 c2 c3) (b5 c (by omega) c2 (by omega))⟩, by omega⟩
theorem Fk_mono {n m : Nat} {h0 h h1 : hp} {l arr arr1 : Nat} (a : Fk n h0 h h1 l arr arr1) (hn : n ≤ m) : Fk m h0 h h1 l arr arr1 := ⟨⟨a.1.1, a.1.2.1, by have := a.1.2.2.1; omega, a.1.2.2.2⟩, a.2⟩
theorem Fk_Fw0 {n m : Nat} {h0 h h' : hp} {l arr arr' : Nat} (a : Fw n h0 h) (b : Fk m h0 h h' l arr arr') (hl : hN h0 ≤ l) : Fw (n + m) h0 h' := Fw_Fl a b.1 hl
/-- the cells that may be pointed to stay -/
theorem Fk_mv {n : Nat} {h0 h h1 : hp} {P0 : Nat → Prop} {l arr arr1 : Nat} (hP : ∀ c, P0 c → 145 ≤ c ∧ c < hN h0) (h01 : hN h0 ≤ hN h) (a : Fk n h0 h h1 l arr arr1) : ∀ c, AP h0 P0 h l arr c → AP h0 P0 h1 l arr1 c ∧ sm h h1 c := by
  intro c ⟨c1, c2, c3⟩
  obtain ⟨⟨a1, a2, a3, a4, a5⟩, a6⟩ := a
  have hcn : c < hN h := by
    rcases c1 with z | z
    · have := (hP c z).2; omega
    · exact z.2
  exact ⟨⟨c1.imp id (fun z => ⟨z.1, by omega⟩), c2, by omega⟩, a5 c hcn c2 (Or.inl c3)⟩
theorem AP_new {h0 h h1 : hp} {P0 : Nat → Prop} {l arr c : Nat} (hS0 : St h0) (h01 : hN h0 ≤ hN h) (hl : l < hN h) (ha : arr = 1 ∨ arr < hN h) (c1 : hN h ≤ c) (c2 : c < hN h1) : AP h0 P0 h1 l arr c := by
  have := hS0.1
  exact ⟨Or.inr ⟨by omega, c2⟩, by omega, by omega⟩
theorem AP_old {h0 h1 : hp} {lo hi l arr c : Nat} (hS0 : St h0) (hlo : 145 ≤ lo) (hhi : hi ≤ hN h0) (hl : hN h0 ≤ l) (ha : arr = 1 ∨ hN h0 ≤ arr) (c1 : lo ≤ c ∧ c < hi) : AP h0 (fun c => lo ≤ c ∧ c < hi) h1 l arr c :=
  ⟨Or.inl c1, by omega, by omega⟩
/-- a new step is put behind the others -/
theorem ad {d n m lo hi : Nat} {Q : qt} {h0 h g g1 : hp} {l arr arr1 x : Nat} {S : List zT} {s : zT} {xs : List Nat} (hS0 : St h0) (hlo : 145 ≤ lo) (hhi : hi ≤ hN h0) (h0g : hN h0 ≤ hN g) (K : Fk n h0 h g l arr arr1) (M : LM h0 (fun c => lo ≤ c ∧ c < hi) g l arr1 S xs) (F : Fw m g g1) (hx : RTp g1 (AP h0 (fun c => lo ≤ c ∧ c < hi) g1 l arr1) s [x]) (hu : hU h + (n + m + 300) ≤ BUD) (hl : S.length ≤ 162) (k : ∀ g2 arr2 xs2, Fk (n + m + 300) h0 h g2 l arr arr2 → Fk (m + 300) h0 g g2 l arr1 arr2 → LM h0 (fun c => lo ≤ c ∧ c < hi) g2 l arr2 (S ++ [s]) xs2 → hN g1 ≤ hN g2 → Q (.inl (some (vI 1))) g2) : Wc (d + 8) 401 [vR (some l), vR (some x)] g1 Q := by
  have hP : ∀ c, (fun c => lo ≤ c ∧ c < hi) c → 145 ≤ c ∧ c < hN h0 := fun c hc => ⟨by have := hc.1; omega, by have := hc.2; omega⟩
  have M1 := LM_Fw hP hS0 h0g M F
  have len := LM_len M
  have n1 := F.1
  have q1 : xs.length + xs.length / 2 + 23 ≤ 300 := by omega
  have q2 : hU g ≤ hU h + n := K.1.2.2.1
  have q3 : hU g1 ≤ hU g + m := F.2.2.1
  have q4 : hU g1 + 300 ≤ BUD := by generalize BUD = B at hu ⊢; omega
  have q5 : xs.length ≤ 162 := by omega
  refine LM_add (N := 300) hP hS0 (by omega) F.2.2.2.1 M1 hx (RTp_tag (fun c hc => ?_) hx) q1 q4 q5 (fun g2 arr2 f m2 ea => k g2 arr2 _ (Fk_trans (Fk_trans K (Fk_Fw F)) ⟨f, ea⟩) (Fk_trans (Fk_Fw F) ⟨f, ea⟩) m2 f.1)
  rcases hc.1 with z | z
  · have := (hP c z).2; omega
  · exact z.2
/-! a new cell gets its fields -/
theorem i_push {g : hp} {x n : Nat} {P : Nat → Prop} (hp : P x) (ht : hT g x = (25, 0)) : RTp (sI (sI (sI g x 0 (n : Nat)) x 1 3) x 2 1) P (zB 102 (zL n) (zL 3)) [x] := by
  refine mkp_25 (Or.inl rfl) hp ?_ ?_ ?_ ?_
  · rw [hT_sI, hT_sI, hT_sI]; exact ht
  · rw [hI_sI, if_neg (by omega), hI_sI, if_neg (by omega), hI_sI, if_pos ⟨rfl, rfl⟩]; rfl
  · rw [hI_sI, if_neg (by omega), hI_sI, if_pos ⟨rfl, rfl⟩]; rfl
  · rw [hI_sI, if_pos ⟨rfl, rfl⟩]; rfl
theorem i_place {g : hp} {x n : Nat} {P : Nat → Prop} (hp : P x) (ht : hT g x = (6, 0)) : RPlp (sR (sI (sI g x 0 (n : Nat)) x 1 0) x 2 none) P (zNam n) x := by
  refine ⟨hp, ?_, Or.inl ⟨rfl, ?_, ?_, ?_⟩⟩
  · rw [hT_sR, hT_sI, hT_sI]; exact ht
  · rw [hI_sR, hI_sI, if_neg (by omega), hI_sI, if_pos ⟨rfl, rfl⟩]; rfl
  · rw [hI_sR, hI_sI, if_pos ⟨rfl, rfl⟩]
  · rw [hR_sR, if_pos ⟨rfl, rfl⟩]
theorem i_let {g : hp} {x n b k : Nat} {v : Int} {e : zT} {P Pe : Nat → Prop} (hk : k = 100 ∨ k = 101) (hv : v = (if k = 100 then 1 else 0)) (hp : P x) (ht : hT g x = (24, 0)) (he : ∀ c, Pe c → P c ∧ c ≠ x) (re : REp g Pe e b) : RTp (sI (sR (sI g x 0 (n : Nat)) x 1 (some b)) x 2 v) P (zB k (zL n) e) [x] := by
  refine mkp_24 (b := b) hk hp ?_ ?_ ?_ ?_ (REp_eq (fun c hc => ⟨(he c hc).1, sm_sI (sm_sR (sm_sI (sm_refl _ _) (he c hc).2) (he c hc).2) (he c hc).2⟩) re)
  · rw [hT_sI, hT_sR, hT_sI]; exact ht
  · rw [hI_sI, if_neg (by omega), hI_sR, hI_sI, if_pos ⟨rfl, rfl⟩]; rfl
  · rw [hI_sI, if_pos ⟨rfl, rfl⟩]; exact hv
  · rw [hR_sI, hR_sR, if_pos ⟨rfl, rfl⟩]
theorem i_chg {g : hp} {x b c k : Nat} {v : Int} {p e : zT} {P Pe : Nat → Prop} (hk : 130 ≤ k ∧ k ≤ 135 ∧ k ≠ 133) (hv : v = how k) (hp : P x) (ht : hT g x = (21, 0)) (he : ∀ c, Pe c → P c ∧ c ≠ x) (rp : RPlp g Pe p b) (re : REp g Pe e c) : RTp (sR (sI (sR g x 0 (some b)) x 1 v) x 2 (some c)) P (zB k p e) [x] := by
  have mv : ∀ c', Pe c' → P c' ∧ sm g (sR (sI (sR g x 0 (some b)) x 1 v) x 2 (some c)) c' := fun c' hc => ⟨(he c' hc).1, sm_sR (sm_sI (sm_sR (sm_refl _ _) (he c' hc).2) (he c' hc).2) (he c' hc).2⟩
  refine mkp_21 (b := b) (c := c) hk hp ?_ ?_ ?_ ?_ (RPlp_eq mv rp) (REp_eq mv re)
  · rw [hT_sR, hT_sI, hT_sR]; exact ht
  · rw [hI_sR, hI_sI, if_pos ⟨rfl, rfl⟩]; exact hv
  · rw [hR_sR, if_neg (by omega), hR_sI, hR_sR, if_pos ⟨rfl, rfl⟩]
  · rw [hR_sR, if_pos ⟨rfl, rfl⟩]
theorem i_swap {g : hp} {x b c : Nat} {p e : zT} {P Pe : Nat → Prop} (hp : P x) (ht : hT g x = (20, 0)) (he : ∀ c, Pe c → P c ∧ c ≠ x) (rp : RPlp g Pe p b) (re : RPlp g Pe e c) : RTp (sR (sR g x 0 (some b)) x 1 (some c)) P (zB 133 p e) [x] := by
  have mv : ∀ c', Pe c' → P c' ∧ sm g (sR (sR g x 0 (some b)) x 1 (some c)) c' := fun c' hc => ⟨(he c' hc).1, sm_sR (sm_sR (sm_refl _ _) (he c' hc).2) (he c' hc).2⟩
  refine mkp_20 (b := b) (c := c) hp ?_ ?_ ?_ (RPlp_eq mv rp) (RPlp_eq mv re)
  · rw [hT_sR, hT_sR]; exact ht
  · rw [hR_sR, if_neg (by omega), hR_sR, if_pos ⟨rfl, rfl⟩]
  · rw [hR_sR, if_pos ⟨rfl, rfl⟩]
theorem i_fk {k k2 k3 : Nat} {e s t e2 : zT} (hk : (k = 108 ∧ k2 = 112 ∧ k3 = 113) ∨ (k = 111 ∧ k2 = 117 ∧ k3 = 118)) {g : hp} {x b p q c : Nat} {ys zs : List Nat} {P Pe : Nat → Prop} (hp : P x) (ht : hT g x = (if k = 108 then 29 else 30, 0)) (he : ∀ c, Pe c → P c ∧ c ≠ x) (re : REp g Pe e b) (rp : RPtp g Pe p ys) (rs : RTp g Pe s ys) (rq : RPtp g Pe q zs) (rt : RTp g Pe t zs) (re2 : REp g Pe e2 c) : RTp (sR (sR (sR (sR g x 0 (some b)) x 1 (some p)) x 2 (some q)) x 3 (some c)) P (zB k e (zB k2 s (zB k3 t e2))) [x] := by
  have mv : ∀ c', Pe c' → P c' ∧ sm g (sR (sR (sR (sR g x 0 (some b)) x 1 (some p)) x 2 (some q)) x 3 (some c)) c' := fun c' hc => ⟨(he c' hc).1, sm_sR (sm_sR (sm_sR (sm_sR (sm_refl _ _) (he c' hc).2) (he c' hc).2) (he c' hc).2) (he c' hc).2⟩
  have hn0 : hN g ≤ hN (sR (sR (sR (sR g x 0 (some b)) x 1 (some p)) x 2 (some q)) x 3 (some c)) := Nat.le_refl _
  refine mkp_fk (b := b) (p := p) (q := q) (c := c) (ys := ys) (zs := zs) hk hp ?_ ?_ ?_ ?_ ?_ (REp_eq mv re) (RPtp_eq (h := g) hn0 mv (RTp_P rs) rp) (RTp_eq (h := g) hn0 mv rs) (RPtp_eq (h := g) hn0 mv (RTp_P rt) rq) (RTp_eq (h := g) hn0 mv rt) (REp_eq mv re2)
  · rw [hT_sR, hT_sR, hT_sR, hT_sR]; exact ht
  · rw [hR_sR, if_neg (by omega), hR_sR, if_neg (by omega), hR_sR, if_neg (by omega), hR_sR, if_pos ⟨rfl, rfl⟩]
  · rw [hR_sR, if_neg (by omega), hR_sR, if_neg (by omega), hR_sR, if_pos ⟨rfl, rfl⟩]
  · rw [hR_sR, if_neg (by omega), hR_sR, if_pos ⟨rfl, rfl⟩]
  · rw [hR_sR, if_pos ⟨rfl, rfl⟩]
theorem i_num {g : hp} {x v : Nat} {P : Nat → Prop} (hp : P x) (ht : hT g x = (8, 0)) : REp (sI g x 0 (v : Nat)) P (zNum v) x := by
  refine ⟨hp, ?_⟩
  rw [if_pos rfl]
  exact ⟨by rw [hT_sI]; exact ht, by rw [hI_sI, if_pos ⟨rfl, rfl⟩]; rfl⟩
theorem i_nam {g : hp} {x v : Nat} {P : Nat → Prop} (hp : P x) (ht : hT g x = (9, 0)) : REp (sI g x 0 (v : Nat)) P (zNam v) x := by
  refine ⟨hp, ?_⟩
  rw [if_neg (by decide), if_pos rfl]
  exact ⟨by rw [hT_sI]; exact ht, by rw [hI_sI, if_pos ⟨rfl, rfl⟩]; rfl⟩
/-- isNought -/
theorem x_nought {d b : Nat} {Q : qt} {h : hp} (hS : St h) (hu : hU h + 30 ≤ BUD) (k : ∀ h', Fw 30 h h' → hN h' = hN h + 2 → (∀ (P P' : Nat → Prop) (e : zT), (∀ c, P c → c < hN h ∧ P' c) → P' (hN h) → P' (hN h + 1) → REp h P e b → REp h' P' (zno e) (hN h)) → Q (.inl (some (vR (some (hN h))))) h') : Wc (d + 5) 317 [vR (some b)] h Q := by
  have S1 : St (hNew h 14 0 3) := St_new hS
  have n1 : hN (hNew h 14 0 3) = hN h + 1 := hN_new
  have S2 : St (hNew (hNew h 14 0 3) 8 0 1) := St_new S1
  have t8 : hT (hNew (hNew h 14 0 3) 8 0 1) (hN h + 1) = (8, 0) := hT_newa n1.symm
  have S3 : St (sI (hNew (hNew h 14 0 3) 8 0 1) (hN h + 1) 0 0) := St_sI S2 (by have := hS.1; omega)
  have t14 : hT (sI (hNew (hNew h 14 0 3) 8 0 1) (hN h + 1) 0 0) (hN h) = (14, 0) := by rw [hT_sI, hT_new (by rw [n1]; omega)]; exact hT_newa rfl
  refine se_X22_isNought hS ⟨by omega, by omega, c_i8 S2 t8 ?_⟩
  refine ss_X22_isNought_15 S3 ?_
  rw [ofR_some, t14]
  refine ⟨by decide, c_i14 S3 t14 ?_⟩
  have F : Fw 30 h (sR (sI (sR (sI (hNew (hNew h 14 0 3) 8 0 1) (hN h + 1) 0 0) (hN h) 0 (some b)) (hN h) 2 61) (hN h) 1 (some (hN h + 1))) := Fw_sR (Fw_sI (Fw_sR (Fw_sI (Fw_trans (Fw_new hS (k := 14) (n := 0) (c := 3)) (Fw_new S1 (k := 8) (n := 0) (c := 1))) hS (by omega)) hS (Nat.le_refl _)) hS (Nat.le_refl _)) hS (Nat.le_refl _)
  refine k _ F rfl (fun P P' e hP p0 p1 re => ⟨p0, ?_⟩)
  rw [if_neg (by decide), if_neg (by decide), if_neg (by decide), if_neg (by decide), if_neg (by decide), if_neg (by decide), if_pos (by decide)]
  refine ⟨?_, ?_, b, hN h + 1, ?_, ?_, REp_eq (fun c hc => ⟨(hP c hc).2, F.2.2.2.2 c (hP c hc).1⟩) re, p1, ?_⟩
  · rw [hT_sR, hT_sI, hT_sR]; exact t14
  · rw [hI_sR, hI_sI, if_pos ⟨rfl, rfl⟩]; rfl
  · rw [hR_sR, if_neg (by omega), hR_sI, hR_sR, if_pos ⟨rfl, rfl⟩]
  · rw [hR_sR, if_pos ⟨rfl, rfl⟩]
  · rw [if_pos rfl]
    exact ⟨by rw [hT_sR, hT_sI, hT_sR, hT_sI]; exact t8, by rw [hI_sR, hI_sI, if_neg (by omega), hI_sR, hI_sI, if_pos ⟨rfl, rfl⟩]; rfl⟩
/-- keep: the name is pushed, then gone -/
theorem x_keep {d n lo hi l arr w : Nat} {Q : qt} {h0 h g : hp} {arr1 : Nat} {S : List zT} {xs : List Nat} (hS0 : St h0) (hlo : 145 ≤ lo) (hhi : hi ≤ hN h0) (h0g : hN h0 ≤ hN g) (K : Fk n h0 h g l arr arr1) (M : LM h0 (fun c => lo ≤ c ∧ c < hi) g l arr1 S xs) (hu : hU h + (n + 646) ≤ BUD) (hl : S.length ≤ 160) (k : ∀ g2 arr2 xs2, Fk (n + 646) h0 h g2 l arr arr2 → LM h0 (fun c => lo ≤ c ∧ c < hi) g2 l arr2 (S ++ [zB 102 (zL w) (zL 3), zB 101 (zL w) (zNum 0)]) xs2 → Q (.inl none) g2) : Wc (d + 12) 315 [vR (some l), vI (w : Nat)] g Q := by
  have hS : St g := K.1.2.2.2.1
  obtain ⟨m1, m2, m3, m4, m5⟩ := id M
  have h145 := hS0.1
  have ug := K.1.2.2.1
  have S1 : St (hNew g 25 0 3) := St_new hS
  have F1 : Fw 16 g (sI (sI (sI (hNew g 25 0 3) (hN g) 0 (w : Nat)) (hN g) 1 3) (hN g) 2 1) := Fw_sI (Fw_sI (Fw_sI (Fw_new hS (k := 25) (n := 0) (c := 3)) hS (Nat.le_refl _)) hS (Nat.le_refl _)) hS (Nat.le_refl _)
  refine se_X22_keep hS ⟨by omega, c_n25 S1 (hT_newa rfl) (Or.inr rfl) ?_⟩
  refine ss_X22_keep_11 F1.2.2.2.1 ?_
  rw [ofR_some]
  have tl : (hT (sI (sI (sI (hNew g 25 0 3) (hN g) 0 (w : Nat)) (hN g) 1 3) (hN g) 2 1) l).1 = 44 := by rw [(F1.2.2.2.2 l m2).1, m3.1]
  refine ip tl (ad hS0 hlo hhi h0g K M F1 (i_push (AP_new hS0 h0g m2 (by omega) (Nat.le_refl _) (Nat.lt_succ_self _)) (hT_newa rfl)) (by omega) (by omega) (fun g2 arr2 xs2 K2 _ M2 n2 => ?_))
  have hS2 : St g2 := K2.1.2.2.2.1
  have n1 := F1.1
  obtain ⟨p1, p2, p3, p4, p5⟩ := id M2
  have u2 := K2.1.2.2.1
  have S3 : St (hNew g2 24 0 3) := St_new hS2
  have n3 : hN (hNew g2 24 0 3) = hN g2 + 1 := hN_new
  have S4 : St (hNew (hNew g2 24 0 3) 8 0 1) := St_new S3
  have t8 : hT (hNew (hNew g2 24 0 3) 8 0 1) (hN g2 + 1) = (8, 0) := hT_newa n3.symm
  have S5 : St (sI (hNew (hNew g2 24 0 3) 8 0 1) (hN g2 + 1) 0 0) := St_sI S4 (by have := hS2.1; omega)
  have t24 : hT (sI (hNew (hNew g2 24 0 3) 8 0 1) (hN g2 + 1) 0 0) (hN g2) = (24, 0) := by rw [hT_sI, hT_new (by rw [n3]; omega)]; exact hT_newa rfl
  refine ss_X22_keep_16 hS2 ⟨by omega, by omega, c_i8 S4 t8 ?_⟩
  refine ss_X22_keep_31 S5 ?_
  rw [ofR_some, t24]
  refine ⟨by decide, c_n24 S5 t24 (Or.inl rfl) ?_⟩
  have F2 : Fw 30 g2 (sI (sR (sI (sI (hNew (hNew g2 24 0 3) 8 0 1) (hN g2 + 1) 0 0) (hN g2) 0 (w : Nat)) (hN g2) 1 (some (hN g2 + 1))) (hN g2) 2 0) := Fw_sI (Fw_sR (Fw_sI (Fw_sI (Fw_trans (Fw_new hS2 (k := 24) (n := 0) (c := 3)) (Fw_new S3 (k := 8) (n := 0) (c := 1))) hS2 (by omega)) hS2 (Nat.le_refl _)) hS2 (Nat.le_refl _)) hS2 (Nat.le_refl _)
  refine ss_X22_keep_35 F2.2.2.2.1 ?_
  rw [ofR_some]
  have tl2 : (hT (sI (sR (sI (sI (hNew (hNew g2 24 0 3) 8 0 1) (hN g2 + 1) 0 0) (hN g2) 0 (w : Nat)) (hN g2) 1 (some (hN g2 + 1))) (hN g2) 2 0) l).1 = 44 := by rw [(F2.2.2.2.2 l p2).1, p3.1]
  have hn' : hN (sI (sR (sI (sI (hNew (hNew g2 24 0 3) 8 0 1) (hN g2 + 1) 0 0) (hN g2) 0 (w : Nat)) (hN g2) 1 (some (hN g2 + 1))) (hN g2) 2 0) = hN g2 + 2 := rfl
  have hg2 : hN h0 ≤ hN g2 := by omega
  refine ip tl2 (ad hS0 hlo hhi hg2 K2 M2 F2 (i_let (Pe := fun c => c = hN g2 + 1) (Or.inr rfl) rfl (AP_new hS0 hg2 p2 (by omega) (Nat.le_refl _) (by omega)) t24 (fun c hc => ⟨?_, by omega⟩) (i_num rfl t8)) (by omega) (by rw [List.length_append, List.length_singleton]; omega) (fun g4 arr4 xs4 K4 _ M4 n4 => ?_))
  · have hc' : c = hN g2 + 1 := hc
    exact AP_new hS0 hg2 p2 (by omega) (by omega) (by omega)
  · refine ss_X22_keep_40 K4.1.2.2.2.1 (k g4 arr4 xs4 (Fk_mono K4 (by omega)) ?_)
    rw [List.append_assoc] at M4
    exact M4
