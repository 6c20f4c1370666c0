set_option maxRecDepth 10000
/-! x: Part.turned, while, when -/
def XT0 (t : zT) : Prop := ∀ (d p lo hi w : Nat) (h : hp) (ys : List Nat) (Q : qt), St h → 145 ≤ lo → hi ≤ hN h → RPt h lo hi p ys → RT h lo hi t ys → w + zbr t ≤ 5 → zcs (ztt t w).1 ≤ 160 → hU h + (30 + 350 * zcs (ztt t w).1) ≤ BUD → 20 * zbr t + (zk t).length + 40 ≤ d → (∀ h' arr' xs', Fw (30 + 350 * zcs (ztt t w).1) h h' → hT h' (hN h) = (5, 0) → hR h' (hN h) 0 = some (hN h + 1) → LM h (fun c => lo ≤ c ∧ c < hi) h' (hN h + 1) arr' (ztt t w).1 xs' → arr' ≠ hN h → Q (.inl (some (vR (some (hN h))))) h') → Wc d 240 [vR (some p), vI (w : Nat)] h Q
theorem LM_part {lo hi arr : Nat} {h h' : hp} {S : List zT} {xs : List Nat} (F : hN h ≤ hN h') (m : LM h (fun c => lo ≤ c ∧ c < hi) h' (hN h + 1) arr S xs) (t5 : hT h' (hN h) = (5, 0)) (r5 : hR h' (hN h) 0 = some (hN h + 1)) : RPtp h' (PX lo hi h h') (hN h) xs ∧ RTp h' (PX lo hi h h') (zol S) xs := by
  obtain ⟨m1, m2, m3, m4, m5⟩ := m
  exact ⟨⟨Or.inr ⟨Nat.le_refl _, by omega⟩, t5, hN h + 1, arr, r5, Or.inr ⟨by omega, m2⟩, m3, m4.imp id (fun z => Or.inr z)⟩, RTp_eq (Nat.le_refl _) (fun c hc => ⟨hc.1, sm_refl _ _⟩) m5⟩
def ztr (w : Nat) : List zT → List zT
  | [] => []
  | s :: S => (ztt s w).1 ++ ztr w S
theorem ztr_zls (w : Nat) : ∀ {t : zT}, okS t 0 → (ztt t w).1 = ztr w (zls t) := by
  intro t
  induction t with
  | leaf n => intro _; rfl
  | branch k s t _ ih =>
    intro o
    unfold okS at o
    rw [if_pos rfl] at o
    obtain ⟨ek, o1, o2⟩ := o
    subst ek
    show (ztt s w).1 ++ (ztt t w).1 = (ztt s w).1 ++ ztr w (zls t)
    rw [ih o2]
theorem Al_zk : ∀ {t : zT}, okS t 0 → Al (fun s => (zk s).length ≤ (zk t).length) (zls t) := by
  intro t
  induction t with
  | leaf n => intro _; trivial
  | branch k s t _ ih =>
    intro o
    unfold okS at o
    rw [if_pos rfl] at o
    obtain ⟨ek, o1, o2⟩ := o
    subst ek
    refine ⟨?_, Al_mp (fun u z => ?_) (ih o2)⟩
    · show (zk s).length ≤ (zk s ++ zk t).length; rw [List.length_append]; omega
    · show (zk u).length ≤ (zk s ++ zk t).length; rw [List.length_append]; omega
theorem Al_len {P : zT → Prop} : ∀ {S : List zT}, Al (fun s => okS s 1 ∧ P s) S → S.length ≤ zcs S := by
  intro S
  induction S with
  | nil => intro _; exact Nat.le_refl _
  | cons s S ih => intro a; have := ih a.2; have := zc_1 a.1.1; rw [List.length_cons, zcs_c]; omega
theorem xt_loop {p lo hi d b L w : Nat} {Q : qt} {h0 : hp} {ys : List Nat} {t0 : zT} (hS0 : St h0) (hl : 145 ≤ lo) (hh : hi ≤ hN h0) (rp : RPt h0 lo hi p ys) (rt : RT h0 lo hi t0 ys) (hw : w + b ≤ 5) (hd : 20 * b + L + 30 ≤ d + 5) : ∀ (R A : List zT) (y1 y2 xs : List Nat) (h : hp) (arr m : Nat) (v4 : av), ys = y1 ++ y2 → RTL h0 lo hi R y2 → Al (fun s => okS s 1 ∧ XT1 s ∧ zbr s ≤ b ∧ (zk s).length ≤ L ∧ (ztt s w).1.length ≤ zcs (ztt s w).1) R → Fw m h0 h → LM h0 (fun c => lo ≤ c ∧ c < hi) h (hN h0 + 1) arr A xs → hT h (hN h0) = (5, 0) → hR h (hN h0) 0 = some (hN h0 + 1) → arr ≠ hN h0 → A.length + zcs (ztr w R) ≤ 160 → hU h0 + (m + 350 * zcs (ztr w R)) ≤ BUD → (∀ h' xs' arr', Fw (m + 350 * zcs (ztr w R)) h0 h' → LM h0 (fun c => lo ≤ c ∧ c < hi) h' (hN h0 + 1) arr' (A ++ ztr w R) xs' → hT h' (hN h0) = (5, 0) → hR h' (hN h0) 0 = some (hN h0 + 1) → arr' ≠ hN h0 → Q (.inl (some (vR (some (hN h0))))) h') → Wp (d + 5) C_X5_turned Q 10 [vR (some p), vI (w : Nat), vR (some (hN h0)), vI (y1.length : Nat), v4] [] h := by
  intro R
  induction R with
  | nil =>
    intro A y1 y2 xs h arr m v4 ey rl al F M t5 r5 na _ _ k
    have hS := F.2.2.2.1
    obtain ⟨rp1, rt1⟩ := PT_eq hl F.1 (fun c c1 c2 _ => F.2.2.2.2 c (by omega)) rp rt
    obtain ⟨p1, p2, tp, ls, la, f0, f1, f2, rL, -⟩ := rp1
    have e2 : y2 = [] := rl
    refine ss_X5_turned_10 hS tp ?_
    rw [f0, ofR_some]
    refine ip (by rw [rL.1]) (c_size hS rL ?_)
    refine ss_X5_turned_20 hS tp (im (by rw [ey, e2, List.append_nil]; omega) (k h xs arr (Fw_mono F (by omega)) ?_ t5 r5 na))
    rw [show A ++ ztr w [] = A from List.append_nil A]
    exact M
  | cons s R ih =>
    intro A y1 y2 xs h arr m v4 ey rl al F M t5 r5 na hA hu k
    obtain ⟨y, zs, e2, r1, rl2⟩ := rl
    obtain ⟨⟨os, xt, bs, ls1, ln⟩, al2⟩ := al
    have hS := F.2.2.2.1
    have hn0 := F.1
    have h145 := hS0.1
    obtain ⟨rp1, rt1⟩ := PT_eq hl F.1 (fun c c1 c2 _ => F.2.2.2.2 c (by omega)) rp rt
    obtain ⟨p1, p2, tp, ls, la, f0, f1, f2, rL, -⟩ := rp1
    have r2 : RT h lo hi s [y] := RT_eq hl F.1 (fun c c1 c2 _ => F.2.2.2.2 c (by omega)) r1
    have hyl : ys.length = y1.length + (zs.length + 1) := by rw [ey, e2, List.length_append, List.length_cons]
    have gd : ys.getD y1.length 0 = y := by rw [ey, e2]; simp
    have h244 := RL_73 rL
    have ez : ztr w (s :: R) = (ztt s w).1 ++ ztr w R := rfl
    rw [ez, zcs_app] at hA hu k
    obtain ⟨m1, m2, m3, m4, m5⟩ := id M
    refine ss_X5_turned_10 hS tp ?_
    rw [f0, ofR_some]
    refine ip (by rw [rL.1]) (c_size hS rL ?_)
    refine ss_X5_turned_20 hS tp (ip (by omega) ?_)
    rw [f0, ofR_some]
    refine ip (by rw [rL.1]) (c_get hS rL (by omega) ?_)
    rw [gd]
    refine ss_X5_turned_33 hS tp ⟨Or.inr ⟨y, rfl, RT_kind s os y r2⟩, ?_⟩
    rw [ofR_some, t5, ofR_some, r5]
    refine ⟨List.mem_singleton.mpr rfl, xt (d + 5) y lo hi (hN h0 + 1) arr w h0 h A xs _ hS0 hS hl hh F.1 r2 M (by omega) (by omega) (by have := F.2.2.1; omega) (by omega) (fun h1 arr1 xs1 K1 M1 => ?_)⟩
    have F1 : Fw (m + 350 * zcs (ztt s w).1) h0 h1 := Fk_Fw0 F K1 (by omega)
    have hS1 := F1.2.2.2.1
    have sp : sm h h1 (hN h0) := K1.1.2.2.2.2 _ (by omega) (by omega) (Or.inl (fun z => na z.symm))
    have tp1 : hT h1 p = (5, 0) := by rw [(F1.2.2.2.2 p (by have := rp.2.1; omega)).1]; exact rp.2.2.1
    have n1 := F1.1
    have ea := K1.2
    refine ss_X5_turned_48 hS1 tp1 ?_
    rw [n1k (by omega)]
    have hnx := ih (A ++ (ztt s w).1) (y1 ++ [y]) zs xs1 h1 arr1 (m + 350 * zcs (ztt s w).1) (vR (some y)) (by rw [ey, e2]; simp) rl2 al2 F1 M1 (by rw [sp.1]; exact t5) (by rw [sp.2.2.2]; exact r5) (by omega) (by rw [List.length_append]; omega) (by omega) (fun h2 xs2 arr2 F2 M2 t2 r2 na2 => k h2 xs2 arr2 (Fw_mono F2 (by omega)) (by rw [List.append_assoc] at M2; exact M2) t2 r2 na2)
    rw [List.length_append, List.length_singleton] at hnx
    exact hnx
theorem xt_0 {t : zT} (o : okS t 0) (a : Al XT1 (zls t)) (ln : ∀ w, w + zbr t ≤ 5 → Al (fun s => (ztt s w).1.length ≤ zcs (ztt s w).1) (zls t)) : XT0 t := by
  intro d p lo hi w h ys Q hS hl hh rp rt hw hz hu hd k
  obtain ⟨d, rfl⟩ : ∃ x, d = x + 6 := ⟨d - 6, by omega⟩
  have h145 := hS.1
  have ez := ztr_zls w o
  rw [ez] at hz hu k
  have S1 : St (hNew h 5 0 1) := St_new hS
  have hn1 : hN (hNew h 5 0 1) = hN h + 1 := hN_new
  refine se_X5_turned hS rp.2.2.1 ⟨by omega, ?_⟩
  refine c_newPart S1 (by rw [hN_new]; omega) (hT_newa rfl) (by rw [hU_new]; omega) ?_
  rw [hn1]
  obtain ⟨g, eg, F, gn, t5, r5, M⟩ := LM_new hS (fun c => lo ≤ c ∧ c < hi)
  rw [← eg]
  have hSg := F.2.2.2.1
  have tp : hT g p = (5, 0) := by rw [(F.2.2.2.2 p (by have := rp.2.1; omega)).1]; exact rp.2.2.1
  refine ss_X5_turned_7 hSg tp ?_
  exact xt_loop (t0 := t) (b := zbr t) (L := (zk t).length) hS hl hh rp rt hw (by omega) (zls t) [] [] ys [] g 1 30 _ rfl (RTL_of o rt) (Al_and (Al_ok o) (Al_and a (Al_and (Al_br o) (Al_and (Al_zk o) (ln w hw))))) F M t5 r5 (by omega) (by simp; omega) (by omega) (fun h' xs' arr' F' M' t' r' na' => k h' arr' xs' F' t' r' M' na')
theorem xt_115 {e s : zT} (oe : okE e) (os : okS s 0) (xs0 : XT0 s) (ln : ∀ w, w + zbr s ≤ 5 → (ztt s w).1.length ≤ zcs (ztt s w).1) : XT1 (zB 115 e s) := by
  intro d a lo hi l arr w h0 h S xs Q hS0 hS hlo hhi h01 rt M hw hlen hu hd k
  have hw' : w + (1 + zbr s) ≤ 5 := hw
  have hd' : 20 * (1 + zbr s) + (zk (zB 115 e s)).length + 30 ≤ d := hd
  rw [zk_wh] at hd'
  simp only [List.length_append, List.length_cons, List.length_nil] at hd'
  have ln1 := ln (w + 1) (by omega)
  rw [ztt_115, zcs_wh] at hlen hu k
  obtain ⟨d, rfl⟩ : ∃ y, d = y + 45 := ⟨d - 45, by omega⟩
  obtain ⟨a1, a2, ta, b, p, ys, f0, f1, re, rp, rs⟩ := RT_wh rt
  obtain ⟨m1, m2, m3, m4, m5⟩ := id M
  have h145 := hS0.1
  have hP : ∀ c, (fun c => lo ≤ c ∧ c < hi) c → 145 ≤ c ∧ c < hN h0 := fun c hc => ⟨by have := hc.1; omega, by have := hc.2; omega⟩
  obtain ⟨z1, ez1⟩ : ∃ z, z = zcs (ztt s (w + 1)).1 := ⟨_, rfl⟩
  rw [← ez1] at hlen hu k ln1
  obtain ⟨c, ec⟩ : ∃ c, c = 24 - w := ⟨_, rfl⟩
  refine vsel_of (y := 368) (by rw [ta]; rfl) (se_X31_turn hS ta (se_X22_counter hS ?_))
  rw [show n_sub 24 ((w : Nat) : Int) = ((c : Nat) : Int) by rw [ns_eq (by omega) (by omega)]; omega]
  refine ss_X31_turn_4 hS ta ?_
  rw [f1, ofR_some, n1k (by omega)]
  refine ip (by rw [rp.2.2.1]) (xs0 _ p lo hi (w + 1) h ys _ hS hlo (by omega) rp rs (by omega) (by omega) (by omega) (by omega) (fun h1 arr1 xs1 F1 t5 r5 M1 na1 => ?_))
  rw [← ez1] at F1
  have hS1 := F1.2.2.2.1
  have n1 := F1.1
  obtain ⟨q1, q2, q3, q4, q5⟩ := id M1
  have u1 := F1.2.2.1
  have ta1 : hT h1 a = (31, 0) := (F1.2.2.2.2 a (by omega)).1.trans ta
  -- the count goes up
  refine ss_X31_turn_15 hS1 ta1 ?_
  rw [ofR_some, t5, r5]
  have S2 : St (hNew h1 21 0 3) := St_new hS1
  have e2 : hN (hNew h1 21 0 3) = hN h1 + 1 := hN_new
  have S3 : St (hNew (hNew h1 21 0 3) 6 0 3) := St_new S2
  have t6 : hT (hNew (hNew h1 21 0 3) 6 0 3) (hN h1 + 1) = (6, 0) := hT_newa e2.symm
  refine ⟨List.mem_singleton.mpr rfl, by omega, by omega, c_n6 S3 t6 ?_⟩
  obtain ⟨G1, eG1⟩ : ∃ G, G = sR (sI (sI (hNew (hNew h1 21 0 3) 6 0 3) (hN h1 + 1) 0 (c : Nat)) (hN h1 + 1) 1 0) (hN h1 + 1) 2 none := ⟨_, rfl⟩
  have FG1 : Fw 32 h1 G1 := by rw [eG1]; exact Fw_sR (Fw_sI (Fw_sI (Fw_trans (Fw_new hS1 (k := 21) (n := 0) (c := 3)) (Fw_new S2 (k := 6) (n := 0) (c := 3))) hS1 (by omega)) hS1 (by omega)) hS1 (by omega)
  have nG1 : hN G1 = hN h1 + 2 := by rw [eG1]; rfl
  have uG1 : hU G1 = hU h1 + 32 := by rw [eG1]; show hU h1 + 3 + 13 + 3 + 13 = _; omega
  have tG1 : hT G1 (hN h1) = (21, 0) := by rw [eG1, hT_sR, hT_sI, hT_sI, hT_new (by rw [e2]; omega)]; exact hT_newa rfl
  have rG1 : ∀ P : Nat → Prop, P (hN h1 + 1) → RPlp G1 P (zNam c) (hN h1 + 1) := fun P hp => by rw [eG1]; exact i_place hp t6
  rw [← eG1]
  have SG1 := FG1.2.2.2.1
  refine ss_X31_turn_36 SG1 ((FG1.2.2.2.2 a (by omega)).1.trans ta1) ⟨by omega, c_i8 (St_new SG1) (hT_newa rfl) ?_⟩
  obtain ⟨G2, eG2⟩ : ∃ G, G = sI (hNew G1 8 0 1) (hN G1) 0 1 := ⟨_, rfl⟩
  have FG2 : Fw 14 G1 G2 := by rw [eG2]; exact Fw_sI (Fw_new SG1 (k := 8) (n := 0) (c := 1)) SG1 (Nat.le_refl _)
  have nG2 : hN G2 = hN h1 + 3 := by rw [eG2]; show hN G1 + 1 = _; omega
  have rG2 : ∀ P : Nat → Prop, P (hN G1) → REp G2 P (zNum 1) (hN G1) := fun P hp => by rw [eG2]; exact i_num (v := 1) hp (hT_newa rfl)
  rw [← eG2]
  have SG2 := FG2.2.2.2.1
  have tG2 : hT G2 (hN h1) = (21, 0) := (FG2.2.2.2.2 _ (by omega)).1.trans tG1
  have F12 : Fw 46 h1 G2 := Fw_trans FG1 FG2
  refine ss_X31_turn_45 SG2 ((F12.2.2.2.2 a (by omega)).1.trans ta1) ?_
  rw [ofR_some, tG2]
  refine ⟨by decide, c_n21 SG2 tG2 ?_⟩
  have F13 : Fw 46 h1 (sR (sI (sR G2 (hN h1) 0 (some (hN h1 + 1))) (hN h1) 1 0) (hN h1) 2 (some (hN G1))) := Fw_sR (Fw_sI (Fw_sR F12 hS1 (Nat.le_refl _)) hS1 (Nat.le_refl _)) hS1 (Nat.le_refl _)
  have nG3 : hN (sR (sI (sR G2 (hN h1) 0 (some (hN h1 + 1))) (hN h1) 1 0) (hN h1) 2 (some (hN G1))) = hN h1 + 3 := nG2
  have stp : RTp (sR (sI (sR G2 (hN h1) 0 (some (hN h1 + 1))) (hN h1) 1 0) (hN h1) 2 (some (hN G1))) (AP h (fun c => lo ≤ c ∧ c < hi) (sR (sI (sR G2 (hN h1) 0 (some (hN h1 + 1))) (hN h1) 1 0) (hN h1) 2 (some (hN G1))) (hN h + 1) arr1) (zB 130 (zNam c) (zNum 1)) [hN h1] := by
    refine i_chg (k := 130) (Pe := fun x => x = hN h1 + 1 ∨ x = hN G1) (by decide) rfl (AP_new hS n1 (by omega) (by omega) (Nat.le_refl _) (by omega)) tG2 (fun x hx => ⟨AP_new hS n1 (by omega) (by omega) (by omega) (by omega), by omega⟩) ?_ (rG2 _ (Or.inr rfl))
    exact RPlp_eq (fun x hx => ⟨Or.inl hx, FG2.2.2.2.2 x (by have hx' : x = hN h1 + 1 := hx; omega)⟩) (rG1 (fun x => x = hN h1 + 1) rfl)
  refine ss_X31_turn_48 F13.2.2.2.1 ((F13.2.2.2.2 a (by omega)).1.trans ta1) ?_
  rw [ofR_some]
  refine ip (by rw [(F13.2.2.2.2 _ q2).1, q3.1]) (ad (h := h1) hS hlo (by omega) n1 (Fk_refl hS1) M1 F13 stp (by omega) (by omega) (fun h3 arr3 xs3 K3 _ M3 n3 => ?_))
  have F3 : Fw (30 + 350 * z1 + (0 + 46 + 300)) h h3 := Fk_Fw0 F1 K3 (by omega)
  have hS3 := F3.2.2.2.1
  have hn3 : hN h1 + 3 ≤ hN h3 := by omega
  have sp3 : sm h1 h3 (hN h) := K3.1.2.2.2.2 _ (by omega) (by omega) (Or.inl (fun z => na1 z.symm))
  obtain ⟨rpA, rtA⟩ := LM_part F3.1 M3 (sp3.1.trans t5) ((sp3.2.2.2 0).trans r5)
  have M3o := LM_Fw hP hS0 h01 M F3
  have K3o : Fk (30 + 350 * z1 + (0 + 46 + 300)) h0 h h3 l arr arr := Fk_Fw F3
  have h03 : hN h0 ≤ hN h3 := by omega
  have u3 := F3.2.2.1
  have ta3 : hT h3 a = (31, 0) := (F3.2.2.2.2 a (by omega)).1.trans ta
  have pxa : ∀ x, PX lo hi h h3 x → AP h0 (fun c => lo ≤ c ∧ c < hi) h3 l arr x := fun x hx => by
    rcases hx with z | z
    · exact AP_old hS0 hlo hhi m1 (by omega) z
    · exact AP_new hS0 h01 m2 (by omega) z.1 z.2
  have rpA1 : RPtp h3 (AP h0 (fun c => lo ≤ c ∧ c < hi) h3 l arr) (hN h) xs3 := RPtp_eq (Nat.le_refl _) (fun x hx => ⟨pxa x hx, sm_refl _ _⟩) (RTp_P rtA) rpA
  have rtA1 : RTp h3 (AP h0 (fun c => lo ≤ c ∧ c < hi) h3 l arr) (zol ((ztt s (w + 1)).1 ++ [zB 130 (zNam c) (zNum 1)])) xs3 := RTp_eq (Nat.le_refl _) (fun x hx => ⟨pxa x hx, sm_refl _ _⟩) rtA
  -- let c = 0
  have S4 : St (hNew h3 24 0 3) := St_new hS3
  have e4 : hN (hNew h3 24 0 3) = hN h3 + 1 := hN_new
  have S5 : St (hNew (hNew h3 24 0 3) 8 0 1) := St_new S4
  have t8 : hT (hNew (hNew h3 24 0 3) 8 0 1) (hN h3 + 1) = (8, 0) := hT_newa e4.symm
  have FG4 : Fw 30 h3 (sI (hNew (hNew h3 24 0 3) 8 0 1) (hN h3 + 1) 0 0) := Fw_sI (Fw_trans (Fw_new hS3 (k := 24) (n := 0) (c := 3)) (Fw_new S4 (k := 8) (n := 0) (c := 1))) hS3 (by omega)
  have t24 : hT (sI (hNew (hNew h3 24 0 3) 8 0 1) (hN h3 + 1) 0 0) (hN h3) = (24, 0) := by rw [hT_sI, hT_new (by rw [e4]; omega)]; exact hT_newa rfl
  refine ss_X31_turn_53 hS3 ta3 ⟨by omega, by omega, c_i8 S5 t8 ?_⟩
  refine ss_X31_turn_68 FG4.2.2.2.1 ((FG4.2.2.2.2 a (by omega)).1.trans ta3) ?_
  rw [ofR_some, t24]
  refine ⟨by decide, c_n24 FG4.2.2.2.1 t24 (Or.inr rfl) ?_⟩
  have F5 : Fw 30 h3 (sI (sR (sI (sI (hNew (hNew h3 24 0 3) 8 0 1) (hN h3 + 1) 0 0) (hN h3) 0 (c : Nat)) (hN h3) 1 (some (hN h3 + 1))) (hN h3) 2 1) := Fw_sI (Fw_sR (Fw_sI FG4 hS3 (Nat.le_refl _)) hS3 (Nat.le_refl _)) hS3 (Nat.le_refl _)
  have n5 : hN (sI (sR (sI (sI (hNew (hNew h3 24 0 3) 8 0 1) (hN h3 + 1) 0 0) (hN h3) 0 (c : Nat)) (hN h3) 1 (some (hN h3 + 1))) (hN h3) 2 1) = hN h3 + 2 := rfl
  refine ss_X31_turn_72 F5.2.2.2.1 ((F5.2.2.2.2 a (by omega)).1.trans ta3) ?_
  rw [ofR_some]
  refine ip (by rw [(F5.2.2.2.2 l (by omega)).1, M3o.2.2.1.1]) (ad hS0 hlo hhi h03 K3o M3o F5 (i_let (k := 100) (Pe := fun x => x = hN h3 + 1) (Or.inl rfl) rfl (AP_new hS0 h03 (by omega) (by omega) (Nat.le_refl _) (by omega)) t24 (fun x hx => ⟨?_, by omega⟩) (i_num (v := 0) rfl t8)) (by omega) (by omega) (fun g5 arr5 xs5 K5 K35 M5 n5g => ?_))
  · have hx' : x = hN h3 + 1 := hx
    exact AP_new hS0 h03 (by omega) (by omega) (by omega) (by omega)
  have hS5 : St g5 := K5.1.2.2.2.1
  have u5 := K5.1.2.2.1
  have h05 : hN h0 ≤ hN g5 := by omega
  have sa5 : sm h g5 a := Fk_src h01 m1 K5 (by omega)
  have ta5 : hT g5 a = (31, 0) := sa5.1.trans ta
  obtain ⟨v1, v2, v3, v4, v5⟩ := id M5
  have mv35 := Fk_mv hP h03 K35
  have rpA5 : RPtp g5 (AP h0 (fun c => lo ≤ c ∧ c < hi) g5 l arr5) (hN h) xs3 := RPtp_eq (by omega) mv35 (RTp_P rtA1) rpA1
  have rtA5 := RTp_eq (show hN h3 ≤ hN g5 by omega) mv35 rtA1
  have reA5 : REp g5 (AP h0 (fun c => lo ≤ c ∧ c < hi) g5 l arr5) e b := REp_eq (fun x hx => ⟨AP_old hS0 hlo hhi m1 (by omega) hx, Fk_src h01 m1 K5 (by have := hx.2; omega)⟩) (RE_iff.1 re)
  -- from
  have S6 : St (hNew g5 30 0 4) := St_new hS5
  have e6 : hN (hNew g5 30 0 4) = hN g5 + 1 := hN_new
  have S7 : St (hNew (hNew g5 30 0 4) 9 0 1) := St_new S6
  have t9 : hT (hNew (hNew g5 30 0 4) 9 0 1) (hN g5 + 1) = (9, 0) := hT_newa e6.symm
  refine ss_X31_turn_77 hS5 ta5 ⟨by omega, by omega, c_i9 S7 t9 ?_⟩
  obtain ⟨H1, eH1⟩ : ∃ G, G = sI (hNew (hNew g5 30 0 4) 9 0 1) (hN g5 + 1) 0 (c : Nat) := ⟨_, rfl⟩
  have FH1 : Fw 31 g5 H1 := by rw [eH1]; exact Fw_sI (Fw_trans (Fw_new hS5 (k := 30) (n := 0) (c := 4)) (Fw_new S6 (k := 9) (n := 0) (c := 1))) hS5 (by omega)
  have nH1 : hN H1 = hN g5 + 2 := by rw [eH1]; rfl
  have tH1 : hT H1 (hN g5) = (30, 0) := by rw [eH1, hT_sI, hT_new (by rw [e6]; omega)]; exact hT_newa rfl
  have rH1 : REp H1 (fun x => x = hN g5 + 1) (zNam c) (hN g5 + 1) := by rw [eH1]; exact i_nam rfl t9
  rw [← eH1]
  have SH1 := FH1.2.2.2.1
  refine ss_X31_turn_91 SH1 ((FH1.2.2.2.2 a (by omega)).1.trans ta5) (x_nought SH1 (by have := FH1.2.2.1; omega) (fun H2 FH2 nH2 rH2 => ?_))
  have SH2 := FH2.2.2.2.1
  have F52 : Fw 61 g5 H2 := Fw_trans FH1 FH2
  obtain ⟨H3, eH3, FH3, nH3, tH3, rH3, MH3⟩ := LM_new SH2 (fun _ => False)
  have F53 : Fw 91 g5 H3 := Fw_trans F52 FH3
  have SH3 := FH3.2.2.2.1
  have uH2 := F52.2.2.1
  have uH3 := F53.2.2.1
  refine ss_X31_turn_94 SH2 ((F52.2.2.2.2 a (by omega)).1.trans ta5) ⟨by omega, ?_⟩
  refine c_newPart (St_new SH2) (by rw [hN_new]; omega) (hT_newa rfl) (by rw [hU_new]; omega) ?_
  rw [show hN (hNew H2 5 0 1) = hN H2 + 1 from hN_new, ← eH3]
  have sa3 : sm h H3 a := sm_trans sa5 (F53.2.2.2.2 a (by omega))
  refine ss_X31_turn_101 SH3 (sa3.1.trans ta) ?_
  rw [sa3.2.2.2, f0]
  refine x_nought SH3 (by omega) (fun H4 FH4 nH4 rH4 => ?_)
  have F54 : Fw 121 g5 H4 := Fw_trans F53 FH4
  have SH4 := FH4.2.2.2.1
  have tH4 : hT H4 (hN g5) = (30, 0) := by rw [(FH4.2.2.2.2 _ (by omega)).1, (FH3.2.2.2.2 _ (by omega)).1, (FH2.2.2.2.2 _ (by omega)).1]; exact tH1
  refine ss_X31_turn_110 SH4 ((F54.2.2.2.2 a (by omega)).1.trans ta5) ?_
  rw [ofR_some, tH4]
  refine ⟨by decide, c_n30 SH4 tH4 ?_⟩
  have F6 : Fw 121 g5 (sR (sR (sR (sR H4 (hN g5) 0 (some (hN H1))) (hN g5) 1 (some (hN H2))) (hN g5) 2 (some (hN h))) (hN g5) 3 (some (hN H3))) := Fw_sR (Fw_sR (Fw_sR (Fw_sR F54 hS5 (Nat.le_refl _)) hS5 (Nat.le_refl _)) hS5 (Nat.le_refl _)) hS5 (Nat.le_refl _)
  have n6 : hN (sR (sR (sR (sR H4 (hN g5) 0 (some (hN H1))) (hN g5) 1 (some (hN H2))) (hN g5) 2 (some (hN h))) (hN g5) 3 (some (hN H3))) = hN H4 := rfl
  -- what the new step points to
  have pe : ∀ x, (AP h0 (fun c => lo ≤ c ∧ c < hi) g5 l arr5 x ∨ (hN g5 + 1 ≤ x ∧ x < hN H4)) → AP h0 (fun c => lo ≤ c ∧ c < hi) (sR (sR (sR (sR H4 (hN g5) 0 (some (hN H1))) (hN g5) 1 (some (hN H2))) (hN g5) 2 (some (hN h))) (hN g5) 3 (some (hN H3))) l arr5 x ∧ x ≠ hN g5 := by
    intro x hx
    rcases hx with z | z
    · exact ⟨AP_up F6.1 z, by have := AP_lt hhi h05 z; omega⟩
    · exact ⟨AP_new hS0 h05 v2 (by omega) (by omega) (by omega), by omega⟩
  have mvo : ∀ x, AP h0 (fun c => lo ≤ c ∧ c < hi) g5 l arr5 x → (AP h0 (fun c => lo ≤ c ∧ c < hi) g5 l arr5 x ∨ (hN g5 + 1 ≤ x ∧ x < hN H4)) ∧ sm g5 H4 x := fun x hx => ⟨Or.inl hx, F54.2.2.2.2 x (AP_lt hhi h05 hx)⟩
  have cmp1 : REp H4 (fun x => AP h0 (fun c => lo ≤ c ∧ c < hi) g5 l arr5 x ∨ (hN g5 + 1 ≤ x ∧ x < hN H4)) (zno (zNam c)) (hN H1) := by
    have q := rH2 (fun x => x = hN g5 + 1) (fun x => hN g5 + 1 ≤ x ∧ x < hN H2) (zNam c) (fun x hx => by have hx' : x = hN g5 + 1 := hx; omega) (by omega) (by omega) rH1
    exact REp_eq (fun x hx => ⟨Or.inr ⟨hx.1, by have := hx.2; omega⟩, sm_trans (FH3.2.2.2.2 x (by have := hx.2; omega)) (FH4.2.2.2.2 x (by have := hx.2; omega))⟩) q
  have prt : RPtp H4 (fun x => AP h0 (fun c => lo ≤ c ∧ c < hi) g5 l arr5 x ∨ (hN g5 + 1 ≤ x ∧ x < hN H4)) (hN H2) [] := by
    have q : RPtp H3 (fun x => hN H2 ≤ x ∧ x < hN H3) (hN H2) [] := ⟨⟨Nat.le_refl _, by omega⟩, tH3, hN H2 + 1, 1, rH3, ⟨by omega, by omega⟩, MH3.2.2.1, Or.inl rfl⟩
    exact RPtp_eq FH4.1 (fun x hx => ⟨Or.inr ⟨by have := hx.1; omega, by have := hx.2; omega⟩, FH4.2.2.2.2 x hx.2⟩) (fun y hy => by cases hy) q
  have cmp2 : REp H4 (fun x => AP h0 (fun c => lo ≤ c ∧ c < hi) g5 l arr5 x ∨ (hN g5 + 1 ≤ x ∧ x < hN H4)) (zno e) (hN H3) := by
    have q3 : REp H3 (AP h0 (fun c => lo ≤ c ∧ c < hi) g5 l arr5) e b := REp_eq (fun x hx => ⟨hx, F53.2.2.2.2 x (AP_lt hhi h05 hx)⟩) reA5
    exact rH4 (AP h0 (fun c => lo ≤ c ∧ c < hi) g5 l arr5) _ e (fun x hx => ⟨by have := AP_lt hhi h05 hx; omega, Or.inl hx⟩) (Or.inr ⟨by omega, by omega⟩) (Or.inr ⟨by omega, by omega⟩) q3
  refine ss_X31_turn_113 F6.2.2.2.1 ((F6.2.2.2.2 a (by omega)).1.trans ta5) ?_
  rw [ofR_some]
  refine ip (by rw [(F6.2.2.2.2 l v2).1, v3.1]) (ad hS0 hlo hhi h05 K5 M5 F6 (i_fk (Or.inr ⟨rfl, rfl, rfl⟩) (AP_new hS0 h05 v2 (by omega) (Nat.le_refl _) (by omega)) tH4 pe cmp1 prt (show RTp H4 _ (zL 0) [] from rfl) (RPtp_eq F54.1 mvo (RTp_P rtA5) rpA5) (RTp_eq F54.1 mvo rtA5) cmp2) (by omega) (by rw [List.length_append, List.length_singleton]; omega) (fun g7 arr7 xs7 K7 _ M7 n7 => ?_))
  refine ss_X31_turn_118 K7.1.2.2.2.1 ((Fk_src h01 m1 K7 (by omega)).1.trans ta) (x_keep (w := c) hS0 hlo hhi (by omega) K7 M7 (by omega) (by rw [List.length_append, List.length_append, List.length_singleton, List.length_singleton]; omega) (fun g9 arr9 xs9 K9 M9 => k g9 arr9 xs9 (Fk_mono K9 (by omega)) ?_))
  rw [← ec]
  simp only [List.append_assoc, List.cons_append, List.nil_append] at M9
  exact M9
