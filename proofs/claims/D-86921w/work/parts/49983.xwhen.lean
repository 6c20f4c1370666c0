set_option maxRecDepth 10000
/-! x turns a when -/
theorem xt_116 {e s t : zT} (oe : okE e) (os : okS s 0) (ot : okS t 0) (xs0 : XT0 s) (xt0 : XT0 t) (ln1 : ∀ w, w + zbr s ≤ 5 → (ztt s w).1.length ≤ zcs (ztt s w).1) (ln2 : ∀ w, w + zbr t ≤ 5 → (ztt t w).1.length ≤ zcs (ztt t w).1) : XT1 (zB 116 e (zB 119 s t)) := by
  intro d a lo hi l arr w h0 h S xs Q hS0 hS hlo hhi h01 rt M hw hlen hu hd k
  have hw' : w + (1 + max (zbr s) (zbr t)) ≤ 5 := hw
  have hd' : 20 * (1 + max (zbr s) (zbr t)) + (zk (zB 116 e (zB 119 s t))).length + 30 ≤ d := hd
  rw [zk_wn] at hd'
  simp only [List.length_append, List.length_cons, List.length_nil] at hd'
  rw [ztt_116, zcs_wn] at hlen hu k
  obtain ⟨d, rfl⟩ : ∃ y, d = y + 45 := ⟨d - 45, by omega⟩
  obtain ⟨a1, a2, ta, b, p, q, ys, zs, f0, f1, f2, re, rp, rs, rq, rt2⟩ := RT_wn rt
  obtain ⟨m1, m2, m3, m4, m5⟩ := id M
  have h145 := hS0.1
  have hP : ∀ c, (fun c => lo ≤ c ∧ c < hi) c → 145 ≤ c ∧ c < hN h0 := fun c hc => ⟨by have := hc.1; omega, by have := hc.2; omega⟩
  obtain ⟨z1, ez1⟩ : ∃ z, z = zcs (ztt s (w + 1)).1 := ⟨_, rfl⟩
  obtain ⟨z2, ez2⟩ : ∃ z, z = zcs (ztt t (w + 1)).1 := ⟨_, rfl⟩
  rw [← ez1, ← ez2] at hlen hu k
  obtain ⟨c, ec⟩ : ∃ c, c = 24 - w := ⟨_, rfl⟩
  have an : a ≠ hN h := by omega
  refine vsel_of (y := 375) (by rw [ta]; rfl) (se_X32_turn hS ta (se_X22_counter hS ?_))
  rw [show n_sub 24 ((w : Nat) : Int) = ((c : Nat) : Int) by rw [ns_eq (by omega) (by omega)]; omega]
  refine ss_X32_turn_4 hS ta ?_
  -- let c = (test = 0)
  have S1 : St (hNew h 24 0 3) := St_new hS
  have F0 : Fw 16 h (hNew h 24 0 3) := Fw_new hS
  have n0 : hN (hNew h 24 0 3) = hN h + 1 := hN_new
  rw [hT_new an, ta, hR_new an, f0]
  refine ⟨by omega, List.mem_singleton.mpr rfl, x_nought S1 (by have := F0.2.2.1; omega) (fun H1 FH1 nH1 rH1 => ?_)⟩
  rw [n0] at nH1 rH1 ⊢
  have F1 : Fw 46 h H1 := Fw_trans F0 FH1
  have SH1 := FH1.2.2.2.1
  have t24 : hT H1 (hN h) = (24, 0) := by rw [(FH1.2.2.2.2 _ (by omega)).1]; exact hT_newa rfl
  refine ss_X32_turn_18 SH1 ((F1.2.2.2.2 a (by omega)).1.trans ta) ?_
  rw [ofR_some, t24]
  refine ⟨by decide, c_n24 SH1 t24 (Or.inr rfl) ?_⟩
  have F2 : Fw 46 h (sI (sR (sI H1 (hN h) 0 (c : Nat)) (hN h) 1 (some (hN h + 1))) (hN h) 2 1) := Fw_sI (Fw_sR (Fw_sI F1 hS (Nat.le_refl _)) hS (Nat.le_refl _)) hS (Nat.le_refl _)
  have nF2 : hN (sI (sR (sI H1 (hN h) 0 (c : Nat)) (hN h) 1 (some (hN h + 1))) (hN h) 2 1) = hN h + 3 := nH1
  have le1 : RTp (sI (sR (sI H1 (hN h) 0 (c : Nat)) (hN h) 1 (some (hN h + 1))) (hN h) 2 1) (AP h0 (fun c => lo ≤ c ∧ c < hi) (sI (sR (sI H1 (hN h) 0 (c : Nat)) (hN h) 1 (some (hN h + 1))) (hN h) 2 1) l arr) (zB 100 (zL c) (zno e)) [hN h] := by
    refine i_let (k := 100) (Pe := fun x => (lo ≤ x ∧ x < hi) ∨ (hN h + 1 ≤ x ∧ x < hN h + 3)) (Or.inl rfl) rfl (AP_new hS0 h01 m2 (by omega) (Nat.le_refl _) (by omega)) t24 (fun x hx => ?_) ?_
    · rcases hx with z | z
      · exact ⟨AP_old hS0 hlo hhi m1 (by omega) z, by omega⟩
      · exact ⟨AP_new hS0 h01 m2 (by omega) (by omega) (by omega), by omega⟩
    · exact rH1 (fun x => lo ≤ x ∧ x < hi) _ e (fun x hx => ⟨by have := hx.2; omega, Or.inl hx⟩) (Or.inr ⟨by omega, by omega⟩) (Or.inr ⟨by omega, by omega⟩) (REp_eq (fun x hx => ⟨hx, F0.2.2.2.2 x (by have := hx.2; omega)⟩) (RE_iff.1 re))
  refine ss_X32_turn_22 F2.2.2.2.1 ((F2.2.2.2.2 a (by omega)).1.trans ta) ?_
  rw [ofR_some]
  refine ip (by rw [(F2.2.2.2.2 l m2).1, m3.1]) (ad hS0 hlo hhi h01 (Fk_refl hS) M F2 le1 (by omega) (by omega) (fun g5 arr5 xs5 K5 _ M5 n5g => ?_))
  have hS5 : St g5 := K5.1.2.2.2.1
  have u5 := K5.1.2.2.1
  have h05 : hN h0 ≤ hN g5 := by omega
  have sa5 : sm h g5 a := Fk_src h01 m1 K5 (by omega)
  have ta5 : hT g5 a = (32, 0) := sa5.1.trans ta
  obtain ⟨v1, v2, v3, v4, v5⟩ := id M5
  -- if
  have S6 : St (hNew g5 29 0 4) := St_new hS5
  have e6 : hN (hNew g5 29 0 4) = hN g5 + 1 := hN_new
  have S7 : St (hNew (hNew g5 29 0 4) 9 0 1) := St_new S6
  have t9 : hT (hNew (hNew g5 29 0 4) 9 0 1) (hN g5 + 1) = (9, 0) := hT_newa e6.symm
  refine ss_X32_turn_27 hS5 ta5 ⟨by omega, by omega, c_i9 S7 t9 ?_⟩
  obtain ⟨G1, eG1⟩ : ∃ G, G = sI (hNew (hNew g5 29 0 4) 9 0 1) (hN g5 + 1) 0 (c : Nat) := ⟨_, rfl⟩
  have FG1 : Fw 31 g5 G1 := by rw [eG1]; exact Fw_sI (Fw_trans (Fw_new hS5 (k := 29) (n := 0) (c := 4)) (Fw_new S6 (k := 9) (n := 0) (c := 1))) hS5 (by omega)
  have nG1 : hN G1 = hN g5 + 2 := by rw [eG1]; rfl
  have tG1 : hT G1 (hN g5) = (29, 0) := by rw [eG1, hT_sI, hT_new (by rw [e6]; omega)]; exact hT_newa rfl
  have rG1 : REp G1 (fun x => x = hN g5 + 1) (zNam c) (hN g5 + 1) := by rw [eG1]; exact i_nam rfl t9
  rw [← eG1]
  have SG1 := FG1.2.2.2.1
  refine ss_X32_turn_41 SG1 ((FG1.2.2.2.2 a (by omega)).1.trans ta5) (x_nought SG1 (by have := FG1.2.2.1; omega) (fun G2 FG2 nG2 rG2 => ?_))
  have SG2 := FG2.2.2.2.1
  have F52 : Fw 61 g5 G2 := Fw_trans FG1 FG2
  have uG2 := F52.2.2.1
  have sa2 : sm h G2 a := sm_trans sa5 (F52.2.2.2.2 a (by omega))
  have src2 : ∀ x, lo ≤ x → x < hi → imm (hT h x).1 → sm h G2 x := fun x x1 x2 _ => sm_trans (Fk_src h01 m1 K5 (by omega)) (F52.2.2.2.2 x (by omega))
  have nhG2 : hN h ≤ hN G2 := by omega
  obtain ⟨rpG2, rsG2⟩ := PT_eq hlo nhG2 src2 rp rs
  -- the first part
  refine ss_X32_turn_44 SG2 (sa2.1.trans ta) ?_
  rw [sa2.2.2.2, f1, ofR_some, n1k (by omega)]
  refine ip (by rw [rpG2.2.2.1]) (xs0 _ p lo hi (w + 1) G2 ys _ SG2 hlo (by omega) rpG2 rsG2 (by omega) (by omega) (by omega) (by omega) (fun G3 arr3 xs3 FG3 t53 r53 M3 _ => ?_))
  rw [← ez1] at FG3
  have SG3 := FG3.2.2.2.1
  have F53 : Fw (61 + (30 + 350 * z1)) g5 G3 := Fw_trans F52 FG3
  have uG3 := F53.2.2.1
  have sa3 : sm h G3 a := sm_trans sa5 (F53.2.2.2.2 a (by omega))
  have src3 : ∀ x, lo ≤ x → x < hi → imm (hT h x).1 → sm h G3 x := fun x x1 x2 _ => sm_trans (Fk_src h01 m1 K5 (by omega)) (F53.2.2.2.2 x (by omega))
  have n23 := FG3.1
  obtain ⟨rqG3, rtG3⟩ := PT_eq hlo (show hN h ≤ hN G3 by omega) src3 rq rt2
  obtain ⟨pa1, pa2⟩ := LM_part FG3.1 M3 t53 r53
  -- the second part
  refine ss_X32_turn_54 SG3 (sa3.1.trans ta) ?_
  rw [sa3.2.2.2, f2, ofR_some, n1k (by omega)]
  refine ip (by rw [rqG3.2.2.1]) (xt0 _ q lo hi (w + 1) G3 zs _ SG3 hlo (by omega) rqG3 rtG3 (by omega) (by omega) (by omega) (by omega) (fun G4 arr4 xs4 FG4 t54 r54 M4 _ => ?_))
  rw [← ez2] at FG4
  have SG4 := FG4.2.2.2.1
  have F54 : Fw (61 + (30 + 350 * z1) + (30 + 350 * z2)) g5 G4 := Fw_trans F53 FG4
  have uG4 := F54.2.2.1
  have n34 := FG4.1
  obtain ⟨pb1, pb2⟩ := LM_part FG4.1 M4 t54 r54
  have sa4 : sm h G4 a := sm_trans sa5 (F54.2.2.2.2 a (by omega))
  -- the other test
  refine ss_X32_turn_64 SG4 (sa4.1.trans ta) ⟨by omega, c_i9 (St_new SG4) (hT_newa rfl) ?_⟩
  obtain ⟨G5, eG5⟩ : ∃ G, G = sI (hNew G4 9 0 1) (hN G4) 0 (c : Nat) := ⟨_, rfl⟩
  have FG5 : Fw 14 G4 G5 := by rw [eG5]; exact Fw_sI (Fw_new SG4 (k := 9) (n := 0) (c := 1)) SG4 (Nat.le_refl _)
  have nG5 : hN G5 = hN G4 + 1 := by rw [eG5]; rfl
  have rG5 : REp G5 (fun x => x = hN G4) (zNam c) (hN G4) := by rw [eG5]; exact i_nam rfl (hT_newa rfl)
  rw [← eG5]
  have SG5 := FG5.2.2.2.1
  have sa6 : sm h G5 a := sm_trans sa4 (FG5.2.2.2.2 a (by omega))
  refine ss_X32_turn_72 SG5 (sa6.1.trans ta) (x_nought SG5 (by have := FG5.2.2.1; omega) (fun G6 FG6 nG6 rG6 => ?_))
  have SG6 := FG6.2.2.2.1
  have F56 : Fw (61 + (30 + 350 * z1) + (30 + 350 * z2) + 14 + 30) g5 G6 := Fw_trans (Fw_trans F54 FG5) FG6
  have tG6 : hT G6 (hN g5) = (29, 0) := by rw [(FG6.2.2.2.2 _ (by omega)).1, (FG5.2.2.2.2 _ (by omega)).1, (FG4.2.2.2.2 _ (by omega)).1, (FG3.2.2.2.2 _ (by omega)).1, (FG2.2.2.2.2 _ (by omega)).1]; exact tG1
  have sa7 : sm h G6 a := sm_trans sa6 (FG6.2.2.2.2 a (by omega))
  refine ss_X32_turn_75 SG6 (sa7.1.trans ta) ?_
  rw [ofR_some, tG6]
  refine ⟨by decide, c_n29 SG6 tG6 ?_⟩
  have F6 : Fw (61 + (30 + 350 * z1) + (30 + 350 * z2) + 14 + 30) g5 (sR (sR (sR (sR G6 (hN g5) 0 (some (hN G1))) (hN g5) 1 (some (hN G2))) (hN g5) 2 (some (hN G3))) (hN g5) 3 (some (hN G5))) := Fw_sR (Fw_sR (Fw_sR (Fw_sR F56 hS5 (Nat.le_refl _)) hS5 (Nat.le_refl _)) hS5 (Nat.le_refl _)) hS5 (Nat.le_refl _)
  have n6 : hN (sR (sR (sR (sR G6 (hN g5) 0 (some (hN G1))) (hN g5) 1 (some (hN G2))) (hN g5) 2 (some (hN G3))) (hN g5) 3 (some (hN G5))) = hN G6 := rfl
  have pe : ∀ x, ((lo ≤ x ∧ x < hi) ∨ (hN g5 + 1 ≤ x ∧ x < hN G6)) → AP h0 (fun c => lo ≤ c ∧ c < hi) (sR (sR (sR (sR G6 (hN g5) 0 (some (hN G1))) (hN g5) 1 (some (hN G2))) (hN g5) 2 (some (hN G3))) (hN g5) 3 (some (hN G5))) l arr5 x ∧ x ≠ hN g5 := by
    intro x hx
    rcases hx with z | z
    · exact ⟨AP_old hS0 hlo hhi v1 (by omega) z, by omega⟩
    · exact ⟨AP_new hS0 h05 v2 (by omega) (by omega) (by omega), by omega⟩
  have cmp1 : REp G6 (fun x => (lo ≤ x ∧ x < hi) ∨ (hN g5 + 1 ≤ x ∧ x < hN G6)) (zno (zNam c)) (hN G1) := by
    have y := rG2 (fun x => x = hN g5 + 1) (fun x => hN g5 + 1 ≤ x ∧ x < hN G2) (zNam c) (fun x hx => by have hx' : x = hN g5 + 1 := hx; omega) (by omega) (by omega) rG1
    exact REp_eq (fun x hx => ⟨Or.inr ⟨hx.1, by have := hx.2; omega⟩, sm_trans (sm_trans (FG3.2.2.2.2 x hx.2) (FG4.2.2.2.2 x (by have := hx.2; omega))) (sm_trans (FG5.2.2.2.2 x (by have := hx.2; omega)) (FG6.2.2.2.2 x (by have := hx.2; omega)))⟩) y
  have mva : ∀ x, PX lo hi G2 G3 x → ((lo ≤ x ∧ x < hi) ∨ (hN g5 + 1 ≤ x ∧ x < hN G6)) ∧ sm G3 G6 x := by
    intro x hx
    have hx3 : x < hN G3 := by rcases hx with z | z <;> omega
    refine ⟨hx.imp id (fun z => ⟨by omega, by omega⟩), sm_trans (FG4.2.2.2.2 x hx3) (sm_trans (FG5.2.2.2.2 x (by omega)) (FG6.2.2.2.2 x (by omega)))⟩
  have mvb : ∀ x, PX lo hi G3 G4 x → ((lo ≤ x ∧ x < hi) ∨ (hN g5 + 1 ≤ x ∧ x < hN G6)) ∧ sm G4 G6 x := by
    intro x hx
    have hx3 : x < hN G4 := by rcases hx with z | z <;> omega
    refine ⟨hx.imp id (fun z => ⟨by omega, by omega⟩), sm_trans (FG5.2.2.2.2 x (by omega)) (FG6.2.2.2.2 x (by omega))⟩
  have cmp2 : REp G6 (fun x => (lo ≤ x ∧ x < hi) ∨ (hN g5 + 1 ≤ x ∧ x < hN G6)) (zno (zNam c)) (hN G5) :=
    rG6 (fun x => x = hN G4) _ (zNam c) (fun x hx => by have hx' : x = hN G4 := hx; exact ⟨by omega, Or.inr ⟨by omega, by omega⟩⟩) (Or.inr ⟨by omega, by omega⟩) (Or.inr ⟨by omega, by omega⟩) rG5
  have ta6 := (F6.2.2.2.2 a (by omega)).1.trans ta5
  refine ss_X32_turn_78 F6.2.2.2.1 ta6 ?_
  rw [ofR_some]
  refine ip (by rw [(F6.2.2.2.2 l v2).1, v3.1]) (ad hS0 hlo hhi h05 K5 M5 F6 (i_fk (Or.inl ⟨rfl, rfl, rfl⟩) (AP_new hS0 h05 v2 (by omega) (Nat.le_refl _) (by omega)) tG6 pe cmp1 (RPtp_eq (by omega) mva (RTp_P pa2) pa1) (RTp_eq (by omega) mva pa2) (RPtp_eq (by omega) mvb (RTp_P pb2) pb1) (RTp_eq (by omega) mvb pb2) cmp2) (by omega) (by rw [List.length_append, List.length_singleton]; omega) (fun g7 arr7 xs7 K7 _ M7 n7 => ?_))
  refine ss_X32_turn_83 K7.1.2.2.2.1 ((Fk_src h01 m1 K7 (by omega)).1.trans ta) (x_keep (w := c) hS0 hlo hhi (by omega) K7 M7 (by omega) (by rw [List.length_append, List.length_append, List.length_singleton, List.length_singleton]; omega) (fun g9 arr9 xs9 K9 M9 => k g9 arr9 xs9 (Fk_mono K9 (by omega)) ?_))
  rw [← ec]
  simp only [List.append_assoc, List.cons_append, List.nil_append] at M9
  exact M9
/-- lengths of turned lists -/
theorem tl_len : ∀ t : zT, (okS t 0 → zun true t → ∀ w, (ztt t w).1.length ≤ zcs (ztt t w).1 ∧ zcs (ztt t w).1 ≤ 4 * zc t ∧ Al (fun s => (ztt s w).1.length ≤ zcs (ztt s w).1) (zls t)) ∧ (okS t 1 → zun true t → ∀ w, (ztt t w).1.length ≤ zcs (ztt t w).1 ∧ zcs (ztt t w).1 ≤ 4 * zc t) := by
  have H := ok_ind (P0 := fun t => zun true t → ∀ w, (ztt t w).1.length ≤ zcs (ztt t w).1 ∧ zcs (ztt t w).1 ≤ 4 * zc t ∧ Al (fun s => (ztt s w).1.length ≤ zcs (ztt s w).1) (zls t)) (P1 := fun t => zun true t → ∀ w, (ztt t w).1.length ≤ zcs (ztt t w).1 ∧ zcs (ztt t w).1 ≤ 4 * zc t)
    (fun v _ w => ⟨Nat.le_refl _, Nat.le_refl _, trivial⟩)
    (fun s t _ _ i1 i2 un w => by
      obtain ⟨a1, a2⟩ := i1 (zun_150 un).1 w
      obtain ⟨b1, b2, b3⟩ := i2 (zun_150 un).2 w
      refine ⟨?_, ?_, a1, b3⟩
      · rw [ztt_150, List.length_append, zcs_app]; omega
      · rw [ztt_150, zcs_app]; show _ ≤ 4 * (zc s + zc t); omega)
    (fun e s t e2 _ _ _ _ _ _ u => absurd (zun_fk (Or.inl ⟨rfl, rfl, rfl⟩) u).1 (by decide))
    (fun e s t e2 _ _ _ _ _ _ u => absurd (zun_fk (Or.inr ⟨rfl, rfl, rfl⟩) u).1 (by decide))
    (fun e s oe o a un w => by
      obtain ⟨a1, a2, -⟩ := a (zun_wh un).2 (w + 1)
      rw [ztt_115, zcs_wh]
      refine ⟨?_, ?_⟩
      · show 4 ≤ _; omega
      · show _ ≤ 4 * (2 + zc s); omega)
    (fun e s t oe o1 o2 a b un w => by
      have u' : true = true ∧ (zun true s ∧ zun true t) := un
      obtain ⟨a1, a2, -⟩ := a u'.2.1 (w + 1)
      obtain ⟨b1, b2, -⟩ := b u'.2.2 (w + 1)
      rw [ztt_116, zcs_wn]
      refine ⟨?_, ?_⟩
      · show 4 ≤ _; omega
      · show _ ≤ 4 * (3 + (zc s + zc t)); omega)
    (fun k l r o un w => by
      have e := zun_1 o un
      have k4 : k = 114 := of_decide_eq_true e.symm
      subst k4
      rw [ztt_114, zts_len, zc_k o]
      refine ⟨?_, by split; omega; split <;> omega⟩
      unfold zts
      split
      · exact Nat.le_refl _
      · split <;> exact Nat.le_refl _)
  exact fun t => ⟨(H t).1, (H t).2.1⟩
theorem xt_all : ∀ t : zT, (okS t 0 → zun true t → okS t 0 ∧ Al XT1 (zls t)) ∧ (okS t 1 → zun true t → XT1 t) := by
  have l0 : ∀ {t : zT}, okS t 0 → zun true t → ∀ w, w + zbr t ≤ 5 → Al (fun s => (ztt s w).1.length ≤ zcs (ztt s w).1) (zls t) := fun o u w _ => ((tl_len _).1 o u w).2.2
  have l1 : ∀ {t : zT}, okS t 0 → zun true t → ∀ w, w + zbr t ≤ 5 → (ztt t w).1.length ≤ zcs (ztt t w).1 := fun o u w _ => ((tl_len _).1 o u w).1
  have H := ok_ind (P0 := fun t => zun true t → okS t 0 ∧ Al XT1 (zls t)) (P1 := fun t => zun true t → XT1 t)
    (fun v _ => ⟨rfl, trivial⟩)
    (fun s t o1 o2 a b u => ⟨⟨rfl, o1, o2⟩, a (zun_150 u).1, (b (zun_150 u).2).2⟩)
    (fun e s t e2 _ _ _ _ _ _ u => absurd (zun_fk (Or.inl ⟨rfl, rfl, rfl⟩) u).1 (by decide))
    (fun e s t e2 _ _ _ _ _ _ u => absurd (zun_fk (Or.inr ⟨rfl, rfl, rfl⟩) u).1 (by decide))
    (fun e s oe o a u => xt_115 oe o (xt_0 o (a (zun_wh u).2).2 (l0 o (zun_wh u).2)) (l1 o (zun_wh u).2))
    (fun e s t oe o1 o2 a b u => by
      have u' : true = true ∧ (zun true s ∧ zun true t) := u
      exact xt_116 oe o1 o2 (xt_0 o1 (a u'.2.1).2 (l0 o1 u'.2.1)) (xt_0 o2 (b u'.2.2).2 (l0 o2 u'.2.2)) (l1 o1 u'.2.1) (l1 o2 u'.2.2))
    (fun k l r o u => by
      have e := zun_1 o u
      have k4 : k = 114 := of_decide_eq_true e.symm
      subst k4
      have o' := o
      rcases o with ⟨q, ⟨x, el, hx⟩, oe, -⟩ | ⟨q, -⟩ | ⟨q, -⟩ | ⟨q, -⟩ | ⟨q, -⟩ | ⟨q, -⟩
      · subst el
        exact xt_114 hx oe o'
      all_goals omega)
  exact fun t => ⟨(H t).1, (H t).2.1⟩
/-- x's Part.turned -/
theorem x_turned {t : zT} (o : okS t 0) (u : zun true t) : XT0 t := xt_0 o ((xt_all t).1 o u).2 (fun w _ => ((tl_len t).1 o u w).2.2)
