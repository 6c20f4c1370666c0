set_option maxRecDepth 10000
/-! x turns a set -/
theorem RE_tg {h : hp} {lo hi a lv : Nat} {e : zT} (re : RE h lo hi e a) (o : zok e lv) : (hT h a).1 ∈ [8, 9, 10, 11, 12, 14, 15, 16, 17] ∧ ((hT h a).1 = 17 ↔ zsum (zg e) = true) ∧ ((hT h a).1 = 9 ↔ zg e = 1) := by
  cases e with
  | leaf v => exact o.elim
  | branch k l r =>
    obtain ⟨z1, z2, z3⟩ := re
    show _ ∧ (_ ↔ zsum k = true) ∧ (_ ↔ k = 1)
    by_cases k2 : k = 2
    · rw [if_pos k2] at z3; subst k2; rw [z3.1]; decide
    rw [if_neg k2] at z3
    by_cases k1 : k = 1
    · rw [if_pos k1] at z3; subst k1; rw [z3.1]; decide
    rw [if_neg k1] at z3
    by_cases k35 : k = 35
    · rw [if_pos k35] at z3; subst k35; rw [z3.1]; decide
    rw [if_neg k35] at z3
    by_cases k3 : k = 3
    · rw [if_pos k3] at z3; subst k3; rw [z3.1]; decide
    rw [if_neg k3] at z3
    by_cases k8 : k = 8
    · rw [if_pos k8] at z3; subst k8; rw [z3.1]; decide
    rw [if_neg k8] at z3
    by_cases k40 : k = 40
    · rw [if_pos k40] at z3; subst k40; rw [z3.1]; decide
    rw [if_neg k40] at z3
    obtain ⟨hc, -⟩ := two_k o k1 k2 k35 k3 k8 k40
    rw [z3.1]
    rcases hc with q | q | q | q | q | q | q | q | q | q <;> subst q <;> decide
theorem insV_t {h : hp} {ks : List Nat} {a : Nat} (q : (hT h a).1 ∈ ks) : insV h ks (some a) = 1 := by show (if (hT h a).1 ∈ ks then (1 : Int) else 0) = 1; rw [if_pos q]
theorem insV_f {h : hp} {ks : List Nat} {a : Nat} (q : ¬ (hT h a).1 ∈ ks) : insV h ks (some a) = 0 := by show (if (hT h a).1 ∈ ks then (1 : Int) else 0) = 0; rw [if_neg q]
abbrev vtT : List (Nat × Nat) := [(20, 292), (21, 292), (23, 321), (24, 292), (25, 292), (26, 292), (27, 292), (29, 292), (30, 292), (31, 368), (32, 375)]
def XT1 (s : zT) : Prop := ∀ (d a lo hi l arr w : Nat) (h0 h : hp) (S : List zT) (xs : List Nat) (Q : qt), St h0 → St h → 145 ≤ lo → hi ≤ hN h0 → hN h0 ≤ hN h → RT h lo hi s [a] → LM h0 (fun c => lo ≤ c ∧ c < hi) h l arr S xs → w + zbr s ≤ 5 → S.length + zcs (ztt s w).1 ≤ 160 → hU h + 350 * zcs (ztt s w).1 ≤ BUD → 20 * zbr s + (zk s).length + 30 ≤ d → (∀ h' arr' xs', Fk (350 * zcs (ztt s w).1) h0 h h' l arr arr' → LM h0 (fun c => lo ≤ c ∧ c < hi) h' l arr' (S ++ (ztt s w).1) xs' → Q (.inl none) h') → vsel vtT (hT h a).1 fun y => Wc d y [vR (some a), vR (some l), vI (w : Nat)] h Q
theorem AP_lt {h0 h : hp} {lo hi l arr c : Nat} (hhi : hi ≤ hN h0) (h01 : hN h0 ≤ hN h) (a : AP h0 (fun c => lo ≤ c ∧ c < hi) h l arr c) : c < hN h := by
  rcases a.1 with z | z
  · have := z.2; omega
  · exact z.2
theorem AP_up {h0 h h' : hp} {P0 : Nat → Prop} {l arr c : Nat} (hn : hN h ≤ hN h') (a : AP h0 P0 h l arr c) : AP h0 P0 h' l arr c := ⟨a.1.imp id (fun z => ⟨z.1, by omega⟩), a.2⟩
theorem Fk_src {n : Nat} {h0 h h1 : hp} {l arr arr1 c : Nat} (h01 : hN h0 ≤ hN h) (hl : hN h0 ≤ l) (a : Fk n h0 h h1 l arr arr1) (hc : c < hN h0) : sm h h1 c := a.1.2.2.2.2 c (by omega) (by omega) (Or.inr hc)
theorem xt_114 {x : Nat} {e : zT} (hx26 : x < 26) (oe : okE e) (os : ok1 114 (zL x) e) : XT1 (zB 114 (zL x) e) := by
  intro d a lo hi l arr w h0 h S xs Q hS0 hS hlo hhi h01 rt M hw hlen hu hd k
  have ezt : (ztt (zB 114 (zL x) e) w).1 = zts x e := rfl
  rw [ezt] at hlen hu k
  have hk1 : zk (zB 114 (zL x) e) = (5, 14) :: (1, x) :: (7, 61) :: (zk e ++ [(7, 59)]) := zk_let (by omega) x e
  have zl4 : (zk (zB 114 (zL x) e)).length = (zk e).length + 4 := by rw [hk1]; simp
  rw [zl4] at hd
  have zht1 := zht_len e 0 oe.1 oe.2.2
  obtain ⟨d, rfl⟩ : ∃ y, d = y + 25 := ⟨d - 25, by omega⟩
  obtain ⟨a1, a2, y⟩ := RT_one os rt
  rw [if_neg (by omega), if_pos rfl] at y
  obtain ⟨ta, i0, b, r1, re⟩ := y
  have i0' : hI h a 0 = (x : Nat) := i0
  obtain ⟨m1, m2, m3, m4, m5⟩ := id M
  have h145 := hS0.1
  have hP : ∀ c, (fun c => lo ≤ c ∧ c < hi) c → 145 ≤ c ∧ c < hN h0 := fun c hc => ⟨by have := hc.1; omega, by have := hc.2; omega⟩
  have an : a ≠ hN h := by omega
  have S1 : St (hNew h 6 0 3) := St_new hS
  -- the place
  obtain ⟨h1, eh1⟩ : ∃ h1, h1 = sR (sI (sI (hNew h 6 0 3) (hN h) 0 (x : Nat)) (hN h) 1 0) (hN h) 2 none := ⟨_, rfl⟩
  have F1 : Fw 16 h h1 := by rw [eh1]; exact Fw_sR (Fw_sI (Fw_sI (Fw_new hS (k := 6) (n := 0) (c := 3)) hS (Nat.le_refl _)) hS (Nat.le_refl _)) hS (Nat.le_refl _)
  have hn1 : hN h1 = hN h + 1 := by rw [eh1]; rfl
  have rp1 : RPlp h1 (AP h0 (fun c => lo ≤ c ∧ c < hi) h1 l arr) (zNam x) (hN h) := by
    have q := AP_new (h1 := h1) (P0 := fun c => lo ≤ c ∧ c < hi) hS0 h01 m2 (show arr = 1 ∨ arr < hN h by omega) (Nat.le_refl (hN h)) (by omega)
    rw [eh1] at q ⊢
    exact i_place q (hT_newa rfl)
  have hS1 := F1.2.2.2.1
  have uh1 := F1.2.2.1
  have sa1 := F1.2.2.2.2 a (by omega)
  have ta1 : hT h1 a = (23, 0) := sa1.1.trans ta
  have K1 : Fk 16 h0 h h1 l arr arr := Fk_Fw F1
  have M1 := LM_Fw hP hS0 h01 M F1
  have h01' : hN h0 ≤ hN h1 := by omega
  have re1 : RE h1 lo hi e b := RE_eq (fun c c1 c2 _ => F1.2.2.2.2 c (by omega)) re
  have reA : ∀ {g : hp} {arr' n : Nat}, Fk n h0 h g l arr arr' → hN h ≤ hN g → (arr' = 1 ∨ hN h0 ≤ arr') → REp g (AP h0 (fun c => lo ≤ c ∧ c < hi) g l arr') e b := fun K hn ha => REp_eq (fun c hc => ⟨AP_old hS0 hlo hhi m1 ha hc, Fk_src h01 m1 K (by have := hc.2; omega)⟩) (RE_iff.1 re)
  have lz := zts_len (n := x) (e := e)
  -- a change put behind
  have p157 : ∀ (v4 v5 : av) (v6 : Option Nat), zpl x e = false → Wp (d + 24) C_X23_turn Q 157 [vR (some a), vR (some l), vI (w : Nat), vR (some (hN h)), v4, v5, vR v6] [vI (bI (zhas x e))] h1 := by
    intro v4 v5 v6 zf
    rw [zf, if_neg (by decide)] at lz
    refine ss_X23_turn_157 hS1 ta1 ?_
    have an1 : a ≠ hN h1 := by omega
    cases hh : zhas x e with
    | false =>
      rw [hh, if_pos rfl] at lz
      rw [lz, zts_no zf hh] at k
      rw [lz] at hlen hu
      refine ip rfl ?_
      rw [hT_new an1, ta1, hI_new an1, sa1.2.1, i0']
      have S2 : St (hNew h1 25 0 3) := St_new hS1
      refine ⟨by omega, List.mem_singleton.mpr rfl, c_n25 S2 (hT_newa rfl) (Or.inr rfl) ?_⟩
      have F2 : Fw 16 h1 (sI (sI (sI (hNew h1 25 0 3) (hN h1) 0 (x : Nat)) (hN h1) 1 3) (hN h1) 2 1) := Fw_sI (Fw_sI (Fw_sI (Fw_new hS1 (k := 25) (n := 0) (c := 3)) hS1 (Nat.le_refl _)) hS1 (Nat.le_refl _)) hS1 (Nat.le_refl _)
      refine ss_X23_turn_174 F2.2.2.2.1 ((F2.2.2.2.2 a (by omega)).1.trans ta1) ?_
      rw [ofR_some]
      refine ip (by rw [(F2.2.2.2.2 l (by omega)).1, M1.2.2.1.1]) (ad hS0 hlo hhi h01' K1 M1 F2 (i_push (AP_new hS0 h01' (by omega) (by omega) (Nat.le_refl _) (Nat.lt_succ_self _)) (hT_newa rfl)) (by omega) (by omega) (fun g2 arr2 xs2 K2 K12 M2 n2 => ?_))
      have hS2 : St g2 := K2.1.2.2.2.1
      have u2 := K2.1.2.2.1
      have sa2 : sm h g2 a := Fk_src h01 m1 K2 (by omega)
      have ta2 : hT g2 a = (23, 0) := sa2.1.trans ta
      have ng2 : hN h1 ≤ hN g2 := Nat.le_trans F2.1 n2
      have an2 : a ≠ hN g2 := by omega
      have h02 : hN h0 ≤ hN g2 := by omega
      obtain ⟨p1, p2, p3, p4, p5⟩ := id M2
      have rp2 : RPlp g2 (AP h0 (fun c => lo ≤ c ∧ c < hi) g2 l arr2) (zNam x) (hN h) := RPlp_eq (Fk_mv hP h01' K12) rp1
      have re2 := reA K2 (by omega) (show arr2 = 1 ∨ hN h0 ≤ arr2 by omega)
      refine ss_X23_turn_179 hS2 ta2 ?_
      rw [hT_new an2, ta2, hR_new an2, sa2.2.2.2, r1]
      have S3 : St (hNew g2 21 0 3) := St_new hS2
      have Fn : Fw 16 g2 (hNew g2 21 0 3) := Fw_new hS2
      have nv : ∀ c, AP h0 (fun c => lo ≤ c ∧ c < hi) g2 l arr2 c → AP h0 (fun c => lo ≤ c ∧ c < hi) g2 l arr2 c ∧ sm g2 (hNew g2 21 0 3) c := fun c hc => ⟨hc, Fn.2.2.2.2 c (AP_lt hhi h02 hc)⟩
      refine ⟨by omega, List.mem_singleton.mpr rfl, c_n21 S3 (hT_newa rfl) ?_⟩
      have F3 : Fw 16 g2 (sR (sI (sR (hNew g2 21 0 3) (hN g2) 0 (some (hN h))) (hN g2) 1 0) (hN g2) 2 (some b)) := Fw_sR (Fw_sI (Fw_sR Fn hS2 (Nat.le_refl _)) hS2 (Nat.le_refl _)) hS2 (Nat.le_refl _)
      refine ss_X23_turn_194 F3.2.2.2.1 ((F3.2.2.2.2 a (by omega)).1.trans ta2) ?_
      rw [ofR_some]
      refine ip (by rw [(F3.2.2.2.2 l p2).1, p3.1]) (ad hS0 hlo hhi h02 K2 M2 F3 (i_chg (k := 130) (Pe := AP h0 (fun c => lo ≤ c ∧ c < hi) g2 l arr2) (by decide) rfl (AP_new hS0 h02 p2 (by omega) (Nat.le_refl _) (Nat.lt_succ_self _)) (hT_newa rfl) (fun c hc => ⟨AP_up F3.1 hc, by have := AP_lt hhi h02 hc; omega⟩) (RPlp_eq nv rp2) (REp_eq nv re2)) (by omega) (by rw [List.length_append, List.length_singleton]; omega) (fun g4 arr4 xs4 K4 _ M4 n4 => ?_))
      refine ss_X23_turn_199 K4.1.2.2.2.1 ((Fk_src h01 m1 K4 (by omega)).1.trans ta) (k g4 arr4 xs4 (Fk_mono K4 (by omega)) ?_)
      rw [List.append_assoc] at M4
      exact M4
    | true =>
      rw [hh, if_neg (by decide)] at lz
      rw [lz, zts_ha zf hh] at k
      rw [lz] at hlen hu
      refine im (by decide) ?_
      rw [hT_new an1, ta1, hR_new an1, sa1.2.2.2, r1]
      have S2 : St (hNew h1 24 0 3) := St_new hS1
      have re1' := reA K1 (by omega) (show arr = 1 ∨ hN h0 ≤ arr by omega)
      have Fn : Fw 16 h1 (hNew h1 24 0 3) := Fw_new hS1
      have nv : ∀ c, AP h0 (fun c => lo ≤ c ∧ c < hi) h1 l arr c → AP h0 (fun c => lo ≤ c ∧ c < hi) h1 l arr c ∧ sm h1 (hNew h1 24 0 3) c := fun c hc => ⟨hc, Fn.2.2.2.2 c (AP_lt hhi h01' hc)⟩
      refine ⟨by omega, List.mem_singleton.mpr rfl, c_n24 S2 (hT_newa rfl) (Or.inr rfl) ?_⟩
      have F2 : Fw 16 h1 (sI (sR (sI (hNew h1 24 0 3) (hN h1) 0 25) (hN h1) 1 (some b)) (hN h1) 2 1) := Fw_sI (Fw_sR (Fw_sI Fn hS1 (Nat.le_refl _)) hS1 (Nat.le_refl _)) hS1 (Nat.le_refl _)
      refine ss_X23_turn_222 F2.2.2.2.1 ((F2.2.2.2.2 a (by omega)).1.trans ta1) ?_
      rw [ofR_some]
      refine ip (by rw [(F2.2.2.2.2 l (by omega)).1, M1.2.2.1.1]) (ad hS0 hlo hhi h01' K1 M1 F2 (i_let (n := 25) (k := 100) (Pe := AP h0 (fun c => lo ≤ c ∧ c < hi) h1 l arr) (Or.inl rfl) rfl (AP_new hS0 h01' (by omega) (by omega) (Nat.le_refl _) (Nat.lt_succ_self _)) (hT_newa rfl) (fun c hc => ⟨AP_up F2.1 hc, by have := AP_lt hhi h01' hc; omega⟩) (REp_eq nv re1')) (by omega) (by omega) (fun g2 arr2 xs2 K2 K12 M2 n2 => ?_))
      have hS2 : St g2 := K2.1.2.2.2.1
      have u2 := K2.1.2.2.1
      have sa2 : sm h g2 a := Fk_src h01 m1 K2 (by omega)
      have ta2 : hT g2 a = (23, 0) := sa2.1.trans ta
      have ng2 : hN h1 ≤ hN g2 := Nat.le_trans F2.1 n2
      have h02 : hN h0 ≤ hN g2 := by omega
      obtain ⟨p1, p2, p3, p4, p5⟩ := id M2
      have rp2 : RPlp g2 (AP h0 (fun c => lo ≤ c ∧ c < hi) g2 l arr2) (zNam x) (hN h) := RPlp_eq (Fk_mv hP h01' K12) rp1
      -- the swap and its other place
      have S3 : St (hNew g2 20 0 2) := St_new hS2
      have n3 : hN (hNew g2 20 0 2) = hN g2 + 1 := hN_new
      have S4 : St (hNew (hNew g2 20 0 2) 6 0 3) := St_new S3
      have t6 : hT (hNew (hNew g2 20 0 2) 6 0 3) (hN g2 + 1) = (6, 0) := hT_newa n3.symm
      have Fn2 : Fw 31 g2 (sR (sI (sI (hNew (hNew g2 20 0 2) 6 0 3) (hN g2 + 1) 0 25) (hN g2 + 1) 1 0) (hN g2 + 1) 2 none) := Fw_sR (Fw_sI (Fw_sI (Fw_trans (Fw_new hS2 (k := 20) (n := 0) (c := 2)) (Fw_new S3 (k := 6) (n := 0) (c := 3))) hS2 (by omega)) hS2 (by omega)) hS2 (by omega)
      have t20 : hT (sR (sI (sI (hNew (hNew g2 20 0 2) 6 0 3) (hN g2 + 1) 0 25) (hN g2 + 1) 1 0) (hN g2 + 1) 2 none) (hN g2) = (20, 0) := by rw [hT_sR, hT_sI, hT_sI, hT_new (by rw [n3]; omega)]; exact hT_newa rfl
      refine ss_X23_turn_227 hS2 ta2 ⟨by omega, by omega, c_n6 S4 t6 ?_⟩
      refine ss_X23_turn_245 Fn2.2.2.2.1 ((Fn2.2.2.2.2 a (by omega)).1.trans ta2) ?_
      rw [ofR_some, t20]
      refine ⟨by decide, c_n20 Fn2.2.2.2.1 t20 ?_⟩
      have F3 : Fw 31 g2 (sR (sR (sR (sI (sI (hNew (hNew g2 20 0 2) 6 0 3) (hN g2 + 1) 0 25) (hN g2 + 1) 1 0) (hN g2 + 1) 2 none) (hN g2) 0 (some (hN h))) (hN g2) 1 (some (hN g2 + 1))) := Fw_sR (Fw_sR Fn2 hS2 (Nat.le_refl _)) hS2 (Nat.le_refl _)
      have hn3 : hN (sR (sR (sR (sI (sI (hNew (hNew g2 20 0 2) 6 0 3) (hN g2 + 1) 0 25) (hN g2 + 1) 1 0) (hN g2 + 1) 2 none) (hN g2) 0 (some (hN h))) (hN g2) 1 (some (hN g2 + 1))) = hN g2 + 2 := rfl
      have pe : ∀ c, (AP h0 (fun c => lo ≤ c ∧ c < hi) g2 l arr2 c ∨ c = hN g2 + 1) → AP h0 (fun c => lo ≤ c ∧ c < hi) (sR (sR (sR (sI (sI (hNew (hNew g2 20 0 2) 6 0 3) (hN g2 + 1) 0 25) (hN g2 + 1) 1 0) (hN g2 + 1) 2 none) (hN g2) 0 (some (hN h))) (hN g2) 1 (some (hN g2 + 1))) l arr2 c ∧ c ≠ hN g2 := by
        intro c hc
        rcases hc with z | z
        · exact ⟨AP_up F3.1 z, by have := AP_lt hhi h02 z; omega⟩
        · exact ⟨AP_new hS0 h02 p2 (by omega) (by omega) (by omega), by omega⟩
      have rpB : RPlp (sR (sI (sI (hNew (hNew g2 20 0 2) 6 0 3) (hN g2 + 1) 0 25) (hN g2 + 1) 1 0) (hN g2 + 1) 2 none) (fun c => AP h0 (fun c => lo ≤ c ∧ c < hi) g2 l arr2 c ∨ c = hN g2 + 1) (zNam 25) (hN g2 + 1) := i_place (n := 25) (Or.inr rfl) t6
      have rpA : RPlp (sR (sI (sI (hNew (hNew g2 20 0 2) 6 0 3) (hN g2 + 1) 0 25) (hN g2 + 1) 1 0) (hN g2 + 1) 2 none) (fun c => AP h0 (fun c => lo ≤ c ∧ c < hi) g2 l arr2 c ∨ c = hN g2 + 1) (zNam x) (hN h) := RPlp_eq (fun c hc => ⟨Or.inl hc, Fn2.2.2.2.2 c (AP_lt hhi h02 hc)⟩) rp2
      refine ss_X23_turn_248 F3.2.2.2.1 ((F3.2.2.2.2 a (by omega)).1.trans ta2) ?_
      rw [ofR_some]
      refine ip (by rw [(F3.2.2.2.2 l p2).1, p3.1]) (ad hS0 hlo hhi h02 K2 M2 F3 (i_swap (AP_new hS0 h02 p2 (by omega) (Nat.le_refl _) (by omega)) t20 pe rpA rpB) (by omega) (by rw [List.length_append, List.length_singleton]; omega) (fun g4 arr4 xs4 K4 _ M4 n4 => ?_))
      have n24 := F3.1
      refine ss_X23_turn_253 K4.1.2.2.2.1 ((Fk_src h01 m1 K4 (by omega)).1.trans ta) (x_keep (w := 25) hS0 hlo hhi (by omega) K4 M4 (by omega) (by rw [List.length_append, List.length_append, List.length_singleton, List.length_singleton]; omega) (fun g6 arr6 xs6 K6 M6 => k g6 arr6 xs6 (Fk_mono K6 (by omega)) ?_))
      simp only [List.append_assoc, List.cons_append, List.nil_append] at M6 ⊢
      exact M6
  have hasE : ∀ (K : Int → hp → Prop), K (bI (zhas x e)) h1 → vsel VHas (hT h1 b).1 fun y => cI (Wc (d + 24)) y [vR (some b), vI (x : Nat)] h1 K (fun e h' => Q (.inr e) h') := fun K kk => c_has hS1 (by omega) re1 oe.1 (by omega) kk
  obtain ⟨g8, g17, g9⟩ := RE_tg re1 oe.1
  -- plain
  have p13 : Wp (d + 24) C_X23_turn Q 13 [vR (some a), vR (some l), vI (w : Nat), vU, vU, vU, vU] [vR (some (hN h))] h1 := by
    refine ss_X23_turn_13 hS1 ta1 ?_
    rw [sa1.2.2.2, r1, sa1.2.1, i0', ofR_some]
    refine ⟨Or.inr ⟨b, rfl, g8⟩, ?_⟩
    by_cases q17 : (hT h1 b).1 = 17
    · rw [insV_t (by rw [q17]; decide)]
      have zs := g17.1 q17
      refine im (by decide) ⟨Or.inr ⟨b, rfl, by rw [q17]; decide⟩, by rw [q17]; decide, ?_⟩
      cases he : e with
      | leaf v => rw [he] at oe; exact oe.1.elim
      | branch kk el er =>
        have zs' : zsum kk = true := by rw [he] at zs; exact zs
        have hk := zsum_k zs'
        have oe' := oe
        rw [he] at oe'
        have okl : zok el 0 ∧ zok er 1 := by rcases hk with y | y | y | y <;> subst y <;> exact oe'.1.2
        have rex := re1
        rw [he] at rex
        obtain ⟨z1, z2, z3⟩ := rex
        rw [if_neg (by omega), if_neg (by omega), if_neg (by omega), if_neg (by omega), if_neg (by omega), if_neg (by omega)] at z3
        obtain ⟨-, k2, bl, br, f0, f1, rl, rr⟩ := z3
        rw [k2]
        by_cases q124 : kk = 124
        · subst q124
          refine ip rfl ?_
          rw [ofR_some]
          refine hasE _ (p157 _ _ _ ?_)
          unfold zpl; rw [he]; rfl
        · refine im (by omega) ⟨by rw [q17]; decide, ?_⟩
          rw [f0]
          obtain ⟨l8, l17, l9⟩ := RE_tg rl okl.1
          refine ⟨Or.inr ⟨bl, rfl, l8⟩, ?_⟩
          by_cases q9 : (hT h1 bl).1 = 9
          · rw [insV_t (by rw [q9]; decide)]
            have gl := l9.1 q9
            refine im (by decide) ⟨Or.inr ⟨bl, rfl, by rw [q9]; decide⟩, by rw [q9]; decide, ?_⟩
            rw [ofR_some]
            have nl : hI h1 bl 0 = (zn (zl el) : Nat) := by
              cases el with
              | leaf v => exact okl.1.elim
              | branch k9 la lb =>
                have e9 : k9 = 1 := gl
                subst e9
                obtain ⟨-, -, w3⟩ := rl
                rw [if_neg (by decide), if_pos rfl] at w3
                exact w3.2
            rw [nl]
            by_cases qn : zn (zl el) = x
            · refine ip (by rw [qn]) ⟨by rw [q17]; decide, ?_⟩
              rw [f1, ofR_some]
              have lfr : zlf er := by rcases hk with y | y | y | y <;> subst y <;> exact oe'.2.2.2
              have zhr := zht_len er 1 okl.2 lfr
              have e6 : zk (.branch kk el er) = zk el ++ (7, kk) :: zk er := by rcases hk with y | y | y | y <;> subst y <;> rfl
              have e7 : (zk e).length = (zk el).length + ((zk er).length + 1) := by rw [he, e6, List.length_append, List.length_cons]
              refine c_has hS1 (by omega) rr okl.2 (by omega) ?_
              refine ss_X23_turn_91 hS1 ta1 ?_
              cases hr : zhas x er with
              | true =>
                refine im (by decide) ?_
                rw [sa1.2.2.2, r1, sa1.2.1, i0', ofR_some]
                refine hasE _ (p157 _ _ _ ?_)
                unfold zpl; rw [he]; show (_ && (_ && (_ && !zhas x er))) = false; rw [hr]; simp
              | false =>
                have zt : zpl x e = true := by
                  unfold zpl; rw [he]; show (decide (kk = 43 ∨ kk = 45 ∨ kk = 94) && (decide (zg el = 1) && (decide (zn (zl el) = x) && !zhas x er))) = true
                  rw [hr, gl, qn, show decide (kk = 43 ∨ kk = 45 ∨ kk = 94) = true by rw [decide_eq_true_eq]; omega]
                  simp
                rw [zt, if_pos rfl] at lz
                rw [lz, zts_pl zt, show zg e = kk by rw [he]; rfl, show zr e = er by rw [he]; rfl] at k
                rw [lz] at hlen hu
                have bn : b ≠ hN h1 := by omega
                have tb : (hT (hNew h1 21 0 3) b).1 ∈ [17] := by rw [hT_new bn, q17]; decide
                have ib : hI (hNew h1 21 0 3) b 2 = (kk : Nat) := by rw [hI_new bn]; exact k2
                have rb : hR (hNew h1 21 0 3) b 1 = some br := by rw [hR_new bn]; exact f1
                have S3 : St (hNew h1 21 0 3) := St_new hS1
                have Fn : Fw 16 h1 (hNew h1 21 0 3) := Fw_new hS1
                have rrA : REp h1 (AP h0 (fun c => lo ≤ c ∧ c < hi) h1 l arr) er br := REp_eq (fun c hc => ⟨AP_old hS0 hlo hhi m1 (by omega) hc, sm_refl _ _⟩) (RE_iff.1 rr)
                have nv : ∀ c, AP h0 (fun c => lo ≤ c ∧ c < hi) h1 l arr c → AP h0 (fun c => lo ≤ c ∧ c < hi) h1 l arr c ∧ sm h1 (hNew h1 21 0 3) c := fun c hc => ⟨hc, Fn.2.2.2.2 c (AP_lt hhi h01' hc)⟩
                have fin : ∀ (v : Int) (v4 v5 v6 : Option Nat), v = how (130 + (if kk = 43 then 0 else if kk = 45 then 1 else 2)) → Wp (d + 24) C_X23_turn Q 137 [vR (some a), vR (some l), vI (w : Nat), vR (some (hN h)), vR v4, vR v5, vR v6] [vR (some (hN h1)), vR (some l)] (sR (sI (sR (hNew h1 21 0 3) (hN h1) 0 (some (hN h))) (hN h1) 1 v) (hN h1) 2 (some br)) := by
                  intro v v4 v5 v6 hv
                  have F3 : Fw 16 h1 (sR (sI (sR (hNew h1 21 0 3) (hN h1) 0 (some (hN h))) (hN h1) 1 v) (hN h1) 2 (some br)) := Fw_sR (Fw_sI (Fw_sR Fn hS1 (Nat.le_refl _)) hS1 (Nat.le_refl _)) hS1 (Nat.le_refl _)
                  refine ss_X23_turn_137 F3.2.2.2.1 ((F3.2.2.2.2 a (by omega)).1.trans ta1) ?_
                  rw [ofR_some]
                  refine ip (by rw [(F3.2.2.2.2 l (by omega)).1, M1.2.2.1.1]) (ad hS0 hlo hhi h01' K1 M1 F3 (i_chg (Pe := AP h0 (fun c => lo ≤ c ∧ c < hi) h1 l arr) (by split <;> (try split) <;> omega) hv (AP_new hS0 h01' (by omega) (by omega) (Nat.le_refl _) (Nat.lt_succ_self _)) (hT_newa rfl) (fun c hc => ⟨AP_up F3.1 hc, by have := AP_lt hhi h01' hc; omega⟩) (RPlp_eq nv rp1) (REp_eq nv rrA)) (by omega) (by omega) (fun g4 arr4 xs4 K4 _ M4 n4 => ?_))
                  exact ss_X23_turn_142 K4.1.2.2.2.1 ((Fk_src h01 m1 K4 (by omega)).1.trans ta) (k g4 arr4 xs4 (Fk_mono K4 (by omega)) M4)
                refine ip rfl ⟨by omega, ?_⟩
                rw [ofR_some, ib]
                refine ⟨tb, ?_⟩
                by_cases q43 : kk = 43
                · refine ip (by omega) ?_
                  rw [ofR_some, rb]
                  exact ⟨tb, c_n21 S3 (hT_newa rfl) (fin 0 _ _ _ (by rw [if_pos q43]; rfl))⟩
                · refine im (by omega) ?_
                  rw [ofR_some, ib]
                  refine ⟨tb, ?_⟩
                  by_cases q45 : kk = 45
                  · refine ip (by omega) ?_
                    rw [ofR_some, rb]
                    exact ⟨tb, c_n21 S3 (hT_newa rfl) (fin 1 _ _ _ (by rw [if_neg q43, if_pos q45]; rfl))⟩
                  · refine im (by omega) ?_
                    rw [ofR_some, rb]
                    exact ⟨tb, c_n21 S3 (hT_newa rfl) (fin 2 _ _ _ (by rw [if_neg q43, if_neg q45]; rfl))⟩
            · refine im (by omega) ?_
              refine hasE _ (p157 _ _ _ ?_)
              unfold zpl; rw [he]; show (_ && (_ && (decide (zn (zl el) = x) && _))) = false; simp [qn]
          · rw [insV_f (by simpa using q9)]
            refine ip rfl (hasE _ (p157 _ _ _ ?_))
            have gl : ¬ zg el = 1 := fun z => q9 (l9.2 z)
            unfold zpl; rw [he]; show (_ && (decide (zg el = 1) && _)) = false; simp [gl]
    · rw [insV_f (by simpa using q17)]
      refine ip rfl (hasE _ (p157 _ _ _ ?_))
      have zs : ¬ zsum (zg e) = true := fun z => q17 (g17.2 z)
      unfold zpl
      rw [show decide (zg e = 43 ∨ zg e = 45 ∨ zg e = 94) = false by rw [decide_eq_false_iff_not]; intro z; apply zs; rcases z with z | z | z <;> rw [z] <;> rfl]
      rfl
  refine vsel_of (y := 321) (by rw [ta]; rfl) (se_X23_turn hS ta ?_)
  rw [hT_new an, ta, hI_new an, i0']
  refine ⟨by have : 1 ≤ zcs (zts x e) := by rw [lz]; split; omega; split <;> omega
             omega, List.mem_singleton.mpr rfl, c_n6 S1 (hT_newa rfl) ?_⟩
  rw [← eh1]
  exact p13
