/-! printing is one to one -/
theorem okt_s {x : Nat × Nat} (h : okt x) : (x.1 = 1 → x.2 < 26) ∧ (x.1 = 2 → x.2 < 1000000000) ∧ (x.1 = 3 → x.2 < 6) ∧ (x.1 = 4 → x.2 < 4) ∧ (x.1 = 5 → x.2 < 22) ∧ (x.1 = 6 → x.2 < 6) ∧ (x.1 = 7 → sg7 x.2 = true) ∧ (x.1 = 8 → x.2 = 45) := by
  rcases h with ⟨a, b⟩ | ⟨a, b⟩ | ⟨a, b⟩ | ⟨a, b⟩ | ⟨a, b⟩ | ⟨a, b⟩ | ⟨a, b, c, d, e⟩
  all_goals refine ⟨fun z => ?_, fun z => ?_, fun z => ?_, fun z => ?_, fun z => ?_, fun z => ?_, fun z => ?_, fun z => ?_⟩
  all_goals first | omega | exact d z | exact e z
theorem fcl_cs {s w s' w' : Nat} {c : Int} (f1 : fcl (s, w) c) (f2 : fcl (s', w') c) : ((s = 1 ∨ s = 5) ∧ (s' = 1 ∨ s' = 5)) ∨ (s = 2 ∧ s' = 2) ∨ (s = 3 ∧ s' = 3) ∨ (s = 4 ∧ s' = 4) ∨ ((s = 6 ∨ s = 7 ∨ s = 8) ∧ (s' = 6 ∨ s' = 7 ∨ s' = 8)) := by
  rcases f1 with ⟨a, b⟩ | ⟨a, b⟩ | ⟨a, b⟩ | ⟨a, b⟩ | ⟨a, b⟩ <;> rcases f2 with ⟨a', b'⟩ | ⟨a', b'⟩ | ⟨a', b'⟩ | ⟨a', b'⟩ | ⟨a', b'⟩ <;> dsimp only at a a'
  · exact Or.inl ⟨a, a'⟩
  · omega
  · omega
  · omega
  · unfold sgc at b'; omega
  · omega
  · exact Or.inr (Or.inl ⟨a, a'⟩)
  · omega
  · omega
  · unfold sgc at b'; omega
  · omega
  · omega
  · exact Or.inr (Or.inr (Or.inl ⟨a, a'⟩))
  · omega
  · unfold sgc at b'; omega
  · omega
  · omega
  · omega
  · exact Or.inr (Or.inr (Or.inr (Or.inl ⟨a, a'⟩)))
  · unfold sgc at b'; omega
  · unfold sgc at b; omega
  · unfold sgc at b; omega
  · unfold sgc at b; omega
  · unfold sgc at b; omega
  · exact Or.inr (Or.inr (Or.inr (Or.inr ⟨a, a'⟩)))
theorem tok_inj {x y : Nat × Nat} {A B : List (Nat × Nat)} (o1 : oka (x :: A)) (o2 : oka (y :: B)) (m1 : okm (x :: A)) (m2 : okm (y :: B)) (e : ptk x ++ pbs A (pgu x) = ptk y ++ pbs B (pgu y)) : x = y := by
  have k1 := o1 x (List.mem_cons_self ..)
  have k2 := o2 y (List.mem_cons_self ..)
  obtain ⟨c1, u1, e1, f1⟩ := ptk_f k1
  obtain ⟨c2, u2, e2, f2⟩ := ptk_f k2
  obtain ⟨a1, a2, a3, a4, a5, a6, a7, a8⟩ := okt_s k1
  obtain ⟨b1, b2, b3, b4, b5, b6, b7, b8⟩ := okt_s k2
  have ec : c1 = c2 := by
    rw [e1, e2] at e
    exact (List.cons.inj e).1
  subst ec
  obtain ⟨s, w⟩ := x
  obtain ⟨s', w'⟩ := y
  dsimp only at a1 a2 a3 a4 a5 a6 a7 a8 b1 b2 b3 b4 b5 b6 b7 b8
  have gl : ∀ {z v : Nat}, z ≠ 7 → z ≠ 8 → pgu (z, v) = false := fun h1 h2 => by unfold pgu; simp [h1, h2]
  have cs := fcl_cs f1 f2
  clear f1 f2 e1 e2
  rcases cs with ⟨h1, h2⟩ | ⟨h1, h2⟩ | ⟨h1, h2⟩ | ⟨h1, h2⟩ | ⟨h1, h2⟩
  · have ne7 : s ≠ 7 ∧ s ≠ 8 ∧ s' ≠ 7 ∧ s' ≠ 8 := by
      clear a1 a2 a3 a4 a5 a6 a7 a8 b1 b2 b3 b4 b5 b6 b7 b8
      omega
    rw [gl ne7.1 ne7.2.1, gl ne7.2.2.1 ne7.2.2.2] at e
    clear a2 a3 a4 a6 a7 a8 b2 b3 b4 b6 b7 b8
    have sm : ∀ {z v : Nat}, (z = 1 ∧ v < 26) ∨ (z = 5 ∧ v < 22) → ∀ c ∈ ptk (z, v), bSm c = true := by
      intro z v h c hc
      rcases h with ⟨q, hv⟩ | ⟨q, hv⟩ <;> subst q
      · have : c = ((97 + v : Nat) : Int) := List.mem_singleton.mp hc
        rw [this]; unfold bSm; rw [decide_eq_true (by omega), decide_eq_true (by omega)]; rfl
      · exact (pkb_sm v hv).1 c hc
    have sp : ∀ c, sepc c → bSm c = false := fun c h => by
      unfold sepc at h
      unfold bSm
      rw [Bool.and_eq_false_iff]
      left
      exact decide_eq_false (by omega)
    have q1 : (s = 1 ∧ w < 26) ∨ (s = 5 ∧ w < 22) := by
      rcases h1 with z | z
      · exact Or.inl ⟨z, a1 z⟩
      · exact Or.inr ⟨z, a5 z⟩
    have q2 : (s' = 1 ∧ w' < 26) ∨ (s' = 5 ∧ w' < 22) := by
      rcases h2 with z | z
      · exact Or.inl ⟨z, b1 z⟩
      · exact Or.inr ⟨z, b5 z⟩
    have p := (pre_eq (p := bSm) (sm q1) (sm q2) (sep_t sp) (sep_t sp) e).1
    clear a1 b1
    rcases h1 with h1 | h1 <;> rcases h2 with h2 | h2 <;> subst h1 <;> subst h2
    · have : ((97 + w : Nat) : Int) = ((97 + w' : Nat) : Int) := (List.cons.inj (show [((97 + w : Nat) : Int)] = [((97 + w' : Nat) : Int)] from p)).1
      rw [show w = w' by omega]
    · have l := (pkb_sm w' (b5 rfl)).2
      have : (ptk (1, w)).length = (pkb w').length := by rw [p]; rfl
      have l1 : (ptk (1, w)).length = 1 := rfl
      omega
    · have l := (pkb_sm w (a5 rfl)).2
      have : (pkb w).length = (ptk (1, w')).length := by rw [← p]; rfl
      have l1 : (ptk (1, w')).length = 1 := rfl
      omega
    · rw [pkb_inj w (a5 rfl) w' (b5 rfl) p]
  · subst h1; subst h2
    rw [gl (by decide) (by decide), gl (by decide) (by decide)] at e
    have sp : ∀ c, sepc c → bDg c = false := fun c h => by
      unfold sepc at h
      unfold bDg
      rw [Bool.and_eq_false_iff]
      rcases h with h | h | h | h | h <;> subst h <;> decide
    have p := (pre_eq (p := bDg) (pdg_dg _ _ _) (pdg_dg _ _ _) (sep_t sp) (sep_t sp) (show pnm w ++ _ = pnm w' ++ _ from e)).1
    rw [pnm_inj (a2 rfl) (b2 rfl) p]
  · subst h1; subst h2
    clear a1 a2 a3 a4 a5 a6 a7 a8 b1 b2 b3 b4 b5 b6 b7 b8
    have := (List.cons.inj (show ((65 + w : Nat) : Int) :: _ = ((65 + w' : Nat) : Int) :: _ from e)).1
    rw [show w = w' by omega]
  · subst h1; subst h2
    clear a1 a2 a3 a4 a5 a6 a7 a8 b1 b2 b3 b4 b5 b6 b7 b8
    have := (List.cons.inj (show ((83 + w : Nat) : Int) :: _ = ((83 + w' : Nat) : Int) :: _ from e)).1
    rw [show w = w' by omega]
  · clear a1 a2 a3 a4 a5 b1 b2 b3 b4 b5
    have no : ∀ {v v' : Nat} {C D : List (Nat × Nat)} {s2 : Nat}, v < 6 → (s2 = 7 ∨ s2 = 8) → (s2 = 7 → sg7 v' = true) → (s2 = 8 → v' = 45) → oka ((s2, v') :: D) → okm ((s2, v') :: D) → ptk (6, v) ++ pbs C (pgu (6, v)) = ptk (s2, v') ++ pbs D (pgu (s2, v')) → False := by
      intro v v' C D s2 hv h7 hs h8 oD mD ee
      clear a6 a7 a8 b6 b7 b8 h1 h2
      obtain ⟨p, q, e3, hp1, hq⟩ := ppr_f v hv
      have e4 : ptk (6, v) = [p, q] := e3
      have e5 : ptk (s2, v') = [((v' : Nat) : Int)] := by rcases h7 with z | z <;> subst z <;> rfl
      rw [e4, e5] at ee
      obtain ⟨g1, g2⟩ := List.cons.inj (show p :: (q :: _) = ((v' : Nat) : Int) :: pbs D (pgu (s2, v')) from ee)
      by_cases mi : (s2, v') = (7, 45) ∨ (s2, v') = (8, 45)
      · obtain ⟨c, R, r1, r2, r3, r4, -⟩ := min_t oD mD mi
        rw [r1] at g2
        have := (List.cons.inj g2).1
        omega
      · have h27 : s2 = 7 := by
          rcases h7 with z | z
          · exact z
          · exfalso; exact mi (Or.inr (by rw [z, h8 z]))
        subst h27
        have gu : pgu (7, v') = false := by
          unfold pgu
          have n1 : v' ≠ 91 := by omega
          have n2 : v' ≠ 40 := by omega
          have n3 : v' ≠ 35 := by omega
          simp [n1, n2, n3]
        rw [gu] at g2
        rcases pbs_sep (A := D) with z | ⟨c, R, z, sc⟩
        · rw [z] at g2; cases g2
        · rw [z] at g2
          have := (List.cons.inj g2).1
          unfold sepc at sc
          omega
    by_cases s6 : s = 6
    · subst s6
      by_cases s6' : s' = 6
      · subst s6'
        obtain ⟨p, q, e3, -, -⟩ := ppr_f w (a6 rfl)
        obtain ⟨p', q', e3', -, -⟩ := ppr_f w' (b6 rfl)
        have e4 : ptk (6, w) = [p, q] := e3
        have e4' : ptk (6, w') = [p', q'] := e3'
        rw [e4, e4'] at e
        obtain ⟨g1, g2⟩ := List.cons.inj (show p :: (q :: _) = p' :: (q' :: _) from e)
        have g3 := (List.cons.inj g2).1
        have : ppr w = ppr w' := by rw [e3, e3', g1, g3]
        rw [ppr_inj w (a6 rfl) w' (b6 rfl) this]
      · exact (no (a6 rfl) (by omega) b7 b8 o2 m2 e).elim
    · by_cases s6' : s' = 6
      · subst s6'
        exact (no (b6 rfl) (by omega) a7 a8 o1 m1 e.symm).elim
      · have one : ∀ {z v : Nat}, (z = 7 ∨ z = 8) → ptk (z, v) = [((v : Nat) : Int)] := fun h => by rcases h with q | q <;> subst q <;> rfl
        rw [one (show s = 7 ∨ s = 8 by omega), one (show s' = 7 ∨ s' = 8 by omega)] at e
        obtain ⟨g1, g2⟩ := List.cons.inj (show ((w : Nat) : Int) :: pbs A (pgu (s, w)) = ((w' : Nat) : Int) :: pbs B (pgu (s', w')) from e)
        have ww : w = w' := by omega
        subst ww
        by_cases ss : s = s'
        · rw [ss]
        · exfalso
          have w45 : w = 45 := by
            by_cases q : s = 8
            · exact a8 q
            · exact b8 (by omega)
          subst w45
          have x1 : (s, 45) = (7, 45) ∨ (s, 45) = (8, 45) := by
            have : s = 7 ∨ s = 8 := by omega
            rcases this with q | q <;> subst q
            · exact Or.inl rfl
            · exact Or.inr rfl
          have x2 : (s', 45) = (7, 45) ∨ (s', 45) = (8, 45) := by
            have : s' = 7 ∨ s' = 8 := by omega
            rcases this with q | q <;> subst q
            · exact Or.inl rfl
            · exact Or.inr rfl
          obtain ⟨c, R, r1, -, -, -, r2⟩ := min_t o1 m1 x1
          obtain ⟨c', R', r1', -, -, -, r2'⟩ := min_t o2 m2 x2
          rw [r1, r1'] at g2
          have cc := (List.cons.inj g2).1
          subst cc
          have hs : s = 7 ∨ s = 8 := by omega
          have hs' : s' = 7 ∨ s' = 8 := by omega
          by_cases c32 : c = 32
          · have q1 := congrArg Prod.fst (r2.mp c32)
            have q2 := congrArg Prod.fst (r2'.mp c32)
            dsimp only at q1 q2
            omega
          · have q1 : s ≠ 7 := fun z => c32 (r2.mpr (by rw [z]))
            have q2 : s' ≠ 7 := fun z => c32 (r2'.mpr (by rw [z]))
            omega
theorem pbs_inj : ∀ (A B : List (Nat × Nat)) (g : Bool), oka A → oka B → okm A → okm B → pbs A g = pbs B g → A = B := by
  intro A
  induction A with
  | nil =>
    intro B g _ o2 _ _ e
    cases B with
    | nil => rfl
    | cons y B =>
      exfalso
      obtain ⟨c, u, e1, -⟩ := ptk_f (o2 y (List.mem_cons_self ..))
      have e' : [] = psp g y ++ (ptk y ++ pbs B (pgu y)) := e
      rw [e1] at e'
      have := congrArg List.length e'
      simp at this
  | cons x A ih =>
    intro B g o1 o2 m1 m2 e
    cases B with
    | nil =>
      exfalso
      obtain ⟨c, u, e1, -⟩ := ptk_f (o1 x (List.mem_cons_self ..))
      have e' : psp g x ++ (ptk x ++ pbs A (pgu x)) = [] := e
      rw [e1] at e'
      have := congrArg List.length e'
      simp at this
    | cons y B =>
      have e' : psp g x ++ (ptk x ++ pbs A (pgu x)) = psp g y ++ (ptk y ++ pbs B (pgu y)) := e
      have cut : ptk x ++ pbs A (pgu x) = ptk y ++ pbs B (pgu y) := by
        obtain ⟨c1, u1, e1, f1⟩ := ptk_f (o1 x (List.mem_cons_self ..))
        obtain ⟨c2, u2, e2, f2⟩ := ptk_f (o2 y (List.mem_cons_self ..))
        have n1 : c1 ≠ 32 := by unfold fcl sgc at f1; omega
        have n2 : c2 ≠ 32 := by unfold fcl sgc at f2; omega
        unfold psp at e'
        by_cases q1 : (g || pcl x) = true <;> by_cases q2 : (g || pcl y) = true
        · rw [if_pos q1, if_pos q2] at e'; exact e'
        · rw [if_pos q1, if_neg q2, e1] at e'
          exact absurd (List.cons.inj (show c1 :: _ = 32 :: _ from e')).1 n1
        · rw [if_neg q1, if_pos q2, e2] at e'
          exact absurd (List.cons.inj (show 32 :: _ = c2 :: _ from e')).1.symm n2
        · rw [if_neg q1, if_neg q2] at e'
          exact List.append_cancel_left e'
      have xy := tok_inj o1 o2 m1 m2 cut
      subst xy
      have r := List.append_cancel_left cut
      rw [ih B (pgu x) (fun z hz => o1 z (List.mem_cons_of_mem _ hz)) (fun z hz => o2 z (List.mem_cons_of_mem _ hz)) m1.2 m2.2 r]
