/-! m: read -/
def zord : zT → Bool
  | .leaf _ => false
  | .branch _ s _ => decide (zg s = 114 ∨ zg s = 115 ∨ zg s = 116)
theorem zord_un {b : Bool} {s t : zT} (os : okS s 1) (u : zun b (zB 150 s t)) : zord (zB 150 s t) = b := by
  have us := (zun_150 u).1
  have H := ok_ind (P0 := fun _ => True) (P1 := fun s => zun b s → decide (zg s = 114 ∨ zg s = 115 ∨ zg s = 116) = b) (fun _ => trivial) (fun _ _ _ _ _ _ => trivial)
    (fun e s t e2 _ _ _ _ _ _ u => by rw [(zun_fk (Or.inl ⟨rfl, rfl, rfl⟩) u).1]; rfl)
    (fun e s t e2 _ _ _ _ _ _ u => by rw [(zun_fk (Or.inr ⟨rfl, rfl, rfl⟩) u).1]; rfl)
    (fun e s _ _ _ u => by rw [(zun_wh u).1]; rfl)
    (fun e s t _ _ _ _ _ u => by rw [(zun_wn u).1]; rfl)
    (fun k l r hk u => by
      rw [zun_1 hk u]
      have := ok1_k hk
      rw [Bool.eq_iff_iff]
      simp only [decide_eq_true_eq]
      show k = 114 ∨ k = 115 ∨ k = 116 ↔ k = 114
      omega)
  exact (H s).2.1 os us
/-- what a read tree is -/
theorem pRead_good {L : List zTk} {t : zT} (hL : Lok L) (h : pRead L = some (.inr t)) : okS t 0 ∧ zun (zord t) t ∧ zc t ≤ 40 ∧ zbr t ≤ 5 ∧ ∃ c o, pS (3 * L.length + 5) 0 0 0 2 L = some (.inr (t, [], c, o)) ∧ (zord t = true → o = 1) ∧ (zord t = false → o = 0 ∨ o = 2) := by
  unfold pRead at h
  cases hp : pS (3 * L.length + 5) 0 0 0 2 L with
  | none => rw [hp] at h; cases h
  | some r =>
    rw [hp] at h
    cases r with
    | inl f => cases h
    | inr p =>
      obtain ⟨t1, M, c, o⟩ := p
      dsimp only at h
      split at h
      · rename_i hM
        cases h
        subst hM
        obtain ⟨y1, y2, y3, y4, y5⟩ := pS_ok _ _ _ _ _ _ _ _ _ _ hp (by decide) (by decide) (by decide) hL (fun z => absurd z (by decide))
        obtain ⟨w1, w2, w3, w4⟩ := pS_uni _ _ _ _ _ _ _ _ _ _ hp (by decide) (by decide) (by decide) hL (fun z => absurd z (by decide)) (fun z => absurd rfl z) (by decide)
        have hbr : zbr t ≤ 5 := by have : zbr t + 0 + 0 ≤ 5 := y5; omega
        have y1' : okS t 0 := y1
        by_cases o2 : o = 2
        · have e := w3 o2
          subst e
          exact ⟨y1', trivial, by omega, hbr, c, o, rfl, fun z => (by cases z), fun _ => Or.inr o2⟩
        · have u := w4 (by omega)
          cases t with
          | leaf v =>
            exfalso
            unfold pS at hp
            rw [if_pos rfl] at hp
            split at hp
            · split at hp
              · cases hp
              · obtain ⟨s, M1, c2, o3, e1, hp⟩ := qBnd_inr hp
                obtain ⟨t2, M2, c3, o4, e2, hp⟩ := qBnd_inr hp
                cases hp
            · cases hp; exact o2 rfl
          | branch k s t =>
            have ok' := y1'
            unfold okS at ok'
            rw [if_pos rfl] at ok'
            obtain ⟨ek, os, ot⟩ := ok'
            subst ek
            have ez := zord_un os u
            refine ⟨y1', by rw [ez]; exact u, by omega, hbr, c, o, rfl, fun z => ?_, fun z => ?_⟩
            · rw [ez] at z; simpa using z
            · rw [ez] at z
              have : o ≠ 1 := by simpa using z
              omega
      · cases h
abbrev mjR : List Nat := [1, 4, 5, 6, 7, 8, 11, 12, 13, 14, 15, 16, 17, 18, 19, 20, 21]
/-- what m's read may change -/
def Fr (h h' : hp) (r : Nat) : Prop := ∃ h1, FI [] mjR [119, 120] h h1 ∧ Fb h1 h' r
theorem c_readM {d : Nat} {Q : qt} {h : hp} {r : Nat} {u : List Int} (hS : St h) (hr : r < 10) (hT0 : Mq h 0 u)
    (k1 : ∀ (kd q : Nat) (h' : hp), pRead (lex u) = some (.inl (kd, q)) → FI [] mjR [119, 120] h h' → hI h' 116 12 = (kd : Nat) → hI h' 116 13 = hI h 116 1 - (q : Nat) → hI h' 116 1 = 0 → Q (.inl (some (vI (n_sub (-10) (kd : Nat))))) h')
    (k2 : ∀ (t : zT) (h' : hp), pRead (lex u) = some (.inr t) → Fr h h' r → MR h' r t (bI (zord t)) → hI h' 116 12 = 0 → hI h' 116 13 = 0 → hI h' 116 1 = 0 → hI h' 116 54 = 0 → Q (.inl (some (vI (zc t : Nat)))) h') : Wc (d + 100) 109 [vR (some 116), vI (r : Nat)] h Q := by
  refine se_X4_read hS ?_
  refine pu_mIsRoutine hS ?_
  refine ss_X4_read_4 hS ?_
  rw [show (decide ((0 : Int) ≤ (r : Nat)) && decide (((r : Nat) : Int) ≤ 9)) = true by simp; omega]
  refine im (by decide) ?_
  obtain ⟨g, eg⟩ : ∃ x, x = sI (sI (sI (sI (sI (sI h 116 4 0) 116 11 0) 116 18 0) 116 19 0) 116 20 0) 116 17 0 := ⟨_, rfl⟩
  rw [← eg]
  have Fg : FM h g := by rw [eg]; exact FI_sI (FI_sI (FI_sI (FI_sI (FI_sI (FI_sI (FI_refl h) rfl) rfl) rfl) rfl) rfl) rfl
  have Sg := FI_St Fg hS rfl
  have Mg : Mq g 0 u := by rw [eg]; exact Mq_sI (Mq_sI (Mq_sI (Mq_sI (Mq_sI (Mq_sI hT0 (by omega)) (by omega)) (by omega)) (by omega)) (by omega)) (by omega)
  have hlen : (lex u).length ≤ u.length := lex_len _ u (Nat.le_refl _)
  have hu6 : u.length ≤ 600 := by have := hT0.2.1; omega
  have hLk : Lok (lex u) := lex_ok _ u (Nat.le_refl _) hT0.2.2.2
  have Lg : Ly g (lex u) := ⟨0, u, by rw [eg]; simp [hI_sI], Mg, rfl⟩
  have Ng : Nt g [] := ⟨by rw [eg]; simp [hI_sI], fun j hj => by simp at hj⟩
  have Ug : Mu g 0 0 0 2 := ⟨by rw [eg]; simp [hI_sI], by rw [eg]; simp [hI_sI], by omega, by omega, 0, by rw [eg]; simp [hI_sI], by omega, by omega, fun _ => ⟨rfl, by rw [eg]; simp [hI_sI]⟩, fun z => absurd rfl z⟩
  obtain ⟨r0, hr0⟩ := pS_read (lex u)
  have hdone : ∀ (t : zT) (o : Nat) (h2 : hp), pRead (lex u) = some (.inr t) → FM h h2 → Nt h2 (zk t) → (zk t).length ≤ 1600 → hI h2 116 17 = bI (zord t) → Wp (d + 99) C_X4_read Q 44 [vR (some 116), vI (r : Nat), vU, vU] [vI 1] h2 := by
    intro t o h2 hp F2 N2 hl2 e17
    have S2 := FI_St F2 hS rfl
    obtain ⟨ok, un, hz, hbr, -⟩ := pRead_good hLk hp
    refine ss_X4_read_44 S2 (im (by decide) ?_)
    have S3 : St (sI h2 116 1 0) := St_sI S2 (by omega)
    refine se_X4_fails S3 ?_
    have F4 : FI [] mjR [119, 120] h (sI (sI (sI h2 116 1 0) 116 12 0) 116 13 0) := FI_sI (FI_sI (FI_sI (FI_mono F2 (by decide) (by decide) (by decide)) rfl) rfl) rfl
    have S4 := FI_St F4 hS rfl
    refine ss_X4_read_68 S4 ?_
    rw [show hI (sI (sI (sI h2 116 1 0) 116 12 0) 116 13 0) 116 17 = bI (zord t) by rw [hI_sI, if_neg (by omega), hI_sI, if_neg (by omega), hI_sI, if_neg (by omega)]; exact e17]
    have N4 : Nt (sI (sI (sI h2 116 1 0) 116 12 0) 116 13 0) (zk t) := Nt_j (Nt_j (Nt_j N2 _ (by decide)) _ (by decide)) _ (by decide)
    refine c_becomes S4 hr N4 hl2 ok hz hbr (bI_01 _) fun h5 F5 R5 e54 => ?_
    refine k2 t h5 hp ⟨_, F4, F5⟩ R5 ?_ ?_ ?_ e54
    · rw [FI_i F5.1 rfl, hI_sI, if_neg (by omega), hI_sI, if_pos ⟨rfl, rfl⟩]
    · rw [FI_i F5.1 rfl, hI_sI, if_pos ⟨rfl, rfl⟩]
    · rw [FI_i F5.1 rfl, hI_sI, if_neg (by omega), hI_sI, if_neg (by omega), hI_sI, if_pos ⟨rfl, rfl⟩]
  have hno : ∀ (kd q : Nat), pRead (lex u) = some (.inl (kd, q)) → MF h mjS kd q (fun o h' => match o with
      | .inl (some (.inl x)) => Wp (d + 99) C_X4_read Q 44 [vR (some 116), vI (r : Nat), vU, vU] [vI x] h'
      | .inr a => Q (.inr a) h'
      | _ => False) := by
    intro kd q hp h2 F2 e12 e13
    have S2 := FI_St F2 hS rfl
    refine ss_X4_read_44 S2 (ip rfl ?_)
    rw [e12]
    refine k1 kd q _ hp (FI_sI (FI_mono F2 (by decide) (by decide) (by decide)) rfl) ?_ ?_ ?_
    · rw [hI_sI, if_neg (by omega)]; exact e12
    · rw [hI_sI, if_neg (by omega)]; exact e13
    · rw [hI_sI, if_pos ⟨rfl, rfl⟩]
  refine Wc_of cs_X4_readSteps rfl ?_
  by_cases hL : lex u = []
  · rw [hL] at Lg
    have hp : pRead (lex u) = some (.inr (zL 0)) := by rw [hL]; rfl
    refine ss_X4_readSteps_0 Sg ?_
    refine c_look Sg Lg fun h1 f1 l1 => ?_
    have S1 := FI_St f1 Sg rfl
    refine ss_X4_readSteps_4 S1 ?_
    rw [(Lz_un l1).2.1]
    refine ip rfl (ip rfl (ip ((Lz_end l1).mpr rfl) ?_))
    refine hdone (zL 0) 2 h1 hp (FI_trans Fg (FI_mono f1 (by decide) (by decide) (by decide))) (Nt_FI f1 rfl Ng) (by show 0 ≤ 1600; omega) ?_
    rw [FI_i f1 rfl, eg]
    simp [hI_sI]
    rfl
  · refine pmS0g (pmS (3 * (lex u).length + 4)) (w := false) hr0 (by omega) hLk hS Fg ⟨Lg, Ng, by simp; omega, Ug⟩ (fun z => ?_) (by omega) ?_
    · exfalso
      apply hL
      cases hq : lex u with
      | nil => rfl
      | cons a b => rw [hq] at z; cases z
    · cases r0 with
      | inl f => exact hno f.1 f.2 (by unfold pRead; rw [hr0])
      | inr p =>
        obtain ⟨t, M, c1, o1⟩ := p
        refine ⟨fun z h2 F2 M2 => ?_, fun z => ?_⟩
        · have hM : M = [] := by
            have z' : M.isEmpty = true := z
            simpa using z'
          have hp : pRead (lex u) = some (.inr t) := by unfold pRead; rw [hr0]; simp only [hM, if_true]
          obtain ⟨ok, un, hz, hbr, c2, o2, hp2, w1, w2⟩ := pRead_good hLk hp
          rw [hr0] at hp2
          cases hp2
          obtain ⟨m1, m2, m3, m4, -⟩ := M2
          have m2' : Nt h2 (zk t) := m2
          have m3' : (zk t).length + 0 ≤ 1600 := m3
          refine hdone t c1 h2 hp F2 m2' (by omega) ?_
          obtain ⟨u1, u2, u3, u4, n, u5, u6, u7, u8, u9⟩ := m4
          cases hz : zord t with
          | true =>
            have e := w1 hz
            have := (u9 (by show o1 ≠ 2; omega)).2
            rw [this]; show ((o1 : Nat) : Int) = 1; omega
          | false =>
            rcases w2 hz with e | e
            · have := (u9 (by show o1 ≠ 2; omega)).2
              rw [this]; show ((o1 : Nat) : Int) = 0; omega
            · exact (u8 e).2
        · have hM : M ≠ [] := fun e => by
            have z' : M.isEmpty = false := z
            rw [e] at z'; cases z'
          exact hno 1 (pq M) (by unfold pRead; rw [hr0]; simp only [hM, if_false])
