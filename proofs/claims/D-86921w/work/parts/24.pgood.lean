/-! WHAT IS READ IS GOOD -/
def tkok (t : zTk) : Prop := (t.2.1 = 1 → t.2.2 < 26) ∧ (t.2.1 = 3 → t.2.2 < 6) ∧ (t.2.1 = 4 → t.2.2 < 4) ∧ (t.2.1 = 2 → t.2.2 < 1000000000) ∧ (t.2.1 = 5 → t.2.2 < 22) ∧ (t.2.1 = 6 → t.2.2 < 6)
def Lok (L : List zTk) : Prop := ∀ t ∈ L, tkok t
theorem Lok_tl {L : List zTk} (h : Lok L) : Lok L.tail := fun t ht => h t (List.mem_of_mem_tail ht)
theorem Lok_hd {L : List zTk} (h : Lok L) : (phs 1 L = true → pw L < 26) ∧ (phs 3 L = true → pw L < 6) ∧ (phs 4 L = true → pw L < 4) ∧ (phs 2 L = true → pw L < 1000000000) ∧ (phs 5 L = true → pw L < 22) ∧ (phs 6 L = true → pw L < 6) := by
  cases L with
  | nil => simp [phs]
  | cons t L =>
    have := h t (List.mem_cons_self ..)
    obtain ⟨q, a, b⟩ := t
    simpa [phs, pw, tkok] using this
theorem bNum_lt : ∀ (n a : Nat) (v : List Int), a < 10 ^ (9 - n) → n ≤ 9 → (bNum n a v).1 < 1000000000 := by
  intro n
  induction n with
  | zero => intro a v h _; simpa [bNum] using h
  | succ n ih =>
    intro a v h hn
    have hp : (10 : Nat) ^ (9 - n) = 10 * 10 ^ (9 - (n + 1)) := by rw [show 9 - n = (9 - (n + 1)) + 1 by omega, Nat.pow_succ]; omega
    have hle : (10 : Nat) ^ (9 - (n + 1)) ≤ 1000000000 := by
      have : (10 : Nat) ^ (9 - (n + 1)) ≤ 10 ^ 9 := Nat.pow_le_pow_right (by decide) (by omega)
      simpa using this
    cases v with
    | nil => show a < _; omega
    | cons c v =>
      unfold bNum
      split
      · rename_i q
        have hr := bDg_iff.mp q
        exact ih _ v (by rw [hp]; omega) (by omega)
      · show a < _; omega
theorem bTok_ok {c : Int} {r : List Int} (h1 : 32 ≤ c) (h2 : c ≤ 126) : tkok (0, (bTok c r).1, (bTok c r).2.1) := by
  obtain ⟨a1, a2, a3⟩ := tok_ok (r := r) h1 h2
  refine ⟨a1, a2, a3, ?_, ?_, ?_⟩
  · intro q
    by_cases c1 : bSm c = true
    · rcases bT_sm (r := r) c1 with z | z | z <;> (rw [z] at q; simp at q)
    · by_cases c2 : bDg c = true
      · have hr := bDg_iff.mp c2
        rw [bTok_dg c1 c2]
        exact bNum_lt 8 _ r (by simp; omega) (by decide)
      · by_cases c3 : bCp c = true
        · rcases bT_cp (r := r) c1 c2 c3 with ⟨-, z⟩ | ⟨-, -, z⟩ | ⟨-, -, z⟩ <;> (rw [z] at q; simp at q)
        · rcases bT_ot (r := r) c1 c2 c3 with ⟨x, y, i, -, -, z⟩ | z <;> (rw [z] at q; simp at q)
  · intro q
    by_cases c1 : bSm c = true
    · by_cases hz : (bWord r).1 = []
      · have : bTok c r = (1, (c - 97).toNat, r) := by unfold bTok; rw [if_pos c1, if_pos hz]
        rw [this] at q; simp at q
      · have et : bTok c r = (match bKeys.findIdx? (· == c :: (bWord r).1) with | some i => (5, i, (bWord r).2) | none => (0, 0, (bWord r).2)) := by unfold bTok; rw [if_pos c1, if_neg hz]; rfl
        rw [et] at q ⊢
        cases hj : bKeys.findIdx? (· == c :: (bWord r).1) with
        | none => rw [hj] at q; simp at q
        | some j => exact (kIdx2 hj).1
    · by_cases c2 : bDg c = true
      · rw [bTok_dg c1 c2] at q; simp at q
      · by_cases c3 : bCp c = true
        · rcases bT_cp (r := r) c1 c2 c3 with ⟨-, z⟩ | ⟨-, -, z⟩ | ⟨-, -, z⟩ <;> (rw [z] at q; simp at q)
        · rcases bT_ot (r := r) c1 c2 c3 with ⟨x, y, i, -, -, z⟩ | z <;> (rw [z] at q; simp at q)
  · intro q
    by_cases c1 : bSm c = true
    · rcases bT_sm (r := r) c1 with z | z | z <;> (rw [z] at q; simp at q)
    · by_cases c2 : bDg c = true
      · rw [bTok_dg c1 c2] at q; simp at q
      · by_cases c3 : bCp c = true
        · rcases bT_cp (r := r) c1 c2 c3 with ⟨-, z⟩ | ⟨-, -, z⟩ | ⟨-, -, z⟩ <;> (rw [z] at q; simp at q)
        · rcases bT_ot (r := r) c1 c2 c3 with ⟨x, y, i, -, hi, z⟩ | z
          · rw [z]
            show i < 6
            unfold bTwo at hi
            repeat' (split at hi)
            all_goals (first | cases hi; decide | cases hi)
          · rw [z] at q; simp at q
theorem bTok_okb {c : Int} {r : List Int} (h : okb r) : okb (bTok c r).2.2 := by
  have suf : ∀ {u v : List Int}, (∃ pre, u = pre ++ v) → okb u → okb v := by
    rintro u v ⟨pre, e⟩ hu x hx
    exact hu x (by rw [e]; exact List.mem_append_right _ hx)
  by_cases c1 : bSm c = true
  · rw [bTok_sm c1]; exact suf ⟨_, (bWord_app r).symm⟩ h
  · by_cases c2 : bDg c = true
    · rw [bTok_dg c1 c2]; exact suf (bNum_suf 8 (c - 48).toNat r) h
    · by_cases c3 : bCp c = true
      · rw [bTok_cp c1 c2 c3]; exact h
      · rcases bT_ot (r := r) c1 c2 c3 with ⟨x, y, i, e, -, z⟩ | z <;> rw [z]
        · rw [e] at h; exact okb_tl h
        · exact h
theorem lex_ok (n : Nat) : ∀ u : List Int, u.length ≤ n → okb u → Lok (lex u) := by
  induction n with
  | zero =>
    intro u h _
    cases u with
    | nil => intro t ht; cases ht
    | cons c r => simp at h
  | succ n ih =>
    intro u h ho
    rw [← lex_skip]
    have hs := bSkip_len u
    have hso : okb (bSkip u) := by
      intro x hx
      refine ho x ?_
      clear hs h ih
      induction u with
      | nil => exact hx
      | cons c u ih2 =>
        unfold bSkip at hx
        split at hx
        · exact List.mem_cons_of_mem _ (ih2 (okb_tl ho) hx)
        · exact hx
    cases e : bSkip u with
    | nil => intro t ht; cases ht
    | cons c r =>
      rw [e] at hs hso
      rw [List.length_cons] at hs
      by_cases hc : c = 32
      · exfalso
        have h2 := bSkip_skip u
        rw [e, bSkip, if_pos hc] at h2
        have h3 := bSkip_len r
        rw [h2, List.length_cons] at h3
        omega
      · rw [lex_cons hc]
        have hl := bTok_len c r
        have hcr := hso c (List.mem_cons_self ..)
        intro t ht
        rcases List.mem_cons.mp ht with q | q
        · rw [q]; exact bTok_ok hcr.1 hcr.2
        · exact ih _ (by omega) (bTok_okb (okb_tl hso)) t q
theorem zok_mono : ∀ {e : zT} {a b : Nat}, b ≤ a → zok e a → zok e b := by
  intro e a b hab hz
  cases e with
  | leaf n => exact hz
  | branch k l r =>
    unfold zok at hz ⊢
    by_cases k1 : k = 1
    · rw [if_pos k1] at hz ⊢; exact hz
    rw [if_neg k1] at hz ⊢
    by_cases k2 : k = 2
    · rw [if_pos k2] at hz ⊢; exact hz
    rw [if_neg k2] at hz ⊢
    by_cases k35 : k = 35
    · rw [if_pos k35] at hz ⊢; exact hz
    rw [if_neg k35] at hz ⊢
    by_cases k3 : k = 3
    · rw [if_pos k3] at hz ⊢; exact hz
    rw [if_neg k3] at hz ⊢
    by_cases k8 : k = 8
    · rw [if_pos k8] at hz ⊢; exact hz
    rw [if_neg k8] at hz ⊢
    by_cases k40 : k = 40
    · rw [if_pos k40] at hz ⊢; exact hz
    rw [if_neg k40] at hz ⊢
    by_cases k60 : k = 60 ∨ k = 61
    · rw [if_pos k60] at hz ⊢; exact hz
    rw [if_neg k60] at hz ⊢
    by_cases ks : zsum k = true
    · rw [if_pos ks] at hz ⊢; exact ⟨by omega, hz.2⟩
    rw [if_neg ks] at hz ⊢
    by_cases kp : zpro k = true
    · rw [if_pos kp] at hz ⊢; exact ⟨by omega, hz.2⟩
    rw [if_neg kp] at hz
    exact hz.elim
def zlv (m : Nat) : Nat := if m ≤ 1 then 0 else if m ≤ 3 then 1 else 2
def zlen (m : Nat) (acc : zT) : Nat := if m = 1 ∨ m = 3 then (zk acc).length else if m = 5 then 1 else 0
def zhei (m : Nat) (acc : zT) : Nat := if m = 1 ∨ m = 3 then zht acc else 0
def PKs (f : Nat) : Prop := ∀ (m w : Nat) (acc : zT) (L : List zTk) (e : zT) (M : List zTk), pX f m w acc L = some (.inr (e, M)) → m ≤ 5 → w ≤ 8 → Lok L → (m = 1 → zok acc 0 ∧ zdp acc + w ≤ 8) → (m = 3 → zok acc 1 ∧ zdp acc + w ≤ 8) → (m = 5 → ∃ x, acc = zL x ∧ x < 6) →
  Lok M ∧ zok e (zlv m) ∧ zdp e + w ≤ 8 ∧ zht e + M.length ≤ L.length + zhei m acc ∧ (zk e).length + M.length = L.length + zlen m acc
theorem pex_inr {c : Nat} {e e2 : zT} {L M : List zTk} (h : pex c e L = some (.inr (e2, M))) : e2 = e ∧ M = L.tail ∧ L.length = L.tail.length + 1 := by
  unfold pex at h
  split at h
  · rename_i q; cases h; exact ⟨rfl, rfl, (pis_t q).2.2.2⟩
  · cases h
theorem pBnd_inr {o : Option zRes} {k : zT → List zTk → Option zRes} {e2 : zT} {M2 : List zTk} (h : pBnd o k = some (.inr (e2, M2))) : ∃ e M, o = some (.inr (e, M)) ∧ k e M = some (.inr (e2, M2)) := by
  rcases pBnd_some h with ⟨f, -, q⟩ | q
  · cases q
  · exact q
theorem zdp_two {k : Nat} {l r : zT} (hk : zsum k = true ∨ zpro k = true) : zdp (zB k l r) = max (zdp l) (zdp r) := by
  have h : k = 43 ∨ k = 45 ∨ k = 94 ∨ k = 124 ∨ k = 42 ∨ k = 47 ∨ k = 37 ∨ k = 38 := by
    rcases hk with q | q
    · have := zsum_k q; omega
    · have := zpro_k q; omega
  rcases h with q | q | q | q | q | q | q | q <;> subst q <;> rfl
theorem zok_sum {k : Nat} {l r : zT} (hk : zsum k = true) (h1 : zok l 0) (h2 : zok r 1) : zok (zB k l r) 0 := by
  rcases zsum_k hk with q | q | q | q <;> subst q <;> exact ⟨rfl, h1, h2⟩
theorem zok_pro {k : Nat} {l r : zT} (hk : zpro k = true) (h1 : zok l 1) (h2 : zok r 2) : zok (zB k l r) 1 := by
  rcases zpro_k hk with q | q | q | q <;> subst q <;> exact ⟨by decide, h1, h2⟩
theorem pkE (f : Nat) : PKs f := by
  induction f with
  | zero => intro m w acc L e M h; cases h
  | succ f ih =>
    intro m w acc L e M h hm hw hL a1 a3 a5
    have hcases : m = 0 ∨ m = 1 ∨ m = 2 ∨ m = 3 ∨ m = 4 ∨ m = 5 := by omega
    rcases hcases with q | q | q | q | q | q <;> subst q
    · obtain ⟨e1, M1, b1, b2⟩ := pBnd_inr (show pBnd (pX f 2 w (zL 0) L) (fun e M => pX f 1 w e M) = _ from h)
      obtain ⟨c1, c2, c3, c4, c5⟩ := ih 2 w _ L e1 M1 b1 (by omega) hw hL (fun z => by omega) (fun z => by omega) (fun z => by omega)
      obtain ⟨d1, d2, d3, d4, d5⟩ := ih 1 w e1 M1 e M b2 (by omega) hw c1 (fun _ => ⟨zok_mono (by decide) c2, c3⟩) (fun z => by omega) (fun z => by omega)
      simp [zhei, zlen] at c4 c5 d4 d5 ⊢
      exact ⟨d1, d2, d3, by omega, by omega⟩
    · have h' : (if pSum L then pBnd (pX f 2 w (zL 0) L.tail) fun e M => pX f 1 w (zB (pw L) acc e) M else some (.inr (acc, L))) = some (.inr (e, M)) := h
      cases hp : pSum L with
      | false => rw [hp, if_neg (by decide)] at h'; cases h'; exact ⟨hL, (a1 rfl).1, (a1 rfl).2, by simp [zhei]; omega, by simp [zlen]; omega⟩
      | true =>
        rw [hp, if_pos rfl] at h'
        have hs2 : phs 7 L = true ∧ zsum (pw L) = true := by simpa [pSum] using hp
        have hl := (phs_t hs2.1).2
        obtain ⟨e1, M1, b1, b2⟩ := pBnd_inr h'
        obtain ⟨c1, c2, c3, c4, c5⟩ := ih 2 w _ L.tail e1 M1 b1 (by omega) hw (Lok_tl hL) (fun z => by omega) (fun z => by omega) (fun z => by omega)
        obtain ⟨d1, d2, d3, d4, d5⟩ := ih 1 w _ M1 e M b2 (by omega) hw c1 (fun _ => ⟨zok_sum hs2.2 (a1 rfl).1 c2, by rw [zdp_two (Or.inl hs2.2)]; have := (a1 rfl).2; omega⟩) (fun z => by omega) (fun z => by omega)
        refine ⟨d1, d2, d3, ?_, ?_⟩
        · simp only [zhei, true_or, if_true] at d4 ⊢
          have : zht (zB (pw L) acc e1) = max (zht acc) (zht e1) + 1 := rfl
          simp [zhei] at c4
          omega
        · simp only [zlen, true_or, if_true] at d5 ⊢
          rw [(zk_two (Or.inl hs2.2)).1, List.length_append, List.length_cons] at d5
          simp [zlen] at c5
          omega
    · obtain ⟨e1, M1, b1, b2⟩ := pBnd_inr (show pBnd (pX f 4 w (zL 0) L) (fun e M => pX f 3 w e M) = _ from h)
      obtain ⟨c1, c2, c3, c4, c5⟩ := ih 4 w _ L e1 M1 b1 (by omega) hw hL (fun z => by omega) (fun z => by omega) (fun z => by omega)
      obtain ⟨d1, d2, d3, d4, d5⟩ := ih 3 w e1 M1 e M b2 (by omega) hw c1 (fun z => by omega) (fun _ => ⟨zok_mono (by decide) c2, c3⟩) (fun z => by omega)
      simp [zhei, zlen] at c4 c5 d4 d5 ⊢
      exact ⟨d1, d2, d3, by omega, by omega⟩
    · have h' : (if pPro L then pBnd (pX f 4 w (zL 0) L.tail) fun e M => pX f 3 w (zB (pw L) acc e) M else some (.inr (acc, L))) = some (.inr (e, M)) := h
      cases hp : pPro L with
      | false => rw [hp, if_neg (by decide)] at h'; cases h'; exact ⟨hL, (a3 rfl).1, (a3 rfl).2, by simp [zhei]; omega, by simp [zlen]; omega⟩
      | true =>
        rw [hp, if_pos rfl] at h'
        have hs2 : phs 7 L = true ∧ zpro (pw L) = true := by simpa [pPro] using hp
        have hl := (phs_t hs2.1).2
        obtain ⟨e1, M1, b1, b2⟩ := pBnd_inr h'
        obtain ⟨c1, c2, c3, c4, c5⟩ := ih 4 w _ L.tail e1 M1 b1 (by omega) hw (Lok_tl hL) (fun z => by omega) (fun z => by omega) (fun z => by omega)
        obtain ⟨d1, d2, d3, d4, d5⟩ := ih 3 w _ M1 e M b2 (by omega) hw c1 (fun z => by omega) (fun _ => ⟨zok_pro hs2.2 (a3 rfl).1 c2, by rw [zdp_two (Or.inr hs2.2)]; have := (a3 rfl).2; omega⟩) (fun z => by omega)
        refine ⟨d1, d2, d3, ?_, ?_⟩
        · simp only [zhei, or_true, if_true] at d4 ⊢
          have : zht (zB (pw L) acc e1) = max (zht acc) (zht e1) + 1 := rfl
          simp [zhei] at c4
          omega
        · simp only [zlen, or_true, if_true] at d5 ⊢
          rw [(zk_two (Or.inr hs2.2)).1, List.length_append, List.length_cons] at d5
          simp [zlen] at c5
          omega
    · obtain ⟨o1, o3, o4, o2, o5, o6⟩ := Lok_hd hL
      have h' : (if phs 2 L then some (.inr (zNum (pw L), L.tail))
          else if phs 1 L then some (.inr (zNam (pw L), L.tail))
          else if phs 3 L then pX f 5 w (zL (pw L)) L.tail
          else if pis 7 35 L then (if phs 3 L.tail then some (.inr (zB 35 (zL (pw L.tail)) (zL 0), L.tail.tail)) else pno 1 L.tail)
          else if pis 7 45 L then (if w = 8 then pno 2 L else pBnd (pX f 4 (w + 1) (zL 0) L.tail) fun e M => some (.inr (zB 8 e (zL 0), M)))
          else if pis 7 40 L then (if w = 8 then pno 2 L else pBnd (pX f 0 (w + 1) (zL 0) L.tail) fun e M =>
            if pis 7 60 M || pis 7 61 M then pBnd (pX f 0 (w + 1) (zL 0) M.tail) fun e2 M2 => pex 41 (zB (pw M) e e2) M2
            else pex 41 (zB 40 e (zL 0)) M)
          else pno 1 L) = some (.inr (e, M)) := h
      split at h'
      · rename_i p; have hl := (phs_t p).2; cases h'
        exact ⟨Lok_tl hL, o2 p, by show 0 + w ≤ 8; omega, by show 1 + _ ≤ L.length + 0; omega, by show 1 + _ = L.length + 0; omega⟩
      split at h'
      · rename_i p; have hl := (phs_t p).2; cases h'
        exact ⟨Lok_tl hL, o1 p, by show 0 + w ≤ 8; omega, by show 1 + _ ≤ L.length + 0; omega, by show 1 + _ = L.length + 0; omega⟩
      split at h'
      · rename_i p; have hl := (phs_t p).2
        obtain ⟨c1, c2, c3, c4, c5⟩ := ih 5 w _ L.tail e M h' (by omega) hw (Lok_tl hL) (fun z => by omega) (fun z => by omega) (fun _ => ⟨_, rfl, o3 p⟩)
        simp [zhei, zlen] at c4 c5 ⊢
        exact ⟨c1, c2, c3, by omega, by omega⟩
      split at h'
      · rename_i p; have hl := (pis_t p).2.2.2
        split at h'
        · rename_i p2; have hl2 := (phs_t p2).2; cases h'
          exact ⟨Lok_tl (Lok_tl hL), (Lok_hd (Lok_tl hL)).2.1 p2, by show 0 + w ≤ 8; omega, by show 1 + _ ≤ L.length + 0; omega, by show 2 + _ = L.length + 0; omega⟩
        · cases h'
      split at h'
      · rename_i p; have hl := (pis_t p).2.2.2
        split at h'
        · cases h'
        · rename_i w8
          obtain ⟨e1, M1, b1, b2⟩ := pBnd_inr h'
          cases b2
          obtain ⟨c1, c2, c3, c4, c5⟩ := ih 4 (w + 1) _ L.tail e1 M b1 (by omega) (by omega) (Lok_tl hL) (fun z => by omega) (fun z => by omega) (fun z => by omega)
          simp [zhei, zlen] at c4 c5
          refine ⟨c1, c2, by show zdp e1 + 1 + w ≤ 8; omega, ?_, ?_⟩
          · show max (zht e1) 0 + 1 + _ ≤ L.length + 0; omega
          · rw [(zk_minus e1).1, List.length_cons]; simp [zlen]; omega
      split at h'
      · rename_i p; have hl := (pis_t p).2.2.2
        split at h'
        · cases h'
        · rename_i w8
          obtain ⟨e1, M1, b1, b2⟩ := pBnd_inr h'
          obtain ⟨c1, c2, c3, c4, c5⟩ := ih 0 (w + 1) _ L.tail e1 M1 b1 (by omega) (by omega) (Lok_tl hL) (fun z => by omega) (fun z => by omega) (fun z => by omega)
          simp [zhei, zlen] at c4 c5
          have b2' : (if pis 7 60 M1 || pis 7 61 M1 then pBnd (pX f 0 (w + 1) (zL 0) M1.tail) fun e2 M2 => pex 41 (zB (pw M1) e1 e2) M2 else pex 41 (zB 40 e1 (zL 0)) M1) = some (.inr (e, M)) := b2
          split at b2'
          · rename_i p2
            have hk : pw M1 = 60 ∨ pw M1 = 61 := by
              rcases Bool.or_eq_true _ _ ▸ p2 with z | z
              · exact Or.inl (pis_t z).2.2.1
              · exact Or.inr (pis_t z).2.2.1
            have hl2 : M1.length = M1.tail.length + 1 := by
              rcases Bool.or_eq_true _ _ ▸ p2 with z | z <;> exact (pis_t z).2.2.2
            obtain ⟨e2, M2, u1, u2⟩ := pBnd_inr b2'
            obtain ⟨v1, v2, v3⟩ := pex_inr u2
            subst v1; subst v2
            obtain ⟨d1, d2, d3, d4, d5⟩ := ih 0 (w + 1) _ M1.tail e2 M2 u1 (by omega) (by omega) (Lok_tl c1) (fun z => by omega) (fun z => by omega) (fun z => by omega)
            simp [zhei, zlen] at d4 d5
            refine ⟨Lok_tl d1, ?_, ?_, ?_, ?_⟩
            · rcases hk with z | z <;> rw [z] <;> exact ⟨c2, d2⟩
            · have : zdp (zB (pw M1) e1 e2) = max (zdp e1) (zdp e2) + 1 := by rcases hk with z | z <;> rw [z] <;> rfl
              omega
            · show max (zht e1) (zht e2) + 1 + _ ≤ L.length + 0; omega
            · rw [(zk_cmp hk).1]; simp [zlen]; omega
          · obtain ⟨v1, v2, v3⟩ := pex_inr b2'
            subst v1; subst v2
            refine ⟨Lok_tl c1, c2, by show zdp e1 + 1 + w ≤ 8; omega, ?_, ?_⟩
            · show max (zht e1) 0 + 1 + _ ≤ L.length + 0; omega
            · rw [(zk_paren e1).1]; simp [zlen]; omega
      · cases h'
    · have h' : (if pis 7 91 L then (if w = 8 then pno 2 L else pBnd (pX f 0 (w + 1) (zL 0) L.tail) fun e M => pex 93 (zB 3 acc e) M) else pno 1 L) = some (.inr (e, M)) := h
      split at h'
      · rename_i p; have hl := (pis_t p).2.2.2
        split at h'
        · cases h'
        · rename_i w8
          obtain ⟨e1, M1, b1, b2⟩ := pBnd_inr h'
          obtain ⟨c1, c2, c3, c4, c5⟩ := ih 0 (w + 1) _ L.tail e1 M1 b1 (by omega) (by omega) (Lok_tl hL) (fun z => by omega) (fun z => by omega) (fun z => by omega)
          simp [zhei, zlen] at c4 c5
          obtain ⟨x, x1, x2⟩ := a5 rfl
          clear a1 a3 a5
          obtain ⟨v1, v2, v3⟩ := pex_inr b2
          subst v1; subst v2; subst x1
          refine ⟨Lok_tl c1, ⟨x2, c2⟩, by show zdp e1 + 1 + w ≤ 8; omega, ?_, ?_⟩
          · show max 0 (zht e1) + 1 + _ ≤ L.length + 0; omega
          · show ((3, x) :: (7, 91) :: (zk e1 ++ [(7, 93)])).length + _ = L.length + 1
            simp; omega
      · cases h'
def zil : zT → Bool
  | .leaf _ => true
  | .branch _ _ _ => false
/-- leaves where they belong -/
def zlf : zT → Prop
  | .leaf _ => True
  | .branch k l r =>
    if k = 1 ∨ k = 2 ∨ k = 35 then zil l = true ∧ zil r = true
    else if k = 3 then zil l = true ∧ zlf r
    else if k = 8 ∨ k = 40 then zlf l ∧ zil r = true
    else zlf l ∧ zlf r
theorem zlf_two {k : Nat} {l r : zT} (hk : k = 60 ∨ k = 61 ∨ zsum k = true ∨ zpro k = true) (h1 : zlf l) (h2 : zlf r) : zlf (zB k l r) := by
  have h : k = 60 ∨ k = 61 ∨ k = 43 ∨ k = 45 ∨ k = 94 ∨ k = 124 ∨ k = 42 ∨ k = 47 ∨ k = 37 ∨ k = 38 := by
    rcases hk with q | q | q | q
    · omega
    · omega
    · have := zsum_k q; omega
    · have := zpro_k q; omega
  rcases h with q | q | q | q | q | q | q | q | q | q <;> subst q <;> exact ⟨h1, h2⟩
theorem plE (f : Nat) : ∀ (m w : Nat) (acc : zT) (L : List zTk) (e : zT) (M : List zTk), pX f m w acc L = some (.inr (e, M)) → m ≤ 5 → (m = 1 ∨ m = 3 → zlf acc) → (m = 5 → zil acc = true) → zlf e := by
  induction f with
  | zero => intro m w acc L e M h; cases h
  | succ f ih =>
    intro m w acc L e M h hm a1 a5
    have hcases : m = 0 ∨ m = 1 ∨ m = 2 ∨ m = 3 ∨ m = 4 ∨ m = 5 := by omega
    rcases hcases with q | q | q | q | q | q <;> subst q
    · obtain ⟨e1, M1, b1, b2⟩ := pBnd_inr (show pBnd (pX f 2 w (zL 0) L) (fun e M => pX f 1 w e M) = _ from h)
      exact ih 1 w e1 M1 e M b2 (by omega) (fun _ => ih 2 w _ L e1 M1 b1 (by omega) (fun z => by omega) (fun z => by omega)) (fun z => by omega)
    · have h' : (if pSum L then pBnd (pX f 2 w (zL 0) L.tail) fun e M => pX f 1 w (zB (pw L) acc e) M else some (.inr (acc, L))) = some (.inr (e, M)) := h
      split at h'
      · rename_i hp
        have hs2 : phs 7 L = true ∧ zsum (pw L) = true := by simpa [pSum] using hp
        obtain ⟨e1, M1, b1, b2⟩ := pBnd_inr h'
        exact ih 1 w _ M1 e M b2 (by omega) (fun _ => zlf_two (Or.inr (Or.inr (Or.inl hs2.2))) (a1 (Or.inl rfl)) (ih 2 w _ _ e1 M1 b1 (by omega) (fun z => by omega) (fun z => by omega))) (fun z => by omega)
      · cases h'; exact a1 (Or.inl rfl)
    · obtain ⟨e1, M1, b1, b2⟩ := pBnd_inr (show pBnd (pX f 4 w (zL 0) L) (fun e M => pX f 3 w e M) = _ from h)
      exact ih 3 w e1 M1 e M b2 (by omega) (fun _ => ih 4 w _ L e1 M1 b1 (by omega) (fun z => by omega) (fun z => by omega)) (fun z => by omega)
    · have h' : (if pPro L then pBnd (pX f 4 w (zL 0) L.tail) fun e M => pX f 3 w (zB (pw L) acc e) M else some (.inr (acc, L))) = some (.inr (e, M)) := h
      split at h'
      · rename_i hp
        have hs2 : phs 7 L = true ∧ zpro (pw L) = true := by simpa [pPro] using hp
        obtain ⟨e1, M1, b1, b2⟩ := pBnd_inr h'
        exact ih 3 w _ M1 e M b2 (by omega) (fun _ => zlf_two (Or.inr (Or.inr (Or.inr hs2.2))) (a1 (Or.inr rfl)) (ih 4 w _ _ e1 M1 b1 (by omega) (fun z => by omega) (fun z => by omega))) (fun z => by omega)
      · cases h'; exact a1 (Or.inr rfl)
    · have h' : (if phs 2 L then some (.inr (zNum (pw L), L.tail))
          else if phs 1 L then some (.inr (zNam (pw L), L.tail))
          else if phs 3 L then pX f 5 w (zL (pw L)) L.tail
          else if pis 7 35 L then (if phs 3 L.tail then some (.inr (zB 35 (zL (pw L.tail)) (zL 0), L.tail.tail)) else pno 1 L.tail)
          else if pis 7 45 L then (if w = 8 then pno 2 L else pBnd (pX f 4 (w + 1) (zL 0) L.tail) fun e M => some (.inr (zB 8 e (zL 0), M)))
          else if pis 7 40 L then (if w = 8 then pno 2 L else pBnd (pX f 0 (w + 1) (zL 0) L.tail) fun e M =>
            if pis 7 60 M || pis 7 61 M then pBnd (pX f 0 (w + 1) (zL 0) M.tail) fun e2 M2 => pex 41 (zB (pw M) e e2) M2
            else pex 41 (zB 40 e (zL 0)) M)
          else pno 1 L) = some (.inr (e, M)) := h
      split at h'
      · cases h'; exact ⟨rfl, rfl⟩
      split at h'
      · cases h'; exact ⟨rfl, rfl⟩
      split at h'
      · exact ih 5 w _ _ e M h' (by omega) (fun z => by omega) (fun _ => rfl)
      split at h'
      · split at h'
        · cases h'; exact ⟨rfl, rfl⟩
        · cases h'
      split at h'
      · split at h'
        · cases h'
        · obtain ⟨e1, M1, b1, b2⟩ := pBnd_inr h'
          cases b2
          exact ⟨ih 4 _ _ _ e1 _ b1 (by omega) (fun z => by omega) (fun z => by omega), rfl⟩
      split at h'
      · split at h'
        · cases h'
        · obtain ⟨e1, M1, b1, b2⟩ := pBnd_inr h'
          have i1 := ih 0 _ _ _ e1 M1 b1 (by omega) (fun z => by omega) (fun z => by omega)
          have b2' : (if pis 7 60 M1 || pis 7 61 M1 then pBnd (pX f 0 (w + 1) (zL 0) M1.tail) fun e2 M2 => pex 41 (zB (pw M1) e1 e2) M2 else pex 41 (zB 40 e1 (zL 0)) M1) = some (.inr (e, M)) := b2
          split at b2'
          · rename_i p2
            have hk : pw M1 = 60 ∨ pw M1 = 61 := by
              rcases Bool.or_eq_true _ _ ▸ p2 with z | z
              · exact Or.inl (pis_t z).2.2.1
              · exact Or.inr (pis_t z).2.2.1
            obtain ⟨e2, M2, u1, u2⟩ := pBnd_inr b2'
            obtain ⟨v1, v2, v3⟩ := pex_inr u2
            subst v1
            exact zlf_two (by omega) i1 (ih 0 _ _ _ e2 M2 u1 (by omega) (fun z => by omega) (fun z => by omega))
          · obtain ⟨v1, v2, v3⟩ := pex_inr b2'
            subst v1
            exact ⟨i1, rfl⟩
      · cases h'
    · have h' : (if pis 7 91 L then (if w = 8 then pno 2 L else pBnd (pX f 0 (w + 1) (zL 0) L.tail) fun e M => pex 93 (zB 3 acc e) M) else pno 1 L) = some (.inr (e, M)) := h
      split at h'
      · split at h'
        · cases h'
        · obtain ⟨e1, M1, b1, b2⟩ := pBnd_inr h'
          obtain ⟨v1, v2, v3⟩ := pex_inr b2
          subst v1
          exact ⟨a5 rfl, ih 0 _ _ _ e1 M1 b1 (by omega) (fun z => by omega) (fun z => by omega)⟩
      · cases h'
theorem pE_good {L M : List zTk} {e : zT} (hL : Lok L) (h : pE L = .inr (e, M)) : Lok M ∧ zok e 0 ∧ (zdp e ≤ 9 ∧ zlf e) ∧ zht e + M.length ≤ L.length ∧ (zk e).length + M.length = L.length := by
  obtain ⟨c1, c2, c3, c4, c5⟩ := pkE _ 0 0 (zL 0) L e M (by rw [(pE_eq L).1, h]) (by omega) (by omega) hL (fun z => by omega) (fun z => by omega) (fun z => by omega)
  exact ⟨c1, c2, ⟨by omega, plE _ 0 0 (zL 0) L e M (by rw [(pE_eq L).1, h]) (by omega) (fun z => by omega) (fun z => by omega)⟩, c4, c5⟩
