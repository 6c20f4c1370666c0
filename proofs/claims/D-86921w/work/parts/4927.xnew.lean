/-! new rows -/
theorem php : ∀ (n : Nat) (f : Nat → Nat), (∀ i, i ≤ n → f i < n) → ∃ i j, i < j ∧ j ≤ n ∧ f i = f j := by
  intro n
  induction n with
  | zero => intro f h; exact absurd (h 0 (Nat.le_refl _)) (Nat.not_lt_zero _)
  | succ n ih =>
    intro f h
    by_cases q : ∃ i, i ≤ n ∧ f i = f (n + 1)
    · obtain ⟨i, i1, i2⟩ := q
      exact ⟨i, n + 1, by omega, Nat.le_refl _, i2⟩
    · have nq : ∀ i, i ≤ n → f i ≠ f (n + 1) := fun i hi e => q ⟨i, hi, e⟩
      obtain ⟨i, j, i1, i2, i3⟩ := ih (fun i => if f i = n then f (n + 1) else f i) (fun i hi => by
        have a := h i (by omega)
        have b := h (n + 1) (Nat.le_refl _)
        have c := nq i hi
        show (if f i = n then f (n + 1) else f i) < n
        split <;> omega)
      have i3' : (if f i = n then f (n + 1) else f i) = (if f j = n then f (n + 1) else f j) := i3
      have a := nq i (by omega)
      have b := nq j i2
      refine ⟨i, j, i1, by omega, ?_⟩
      split at i3' <;> split at i3' <;> omega
def usd (σ : zS) (id : Nat) : Bool := (List.range 14).any fun k => σ 2 k == (id : Nat)
/-- the first id that nothing is -/
def nidF (σ : zS) : Nat → Nat → Nat
  | 0, id => id
  | n + 1, id => if usd σ id = true then nidF σ n (id + 1) else id
def nid (σ : zS) : Nat := nidF σ 14 0
theorem usd_t {σ : zS} {id : Nat} : usd σ id = true ↔ ∃ k, k < 14 ∧ σ 2 k = (id : Nat) := by
  unfold usd
  simp
theorem nidF_sp {σ : zS} : ∀ (n id : Nat), (∀ j, j < id → usd σ j = true) → (usd σ (nidF σ n id) = false ∨ nidF σ n id = id + n) ∧ (∀ j, j < nidF σ n id → usd σ j = true) ∧ nidF σ n id ≤ id + n := by
  intro n
  induction n with
  | zero => intro id h; exact ⟨Or.inr rfl, h, Nat.le_refl _⟩
  | succ n ih =>
    intro id h
    unfold nidF
    by_cases q : usd σ id = true
    · rw [if_pos q]
      obtain ⟨a, b, c⟩ := ih (id + 1) (fun j hj => by
        by_cases e : j = id
        · rw [e]; exact q
        · exact h j (by omega))
      exact ⟨a.imp (fun z => z) (fun z => by omega), b, by omega⟩
    · rw [if_neg q]
      exact ⟨Or.inl (Bool.eq_false_iff.mpr q), h, by omega⟩
theorem nid_ok {σ : zS} {k0 : Nat} (hk : k0 < 14) (h0 : σ 2 k0 < 0) : nid σ < 14 ∧ (∀ k, k < 14 → σ 2 k ≠ (nid σ : Nat)) ∧ ∀ j, j < nid σ → ∃ k, k < 14 ∧ σ 2 k = (j : Nat) := by
  obtain ⟨a, b, c⟩ := nidF_sp (σ := σ) 14 0 (fun j hj => absurd hj (Nat.not_lt_zero _))
  have hb : ∀ j, j < nid σ → ∃ k, k < 14 ∧ σ 2 k = (j : Nat) := fun j hj => usd_t.mp (b j hj)
  have lt : nid σ < 14 := by
    by_cases q : nid σ < 14
    · exact q
    · exfalso
      have hall : ∀ j, ∃ k, j ≤ 13 → k < 14 ∧ σ 2 k = (j : Nat) := by
        intro j
        by_cases z : j ≤ 13
        · obtain ⟨k, k1, k2⟩ := hb j (by omega)
          exact ⟨k, fun _ => ⟨k1, k2⟩⟩
        · exact ⟨0, fun y => absurd y z⟩
      have hf : ∃ f : Nat → Nat, ∀ j, j ≤ 13 → f j < 14 ∧ σ 2 (f j) = (j : Nat) := ⟨fun j => Classical.choose (hall j), fun j => Classical.choose_spec (hall j)⟩
      obtain ⟨f, hf⟩ := hf
      obtain ⟨i, j, i1, i2, i3⟩ := php 13 (fun j => if f j < k0 then f j else f j - 1) (fun i hi => by
        have := (hf i hi).1
        have ne : f i ≠ k0 := fun e => by have := (hf i hi).2; rw [e] at this; omega
        show (if f i < k0 then f i else f i - 1) < 13
        split <;> omega)
      have i3' : (if f i < k0 then f i else f i - 1) = (if f j < k0 then f j else f j - 1) := i3
      have ni := (hf i (by omega)).2
      have nj := (hf j i2).2
      have ei : f i ≠ k0 := fun e => by rw [e] at ni; omega
      have ej : f j ≠ k0 := fun e => by rw [e] at nj; omega
      have ef : f i = f j := by split at i3' <;> split at i3' <;> omega
      rw [ef, nj] at ni
      omega
  refine ⟨lt, fun k hk e => ?_, hb⟩
  rcases a with z | z
  · have : usd σ (nid σ) = true := usd_t.mpr ⟨k, hk, e⟩
    have z' : usd σ (nid σ) = false := z
    rw [z'] at this; cases this
  · have z' : nid σ = 0 + 14 := z
    omega
/-- row k becomes a new row id of n items of a kind -/
def sNR (σ : zS) (k id : Nat) (kd : Int) (n : Nat) : zS := fun g j => if g = 2 ∧ j = k then (id : Nat) else if g = 3 ∧ j = id then kd else if g = 4 ∧ j = id then (n : Nat) else if g = 5 ∧ 12 * id ≤ j ∧ j < 12 * id + 12 then 0 else σ g j
theorem sNR_2 {σ : zS} {k id n : Nat} {kd : Int} : sNR σ k id kd n 2 k = (id : Nat) := by unfold sNR; rw [if_pos ⟨rfl, rfl⟩]
theorem sNR_2n {σ : zS} {k id n j : Nat} {kd : Int} (h : j ≠ k) : sNR σ k id kd n 2 j = σ 2 j := by
  unfold sNR
  rw [if_neg (fun z => h z.2), if_neg (fun z => absurd z.1 (by decide)), if_neg (fun z => absurd z.1 (by decide)), if_neg (fun z => absurd z.1 (by decide))]
theorem sNR_o {σ : zS} {k id n f j : Nat} {kd : Int} (h : f = 0 ∨ f = 1 ∨ f = 6 ∨ f = 7) : sNR σ k id kd n f j = σ f j := by
  unfold sNR
  rw [if_neg (fun z => by omega), if_neg (fun z => by omega), if_neg (fun z => by omega), if_neg (fun z => by omega)]
theorem sNR_id {σ : zS} {k id n : Nat} {kd : Int} : sNR σ k id kd n 3 id = kd ∧ sNR σ k id kd n 4 id = (n : Nat) ∧ ∀ i, i < 12 → sNR σ k id kd n 5 (12 * id + i) = 0 := by
  unfold sNR
  refine ⟨by rw [if_neg (fun z => absurd z.1 (by decide)), if_pos ⟨rfl, rfl⟩], by rw [if_neg (fun z => absurd z.1 (by decide)), if_neg (fun z => absurd z.1 (by decide)), if_pos ⟨rfl, rfl⟩], fun i hi => ?_⟩
  rw [if_neg (fun z => absurd z.1 (by decide)), if_neg (fun z => absurd z.1 (by decide)), if_neg (fun z => absurd z.1 (by decide)), if_pos ⟨rfl, by omega, by omega⟩]
theorem sNR_x {σ : zS} {k id n j : Nat} {kd : Int} (h : j ≠ id) : sNR σ k id kd n 3 j = σ 3 j ∧ sNR σ k id kd n 4 j = σ 4 j ∧ ∀ i, i < 12 → sNR σ k id kd n 5 (12 * j + i) = σ 5 (12 * j + i) := by
  unfold sNR
  refine ⟨by rw [if_neg (fun z => absurd z.1 (by decide)), if_neg (fun z => h z.2), if_neg (fun z => absurd z.1 (by decide)), if_neg (fun z => absurd z.1 (by decide))], by rw [if_neg (fun z => absurd z.1 (by decide)), if_neg (fun z => absurd z.1 (by decide)), if_neg (fun z => h z.2), if_neg (fun z => absurd z.1 (by decide))], fun i hi => ?_⟩
  rw [if_neg (fun z => absurd z.1 (by decide)), if_neg (fun z => absurd z.1 (by decide)), if_neg (fun z => absurd z.1 (by decide)), if_neg (fun z => by omega)]
theorem c_make {d k n : Nat} {Q : qt} {h : hp} {kd : Int} (hS : St h) (hk : k < 14) (h0 : 0 ≤ kd) (h4 : kd ≤ 4) (hn : n ≤ 12) (hb : hU h + 25 ≤ BUD) (kk : Q (.inl none) (sR (hNew h (kt kd) n n) (102 + k) 0 (some (hN h)))) : Wc (d + 1) 106 [vR (some (102 + k)), vI kd, vI (n : Nat)] h Q := by
  have h145 := hS.1
  have ht := ho_t hS hk
  have hm : ∀ K, (hT (hNew h K n n) (102 + k)).1 ∈ [3] := fun K => by rw [hT_new (by omega), ht]; simp
  refine se_X3_make hS ht ?_
  rw [Int.toNat_natCast]
  have : kd = 0 ∨ kd = 1 ∨ kd = 2 ∨ kd = 3 ∨ kd = 4 := by omega
  rcases this with e | e | e | e | e <;> subst e
  · exact ip rfl (im (by omega) ⟨by omega, hm _, kk⟩)
  · exact im (by decide) (ip rfl (im (by omega) ⟨by omega, hm _, kk⟩))
  · exact im (by decide) (im (by decide) (ip rfl (im (by omega) ⟨by omega, hm _, kk⟩)))
  · exact im (by decide) (im (by decide) (im (by decide) (ip rfl (im (by omega) ⟨by omega, hm _, kk⟩))))
  · exact im (by decide) (im (by decide) (im (by decide) (im (by decide) (im (by omega) ⟨by omega, hm _, kk⟩))))
def rn (ρ : Nat → Nat) (i a : Nat) : Nat → Nat := fun id => if id = i then a else ρ id
theorem rn_at {ρ : Nat → Nat} {i a : Nat} : rn ρ i a i = a := if_pos rfl
theorem rn_ne {ρ : Nat → Nat} {i a j : Nat} (h : j ≠ i) : rn ρ i a j = ρ j := if_neg h
theorem XRw_new {h : hp} {σ : zS} {ρ : Nat → Nat} {k n : Nat} {kd : Int} (hS : St h) (hk : k < 14) (h0 : 0 ≤ kd) (h4 : kd ≤ 4) (hn : n ≤ 12) (hd : nid σ < 14) (hu : ∀ j, j < 14 → j ≠ k → σ 2 j ≠ (nid σ : Nat)) (z : XRw h σ ρ) : XRw (sR (hNew h (kt kd) n n) (102 + k) 0 (some (hN h))) (sNR σ k (nid σ) kd n) (rn ρ (nid σ) (hN h)) := by
  have h145 := hS.1
  have old : ∀ j id : Nat, j < 14 → j ≠ k → σ 2 j = (id : Nat) → id ≠ nid σ := fun j id hj hjk e q => hu j hj hjk (by rw [e, q])
  have hlt : ∀ j id : Nat, j < 14 → σ 2 j = (id : Nat) → ρ id < hN h := by
    intro j id hj e
    rcases z.1 j hj with ⟨y, -⟩ | ⟨id', y1, y2, y3, y4⟩
    · omega
    · have : id = id' := by omega
      subst this
      exact y4.2.1
  refine ⟨fun j hj => ?_, fun j j' id id' hj hj' q q' e => ?_⟩
  · by_cases jk : j = k
    · subst jk
      refine Or.inr ⟨nid σ, hd, sNR_2, by rw [hR_sR, if_pos ⟨rfl, rfl⟩, rn_at], ?_⟩
      rw [rn_at]
      obtain ⟨s3, s4, s5⟩ := sNR_id (σ := σ) (k := j) (id := nid σ) (kd := kd) (n := n)
      refine ⟨h145, by show hN h < hN h + 1; omega, by rw [s3]; exact h0, by rw [s3]; exact h4, ⟨n, hn, s4, by rw [s3, hT_sR]; exact hT_newa rfl⟩, fun i hi => ?_⟩
      rw [s4] at hi
      rw [s5 i (by omega)]
      unfold elem
      split
      · rw [hL_sR]; exact hL_newa rfl
      · rw [hI_sR]; exact hI_newa rfl
    · rw [hR_sR, if_neg (by omega), hR_new (by omega), sNR_2n jk]
      rcases z.1 j hj with y | ⟨id, y1, y2, y3, y4⟩
      · exact Or.inl y
      · have ne := old j id hj jk y2
        refine Or.inr ⟨id, y1, y2, by rw [rn_ne ne]; exact y3, ?_⟩
        rw [rn_ne ne]
        obtain ⟨s3, s4, s5⟩ := sNR_x (σ := σ) (k := k) (kd := kd) (n := n) ne
        obtain ⟨z1, z2, z3, z4, ⟨n', z5, z6, z7⟩, z8⟩ := y4
        refine ⟨z1, by show ρ id < hN h + 1; omega, by rw [s3]; exact z3, by rw [s3]; exact z4, ⟨n', z5, by rw [s4]; exact z6, by rw [s3, hT_sR, hT_new (by omega)]; exact z7⟩, fun i hi => ?_⟩
        rw [s4] at hi
        rw [s3, s5 i (by omega), ← z8 i hi]
        unfold elem
        rw [hL_sR, hI_sR, hL_new (by omega), hI_new (by omega)]
  · have e' : rn ρ (nid σ) (hN h) id = rn ρ (nid σ) (hN h) id' := e
    have cs : ∀ j id : Nat, j < 14 → sNR σ k (nid σ) kd n 2 j = (id : Nat) → (j = k ∧ id = nid σ) ∨ (j ≠ k ∧ σ 2 j = (id : Nat) ∧ id ≠ nid σ) := by
      intro j id hj q
      by_cases jk : j = k
      · subst jk; rw [sNR_2] at q; exact Or.inl ⟨rfl, by omega⟩
      · rw [sNR_2n jk] at q; exact Or.inr ⟨jk, q, old j id hj jk q⟩
    rcases cs j id hj q with ⟨-, e1⟩ | ⟨-, e1, n1⟩ <;> rcases cs j' id' hj' q' with ⟨-, e2⟩ | ⟨-, e2, n2⟩
    · omega
    · rw [e1, rn_at, rn_ne n2] at e'
      have := hlt j' id' hj' e2; omega
    · rw [rn_ne n1, e2, rn_at] at e'
      have := hlt j id hj e1; omega
    · rw [rn_ne n1, rn_ne n2] at e'
      exact z.2 j j' id id' hj hj' e1 e2 e'
theorem XZ_new {h : hp} {σ : zS} {ρ : Nat → Nat} {k n : Nat} {kd : Int} (hS : St h) (hk : k < 14) (h0 : 0 ≤ kd) (h4 : kd ≤ 4) (hn : n ≤ 12) (hd : nid σ < 14) (hu : ∀ j, j < 14 → j ≠ k → σ 2 j ≠ (nid σ : Nat)) (z : XZ h σ ρ) : XZ (sR (hNew h (kt kd) n n) (102 + k) 0 (some (hN h))) (sNR σ k (nid σ) kd n) (rn ρ (nid σ) (hN h)) := by
  have h145 := hS.1
  obtain ⟨⟨a, b⟩, c, d⟩ := z
  refine ⟨⟨fun j hj => ?_, XRw_new hS hk h0 h4 hn hd hu b⟩, fun s hs => ?_, fun j hj => ?_⟩
  · rw [hI_sR, hI_new (by omega), hI_new (by omega), sNR_o (Or.inl rfl), sNR_o (Or.inr (Or.inl rfl))]; exact a j hj
  · rw [hI_sR, hI_new (by omega), sNR_o (by omega)]; exact c s hs
  · rw [hI_sR, hI_new (by omega), sNR_o (by omega)]; exact d j hj
theorem XZ_gone {h : hp} {σ : zS} {ρ : Nat → Nat} {k : Nat} (z : XZ h σ ρ) : XZ (sR h (102 + k) 0 none) (su σ 2 k (-1)) ρ := by
  obtain ⟨⟨a, b, c⟩, d, e⟩ := z
  refine ⟨⟨a, fun j hj => ?_, fun j j' id id' hj hj' q q' => ?_⟩, d, e⟩
  · by_cases jk : j = k
    · subst jk; exact Or.inl ⟨su_at, by rw [hR_sR, if_pos ⟨rfl, rfl⟩]⟩
    · rw [hR_sR, if_neg (by omega), su_k jk]
      exact b j hj
  · have f : ∀ j id : Nat, su σ 2 k (-1) 2 j = (id : Nat) → σ 2 j = (id : Nat) := by
      intro j id q
      by_cases jk : j = k
      · subst jk; rw [su_at] at q; omega
      · rw [su_k jk] at q; exact q
    exact c j j' id id' hj hj' (f j id q) (f j' id' q')
