/-! m RECKONS -/
def MV (h : hp) (σ : zS) : Prop :=
  (∃ th : Nat, th < 2 ^ 26 ∧ hI h 116 35 = (th : Nat) ∧ ∀ k, k < 26 → σ 0 k = bI (th.testBit k))
  ∧ (∀ k, k < 26 → σ 0 k = 1 → hI h 134 k = σ 1 k)
  ∧ (∀ k, k < 14 → hI h 135 k = σ 2 k ∧ -1 ≤ σ 2 k ∧ σ 2 k < 14)
  ∧ (∀ id, id < 16 → hI h 136 id = σ 3 id ∧ hI h 137 id = σ 4 id ∧ 0 ≤ σ 4 id ∧ σ 4 id ≤ 12)
  ∧ (∀ j, j < 192 → hL h 138 j = σ 5 j)
  ∧ (∀ s, s < 4 → hI h 139 s = σ 6 s)
  ∧ (∀ j, j < 120 → hI h 140 j = σ 7 j)
theorem MV_FI {h h' : hp} {σ : zS} {mj as : List Nat} (f : FI [] mj as h h') (h35 : mj.contains 35 = false) (ha : (as.contains 116 || (as.contains 134 || (as.contains 135 || (as.contains 136 || (as.contains 137 || (as.contains 139 || as.contains 140)))))) = false) (k : MV h σ) : MV h' σ := by
  simp only [Bool.or_eq_false_iff] at ha
  obtain ⟨b0, b1, b2, b3, b4, b5, b6⟩ := ha
  obtain ⟨⟨th, a1, a2, a3⟩, c1, c2, c3, c4, c5, c6⟩ := k
  have e : ∀ a j, a ≠ 116 → as.contains a = false → a ≠ 68 → hI h' a j = hI h a j := fun a j x1 x2 x3 => FI_i f (by unfold pG; rw [x2]; simp; omega)
  refine ⟨⟨th, a1, by rw [FI_i f (by unfold pG; rw [h35, b0]; rfl)]; exact a2, a3⟩, fun k hk q => by rw [e 134 k (by decide) b1 (by decide)]; exact c1 k hk q, fun k hk => by rw [e 135 k (by decide) b2 (by decide)]; exact c2 k hk, fun id hi => by rw [e 136 id (by decide) b3 (by decide), e 137 id (by decide) b4 (by decide)]; exact c3 id hi, fun j hj => by rw [f.2.2.2.1]; exact c4 j hj, fun s hs => by rw [e 139 s (by decide) b5 (by decide)]; exact c5 s hs, fun j hj => by rw [e 140 j (by decide) b6 (by decide)]; exact c6 j hj⟩
def MB (h : hp) (bi : Nat → Nat → Bool) : Prop := ∀ id i : Nat, bi id i = decide (hI h 116 49 = (id : Nat) ∧ hI h 116 50 = (i : Nat))
abbrev bn0 : Nat → Bool := fun _ => false
abbrev bi0 : Nat → Nat → Bool := fun _ _ => false
/-- the items of row id that are read, as bits -/
def evS (σ : zS) : zT → Nat → Nat
  | .leaf _, _ => 0
  | .branch k l r, id =>
    if k = 1 ∨ k = 2 ∨ k = 35 then 0
    else if k = 3 then evS σ r id ||| (match ev σ bn0 bi0 r with
      | .inl _ => 0
      | .inr i => if σ 2 (zn l) = (id : Nat) then 2 ^ i.toNat else 0)
    else if k = 8 ∨ k = 40 then evS σ l id
    else evS σ l id ||| evS σ r id
theorem ev_un {σ : zS} {bn : Nat → Bool} {bi : Nat → Nat → Bool} : ∀ (e : zT) (v : Int), ev σ bn bi e = .inr v → ev σ bn0 bi0 e = .inr v := by
  intro e
  induction e with
  | leaf n => intro v h; cases h
  | branch k l r ihl ihr =>
    intro v h
    unfold ev at h ⊢
    by_cases k2 : k = 2
    · rw [if_pos k2] at h ⊢; exact h
    rw [if_neg k2] at h ⊢
    by_cases k1 : k = 1
    · rw [if_pos k1] at h ⊢
      split at h
      · cases h
      · rename_i q
        split at h
        · cases h
        · rw [if_neg q, if_neg Bool.false_ne_true]; exact h
    rw [if_neg k1] at h ⊢
    by_cases k35 : k = 35
    · rw [if_pos k35] at h ⊢; exact h
    rw [if_neg k35] at h ⊢
    by_cases k3 : k = 3
    · rw [if_pos k3] at h ⊢
      cases he : ev σ bn bi r with
      | inl w => rw [he] at h; cases h
      | inr i =>
        rw [he] at h
        rw [ihr i he]
        dsimp only at h ⊢
        split at h
        · cases h
        · rename_i q1
          rw [if_neg q1]
          split at h
          · cases h
          · rename_i q2
            rw [if_neg q2]
            split at h
            · cases h
            · rw [if_neg Bool.false_ne_true]; exact h
    rw [if_neg k3] at h ⊢
    by_cases k8 : k = 8
    · rw [if_pos k8] at h ⊢
      cases he : ev σ bn bi l with
      | inl w => rw [he] at h; cases h
      | inr i => rw [he] at h; rw [ihl i he]; exact h
    rw [if_neg k8] at h ⊢
    by_cases k40 : k = 40
    · rw [if_pos k40] at h ⊢; exact ihl v h
    rw [if_neg k40] at h ⊢
    cases he : ev σ bn bi l with
    | inl w => rw [he] at h; cases h
    | inr i =>
      rw [he] at h
      rw [ihl i he]
      dsimp only at h ⊢
      cases he2 : ev σ bn bi r with
      | inl w => rw [he2] at h; cases h
      | inr j => rw [he2] at h; rw [ihr j he2]; exact h
/-- where m is in its tokens, what it has seen -/
def Es (h : hp) (r p ns : Nat) (is : Nat → Nat) : Prop := hI h 116 45 = (r : Nat) ∧ hI h 116 44 = (p : Nat) ∧ hI h 116 46 = 0 ∧ ns < 2 ^ 26 ∧ hI h 116 47 = (ns : Nat) ∧ ∀ id, id < 16 → is id < 2 ^ 12 ∧ hI h 141 id = (is id : Nat)
abbrev Fve (h h' : hp) : Prop := FI [] [44, 46, 47] [141] h h'
/-- the answer of m's reckoning -/
def EmQ (h0 : hp) (σ : zS) (r p ns : Nat) (is : Nat → Nat) (e : zT) (v : Nat ⊕ Int) (K : Int → hp → Prop) (F : Int → hp → Prop) : Prop := match v with
  | .inl w => ∀ h' x, Fve h0 h' → hI h' 116 46 = (w : Nat) → w ≠ 0 → F x h'
  | .inr y => ∀ h', Fve h0 h' → Es h' r (p + (zk e).length) (ns ||| zbits e) (fun id => is id ||| evS σ e id) → K y h'
theorem Es_p {h : hp} {r p ns q : Nat} {is : Nat → Nat} (k : Es h r p ns is) : Es (sI h 116 44 (q : Nat)) r q ns is := by
  obtain ⟨a1, a2, a3, a4, a5, a6⟩ := k
  refine ⟨by rw [hI_sI, if_neg (by omega)]; exact a1, by rw [hI_sI, if_pos ⟨rfl, rfl⟩], by rw [hI_sI, if_neg (by omega)]; exact a3, a4, by rw [hI_sI, if_neg (by omega)]; exact a5, fun id hi => ⟨(a6 id hi).1, by rw [hI_sI, if_neg (by omega)]; exact (a6 id hi).2⟩⟩
theorem RK_Fve {h h' : hp} {r : Nat} {ts : List (Nat × Nat)} (f : Fve h h') (k : RK h r ts) : RK h' r ts := RK_eq (fun j => FI_i f rfl) (fun j => FI_i f rfl) (fun j => FI_i f rfl) k
theorem MB_Fve {h h' : hp} {bi : Nat → Nat → Bool} (f : Fve h h') (k : MB h bi) : MB h' bi := fun id i => by rw [FI_i f rfl, FI_i f rfl]; exact k id i
theorem c_isH {d : Nat} {Q : qt} {h : hp} {r p ns c : Nat} {is : Nat → Nat} {ts : List (Nat × Nat)} (hS : St h) (hr : r < 10) (hK : RK h r ts) (hE : Es h r p ns is) (k : Q (.inl (some (vI (bI (decide (ts[p]? = some (7, c))))))) h) : Wc (d + 2) 192 [vR (some 116), vI (c : Nat)] h Q := by
  refine se_X4_isHere hS ?_
  rw [hE.1, hE.2.1]
  exact c_isTok (s := 7) hS hr hK ⟨bI_01 _, k⟩
/-- the token there -/
theorem at_tok {h : hp} {r p ns : Nat} {is : Nat → Nat} {ts : List (Nat × Nat)} {x : Nat × Nat} (hr : r < 10) (hK : RK h r ts) (hE : Es h r p ns is) (ht : ts[p]? = some x) : n_add (n_mul 1600 (hI h 116 45)) (hI h 116 44) = ((1600 * r + p : Nat) : Int) ∧ hI h 124 (1600 * r + p) = (x.1 : Nat) ∧ hI h 125 (1600 * r + p) = (x.2 : Nat) ∧ p < 1600 ∧ p < ts.length := by
  have hp : p < ts.length := by
    by_cases z : p < ts.length
    · exact z
    · rw [List.getElem?_eq_none (by omega)] at ht; cases ht
  have hl := hK.1
  have e := hK.2.2 p x ht
  exact ⟨by rw [hE.1, hE.2.1]; exact ix hr (by omega), e.1, e.2, by omega, hp⟩
