/-! m prints -/
abbrev S6 : List Nat := [108, 101, 116, 32, 117, 110, 108, 101, 116, 32, 112, 117, 115, 104, 32, 112, 111, 112, 32, 110, 101, 119, 32, 101, 110, 100, 32, 99, 97, 108, 108, 32, 117, 110, 99, 97, 108, 108, 32, 105, 102, 32, 101, 108, 115, 101, 32, 102, 105, 32, 102, 114, 111, 109, 32, 108, 111, 111, 112, 32, 117, 110, 116, 105, 108, 32, 115, 101, 116, 32, 119, 104, 105, 108, 101, 32, 119, 104, 101, 110, 32, 105, 110, 116, 32, 108, 111, 110, 103, 32, 115, 104, 111, 114, 116, 32, 98, 121, 116, 101, 32, 99, 104, 97, 114, 32]
def pMp (a j : Nat) : Prop := a = 118 ∨ (a = 116 ∧ j = 3)
def Ym (h : hp) (O : List Int) : Prop := St h ∧ hI h 116 3 = (O.length : Nat) ∧ Tx h 118 0 O
def FY (h h' : hp) : Prop := FN pMp h h'
theorem FY_trans {h h1 h2 : hp} (a : FY h h1) (b : FY h1 h2) : FY h h2 := FN_trans a b
theorem c_write {d : Nat} {Q : qt} {h : hp} {O : List Int} {c : Int} (x : Ym h O) (hc : 32 ≤ c ∧ c ≤ 126) (hl : O.length < 12000) (k : ∀ h', FY h h' → Ym h' (O ++ [c]) → Q (.inl none) h') : Wc (d + 1) 149 [vR (some 116), vI c] h Q := by
  obtain ⟨hS, x1, x3⟩ := x
  refine se_X4_write hS ?_
  rw [x1, Int.toNat_natCast, i2b_ok hc, i2b_ok hc, n1k (by omega)]
  have h6 : ((O.length : Nat) : Int) < 12000 := by omega
  refine ⟨⟨by omega, h6⟩, ?_⟩
  have F : FY h (sI (sI h 118 O.length c) 116 3 ((O.length + 1 : Nat) : Int)) := FN_sI (FN_sI (FN_refl hS) (Or.inl rfl) (by decide)) (Or.inr ⟨rfl, rfl⟩) (by decide)
  refine k _ F ⟨F.1.2.2.1, by rw [hI_sI, if_pos ⟨rfl, rfl⟩, List.length_append]; rfl, Tx_push (by decide) x3⟩
def skq : List Nat → Nat → Nat
  | [], _ => 0
  | _ :: _, 0 => 0
  | c :: R, w + 1 => 1 + skq R (if c = 32 then w else w + 1)
def tkw : List Nat → List Nat
  | [] => []
  | c :: R => if c = 32 then [] else c :: tkw R
theorem pkb_S6 : ∀ w, w < 22 → pkb w = bsI (tkw (S6.drop (skq S6 w))) ∧ skq S6 w < S6.length := by decide
theorem S6_b : ∀ b ∈ S6, 32 ≤ b ∧ b ≤ 126 := by decide
theorem m_skip {d : Nat} {Q : qt} {h : hp} {v1 v2 : Int} (hS : St h) : ∀ (n i w : Nat), i + n = S6.length → w < 100 → i + skq (S6.drop i) w < S6.length → Wp (d + 4) C_X4_putToken Q 236 [vR (some 116), vI v1, vI v2, vI ((i + skq (S6.drop i) w : Nat) : Int), vI 0] [] h → Wp (d + 4) C_X4_putToken Q 204 [vR (some 116), vI v1, vI v2, vI (i : Nat), vI (w : Nat)] [] h := by
  have l6 : S6.length < 200 := by decide
  intro n
  induction n with
  | zero => intro i w e _ hp0; omega
  | succ n ih =>
    intro i w e w1 hp0 k
    have hi : i < S6.length := by omega
    have ed : S6.drop i = S6.getD i 0 :: S6.drop (i + 1) := by
      rw [List.drop_eq_getElem_cons hi, List.getD_eq_getElem?_getD, List.getElem?_eq_getElem hi]; rfl
    obtain ⟨c, ec⟩ : ∃ c, c = S6.getD i 0 := ⟨_, rfl⟩
    rw [← ec] at ed
    rw [ed] at hp0 k
    cases w with
    | zero =>
      have e0 : skq (c :: S6.drop (i + 1)) 0 = 0 := by unfold skq; rfl
      rw [e0] at k
      exact ss_X4_putToken_204 hS (im (by decide) k)
    | succ w =>
      have e0 : skq (c :: S6.drop (i + 1)) (w + 1) = 1 + skq (S6.drop (i + 1)) (if c = 32 then w else w + 1) := by conv => lhs; unfold skq
      rw [e0] at k hp0
      refine ss_X4_putToken_204 hS (ip (by omega) ?_)
      refine c_charAt hS (sts_66 hS) (by decide) hi (fun b hb => by have := S6_b b hb; omega) ?_
      rw [show (List.getD _ i 0 : Nat) = c from ec.symm]
      refine ss_X4_putToken_217 hS ?_
      by_cases c32 : c = 32
      · rw [if_pos c32] at k hp0
        refine ip (by rw [c32]; rfl) ?_
        refine ss_X4_putToken_227 hS ?_
        rw [n1k (by omega), show n_sub ((w + 1 : Nat) : Int) 1 = ((w : Nat) : Int) by rw [ns_eq (by omega) (by omega)]; omega]
        refine ih (i + 1) w (by omega) (by omega) (by omega) ?_
        rw [show i + 1 + skq (S6.drop (i + 1)) w = i + (1 + skq (S6.drop (i + 1)) w) by omega]
        exact k
      · rw [if_neg c32] at k hp0
        refine im (by omega) ?_
        refine ss_X4_putToken_227 hS ?_
        rw [n1k (by omega), show n_sub ((w + 1 : Nat) : Int) 0 = ((w + 1 : Nat) : Int) by rw [ns_eq (by omega) (by omega)]; omega]
        refine ih (i + 1) (w + 1) (by omega) w1 (by omega) ?_
        rw [show i + 1 + skq (S6.drop (i + 1)) (w + 1) = i + (1 + skq (S6.drop (i + 1)) (w + 1)) by omega]
        exact k
theorem tkw_len : ∀ R : List Nat, (tkw R).length ≤ R.length := by
  intro R
  induction R with
  | nil => exact Nat.le_refl _
  | cons c R ih => unfold tkw; split <;> simp; omega
theorem m_word {d : Nat} {Q : qt} {v1 v2 v4 : Int} : ∀ (n i : Nat) (h : hp) (O : List Int), i + n = S6.length → 32 ∈ S6.drop i → Ym h O → O.length + (tkw (S6.drop i)).length ≤ 12000 → (∀ h', FY h h' → Ym h' (O ++ bsI (tkw (S6.drop i))) → Q (.inl none) h') → Wp (d + 4) C_X4_putToken Q 236 [vR (some 116), vI v1, vI v2, vI (i : Nat), vI v4] [] h := by
  have l6 : S6.length < 200 := by decide
  intro n
  induction n with
  | zero =>
    intro i h O e h32
    rw [List.drop_eq_nil_of_le (by omega)] at h32
    cases h32
  | succ n ih =>
    intro i h O e h32 X hl k
    have hS := X.1
    have hi : i < S6.length := by omega
    have ed : S6.drop i = S6.getD i 0 :: S6.drop (i + 1) := by
      rw [List.drop_eq_getElem_cons hi, List.getD_eq_getElem?_getD, List.getElem?_eq_getElem hi]; rfl
    have bm : S6.getD i 0 ∈ S6 := by rw [List.getD_eq_getElem?_getD, List.getElem?_eq_getElem hi]; exact List.getElem_mem hi
    have bc := S6_b _ bm
    obtain ⟨c, ec⟩ : ∃ c, c = S6.getD i 0 := ⟨_, rfl⟩
    rw [← ec] at ed bc
    rw [ed] at h32 hl k
    unfold tkw at hl k
    refine ss_X4_putToken_236 hS ?_
    refine c_charAt hS (sts_66 hS) (by decide) hi (fun b hb => by have := S6_b b hb; omega) ?_
    rw [show (List.getD _ i 0 : Nat) = c from ec.symm]
    refine ss_X4_putToken_242 hS ?_
    by_cases c32 : c = 32
    · rw [if_pos c32] at k
      refine ip (by rw [c32]; rfl) (ss_X4_putToken_263 hS ?_)
      exact k h (FN_refl hS) (by show Ym h (O ++ []); rw [List.append_nil]; exact X)
    · rw [if_neg c32] at k hl
      refine im (by omega) ?_
      refine c_charAt hS (sts_66 hS) (by decide) hi (fun b hb => by have := S6_b b hb; omega) ?_
      rw [show (List.getD _ i 0 : Nat) = c from ec.symm]
      refine ss_X4_putToken_254 hS ?_
      refine c_write X (by omega) (by simp at hl; omega) (fun h1 F1 X1 => ?_)
      refine ss_X4_putToken_257 X1.1 ?_
      rw [n1k (by omega)]
      refine ih (i + 1) h1 _ (by omega) ?_ X1 (by simp at hl ⊢; omega) (fun h' F' X' => k h' (FY_trans F1 F') ?_)
      · rcases List.mem_cons.mp h32 with y | y
        · exact absurd y.symm c32
        · exact y
      · rw [List.append_assoc] at X'
        exact X'
theorem S6_32 : ∀ w, w < 22 → 32 ∈ S6.drop (skq S6 w) := by decide
