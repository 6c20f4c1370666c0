/-! the bench: set, get -/
theorem kt_inj {a b : Int} (h0 : 0 ≤ a) (h4 : a ≤ 4) (g0 : 0 ≤ b) (g4 : b ≤ 4) (e : kt a = kt b) : a = b := by
  have h : a = 0 ∨ a = 1 ∨ a = 2 ∨ a = 3 ∨ a = 4 := by omega
  have g : b = 0 ∨ b = 1 ∨ b = 2 ∨ b = 3 ∨ b = 4 := by omega
  rcases h with y | y | y | y | y <;> rcases g with z | z | z | z | z <;> subst y <;> subst z <;> first | rfl | exact absurd e (by decide)
/-- one of the five: what a row of this kind is asked -/
theorem c_br {h : hp} {σ : zS} {ρ : Nat → Nat} {x kk : Nat} {kd v2 : Int} {OK : Nat → Prop} {E : Nat → hp → Prop} (hZ : XZ h σ ρ) (hx : x < 14) (h0 : 0 ≤ kd) (h4 : kd ≤ 4) (hk : kt kd = kk) (hb : hU h + 600 ≤ BUD)
    (e0 : σ 2 x < 0 → ∀ e h', vmx 60 h e h' → E e h') (e1 : ∀ id : Nat, σ 2 x = (id : Nat) → σ 3 id ≠ kd → ∀ e h', vmx 61 h e h' → E e h') (e2 : ∀ id : Nat, σ 2 x = (id : Nat) → σ 3 id = kd → ¬ (0 ≤ v2 ∧ v2 < σ 4 id) → ∀ e h', vmx 62 h e h' → E e h') (ok : ∀ id : Nat, σ 2 x = (id : Nat) → σ 3 id = kd → 0 ≤ v2 → v2 < σ 4 id → OK (ρ id)) :
    fitR h [101, 102, 103, 104, 105] (hR h (102 + x) 0) ∧ (fitR h [kk] (hR h (102 + x) 0) → ((hR h (102 + x) 0 = none → (hU h + 600 ≤ BUD ∧ ∀ e2 h3, vmx 60 h e2 h3 → E e2 h3)) ∧ ∀ a1, hR h (102 + x) 0 = some a1 → (hT h a1).1 = kk ∧ if 0 ≤ v2 ∧ v2 < (hT h a1).2 then OK a1 else (hU h + 600 ≤ BUD ∧ ∀ e4 h5, vmx 62 h e4 h5 → E e4 h5))) ∧ (¬ fitR h [kk] (hR h (102 + x) 0) → (hU h + 600 ≤ BUD ∧ ∀ e6 h7, vmx 61 h e6 h7 → E e6 h7)) := by
  rcases hZ.1.2.1 x hx with ⟨y1, y2⟩ | ⟨id, y0, y1, y2, y3⟩
  · rw [y2]
    refine ⟨Or.inl rfl, fun _ => ⟨fun _ => ⟨hb, e0 (by omega)⟩, fun a z => (by cases z)⟩, fun z => absurd (Or.inl rfl) z⟩
  · rw [y2]
    obtain ⟨u1, u2, u3, u4, ⟨n, n1, n2, n3⟩, u6⟩ := y3
    refine ⟨Or.inr ⟨ρ id, rfl, ?_⟩, fun z => ⟨fun w => (by cases w), fun a w => ?_⟩, fun z => ⟨hb, ?_⟩⟩
    · rw [n3]; have := kt_ok (σ 3 id); simp; omega
    · cases w
      have t1 : (hT h (ρ id)).1 = kk := by
        rcases z with z | ⟨b, z1, z2⟩
        · cases z
        · cases z1; simpa using z2
      have ek : σ 3 id = kd := kt_inj u3 u4 h0 h4 (by rw [hk, ← t1, n3])
      refine ⟨t1, ?_⟩
      have en : (((hT h (ρ id)).2 : Nat) : Int) = σ 4 id := by rw [n3, n2]
      rw [en]
      by_cases q : 0 ≤ v2 ∧ v2 < σ 4 id
      · exact ip q (ok id y1 ek q.1 q.2)
      · exact im q ⟨hb, e2 id y1 ek q⟩
    · refine e1 id y1 (fun ek => z (Or.inr ⟨ρ id, rfl, ?_⟩))
      rw [n3, ek, hk]; simp
theorem c_store {d x : Nat} {Q : qt} {h : hp} {σ : zS} {ρ : Nat → Nat} {kd v2 v : Int} (hS : St h) (hZ : XZ h σ ρ) (hx : x < 14) (h0 : 0 ≤ kd) (h4 : kd ≤ 4) (hb : hU h + 600 ≤ BUD)
    (e0 : σ 2 x < 0 → ∀ e h', vmx 60 h e h' → Q (.inr e) h') (e1 : ∀ id : Nat, σ 2 x = (id : Nat) → σ 3 id ≠ kd → ∀ e h', vmx 61 h e h' → Q (.inr e) h') (e2 : ∀ id : Nat, σ 2 x = (id : Nat) → σ 3 id = kd → ¬ (0 ≤ v2 ∧ v2 < σ 4 id) → ∀ e h', vmx 62 h e h' → Q (.inr e) h') (ok : ∀ id : Nat, σ 2 x = (id : Nat) → σ 3 id = kd → 0 ≤ v2 → v2 < σ 4 id → Q (.inl none) (hW h (ρ id) kd v2.toNat (cutz kd v))) : Wc (d + 1) 93 [vR (hR h (102 + x) 0), vI kd, vI v2, vJ v] h Q := by
  refine se_X0_store hS ?_
  have : kd = 0 ∨ kd = 1 ∨ kd = 2 ∨ kd = 3 ∨ kd = 4 := by omega
  rcases this with e | e | e | e | e <;> subst e
  · exact ip rfl (c_br hZ hx h0 h4 rfl hb e0 e1 e2 ok)
  · exact im (by decide) (ip rfl (c_br hZ hx h0 h4 rfl hb e0 e1 e2 ok))
  · refine im (by decide) (im (by decide) (ip rfl (c_br hZ hx h0 h4 rfl hb e0 e1 e2 (fun id a b c d => ?_))))
    rw [i2s2]; exact ok id a b c d
  · refine im (by decide) (im (by decide) (im (by decide) (ip rfl (c_br hZ hx h0 h4 rfl hb e0 e1 e2 (fun id a b c d => ?_)))))
    rw [i2b2]; exact ok id a b c d
  · refine im (by decide) (im (by decide) (im (by decide) (im (by decide) (c_br hZ hx h0 h4 rfl hb e0 e1 e2 (fun id a b c d => ?_)))))
    rw [i2c2, i2c_l]; exact ok id a b c d
theorem c_taken {d x : Nat} {Q : qt} {h : hp} {σ : zS} {ρ : Nat → Nat} {kd v2 : Int} (hS : St h) (hZ : XZ h σ ρ) (hx : x < 14) (h0 : 0 ≤ kd) (h4 : kd ≤ 4) (hb : hU h + 600 ≤ BUD)
    (e0 : σ 2 x < 0 → ∀ e h', vmx 60 h e h' → Q (.inr e) h') (e1 : ∀ id : Nat, σ 2 x = (id : Nat) → σ 3 id ≠ kd → ∀ e h', vmx 61 h e h' → Q (.inr e) h') (e2 : ∀ id : Nat, σ 2 x = (id : Nat) → σ 3 id = kd → ¬ (0 ≤ v2 ∧ v2 < σ 4 id) → ∀ e h', vmx 62 h e h' → Q (.inr e) h') (ok : ∀ id : Nat, σ 2 x = (id : Nat) → σ 3 id = kd → 0 ≤ v2 → v2 < σ 4 id → Q (.inl (some (vJ (σ 5 (12 * id + v2.toNat))))) h) : Wc (d + 1) 95 [vR (hR h (102 + x) 0), vI kd, vI v2] h Q := by
  refine se_X0_taken hS ?_
  have el : ∀ id : Nat, σ 2 x = (id : Nat) → σ 3 id = kd → 0 ≤ v2 → v2 < σ 4 id → elem h (ρ id) kd v2.toNat = σ 5 (12 * id + v2.toNat) := by
    intro id a b c d
    rcases hZ.1.2.1 x hx with ⟨y1, y2⟩ | ⟨id', y0, y1, y2, y3⟩
    · omega
    · have : id' = id := by omega
      subst this
      obtain ⟨u1, u2, u3, u4, u5, u6⟩ := y3
      have := u6 v2.toNat (by omega)
      rw [b] at this
      exact this
  have : kd = 0 ∨ kd = 1 ∨ kd = 2 ∨ kd = 3 ∨ kd = 4 := by omega
  rcases this with e | e | e | e | e <;> subst e
  · refine ip rfl (c_br hZ hx h0 h4 rfl hb e0 e1 e2 (fun id a b c d => ?_))
    have q := ok id a b c d; rw [← el id a b c d] at q; exact q
  · refine im (by decide) (ip rfl (c_br hZ hx h0 h4 rfl hb e0 e1 e2 (fun id a b c d => ?_)))
    have q := ok id a b c d; rw [← el id a b c d] at q; exact q
  · refine im (by decide) (im (by decide) (ip rfl (c_br hZ hx h0 h4 rfl hb e0 e1 e2 (fun id a b c d => ?_))))
    have q := ok id a b c d; rw [← el id a b c d] at q; exact q
  · refine im (by decide) (im (by decide) (im (by decide) (ip rfl (c_br hZ hx h0 h4 rfl hb e0 e1 e2 (fun id a b c d => ?_)))))
    have q := ok id a b c d; rw [← el id a b c d] at q; exact q
  · refine im (by decide) (im (by decide) (im (by decide) (im (by decide) (c_br hZ hx h0 h4 rfl hb e0 e1 e2 (fun id a b c d => ?_)))))
    have q := ok id a b c d; rw [← el id a b c d] at q; exact q
/-- what hinders, for a good place and kind -/
theorem c_hind {d q : Nat} {Q : qt} {h : hp} {σ : zS} {kd v2 : Int} (hS : St h) (hV : MV h σ) (hq : q < 8) (h0 : 0 ≤ kd) (h4 : kd ≤ 4)
    (e0 : σ 2 (6 + q) < 0 → Q (.inl (some (vI (-11)))) h) (e1 : ∀ id : Nat, id < 14 → σ 2 (6 + q) = (id : Nat) → σ 3 id ≠ kd → Q (.inl (some (vI (-12)))) h) (e2 : ∀ id : Nat, id < 14 → σ 2 (6 + q) = (id : Nat) → σ 3 id = kd → ¬ (0 ≤ v2 ∧ v2 < σ 4 id) → Q (.inl (some (vI (-13)))) h) (ok : ∀ id : Nat, id < 14 → σ 2 (6 + q) = (id : Nat) → σ 3 id = kd → 0 ≤ v2 → v2 < σ 4 id → Q (.inl (some (vI 0))) h) : Wc (d + 3) 227 [vR (some 116), vI (q : Nat), vI kd, vI v2] h Q := by
  refine se_X4_hinders hS (pu_mIsPlace hS ?_)
  refine ss_X4_hinders_4 hS ?_
  rw [rg_t (show (0 : Int) ≤ ((q : Nat) : Int) ∧ ((q : Nat) : Int) ≤ 7 by omega)]
  refine im (by decide) (pu_in hS ?_)
  refine ss_X4_hinders_13 hS ?_
  obtain ⟨f1, f2, f3⟩ := hV.2.2.1 (6 + q) (by omega)
  rw [rg_t (show (0 : Int) ≤ kd ∧ kd ≤ 4 from ⟨h0, h4⟩), n6 hq, Int.toNat_natCast, f1]
  refine im (by decide) ⟨by omega, ?_⟩
  by_cases y : σ 2 (6 + q) < 0
  · exact ip y (e0 y)
  obtain ⟨id, eid⟩ : ∃ id : Nat, σ 2 (6 + q) = (id : Nat) := ⟨(σ 2 (6 + q)).toNat, by omega⟩
  have hid : id < 14 := by omega
  obtain ⟨p1, p2, p3, p4⟩ := hV.2.2.2.1 id (by omega)
  rw [eid, Int.toNat_natCast, p1, p2, ns_eq (by omega) (by omega)]
  refine im (by omega) ⟨by omega, ?_⟩
  by_cases z : σ 3 id = kd
  · refine ip z ⟨by omega, pu_in hS ?_⟩
    refine ss_X4_hinders_67 hS ?_
    by_cases w : 0 ≤ v2 ∧ v2 ≤ σ 4 id - 1
    · rw [rg_t w]
      exact im (by decide) (ok id hid eid z w.1 (by omega))
    · rw [rg_f w]
      exact ip rfl (e2 id hid eid z (by omega))
  · exact im z (e1 id hid eid z)
theorem FX_hW {p : Nat → Nat → Prop} {h : hp} {a j : Nat} {kd w : Int} (hS : St h) (ha : 145 ≤ a) (hp : p a j) : FX p h (hW h a kd j w) := by
  unfold hW
  split
  · exact FX_sL (FX_refl hS) (Or.inl hp)
  · exact FX_sI (FX_refl hS) (Or.inl hp) (by omega)
def pRw (h : hp) (a j : Nat) : Prop := (145 ≤ a ∧ 101 ≤ (hT h a).1 ∧ (hT h a).1 ≤ 105) ∨ (a = 68 ∧ j = 39)
/-- only cells of rows have changed -/
theorem IX_rw {h h' : hp} {R : Nat → Option zT} {σ σ' : zS} {K : Option zK} {w : Int} {T O : List Int} {F : Int × Int} {L L' : Int} (hS : St h) (F5 : FX (pRw h) h h') (x : IX h (R, σ, K, w, T, F, O, L)) (z : Xc2 h' σ') (z9 : Xc9 h' L') : IX h' (R, σ', K, w, T, F, O, L') := by
  obtain ⟨x1, x2, x3, x4, x5, x6, x7, x8, x9⟩ := x
  exact ⟨Xc1_p F5 hS (fun j => by unfold pRw; omega) (fun c j c1 _ c3 => by unfold imm at c3; unfold pRw; omega) x1, z, XFr_p F5 hS (by unfold pRw; omega) (by unfold pRw; omega) x3, XRu_p F5 hS (fun c j hc => by unfold pRw; omega) x4, Xc5_p F5 hS (by unfold pRw; omega) x5, Tq_p F5 hS (by unfold pRw; omega) (fun j => by unfold pRw; omega) x6, Xc7_p F5 hS (by unfold pRw; omega) (by unfold pRw; omega) x7, Xc8_p F5 hS (by unfold pRw; omega) (fun j => by unfold pRw; omega) x8, z9⟩
theorem xpl_rw {h h' : hp} (a : FX (pRw h) h h') : FX xpl h h' := FX_mono a (fun c j _ z => by unfold pRw at z; unfold xpl; omega)
theorem op_set {n : Nat} {h : hp} {a b c v : Int} (hn : n < 64) (I : IN n h) : Pair 92 226 [vR (some 68), vI a, vI b, vI c, vJ v] [vR (some 116), vI a, vI b, vI c, vJ v] n h := by
  obtain ⟨⟨R, σ, K, w, T, F, O, L⟩, hS, x, m, g, u⟩ := I
  obtain ⟨x1, ⟨ρ, x2⟩, x3, x4, x5, x6, x7, x8, x9⟩ := id x
  dsimp only at x2
  by_cases ha : 0 ≤ a ∧ a ≤ 7
  · obtain ⟨q, rfl⟩ : ∃ r : Nat, a = (r : Nat) := ⟨a.toNat, by omega⟩
    have hq : q < 8 := by omega
    by_cases hb : 0 ≤ b ∧ b ≤ 4
    · have bud : hU h + 600 ≤ BUD := by unfold BUD; omega
      have xs : ∀ (d : Nat) (Q : qt), (σ 2 (6 + q) < 0 → ∀ h', FX (fun _ _ => False) h h' → hU h' ≤ hU h + 600 → Q (.inl (some (vI (-11)))) h') → (∀ id : Nat, σ 2 (6 + q) = (id : Nat) → σ 3 id ≠ b → ∀ h', FX (fun _ _ => False) h h' → hU h' ≤ hU h + 600 → Q (.inl (some (vI (-12)))) h') → (∀ id : Nat, σ 2 (6 + q) = (id : Nat) → σ 3 id = b → ¬ (0 ≤ c ∧ c < σ 4 id) → ∀ h', FX (fun _ _ => False) h h' → hU h' ≤ hU h + 600 → Q (.inl (some (vI (-13)))) h') → (∀ id : Nat, σ 2 (6 + q) = (id : Nat) → σ 3 id = b → 0 ≤ c → c < σ 4 id → Q (.inl (some (vI 1))) (hW h (ρ id) b c.toNat (cutz b v))) → Wc (d + 2000) 92 [vR (some 68), vI (q : Nat), vI b, vI c, vJ v] h Q := by
        intro d Q k0 k1 k2 k3
        refine se_X0_set hS (pu_isPlace hS ?_)
        refine ss_X0_set_4 hS ?_
        rw [rg_t ha]
        refine im (by decide) (pu_isIn hS ?_)
        refine ss_X0_set_16 hS ?_
        rw [rg_t hb, Int.toNat_natCast, ho_b hS hq, ofR_some]
        refine im (by decide) ⟨by omega, by rw [ho_t hS (by omega)]; simp, ?_⟩
        refine c_store hS x2 (by omega) hb.1 hb.2 bud (fun y e h' v => ?_) (fun id y z e h' v => ?_) (fun id y z w' e h' v => ?_) (fun id y z c0 c1 => ?_)
        · have F5 : FX (fun _ _ => False) h h' := FX_vmx hS v
          obtain ⟨v1, v2⟩ := vmx_t v
          exact ⟨by rw [v1]; simp, ip v1 (ss_X0_set_40 F5.2.2.1 (k0 y h' F5 v2))⟩
        · have F5 : FX (fun _ _ => False) h h' := FX_vmx hS v
          obtain ⟨v1, v2⟩ := vmx_t v
          exact ⟨by rw [v1]; simp, im (by rw [v1]; decide) ⟨by rw [v1]; simp, ip v1 (ss_X0_set_45 F5.2.2.1 (k1 id y z h' F5 v2))⟩⟩
        · have F5 : FX (fun _ _ => False) h h' := FX_vmx hS v
          obtain ⟨v1, v2⟩ := vmx_t v
          exact ⟨by rw [v1]; simp, im (by rw [v1]; decide) ⟨by rw [v1]; simp, im (by rw [v1]; decide) ⟨by rw [v1]; simp, ip v1 (ss_X0_set_50 F5.2.2.1 (k2 id y z w' h' F5 v2))⟩⟩⟩
        · have hρ := (XZ_it (w := cutz b v) x2 (show 6 + q < 14 by omega) y (show ((c.toNat : Nat) : Int) < σ 4 id by omega)).2.1
          have S2 : St (hW h (ρ id) b c.toNat (cutz b v)) := (FX_hW (p := fun _ _ => True) hS hρ trivial).2.2.1
          exact ss_X0_set_37 S2 (k3 id y z c0 c1)
      have ms : ∀ (d : Nat) (h1 : hp) (Q : qt), St h1 → MV h1 σ → (σ 2 (6 + q) < 0 → Q (.inl (some (vI (-11)))) h1) → (∀ id : Nat, σ 2 (6 + q) = (id : Nat) → σ 3 id ≠ b → Q (.inl (some (vI (-12)))) h1) → (∀ id : Nat, σ 2 (6 + q) = (id : Nat) → σ 3 id = b → ¬ (0 ≤ c ∧ c < σ 4 id) → Q (.inl (some (vI (-13)))) h1) → (∀ id : Nat, σ 2 (6 + q) = (id : Nat) → σ 3 id = b → 0 ≤ c → c < σ 4 id → Q (.inl (some (vI 1))) (sL h1 138 (12 * id + c.toNat) (cutz b v))) → Wc (d + 2000) 226 [vR (some 116), vI (q : Nat), vI b, vI c, vJ v] h1 Q := by
        intro d h1 Q S1 m2 k0 k1 k2 k3
        refine se_X4_set S1 ?_
        refine c_hind S1 m2 hq hb.1 hb.2 (fun y => ?_) (fun id _ y z => ?_) (fun id _ y z w' => ?_) (fun id hid y z c0 c1 => ?_)
        · exact ss_X4_set_7 S1 (im (by decide) (k0 y))
        · exact ss_X4_set_7 S1 (im (by decide) (k1 id y z))
        · exact ss_X4_set_7 S1 (im (by decide) (k2 id y z w'))
        · obtain ⟨p1, p2, p3, p4⟩ := m2.2.2.2.1 id (by omega)
          refine ss_X4_set_7 S1 (ip rfl ⟨by rw [n6 hq]; omega, pm_cut S1 ?_⟩)
          rw [n6 hq, Int.toNat_natCast, (m2.2.2.1 (6 + q) (by omega)).1, y]
          obtain ⟨j, rfl⟩ : ∃ j : Nat, c = (j : Nat) := ⟨c.toNat, by omega⟩
          rw [i12 hid (by omega)]
          refine ss_X4_set_41 S1 ?_
          rw [ofR_some]
          have t5 := stt_138 S1
          refine ⟨⟨by rw [t5]; simp, by omega, by rw [t5]; show ((12 * id + j : Nat) : Int) < ((192 : Nat) : Int); omega⟩, ?_⟩
          rw [Int.toNat_natCast]
          have := k3 id y z c0 c1
          rw [Int.toNat_natCast] at this
          exact this
      have xno : ∀ (v0 : Int), (∀ (d : Nat) (Q : qt), (∀ h', FX (fun _ _ => False) h h' → hU h' ≤ hU h + 600 → Q (.inl (some (vI v0))) h') → Wc (d + 2000) 92 [vR (some 68), vI (q : Nat), vI b, vI c, vJ v] h Q) → (∀ (d : Nat) (h1 : hp) (Q : qt), St h1 → MV h1 σ → Q (.inl (some (vI v0))) h1 → Wc (d + 2000) 226 [vR (some 116), vI (q : Nat), vI b, vI c, vJ v] h1 Q) → Pair 92 226 [vR (some 68), vI (q : Nat), vI b, vI c, vJ v] [vR (some 116), vI (q : Nat), vI b, vI c, vJ v] n h := by
        intro v0 kx km
        refine pair_of (s := (R, σ, K, w, T, F, O, L)) (vI v0) (R, σ, K, w, T, F, O, L) True hS m u (fun d Q kk => kx d Q (fun h' F5 U5 => ?_)) (fun d h1 Q S1 M1 X1 _ kk => km d h1 Q S1 M1.2.1 (kk h1 (FX_refl S1) rfl M1 g))
        exact kk h' (FX_mono F5 (fun _ _ _ z => z.elim)) (by omega) (IX_no hS F5 x) trivial
      by_cases y : σ 2 (6 + q) < 0
      · exact xno (-11) (fun d Q k => xs d Q (fun _ => k) (fun id z => by omega) (fun id z => by omega) (fun id z => by omega)) (fun d h1 Q S1 m2 k => ms d h1 Q S1 m2 (fun _ => k) (fun id z => by omega) (fun id z => by omega) (fun id z => by omega))
      obtain ⟨id, eid⟩ : ∃ id : Nat, σ 2 (6 + q) = (id : Nat) := ⟨(σ 2 (6 + q)).toNat, by omega⟩
      have ue : ∀ id' : Nat, σ 2 (6 + q) = (id' : Nat) → id' = id := fun id' z => by omega
      by_cases z3 : σ 3 id = b
      · by_cases zc : 0 ≤ c ∧ c < σ 4 id
        · have it := XZ_it (w := cutz b v) x2 (show 6 + q < 14 by omega) eid (show ((c.toNat : Nat) : Int) < σ 4 id by omega)
          have id14 : id < 14 := by
            have := (m.2.1.2.2.1 (6 + q) (by omega)).2.2
            dsimp only at this
            omega
          have z4 : σ 4 id ≤ 12 := (m.2.1.2.2.2.1 id (by omega)).2.2.2
          have gd : Gd (R, su σ 5 (12 * id + c.toNat) (cutz b v), K, w, T, F, O, L) := by
            refine ⟨g.1, ?_, g.2.2⟩
            have := Zk_pst (σ := σ) (c := (id + 1, c.toNat)) (v := v) (fun _ => by show c.toNat < 12; omega) g.2.1
            unfold pst at this
            rw [if_neg (show ¬ (id + 1 = 0) by omega)] at this
            dsimp only at this
            rw [show id + 1 - 1 = id by omega, z3] at this
            exact this
          refine pair_of (s := (R, σ, K, w, T, F, O, L)) (vI 1) (R, su σ 5 (12 * id + c.toNat) (cutz b v), K, w, T, F, O, L) True hS m u (fun d Q kk => xs d Q (fun z => absurd z y) (fun id' z z' => by rw [ue id' z] at z'; exact absurd z3 z') (fun id' z _ z' => by rw [ue id' z] at z'; exact absurd zc z') (fun id' z _ _ _ => ?_)) (fun d h1 Q S1 M1 X1 _ kk => ms d h1 Q S1 M1.2.1 (fun z => absurd z y) (fun id' z z' => by rw [ue id' z] at z'; exact absurd z3 z') (fun id' z _ z' => by rw [ue id' z] at z'; exact absurd zc z') (fun id' z _ _ _ => ?_))
          · rw [ue id' z]
            rw [z3] at it
            have F5 : FX (pRw h) h (hW h (ρ id) b c.toNat (cutz b v)) := FX_hW hS it.2.1 (Or.inl ⟨it.2.1, it.2.2.2⟩)
            refine kk _ (xpl_rw F5) (by rw [hN_W.2]; omega) (IX_rw hS F5 x ⟨ρ, it.1⟩ ?_) trivial
            exact ((sm_W (show 68 ≠ ρ id by have := it.2.1; omega)).2.1 39).trans x9
          · rw [ue id' z]
            have F5 : FX mVv h1 (sL h1 138 (12 * id + c.toNat) (cutz b v)) := FX_sL (FX_refl S1) (Or.inl (by unfold mVv; omega))
            exact kk _ (FX_mono F5 (fun c j _ z => by unfold mVv at z; unfold mpl; omega)) rfl (IM_v S1 F5 M1 (MV_i M1.2.1)) gd
        · exact xno (-13) (fun d Q k => xs d Q (fun z => absurd z y) (fun id' z z' => by rw [ue id' z] at z'; exact absurd z3 z') (fun _ _ _ _ => k) (fun id' z _ c0 c1 => by rw [ue id' z] at c1; exact absurd ⟨c0, c1⟩ zc)) (fun d h1 Q S1 m2 k => ms d h1 Q S1 m2 (fun z => absurd z y) (fun id' z z' => by rw [ue id' z] at z'; exact absurd z3 z') (fun _ _ _ _ => k) (fun id' z _ c0 c1 => by rw [ue id' z] at c1; exact absurd ⟨c0, c1⟩ zc))
      · exact xno (-12) (fun d Q k => xs d Q (fun z => absurd z y) (fun _ _ _ => k) (fun id' z z' => by rw [ue id' z] at z'; exact absurd z' z3) (fun id' z z' => by rw [ue id' z] at z'; exact absurd z' z3)) (fun d h1 Q S1 m2 k => ms d h1 Q S1 m2 (fun z => absurd z y) (fun _ _ _ => k) (fun id' z z' => by rw [ue id' z] at z'; exact absurd z' z3) (fun id' z z' => by rw [ue id' z] at z'; exact absurd z' z3))
    · refine pair_eq (vI (-1)) hS x m g u (fun d Q k => ?_) (fun d Q k => ?_)
      · refine se_X0_set hS (pu_isPlace hS ?_)
        refine ss_X0_set_4 hS ?_
        rw [rg_t ha]
        refine im (by decide) (pu_isIn hS ?_)
        refine ss_X0_set_16 hS ?_
        rw [rg_f hb]
        exact ip rfl k
      · refine se_X4_set hS (se_X4_hinders hS (pu_mIsPlace hS ?_))
        refine ss_X4_hinders_4 hS ?_
        rw [rg_t ha]
        refine im (by decide) (pu_in hS ?_)
        refine ss_X4_hinders_13 hS ?_
        rw [rg_f hb]
        exact ip rfl (ss_X4_set_7 hS (im (by decide) k))
  · refine pair_eq (vI (-1)) hS x m g u (fun d Q k => ?_) (fun d Q k => ?_)
    · refine se_X0_set hS (pu_isPlace hS ?_)
      refine ss_X0_set_4 hS ?_
      rw [rg_f ha]
      exact ip rfl k
    · refine se_X4_set hS (se_X4_hinders hS (pu_mIsPlace hS ?_))
      refine ss_X4_hinders_4 hS ?_
      rw [rg_f ha]
      exact ip rfl (ss_X4_set_7 hS (im (by decide) k))
