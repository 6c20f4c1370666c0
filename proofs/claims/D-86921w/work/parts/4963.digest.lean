/-! digest -/
def dg (v : Int) (l : List Int) : Int := l.foldl (fun v w => l_add (l_mul 31 v) w) v
theorem dg_app (v : Int) (a b : List Int) : dg v (a ++ b) = dg (dg v a) b := List.foldl_append
theorem la0 (v : Int) : l_add (l_mul 31 v) 0 = l_mul 31 v := by
  unfold l_add l_mul
  rw [Int.add_zero]
  unfold s64
  exact Int.bmod_bmod
def dnL (σ : zS) : Nat → Nat → List Int
  | 0, _ => []
  | c + 1, k => (if σ 0 k = 0 then [0] else [1, σ 1 k]) ++ dnL σ c (k + 1)
def itL (σ : zS) (id : Nat) : Nat → Nat → List Int
  | 0, _ => []
  | c + 1, j => σ 5 (12 * id + j) :: itL σ id c (j + 1)
def rwL (σ : zS) : Nat → Nat → List Int
  | 0, _ => []
  | c + 1, k => (if σ 2 k < 0 then [0] else [1, σ 3 (σ 2 k).toNat, σ 4 (σ 2 k).toNat] ++ itL σ (σ 2 k).toNat (σ 4 (σ 2 k).toNat).toNat 0) ++ rwL σ c (k + 1)
def plL (σ : zS) (k : Nat) : Nat → Nat → List Int
  | 0, _ => []
  | c + 1, j => σ 7 (30 * k + j) :: plL σ k c (j + 1)
def hgL (σ : zS) : Nat → Nat → List Int
  | 0, _ => []
  | c + 1, k => (σ 6 k :: plL σ k (σ 6 k).toNat 0) ++ hgL σ c (k + 1)
def frL (h : hp) : Nat → Nat → List Int
  | 0, _ => []
  | c + 1, j => hI h 79 j :: hI h 80 j :: frL h c (j + 1)
def ruL (h : hp) : Option zK → List Int
  | none => [7]
  | some k => [(k.1 : Int), (k.2.1 : Int), sg k.2.2.1, (k.2.2.2.1.length : Int)] ++ frL h k.2.2.2.1.length 0
def alL (h : hp) (σ : zS) (K : Option zK) : List Int := dnL σ 26 0 ++ (rwL σ 6 0 ++ (hgL σ 4 0 ++ ruL h K))
theorem n1k {k : Nat} (h : k < 100000) : n_add ((k : Nat) : Int) 1 = ((k + 1 : Nat) : Int) := by rw [na_eq (by omega) (by omega)]; omega
theorem xd1 {d : Nat} {Q : qt} {h : hp} {σ : zS} {ρ : Nat → Nat} {v4 : av} (hS : St h) (hZ : XZ h σ ρ) : ∀ (c k : Nat) (v : Int), k + c = 26 → Wp d C_X0_digest Q 55 [vR (some 68), vJ (dg v (dnL σ c k)), vU, vI 0, v4] [] h → Wp d C_X0_digest Q 4 [vR (some 68), vJ v, vU, vI (k : Nat), v4] [] h := by
  intro c
  induction c with
  | zero => intro k v e z; exact ss_X0_digest_4 hS (im (by omega) z)
  | succ c ih =>
    intro k v e z
    obtain ⟨e1, e2, e3⟩ := hZ.1.1 k (by omega)
    refine ss_X0_digest_4 hS (ip (by omega) ⟨by omega, ?_⟩)
    rw [Int.toNat_natCast, e1, n1k (by omega)]
    unfold dnL at z
    rw [dg_app] at z
    by_cases y : σ 0 k = 0
    · rw [if_pos y] at z
      refine ip y (ih (k + 1) _ (by omega) ?_)
      have : dg v [0] = l_mul 31 v := la0 v
      rw [this] at z
      exact z
    · rw [if_neg y] at z
      refine im y ⟨by omega, ?_⟩
      rw [e3 (by omega)]
      exact ih (k + 1) _ (by omega) z
theorem xd2i {d : Nat} {Q : qt} {h : hp} {σ : zS} {ρ : Nat → Nat} {k id n : Nat} (hS : St h) (hZ : XZ h σ ρ) (hk : k < 6) (e2 : σ 2 k = (id : Nat)) (e4 : σ 4 id = (n : Nat)) (hn : n ≤ 12) : ∀ (c j : Nat) (v : Int), j + c = n → (∀ v4, Wp (d + 1) C_X0_digest Q 55 [vR (some 68), vJ (dg v (itL σ id c j)), vU, vI ((k + 1 : Nat) : Int), v4] [] h) → Wp (d + 1) C_X0_digest Q 123 [vR (some 68), vJ v, vU, vI (k : Nat), vI (j : Nat)] [] h := by
  have t3 := ho_t hS (k := k) (by omega)
  have eid : (σ 2 k).toNat = id := by rw [e2, Int.toNat_natCast]
  intro c
  induction c with
  | zero =>
    intro j v e z
    refine ss_X0_digest_123 hS ⟨by omega, ?_⟩
    rw [Int.toNat_natCast, ho_r hS hk, ofR_some]
    refine ip (by rw [t3]) (c_hsz hS hZ.1 (by omega) (by omega) ?_)
    rw [eid, e4]
    refine ss_X0_digest_134 hS (im (by omega) ?_)
    rw [n1k (by omega)]
    exact z _
  | succ c ih =>
    intro j v e z
    refine ss_X0_digest_123 hS ⟨by omega, ?_⟩
    rw [Int.toNat_natCast, ho_r hS hk, ofR_some]
    refine ip (by rw [t3]) (c_hsz hS hZ.1 (by omega) (by omega) ?_)
    rw [eid, e4]
    refine ss_X0_digest_134 hS (ip (by omega) ⟨by omega, ?_⟩)
    rw [Int.toNat_natCast, ho_r hS hk, ofR_some]
    refine ip (by rw [t3]) (c_hgt hS hZ.1 (by omega) (by omega) (by rw [eid, e4]; omega) ?_)
    rw [eid]
    refine ss_X0_digest_153 hS ?_
    rw [n1k (by omega)]
    exact ih (j + 1) _ (by omega) z
theorem xd2 {d : Nat} {Q : qt} {h : hp} {σ : zS} {ρ : Nat → Nat} (hS : St h) (hZ : XZ h σ ρ) : ∀ (c k : Nat) (v : Int) (v4 : av), k + c = 6 → (∀ v4, Wp (d + 1) C_X0_digest Q 169 [vR (some 68), vJ (dg v (rwL σ c k)), vU, vI 0, v4] [] h) → Wp (d + 1) C_X0_digest Q 55 [vR (some 68), vJ v, vU, vI (k : Nat), v4] [] h := by
  intro c
  induction c with
  | zero => intro k v v4 e z; exact ss_X0_digest_55 hS (im (by omega) (z _))
  | succ c ih =>
    intro k v v4 e z
    have hk : k < 6 := by omega
    have t3 := ho_t hS (k := k) (by omega)
    refine ss_X0_digest_55 hS (ip (by omega) ⟨by omega, ?_⟩)
    rw [Int.toNat_natCast, ho_r hS hk, ofR_some]
    refine ⟨by rw [t3]; simp, ?_⟩
    unfold rwL at z
    rcases hZ.1.2.1 k (by omega) with ⟨q1, q2⟩ | ⟨id, q0, q1, q2, q3⟩
    · rw [if_pos (by omega)] at z
      refine ip q2 ?_
      rw [n1k (by omega)]
      refine ih (k + 1) _ _ (by omega) (fun w => ?_)
      have z1 := z w
      rw [dg_app, show dg v [0] = l_mul 31 v from la0 v] at z1
      exact z1
    · have eid : (σ 2 k).toNat = id := by rw [q1, Int.toNat_natCast]
      obtain ⟨-, -, -, -, ⟨n, n1, n2, -⟩, -⟩ := q3
      rw [if_neg (by omega), eid, n2, Int.toNat_natCast] at z
      refine im (by rw [q2]; simp) ⟨by omega, ?_⟩
      rw [ofR_some]
      refine ip (by rw [t3]) (c_hkd hS hZ.1 (by omega) (by omega) ?_)
      rw [eid]
      refine ss_X0_digest_105 hS ⟨by omega, ?_⟩
      rw [Int.toNat_natCast, ho_r hS hk, ofR_some]
      refine ip (by rw [t3]) (c_hsz hS hZ.1 (by omega) (by omega) ?_)
      rw [eid]
      refine ss_X0_digest_117 hS ?_
      refine xd2i hS hZ hk q1 n2 n1 n 0 _ (by omega) (fun w => ?_)
      refine ih (k + 1) _ _ (by omega) (fun w => ?_)
      have z1 := z w
      rw [dg_app, dg_app] at z1
      rw [n2]
      exact z1
theorem xd3i {d : Nat} {Q : qt} {h : hp} {σ : zS} {ρ : Nat → Nat} {k n : Nat} (hS : St h) (hZ : XZ h σ ρ) (hk : k < 4) (e6 : σ 6 k = (n : Nat)) (hn : n ≤ 30) : ∀ (c j : Nat) (v : Int), j + c = n → (∀ v4, Wp d C_X0_digest Q 169 [vR (some 68), vJ (dg v (plL σ k c j)), vU, vI ((k + 1 : Nat) : Int), v4] [] h) → Wp d C_X0_digest Q 191 [vR (some 68), vJ v, vU, vI (k : Nat), vI (j : Nat)] [] h := by
  intro c
  induction c with
  | zero =>
    intro j v e z
    refine ss_X0_digest_191 hS ⟨by omega, ?_⟩
    rw [Int.toNat_natCast, (hZ.2.1 k hk).1, e6, n1k (k := k) (by omega)]
    exact im (by omega) (z _)
  | succ c ih =>
    intro j v e z
    refine ss_X0_digest_191 hS ⟨by omega, ?_⟩
    rw [Int.toNat_natCast, (hZ.2.1 k hk).1, e6, i30 hk (by omega), Int.toNat_natCast, hZ.2.2 _ (by omega), n1k (by omega)]
    exact ip (by omega) ⟨by omega, ih (j + 1) _ (by omega) z⟩
theorem xd3 {d : Nat} {Q : qt} {h : hp} {σ : zS} {ρ : Nat → Nat} (hS : St h) (hZ : XZ h σ ρ) : ∀ (c k : Nat) (v : Int) (v4 : av), k + c = 4 → (∀ v4, Wp d C_X0_digest Q 169 [vR (some 68), vJ (dg v (hgL σ c k)), vU, vI 4, v4] [] h) → Wp d C_X0_digest Q 169 [vR (some 68), vJ v, vU, vI (k : Nat), v4] [] h := by
  intro c
  induction c with
  | zero => intro k v v4 e z; have := z v4; rw [show k = 4 by omega]; exact this
  | succ c ih =>
    intro k v v4 e z
    have hk : k < 4 := by omega
    obtain ⟨f1, f2, f3⟩ := hZ.2.1 k hk
    obtain ⟨n, en⟩ : ∃ n : Nat, σ 6 k = (n : Nat) := ⟨(σ 6 k).toNat, by omega⟩
    unfold hgL at z
    rw [en, Int.toNat_natCast] at z
    refine ss_X0_digest_169 hS (ip (by omega) ⟨by omega, ?_⟩)
    rw [Int.toNat_natCast, f1, en]
    refine xd3i hS hZ hk en (by omega) n 0 _ (by omega) (fun w => ?_)
    refine ih (k + 1) _ _ (by omega) (fun w => ?_)
    have z1 := z w
    rw [dg_app] at z1
    exact z1
theorem xd4 {d : Nat} {Q : qt} {h : hp} {n : Nat} (hS : St h) (e24 : hI h 68 24 = (n : Nat)) (hn : n ≤ 12) : ∀ (c j : Nat) (v : Int) (v4 : av), j + c = n → Q (.inl (some (vJ (dg v (frL h c j))))) h → Wp d C_X0_digest Q 295 [vR (some 68), vJ v, vU, vI (j : Nat), v4] [] h := by
  intro c
  induction c with
  | zero =>
    intro j v v4 e z
    refine ss_X0_digest_295 hS ?_
    rw [e24]
    exact im (by omega) z
  | succ c ih =>
    intro j v v4 e z
    refine ss_X0_digest_295 hS ?_
    rw [e24, Int.toNat_natCast, n1k (by omega)]
    exact ip (by omega) ⟨by omega, by omega, ih (j + 1) _ _ (by omega) z⟩
theorem x_dig {d : Nat} {Q : qt} {h : hp} {σ : zS} {ρ : Nat → Nat} {R : Nat → Option zT} {K : Option zK} (hS : St h) (hZ : XZ h σ ρ) (hK : XRu h K) (gK : Gk R K) (q : Q (.inl (some (vJ (dg 1 (alL h σ K))))) h) : Wc (d + 2) 87 [vR (some 68)] h Q := by
  refine se_X0_digest hS ?_
  refine xd1 hS hZ 26 0 1 (by decide) ?_
  refine xd2 hS hZ 6 0 _ _ (by decide) (fun v4 => ?_)
  refine xd3 hS hZ 4 0 _ _ (by decide) (fun v5 => ?_)
  unfold alL at q
  rw [dg_app, dg_app, dg_app] at q
  refine ss_X0_digest_169 hS (im (by decide) ?_)
  cases K with
  | none =>
    have e : hI h 68 19 = -1 := hK
    exact ip (by rw [e]; decide) q
  | some k =>
    obtain ⟨⟨m1, m2, m3, m4, m5⟩, m6⟩ := hK
    refine im (by rw [m1]; omega) ?_
    rw [m1, m2, m3, m4]
    exact xd4 hS m4 gK.1.2.2.1 k.2.2.2.1.length 0 _ _ (by omega) (by unfold ruL at q; rw [dg_app] at q; exact q)
/-! m -/
def pDg (a j : Nat) : Prop := a = 116 ∧ j = 63
def Dg (h0 h : hp) (v : Int) : Prop := FN pDg h0 h ∧ hL h 116 63 = v ∧ (∀ a j, hI h a j = hI h0 a j) ∧ ∀ j, hL h 138 j = hL h0 138 j
theorem c_dgs {d : Nat} {Q : qt} {h0 h : hp} {v w : Int} (g : Dg h0 h v) (k : ∀ h', Dg h0 h' (l_add (l_mul 31 v) w) → Q (.inl none) h') : Wc (d + 1) 221 [vR (some 116), vJ w] h Q := by
  obtain ⟨g1, g2, g3, g4⟩ := g
  refine se_X4_digests g1.1.2.2.1 ?_
  rw [g2]
  refine k _ ⟨FN_sL g1 ⟨rfl, rfl⟩, by rw [hL_sL, if_pos ⟨rfl, rfl⟩], g3, fun j => by rw [hL_sL, if_neg (by omega)]; exact g4 j⟩
theorem Dg_St {h0 h : hp} {v : Int} (g : Dg h0 h v) : St h := g.1.1.2.2.1
theorem md1 {d : Nat} {Q : qt} {h0 : hp} {σ : zS} {w2 w3 : av} (hV : MV h0 σ) (h01 : ∀ k, k < 26 → σ 0 k = 0 ∨ σ 0 k = 1) : ∀ (c k : Nat) (h : hp) (v : Int), k + c = 26 → Dg h0 h v → (∀ h', Dg h0 h' (dg v (dnL σ c k)) → Wp (d + 1) C_X4_digest Q 57 [vR (some 116), vI 0, w2, w3] [] h') → Wp (d + 1) C_X4_digest Q 7 [vR (some 116), vI (k : Nat), w2, w3] [] h := by
  intro c
  induction c with
  | zero => intro k h v e g z; exact ss_X4_digest_7 (Dg_St g) (im (by omega) (z h g))
  | succ c ih =>
    intro k h v e g z
    have hk : k < 26 := by omega
    refine ss_X4_digest_7 (Dg_St g) (ip (by omega) ?_)
    rw [g.2.2.1, MV_bit hV hk]
    refine c_dgs g (fun h1 g1 => ?_)
    refine ss_X4_digest_26 (Dg_St g1) ?_
    rw [g1.2.2.1, MV_bit hV hk]
    unfold dnL at z
    have nx : ∀ h2 v2, Dg h0 h2 v2 → (∀ h', Dg h0 h' (dg v2 (dnL σ c (k + 1))) → Wp (d + 1) C_X4_digest Q 57 [vR (some 116), vI 0, w2, w3] [] h') → Wp (d + 1) C_X4_digest Q 49 [vR (some 116), vI (k : Nat), w2, w3] [] h2 := by
      intro h2 v2 g2 z2
      refine ss_X4_digest_49 (Dg_St g2) ?_
      rw [n1k (by omega)]
      exact ih (k + 1) h2 v2 (by omega) g2 z2
    rcases h01 k hk with y | y
    · rw [if_pos y] at z
      rw [y] at g1 ⊢
      refine im (by decide) (nx h1 _ g1 (fun h' g' => z h' ?_))
      rw [dg_app]; exact g'
    · rw [if_neg (by omega)] at z
      rw [y] at g1 ⊢
      refine ip rfl ⟨by omega, ?_⟩
      rw [Int.toNat_natCast, g1.2.2.1, hV.2.1 k hk y]
      refine c_dgs g1 (fun h2 g2 => nx h2 _ g2 (fun h' g' => z h' ?_))
      rw [dg_app]; exact g'
theorem md2i {d : Nat} {Q : qt} {h0 : hp} {σ : zS} {id k n : Nat} (hV : MV h0 σ) (hi : id < 14) (e4 : σ 4 id = (n : Nat)) (hn : n ≤ 12) (hk : k < 6) : ∀ (c j : Nat) (h : hp) (v : Int), j + c = n → Dg h0 h v → (∀ h' w3, Dg h0 h' (dg v (itL σ id c j)) → Wp (d + 1) C_X4_digest Q 57 [vR (some 116), vI ((k + 1 : Nat) : Int), vI (id : Nat), w3] [] h') → Wp (d + 1) C_X4_digest Q 111 [vR (some 116), vI (k : Nat), vI (id : Nat), vI (j : Nat)] [] h := by
  intro c
  induction c with
  | zero =>
    intro j h v e g z
    refine ss_X4_digest_111 (Dg_St g) ⟨by omega, ?_⟩
    rw [Int.toNat_natCast, g.2.2.1, (hV.2.2.2.1 id (by omega)).2.1, e4, n1k (by omega)]
    exact im (by omega) (z h _ g)
  | succ c ih =>
    intro j h v e g z
    refine ss_X4_digest_111 (Dg_St g) ⟨by omega, ?_⟩
    rw [Int.toNat_natCast, g.2.2.1, (hV.2.2.2.1 id (by omega)).2.1, e4, i12 hi (by omega), Int.toNat_natCast, g.2.2.2, hV.2.2.2.2.1 _ (by omega)]
    refine ip (by omega) ⟨by omega, c_dgs g (fun h1 g1 => ?_)⟩
    refine ss_X4_digest_136 (Dg_St g1) ?_
    rw [n1k (by omega)]
    exact ih (j + 1) h1 _ (by omega) g1 z
theorem md2 {d : Nat} {Q : qt} {h0 : hp} {σ : zS} (hV : MV h0 σ) : ∀ (c k : Nat) (h : hp) (v : Int) (w2 w3 : av), k + c = 6 → Dg h0 h v → (∀ h' w2 w3, Dg h0 h' (dg v (rwL σ c k)) → Wp (d + 1) C_X4_digest Q 150 [vR (some 116), vI 0, w2, w3] [] h') → Wp (d + 1) C_X4_digest Q 57 [vR (some 116), vI (k : Nat), w2, w3] [] h := by
  intro c
  induction c with
  | zero => intro k h v w2 w3 e g z; exact ss_X4_digest_57 (Dg_St g) (im (by omega) (z h _ _ g))
  | succ c ih =>
    intro k h v w2 w3 e g z
    have hk : k < 6 := by omega
    obtain ⟨f1, f2, f3⟩ := hV.2.2.1 k (by omega)
    refine ss_X4_digest_57 (Dg_St g) (ip (by omega) ⟨by omega, ?_⟩)
    rw [Int.toNat_natCast, g.2.2.1, f1]
    unfold rwL at z
    by_cases y : σ 2 k < 0
    · rw [if_pos y] at z
      refine ip y (c_dgs g (fun h1 g1 => ?_))
      refine ss_X4_digest_83 (Dg_St g1) (ip y ?_)
      rw [n1k (by omega)]
      refine ih (k + 1) h1 _ _ _ (by omega) g1 (fun h' w2 w3 g' => z h' w2 w3 ?_)
      rw [dg_app]; exact g'
    · obtain ⟨id, eid⟩ : ∃ id : Nat, σ 2 k = (id : Nat) := ⟨(σ 2 k).toNat, by omega⟩
      obtain ⟨p1, p2, p3, p4⟩ := hV.2.2.2.1 id (by omega)
      obtain ⟨n, en⟩ : ∃ n : Nat, σ 4 id = (n : Nat) := ⟨(σ 4 id).toNat, by omega⟩
      rw [if_neg y, eid, Int.toNat_natCast, en, Int.toNat_natCast] at z
      refine im y (c_dgs g (fun h1 g1 => ?_))
      rw [eid]
      refine ss_X4_digest_83 (Dg_St g1) (im (by omega) ⟨by omega, ?_⟩)
      rw [Int.toNat_natCast, g1.2.2.1, p1]
      refine c_dgs g1 (fun h2 g2 => ?_)
      refine ss_X4_digest_98 (Dg_St g2) ⟨by omega, ?_⟩
      rw [Int.toNat_natCast, g2.2.2.1, p2, en]
      refine c_dgs g2 (fun h3 g3 => ?_)
      refine ss_X4_digest_109 (Dg_St g3) ?_
      refine md2i hV (by omega) en (by omega) hk n 0 h3 _ (by omega) g3 (fun h4 w3 g4 => ?_)
      refine ih (k + 1) h4 _ _ _ (by omega) g4 (fun h' w2 w3 g' => z h' w2 w3 ?_)
      rw [dg_app, dg_app]; exact g'
theorem md3i {d : Nat} {Q : qt} {h0 : hp} {σ : zS} {k n : Nat} {w3 : av} (hV : MV h0 σ) (hk : k < 4) (e6 : σ 6 k = (n : Nat)) (hn : n ≤ 30) : ∀ (c j : Nat) (h : hp) (v : Int), j + c = n → Dg h0 h v → (∀ h' w2, Dg h0 h' (dg v (plL σ k c j)) → Wp (d + 1) C_X4_digest Q 150 [vR (some 116), vI ((k + 1 : Nat) : Int), w2, w3] [] h') → Wp (d + 1) C_X4_digest Q 168 [vR (some 116), vI (k : Nat), vI (j : Nat), w3] [] h := by
  intro c
  induction c with
  | zero =>
    intro j h v e g z
    refine ss_X4_digest_168 (Dg_St g) ⟨by omega, ?_⟩
    rw [Int.toNat_natCast, g.2.2.1, hV.2.2.2.2.2.1 k hk, e6, n1k (by omega)]
    exact im (by omega) (z h _ g)
  | succ c ih =>
    intro j h v e g z
    refine ss_X4_digest_168 (Dg_St g) ⟨by omega, ?_⟩
    rw [Int.toNat_natCast, g.2.2.1, hV.2.2.2.2.2.1 k hk, e6, i30 hk (by omega), Int.toNat_natCast, g.2.2.1, hV.2.2.2.2.2.2 _ (by omega)]
    refine ip (by omega) ⟨by omega, c_dgs g (fun h1 g1 => ?_)⟩
    refine ss_X4_digest_194 (Dg_St g1) ?_
    rw [n1k (by omega)]
    exact ih (j + 1) h1 _ (by omega) g1 z
theorem md3 {d : Nat} {Q : qt} {h0 : hp} {σ : zS} {w3 : av} (hV : MV h0 σ) (h6 : ∀ s, s < 4 → 0 ≤ σ 6 s ∧ σ 6 s ≤ 30) : ∀ (c k : Nat) (h : hp) (v : Int) (w2 : av), k + c = 4 → Dg h0 h v → (∀ h' w2, Dg h0 h' (dg v (hgL σ c k)) → Wp (d + 1) C_X4_digest Q 150 [vR (some 116), vI 4, w2, w3] [] h') → Wp (d + 1) C_X4_digest Q 150 [vR (some 116), vI (k : Nat), w2, w3] [] h := by
  intro c
  induction c with
  | zero => intro k h v w2 e g z; rw [show k = 4 by omega]; exact z h w2 g
  | succ c ih =>
    intro k h v w2 e g z
    have hk : k < 4 := by omega
    obtain ⟨f2, f3⟩ := h6 k hk
    obtain ⟨n, en⟩ : ∃ n : Nat, σ 6 k = (n : Nat) := ⟨(σ 6 k).toNat, by omega⟩
    unfold hgL at z
    rw [en, Int.toNat_natCast] at z
    refine ss_X4_digest_150 (Dg_St g) (ip (by omega) ⟨by omega, ?_⟩)
    rw [Int.toNat_natCast, g.2.2.1, hV.2.2.2.2.2.1 k hk, en]
    refine c_dgs g (fun h1 g1 => ?_)
    refine ss_X4_digest_166 (Dg_St g1) ?_
    refine md3i hV hk en (by omega) n 0 h1 _ (by omega) g1 (fun h2 w2 g2 => ?_)
    refine ih (k + 1) h2 _ _ (by omega) g2 (fun h' w2 g' => z h' w2 ?_)
    rw [dg_app]; exact g'
theorem fr_eq2 {h h1 : hp} : ∀ {F : zF}, XFm h F → MFr h1 F → ∀ j, j < F.length → hI h1 142 j = hI h 79 j ∧ hI h1 143 j = hI h 80 j := by
  intro F
  induction F with
  | nil => intro _ _ j hj; simp at hj
  | cons x F ih =>
    intro a b j hj
    by_cases q : j = F.length
    · subst q
      exact ⟨b.1.trans a.1.symm, b.2.1.trans a.2.1.symm⟩
    · exact ih a.2.2.2 b.2.2 j (by simp at hj; omega)
theorem md4 {d : Nat} {Q : qt} {hx h0 : hp} {n : Nat} {w2 w3 : av} (e59 : hI h0 116 59 = (n : Nat)) (hn : n ≤ 12) (fe : ∀ j, j < n → hI h0 142 j = hI hx 79 j ∧ hI h0 143 j = hI hx 80 j) : ∀ (c j : Nat) (h : hp) (v : Int), j + c = n → Dg h0 h v → (∀ h', Dg h0 h' (dg v (frL hx c j)) → Q (.inl (some (vJ (dg v (frL hx c j))))) h') → Wp (d + 1) C_X4_digest Q 263 [vR (some 116), vI (j : Nat), w2, w3] [] h := by
  intro c
  induction c with
  | zero =>
    intro j h v e g z
    refine ss_X4_digest_263 (Dg_St g) ?_
    rw [g.2.2.1, e59, g.2.1]
    exact im (by omega) (z h g)
  | succ c ih =>
    intro j h v e g z
    obtain ⟨f1, f2⟩ := fe j (by omega)
    refine ss_X4_digest_263 (Dg_St g) ?_
    rw [g.2.2.1, e59, Int.toNat_natCast, g.2.2.1, f1]
    refine ip (by omega) ⟨by omega, c_dgs g (fun h1 g1 => ?_)⟩
    refine ss_X4_digest_282 (Dg_St g1) ⟨by omega, ?_⟩
    rw [Int.toNat_natCast, g1.2.2.1, f2]
    refine c_dgs g1 (fun h2 g2 => ?_)
    refine ss_X4_digest_293 (Dg_St g2) ?_
    rw [n1k (by omega)]
    exact ih (j + 1) h2 _ (by omega) g2 z
theorem m_dig {d : Nat} {Q : qt} {hx h0 : hp} {σ : zS} {R : Nat → Option zT} {K : Option zK} (hS : St h0) (hV : MV h0 σ) (h01 : ∀ k, k < 26 → σ 0 k = 0 ∨ σ 0 k = 1) (h6 : ∀ s, s < 4 → 0 ≤ σ 6 s ∧ σ 6 s ≤ 30) (hK : XRu hx K) (hM : MRu h0 K) (gK : Gk R K) (q : ∀ h', FN pDg h0 h' → Q (.inl (some (vJ (dg 1 (alL hx σ K))))) h') : Wc (d + 2) 220 [vR (some 116)] h0 Q := by
  refine se_X4_digest hS ?_
  have g0 : Dg h0 (sL h0 116 63 1) 1 := ⟨FN_sL (FN_refl hS) ⟨rfl, rfl⟩, by rw [hL_sL, if_pos ⟨rfl, rfl⟩], fun _ _ => rfl, fun j => by rw [hL_sL, if_neg (by omega)]⟩
  refine md1 hV h01 26 0 _ 1 (by decide) g0 (fun h1 g1 => ?_)
  refine md2 hV 6 0 h1 _ _ _ (by decide) g1 (fun h2 w2 w3 g2 => ?_)
  refine md3 hV h6 4 0 h2 _ _ (by decide) g2 (fun h3 w4 g3 => ?_)
  unfold alL at q
  rw [dg_app, dg_app, dg_app] at q
  refine ss_X4_digest_150 (Dg_St g3) (im (by decide) ?_)
  cases K with
  | none =>
    have e : hI h0 116 54 = 0 := hM
    refine ip (by rw [g3.2.2.1]; exact e) (c_dgs g3 (fun h4 g4 => ?_))
    refine ss_X4_digest_220 (Dg_St g4) ?_
    rw [g4.2.1]
    exact q h4 g4.1
  | some k =>
    obtain ⟨m0, ⟨m1, m2, m3, m4, m5⟩, m6⟩ := hM
    obtain ⟨⟨y1, y2, y3, y4, y5⟩, y6⟩ := hK
    refine im (by rw [g3.2.2.1, m0]; decide) ?_
    rw [g3.2.2.1, m1]
    refine c_dgs g3 (fun h4 g4 => ?_)
    refine ss_X4_digest_234 (Dg_St g4) ?_
    rw [g4.2.2.1, m2]
    refine c_dgs g4 (fun h5 g5 => ?_)
    refine ss_X4_digest_243 (Dg_St g5) ?_
    rw [g5.2.2.1, m3]
    refine c_dgs g5 (fun h6 g6 => ?_)
    refine ss_X4_digest_252 (Dg_St g6) ?_
    rw [g6.2.2.1, m4]
    refine c_dgs g6 (fun h7 g7 => ?_)
    refine ss_X4_digest_261 (Dg_St g7) ?_
    refine md4 (hx := hx) m4 gK.1.2.2.1 (fr_eq2 y5 m5) k.2.2.2.1.length 0 h7 _ (by omega) g7 (fun h8 g8 => ?_)
    have := q h8 g8.1
    unfold ruL at this
    rw [dg_app] at this
    exact this
theorem op_digest {n : Nat} {h : hp} (I : IN n h) : Pair 87 220 [vR (some 68)] [vR (some 116)] n h := by
  obtain ⟨⟨R, σ, K, w, T, F, O, L⟩, hS, x, m, g, u⟩ := I
  obtain ⟨x1, ⟨ρ, x2⟩, x3, x4, x5, x6, x7, x8, x9⟩ := id x
  dsimp only at x2 x4
  refine pair_of (s := (R, σ, K, w, T, F, O, L)) (vJ (dg 1 (alL h σ K))) (R, σ, K, w, T, F, O, L) True hS m u (fun d Q kk => ?_) (fun d h1 Q S1 M1 X1 _ kk => ?_)
  · exact x_dig hS x2 x4 g.2.2.1 (kk h (FX_refl hS) (by omega) x trivial)
  · obtain ⟨m1, m2, m4, m5, m6, m7, m8, m9⟩ := id M1
    refine m_dig S1 m2 (fun k hk => (x2.1.1 k hk).2.1) (fun s hs => (x2.2.1 s hs).2) x4 m4 g.2.2.1 (fun h' F6 => ?_)
    have F5 := F6.1
    exact kk h' (FX_mono F5 (fun c j _ z => by unfold pDg at z; unfold mpl; omega)) F6.2.2 ⟨Mc1_p F5 S1 (fun c j hc => by unfold pDg; omega) m1, MV_p2 F5 S1 (fun c j hc => by unfold pDg; omega) m2, MRu_p F5 S1 (fun c j hc => by unfold pDg; omega) m4, Mc5_p F5 S1 (by unfold pDg; omega) m5, Mq_p F5 S1 (by unfold pDg; omega) (fun j => by unfold pDg; omega) m6, Mc7_p F5 S1 (by unfold pDg; omega) (by unfold pDg; omega) m7, Mc8_p F5 S1 (by unfold pDg; omega) (fun j => by unfold pDg; omega) m8, Mc9_p F5 S1 (by unfold pDg; omega) m9⟩ g
