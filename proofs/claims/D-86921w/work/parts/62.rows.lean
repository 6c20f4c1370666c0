/-! call rows -/
theorem z_catchTo {e : Env} {s : State} {a : Addr} {f : JFrame} {r : List Frame} {pc : Nat} {vm' : Vm} (hfind : ∀ (Q : Handler → Pre) (E : CtlPost) (d : Bool) (acts : List Action), wp (findHandler f a) Q E e d acts s ↔ Q (.found pc) d acts (s.setVm vm')) :
    (stepThrowing e s a (.java f :: r)).Is ((s.setVm vm').setFrames (.java { f with pc := pc, stack := [.ref a] } :: r)) [] := by
  simp only [stepThrowing, searchFrame, vmDo]
  generalize hr : Sem.go _ e false [] s = res
  obtain ⟨as, rfl, ha⟩ := Sem.eq_ok_of hr (a := Handler.found pc) (s' := s.setVm vm') (acts' := []) (by simp [hfind _ _ _ _])
  exact ⟨rfl, ha⟩
theorem z_frames (u : State) (vm' : Vm) (F G : List Frame) : ((u.setFrames F).setVm vm').setFrames G = (u.setVm vm').setFrames G := by
  have h1 : (u.setFrames F).setVm vm' = (u.setVm vm').setFrames F := rfl
  rw [h1, State.setFrames_setFrames]
theorem z_caught {tb : Tables} {e : Env} {s target : State} {g : JFrame} {c : Code} {below : List Frame} {a : Addr} (h : At s g.method c below) {pc : Nat} {vm' : Vm}
    (hfind : ∀ (Q : Handler → Pre) (E : CtlPost) (d : Bool) (acts : List Action), wp (findHandler g a) Q E e d acts ((s.setTop g).pushFrame (.throwing a)) ↔ Q (.found pc) d acts (((s.setTop g).pushFrame (.throwing a)).setVm vm'))
    (hrest : Steps tb e below ((s.setVm vm').setTop { g with pc := pc, stack := [.ref a] }) target) : Steps tb e below ((s.setTop g).pushFrame (.throwing a)) target := by
  obtain ⟨hgo, hw⟩ := h.throwing a
  refine Steps.head hgo hw ?_
  rw [stepThread_throwing (frames_entered h.top _), (z_catchTo (s := (s.setTop g).pushFrame (.throwing a)) hfind).1]
  obtain ⟨g₀, hg⟩ := Option.isSome_iff_exists.mp h.top
  obtain ⟨r, hr⟩ := State.topJava?_eq_some.mp hg
  have hr' : (s.setVm vm').frames = .java g₀ :: r := hr
  rw [State.setTop_of_frames _ hr'] at hrest
  rw [hr, List.tail_cons, State.pushFrame, z_frames, State.setTop_of_frames _ hr, z_frames]
  exact hrest
theorem ex_lookup {X : xt} {Q : qt} {ls : List av} {a : Nat} {h : hp} : ∀ {hs : List (Nat × Nat)}, ex hs X Q ls a h → hs ≠ [] → ∃ t, hs.lookup (hT h a).1 = some t ∧ X t ls [vR (some a)] h := by
  intro hs
  induction hs with
  | nil => intro _ hn; exact absurd rfl hn
  | cons q r ih =>
    intro k _
    obtain ⟨kk, t⟩ := q
    obtain ⟨k1, k2⟩ := k
    by_cases hk : (hT h a).1 = kk
    · rw [if_pos hk] at k2
      exact ⟨t, by simp [List.lookup_cons, hk], k2⟩
    · rw [if_neg hk] at k2
      have hr : r ≠ [] := by
        intro hr
        subst hr
        rcases List.mem_cons.mp k1 with w | w
        · exact hk w
        · exact absurd w List.not_mem_nil
      obtain ⟨t2, h1, h2⟩ := ih k2 hr
      refine ⟨t2, ?_, h2⟩
      rw [List.lookup_cons]
      have : ((hT h a).1 == kk) = false := by simpa using hk
      rw [this]
      exact h1
theorem hsR_kOK {own : String} {pc : Nat} : ∀ {es : List (Nat × Nat × Nat × Nat)} {hs : List (Nat × Nat)}, hsR own pc es hs → ∀ q ∈ hs, kOK q.1 := by
  intro es
  induction es with
  | nil => intro hs h q hq; have h' : hs = [] := h; rw [h'] at hq; exact absurd hq List.not_mem_nil
  | cons e0 es ih =>
    intro hs h q hq
    rcases h with ⟨h1, h2⟩ | ⟨h1, h2, h3, k, nm, hs', h4, h5, h6, h7, h8⟩
    · exact ih h2 q hq
    · subst h4
      rcases List.mem_cons.mp hq with w | w
      · rw [w]; exact h6.1
      · exact ih h8 q w
section Rows
variable {yN : Nat → MethodName} {yW : Nat → Cond} {z : mi} {pc : Nat}
/-- an exception lies over the method's frame -/
theorem ex_W {g : gp} {h0 : hp} {Q : qt} {p : Program} {l : Launch} {e : Env} {R : Room} {s : State} {m : MethodId} {args : Array Value} {below : List Frame} {meth : Method} {c : Code} {d : Nat} (C : Cx g z d h0 p R s m meth c)
    {X' : xt} {Q' : qt} (hX : ∀ pc ls st h, X' pc ls st h → Xc g z h0 Q p l e R s m args below meth c pc ls st h) (hQ : ∀ o h, Q' o h → Q o h) {hs : List (Nat × Nat)} (hh : hsR z.1 pc z.2.2.2.2.2 hs) {ls : List av} {a : Nat} {h : hp} (hex : ex hs X' Q' ls a h)
    (wf : WFh h) (okl : okL ls) (hao : okO (.inr a) h) {T : State} (rp : Rep g h T.heap) {locs : List Loc} {cells slots : Nat} (X : Stand p l e R s m args below meth c T locs cells slots) {L : Array Slot} (hl : lsR g ls L z.2.2.1) (hlo : ∀ q ∈ locs, gB g ≤ q.base) (hb : 13 * cells + slots + hU h0 ≤ hU h) (hB : hU h ≤ BUD) {stk : List Value} :
    ∃ t, Steps p.tables e below ((T.setTop (F0 m pc L stk)).pushFrame (.throwing (phi g a))) t ∧ MX g below h0 Q args s t := by
  have hex2 : exT c = z.2.2.2.2.2 := C.2.2.2.2.2.2.2.2.1
  by_cases hn : hs = []
  · subst hn
    have hout : ∀ x ∈ c.exceptionTable.toList, covers x (F0 m pc L stk).pc = false := by
      intro x hx
      have h1 := hsR_nil hh (x.startPc, x.endPc, x.handlerPc, x.catchType) (by rw [← hex2]; exact List.mem_map.mpr ⟨x, hx, rfl⟩)
      show covers x pc = false
      simp only [covers, Bool.and_eq_false_iff, decide_eq_false_iff_not]
      rcases Nat.lt_or_ge pc x.startPc with w | w
      · left; exact Nat.not_le.mpr w
      · right; intro w2; exact h1 ⟨w, w2⟩
    obtain ⟨k1, k2, k3, k4, k5⟩ := X.leaveThrown (phi g a) (g := F0 m pc L stk) rfl rfl rfl hout C.2.2.2.2.2.2.1
    exact ⟨_, k1, .threw (phi g a), k2, k3, .inr a, h, hQ _ _ hex, rfl, hao, wf, rp, hB, k4, locs, cells, slots, k5, hlo, hb⟩
  · obtain ⟨t, ht, hXt⟩ := ex_lookup hex hn
    have hkO : kOK (hT h a).1 := by
      obtain ⟨l1, l2, e2, -⟩ := List.lookup_eq_some_iff.mp ht
      exact hsR_kOK hh ((hT h a).1, t) (by rw [e2]; simp)
    obtain ⟨cell, q1, q2, q3⟩ := C.2.2.2.2.1.nam wf rp hkO
    have hpl : e.platform.magicAccessors = ({} : Platform).magicAccessors := by rw [X.admits.platform]
    obtain ⟨vm', hW', hf⟩ := find_go (f := F0 m pc L stk) C.2.2.2.1 C.2.2.2.2.1 hpl (VmData.ne_statics_of q2.2.1) q3 c.exceptionTable.toList hs ((T.setTop (F0 m pc L stk)).pushFrame (.throwing (phi g a))) (by rw [Stand.throwing_vm]; exact X.warmed) (by rw [Stand.throwing_heap]; exact q1) (by
      have : hsR z.1 pc (exT c) hs := by rw [hex2]; exact hh
      exact this) t ht
    have X2 := X.noted hW'
    have k := hX _ _ _ _ hXt wf okl (okL_cons trivial okL_nil) (T.setVm vm').heap locs L cells slots rp hl hlo hb hB (T.setVm vm') rfl X2
    obtain ⟨t2, k1, k2⟩ := k
    refine ⟨t2, z_caught (g := F0 m pc L stk) X.here (fun Q2 E2 d2 acts2 => ?_) k1, k2⟩
    rw [W.findHandler_eq (meth := meth) (code := c) (by rw [Stand.throwing_vm]; exact X.method') X.code]
    exact hf Q2 E2 d2 acts2
theorem sum_cat (g : gp) : ∀ (l : List av), ((l.map (cv g)).map fun v => v.category).sum ≤ 2 * l.length := by
  intro l
  induction l with
  | nil => simp
  | cons v l ih =>
    have h1 : (cv g v).category ≤ 2 := by rcases lv_cat (cv g v) with w | w <;> omega
    simp only [List.map_cons, List.sum_cons, List.length_cons]
    omega
set_option maxRecDepth 100000 in
/-- a call, by the callee's contract -/
theorem call_core {g : gp} {h0 : hp} {Q : qt} {p : Program} {l : Launch} {e : Env} {R : Room} {s : State} {m : MethodId} {args : Array Value} {below : List Frame} {meth : Method} {c : Code} {d : Nat} (C : Cx g z d h0 p R s m meth c)
    {W' : wt} {X' : xt} {Q' : qt} (hW : WOK yN yW g l d W') (hX : ∀ pc ls st h, X' pc ls st h → Xc g z h0 Q p l e R s m args below meth c pc ls st h) (hQ : ∀ o h, Q' o h → Q o h) {hs : List (Nat × Nat)} (hh : hsR z.1 pc z.2.2.2.2.2 hs) {ls : List av} {h : hp} {y : Nat} {as : List av} {Qa : qt} (hy : W' y as h Qa)
    {len : Nat} {rest : List av} (hret : ∀ oa h' v, Qa oa h' → outR g oa (.returned v) → okO oa h' → ∃ st', X' (pc + len) ls st' h' ∧ okL st' ∧ st'.map (cv g) = v.toList ++ rest.map (cv g)) (hthr : ∀ a h', Qa (.inr a) h' → ex hs X' Q' ls a h')
    (okas : okL as) (wf : WFh h) (okl : okL ls) {n : Nat} (hcw : CodeIs (yN y) (yW y) n) (hn : n ≤ 13) (hwy : yW y ∈ lw_all) (hini : Cond.initialized (yN y).cls ∈ lw_all) (hsh : shrt rest = true) {H : Heap} (rp : Rep g h H) {locs : List Loc} {cells slots : Nat} {L : Array Slot} (hl : lsR g ls L z.2.2.1) (hlo : ∀ q ∈ locs, gB g ≤ q.base) (hb : 13 * cells + slots + hU h0 ≤ hU h) (hB : hU h ≤ BUD)
    {ig : Instr} (hd : decode z.2.1 pc = .ok (ig, len)) {stk : List Value}
    (hInv : ∀ T : State, T.heap = H → Stand p l e R s m args below meth c T locs cells slots → Inv p l e R s m args below meth c T locs cells slots (F0 m pc L stk) (rest.map (cv g)) (yN y) (as.map (cv g)).toArray) :
    W p l e R s m args below meth c H locs cells slots (MX g below h0 Q args s) (F0 m pc L stk) := by
  intro T hT X
  obtain ⟨d', rfl, hM⟩ := hW y as h Qa hy okas wf hB
  obtain ⟨vm₁, mk, X₁, hnm, hstep⟩ := hInv T hT X
  have E := C.2.2.2.2.1
  have EU : Ev g (T.setVm vm₁) := E.warm X₁.warmed
  obtain ⟨mk2, methY, cY, hn2, hmY, hcY, hlY, -⟩ := hcw.spec (EU.w hwy #[])
  cases hnm.symm.trans hn2
  have hfr : 40 * (d' + 1) + 10500 ≤ R.locals := C.2.2.2.2.2.2.2.2.2.2.1
  have hfr1 : d' + 1 + 9 ≤ R.frames := C.2.2.2.2.2.2.2.2.2.1
  have hbud := C.2.2.2.2.2.2.2.2.2.2.2
  have hsh2 : rest.length ≤ 8 := Nat.le_of_ble_eq_true hsh
  have hcat := sum_cat g rest
  have hr1 : (rmD d' h).locals = 40 * d' + 10500 := rfl
  have hr2 : (rmD d' h).frames = d' + 9 := rfl
  have hr3 : (rmD d' h).cells = (BUD - hU h) / 13 := by unfold rmD; dsimp only
  have hr4 : (rmD d' h).slots = BUD - hU h := by unfold rmD; dsimp only
  have hm0 : ({ F0 m pc L stk with stack := rest.map (cv g) } : JFrame).monitorRoom = 0 := rfl
  have hb2 := hbud (cells + (BUD - hU h) / 13) 0 (by have := Nat.div_mul_le_self (BUD - hU h) 13; omega)
  have hb3 := hbud 0 (slots + (BUD - hU h)) (by omega)
  have hbud0 : 13 * cells + slots + hU h0 ≤ hU h := hb
  obtain ⟨oa, h', T', L2, k, nn, q1, q2, q3, q4, q5, X', hL2, hbd, hend⟩ := callG X₁ hM (g := { F0 m pc L stk with stack := rest.map (cv g) }) rfl (by rw [C.2.2.1, ← hl.1.1]) (ig := ig) (len := len) (by rw [C.2.1]; exact hd) hnm hmY hcY
    (by rw [hr2]; omega) (by rw [hr1, hm0]; dsimp only; omega) (by rw [hr3]; exact hb2.1) (by rw [hr4]; exact hb3.2) (EU.w hwy _) (EU.w hini _) (by show Rep g h T.heap; rw [hT]; exact rp) EU
  have hlo2 : ∀ q ∈ locs ++ L2, gB g ≤ q.base := fun q hq => by
    rcases List.mem_append.mp hq with w | w
    · exact hlo q w
    · exact hL2 q w
  rcases hend with ⟨v, ho, hsteps⟩ | ⟨a, rfl, hsteps⟩
  · obtain ⟨st', r1, r2, r3⟩ := hret oa h' v q1 ho q2
    have kk := hX _ _ _ _ r1 q3 okl r2 T'.heap (locs ++ L2) L (cells + k) (slots + nn) q4 hl hlo2 (by omega) q5 T' rfl X'
    rw [r3] at kk
    obtain ⟨t, k1, k2⟩ := kk
    exact ⟨t, hstep _ (hsteps.trans k1), k2⟩
  · obtain ⟨t, k1, k2⟩ := ex_W C hX hQ hh (hthr a h' q1) q3 okl q2 q4 X' hl hlo2 (by omega) q5 (stk := rest.map (cv g))
    exact ⟨t, hstep _ (hsteps.trans k1), k2⟩
end Rows
