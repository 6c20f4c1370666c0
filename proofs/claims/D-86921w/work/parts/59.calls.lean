/-! returns, and calls by contract -/
theorem W_post {p : Program} {l : Launch} {e : Env} {R : Room} {s : State} {m : MethodId} {args : Array Value} {below : List Frame} {meth : Method} {c : Code} {H : Heap} {locs : List Loc} {cells slots : Nat} {Q Q2 : State → Prop} {g : JFrame} (h : ∀ t, Q t → Q2 t) (k : W p l e R s m args below meth c H locs cells slots Q g) : W p l e R s m args below meth c H locs cells slots Q2 g := by
  intro T hT X
  obtain ⟨t, a, b⟩ := k T hT X
  exact ⟨t, a, h t b⟩
theorem MX_of {g : gp} {below : List Frame} {h0 h : hp} {Q : qt} {args : Array Value} {s : State} {cells slots : Nat} {H : Heap} {oa : Option av ⊕ Nat} {o : Outcome} (hQ : Q oa h) (ho : outR g oa o) (hk : okO oa h) (wf : WFh h) (rp : Rep g h H) (hb : 13 * cells + slots + hU h0 ≤ hU h) (hB : hU h ≤ BUD) (t : State) (ht : MQ below (fun _ _ o2 t => o2 = o ∧ t.heap = H) args s cells slots (fun q => gB g ≤ q) t) : MX g below h0 Q args s t := by
  obtain ⟨o2, h1, h2, ⟨h3, h4⟩, L, ⟨-, h5, h6⟩, h7⟩ := ht
  subst h3
  exact ⟨_, h1, h2, oa, h, hQ, ho, hk, wf, by rw [h4]; exact rp, hB, h5, L, cells, slots, h6, h7, hb⟩
theorem nar_byte {x : Int} (h1 : -128 ≤ x) (h2 : x ≤ 127) : narrow .byte (.int (Int32.ofInt x)) = .int (Int32.ofInt x) := by
  show Value.int ((Int32.ofInt x).toInt8.toInt32) = _
  congr 1
  apply Int32.toInt_inj.mp
  have hx : (Int32.ofInt x).toInt = x := in32_lit (by omega)
  rw [Int8.toInt_toInt32, Int32.toInt_toInt8, hx]
  exact Int.bmod_eq_of_le (by omega) (by omega)
theorem nar_char {x : Int} (h1 : 0 ≤ x) (h2 : x ≤ 65535) : narrow .char (.int (Int32.ofInt x)) = .int (Int32.ofInt x) := by
  show Value.int (((Int32.ofInt x).toUInt32 % 65536).toInt32) = _
  congr 1
  obtain ⟨n, rfl⟩ : ∃ n : Nat, x = n := ⟨x.toNat, by omega⟩
  have hn : n < 65536 := by omega
  have e0 : Int32.ofInt (n : Int) = (UInt32.ofNat n).toInt32 := by
    apply Int32.toInt_inj.mp
    rw [show (Int32.ofInt (n : Int)).toInt = n from in32_lit (by omega)]
    show (n : Int) = ((UInt32.ofNat n).toInt32).toInt
    show (n : Int) = (BitVec.ofNat 32 n).toInt
    rw [BitVec.toInt_eq_toNat_bmod, BitVec.toNat_ofNat, Nat.mod_eq_of_lt (by omega)]
    exact (Int.bmod_eq_of_le (by omega) (by omega)).symm
  rw [e0]
  show ((UInt32.ofNat n) % 65536).toInt32 = (UInt32.ofNat n).toInt32
  congr 1
  apply UInt32.toNat_inj.mp
  rw [UInt32.toNat_mod, UInt32.toNat_ofNat_of_lt' (by show n < 4294967296; omega)]
  exact Nat.mod_eq_of_lt hn
section Rows
variable {yN : Nat → MethodName} {yW : Nat → Cond} {z : mi} {pc : Nat}
theorem ok_ri (hr : z.2.2.2.1 = some .int) (hd : decode z.2.1 pc = .ok (.ireturn, 1)) : RowOK yN yW z pc o_ri := by
  intro g p l e R s m args below meth c d h0 Q C W' X' Q' hW hX hQ ls st h kT wf okl oks H locs L cells slots rp hl hlo hb hB
  unfold o_ri at kT
  split at kT
  · rename_i x
    have hlk : meth.locks = false := C.2.2.2.2.2.2.1
    exact W_post (MX_of (oa := .inl (some (vI x))) (o := .returned (some (.int (Int32.ofInt x)))) (hQ _ _ kT) rfl oks.hd wf rp hb hB) (W.iret C.1 C.2.1 (by rw [C.2.2.2.2.2.1]; exact hr) (fun t ht _ => ⟨rfl, ht⟩) hlo hd hlk)
  · exact kT.elim
theorem ok_rz (hr : z.2.2.2.1 = some .boolean) (hd : decode z.2.1 pc = .ok (.ireturn, 1)) : RowOK yN yW z pc o_rz := by
  intro g p l e R s m args below meth c d h0 Q C W' X' Q' hW hX hQ ls st h kT wf okl oks H locs L cells slots rp hl hlo hb hB
  unfold o_rz at kT
  split at kT
  · rename_i x
    have hlk : meth.locks = false := C.2.2.2.2.2.2.1
    exact W_post (MX_of (oa := .inl (some (vI x))) (o := .returned (some (.int (Int32.ofInt x)))) (hQ _ _ kT.2) rfl oks.hd wf rp hb hB) (W.zret C.1 C.2.1 (by rw [C.2.2.2.2.2.1]; exact hr) (by rcases kT.1 with rfl | rfl <;> rfl) (fun t ht _ => ⟨rfl, ht⟩) hlo hd hlk)
  · exact kT.elim
theorem ok_rb (hr : z.2.2.2.1 = some .byte) (hd : decode z.2.1 pc = .ok (.ireturn, 1)) : RowOK yN yW z pc (o_rr (-128) 127) := by
  intro g p l e R s m args below meth c d h0 Q C W' X' Q' hW hX hQ ls st h kT wf okl oks H locs L cells slots rp hl hlo hb hB
  unfold o_rr at kT
  split at kT
  · rename_i x
    have hlk : meth.locks = false := C.2.2.2.2.2.2.1
    exact W_post (MX_of (oa := .inl (some (vI x))) (o := .returned (some (.int (Int32.ofInt x)))) (hQ _ _ kT.2.2) rfl oks.hd wf rp hb hB) (W.zret C.1 C.2.1 (by rw [C.2.2.2.2.2.1]; exact hr) (nar_byte kT.1 kT.2.1) (fun t ht _ => ⟨rfl, ht⟩) hlo hd hlk)
  · exact kT.elim
theorem ok_rc (hr : z.2.2.2.1 = some .char) (hd : decode z.2.1 pc = .ok (.ireturn, 1)) : RowOK yN yW z pc (o_rr 0 65535) := by
  intro g p l e R s m args below meth c d h0 Q C W' X' Q' hW hX hQ ls st h kT wf okl oks H locs L cells slots rp hl hlo hb hB
  unfold o_rr at kT
  split at kT
  · rename_i x
    have hlk : meth.locks = false := C.2.2.2.2.2.2.1
    exact W_post (MX_of (oa := .inl (some (vI x))) (o := .returned (some (.int (Int32.ofInt x)))) (hQ _ _ kT.2.2) rfl oks.hd wf rp hb hB) (W.zret C.1 C.2.1 (by rw [C.2.2.2.2.2.1]; exact hr) (nar_char kT.1 kT.2.1) (fun t ht _ => ⟨rfl, ht⟩) hlo hd hlk)
  · exact kT.elim
theorem ok_rj (hr : z.2.2.2.1 = some .long) (hd : decode z.2.1 pc = .ok (.lreturn, 1)) : RowOK yN yW z pc o_rj := by
  intro g p l e R s m args below meth c d h0 Q C W' X' Q' hW hX hQ ls st h kT wf okl oks H locs L cells slots rp hl hlo hb hB
  unfold o_rj at kT
  split at kT
  · rename_i x
    have hlk : meth.locks = false := C.2.2.2.2.2.2.1
    exact W_post (MX_of (oa := .inl (some (vJ x))) (o := .returned (some (.long (Int64.ofInt x)))) (hQ _ _ kT) rfl oks.hd wf rp hb hB) (W.lret C.1 C.2.1 (by rw [C.2.2.2.2.2.1]; exact hr) (fun t ht _ => ⟨rfl, ht⟩) hlo hd hlk)
  · exact kT.elim
theorem ok_ra {ty : FieldType} (hr : z.2.2.2.1 = some ty) (hty : (∃ n, ty = .object n) ∨ ∃ t, ty = .array t) (hd : decode z.2.1 pc = .ok (.areturn, 1)) : RowOK yN yW z pc o_ra := by
  intro g p l e R s m args below meth c d h0 Q C W' X' Q' hW hX hQ ls st h kT wf okl oks H locs L cells slots rp hl hlo hb hB
  unfold o_ra at kT
  split at kT
  · rename_i r
    have hlk : meth.locks = false := C.2.2.2.2.2.2.1
    exact W_post (MX_of (oa := .inl (some (vR r))) (o := .returned (some (cr g r))) (hQ _ _ kT) rfl trivial wf rp hb hB) (W.aret C.1 C.2.1 (by rw [C.2.2.2.2.2.1]; exact hr) hty (by cases r with | none => exact Or.inl rfl | some a => exact Or.inr ⟨_, rfl⟩) (fun t ht _ => ⟨rfl, ht⟩) hlo hd hlk)
  · exact kT.elim
theorem ok_rv (hr : z.2.2.2.1 = none) (hd : decode z.2.1 pc = .ok (.return_, 1)) : RowOK yN yW z pc o_rv := by
  intro g p l e R s m args below meth c d h0 Q C W' X' Q' hW hX hQ ls st h kT wf okl oks H locs L cells slots rp hl hlo hb hB
  unfold o_rv at kT
  split at kT
  · have hlk : meth.locks = false := C.2.2.2.2.2.2.1
    exact W_post (MX_of (oa := .inl none) (o := .returned none) (hQ _ _ kT) rfl trivial wf rp hb hB) (W.vret C.1 C.2.1 (by rw [C.2.2.2.2.2.1]; exact hr) (fun t ht _ => ⟨rfl, ht⟩) hlo hd hlk)
  · exact kT.elim
end Rows
/-- A CALL BY CONTRACT, WITH EITHER OUTCOME -/
theorem callG {p : Program} {l : Launch} {e : Env} {R : Room} {s : State} {m : MethodId} {args : Array Value} {below : List Frame} {meth : Method} {c : Code} {U : State} {Ls : List Loc} {c0 s0 : Nat} (X : Stand p l e R s m args below meth c U Ls c0 s0)
    {y : MethodName} {w : Cond} {rm : Room} {gg : gp} {h : hp} {as : List av} {Qa : qt} (hM : MetFree l y (headSpec [w] rm) (PcG gg h as) (fun _ _ _ _ _ => True) (QcG gg h Qa))
    {g : JFrame} (hg : g.method = m) (hsize : g.locals.size = c.maxLocals) {ig : Instr} {len : Nat} (hdg : decode c.code g.pc = .ok (ig, len)) {mk : MethodId} (hn : U.methodNamed? y = some mk)
    {methY : Method} {cY : Code} (hmY : U.vm.method? mk = some methY) (hcY : methY.code = some cY) (hframes : rm.frames + 1 ≤ R.frames) (hlocals : 2 * g.monitorRoom + (g.stack.map fun v => v.category).sum + (cY.maxLocals + 11) + rm.locals ≤ R.locals)
    (hcells : c0 + rm.cells ≤ R.cells) (hslots : s0 + rm.slots ≤ R.slots) (hw : w.before (as.map (cv gg)).toArray U = true) (hini : (Cond.initialized y.cls).before #[] U = true) (rp : Rep gg h U.heap) (E : Ev gg U) :
    ∃ (oa : Option av ⊕ Nat) (h' : hp) (T' : State) (L : List Loc) (k n : Nat), Qa oa h' ∧ okO oa h' ∧ WFh h' ∧ Rep gg h' T'.heap ∧ hU h' ≤ BUD ∧ Stand p l e R s m args below meth c T' (Ls ++ L) (c0 + k) (s0 + n) ∧ (∀ q ∈ L, gB gg ≤ q.base) ∧ 13 * k + n + hU h ≤ hU h' ∧
      ((∃ v, outR gg oa (.returned v) ∧ Steps p.tables e below (doInvoke e (U.setTop g) [] mk (as.map (cv gg)).toArray).1 (T'.setTop { g with pc := g.pc + len, stack := v.toList ++ g.stack })) ∨
       (∃ a, oa = .inr a ∧ Steps p.tables e below (doInvoke e (U.setTop g) [] mk (as.map (cv gg)).toArray).1 ((T'.setTop g).pushFrame (.throwing (phi gg a))))) := by
  obtain ⟨kY, hkY, -⟩ := className_of_methodNamed hn
  have hinitY : kY.init = .initialized := Cond.initialized_spec (findClass_of_methodNamed hn) hkY hini
  have hAt : At U g.method c below := by rw [hg]; exact X.here
  have happ : (headSpec [w] rm).appliesLoose y e.platform (U.calling g mk (as.map (cv gg)).toArray) = true :=
    Spec.appliesLoose_calling (g := g) hAt hdg hn hkY hinitY (X.room_calling (g := g) (R' := rm) hsize hmY hcY hframes hlocals hcells hslots) (atoms_intro fun x hx => by rw [List.mem_singleton.mp hx]; exact hw)
  obtain ⟨mid, hmid⟩ := hAt.above
  have hfr : (U.setTop g).frames = (.java g :: mid) ++ below := by rw [State.frames_setTop' g hAt.top, hmid]; rfl
  have EU : Ev gg (U.calling g mk (as.map (cv gg)).toArray) := E.warm (U := U.calling g mk (as.map (cv gg)).toArray) (State.WarmedH.refl U)
  obtain ⟨o, t, hsteps, -, hend, hq⟩ := Steps.callFree hM p X.admits X.cas X.clock (acts := []) hfr happ ⟨rfl, rp, EU⟩ trivial
  have hq' : QcG gg h Qa (as.map (cv gg)).toArray (U.calling g mk (as.map (cv gg)).toArray) o t := hq
  obtain ⟨oa, h', q1, q2, q3, q4, q5, q6, hW2, L, k, n, hsame, hL, hbud⟩ := hq'
  rw [State.frames_setTop' g hAt.top] at hend
  obtain ⟨g₀, hg0⟩ := Option.isSome_iff_exists.mp hAt.top
  obtain ⟨r, hr⟩ := State.topJava?_eq_some.mp hg0
  cases o with
  | returned v =>
    obtain ⟨e2, z2, z3, z4, z5, z6⟩ := id hsame
    have e3 : t = ({ (U.calling g mk (as.map (cv gg)).toArray).setFrames t.frames with heap := t.heap, slotsUsed := t.slotsUsed } : State).setVm t.vm := by
      have : t = ({ t with vm := (U.calling g mk (as.map (cv gg)).toArray).vm } : State).setVm t.vm := rfl
      rw [e2] at this
      exact this
    obtain ⟨c₂, i₂, len₂, hc₂, hd₂, hf₂⟩ := hend
    have hW' : U.WarmedH t.vm := hW2
    have hcc : c₂ = c := by
      have h1 : t.code? g.method = U.code? g.method := by
        rw [State.code?_eq, State.code?_eq, hW'.alike.method?]
      exact Option.some.inj (hc₂.symm.trans (h1.trans hAt.code))
    subst hcc
    have hlen : len₂ = len := by rw [hdg] at hd₂; cases hd₂; rfl
    subst hlen
    have hs₂ : t = (({ U with heap := t.heap, slotsUsed := t.slotsUsed } : State).setVm t.vm).setTop { g with pc := g.pc + len₂, stack := v.toList ++ g.stack } := by
      have hr' : (({ U with heap := t.heap, slotsUsed := t.slotsUsed } : State).setVm t.vm).frames = .java g₀ :: r := hr
      refine e3.trans ?_
      rw [hf₂, State.calling_eq hAt.top, State.setFrames_setFrames, State.setTop_of_frames _ hr', hr]
      rfl
    have hsame2 : U.sameButNew ({ U with heap := t.heap, slotsUsed := t.slotsUsed } : State) L k n := by
      refine ⟨?_, z2, z3, z4, z5, z6⟩
      obtain ⟨th, hth, -⟩ := State.frames_cons hr
      show ({ U with heap := t.heap, slotsUsed := t.slotsUsed } : State) = { U.setFrames U.frames with heap := t.heap, slotsUsed := t.slotsUsed }
      rw [State.setFrames_self hth]
    subst hg
    refine ⟨oa, h', (({ U with heap := t.heap, slotsUsed := t.slotsUsed } : State).setVm t.vm), L, k, n, q1, q3, q4, q5, q6,
      ⟨X.admits, X.cas, X.clock, X.frames, X.room, X.hears, X.method, X.code, (X.here.setHeapUsed t.heap t.slotsUsed).setVm hW'.alike, X.tail, State.WarmedH.trans X.warmed hW', X.limits, X.bytes, X.same.trans (hsame2.setVm s.vm)⟩, hL, hbud, Or.inl ⟨v, q2, ?_⟩⟩
    show Steps p.tables e below _ ((({ U with heap := t.heap, slotsUsed := t.slotsUsed } : State).setVm t.vm).setTop { g with pc := g.pc + len₂, stack := v.toList ++ g.stack })
    rw [← hs₂]
    exact hsteps
  | threw x =>
    have hr2 : U.frames.tail = below := X.tail
    have hend2 : Ended t (.java g :: below) (.threw x) := by
      rw [hr] at hend hr2
      have : r = below := hr2
      rw [this] at hend
      exact hend
    obtain ⟨T', XT, -, hsm, hteq⟩ := X.outOfThrown hg hend2 hW2 hsame
    have hheap : T'.heap = t.heap := by rw [hteq, Stand.throwing_heap]
    cases oa with
    | inl v =>
      cases v with
      | none => cases q2
      | some v => cases q2
    | inr a =>
      have hx : x = phi gg a := by cases q2; rfl
      refine ⟨.inr a, h', T', L, k, n, q1, q3, q4, by rw [hheap]; exact q5, q6, XT, hL, hbud, Or.inr ⟨a, rfl, ?_⟩⟩
      rw [← hx, ← hteq]
      exact hsteps
