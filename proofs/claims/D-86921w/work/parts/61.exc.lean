/-! exceptions: caught here, or on to the caller -/
/-- the handlers of the place pc: each with the number of its class -/
def hsR (own : String) (pc : Nat) : List (Nat × Nat × Nat × Nat) → List (Nat × Nat) → Prop
  | [], hs => hs = []
  | (a, b, t, ct) :: r, hs => (¬ (a ≤ pc ∧ pc < b) ∧ hsR own pc r hs) ∨ (a ≤ pc ∧ pc < b ∧ ct ≠ 0 ∧ ∃ k nm hs', hs = (k, t) :: hs' ∧ Cond.classLink own ct nm ∈ lw_all ∧ fitsK k nm ∧ (∀ q ∈ hs', q.1 = k ∨ (kOK q.1 ∧ (kname q.1, nm) ∈ ncL)) ∧ hsR own pc r hs')
theorem z_yes {Q : Handler → Pre} {E : CtlPost} {e : Env} {d : Bool} {acts : List Action} {s : State} {f : JFrame} {a : Addr} {x : ExceptionTableEntry} {t : List ExceptionTableEntry} {c : ClassId} {cell : Cell} (hx : covers x f.pc = true) (h0 : x.catchType ≠ 0)
    (hl : s.vm.ClassLinks e.platform f.method.cls x.catchType c) (hcell : s.heap[a]? = some cell) (hobj : ∀ k, cell.vm ≠ .statics k) (hk : ∃ k, s.vm.classes[cell.cls]? = some k) (hc : ∃ k, s.vm.classes[c]? = some k) (hfit : s.vm.assignable cell.cls c = true) :
    wp (findHandler.go f a (x :: t)) Q E e d acts s ↔ Q (.found x.handlerPc) d acts (s.setVm (s.vm.noted f.method.cls x.catchType (.cls c))) := by
  simp only [covers] at hx
  obtain ⟨ha, ht⟩ := (resolveClass_links e.toSetting hl).op (op := VmOp.resolveClass f.method.cls x.catchType) rfl
  have hal : s.vm.Alike (s.vm.noted f.method.cls x.catchType (.cls c)) := (Vm.Alike.refl s.vm).noted _ _ _
  obtain ⟨k1, hk1⟩ := hk
  obtain ⟨k2, hk2⟩ := hc
  obtain ⟨k1', hk1', -⟩ := hal.2.2 _ _ hk1
  obtain ⟨k2', hk2', -⟩ := hal.2.2 _ _ hk2
  have hfit' : (s.vm.noted f.method.cls x.catchType (.cls c)).assignable cell.cls c = true := by rw [hal.assignable]; exact hfit
  simp [findHandler.go, hx, h0, ha, ht, hcell, hobj, hk1', hk2', hfit', VmOp.dirties, VmOp.acts]
theorem z_no {Q : Handler → Pre} {E : CtlPost} {e : Env} {d : Bool} {acts : List Action} {s : State} {f : JFrame} {a : Addr} {x : ExceptionTableEntry} {t : List ExceptionTableEntry} {c : ClassId} {cell : Cell} (hx : covers x f.pc = true) (h0 : x.catchType ≠ 0)
    (hl : s.vm.ClassLinks e.platform f.method.cls x.catchType c) (hcell : s.heap[a]? = some cell) (hobj : ∀ k, cell.vm ≠ .statics k) (hk : ∃ k, s.vm.classes[cell.cls]? = some k) (hc : ∃ k, s.vm.classes[c]? = some k) (hno : s.vm.assignable cell.cls c = false) :
    wp (findHandler.go f a (x :: t)) Q E e d acts s ↔ wp (findHandler.go f a t) Q E e d acts (s.setVm (s.vm.noted f.method.cls x.catchType (.cls c))) := by
  simp only [covers] at hx
  obtain ⟨ha, ht⟩ := (resolveClass_links e.toSetting hl).op (op := VmOp.resolveClass f.method.cls x.catchType) rfl
  have hal : s.vm.Alike (s.vm.noted f.method.cls x.catchType (.cls c)) := (Vm.Alike.refl s.vm).noted _ _ _
  obtain ⟨k1, hk1⟩ := hk
  obtain ⟨k2, hk2⟩ := hc
  obtain ⟨k1', hk1', -⟩ := hal.2.2 _ _ hk1
  obtain ⟨k2', hk2', -⟩ := hal.2.2 _ _ hk2
  have hno' : (s.vm.noted f.method.cls x.catchType (.cls c)).assignable cell.cls c = false := by rw [hal.assignable]; exact hno
  simp [findHandler.go, hx, h0, ha, ht, hcell, hobj, hk1', hk2', hno', VmOp.dirties, VmOp.acts]
/-- the search through a table finds the first handler of the exception's class -/
theorem find_go {g : gp} {e : Env} {s : State} {f : JFrame} {own : String} (hown : s.vm.findClass own = some f.method.cls) (E : Ev g s) (hpl : e.platform.magicAccessors = ({} : Platform).magicAccessors) {x : Addr} {cell : Cell} (hobj : ∀ k, cell.vm ≠ .statics k) {k0 : Nat} (hcls : s.vm.findClass (kname k0) = some cell.cls) :
    ∀ (es : List ExceptionTableEntry) (hs : List (Nat × Nat)) (S : State), s.WarmedH S.vm → S.heap[x]? = some cell → hsR own f.pc (es.map fun q => (q.startPc, q.endPc, q.handlerPc, q.catchType)) hs → ∀ t, hs.lookup k0 = some t →
      ∃ vm', s.WarmedH vm' ∧ ∀ (Q : Handler → Pre) (Ex : CtlPost) (d : Bool) (acts : List Action), wp (findHandler.go f x es) Q Ex e d acts S ↔ Q (.found t) d acts (S.setVm vm') := by
  obtain ⟨kX, hkX, -⟩ := Vm.findClass_spec hcls
  intro es
  induction es with
  | nil =>
    intro hs S hW hcell h t ht
    have h' : hs = [] := h
    rw [h'] at ht
    cases ht
  | cons q es ih =>
    intro hs S hW hcell h t ht
    rcases h with ⟨h1, h2⟩ | ⟨h1, h2, h3, k, nm, hs', h4, h5, h6, h7, h8⟩
    · have hc : covers q f.pc = false := by
        simp only [covers, Bool.and_eq_false_iff, decide_eq_false_iff_not]
        rcases Nat.lt_or_ge f.pc q.startPc with w | w
        · left; exact Nat.not_le.mpr w
        · right; intro w2; exact h1 ⟨w, w2⟩
      obtain ⟨vm', hW', hf⟩ := ih hs S hW hcell h2 t ht
      exact ⟨vm', hW', fun Q Ex d acts => by rw [W.findHandler_go_skip hc]; exact hf Q Ex d acts⟩
    · have hc : covers q f.pc = true := by
        simp only [covers, Bool.and_eq_true, decide_eq_true_eq]
        exact ⟨h1, h2⟩
      subst h4
      obtain ⟨cT, hcT, hcl⟩ := Cond.classLink_spec hown (E.w h5 #[]) e.platform hpl
      obtain ⟨dk, _, _, kt, hd, _, _, _, _, hkt, _, hopen⟩ := hcl.here
      have hal := hW.alike
      obtain ⟨kt', hkt', -⟩ := hal.2.2 _ _ hkt
      obtain ⟨kX', hkX', -⟩ := hal.2.2 _ _ hkX
      have hW2 : s.WarmedH (S.vm.noted f.method.cls q.catchType (.cls cT)) := hW.noted hd hopen (State.rightAt_cls hcl)
      by_cases hk : k0 = k
      · subst hk
        have e1 : t = q.handlerPc := by simpa using ht.symm
        subst e1
        have hfit : s.vm.assignable cell.cls cT = true := by
          rcases h6.2 with w | w
          · rw [w] at hcls
            cases hcls.symm.trans hcT
            exact va_asg _ _
          · obtain ⟨c0, t0, f1, f2, f3⟩ := Cond.castable_spec (va_Nw.use (A := #[]) rfl (E.2.1 _ w stay_cast))
            cases hcls.symm.trans f1
            cases hcT.symm.trans f2
            exact f3
        exact ⟨_, hW2, fun Q Ex d acts => z_yes hc h3 (hW.classLinks hcl) hcell hobj ⟨kX', hkX'⟩ ⟨kt', hkt'⟩ (by rw [hal.assignable]; exact hfit)⟩
      · have ht2 : hs'.lookup k0 = some t := by
          rw [List.lookup_cons] at ht
          have : (k0 == k) = false := by simpa using hk
          rw [this] at ht
          exact ht
        have hmem : ∃ y, (k0, y) ∈ hs' := by
          have := List.lookup_eq_some_iff.mp ht2
          obtain ⟨l1, l2, e2, -⟩ := this
          exact ⟨t, by rw [e2]; simp⟩
        obtain ⟨y, hy⟩ := hmem
        rcases h7 _ hy with w | ⟨-, w⟩
        · exact absurd w hk
        · obtain ⟨c0, t0, f1, f2, f3⟩ := E.2.2.2.2.1 _ w
          cases hcls.symm.trans f1
          cases hcT.symm.trans f2
          obtain ⟨vm', hW', hf⟩ := ih hs' (S.setVm (S.vm.noted f.method.cls q.catchType (.cls cT))) hW2 hcell h8 t ht2
          refine ⟨vm', hW', fun Q Ex d acts => ?_⟩
          rw [z_no hc h3 (hW.classLinks hcl) hcell hobj ⟨kX', hkX'⟩ ⟨kt', hkt'⟩ (by rw [hal.assignable]; exact f3)]
          exact hf Q Ex d acts
theorem hsR_nil {own : String} {pc : Nat} : ∀ {es : List (Nat × Nat × Nat × Nat)}, hsR own pc es [] → ∀ q ∈ es, ¬ (q.1 ≤ pc ∧ pc < q.2.1) := by
  intro es
  induction es with
  | nil => intro _ q hq; exact absurd hq List.not_mem_nil
  | cons q es ih =>
    intro h r hr
    rcases h with ⟨h1, h2⟩ | ⟨h1, h2, h3, k, nm, hs', h4, -⟩
    · rcases List.mem_cons.mp hr with w | w
      · rw [w]; exact h1
      · exact ih h2 r w
    · cases h4
