/-! a static method, called by the name of a class below the one that declares it -/
theorem stat_coldUp {Q : Unit → Pre} {E : CtlPost} {e : Env} {d : Bool} {acts : List Action} {s s₀ : State} {f : JFrame} {index ci n c : Nat} {m : MethodId} {dk ck : Class} {cf : ClassFile} {name desc : String} (hs : s.topJava?.isSome) (hp : e.platform.polymorphicOnlyByInvokevirtual = true)
    (hW : s₀.WarmedH s.vm) (hE : s₀.MethodEntryUp e s.vm f.method.cls index c m ci) (h1 : s₀.vm.classes[f.method.cls]? = some dk) (h2 : dk.cf = some cf)
    (h3 : cf.constantPool[index]? = some (if false then .interfaceMethodref ci n else .methodref ci n)) (h4 : cf.constantPool.nameAndType? n = some (name, desc))
    (hck : s₀.vm.classes[c]? = some ck) (hnone : (ck.methods.any fun x => x.name == name && !x.isStatic && signaturePolymorphic ck x) = false) :
    wp (invokestatic.sem index) Q E e d acts (s.setTop f) ↔ wp (invokestatic.sem index) Q E e d acts ((s.setVm (s.vm.calledUp f.method.cls ci index c m)).setTop f) := by
  obtain ⟨hgc, hrc, hW₁, hgm⟩ := hE.classFirst
  obtain ⟨k₀, hk₀, he₀⟩ := hW.alike.2.2 _ _ h1
  obtain ⟨k₂, hk₂, he₂⟩ := hE.warmed.alike.2.2 _ _ h1
  obtain ⟨c₁, hc₁, hec₁⟩ := hW₁.alike.2.2 _ _ hck
  obtain ⟨c₂, hc₂, hec₂⟩ := hE.warmed.alike.2.2 _ _ hck
  have hb₀ := memberRef_ask_via (e := e) hk₀ (by rw [he₀]; exact h2) h3 h4
  have hb₂ := memberRef_ask_via (e := e) hk₂ (by rw [he₂]; exact h2) h3 h4
  have hn₁ : (c₁.methods.any fun x => x.name == name && !x.isStatic && signaturePolymorphic c₁ x) = false := by rw [hec₁]; exact hnone
  have hn₂ : (c₂.methods.any fun x => x.name == name && !x.isStatic && signaturePolymorphic c₂ x) = false := by rw [hec₂]; exact hnone
  have hs₁ : (s.setVm (s.vm.noted f.method.cls ci (.cls c))).topJava?.isSome := hs
  have hs₂ : (s.setVm (s.vm.calledUp f.method.cls ci index c m)).topJava?.isSome := hs
  have hL : ∀ {Q' : ClassId → Pre} {d' : Bool} {acts' : List Action}, wp (Jvm.resolveClassAt ci) Q' E e d' acts' (s.setTop f) ↔ Q' c d' acts' ((s.setVm (s.vm.noted f.method.cls ci (.cls c))).setTop f) :=
    W.resolveClassAt_links (t := s.setTop f) (State.method?_setTop f hs) hgc
  have hM : ∀ {Q' : MethodId → Pre} {d' : Bool} {acts' : List Action}, wp (Jvm.resolveMethodAt index) Q' E e d' acts' ((s.setVm (s.vm.noted f.method.cls ci (.cls c))).setTop f) ↔ Q' m d' acts' ((s.setVm (s.vm.calledUp f.method.cls ci index c m)).setTop f) :=
    W.resolveMethodAt_links (t := (s.setVm (s.vm.noted f.method.cls ci (.cls c))).setTop f) (State.method?_setTop f hs₁) hgm
  simp [invokestatic.sem, hp, Seam.memberRefOf, State.method?_setTop f hs, State.method?_setTop f hs₂, hb₀, hb₂, hL, W.resolveClassAt_ready (s := (s.setVm (s.vm.calledUp f.method.cls ci index c m)).setTop f) (State.method?_setTop f hs₂) hE.classReady,
    hc₁, hc₂, hn₁, hn₂, hM, W.resolveMethodAt_ready (s := (s.setVm (s.vm.calledUp f.method.cls ci index c m)).setTop f) (State.method?_setTop f hs₂) hE.ready, -Array.any_eq_true]
section StatUp
variable {p : Program} {l : Launch} {e : Env} {R : Room} {s : State} {m : MethodId} {args : Array Value} {below : List Frame} {meth : Method} {c : Code} {T : State} {locs : List Loc} {cells slots : Nat}
theorem inv_SP (X : Stand p l e R s m args below meth c T locs cells slots) (hexec : p.tables.exec = Jvm.exec) {own owner : String} {index n : Nat} {x : MethodName} {w : Cond} (hw : CodeIs ⟨owner, x.name, x.desc⟩ w n) (hcode : w.before args s = true)
    (hown : s.vm.findClass own = some m.cls) (hlink : (Cond.methodLink own index x).before args s = true) (hsame : (Cond.sameMethod x.cls owner x.name x.desc).before args s = true) (hstat : (Cond.static ⟨owner, x.name, x.desc⟩).before args s = true) (hinit : (Cond.initialized owner).before args s = true) (howner : owner ≠ "java/lang/invoke/MethodHandle" ∧ owner ≠ "java/lang/invoke/VarHandle")
    {g : JFrame} (hg : g.method = m) {argsL rest : List Value} (hlen : (parseMethodDescriptor x.desc).map (fun d => d.parameters.length) = some argsL.length)
    (hstack : g.stack = argsL.reverse ++ rest) (hdg : decode c.code g.pc = .ok (.invokestatic index, 3)) : Inv p l e R s m args below meth c T locs cells slots g rest ⟨owner, x.name, x.desc⟩ argsL.toArray := by
  obtain ⟨r0, methM, cM, hn, hmethM, -, -, hsigM⟩ := hw.spec hcode
  have hsigM : parseMethodDescriptor x.desc = some methM.sig := hsigM
  rw [hsigM] at hlen
  have hlen2 : argsL.length = methM.sig.parameters.length := (Option.some.inj hlen).symm
  have hstatic : methM.isStatic = true := Cond.static_spec hn hmethM hstat
  have hpl : e.platform.magicAccessors = ({} : Platform).magicAccessors := by rw [X.admits.platform]
  have hpv : e.platform.polymorphicOnlyByInvokevirtual = true := by rw [X.admits.platform]
  obtain ⟨cn, ck, r1, hcn, hck, hni, hf, hn1⟩ := Cond.sameMethod_found hsame
  cases hn.symm.trans hn1
  obtain ⟨ci, hl, hright⟩ := Cond.methodLink_specUp hown hcn hck hni hf hlink e.platform hpl (by rw [X.admits.platform])
  have hE : s.MethodEntryUp e T.vm m.cls index cn r0 ci := State.methodEntryUp X.warmed hl hright
  obtain ⟨kr, hkr, hnr⟩ := className_of_methodNamed hn
  have hinitP : kr.init = .initialized := Cond.initialized_spec (findClass_of_methodNamed hn) hkr hinit
  obtain ⟨dk, cfile, nt, mname, mdesc, ck1, _, _, hd, hcf, hcp, hnt, -, -, hck1, -, hnopoly, -⟩ := hl.here
  cases hck.symm.trans hck1
  have hcp : cfile.constantPool[index]? = some (if false then .interfaceMethodref ci nt else .methodref ci nt) := hcp
  have alike := hE.warmed.alike
  obtain ⟨dk₂, hdk₂, hed₂⟩ := alike.2.2 _ _ hd
  obtain ⟨kr₂, hkr₂, her⟩ := alike.2.2 _ _ hkr
  obtain ⟨k₂, hk₂, he₂⟩ := alike.2.2 _ _ hck
  have hnone : (ck.methods.any fun y => y.name == mname && !y.isStatic && signaturePolymorphic ck y) = false := by simp [hnopoly]
  have hnone₂ : (k₂.methods.any fun y => y.name == mname && !y.isStatic && signaturePolymorphic k₂ y) = false := by rw [he₂]; exact hnone
  refine ⟨T.vm.calledUp m.cls ci index cn r0, r0, X.noted hE.warmed, (X.noted hE.warmed).named hn, fun target hrest => ?_⟩
  subst hg
  jvm_step X.here [hexec, hdg, stat_coldUp (e := e) (s := T) (s₀ := s) (f := g) X.here.top hpv X.warmed hE hd hcf hcp hnt hck hnone,
    invokestatic.wp_ready (e := e) (s := T.setVm (T.vm.calledUp g.method.cls ci index cn r0)) (k := kr₂) (meth := methM) (m := r0) (args := argsL) (rest := rest) (f := g)
      X.here.top ⟨ci, mname, mdesc, false, cn, k₂, memberRef_ask_via (e := e) hdk₂ (by rw [hed₂]; exact hcf) hcp hnt, hE.classReady, hk₂, hnone₂⟩ hE.ready hkr₂
      (by show (T.vm.calledUp g.method.cls ci index cn r0).method? r0 = some methM; rw [alike.method?]; exact hmethM) (by rw [her]; show signaturePolymorphic kr methM = false; simp [signaturePolymorphic, hnr, howner.1, howner.2]) hstatic (by rw [her]; exact hinitP) hlen2 hstack]
  exact fun acts => by rw [doInvoke_state]; exact hrest
end StatUp
section StatUp2
variable {yN : Nat → MethodName} {yW : Nat → Cond} {z : mi} {pc : Nat}
theorem site_SP {y n idx nL : Nat} {x : MethodName} {owner : String} (hd : decode z.2.1 pc = .ok (.invokestatic idx, 3)) (hy : yN y = ⟨owner, x.name, x.desc⟩) (hcw : CodeIs (yN y) (yW y) nL) (hnL : nL ≤ 13) (hwy : yW y ∈ lw_all) (hini : Cond.initialized (yN y).cls ∈ lw_all) (hlink : Cond.methodLink z.1 idx x ∈ lw_all) (hsame : Cond.sameMethod x.cls owner x.name x.desc ∈ lw_all) (hst : Cond.static (yN y) ∈ lw_all) (hpl : plainY (yN y)) (hlen : (parseMethodDescriptor x.desc).map (fun d => d.parameters.length) = some n) : Site yN yW z pc y n 3 rvS := by
  refine ⟨⟨_, hd⟩, ⟨nL, hcw, hnL⟩, hwy, hini, fun g p l e R s m args below meth c d h0 C h as rest T locs cells slots L hn _ wf rp X => ?_⟩
  have E := C.2.2.2.2.1
  have k1 : (yN y).cls = owner := by rw [hy]
  have e1 : (as.reverse ++ rest).map (cv g) = (as.map (cv g)).reverse ++ rest.map (cv g) := by simp [List.map_reverse]
  rw [e1, hy]
  rw [hy] at hcw hst hpl
  rw [k1] at hini
  exact inv_SP X C.1 hcw (E.w hwy args) C.2.2.2.1 (E.w hlink args) (E.w hsame args) (E.w hst args) (E.w hini args) hpl rfl (by rw [map_len, hn]; exact hlen) rfl (by rw [C.2.1]; exact hd)
end StatUp2
section GetC
variable {yN : Nat → MethodName} {yW : Nat → Cond} {z : mi} {pc : Nat}
abbrev gcY : MethodName := ⟨"java/lang/Object", "getClass", "()Ljava/lang/Class;"⟩
theorem ok_getc {idx : Nat} (hd : decode z.2.1 pc = .ok (.invokevirtual idx, 3)) (h1 : Cond.methodLink z.1 idx gcY ∈ lw_all) (h2 : Cond.declares gcY ∈ lw_tbl) (h3 : Cond.selects "[Ljava/lang/Object;" gcY gcY ∈ lw_all) (h4 : Cond.instanceMethod gcY ∈ lw_all) (h5 : Cond.native gcY ∈ lw_all) : RowOK yN yW z pc o_getc := by
  intro g p l e R s m args below meth c d h0 Q C W' X' Q' hW hX hQ ls st h kT wf okl oks H locs L cells slots rp hl hlo hb hB
  unfold o_getc at kT
  split at kT
  · rename_i r st
    obtain ⟨hsh, kT⟩ := kT
    cases r with
    | none => exact kT.elim
    | some a =>
      obtain ⟨hk, kT⟩ := kT
      have E := C.2.2.2.2.1
      have hsh2 : st.length ≤ 8 := Nat.le_of_ble_eq_true hsh
      have hcat := sum_cat g st
      have hf1 : d + 9 ≤ R.frames := C.2.2.2.2.2.2.2.2.2.1
      have hf2 : 40 * d + 10500 ≤ R.locals := C.2.2.2.2.2.2.2.2.2.2.1
      obtain ⟨cell, q1, q2, q3⟩ := E.nam wf rp (a := a) (by rw [hk]; exact Or.inr ⟨by decide, by decide⟩)
      rw [hk] at q3
      have k := hX _ _ _ _ kT wf okl (okL_cons trivial oks.tl) H locs L cells slots rp hl hlo hb hB
      rw [List.map_cons, cv_ext (by decide)] at k
      exact va_getC C.1 C.2.1 (by rw [C.2.2.1, ← hl.1.1]) C.2.2.2.1 (E.w h1 args) (E.t h2 stay_decl rfl args) (E.w h3 args) (E.w h4 args) (E.w h5 args) E.x.2.2.2.2 ⟨cell, q1, q2.2.1, q3⟩ (by omega) (by omega) hd k
  · exact kT.elim
end GetC
