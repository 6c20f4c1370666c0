/-! the kinds of call -/
section Sites
variable {yN : Nat → MethodName} {yW : Nat → Cond} {z : mi} {pc : Nat}
theorem map_len {g : gp} (as : List av) : (as.map (cv g)).length = as.length := List.length_map _
theorem site_S {y n idx nL : Nat} (hd : decode z.2.1 pc = .ok (.invokestatic idx, 3)) (hcw : CodeIs (yN y) (yW y) nL) (hnL : nL ≤ 13) (hwy : yW y ∈ lw_all) (hini : Cond.initialized (yN y).cls ∈ lw_all) (hlink : Cond.methodLink z.1 idx (yN y) ∈ lw_all) (hst : Cond.static (yN y) ∈ lw_all) (hpl : plainY (yN y)) (hlen : (parseMethodDescriptor (yN y).desc).map (fun d => d.parameters.length) = some n) : Site yN yW z pc y n 3 rvS := by
  refine ⟨⟨_, hd⟩, ⟨nL, hcw, hnL⟩, hwy, hini, fun g p l e R s m args below meth c d h0 C h as rest T locs cells slots L hn _ wf rp X => ?_⟩
  have E := C.2.2.2.2.1
  exact inv_S X C.1 hcw (E.w hwy args) C.2.2.2.1 (E.w hlink args) (E.w hst args) (E.w hini args) hpl rfl (argsL := as.map (cv g)) (by rw [map_len, hn]; exact hlen) (by show ((as.reverse ++ rest).map (cv g)) = _; rw [List.map_append, List.map_reverse]) (by rw [C.2.1]; exact hd)
theorem site_SN {y n idx nL : Nat} {host : String} (hd : decode z.2.1 pc = .ok (.invokestatic idx, 3)) (hcw : CodeIs (yN y) (yW y) nL) (hnL : nL ≤ 13) (hwy : yW y ∈ lw_all) (hini : Cond.initialized (yN y).cls ∈ lw_all) (hlink : Cond.methodLinkNest z.1 idx (yN y) host ∈ lw_tbl) (hst : Cond.static (yN y) ∈ lw_all) (hpl : plainY (yN y)) (hlen : (parseMethodDescriptor (yN y).desc).map (fun d => d.parameters.length) = some n) : Site yN yW z pc y n 3 rvS := by
  refine ⟨⟨_, hd⟩, ⟨nL, hcw, hnL⟩, hwy, hini, fun g p l e R s m args below meth c d h0 C h as rest T locs cells slots L hn _ wf rp X => ?_⟩
  have E := C.2.2.2.2.1
  exact inv_SN X C.1 hcw (E.w hwy args) C.2.2.2.1 (va_Nw.use (A := args) rfl (E.2.1 _ hlink stay_mln)) (E.w hst args) (E.w hini args) hpl rfl (argsL := as.map (cv g)) (by rw [map_len, hn]; exact hlen) (by show ((as.reverse ++ rest).map (cv g)) = _; rw [List.map_append, List.map_reverse]) (by rw [C.2.1]; exact hd)
theorem stk_eq {g : gp} {as rest r : List av} {b : Nat} (h : as = vR (some b) :: r) : (as.reverse ++ rest).map (cv g) = (r.map (cv g)).reverse ++ .ref (phi g b) :: rest.map (cv g) ∧ (as.map (cv g)).toArray = (Value.ref (phi g b) :: r.map (cv g)).toArray := by
  subst h
  refine ⟨?_, rfl⟩
  simp [List.map_reverse]
  rfl
theorem site_V {k y n idx nL : Nat} (hd : decode z.2.1 pc = .ok (.invokevirtual idx, 3)) (hcw : CodeIs (yN y) (yW y) nL) (hnL : nL ≤ 13) (hwy : yW y ∈ lw_all) (hini : Cond.initialized (yN y).cls ∈ lw_all) (hlink : Cond.methodLink z.1 idx (yN y) ∈ lw_all) (hin : Cond.instanceMethod (yN y) ∈ lw_all) (hk : kOK k) (hsel : Cond.selects (kname k) (yN y) (yN y) ∈ lw_all) (hpl : plainY (yN y)) (hlen : (parseMethodDescriptor (yN y).desc).map (fun d => d.parameters.length) = some n) : Site yN yW z pc y (n + 1) 3 (rvV k) := by
  refine ⟨⟨_, hd⟩, ⟨nL, hcw, hnL⟩, hwy, hini, fun g p l e R s m args below meth c d h0 C h as rest T locs cells slots L hn hrv wf rp X => ?_⟩
  have E := C.2.2.2.2.1
  obtain ⟨b, r, rfl, hbk⟩ := hrv
  have hrl : r.length = n := by simpa using hn
  obtain ⟨cell, q1, q2, q3⟩ := E.nam wf rp (a := b) (by rw [hbk]; exact hk)
  rw [hbk] at q3
  obtain ⟨e1, e2⟩ := stk_eq (g := g) (rest := rest) (r := r) (b := b) rfl
  rw [e1, e2]
  exact inv_V X C.1 hcw (E.w hwy args) C.2.2.2.1 (E.w hlink args) (E.w hin args) (E.w hsel args) hpl q1 q2.2.1 q3 rfl (by rw [map_len, hrl]; exact hlen) rfl (by rw [C.2.1]; exact hd)
theorem site_VN {k y n idx nL : Nat} {host : String} (hd : decode z.2.1 pc = .ok (.invokevirtual idx, 3)) (hcw : CodeIs (yN y) (yW y) nL) (hnL : nL ≤ 13) (hwy : yW y ∈ lw_all) (hini : Cond.initialized (yN y).cls ∈ lw_all) (hlink : Cond.methodLinkNest z.1 idx (yN y) host ∈ lw_tbl) (hin : Cond.instanceMethod (yN y) ∈ lw_all) (hk : kOK k) (hsel : Cond.selects (kname k) (yN y) (yN y) ∈ lw_all) (hpl : plainY (yN y)) (hlen : (parseMethodDescriptor (yN y).desc).map (fun d => d.parameters.length) = some n) : Site yN yW z pc y (n + 1) 3 (rvV k) := by
  refine ⟨⟨_, hd⟩, ⟨nL, hcw, hnL⟩, hwy, hini, fun g p l e R s m args below meth c d h0 C h as rest T locs cells slots L hn hrv wf rp X => ?_⟩
  have E := C.2.2.2.2.1
  obtain ⟨b, r, rfl, hbk⟩ := hrv
  have hrl : r.length = n := by simpa using hn
  obtain ⟨cell, q1, q2, q3⟩ := E.nam wf rp (a := b) (by rw [hbk]; exact hk)
  rw [hbk] at q3
  obtain ⟨e1, e2⟩ := stk_eq (g := g) (rest := rest) (r := r) (b := b) rfl
  rw [e1, e2]
  exact inv_VN X C.1 hcw (E.w hwy args) C.2.2.2.1 (va_Nw.use (A := args) rfl (E.2.1 _ hlink stay_mln)) (E.w hin args) (E.w hsel args) hpl q1 q2.2.1 q3 rfl (by rw [map_len, hrl]; exact hlen) rfl (by rw [C.2.1]; exact hd)
theorem site_VU {k y n idx nL : Nat} {x : MethodName} {owner : String} (hd : decode z.2.1 pc = .ok (.invokevirtual idx, 3)) (hcw : CodeIs (yN y) (yW y) nL) (hnL : nL ≤ 13) (hwy : yW y ∈ lw_all) (hini : Cond.initialized (yN y).cls ∈ lw_all) (hlink : Cond.methodLink z.1 idx x ∈ lw_all) (hsame : Cond.sameMethod x.cls owner x.name x.desc ∈ lw_all) (hdecl : Cond.declares ⟨owner, x.name, x.desc⟩ ∈ lw_tbl ∨ Cond.instanceMethod ⟨owner, x.name, x.desc⟩ ∈ lw_all ∧ ∃ w n2, CodeIs ⟨owner, x.name, x.desc⟩ w n2 ∧ w ∈ lw_all) (hin : Cond.instanceMethod (yN y) ∈ lw_all) (hk : kOK k) (hsel : Cond.selects (kname k) x (yN y) ∈ lw_all) (hpl : owner ≠ "java/lang/invoke/MethodHandle" ∧ owner ≠ "java/lang/invoke/VarHandle") (hlen : (parseMethodDescriptor x.desc).map (fun d => d.parameters.length) = some n) : Site yN yW z pc y (n + 1) 3 (rvV k) := by
  refine ⟨⟨_, hd⟩, ⟨nL, hcw, hnL⟩, hwy, hini, fun g p l e R s m args below meth c d h0 C h as rest T locs cells slots L hn hrv wf rp X => ?_⟩
  have E := C.2.2.2.2.1
  obtain ⟨b, r, rfl, hbk⟩ := hrv
  have hrl : r.length = n := by simpa using hn
  obtain ⟨cell, q1, q2, q3⟩ := E.nam wf rp (a := b) (by rw [hbk]; exact hk)
  rw [hbk] at q3
  obtain ⟨e1, e2⟩ := stk_eq (g := g) (rest := rest) (r := r) (b := b) rfl
  have hD : va_Decl s ⟨owner, x.name, x.desc⟩ := by
    rcases hdecl with w | ⟨w1, w, n2, w2, w3⟩
    · exact va_Decl.abs (E.2.1 _ w stay_decl)
    · obtain ⟨mk, methM, t1, t2, t3, -⟩ := Cond.instanceMethod_spec (E.w w1 args)
      obtain ⟨mk2, methM2, cM, u1, u2, -, -, u5⟩ := w2.spec (E.w w3 args)
      cases t1.symm.trans u1
      cases t2.symm.trans u2
      exact ⟨mk, methM, t1, t2, t3, u5⟩
  rw [e1, e2]
  exact inv_VU X C.1 C.2.2.2.1 (E.w hlink args) (E.w hsame args) hD hpl (E.w hsel args) (E.w hin args) q1 q2.2.1 q3 rfl (by rw [map_len, hrl]; exact hlen) rfl (by rw [C.2.1]; exact hd)
theorem site_I {y n idx nL : Nat} {bytes : ByteArray} (hd : decode z.2.1 pc = .ok (.invokespecial idx, 3)) (hcw : yW y = .code (yN y) bytes nL none) (hnL : nL ≤ 13) (hwy : yW y ∈ lw_all) (hini : Cond.initialized (yN y).cls ∈ lw_all) (hnm : (yN y).name = "<init>") (hlink : Cond.methodLink z.1 idx (yN y) ∈ lw_all) (hin : Cond.instanceMethod (yN y) ∈ lw_all) (hpl : plainY (yN y)) (hlen : (parseMethodDescriptor (yN y).desc).map (fun d => d.parameters.length) = some n) : Site yN yW z pc y (n + 1) 3 rvI := by
  refine ⟨⟨_, hd⟩, ⟨nL, Or.inl ⟨_, _, hcw⟩, hnL⟩, hwy, hini, fun g p l e R s m args below meth c d h0 C h as rest T locs cells slots L hn hrv wf rp X => ?_⟩
  have E := C.2.2.2.2.1
  obtain ⟨b, r, rfl, hbk⟩ := hrv
  have hrl : r.length = n := by simpa using hn
  obtain ⟨e1, e2⟩ := stk_eq (g := g) (rest := rest) (r := r) (b := b) rfl
  rw [e1, e2]
  exact inv_I X C.1 C.2.2.2.1 hnm (E.w hlink args) (E.w hin args) (by rw [← hcw]; exact E.w hwy args) hpl rfl (by rw [map_len, hrl]; exact hlen) rfl (by rw [C.2.1]; exact hd)
theorem site_IN {y n idx nL : Nat} {bytes : ByteArray} {host : String} (hd : decode z.2.1 pc = .ok (.invokespecial idx, 3)) (hcw : yW y = .code (yN y) bytes nL none) (hnL : nL ≤ 13) (hwy : yW y ∈ lw_all) (hini : Cond.initialized (yN y).cls ∈ lw_all) (hnm : (yN y).name = "<init>") (hlink : Cond.methodLinkNest z.1 idx (yN y) host ∈ lw_tbl) (hin : Cond.instanceMethod (yN y) ∈ lw_all) (hpl : plainY (yN y)) (hlen : (parseMethodDescriptor (yN y).desc).map (fun d => d.parameters.length) = some n) : Site yN yW z pc y (n + 1) 3 rvI := by
  refine ⟨⟨_, hd⟩, ⟨nL, Or.inl ⟨_, _, hcw⟩, hnL⟩, hwy, hini, fun g p l e R s m args below meth c d h0 C h as rest T locs cells slots L hn hrv wf rp X => ?_⟩
  have E := C.2.2.2.2.1
  obtain ⟨b, r, rfl, hbk⟩ := hrv
  have hrl : r.length = n := by simpa using hn
  obtain ⟨e1, e2⟩ := stk_eq (g := g) (rest := rest) (r := r) (b := b) rfl
  rw [e1, e2]
  exact inv_IN X C.1 C.2.2.2.1 hnm (va_Nw.use (A := args) rfl (E.2.1 _ hlink stay_mln)) (E.w hin args) (by rw [← hcw]; exact E.w hwy args) hpl rfl (by rw [map_len, hrl]; exact hlen) rfl (by rw [C.2.1]; exact hd)
theorem site_SU {y n idx nL : Nat} (hd : decode z.2.1 pc = .ok (.invokespecial idx, 3)) (hcw : CodeIs (yN y) (yW y) nL) (hnL : nL ≤ 13) (hwy : yW y ∈ lw_all) (hini : Cond.initialized (yN y).cls ∈ lw_all) (hlink : Cond.methodLink z.1 idx (yN y) ∈ lw_all) (hsame : Cond.sameMethod (yN y).cls (yN y).cls (yN y).name (yN y).desc ∈ lw_all) (hsup : Cond.superclass z.1 (yN y).cls ∈ lw_all) (hin : Cond.instanceMethod (yN y) ∈ lw_all) (hno : (yN y).name ≠ "<init>") (hall : ∀ k, k < 64 → kclL[k]? ≠ none) (hlen : (parseMethodDescriptor (yN y).desc).map (fun d => d.parameters.length) = some n) : Site yN yW z pc y (n + 1) 3 (rvV 14) := by
  refine ⟨⟨_, hd⟩, ⟨nL, hcw, hnL⟩, hwy, hini, fun g p l e R s m args below meth c d h0 C h as rest T locs cells slots L hn hrv wf rp X => ?_⟩
  have E := C.2.2.2.2.1
  obtain ⟨b, r, rfl, hbk⟩ := hrv
  have hrl : r.length = n := by simpa using hn
  obtain ⟨cell, q1, q2, q3⟩ := E.nam wf rp (a := b) (by rw [hbk]; exact Or.inl ⟨by decide, by decide⟩)
  obtain ⟨kB, hkB, -⟩ := Vm.findClass_spec q3
  obtain ⟨e1, e2⟩ := stk_eq (g := g) (rest := rest) (r := r) (b := b) rfl
  rw [e1, e2]
  exact inv_SU X C.1 hcw (E.w hwy args) C.2.2.2.1 (E.w hlink args) (E.w hsame args) (E.w hsup args) (E.w hin args) hno q1 q2.2.1 hkB rfl (by rw [map_len, hrl]; exact hlen) rfl (by rw [C.2.1]; exact hd)
/-- what a word of the tables that the kit keeps apart says at any arguments -/
theorem Ev.t {g : gp} {s : State} (E : Ev g s) {w : Cond} (hw : w ∈ lw_tbl) (hs : stay w) (ht : w.onTables = true) (args : Array Value) : w.before args s = true := va_Nw.use (A := args) ht (E.2.1 _ hw hs)
theorem stay_Fw {C : String} {x y : MethodName} (hx : plainY x) {s U : State} (hW : s.WarmedH U.vm) (h : va_Fw C x y s) : va_Fw C x y U := va_Fw.moved hx hW.alike h
end Sites
