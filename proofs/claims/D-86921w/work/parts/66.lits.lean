/-! constants and statics -/
section Lits
variable {yN : Nat → MethodName} {yW : Nat → Cond} {z : mi} {pc : Nat}
theorem ok_no : RowOK yN yW z pc o_no := by
  intro g p l e R s m args below meth c d h0 Q C W' X' Q' hW hX hQ ls st h hT
  exact False.elim hT
theorem cv_ext {g : gp} {x : Nat} (hx : x < 68) : cv g (vR (some x)) = .ref (gE g x) := by
  show va_rf (some (phi g x)) = _
  unfold phi
  rw [if_pos hx]
  rfl
theorem Ev.x {g : gp} {s : State} (h : Ev g s) : EvX g s := h.2.2.2.2.2
theorem ok_ldcS {idx x : Nat} {tx : String} (hd : decode z.2.1 pc = .ok (.ldc idx, 2)) (hx : x < 68) (hq : (z.1, idx, tx, x) ∈ ldL) : RowOK yN yW z pc (o_push (vR (some x)) 2) := by
  intro g p l e R s m args below meth c d h0 Q C W' X' Q' hW hX hQ ls st h hT wf okl oks H locs L cells slots hR hl hlo hb hB
  have k := hX _ _ _ _ hT wf okl (okL_cons trivial oks) H locs L cells slots hR hl hlo hb hB
  rw [List.map_cons, cv_ext hx] at k
  exact va_ldcS C.1 C.2.1 C.2.2.2.1 (C.2.2.2.2.1.x.1 _ hq) hd k
theorem ldcwS {p : Program} {l : Launch} {e : Env} {R : Room} {s : State} {m : MethodId} {args : Array Value} {below : List Frame} {meth : Method} {c : Code} {T : State} {locs : List Loc} {cells slots : Nat}
    (X : Stand p l e R s m args below meth c T locs cells slots) (hexec : p.tables.exec = Jvm.exec) {own text : String} {index : Nat} {a : Addr} (hown : s.vm.findClass own = some m.cls)
    (hconst : (Cond.stringRef own index text).before args s = true) (hev : (Term.string own index).eval args s none [] s = some (.ref a)) {g : JFrame} (hg : g.method = m) (hdg : decode c.code g.pc = .ok (.ldc_w index, 3)) :
    ∀ target, Steps p.tables e below (T.setTop { g with pc := g.pc + 3, stack := .ref a :: g.stack }) target → Steps p.tables e below (T.setTop g) target := by
  obtain ⟨k, cf, i, a', hk, hcf, hcp, -, hr, hev'⟩ := Cond.stringRef_spec hown hconst
  cases hev.symm.trans hev'
  obtain ⟨k', hk', he⟩ := X.warmed.alike.2.2 _ _ hk
  have hr' : k'.resolved[index]? = some (some (.string a)) := by
    rcases X.warmed.entry hk hk' index with h | ⟨h, -⟩
    · rw [h]; exact hr
    · rw [hr] at h; cases h
  intro target hrest
  subst hg
  jvm_step X.here [hexec, hdg, ldc_w.wp_string (e := e) (s := T) (f := g) X.here.top hk' (by rw [he]; exact hcf) hcp hr']
  exact hrest
theorem ok_ldcwS {idx x : Nat} {tx : String} (hd : decode z.2.1 pc = .ok (.ldc_w idx, 3)) (hx : x < 68) (hq : (z.1, idx, tx, x) ∈ ldL) : RowOK yN yW z pc (o_push (vR (some x)) 3) := by
  intro g p l e R s m args below meth c d h0 Q C W' X' Q' hW hX hQ ls st h hT wf okl oks H locs L cells slots hR hl hlo hb hB
  have k := hX _ _ _ _ hT wf okl (okL_cons trivial oks) H locs L cells slots hR hl hlo hb hB
  rw [List.map_cons, cv_ext hx] at k
  have hZ := C.2.2.2.2.1.x.1 _ hq
  intro T hTH X
  obtain ⟨t, a1, b1⟩ := k T hTH X
  exact ⟨t, ldcwS X C.1 C.2.2.2.1 (text := tx) hZ.1 hZ.2 (g := F0 m pc L (st.map (cv g))) rfl (by rw [C.2.1]; exact hd) t a1, b1⟩
theorem ok_ldcM {idx : Nat} (hd : decode z.2.1 pc = .ok (.ldc idx, 2)) (hw : Cond.classLink z.1 idx "[Ljava/lang/Object;" ∈ lw_all) : RowOK yN yW z pc (o_push (vR (some 2)) 2) := by
  intro g p l e R s m args below meth c d h0 Q C W' X' Q' hW hX hQ ls st h hT wf okl oks H locs L cells slots hR hl hlo hb hB
  have k := hX _ _ _ _ hT wf okl (okL_cons trivial oks) H locs L cells slots hR hl hlo hb hB
  rw [List.map_cons, cv_ext (by decide)] at k
  exact va_ldcM C.1 C.2.1 C.2.2.2.1 (C.2.2.2.2.1.w hw args) C.2.2.2.2.1.x.2.2.2.2 hd k
theorem gets_core {g : gp} {p : Program} {l : Launch} {e : Env} {R : Room} {s : State} {m : MethodId} {args : Array Value} {below : List Frame} {meth : Method} {c : Code} {H : Heap} {locs : List Loc} {cells slots : Nat} {Q : State → Prop} {h : hp} {L : Array Slot} {rest : List Value} {cc : ByteArray}
    (hexec : p.tables.exec = Jvm.exec) (hb : c.code = cc) {C n d own : String} {v : Value} {index : Nat} (hZ : va_Z C n d v (fun a => gB g ≤ a) s (gH g)) (hR : Rep g h H) (hown : s.vm.findClass own = some m.cls) (hlink : (Cond.fieldLink own index C n d).before args s = true) (hdg : decode cc pc = .ok (.getstatic index, 3))
    (kk : W p l e R s m args below meth c H locs cells slots Q (F0 m (pc + 3) L (v :: rest))) : W p l e R s m args below meth c H locs cells slots Q (F0 m pc L rest) := by
  obtain ⟨cf, kf, fi, f, a, cell, h1, h2, h3, h4, h5, h6, h7, h8⟩ := hZ
  exact W.gets hexec hb hown hlink h1 h2 h3 h4 (by rw [hR.2.2.1 a (Nat.lt_of_not_le h8)]; exact h5) (fun e => by rw [e] at h6; cases h6) h7 rfl hdg kk
theorem ok_gets {idx : Nat} {C n d : String} {v : av} (hd : decode z.2.1 pc = .ok (.getstatic idx, 3)) (hw : Cond.fieldLink z.1 idx C n d ∈ lw_all) (hq : (C, n, d, v) ∈ stL) (hv : okv v) : RowOK yN yW z pc (o_push v 3) := by
  intro g p l e R s m args below meth c d h0 Q C W' X' Q' hW hX hQ ls st h hT wf okl oks H locs L cells slots hR hl hlo hb hB
  have k := hX _ _ _ _ hT wf okl (okL_cons hv oks) H locs L cells slots hR hl hlo hb hB
  exact gets_core C.1 C.2.1 (C.2.2.2.2.1.x.2.1 _ hq) hR C.2.2.2.1 (C.2.2.2.2.1.w hw args) hd k
theorem ok_gsq {idx x : Nat} {C n d : String} (hd : decode z.2.1 pc = .ok (.getstatic idx, 3)) (hw : Cond.fieldLink z.1 idx C n d ∈ lw_all) (hq : (C, n, d, x) ∈ gqL) : RowOK yN yW z pc (o_gsq x) := by
  intro g p l e R s m args below meth c d h0 Q C W' X' Q' hW hX hQ ls st h hT wf okl oks H locs L cells slots hR hl hlo hb hB
  obtain ⟨r, hr, hZ⟩ := C.2.2.2.2.1.x.2.2.1 _ hq
  have k := hX _ _ _ _ (hT r hr) wf okl (okL_cons trivial oks) H locs L cells slots hR hl hlo hb hB
  exact gets_core C.1 C.2.1 hZ hR C.2.2.2.1 (C.2.2.2.2.1.w hw args) hd k
/-- a call through the interface List -/
theorem site_F {k y n idx nL cnt : Nat} {x : MethodName} (hd : decode z.2.1 pc = .ok (.invokeinterface idx cnt, 5)) (hcw : CodeIs (yN y) (yW y) nL) (hnL : nL ≤ 13) (hwy : yW y ∈ lw_all) (hini : Cond.initialized (yN y).cls ∈ lw_all) (hlink : Cond.methodLink z.1 idx x ∈ lw_all) (hf : (x, yN y) ∈ fcL) (hin : Cond.instanceMethod (yN y) ∈ lw_all) (hk : kOK k) (hkn : kname k = "java/util/ArrayList") (hsel : Cond.selects "java/util/ArrayList" x (yN y) ∈ lw_all) (hlen : (parseMethodDescriptor x.desc).map (fun d => d.parameters.length) = some n) : Site yN yW z pc y (n + 1) 5 (rvV k) := by
  refine ⟨⟨_, hd⟩, ⟨nL, hcw, hnL⟩, hwy, hini, fun g p l e R s m args below meth c d h0 C h as rest T locs cells slots L hn hrv wf rp X => ?_⟩
  have E := C.2.2.2.2.1
  obtain ⟨b, r, rfl, hbk⟩ := hrv
  have hrl : r.length = n := by simpa using hn
  obtain ⟨cell, q1, q2, q3⟩ := E.nam wf rp (a := b) (by rw [hbk]; exact hk)
  rw [hbk, hkn] at q3
  obtain ⟨kB, hkB, -⟩ := Vm.findClass_spec q3
  obtain ⟨e1, e2⟩ := stk_eq (g := g) (rest := rest) (r := r) (b := b) rfl
  obtain ⟨f1, f2, f3, f4, f5⟩ := E.x.2.2.2.1 _ hf
  rw [e1, e2]
  exact inv_F X C.1 C.2.2.2.1 (E.w hlink args) (va_any rfl f1) (va_any rfl f2) (E.w hsel args) (E.w hin args) (va_any rfl f3) (va_any rfl f4) (va_any rfl f5) (fcL_pl _ hf) q1 q2.2.1 q3 hkB rfl (by rw [map_len, hrl]; exact hlen) rfl (by rw [C.2.1]; exact hd)
end Lits
