/-! new cells; Object's constructor -/
theorem stay_ao {C : String} : stay (.arrayOver (.object C)) := fun _ _ hW k => va_AO.moved hW.alike k
theorem fv_new {g : gp} {h : hp} {k n c j : Nat} (t : Nat) : fv g (hNew h k n c) (hN h) j t = dfv t := by
  rcases t with _ | _ | t
  · show Value.int (Int32.ofInt (up1 (hI h) (hN h) (fun _ => 0) (hN h) j)) = _
    simp [up1, dfv]
  · show Value.long (Int64.ofInt (up1 (hL h) (hN h) (fun _ => 0) (hN h) j)) = _
    simp [up1, dfv]
  · show cr g (up1 (hR h) (hN h) (fun _ => none) (hN h) j) = _
    simp [up1, dfv, cr, va_rf]
theorem hT_new {h : hp} {k n c : Nat} : hT (hNew h k n c) (hN h) = (k, n) := by
  show up1 (hT h) (hN h) (k, n) (hN h) = _
  simp [up1]
section Rows
variable {yN : Nat → MethodName} {yW : Nat → Cond} {z : mi} {pc : Nat}
theorem ok_new {k c idx : Nat} {C0 : String} {T0 : u_T} {N0 : Nat} (hd : decode z.2.1 pc = .ok (.new idx, 3)) (hq : kclL[k]? = some (C0, T0, N0) ∧ C0 ≠ "" ∧ (∀ j, j < N0 → parseFieldDescriptor (T0 j).2.2.1 = some (kty k j)) ∧ ∀ j, j < N0 → defaultValue (kty k j) = dfv (fk k j))
    (hlink : Cond.classLink z.1 idx C0 ∈ lw_all) (hins : Cond.instantiable C0 c ∈ lw_all) (hini : Cond.initialized C0 ∈ lw_all) : RowOK yN yW z pc (o_new k c) := by
  intro g p l e R s m args below meth c1 d h0 Q C W' X' Q' hW hX hQ ls st h kT wf okl oks H locs L cells slots rp hl hlo hb hB
  obtain ⟨hq1, hq2, hq3, hq4⟩ := hq
  obtain ⟨hbu, kT2⟩ := kT
  have E := C.2.2.2.2.1
  have hK := E.2.2.1 k _ hq1 hq2
  have hbud := C.2.2.2.2.2.2.2.2.2.2.2
  have hb1 := (hbud (cells + 1) (slots + c) (by omega))
  have hk64 : k < 64 := (List.getElem?_eq_some_iff.mp hq1).1
  refine W.newcK C.1 C.2.1 C.2.2.2.1 (E.w hlink args) (E.w hins args) (E.w hini args) rfl hd hb1.1 hb1.2 hK.2.1 rfl (fun H2 kC hkC e1 e2 e3 => ?_)
  have hB2 := u_born (kty k) (E.ws args) (kinL _ (kc_mem hq1)) hK hkC e1 hq3
  obtain ⟨cell, q1, q2, q3, q4⟩ := hB2
  have hc : cOK g (hNew h k 0 c) (hN h) cell := by
    refine ⟨by rw [q3]; exact (fun w => by cases w), by rw [q3]; rfl, fun _ => q3, fun _ => ?_, fun w => ?_⟩
    · rw [hT_new]
      refine ⟨q2, fun j hj => ?_⟩
      rw [kc_eq hq1] at hj
      have h4 := q4 j hj
      refine ⟨fun _ => ?_, k2_hasslot h4⟩
      rw [h4, fv_new]
      exact congrArg some (hq4 j hj)
    · rw [hT_new] at w; have w2 : 100 ≤ k := w; omega
  obtain ⟨r1, r2⟩ := rp.new (H' := H2) E.1 q1 e2 e3 hc
  have kk := hX _ _ _ _ kT2 wf.new okl (okL_cons trivial oks) H2 locs L (cells + 1) (slots + c) r1 hl hlo (show 13 * (cells + 1) + (slots + c) + hU h0 ≤ hU h + c + 13 by omega) hbu
  have e4 : (vR (some (hN h)) :: st).map (cv g) = .ref H.size :: st.map (cv g) := by
    show Value.ref (phi g (hN h)) :: _ = _
    rw [r2]
  rw [e4] at kk
  exact kk
theorem cOK_arr {g : gp} {h : hp} {k n c : Nat} (h100 : 100 ≤ k) (h113 : k < 113) {v0 : Value} (hv : v0 = dfv (ak k)) : cOK g (hNew h k n c) (hN h) (arrV (gA g k) n (fun _ => v0)) := by
  refine ⟨(fun w => by cases w), rfl, fun _ => rfl, fun w => ?_, fun _ => ?_⟩
  · rw [hT_new] at w; have w2 : k < 64 := w; omega
  · rw [hT_new]
    refine ⟨rfl, arrV_size _ _ _, fun j hj => ?_⟩
    rw [arrV_read _ _ hj, fv_new, hv]
theorem inv_newa {k n : Nat} {W : wt} {X : xt} {Q : qt} {pc : Nat} {ls s0 : List av} {h : hp} (kT : o_newa k n W X Q pc ls s0 h) : ∃ x st, s0 = vI x :: st ∧ 0 ≤ x ∧ hU h + x.toNat + 13 ≤ BUD ∧ X (pc + n) ls (vR (some (hN h)) :: st) (hNew h k x.toNat x.toNat) := by
  unfold o_newa at kT; split at kT
  · exact ⟨_, _, rfl, kT⟩
  · exact kT.elim
theorem ok_newa {k : Nat} {atype : ArrayType} {ty : FieldType} (hd : decode z.2.1 pc = .ok (.newarray atype, 2)) (hat : newarray.typeOf atype = ty) (hty : aty k = some ty) (h100 : 100 ≤ k) (h113 : k < 113) (hra : ∀ (U : State) (cA : ClassId), va_RA U cA ty → U.vm.findClass ("[" ++ ty.toString) = some cA) (hdv : defaultValue ty = dfv (ak k)) (hby : componentBytes ty ≤ 8) (hw : Cond.arrayClass ty ∈ lw_all) : RowOK yN yW z pc (o_newa k 2) := by
  intro g p l e R s m args below meth c d h0 Q C W' X' Q' hW hX hQ ls st h kT wf okl oks H locs L cells slots rp hl hlo hb hB
  obtain ⟨x, st, rfl, hx0, hbu, kT2⟩ := inv_newa kT
  have E := C.2.2.2.2.1
  have hbud := C.2.2.2.2.2.2.2.2.2.2.2
  have hb1 := (hbud (cells + 1) (slots + x.toNat) (by omega))
  have hcl : (Int32.ofInt x).toNatClampNeg = x.toNat := by
    show (Int32.ofInt x).toInt.toNat = _
    rw [show (Int32.ofInt x).toInt = x from oks.hd]
  subst hat
  refine va_newaK C.1 C.2.1 (E.w hw args) rfl hd rfl (fun w => ?_) hcl ?_ hb1.1 hb1.2 rfl (fun H2 cA e1 e2 e3 e4 e5 => ?_)
  · have := (in32_lt oks.hd in32_0).mp w; omega
  · have h1 : x.toNat ≤ 7262314 := by have hBU : BUD = 7262314 := rfl; omega
    calc x.toNat * componentBytes (newarray.typeOf atype) ≤ 7262314 * 8 := Nat.mul_le_mul h1 hby
      _ ≤ 536870912 := by decide
  · have hA := hra s (gA g k) (E.2.2.2.1 k _ hty).2
    have hcA : cA = gA g k := Option.some.inj (e5.symm.trans hA)
    subst hcA
    obtain ⟨r1, r2⟩ := rp.new (H' := H2) E.1 e1 e2 e3 (cOK_arr (c := x.toNat) h100 h113 hdv)
    have kk := hX _ _ _ _ kT2 wf.new okl (okL_cons trivial oks.tl) H2 locs L (cells + 1) (slots + x.toNat) r1 hl hlo (show 13 * (cells + 1) + (slots + x.toNat) + hU h0 ≤ hU h + x.toNat + 13 by omega) hbu
    have e4 : (vR (some (hN h)) :: st).map (cv g) = .ref H.size :: st.map (cv g) := by
      show Value.ref (phi g (hN h)) :: _ = _
      rw [r2]
    rw [e4] at kk
    exact kk
theorem ok_anewa {k idx : Nat} {nm : String} (hd : decode z.2.1 pc = .ok (.anewarray idx, 3)) (hty : aty k = some (.object nm)) (h100 : 100 ≤ k) (h113 : k < 113) (hz : ak k = 2) (hlink : Cond.classLink z.1 idx nm ∈ lw_all) (hov : Cond.arrayOver (.object nm) ∈ lw_tbl) : RowOK yN yW z pc (o_newa k 3) := by
  intro g p l e R s m args below meth c d h0 Q C W' X' Q' hW hX hQ ls st h kT wf okl oks H locs L cells slots rp hl hlo hb hB
  obtain ⟨x, st, rfl, hx0, hbu, kT2⟩ := inv_newa kT
  have E := C.2.2.2.2.1
  have hbud := C.2.2.2.2.2.2.2.2.2.2.2
  have hb1 := (hbud (cells + 1) (slots + x.toNat) (by omega))
  have hcl : (Int32.ofInt x).toNatClampNeg = x.toNat := by
    show (Int32.ofInt x).toInt.toNat = _
    rw [show (Int32.ofInt x).toInt = x from oks.hd]
  refine W.anew C.1 C.2.1 C.2.2.2.1 (E.w hlink args) (va_AO.use (E.2.1 _ hov stay_ao)) rfl hd rfl (fun w => ?_) ?_ hb1.1 (by rw [hcl]; exact hb1.2) (fun cA kA comp e1 e2 e3 e4 => ?_)
  · have := (in32_lt oks.hd in32_0).mp w; omega
  · rw [hcl]
    have h1 : x.toNat ≤ 7262314 := by have hBU : BUD = 7262314 := rfl; omega
    omega
  · obtain ⟨kA2, comp2, r1, r2, r3, r4⟩ := (E.2.2.2.1 k _ hty).2
    have hcA : cA = gA g k := Option.some.inj (e1.symm.trans r4)
    subst hcA
    rw [hcl, arrV_new]
    have s1 : (H.push (arrV (gA g k) x.toNat (fun _ => Value.null)))[H.size]? = some (arrV (gA g k) x.toNat (fun _ => Value.null)) := Array.getElem?_push_size
    have s2 : (H.push (arrV (gA g k) x.toNat (fun _ => Value.null))).size = H.size + 1 := Array.size_push _
    have s3 : ∀ q : Nat, q < H.size → (H.push (arrV (gA g k) x.toNat (fun _ => Value.null)))[q]? = H[q]? := fun q hq => by rw [Array.getElem?_push, if_neg (Nat.ne_of_lt hq)]
    obtain ⟨t1, t2⟩ := rp.new E.1 s1 s2 s3 (cOK_arr (c := x.toNat) h100 h113 (by rw [hz]; rfl))
    have kk := hX _ _ _ _ kT2 wf.new okl (okL_cons trivial oks.tl) _ locs L (cells + 1) (slots + x.toNat) t1 hl hlo (show 13 * (cells + 1) + (slots + x.toNat) + hU h0 ≤ hU h + x.toNat + 13 by omega) hbu
    have e4 : (vR (some (hN h)) :: st).map (cv g) = .ref H.size :: st.map (cv g) := by
      show Value.ref (phi g (hN h)) :: _ = _
      rw [t2]
    rw [e4] at kk
    exact kk
theorem ok_obj {idx : Nat} (hd : decode z.2.1 pc = .ok (.invokespecial idx, 3)) (h1 : Cond.methodLink z.1 idx Lib.objectInit ∈ lw_all) (h2 : Cond.instanceMethod Lib.objectInit ∈ lw_all) (h3 : Cond.code Lib.objectInit ⟨#[0xb1]⟩ 1 none ∈ lw_all) : RowOK yN yW z pc o_obj := by
  intro g p l e R s m args below meth c d h0 Q C W' X' Q' hW hX hQ ls st h kT wf okl oks H locs L cells slots rp hl hlo hb hB
  unfold o_obj at kT
  split at kT
  · rename_i r st
    obtain ⟨hsh, kT⟩ := kT
    cases r with
    | none => exact kT.elim
    | some a =>
      have E := C.2.2.2.2.1
      have hsh2 : st.length ≤ 8 := Nat.le_of_ble_eq_true hsh
      have hcat := sum_cat g st
      have hf1 : d + 9 ≤ R.frames := C.2.2.2.2.2.2.2.2.2.1
      have hf2 : 40 * d + 10500 ≤ R.locals := C.2.2.2.2.2.2.2.2.2.2.1
      refine W.objInit C.1 C.2.1 C.2.2.2.1 (E.w h1 args) (E.w h2 args) (E.w h3 args) rfl (by rw [C.2.2.1, ← hl.1.1]) rfl hd (by omega) ?_ (hX _ _ _ _ kT wf okl oks.tl H locs L cells slots rp hl hlo hb hB)
      show 2 * 0 + _ + 12 ≤ R.locals
      omega
  · exact kT.elim
end Rows
