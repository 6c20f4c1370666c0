/-! array stores, lengths, new, casts -/
theorem setSlot_size (cell : Cell) (i : Nat) (v : Value) : (cell.setSlot i v).slots.size = cell.slots.size := by simp [Cell.setSlot]
theorem setSlot_at (cell : Cell) {i : Nat} (v : Value) (h : i < cell.slots.size) : (cell.setSlot i v).slots[i]? = some v := by simp [Cell.setSlot, h]
theorem cOK.arr {g : gp} {h h' : hp} {a k j : Nat} {cell : Cell} (hk : (hT h a).1 = k) (h100 : 100 ≤ k) (hj : j < (hT h a).2) (c0 : cOK g h a cell) (et : hT h' a = hT h a) (eo : ∀ i, i ≠ j → hI h' a i = hI h a i ∧ hL h' a i = hL h a i ∧ hR h' a i = hR h a i) :
    cOK g h' a (cell.setSlot j (fv g h' a j (ak k))) := by
  obtain ⟨k1, k2, k3, k4, k5⟩ := c0
  refine ⟨k1, k2, k3, fun h4 => ?_, fun h5 => ?_⟩
  · rw [et, hk] at h4; omega
  · rw [et] at h5 ⊢
    obtain ⟨q1, q2, q3⟩ := k5 h5
    refine ⟨q1, by rw [setSlot_size]; exact q2, fun i hi => ?_⟩
    by_cases hij : i = j
    · subst hij
      rw [setSlot_at _ _ (by rw [q2]; exact hj), hk]
    · rw [slot_ne _ _ (fun e => hij e.symm), q3 i hi]
      exact congrArg some (fv_congr (eo i hij).1 (eo i hij).2.1 (eo i hij).2.2 _).symm
/-- a store into an array: what is known behind it -/
theorem arr_core {g : gp} {s : State} (E : Ev g s) {h h' : hp} {H : Heap} (wf : WFh h) (rp : Rep g h H) {a k : Nat} {i : Int} (hk : inb h a [k] i) (h100 : 100 ≤ k ∧ k < 110) (en : hN h' = hN h) (et : hT h' = hT h) (eo : ∀ b n, ¬ (b = a ∧ n = i.toNat) → hI h' b n = hI h b n ∧ hL h' b n = hL h b n ∧ hR h' b n = hR h b n)
    {cell : Cell} (hc : cOK g h a cell) {locs : List Loc} (hlo : ∀ q ∈ locs, gB g ≤ q.base) {v : Value} (hv : v = fv g h' a i.toNat (ak k)) :
    (∀ q ∈ locs ++ [(⟨phi g a, i.toNat⟩ : Loc)], gB g ≤ q.base) ∧ ∀ H' : Heap, H'[phi g a]? = some (cell.setSlot i.toNat v) → H'.size = H.size → (∀ q, q ≠ phi g a → H'[q]? = H[q]?) → Rep g h' H' := by
  obtain ⟨h1, h2, h3⟩ := hk
  have h1 := List.mem_singleton.mp h1
  have ha : 68 ≤ a := wf.own (Or.inr (by rw [h1]; exact h100))
  refine ⟨fun x hx => ?_, fun H' e1 e2 e3 => ?_⟩
  · rcases List.mem_append.mp hx with w | w
    · exact hlo x w
    · rw [List.mem_singleton.mp w]; exact phi_ge ha
  · rw [hv] at e1
    exact rp.upd E.1 ha en et (fun b hb n => eo b n (fun w => hb w.1)) e1 (hc.arr h1 h100.1 (by omega) (by rw [et]) (fun n hn => eo a n (fun w => hn w.2))) e2 e3
theorem inv_ast {k : Nat} {f : Int → Int} {W : wt} {X : xt} {Q : qt} {pc : Nat} {ls s0 : List av} {h : hp} (kT : o_ast k f W X Q pc ls s0 h) : ∃ x i a st, s0 = vI x :: vI i :: vR (some a) :: st ∧ inb h a [k] i ∧ X (pc + 1) ls st (sI h a i.toNat (f x)) := by
  unfold o_ast at kT; split at kT
  · rename_i x i r st
    cases r with
    | none => exact kT.elim
    | some a => exact ⟨x, i, a, st, rfl, kT⟩
  · exact kT.elim
theorem inv_last {W : wt} {X : xt} {Q : qt} {pc : Nat} {ls s0 : List av} {h : hp} (kT : o_last W X Q pc ls s0 h) : ∃ x i a st, s0 = vJ x :: vI i :: vR (some a) :: st ∧ inb h a [105] i ∧ X (pc + 1) ls st (sL h a i.toNat x) := by
  unfold o_last at kT; split at kT
  · rename_i x i r st
    cases r with
    | none => exact kT.elim
    | some a => exact ⟨x, i, a, st, rfl, kT⟩
  · exact kT.elim
theorem inv_aast {k : Nat} {es : List Nat} {W : wt} {X : xt} {Q : qt} {pc : Nat} {ls s0 : List av} {h : hp} (kT : o_aast k es W X Q pc ls s0 h) : ∃ v i a st, s0 = vR v :: vI i :: vR (some a) :: st ∧ inb h a [k] i ∧ (v = none ∨ ∃ b, v = some b ∧ (hT h b).1 ∈ es) ∧ X (pc + 1) ls st (sR h a i.toNat v) := by
  unfold o_aast at kT; split at kT
  · rename_i v i r st
    cases r with
    | none => exact kT.elim
    | some a => exact ⟨v, i, a, st, rfl, kT⟩
  · exact kT.elim
section Rows
variable {yN : Nat → MethodName} {yW : Nat → Cond} {z : mi} {pc : Nat}
theorem ok_iast (hd : decode z.2.1 pc = .ok (.iastore, 1)) : RowOK yN yW z pc (o_ast 104 id) := by
  intro g p l e R s m args below meth c d h0 Q C W' X' Q' hW hX hQ ls st h kT wf okl oks H locs L cells slots rp hl hlo hb hB
  obtain ⟨x, i, a, st, rfl, hi, kT2⟩ := inv_ast kT
  obtain ⟨cell, e1, e2, e3, e4, e5, e6, e7⟩ := elem (ty := .int) C.2.2.2.2.1 wf rp hi (by decide) rfl oks.tl.hd
  obtain ⟨c1, c2⟩ := arr_core (h' := sI h a i.toNat x) (v := .int (Int32.ofInt x)) C.2.2.2.2.1 wf rp hi (by decide) rfl rfl (fun b n w => eoI b n w) e2 hlo fv_sI.symm
  refine W.iast C.1 C.2.1 e1 e3 e4 e5 rfl rfl hd (fun H2 q1 q2 q3 => ?_)
  rw [e6] at q1 ⊢
  exact hX _ _ _ _ kT2 (wf.sI oks.hd (by rw [List.mem_singleton.mp hi.1]; exact rng_lt (Or.inr (by decide)))) okl oks.tl.tl.tl H2 _ L cells slots (c2 H2 q1 q2 q3) hl c1 hb hB
theorem ok_bast (hd : decode z.2.1 pc = .ok (.bastore, 1)) : RowOK yN yW z pc (o_ast 102 n_i2b) := by
  intro g p l e R s m args below meth c d h0 Q C W' X' Q' hW hX hQ ls st h kT wf okl oks H locs L cells slots rp hl hlo hb hB
  obtain ⟨x, i, a, st, rfl, hi, kT2⟩ := inv_ast kT
  obtain ⟨cell, e1, e2, e3, e4, e5, e6, e7⟩ := elem (ty := .byte) C.2.2.2.2.1 wf rp hi (by decide) rfl oks.tl.hd
  have ev : narrow .byte (.int (Int32.ofInt x)) = Value.int (Int32.ofInt (n_i2b x)) := by rw [cn_i2b]; rfl
  obtain ⟨c1, c2⟩ := arr_core (h' := sI h a i.toNat (n_i2b x)) (v := .int (Int32.ofInt (n_i2b x))) C.2.2.2.2.1 wf rp hi (by decide) rfl rfl (fun b n w => eoI b n w) e2 hlo fv_sI.symm
  refine W.bast C.1 C.2.1 e1 e3 e4 e5 rfl rfl hd (fun H2 q1 q2 q3 => ?_)
  rw [ev] at q1
  rw [e6] at q1 ⊢
  exact hX _ _ _ _ kT2 (wf.sI (rn_i2b x) (by rw [List.mem_singleton.mp hi.1]; exact rng_b x)) okl oks.tl.tl.tl H2 _ L cells slots (c2 H2 q1 q2 q3) hl c1 hb hB
theorem ok_sast (hd : decode z.2.1 pc = .ok (.sastore, 1)) : RowOK yN yW z pc (o_ast 103 n_i2s) := by
  intro g p l e R s m args below meth c d h0 Q C W' X' Q' hW hX hQ ls st h kT wf okl oks H locs L cells slots rp hl hlo hb hB
  obtain ⟨x, i, a, st, rfl, hi, kT2⟩ := inv_ast kT
  obtain ⟨cell, e1, e2, e3, e4, e5, e6, e7⟩ := elem (ty := .short) C.2.2.2.2.1 wf rp hi (by decide) rfl oks.tl.hd
  have ev : narrow .short (.int (Int32.ofInt x)) = Value.int (Int32.ofInt (n_i2s x)) := by rw [cn_i2s]; rfl
  obtain ⟨c1, c2⟩ := arr_core (h' := sI h a i.toNat (n_i2s x)) (v := .int (Int32.ofInt (n_i2s x))) C.2.2.2.2.1 wf rp hi (by decide) rfl rfl (fun b n w => eoI b n w) e2 hlo fv_sI.symm
  refine W.sast C.1 C.2.1 e1 e3 e4 e5 rfl rfl hd (fun H2 q1 q2 q3 => ?_)
  rw [ev] at q1
  rw [e6] at q1 ⊢
  exact hX _ _ _ _ kT2 (wf.sI (rn_i2s x) (by rw [List.mem_singleton.mp hi.1]; exact rng_s x)) okl oks.tl.tl.tl H2 _ L cells slots (c2 H2 q1 q2 q3) hl c1 hb hB
theorem ok_cast (hd : decode z.2.1 pc = .ok (.castore, 1)) : RowOK yN yW z pc (o_ast 101 n_i2c) := by
  intro g p l e R s m args below meth c d h0 Q C W' X' Q' hW hX hQ ls st h kT wf okl oks H locs L cells slots rp hl hlo hb hB
  obtain ⟨x, i, a, st, rfl, hi, kT2⟩ := inv_ast kT
  obtain ⟨cell, e1, e2, e3, e4, e5, e6, e7⟩ := elem (ty := .char) C.2.2.2.2.1 wf rp hi (by decide) rfl oks.tl.hd
  have ev : narrow .char (.int (Int32.ofInt x)) = Value.int (Int32.ofInt (n_i2c x)) := by rw [cn_i2c]; rfl
  obtain ⟨c1, c2⟩ := arr_core (h' := sI h a i.toNat (n_i2c x)) (v := .int (Int32.ofInt (n_i2c x))) C.2.2.2.2.1 wf rp hi (by decide) rfl rfl (fun b n w => eoI b n w) e2 hlo fv_sI.symm
  refine W.cast C.1 C.2.1 e1 e3 e4 e5 rfl rfl hd (fun H2 q1 q2 q3 => ?_)
  rw [ev] at q1
  rw [e6] at q1 ⊢
  exact hX _ _ _ _ kT2 (wf.sI (rn_i2c x) (by rw [List.mem_singleton.mp hi.1]; exact rng_c x)) okl oks.tl.tl.tl H2 _ L cells slots (c2 H2 q1 q2 q3) hl c1 hb hB
theorem ok_zast (hd : decode z.2.1 pc = .ok (.bastore, 1)) : RowOK yN yW z pc (o_ast 100 n_i2z) := by
  intro g p l e R s m args below meth c d h0 Q C W' X' Q' hW hX hQ ls st h kT wf okl oks H locs L cells slots rp hl hlo hb hB
  obtain ⟨x, i, a, st, rfl, hi, kT2⟩ := inv_ast kT
  obtain ⟨cell, e1, e2, e3, e4, e5, e6, e7⟩ := elem (ty := .boolean) C.2.2.2.2.1 wf rp hi (by decide) rfl oks.tl.hd
  have ev : narrow .boolean (.int (Int32.ofInt x)) = Value.int (Int32.ofInt (n_i2z x)) := by unfold n_i2z; rw [cn_and]; rfl
  obtain ⟨c1, c2⟩ := arr_core (h' := sI h a i.toNat (n_i2z x)) (v := .int (Int32.ofInt (n_i2z x))) C.2.2.2.2.1 wf rp hi (by decide) rfl rfl (fun b n w => eoI b n w) e2 hlo fv_sI.symm
  refine W.zast C.1 C.2.1 e1 e3 e4 e5 rfl rfl hd (fun H2 q1 q2 q3 => ?_)
  rw [ev] at q1
  rw [e6] at q1 ⊢
  exact hX _ _ _ _ kT2 (wf.sI (rn_and x 1) (by rw [List.mem_singleton.mp hi.1]; exact rng_lt (Or.inl (by decide)))) okl oks.tl.tl.tl H2 _ L cells slots (c2 H2 q1 q2 q3) hl c1 hb hB
theorem ok_last (hd : decode z.2.1 pc = .ok (.lastore, 1)) : RowOK yN yW z pc o_last := by
  intro g p l e R s m args below meth c d h0 Q C W' X' Q' hW hX hQ ls st h kT wf okl oks H locs L cells slots rp hl hlo hb hB
  obtain ⟨x, i, a, st, rfl, hi, kT2⟩ := inv_last kT
  obtain ⟨cell, e1, e2, e3, e4, e5, e6, e7⟩ := elem (ty := .long) C.2.2.2.2.1 wf rp hi (by decide) rfl oks.tl.hd
  obtain ⟨c1, c2⟩ := arr_core (h' := sL h a i.toNat x) (v := .long (Int64.ofInt x)) C.2.2.2.2.1 wf rp hi (by decide) rfl rfl (fun b n w => eoL b n w) e2 hlo fv_sL.symm
  refine W.last C.1 C.2.1 e1 e3 e4 e5 rfl rfl hd (fun H2 q1 q2 q3 => ?_)
  rw [e6] at q1 ⊢
  exact hX _ _ _ _ kT2 (wf.sL oks.hd) okl oks.tl.tl.tl H2 _ L cells slots (c2 H2 q1 q2 q3) hl c1 hb hB
/-! names of classes -/
end Rows
def kname (k : Nat) : String := if k < 64 then (kc k).1 else if k = 100 then "[Z" else if k = 101 then "[C" else if k = 102 then "[B" else if k = 103 then "[S" else if k = 104 then "[I" else if k = 105 then "[J" else if k = 106 then "[Ljava/lang/Object;" else if k = 107 then "[LThereAndBack$Refused;" else if k = 108 then "[LThereAndBack$Routine;" else if k = 109 then "[LThereAndBack$Holder;" else ""
theorem kc_get {k : Nat} (h : (kc k).1 ≠ "") : kclL[k]? = some (kc k) := by
  unfold kc at h ⊢
  rw [List.getD_eq_getElem?_getD] at h ⊢
  cases hq : kclL[k]? with
  | none => rw [hq] at h; exact absurd rfl h
  | some q => rfl
/-- an object's class has the number's name -/
theorem Ev.nameO {g : gp} {s : State} (E : Ev g s) {h : hp} {a k : Nat} (hk : (hT h a).1 = k) (h64 : k < 64) (hne : (kc k).1 ≠ "") {cell : Cell} (c0 : cOK g h a cell) : s.vm.findClass (kname k) = some cell.cls := by
  have h1 := (E.2.2.1 k _ (kc_get hne) hne).2.1
  have h2 := (c0.2.2.2.1 (by rw [hk]; exact h64)).1
  rw [hk] at h2
  unfold kname
  rw [if_pos h64, h2]
  exact h1
theorem Ev.nameA {g : gp} {s : State} (E : Ev g s) {h : hp} {a k : Nat} (hk : (hT h a).1 = k) (h100 : 100 ≤ k) (h110 : k < 110) {cell : Cell} (c0 : cOK g h a cell) : s.vm.findClass (kname k) = some cell.cls := by
  have h2 := (c0.2.2.2.2 (by rw [hk]; exact h100)).1
  rw [hk] at h2
  rw [h2]
  have hk10 : k = 100 ∨ k = 101 ∨ k = 102 ∨ k = 103 ∨ k = 104 ∨ k = 105 ∨ k = 106 ∨ k = 107 ∨ k = 108 ∨ k = 109 := by omega
  rcases hk10 with rfl | rfl | rfl | rfl | rfl | rfl | rfl | rfl | rfl | rfl
  · exact va_nm_boolean (E.2.2.2.1 100 _ rfl).2
  · exact va_nm_char (E.2.2.2.1 101 _ rfl).2
  · exact va_nm_byte (E.2.2.2.1 102 _ rfl).2
  · exact va_nm_short (E.2.2.2.1 103 _ rfl).2
  · exact va_nm_int (E.2.2.2.1 104 _ rfl).2
  · exact va_nm_long (E.2.2.2.1 105 _ rfl).2
  · obtain ⟨kA, comp, q1, q2, q3, q4⟩ := (E.2.2.2.1 106 _ rfl).2
    have e : "[" ++ (FieldType.object "java/lang/Object").toString = "[Ljava/lang/Object;" := by decide +kernel
    rw [e] at q4; exact q4
  · obtain ⟨kA, comp, q1, q2, q3, q4⟩ := (E.2.2.2.1 107 _ rfl).2
    have e : "[" ++ (FieldType.object "ThereAndBack$Refused").toString = "[LThereAndBack$Refused;" := by decide +kernel
    rw [e] at q4; exact q4
  · obtain ⟨kA, comp, q1, q2, q3, q4⟩ := (E.2.2.2.1 108 _ rfl).2
    have e : "[" ++ (FieldType.object "ThereAndBack$Routine").toString = "[LThereAndBack$Routine;" := by decide +kernel
    rw [e] at q4; exact q4
  · obtain ⟨kA, comp, q1, q2, q3, q4⟩ := (E.2.2.2.1 109 _ rfl).2
    have e : "[" ++ (FieldType.object "ThereAndBack$Holder").toString = "[LThereAndBack$Holder;" := by decide +kernel
    rw [e] at q4; exact q4
/-- a kind that has a name -/
def kOK (k : Nat) : Prop := (k < 64 ∧ (kc k).1 ≠ "") ∨ (100 ≤ k ∧ k < 110)
theorem Ev.nam {g : gp} {s : State} (E : Ev g s) {h : hp} {H : Heap} (wf : WFh h) (rp : Rep g h H) {a : Nat} (hk : kOK (hT h a).1) : ∃ cell, H[phi g a]? = some cell ∧ cOK g h a cell ∧ s.vm.findClass (kname (hT h a).1) = some cell.cls := by
  rcases hk with ⟨h1, h2⟩ | ⟨h1, h2⟩
  · obtain ⟨cell, q1, q2⟩ := rp.cell wf (Or.inl h1)
    exact ⟨cell, q1, q2, E.nameO rfl h1 h2 q2⟩
  · obtain ⟨cell, q1, q2⟩ := rp.cell wf (Or.inr h1)
    exact ⟨cell, q1, q2, E.nameA rfl h1 h2 q2⟩
/-- the kind k fits the class of that name -/
def fitsK (k : Nat) (nm : String) : Prop := kOK k ∧ (kname k = nm ∨ Cond.castable (kname k) nm ∈ lw_tbl)
theorem Ev.asg {g : gp} {s : State} (E : Ev g s) {h : hp} {H : Heap} (wf : WFh h) (rp : Rep g h H) {a : Nat} {nm : String} (hk : fitsK (hT h a).1 nm) : ∃ cell cT, H[phi g a]? = some cell ∧ cOK g h a cell ∧ s.vm.findClass nm = some cT ∧ s.vm.assignable cell.cls cT = true := by
  obtain ⟨h1, h2⟩ := hk
  obtain ⟨cell, q1, q2, q3⟩ := E.nam wf rp h1
  rcases h2 with e | e
  · rw [e] at q3
    exact ⟨cell, cell.cls, q1, q2, q3, va_asg _ _⟩
  · obtain ⟨c0, t0, f1, f2, f3⟩ := Cond.castable_spec (va_Nw.use (A := #[]) rfl (E.2.1 _ e stay_cast))
    cases q3.symm.trans f1
    exact ⟨cell, t0, q1, q2, f2, f3⟩
section Rows
variable {yN : Nat → MethodName} {yW : Nat → Cond} {z : mi} {pc : Nat}
theorem ok_checkcast {ks : List Nat} {idx : Nat} {nm : String} (hd : decode z.2.1 pc = .ok (.checkcast idx, 3)) (hlink : Cond.classLink z.1 idx nm ∈ lw_all) (hks : ∀ k ∈ ks, fitsK k nm) : RowOK yN yW z pc (o_cast ks) := by
  intro g p l e R s m args below meth c d h0 Q C W' X' Q' hW hX hQ ls st h kT wf okl oks H locs L cells slots rp hl hlo hb hB
  unfold o_cast at kT
  split at kT
  · rename_i r st
    obtain ⟨hf, kT2⟩ := kT
    have k := hX _ _ _ _ kT2 wf okl (okL_cons trivial oks.tl) H locs L cells slots rp hl hlo hb hB
    cases r with
    | none => exact lv_castN C.1 C.2.1 hd k
    | some a =>
      rcases hf with w | ⟨b, w, hb2⟩
      · cases w
      · cases w
        obtain ⟨cell, cT, q1, q2, q3, q4⟩ := C.2.2.2.2.1.asg wf rp (hks _ hb2)
        intro T hT X
        obtain ⟨vm', X2, st2⟩ := X.checkcastYes C.1 C.2.2.2.1 (C.2.2.2.2.1.w hlink args) (by rw [hT]; exact q1) q2.2.1 q3 q4 (g := F0 m pc L (.ref (phi g a) :: st.map (cv g))) rfl rfl (by rw [C.2.1]; exact hd)
        obtain ⟨t, a1, b1⟩ := k (T.setVm vm') hT X2
        exact ⟨t, st2 t a1, b1⟩
  · exact kT.elim
theorem ok_inst {ks us : List Nat} {idx : Nat} {nm : String} (hd : decode z.2.1 pc = .ok (.instanceof idx, 3)) (hlink : Cond.classLink z.1 idx nm ∈ lw_all) (hks : ∀ k ∈ us, (k ∈ ks ∧ fitsK k nm) ∨ (k ∉ ks ∧ kOK k ∧ (kname k, nm) ∈ ncL)) : RowOK yN yW z pc (o_inst ks us) := by
  intro g p l e R s m args below meth c d h0 Q C W' X' Q' hW hX hQ ls st h kT wf okl oks H locs L cells slots rp hl hlo hb hB
  unfold o_inst at kT
  split at kT
  · rename_i r st
    obtain ⟨hf, kT2⟩ := kT
    cases r with
    | none => exact lv_instN C.1 C.2.1 hd (hX _ _ _ _ kT2 wf okl (okL_cons in32_0 oks.tl) H locs L cells slots rp hl hlo hb hB)
    | some a =>
      rcases hf with w | ⟨b, w, hb2⟩
      · cases w
      · cases w
        rcases hks _ hb2 with ⟨h1, h2⟩ | ⟨h1, h2, h3⟩
        · obtain ⟨cell, cT, q1, q2, q3, q4⟩ := C.2.2.2.2.1.asg wf rp h2
          have e1 : insV h ks (some a) = 1 := if_pos h1
          rw [e1] at kT2
          have k := hX _ _ _ _ kT2 wf okl (okL_cons (in32_lit (by decide)) oks.tl) H locs L cells slots rp hl hlo hb hB
          intro T hT X
          obtain ⟨vm', X2, st2⟩ := X.instanceofYes C.1 C.2.2.2.1 (C.2.2.2.2.1.w hlink args) (by rw [hT]; exact q1) q2.2.1 q3 q4 (g := F0 m pc L (.ref (phi g a) :: st.map (cv g))) rfl rfl (by rw [C.2.1]; exact hd)
          obtain ⟨t, a1, b1⟩ := k (T.setVm vm') hT X2
          exact ⟨t, st2 t a1, b1⟩
        · obtain ⟨cell, q1, q2, q3⟩ := C.2.2.2.2.1.nam wf rp h2
          have e1 : insV h ks (some a) = 0 := if_neg h1
          rw [e1] at kT2
          exact va_instNo C.1 C.2.1 C.2.2.2.1 (C.2.2.2.2.1.w hlink args) (C.2.2.2.2.1.2.2.2.2.1 _ h3) ⟨cell, q1, q2.2.1, q3⟩ hd (hX _ _ _ _ kT2 wf okl (okL_cons in32_0 oks.tl) H locs L cells slots rp hl hlo hb hB)
  · exact kT.elim
/-- a reference into an array of references of kind k: the elements' class nm -/
theorem ok_aast {k : Nat} {es : List Nat} {nm : String} (hty : aty k = some (.object nm)) (h100 : 100 ≤ k ∧ k < 110) (hz : ak k = 2) (hes : ∀ q ∈ es, fitsK q nm) (hd : decode z.2.1 pc = .ok (.aastore, 1)) : RowOK yN yW z pc (o_aast k es) := by
  intro g p l e R s m args below meth c d h0 Q C W' X' Q' hW hX hQ ls st h kT wf okl oks H locs L cells slots rp hl hlo hb hB
  obtain ⟨v, i, a, st, rfl, hi, hv, kT2⟩ := inv_aast kT
  obtain ⟨cell, e1, e2, e3, e4, e5, e6, e7⟩ := elem C.2.2.2.2.1 wf rp hi h100.1 hty oks.tl.hd
  obtain ⟨c1, c2⟩ := arr_core (h' := sR h a i.toNat v) (v := cr g v) C.2.2.2.2.1 wf rp hi h100 rfl rfl (fun b n w => eoR b n w) e2 hlo (by rw [hz]; exact fv_sR.symm)
  cases v with
  | none =>
    refine va_WaastN C.1 C.2.1 e1 e3 e4 e5 rfl rfl hd (fun H2 q1 q2 q3 => ?_)
    rw [e6] at q1 ⊢
    exact hX _ _ _ _ kT2 wf.sR okl oks.tl.tl.tl H2 _ L cells slots (c2 H2 q1 q2 q3) hl c1 hb hB
  | some b =>
    rcases hv with w | ⟨b2, w, hb2⟩
    · cases w
    · cases w
      obtain ⟨cellV, cT, v1, v2, v3, v4⟩ := C.2.2.2.2.1.asg wf rp (hes _ hb2)
      obtain ⟨kA, comp, r1, r2, r3, -⟩ := (C.2.2.2.2.1.2.2.2.1 k _ hty).2
      cases v3.symm.trans r3
      obtain ⟨kc0, hkc0, -⟩ := Vm.findClass_spec v3
      obtain ⟨kV, hkV⟩ : ∃ kV, s.vm.classes[cellV.cls]? = some kV := Vm.classAt_of_assignable v4 ⟨kc0, hkc0⟩
      have hcls : cell.cls = gA g k := by
        have h1 := List.mem_singleton.mp hi.1
        have := (e2.2.2.2.2 (by rw [h1]; exact h100.1)).1
        rw [h1] at this
        exact this
      refine W.aast C.1 C.2.1 e1 (VmData.ne_statics_of e2.2.1) e4 (by rw [hcls]; exact r1) r2 rfl hkc0 ⟨fun w => e5 (Or.inl w), Nat.lt_of_not_le (fun w => e5 (Or.inr w))⟩ v1 (VmData.ne_statics_of v2.2.1) hkV v4 rfl rfl hd (fun H2 q1 q2 q3 => ?_)
      rw [e6] at q1 ⊢
      exact hX _ _ _ _ kT2 wf.sR okl oks.tl.tl.tl H2 _ L cells slots (c2 H2 q1 q2 q3) hl c1 hb hB
theorem ok_alen (hd : decode z.2.1 pc = .ok (.arraylength, 1)) : RowOK yN yW z pc o_alen := by
  intro g p l e R s m args below meth c d h0 Q C W' X' Q' hW hX hQ ls st h kT wf okl oks H locs L cells slots rp hl hlo hb hB
  unfold o_alen at kT
  split at kT
  · rename_i r st
    cases r with
    | none => exact kT.elim
    | some a =>
      obtain ⟨h100, h113, hsz, kT2⟩ := kT
      obtain ⟨cell, e1, e2⟩ := rp.cell wf (Or.inr h100)
      have h5 := e2.2.2.2.2 h100
      obtain ⟨ty, hty⟩ : ∃ ty, aty (hT h a).1 = some ty := by
        generalize (hT h a).1 = k at h100 h113
        have : k = 100 ∨ k = 101 ∨ k = 102 ∨ k = 103 ∨ k = 104 ∨ k = 105 ∨ k = 106 ∨ k = 107 ∨ k = 108 ∨ k = 109 ∨ k = 110 ∨ k = 111 ∨ k = 112 := by omega
        rcases this with rfl | rfl | rfl | rfl | rfl | rfl | rfl | rfl | rfl | rfl | rfl | rfl | rfl <;> exact ⟨_, rfl⟩
      have hlen : cell.slots.size.toInt32 = Int32.ofInt ((hT h a).2 : Int) := by
        rw [h5.2.1]; rfl
      exact W.alen C.1 C.2.1 e1 (C.2.2.2.2.1.arr rfl hty h100 e2) hlen rfl rfl hd (hX _ _ _ _ kT2 wf okl (okL_cons (in32_lit (by omega)) oks.tl) H locs L cells slots rp hl hlo hb hB)
  · exact kT.elim
end Rows
