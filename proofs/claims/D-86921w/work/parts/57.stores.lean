/-! putfield; arrays; new; returns -/
theorem WFh.own {h : hp} (w : WFh h) {a : Nat} (ha : ((hT h a).1 < 64 ∧ (hT h a).1 ≠ 45) ∨ (100 ≤ (hT h a).1 ∧ (hT h a).1 < 110)) : 68 ≤ a := by
  rcases Nat.lt_or_ge a 68 with q | q
  · have := w.2.2.2.2.1 a q
    omega
  · exact q
theorem nar_cr (g : gp) (r : Option Nat) (ty : FieldType) (h : (∃ n, ty = .object n) ∨ ∃ t, ty = .array t) : narrow ty (cr g r) = cr g r ∧ fits ty (cr g r) = true := by
  rcases h with ⟨n, rfl⟩ | ⟨t, rfl⟩ <;> cases r <;> exact ⟨rfl, rfl⟩
section Rows
variable {yN : Nat → MethodName} {yW : Nat → Cond} {z : mi} {pc : Nat}
theorem inv_pI {ks : List Nat} {j : Nat} {W : wt} {X : xt} {Q : qt} {pc : Nat} {ls s0 : List av} {h : hp} (kT : o_pI ks j W X Q pc ls s0 h) : ∃ x a st, s0 = vI x :: vR (some a) :: st ∧ (hT h a).1 ∈ ks ∧ X (pc + 3) ls st (sI h a j x) := by
  unfold o_pI at kT; split at kT
  · rename_i x r st
    cases r with
    | none => exact kT.elim
    | some a => exact ⟨x, a, st, rfl, kT⟩
  · exact kT.elim
theorem inv_pZ {ks : List Nat} {j : Nat} {W : wt} {X : xt} {Q : qt} {pc : Nat} {ls s0 : List av} {h : hp} (kT : o_pZ ks j W X Q pc ls s0 h) : ∃ x a st, s0 = vI x :: vR (some a) :: st ∧ (hT h a).1 ∈ ks ∧ (x = 0 ∨ x = 1) ∧ X (pc + 3) ls st (sI h a j x) := by
  unfold o_pZ at kT; split at kT
  · rename_i x r st
    cases r with
    | none => exact kT.elim
    | some a => exact ⟨x, a, st, rfl, kT⟩
  · exact kT.elim
theorem inv_pJ {ks : List Nat} {j : Nat} {W : wt} {X : xt} {Q : qt} {pc : Nat} {ls s0 : List av} {h : hp} (kT : o_pJ ks j W X Q pc ls s0 h) : ∃ x a st, s0 = vJ x :: vR (some a) :: st ∧ (hT h a).1 ∈ ks ∧ X (pc + 3) ls st (sL h a j x) := by
  unfold o_pJ at kT; split at kT
  · rename_i x r st
    cases r with
    | none => exact kT.elim
    | some a => exact ⟨x, a, st, rfl, kT⟩
  · exact kT.elim
theorem inv_pR {ks : List Nat} {j : Nat} {W : wt} {X : xt} {Q : qt} {pc : Nat} {ls s0 : List av} {h : hp} (kT : o_pR ks j W X Q pc ls s0 h) : ∃ x a st, s0 = vR x :: vR (some a) :: st ∧ (hT h a).1 ∈ ks ∧ X (pc + 3) ls st (sR h a j x) := by
  unfold o_pR at kT; split at kT
  · rename_i x r st
    cases r with
    | none => exact kT.elim
    | some a => exact ⟨x, a, st, rfl, kT⟩
  · exact kT.elim
theorem eoI {h : hp} {a j : Nat} {x : Int} (b i : Nat) (w : ¬ (b = a ∧ i = j)) : hI (sI h a j x) b i = hI h b i ∧ hL (sI h a j x) b i = hL h b i ∧ hR (sI h a j x) b i = hR h b i := ⟨up2_ne _ _ w, rfl, rfl⟩
theorem eoL {h : hp} {a j : Nat} {x : Int} (b i : Nat) (w : ¬ (b = a ∧ i = j)) : hI (sL h a j x) b i = hI h b i ∧ hL (sL h a j x) b i = hL h b i ∧ hR (sL h a j x) b i = hR h b i := ⟨rfl, up2_ne _ _ w, rfl⟩
theorem eoR {h : hp} {a j : Nat} {x : Option Nat} (b i : Nat) (w : ¬ (b = a ∧ i = j)) : hI (sR h a j x) b i = hI h b i ∧ hL (sR h a j x) b i = hL h b i ∧ hR (sR h a j x) b i = hR h b i := ⟨rfl, rfl, up2_ne _ _ w⟩
theorem fv_sI {g : gp} {h : hp} {a j : Nat} {x : Int} : fv g (sI h a j x) a j 0 = .int (Int32.ofInt x) := by
  show Value.int (Int32.ofInt (up2 (hI h) a j x a j)) = _
  rw [up2_self]
theorem fv_sL {g : gp} {h : hp} {a j : Nat} {x : Int} : fv g (sL h a j x) a j 1 = .long (Int64.ofInt x) := by
  show Value.long (Int64.ofInt (up2 (hL h) a j x a j)) = _
  rw [up2_self]
theorem fv_sR {g : gp} {h : hp} {a j : Nat} {x : Option Nat} : fv g (sR h a j x) a j 2 = cr g x := by
  show cr g (up2 (hR h) a j x a j) = _
  rw [up2_self]
/-- each class of the row: it may be written so -/
def putsOK (z : mi) (ks : List Nat) (j t idx : Nat) (ref name desc : String) : Prop := ∀ k ∈ ks, k ≠ 45 ∧ fk k j = t ∧ putOK z.1 z.2.2.2.2.1 k j idx ref name desc
theorem putsOK.own {ks : List Nat} {j t idx : Nat} {ref name desc : String} {h : hp} {a : Nat} (q : putsOK z ks j t idx ref name desc) (w : WFh h) (ha : (hT h a).1 ∈ ks) : 68 ≤ a := by
  obtain ⟨h1, -, r, h2, -⟩ := q _ ha
  exact w.own (Or.inl ⟨(List.getElem?_eq_some_iff.mp h2).1, h1⟩)
theorem putsOK.rng {ks : List Nat} {j t idx : Nat} {ref name desc : String} {h : hp} {a : Nat} {x : Int} (q : putsOK z ks j t idx ref name desc) (ha : (hT h a).1 ∈ ks) : rng (hT h a).1 x := by
  obtain ⟨h1, -, r, h2, -⟩ := q _ ha
  have h3 : (hT h a).1 < 64 := (List.getElem?_eq_some_iff.mp h2).1
  exact rng_lt (Or.inl (by omega))
theorem ok_pI {ks : List Nat} {j idx : Nat} {ref name desc : String} (hd : decode z.2.1 pc = .ok (.putfield idx, 3)) (hty : parseFieldDescriptor desc = some .int) (hks : putsOK z ks j 0 idx ref name desc) : RowOK yN yW z pc (o_pI ks j) := by
  intro g p l e R s m args below meth c d h0 Q C W' X' Q' hW hX hQ ls st h kT wf okl oks H locs L cells slots rp hl hlo hb hB
  obtain ⟨x, a, st, rfl, hk, kT2⟩ := inv_pI kT
  have k := put_core (Q := Q) (l := l) (e := e) (args := args) (below := below) (h' := sI h a j x) C (hks.own wf hk) (hks _ hk).2.2 hd wf rp (hks _ hk).2.1 hty rfl rfl rfl rfl (fun b i w => eoI b i w) hlo (rest := st.map (cv g)) (L := L) (cells := cells) (slots := slots)
    (fun H2 locs2 rp2 hlo2 => hX _ _ _ _ kT2 (wf.sI oks.hd (hks.rng hk)) okl oks.tl.tl H2 locs2 L cells slots rp2 hl hlo2 hb hB)
  rw [fv_sI] at k
  exact k
theorem ok_pZ {ks : List Nat} {j idx : Nat} {ref name desc : String} (hd : decode z.2.1 pc = .ok (.putfield idx, 3)) (hty : parseFieldDescriptor desc = some .boolean) (hks : putsOK z ks j 0 idx ref name desc) : RowOK yN yW z pc (o_pZ ks j) := by
  intro g p l e R s m args below meth c d h0 Q C W' X' Q' hW hX hQ ls st h kT wf okl oks H locs L cells slots rp hl hlo hb hB
  obtain ⟨x, a, st, rfl, hk, hx, kT2⟩ := inv_pZ kT
  have e0 : fv g (sI h a j x) a j 0 = .int (Int32.ofInt x) := fv_sI
  have k := put_core (Q := Q) (l := l) (e := e) (args := args) (below := below) (h' := sI h a j x) C (hks.own wf hk) (hks _ hk).2.2 hd wf rp (hks _ hk).2.1 hty (by rw [e0]; rcases hx with rfl | rfl <;> rfl) (by rw [e0]; rcases hx with rfl | rfl <;> rfl) rfl rfl (fun b i w => eoI b i w) hlo (rest := st.map (cv g)) (L := L) (cells := cells) (slots := slots)
    (fun H2 locs2 rp2 hlo2 => hX _ _ _ _ kT2 (wf.sI oks.hd (hks.rng hk)) okl oks.tl.tl H2 locs2 L cells slots rp2 hl hlo2 hb hB)
  rw [fv_sI] at k
  exact k
theorem ok_pJ {ks : List Nat} {j idx : Nat} {ref name desc : String} (hd : decode z.2.1 pc = .ok (.putfield idx, 3)) (hty : parseFieldDescriptor desc = some .long) (hks : putsOK z ks j 1 idx ref name desc) : RowOK yN yW z pc (o_pJ ks j) := by
  intro g p l e R s m args below meth c d h0 Q C W' X' Q' hW hX hQ ls st h kT wf okl oks H locs L cells slots rp hl hlo hb hB
  obtain ⟨x, a, st, rfl, hk, kT2⟩ := inv_pJ kT
  have k := put_core (Q := Q) (l := l) (e := e) (args := args) (below := below) (h' := sL h a j x) C (hks.own wf hk) (hks _ hk).2.2 hd wf rp (hks _ hk).2.1 hty rfl rfl rfl rfl (fun b i w => eoL b i w) hlo (rest := st.map (cv g)) (L := L) (cells := cells) (slots := slots)
    (fun H2 locs2 rp2 hlo2 => hX _ _ _ _ kT2 (wf.sL oks.hd) okl oks.tl.tl H2 locs2 L cells slots rp2 hl hlo2 hb hB)
  rw [fv_sL] at k
  exact k
theorem ok_pR {ks : List Nat} {j idx : Nat} {ref name desc : String} {ty : FieldType} (hd : decode z.2.1 pc = .ok (.putfield idx, 3)) (hty : parseFieldDescriptor desc = some ty) (hr : (∃ n, ty = .object n) ∨ ∃ t, ty = .array t) (hks : putsOK z ks j 2 idx ref name desc) : RowOK yN yW z pc (o_pR ks j) := by
  intro g p l e R s m args below meth c d h0 Q C W' X' Q' hW hX hQ ls st h kT wf okl oks H locs L cells slots rp hl hlo hb hB
  obtain ⟨x, a, st, rfl, hk, kT2⟩ := inv_pR kT
  have e0 : fv g (sR h a j x) a j 2 = cr g x := fv_sR
  have k := put_core (Q := Q) (l := l) (e := e) (args := args) (below := below) (h' := sR h a j x) C (hks.own wf hk) (hks _ hk).2.2 hd wf rp (hks _ hk).2.1 hty (by rw [e0]; exact (nar_cr g x ty hr).1) (by rw [e0]; exact (nar_cr g x ty hr).2) rfl rfl (fun b i w => eoR b i w) hlo (rest := st.map (cv g)) (L := L) (cells := cells) (slots := slots)
    (fun H2 locs2 rp2 hlo2 => hX _ _ _ _ kT2 wf.sR okl oks.tl.tl H2 locs2 L cells slots rp2 hl hlo2 hb hB)
  rw [fv_sR] at k
  exact k
/-! arrays -/
theorem ix {i : Int} (hi : in32 i) {n : Nat} (h1 : 0 ≤ i) (h2 : i < n) : ¬ (Int32.ofInt i < 0 ∨ n ≤ (Int32.ofInt i).toNatClampNeg) ∧ (Int32.ofInt i).toNatClampNeg = i.toNat := by
  have e : (Int32.ofInt i).toNatClampNeg = i.toNat := by
    show (Int32.ofInt i).toInt.toNat = i.toNat
    rw [hi]
  refine ⟨?_, e⟩
  rw [e]
  rintro (w | w)
  · have := (in32_lt hi in32_0).mp w
    omega
  · omega
theorem Ev.arr {g : gp} {s : State} (E : Ev g s) {h : hp} {a k : Nat} {ty : FieldType} (hk : (hT h a).1 = k) (hty : aty k = some ty) (h100 : 100 ≤ k) {cell : Cell} (c0 : cOK g h a cell) : s.isArrayOf cell ty := by
  refine ArrOfT.of (E.2.2.2.1 k ty hty).1 ?_ c0.2.1
  have := (c0.2.2.2.2 (by rw [hk]; exact h100)).1
  rw [hk] at this
  exact this
theorem inv_ald {ks : List Nat} {W : wt} {X : xt} {Q : qt} {pc : Nat} {ls s0 : List av} {h : hp} (kT : o_ald ks W X Q pc ls s0 h) : ∃ i a st, s0 = vI i :: vR (some a) :: st ∧ inb h a ks i ∧ X (pc + 1) ls (vI (hI h a i.toNat) :: st) h := by
  unfold o_ald at kT; split at kT
  · rename_i i r st
    cases r with
    | none => exact kT.elim
    | some a => exact ⟨i, a, st, rfl, kT⟩
  · exact kT.elim
theorem inv_lald {W : wt} {X : xt} {Q : qt} {pc : Nat} {ls s0 : List av} {h : hp} (kT : o_lald W X Q pc ls s0 h) : ∃ i a st, s0 = vI i :: vR (some a) :: st ∧ inb h a [105] i ∧ X (pc + 1) ls (vJ (hL h a i.toNat) :: st) h := by
  unfold o_lald at kT; split at kT
  · rename_i i r st
    cases r with
    | none => exact kT.elim
    | some a => exact ⟨i, a, st, rfl, kT⟩
  · exact kT.elim
theorem inv_aald {ks : List Nat} {W : wt} {X : xt} {Q : qt} {pc : Nat} {ls s0 : List av} {h : hp} (kT : o_aald ks W X Q pc ls s0 h) : ∃ i a st, s0 = vI i :: vR (some a) :: st ∧ inb h a ks i ∧ X (pc + 1) ls (vR (hR h a i.toNat) :: st) h := by
  unfold o_aald at kT; split at kT
  · rename_i i r st
    cases r with
    | none => exact kT.elim
    | some a => exact ⟨i, a, st, rfl, kT⟩
  · exact kT.elim
/-- the element, by the array's kind -/
theorem elem {g : gp} {s : State} (E : Ev g s) {h : hp} {H : Heap} (wf : WFh h) (rp : Rep g h H) {a k : Nat} {i : Int} (hk : inb h a [k] i) (h100 : 100 ≤ k) {ty : FieldType} (hty : aty k = some ty) (hi : in32 i) :
    ∃ cell, H[phi g a]? = some cell ∧ cOK g h a cell ∧ s.isArrayOf cell ty ∧ cell.vm ≠ .unknown ∧ ¬ (Int32.ofInt i < 0 ∨ cell.slots.size ≤ (Int32.ofInt i).toNatClampNeg) ∧ (Int32.ofInt i).toNatClampNeg = i.toNat ∧ cell.slots[(Int32.ofInt i).toNatClampNeg]? = some (fv g h a i.toNat (ak k)) := by
  obtain ⟨h1, h2, h3⟩ := hk
  have h1 := List.mem_singleton.mp h1
  obtain ⟨cell, hc, c0⟩ := rp.cell wf (Or.inr (by rw [h1]; exact h100))
  have h5 := c0.2.2.2.2 (by rw [h1]; exact h100)
  obtain ⟨x1, x2⟩ := ix hi h2 h3
  refine ⟨cell, hc, c0, E.arr h1 hty h100 c0, c0.1, by rw [h5.2.1]; exact x1, x2, ?_⟩
  rw [x2, h5.2.2 i.toNat (by omega), h1]
theorem ok_iald {k : Nat} (hk : aty k = some .int) (h100 : 100 ≤ k) (hz : ak k = 0) (hd : decode z.2.1 pc = .ok (.iaload, 1)) : RowOK yN yW z pc (o_ald [k]) := by
  intro g p l e R s m args below meth c d h0 Q C W' X' Q' hW hX hQ ls st h kT wf okl oks H locs L cells slots rp hl hlo hb hB
  obtain ⟨i, a, st, rfl, hi, kT2⟩ := inv_ald kT
  obtain ⟨cell, e1, e2, e3, e4, e5, e6, e7⟩ := elem C.2.2.2.2.1 wf rp hi h100 hk oks.hd
  rw [hz] at e7
  exact W.iald C.1 C.2.1 e1 e3 e4 e5 e7 rfl rfl hd (hX _ _ _ _ kT2 wf okl (okL_cons (wf.2.1 a _) oks.tl.tl) H locs L cells slots rp hl hlo hb hB)
theorem ok_bald {k : Nat} (hk : aty k = some .byte) (h100 : 100 ≤ k) (hz : ak k = 0) (hd : decode z.2.1 pc = .ok (.baload, 1)) : RowOK yN yW z pc (o_ald [k]) := by
  intro g p l e R s m args below meth c d h0 Q C W' X' Q' hW hX hQ ls st h kT wf okl oks H locs L cells slots rp hl hlo hb hB
  obtain ⟨i, a, st, rfl, hi, kT2⟩ := inv_ald kT
  obtain ⟨cell, e1, e2, e3, e4, e5, e6, e7⟩ := elem C.2.2.2.2.1 wf rp hi h100 hk oks.hd
  rw [hz] at e7
  exact W.bald C.1 C.2.1 e1 e3 e4 e5 e7 rfl rfl hd (hX _ _ _ _ kT2 wf okl (okL_cons (wf.2.1 a _) oks.tl.tl) H locs L cells slots rp hl hlo hb hB)
theorem ok_zald (hd : decode z.2.1 pc = .ok (.baload, 1)) : RowOK yN yW z pc (o_ald [100]) := by
  intro g p l e R s m args below meth c d h0 Q C W' X' Q' hW hX hQ ls st h kT wf okl oks H locs L cells slots rp hl hlo hb hB
  obtain ⟨i, a, st, rfl, hi, kT2⟩ := inv_ald kT
  obtain ⟨cell, e1, e2, e3, e4, e5, e6, e7⟩ := elem (ty := .boolean) C.2.2.2.2.1 wf rp hi (by decide) rfl oks.hd
  exact W.zald C.1 C.2.1 e1 e3 e4 e5 e7 rfl rfl hd (hX _ _ _ _ kT2 wf okl (okL_cons (wf.2.1 a _) oks.tl.tl) H locs L cells slots rp hl hlo hb hB)
theorem ok_sald (hd : decode z.2.1 pc = .ok (.saload, 1)) : RowOK yN yW z pc (o_ald [103]) := by
  intro g p l e R s m args below meth c d h0 Q C W' X' Q' hW hX hQ ls st h kT wf okl oks H locs L cells slots rp hl hlo hb hB
  obtain ⟨i, a, st, rfl, hi, kT2⟩ := inv_ald kT
  obtain ⟨cell, e1, e2, e3, e4, e5, e6, e7⟩ := elem (ty := .short) C.2.2.2.2.1 wf rp hi (by decide) rfl oks.hd
  exact W.sald C.1 C.2.1 e1 e3 e4 e5 e7 rfl rfl hd (hX _ _ _ _ kT2 wf okl (okL_cons (wf.2.1 a _) oks.tl.tl) H locs L cells slots rp hl hlo hb hB)
theorem ok_cald (hd : decode z.2.1 pc = .ok (.caload, 1)) : RowOK yN yW z pc (o_ald [101]) := by
  intro g p l e R s m args below meth c d h0 Q C W' X' Q' hW hX hQ ls st h kT wf okl oks H locs L cells slots rp hl hlo hb hB
  obtain ⟨i, a, st, rfl, hi, kT2⟩ := inv_ald kT
  obtain ⟨cell, e1, e2, e3, e4, e5, e6, e7⟩ := elem (ty := .char) C.2.2.2.2.1 wf rp hi (by decide) rfl oks.hd
  exact W.cald C.1 C.2.1 e1 e3 e4 e5 e7 rfl rfl hd (hX _ _ _ _ kT2 wf okl (okL_cons (wf.2.1 a _) oks.tl.tl) H locs L cells slots rp hl hlo hb hB)
theorem ok_lald (hd : decode z.2.1 pc = .ok (.laload, 1)) : RowOK yN yW z pc o_lald := by
  intro g p l e R s m args below meth c d h0 Q C W' X' Q' hW hX hQ ls st h kT wf okl oks H locs L cells slots rp hl hlo hb hB
  obtain ⟨i, a, st, rfl, hi, kT2⟩ := inv_lald kT
  obtain ⟨cell, e1, e2, e3, e4, e5, e6, e7⟩ := elem (ty := .long) C.2.2.2.2.1 wf rp hi (by decide) rfl oks.hd
  exact W.lald C.1 C.2.1 e1 e3 e4 e5 e7 rfl rfl hd (hX _ _ _ _ kT2 wf okl (okL_cons (wf.2.2.1 a _) oks.tl.tl) H locs L cells slots rp hl hlo hb hB)
theorem ok_aald {k : Nat} {ty : FieldType} (hk : aty k = some ty) (h100 : 100 ≤ k) (hz : ak k = 2) (hr : ty.isReference = true) (hd : decode z.2.1 pc = .ok (.aaload, 1)) : RowOK yN yW z pc (o_aald [k]) := by
  intro g p l e R s m args below meth c d h0 Q C W' X' Q' hW hX hQ ls st h kT wf okl oks H locs L cells slots rp hl hlo hb hB
  obtain ⟨i, a, st, rfl, hi, kT2⟩ := inv_aald kT
  obtain ⟨cell, e1, e2, e3, e4, e5, e6, e7⟩ := elem C.2.2.2.2.1 wf rp hi h100 hk oks.hd
  rw [hz] at e7
  exact W.aald C.1 C.2.1 e1 e3 hr e4 e5 e7 rfl rfl hd (hX _ _ _ _ kT2 wf okl (okL_cons trivial oks.tl.tl) H locs L cells slots rp hl hlo hb hB)
end Rows
