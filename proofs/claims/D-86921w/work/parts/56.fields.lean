/-! fields -/
theorem stay_fln {a : String} {i : Nat} {b n d h : String} : stay (.fieldLinkNest a i b n d h) := fun _ _ hW k => va_Nw.warmF hW k
theorem stay_mln {a : String} {i : Nat} {x : MethodName} {h : String} : stay (.methodLinkNest a i x h) := fun _ _ hW k => va_Nw.warmM hW k
theorem stay_decl {x : MethodName} : stay (.declares x) := fun _ _ hW k => va_Nw.warmD hW k
theorem stay_cast {C T : String} : stay (.castable C T) := fun _ _ hW k => va_Nw.warmC hW k
theorem kc_mem {k : Nat} {q : vw_C} (h : kclL[k]? = some q) : q ∈ kclL := List.mem_of_getElem? h
theorem kc_eq {k : Nat} {q : vw_C} (h : kclL[k]? = some q) : kc k = q := by
  unfold kc
  rw [List.getD_eq_getElem?_getD, h]
  rfl
/-- a field of a class, where it lies -/
theorem Ev.fld {g : gp} {s : State} (E : Ev g s) {k : Nat} {q : vw_C} (hk : kclL[k]? = some q) (hne : q.1 ≠ "") {j : Nat} (hj : j < q.2.2) :
    ∃ (cf : ClassId) (kf : Class) (fi : Nat) (f : Field), s.fieldFound? (q.2.1 j).1 (q.2.1 j).2.1 (q.2.1 j).2.2.1 = some (cf, kf, fi, f) ∧ f.slot = gF g k j ∧ f.isStatic = false := by
  obtain ⟨hS, hfc, kC, hkC, hkind⟩ := E.2.2.1 k q hk hne
  obtain ⟨cf, kf, fi, f, hi, hsl⟩ := hS j hj
  exact ⟨cf, kf, fi, f, hi, hsl, (u_facts hfc hkC (u_lays (E.ws #[]) (kinL q (kc_mem hk)) hj) hi).1⟩
/-- what a row of getfield or putfield says of the class k and its field j: its type's number t, the link's class ref -/
def fldOK (k j t : Nat) (ref name desc : String) : Prop := ∃ q : vw_C, kclL[k]? = some q ∧ q.1 ≠ "" ∧ j < q.2.2 ∧ fk k j = t ∧ trk k j ∧ (q.2.1 j).2.1 = name ∧ (q.2.1 j).2.2.1 = desc ∧ ((q.2.1 j).1 = ref ∨ Cond.sameField ref (q.2.1 j).1 name desc ∈ lw_all)
def lnkF (own : String) (idx : Nat) (ref name desc : String) : Prop := Cond.fieldLink own idx ref name desc ∈ lw_all ∨ ∃ host, Cond.fieldLinkNest own idx ref name desc host ∈ lw_tbl
theorem fld_found {g : gp} {s : State} (E : Ev g s) {k j t : Nat} {ref name desc : String} (h : fldOK k j t ref name desc) : k < 64 ∧ j < (kc k).2.2 ∧ trk k j ∧ fk k j = t ∧
    ∃ (cf : ClassId) (kf : Class) (fi : Nat) (f : Field), s.fieldFound? ref name desc = some (cf, kf, fi, f) ∧ f.slot = gF g k j ∧ f.isStatic = false := by
  obtain ⟨q, h1, h2, h3, h4, h5, h6, h7, h8⟩ := h
  obtain ⟨cf, kf, fi, f, hi, hsl, hst⟩ := E.fld h1 h2 h3
  rw [h6, h7] at hi
  have hk : k < 64 := (List.getElem?_eq_some_iff.mp h1).1
  refine ⟨hk, by rw [kc_eq h1]; exact h3, h5, h4, cf, kf, fi, f, ?_, hsl, hst⟩
  rcases h8 with e | e
  · rw [← e]; exact hi
  · exact u_same (E.w e #[]) _ hi
section Rows
variable {yN : Nat → MethodName} {yW : Nat → Cond} {z : mi} {pc : Nat}
theorem W_get {g : gp} {p : Program} {l : Launch} {e : Env} {R : Room} {s : State} {m : MethodId} {args : Array Value} {below : List Frame} {meth : Method} {c : Code} {H : Heap} {locs : List Loc} {cells slots : Nat} {Qw : State → Prop} {cc : ByteArray} {own : String} {idx : Nat} {ref name desc : String}
    (hx : p.tables.exec = Jvm.exec) (hb : c.code = cc) (hown : s.vm.findClass own = some m.cls) (E : Ev g s) (hlink : lnkF own idx ref name desc) {cf fi : Nat} {kf : Class} {f : Field} (hi : s.fieldFound? ref name desc = some (cf, kf, fi, f)) (hst : f.isStatic = false)
    {a : Nat} {cell : Cell} {v : Value} (hcell : H[a]? = some cell) (hknown : cell.vm ≠ .unknown) (hslot : cell.slots[f.slot]? = some v) {pc : Nat} {L : Array Slot} {rest : List Value} (hd : decode cc pc = .ok (.getfield idx, 3))
    (k : W p l e R s m args below meth c H locs cells slots Qw (F0 m (pc + 3) L (v :: rest))) : W p l e R s m args below meth c H locs cells slots Qw (F0 m pc L (.ref a :: rest)) := by
  rcases hlink with hw | ⟨host, hw⟩
  · exact W.getf hx hb hown (E.w hw args) hi hst hcell hknown hslot rfl rfl hd k
  · exact va_Wgetf hx hb hown (va_Nw.use (A := args) rfl (E.2.1 _ hw stay_fln)) hi hst hcell hknown hslot rfl rfl hd k
/-- the value of a field, by its type's number -/
theorem get_core {g : gp} {h0 : hp} {Q : qt} {p : Program} {l : Launch} {e : Env} {R : Room} {s : State} {m : MethodId} {args : Array Value} {below : List Frame} {meth : Method} {c : Code} {d : Nat} (C : Cx g z d h0 p R s m meth c)
    {t j idx : Nat} {ref name desc : String} {h : hp} {H : Heap} {a : Nat} (hf : fldOK (hT h a).1 j t ref name desc) (hlink : lnkF z.1 idx ref name desc) (hd : decode z.2.1 pc = .ok (.getfield idx, 3)) (wf : WFh h) (rp : Rep g h H)
    {locs : List Loc} {cells slots : Nat} {L : Array Slot} {rest : List Value} (k : W p l e R s m args below meth c H locs cells slots (MX g below h0 Q args s) (F0 m (pc + 3) L (fv g h a j t :: rest))) :
    W p l e R s m args below meth c H locs cells slots (MX g below h0 Q args s) (F0 m pc L (.ref (phi g a) :: rest)) := by
  have E := C.2.2.2.2.1
  obtain ⟨hk, hj, ht, hfk, cf, kf, fi, f, hi, hsl, hst⟩ := fld_found E hf
  obtain ⟨cell, hcell, k1, k2, k3, k4, k5⟩ := rp.cell wf (Or.inl hk)
  refine W_get C.1 C.2.1 C.2.2.2.1 E hlink hi hst hcell k1 ?_ hd k
  rw [hsl, ((k4 hk).2 j hj).1 ht, hfk]
theorem inv_gI {ks : List Nat} {j : Nat} {W : wt} {X : xt} {Q : qt} {pc : Nat} {ls s0 : List av} {h : hp} (kT : o_gI ks j W X Q pc ls s0 h) : ∃ a st, s0 = vR (some a) :: st ∧ (hT h a).1 ∈ ks ∧ X (pc + 3) ls (vI (hI h a j) :: st) h := by
  unfold o_gI at kT; split at kT
  · rename_i r st
    cases r with
    | none => exact kT.elim
    | some a => exact ⟨a, st, rfl, kT⟩
  · exact kT.elim
theorem inv_gJ {ks : List Nat} {j : Nat} {W : wt} {X : xt} {Q : qt} {pc : Nat} {ls s0 : List av} {h : hp} (kT : o_gJ ks j W X Q pc ls s0 h) : ∃ a st, s0 = vR (some a) :: st ∧ (hT h a).1 ∈ ks ∧ X (pc + 3) ls (vJ (hL h a j) :: st) h := by
  unfold o_gJ at kT; split at kT
  · rename_i r st
    cases r with
    | none => exact kT.elim
    | some a => exact ⟨a, st, rfl, kT⟩
  · exact kT.elim
theorem inv_gR {ks : List Nat} {j : Nat} {W : wt} {X : xt} {Q : qt} {pc : Nat} {ls s0 : List av} {h : hp} (kT : o_gR ks j W X Q pc ls s0 h) : ∃ a st, s0 = vR (some a) :: st ∧ (hT h a).1 ∈ ks ∧ X (pc + 3) ls (vR (hR h a j) :: st) h := by
  unfold o_gR at kT; split at kT
  · rename_i r st
    cases r with
    | none => exact kT.elim
    | some a => exact ⟨a, st, rfl, kT⟩
  · exact kT.elim
theorem ok_gI {ks : List Nat} {j idx : Nat} {ref name desc : String} (hd : decode z.2.1 pc = .ok (.getfield idx, 3)) (hlink : lnkF z.1 idx ref name desc) (hks : ∀ k ∈ ks, fldOK k j 0 ref name desc) : RowOK yN yW z pc (o_gI ks j) := by
  intro g p l e R s m args below meth c d h0 Q C W' X' Q' hW hX hQ ls st h kT wf okl oks H locs L cells slots rp hl hlo hb hB
  obtain ⟨a, st, rfl, hk, hT2⟩ := inv_gI kT
  exact get_core C (hks _ hk) hlink hd wf rp (hX _ _ _ _ hT2 wf okl (okL_cons (wf.2.1 a j) oks.tl) H locs L cells slots rp hl hlo hb hB)
theorem ok_gJ {ks : List Nat} {j idx : Nat} {ref name desc : String} (hd : decode z.2.1 pc = .ok (.getfield idx, 3)) (hlink : lnkF z.1 idx ref name desc) (hks : ∀ k ∈ ks, fldOK k j 1 ref name desc) : RowOK yN yW z pc (o_gJ ks j) := by
  intro g p l e R s m args below meth c d h0 Q C W' X' Q' hW hX hQ ls st h kT wf okl oks H locs L cells slots rp hl hlo hb hB
  obtain ⟨a, st, rfl, hk, hT2⟩ := inv_gJ kT
  exact get_core C (hks _ hk) hlink hd wf rp (hX _ _ _ _ hT2 wf okl (okL_cons (wf.2.2.1 a j) oks.tl) H locs L cells slots rp hl hlo hb hB)
theorem ok_gR {ks : List Nat} {j idx : Nat} {ref name desc : String} (hd : decode z.2.1 pc = .ok (.getfield idx, 3)) (hlink : lnkF z.1 idx ref name desc) (hks : ∀ k ∈ ks, fldOK k j 2 ref name desc) : RowOK yN yW z pc (o_gR ks j) := by
  intro g p l e R s m args below meth c d h0 Q C W' X' Q' hW hX hQ ls st h kT wf okl oks H locs L cells slots rp hl hlo hb hB
  obtain ⟨a, st, rfl, hk, hT2⟩ := inv_gR kT
  exact get_core C (hks _ hk) hlink hd wf rp (hX _ _ _ _ hT2 wf okl (okL_cons trivial oks.tl) H locs L cells slots rp hl hlo hb hB)
/-! stores -/
/-- how a field may be written: it isn't final, by a link; or it is, in its own class's constructor -/
def putOK (own nm : String) (k j idx : Nat) (ref name desc : String) : Prop := ∃ q : vw_C, kclL[k]? = some q ∧ q.1 ≠ "" ∧ j < q.2.2 ∧ (q.2.1 j).1 = ref ∧ (q.2.1 j).2.1 = name ∧ (q.2.1 j).2.2.1 = desc ∧ (((q.2.1 j).2.2.2 = false ∧ lnkF own idx ref name desc) ∨ ((q.2.1 j).2.2.2 = true ∧ Cond.fieldLink own idx ref name desc ∈ lw_all ∧ nm = "<init>" ∧ ref = own))
theorem cOK.put {g : gp} (hg : gOK g) {h h' : hp} {a k j : Nat} {cell : Cell} {q : vw_C} (hk : (hT h a).1 = k) (hkc : kclL[k]? = some q) (hj : j < q.2.2) (c0 : cOK g h a cell) (et : hT h' a = hT h a) (eo : ∀ i, i ≠ j → hI h' a i = hI h a i ∧ hL h' a i = hL h a i ∧ hR h' a i = hR h a i) :
    cOK g h' a (cell.setSlot (gF g k j) (fv g h' a j (fk k j))) := by
  obtain ⟨k1, k2, k3, k4, k5⟩ := c0
  have hk64 : k < 64 := (List.getElem?_eq_some_iff.mp hkc).1
  refine ⟨k1, k2, k3, fun h4 => ?_, fun h5 => ?_⟩
  · rw [et] at h4 ⊢
    rw [hk] at h4 k4 ⊢
    obtain ⟨q1, q2⟩ := k4 h4
    refine ⟨q1, fun i hi => ?_⟩
    have hlt := (q2 i hi).2
    have hsz : (cell.setSlot (gF g k j) (fv g h' a j (fk k j))).slots.size = cell.slots.size := by simp [Cell.setSlot]
    refine ⟨fun ht => ?_, by rw [hsz]; exact hlt⟩
    by_cases hij : i = j
    · subst hij
      simp [Cell.setSlot, hlt]
    · rw [kc_eq hkc] at hi
      rw [slot_ne _ _ (hg.2 k q hkc j i hj hi (fun e => hij e.symm)), (q2 i (by rw [kc_eq hkc]; exact hi)).1 ht]
      exact congrArg some (fv_congr (eo i hij).1 (eo i hij).2.1 (eo i hij).2.2 _).symm
  · rw [et, hk] at h5
    omega
theorem put_core {g : gp} {h0 : hp} {Q : qt} {p : Program} {l : Launch} {e : Env} {R : Room} {s : State} {m : MethodId} {args : Array Value} {below : List Frame} {meth : Method} {c : Code} {d : Nat} (C : Cx g z d h0 p R s m meth c)
    {t j idx : Nat} {ref name desc : String} {ty : FieldType} {h h' : hp} {H : Heap} {a : Nat} (ha : 68 ≤ a) (hf : putOK z.1 z.2.2.2.2.1 (hT h a).1 j idx ref name desc) (hd : decode z.2.1 pc = .ok (.putfield idx, 3)) (wf : WFh h) (rp : Rep g h H)
    (hfk : fk (hT h a).1 j = t) (hty : parseFieldDescriptor desc = some ty) (hn : narrow ty (fv g h' a j t) = fv g h' a j t) (hfit : fits ty (fv g h' a j t) = true)
    (en : hN h' = hN h) (et : hT h' = hT h) (eo : ∀ b i, ¬ (b = a ∧ i = j) → hI h' b i = hI h b i ∧ hL h' b i = hL h b i ∧ hR h' b i = hR h b i)
    {locs : List Loc} {cells slots : Nat} {L : Array Slot} {rest : List Value} (hlo : ∀ q ∈ locs, gB g ≤ q.base) (k : ∀ (H' : Heap) (locs' : List Loc), Rep g h' H' → (∀ q ∈ locs', gB g ≤ q.base) → W p l e R s m args below meth c H' locs' cells slots (MX g below h0 Q args s) (F0 m (pc + 3) L rest)) :
    W p l e R s m args below meth c H locs cells slots (MX g below h0 Q args s) (F0 m pc L (fv g h' a j t :: .ref (phi g a) :: rest)) := by
  have E := C.2.2.2.2.1
  obtain ⟨q, h1, h2, h3, h4, h5, h6, h7⟩ := hf
  obtain ⟨hS, hfc, kC, hkC, hkind⟩ := E.2.2.1 _ q h1 h2
  obtain ⟨cf, kf, fi, f, hi, hsl⟩ := hS j h3
  have hlays := u_lays (E.ws #[]) (kinL q (kc_mem h1)) h3
  have hst := (u_facts hfc hkC hlays hi).1
  have hk64 : (hT h a).1 < 64 := (List.getElem?_eq_some_iff.mp h1).1
  obtain ⟨cell, hcell, c0⟩ := rp.cell wf (Or.inl hk64)
  obtain ⟨k1, k2, k3, k4, k5⟩ := id c0
  have hcls : cell.cls = gC g (hT h a).1 := (k4 hk64).1
  have hvm := k3 ha
  have hlt : f.slot < cell.slots.size := by rw [hsl]; exact ((k4 hk64).2 j (by rw [kc_eq h1]; exact h3)).2
  have hfin : ∀ (H' : Heap), H'[phi g a]? = some (cell.setSlot f.slot (fv g h' a j t)) → H'.size = H.size → (∀ q, q ≠ phi g a → H'[q]? = H[q]?) → Rep g h' H' := by
    intro H' e1 e2 e3
    rw [hsl] at e1
    refine rp.upd E.1 ha en et (fun b hb i => eo b i (fun w => hb w.1)) e1 ?_ e2 e3
    have := cOK.put (h' := h') E.1 rfl h1 h3 c0 (by rw [et]) (fun i hi => eo a i (fun w => hi w.2))
    rw [hfk] at this
    exact this
  have hlo2 : ∀ q ∈ locs ++ [(⟨phi g a, f.slot⟩ : Loc)], gB g ≤ q.base := by
    intro x hx
    rcases List.mem_append.mp hx with w | w
    · exact hlo x w
    · rw [List.mem_singleton.mp w]; exact phi_ge ha
  rw [h4, h5, h6] at hi
  have hlay := E.w (kinL q (kc_mem h1) _ (u_in_lay h3)) #[]
  unfold u_lay at hlay
  rcases h7 with ⟨hff, hlk⟩ | ⟨hff, hlk, hnm, hown⟩
  · rw [if_neg (by rw [hff]; decide), h4, h5, h6] at hlay
    have h6' := u_store hfc hkC hkind hlay hi hty hn hfit
    rcases hlk with hw | ⟨host, hw⟩
    · exact W.putK C.1 C.2.1 (f := f) ⟨C.2.2.2.1, E.w hw args, ⟨_, _, _, hi⟩, hst⟩ (by rw [hcls]; exact h6') hcell hvm hlt rfl rfl hd (fun H' e1 e2 e3 => k H' _ (hfin H' e1 e2 e3) hlo2)
    · exact va_WputK C.1 C.2.1 (f := f) C.2.2.2.1 (va_Nw.use (A := args) rfl (E.2.1 _ hw stay_fln)) hi hst (by rw [hcls]; exact h6') hcell hvm hlt rfl rfl hd (fun H' e1 e2 e3 => k H' _ (hfin H' e1 e2 e3) hlo2)
  · rw [if_pos hff, h4, h5, h6] at hlay
    have hcf : m.cls = cf := by
      obtain ⟨_, _, c', _, _, _, -, -, hf', -, -, -, hown2, -⟩ := Cond.laysFinal_spec hlay
      have e1 : c' = cf := by have := hi.symm.trans hf'; simp at this; exact this.1.symm
      rw [hown] at hown2
      rw [← e1]; exact Option.some.inj (C.2.2.2.1.symm.trans hown2)
    have h6' := u_fits hfc hkC hkind (Or.inr hlay) hi hty hn hfit
    exact W.putFinK C.1 C.2.1 C.2.2.2.1 (E.w hlk args) hi hst hcf (by rw [C.2.2.2.2.2.2.2.1]; exact hnm) (by rw [hcls]; exact h6') hcell hvm hlt rfl rfl hd (fun H' e1 e2 e3 => k H' _ (hfin H' e1 e2 e3) hlo2)
end Rows
