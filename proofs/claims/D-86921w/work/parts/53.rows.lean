/-! the run's surroundings -/
/-- a word that stays true while a run goes on -/
def stay (w : Cond) : Prop := ∀ s U : State, s.WarmedH U.vm → w.before #[] s = true → w.before #[] U = true
theorem stay_good {w : Cond} (h : goodWord w = true) : stay w := fun s U hW k => word_at hW (good_of_word h) k
def aty : Nat → Option FieldType
  | 100 => some .boolean
  | 101 => some .char
  | 102 => some .byte
  | 103 => some .short
  | 104 => some .int
  | 105 => some .long
  | 106 => some (.object "java/lang/Object")
  | 107 => some (.object "ThereAndBack$Refused")
  | 108 => some (.object "ThereAndBack$Routine")
  | 109 => some (.object "ThereAndBack$Holder")
  | 110 => some .byte
  | 111 => some .int
  | 112 => some (.object "java/lang/Object")
  | _ => none
/-- what more is known of the start: string constants, statics that nobody writes, the interface calls, a mirror -/
def EvX (g : gp) (U : State) : Prop :=
  (∀ q ∈ ldL, vk_R q.1 q.2.1 q.2.2.1 (gE g q.2.2.2) U) ∧
  (∀ q ∈ stL, va_Z q.1 q.2.1 q.2.2.1 (cv g q.2.2.2) (fun a => gB g ≤ a) U (gH g)) ∧
  (∀ q ∈ gqL, ∃ r : Option Nat, (r = none ∨ r = some q.2.2.2) ∧ va_Z q.1 q.2.1 q.2.2.1 (cv g (vR r)) (fun a => gB g ≤ a) U (gH g)) ∧
  (∀ q ∈ fcL, va_Fw "java/util/ArrayList" q.1 q.2 U) ∧ va_Mi "[Ljava/lang/Object;" (gE g 2) U
theorem EvX.warm {g : gp} {s U : State} (h : EvX g s) (hW : s.WarmedH U.vm) : EvX g U := by
  obtain ⟨h1, h2, h3, h5, h6⟩ := h
  exact ⟨fun q hq => (h1 q hq).warm hW, fun q hq => va_Z.moved hW.alike (h2 q hq), (fun q hq => by obtain ⟨r, k1, k2⟩ := h3 q hq; exact ⟨r, k1, va_Z.moved hW.alike k2⟩), fun q hq => va_Fw.moved (fcL_pl q hq) hW.alike (h5 q hq), va_Mi.moved hW.alike h6⟩
def Ev (g : gp) (U : State) : Prop :=
  gOK g ∧ (∀ w, w ∈ lw_tbl → stay w → w.before #[] U = true) ∧
  (∀ (k : Nat) (q : vw_C), kclL[k]? = some q → q.1 ≠ "" → u_Kn U q.1 q.2.1 q.2.2 (gC g k) (gF g k)) ∧
  (∀ (k : Nat) (ty : FieldType), aty k = some ty → ArrOfT U (gA g k) ty ∧ va_RA U (gA g k) ty) ∧
  (∀ q ∈ ncL, va_Nc q.1 q.2 U) ∧ EvX g U
theorem Ev.warm {g : gp} {s U : State} (h : Ev g s) (hW : s.WarmedH U.vm) : Ev g U :=
  ⟨h.1, fun w hw hs => hs s U hW (h.2.1 w hw hs), fun k q hk hq => u_Kn_moved hW.alike (h.2.2.1 k q hk hq), fun k ty hk => ⟨arrOfT_moved hW.alike (h.2.2.2.1 k ty hk).1, (h.2.2.2.1 k ty hk).2.moved hW.alike⟩, fun q hq => (h.2.2.2.2.1 q hq).moved hW.alike, h.2.2.2.2.2.warm hW⟩
/-- a good word, at any arguments -/
theorem Ev.w {g : gp} {s : State} (h : Ev g s) {w : Cond} (hw : w ∈ lw_all) (args : Array Value) : w.before args s = true := by
  have h1 := (List.mem_filter.mp hw).2
  exact word_at (State.WarmedH.refl s) (good_of_word h1) (h.2.1 w (lw_all_tbl hw) (stay_good h1))
theorem Ev.ws {g : gp} {s : State} (h : Ev g s) (args : Array Value) : ∀ w ∈ lw_all, w.before args s = true := fun w hw => h.w hw args
theorem ArrOfT.of {U : State} {cA : ClassId} {ty : FieldType} (h : ArrOfT U cA ty) {cell : Cell} (hc : cell.cls = cA) (hs : cell.vm.isStatics = false) : U.isArrayOf cell ty := by
  obtain ⟨-, k, h1, h2⟩ := h 0 (fun _ => .null)
  refine ⟨fun x e => ?_, k, ?_, h2⟩
  · rw [e] at hs; cases hs
  · rw [hc]; exact h1
/-! what a method's end says -/
def outR (g : gp) : (Option av ⊕ Nat) → Outcome → Prop
  | .inl none, o => o = .returned none
  | .inl (some v), o => o = .returned (some (cv g v))
  | .inr a, o => o = .threw (phi g a)
def okO : (Option av ⊕ Nat) → hp → Prop
  | .inl (some v), _ => okv v
  | .inr a, h => (hT h a).1 < 64 ∧ a < hN h
  | _, _ => True
def QcG (g : gp) (h0 : hp) (Q : qt) (_ : Array Value) (s : State) (o : Outcome) (t : State) : Prop :=
  ∃ oa h', Q oa h' ∧ outR g oa o ∧ okO oa h' ∧ WFh h' ∧ Rep g h' t.heap ∧ hU h' ≤ BUD ∧ s.WarmedH t.vm ∧ ∃ (L : List Loc) (k n : Nat), s.sameButNew ({ t with vm := s.vm } : State) L k n ∧ (∀ q ∈ L, gB g ≤ q.base) ∧ 13 * k + n + hU h0 ≤ hU h'
def MX (g : gp) (below : List Frame) (h0 : hp) (Q : qt) (a : Array Value) (s : State) : State → Prop := fun t => ∃ o, t.status = .running ∧ Ended t below o ∧ QcG g h0 Q a s o t
abbrev mi : Type := String × ByteArray × Nat × Option FieldType × String × List (Nat × Nat × Nat × Nat)
def exT (c : Code) : List (Nat × Nat × Nat × Nat) := c.exceptionTable.toList.map fun x => (x.startPc, x.endPc, x.handlerPc, x.catchType)
def Cx (g : gp) (z : mi) (d : Nat) (h0 : hp) (p : Program) (R : Room) (s : State) (m : MethodId) (meth : Method) (c : Code) : Prop :=
  p.tables.exec = Jvm.exec ∧ c.code = z.2.1 ∧ c.maxLocals = z.2.2.1 ∧ s.vm.findClass z.1 = some m.cls ∧ Ev g s ∧ meth.sig.returnType = z.2.2.2.1 ∧ meth.locks = false ∧ meth.name = z.2.2.2.2.1 ∧ exT c = z.2.2.2.2.2 ∧ d + 9 ≤ R.frames ∧ 40 * d + 10500 ≤ R.locals ∧ ∀ k n, 13 * k + n + hU h0 ≤ BUD → k ≤ R.cells ∧ n ≤ R.slots
def Xc (g : gp) (z : mi) (h0 : hp) (Q : qt) (p : Program) (l : Launch) (e : Env) (R : Room) (s : State) (m : MethodId) (args : Array Value) (below : List Frame) (meth : Method) (c : Code) : xt := fun pc ls st h =>
  WFh h → okL ls → okL st → ∀ (H : Heap) (locs : List Loc) (L : Array Slot) (cells slots : Nat), Rep g h H → lsR g ls L z.2.2.1 → (∀ q ∈ locs, gB g ≤ q.base) → 13 * cells + slots + hU h0 ≤ hU h → hU h ≤ BUD →
    W p l e R s m args below meth c H locs cells slots (MX g below h0 Q args s) (F0 m pc L (st.map (cv g)))
/-- a callee's contract: y's name, its code word -/
def PcG (g : gp) (h : hp) (as : List av) : Array Value → State → Prop := fun a U => a = (as.map (cv g)).toArray ∧ Rep g h U.heap ∧ Ev g U
def rmD (d : Nat) (h : hp) : Room := { frames := d + 9, cells := (BUD - hU h) / 13, slots := BUD - hU h, locals := 40 * d + 10500 }
/-- each method's name and the word of its code -/
def WOK (yN : Nat → MethodName) (yW : Nat → Cond) (g : gp) (l : Launch) (d : Nat) (W' : wt) : Prop := ∀ y as h Q, W' y as h Q → okL as → WFh h → hU h ≤ BUD →
  ∃ d', d = d' + 1 ∧ MetFree l (yN y) (headSpec [yW y] (rmD d' h)) (PcG g h as) (fun _ _ _ _ _ => True) (QcG g h Q)
def RowOK (yN : Nat → MethodName) (yW : Nat → Cond) (z : mi) (pc : Nat) (T : ti) : Prop :=
  ∀ (g : gp) (p : Program) (l : Launch) (e : Env) (R : Room) (s : State) (m : MethodId) (args : Array Value) (below : List Frame) (meth : Method) (c : Code) (d : Nat) (h0 : hp) (Q : qt), Cx g z d h0 p R s m meth c →
  ∀ (W' : wt) (X' : xt) (Q' : qt), WOK yN yW g l d W' → (∀ pc ls st h, X' pc ls st h → Xc g z h0 Q p l e R s m args below meth c pc ls st h) → (∀ o h, Q' o h → Q o h) →
  ∀ ls st h, T W' X' Q' pc ls st h → Xc g z h0 Q p l e R s m args below meth c pc ls st h
section Rows
variable {yN : Nat → MethodName} {yW : Nat → Cond} {z : mi} {pc : Nat}
theorem ok_iconst {n : Int} (hd : decode z.2.1 pc = .ok (.iconst n, 1)) (hn : in32 n) : RowOK yN yW z pc (o_push (vI n) 1) := by
  intro g p l e R s m args below meth c d h0 Q C W' X' Q' hW hX hQ ls st h hT wf okl oks H locs L cells slots hR hl hlo hb hB
  exact lv_iconst C.1 C.2.1 hd rfl (hX _ _ _ _ hT wf okl (okL_cons hn oks) H locs L cells slots hR hl hlo hb hB)
theorem ok_bipush {n : Int} (hd : decode z.2.1 pc = .ok (.bipush n, 2)) (hv : (Int8.ofInt n).toInt32 = Int32.ofInt n) (hn : in32 n) : RowOK yN yW z pc (o_push (vI n) 2) := by
  intro g p l e R s m args below meth c d h0 Q C W' X' Q' hW hX hQ ls st h hT wf okl oks H locs L cells slots hR hl hlo hb hB
  exact lv_bipush C.1 C.2.1 hd hv (hX _ _ _ _ hT wf okl (okL_cons hn oks) H locs L cells slots hR hl hlo hb hB)
theorem ok_sipush {n : Int} (hd : decode z.2.1 pc = .ok (.sipush n, 3)) (hv : (Int16.ofInt n).toInt32 = Int32.ofInt n) (hn : in32 n) : RowOK yN yW z pc (o_push (vI n) 3) := by
  intro g p l e R s m args below meth c d h0 Q C W' X' Q' hW hX hQ ls st h hT wf okl oks H locs L cells slots hR hl hlo hb hB
  exact lv_sipush C.1 C.2.1 hd hv (hX _ _ _ _ hT wf okl (okL_cons hn oks) H locs L cells slots hR hl hlo hb hB)
theorem ok_lconst {f : Fin 2} {n : Int} (hd : decode z.2.1 pc = .ok (.lconst f, 1)) (hf : Int64.ofNat (f : Nat) = Int64.ofInt n) (hn : in64 n) : RowOK yN yW z pc (o_push (vJ n) 1) := by
  intro g p l e R s m args below meth c d h0 Q C W' X' Q' hW hX hQ ls st h hT wf okl oks H locs L cells slots hR hl hlo hb hB
  exact lv_lconst C.1 C.2.1 hd hf (hX _ _ _ _ hT wf okl (okL_cons hn oks) H locs L cells slots hR hl hlo hb hB)
theorem ok_null (hd : decode z.2.1 pc = .ok (.aconst_null, 1)) : RowOK yN yW z pc (o_push (vR none) 1) := by
  intro g p l e R s m args below meth c d h0 Q C W' X' Q' hW hX hQ ls st h hT wf okl oks H locs L cells slots hR hl hlo hb hB
  exact lv_null C.1 C.2.1 hd (hX _ _ _ _ hT wf okl (okL_cons trivial oks) H locs L cells slots hR hl hlo hb hB)
theorem ok_ldci {idx : Nat} {v : Int32} {n : Int} (hd : decode z.2.1 pc = .ok (.ldc idx, 2)) (hw : Cond.constant z.1 idx v ∈ lw_all) (hv : v.toInt = n) : RowOK yN yW z pc (o_push (vI n) 2) := by
  intro g p l e R s m args below meth c d h0 Q C W' X' Q' hW hX hQ ls st h hT wf okl oks H locs L cells slots hR hl hlo hb hB
  subst hv
  have hc : Int32.ofInt v.toInt = v := Int32.ofInt_toInt v
  have k := hX _ _ _ _ hT wf okl (okL_cons (in32_t v) oks) H locs L cells slots hR hl hlo hb hB
  have k2 : W p l e R s m args below meth c H locs cells slots (MX g below h0 Q args s) (F0 m (pc + 2) L (.int v :: st.map (cv g))) := by
    have e2 : (vI v.toInt :: st).map (cv g) = .int v :: st.map (cv g) := by
      show Value.int (Int32.ofInt v.toInt) :: st.map (cv g) = _
      rw [hc]
    rw [← e2]; exact k
  exact lv_ldc C.1 C.2.1 C.2.2.2.1 (C.2.2.2.2.1.w hw args) hd k2
theorem ok_ldc2 {idx : Nat} {v : Int64} {n : Int} (hd : decode z.2.1 pc = .ok (.ldc2_w idx, 3)) (hw : Cond.constantLong z.1 idx v ∈ lw_all) (hv : v.toInt = n) : RowOK yN yW z pc (o_push (vJ n) 3) := by
  intro g p l e R s m args below meth c d h0 Q C W' X' Q' hW hX hQ ls st h hT wf okl oks H locs L cells slots hR hl hlo hb hB
  subst hv
  have hc : Int64.ofInt v.toInt = v := Int64.ofInt_toInt v
  have k := hX _ _ _ _ hT wf okl (okL_cons (in64_t v) oks) H locs L cells slots hR hl hlo hb hB
  have k2 : W p l e R s m args below meth c H locs cells slots (MX g below h0 Q args s) (F0 m (pc + 3) L (.long v :: st.map (cv g))) := by
    have e2 : (vJ v.toInt :: st).map (cv g) = .long v :: st.map (cv g) := by
      show Value.long (Int64.ofInt v.toInt) :: st.map (cv g) = _
      rw [hc]
    rw [← e2]; exact k
  exact lv_ldc2 C.1 C.2.1 C.2.2.2.1 (C.2.2.2.2.1.w hw args) hd k2
end Rows
theorem c_i2l {x : Int} (h : in32 x) : (Int32.ofInt x).toInt64 = Int64.ofInt x := by
  apply Int64.toInt_inj.mp
  rw [Int32.toInt_toInt64, h]
  exact (in64_of32 h).symm
theorem c_l2i (x : Int) : (Int64.ofInt x).toInt32 = Int32.ofInt (l_l2i x) := by
  unfold l_l2i
  rw [of_s32]
  apply Int32.toInt_inj.mp
  rw [Int64.toInt_toInt32, Int64.toInt_ofInt, Int32.toInt_ofInt]
  exact Int.bmod_bmod_of_dvd (by decide)
theorem c_lcmp {x y : Int} (hx : in64 x) (hy : in64 y) : Int32.ofInt (l_cmp x y) = lg_cmp (Int64.ofInt x) (Int64.ofInt y) := by
  have h1 : (Int64.ofInt x > Int64.ofInt y) ↔ x > y := by
    show Int64.ofInt y < Int64.ofInt x ↔ _
    rw [Int64.lt_iff_toInt_lt, hx, hy]
  have h2 : (Int64.ofInt x = Int64.ofInt y) ↔ x = y := ⟨fun h => by rw [← hx, ← hy, h], fun h => by rw [h]⟩
  unfold l_cmp lg_cmp
  by_cases a : x > y
  · rw [if_pos a, if_pos (h1.mpr a)]; rfl
  · rw [if_neg a, if_neg (fun q => a (h1.mp q))]
    by_cases b : x = y
    · rw [if_pos b, if_pos (h2.mpr b)]; rfl
    · rw [if_neg b, if_neg (fun q => b (h2.mp q))]; rfl
theorem r_lcmp (x y : Int) : in32 (l_cmp x y) := by
  unfold l_cmp
  split
  · exact in32_lit (by decide)
  · split
    · exact in32_lit (by decide)
    · exact in32_lit (by decide)
theorem c_acmp {g : gp} (hg : gOK g) {q r : Option Nat} (h : okc q r) : (q.map (phi g) = r.map (phi g)) ↔ q = r := by
  refine ⟨fun e => ?_, fun e => by rw [e]⟩
  cases q with
  | none => cases r with
    | none => rfl
    | some b => cases e
  | some a => cases r with
    | none => cases e
    | some b =>
      have e2 : phi g a = phi g b := Option.some.inj e
      rw [phi_inj2 hg (h a b rfl rfl) e2]
