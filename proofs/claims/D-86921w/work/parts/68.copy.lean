/-! System.arraycopy -/
theorem fv_cpy {g : gp} {h : hp} {a b sp dp n j : Nat} (t : Nat) : fv g (hCpy h a b sp dp n) b j t = if dp ≤ j ∧ j < dp + n then fv g h a (sp + (j - dp)) t else fv g h b j t := by
  by_cases c : dp ≤ j ∧ j < dp + n
  · have c2 : b = b ∧ dp ≤ j ∧ j < dp + n := ⟨rfl, c⟩
    rw [if_pos c]
    rcases t with _ | _ | t
    · show Value.int (Int32.ofInt (cp2 (hI h) a b sp dp n b j)) = _
      unfold cp2; rw [if_pos c2]; rfl
    · show Value.long (Int64.ofInt (cp2 (hL h) a b sp dp n b j)) = _
      unfold cp2; rw [if_pos c2]; rfl
    · show cr g (cp2 (hR h) a b sp dp n b j) = _
      unfold cp2; rw [if_pos c2]; rfl
  · have c2 : ¬ (b = b ∧ dp ≤ j ∧ j < dp + n) := fun w => c w.2
    rw [if_neg c]
    rcases t with _ | _ | t
    · show Value.int (Int32.ofInt (cp2 (hI h) a b sp dp n b j)) = _
      unfold cp2; rw [if_neg c2]; rfl
    · show Value.long (Int64.ofInt (cp2 (hL h) a b sp dp n b j)) = _
      unfold cp2; rw [if_neg c2]; rfl
    · show cr g (cp2 (hR h) a b sp dp n b j) = _
      unfold cp2; rw [if_neg c2]; rfl
theorem WFh.cpy {h : hp} (w : WFh h) {a b sp dp n : Nat} (ht : (hT h b).1 = (hT h a).1) : WFh (hCpy h a b sp dp n) := by
  refine ⟨w.1, fun c k => ?_, fun c k => ?_, w.2.2.2.1, w.2.2.2.2.1, fun c k => ?_⟩
  · show in32 (cp2 (hI h) a b sp dp n c k)
    unfold cp2; split
    · exact w.2.1 _ _
    · exact w.2.1 _ _
  · show in64 (cp2 (hL h) a b sp dp n c k)
    unfold cp2; split
    · exact w.2.2.1 _ _
    · exact w.2.2.1 _ _
  · show rng (hT h c).1 (cp2 (hI h) a b sp dp n c k)
    unfold cp2; split
    · rename_i e
      rw [e.1, ht]; exact w.2.2.2.2.2 _ _
    · exact w.2.2.2.2.2 _ _
theorem cOK.cpy {g : gp} {h : hp} {a b sp dp n k : Nat} {cs cd : Cell} (ka : (hT h a).1 = k) (kb : (hT h b).1 = k) (h100 : 100 ≤ k) (ca : cOK g h a cs) (cb : cOK g h b cd) (h1 : sp + n ≤ (hT h a).2) (h2 : dp + n ≤ (hT h b).2) : cOK g (hCpy h a b sp dp n) b (cd.storeRun dp (cs.stretch sp n)) := by
  obtain ⟨f1, f2, f3, -, -⟩ := cd.storeRun_facts dp (cs.stretch sp n)
  have hT' : hT (hCpy h a b sp dp n) = hT h := rfl
  obtain ⟨a1, a2, a3⟩ := ca.2.2.2.2 (by rw [ka]; exact h100)
  obtain ⟨b1, b2, b3⟩ := cb.2.2.2.2 (by rw [kb]; exact h100)
  have hsl : (cs.stretch sp n).length = n := by simp [Cell.stretch]
  refine ⟨by rw [f2]; exact cb.1, by rw [f2]; exact cb.2.1, fun q => by rw [f2]; exact cb.2.2.1 q, fun q => ?_, fun q => ⟨by rw [f1, hT']; exact b1, by rw [f3, hT']; exact b2, fun j hj => ?_⟩⟩
  · rw [hT', kb] at q; omega
  · rw [hT'] at hj ⊢
    rw [cd.storeRun_get dp _ j (by rw [hsl, b2]; exact h2), hsl, fv_cpy]
    by_cases c : dp ≤ j ∧ j < dp + n
    · rw [if_pos c, if_pos c]
      have hlt : j - dp < n := by omega
      have e : (cs.stretch sp n)[j - dp]? = some (cs.slots.getD (sp + (j - dp)) .null) := by
        simp [Cell.stretch, List.getElem?_range hlt]
      rw [e, Array.getD_eq_getD_getElem?, a3 (sp + (j - dp)) (by omega), ka, kb]
      rfl
    · rw [if_neg c, if_neg c]
      exact b3 j hj
theorem clamp_in {x : Int} (h : in32 x) : (Int32.ofInt x).toNatClampNeg = x.toNat := by
  show (Int32.ofInt x).toInt.toNat = _
  rw [h]
theorem neg_in {x : Int} (h : in32 x) (h0 : 0 ≤ x) : ¬ Int32.ofInt x < 0 := by
  rw [Int32.lt_iff_toInt_lt, h]
  show ¬ x < (0 : Int32).toInt
  rw [show (0 : Int32).toInt = 0 from by decide]
  omega
section Cpy
variable {p : Program} {l : Launch} {e : Env} {R : Room} {s : State} {m : MethodId} {args : Array Value} {below : List Frame} {meth : Method} {c : Code} {H : Heap} {locs : List Loc} {cells slots : Nat} {Q : State → Prop}
theorem acpy_core {g : gp} {h : hp} {L : Array Slot} {rest : List Value} {cc : ByteArray} {pc : Nat} (hexec : p.tables.exec = Jvm.exec) (hb : c.code = cc) (hml : c.maxLocals = L.size) {own : String} {index : Nat} (hown : s.vm.findClass own = some m.cls)
    (hlink : (Cond.methodLink own index arraycopyName).before args s = true) (hnat : (Cond.native arraycopyName).before args s = true) (hstat : (Cond.static arraycopyName).before args s = true) (hini : (Cond.initialized "java/lang/System").before args s = true)
    (E : Ev g s) (wf : WFh h) (rp : Rep g h H) (hlo : ∀ q ∈ locs, gB g ≤ q.base) {a b k : Nat} {ty : FieldType} (hty : aty k = some ty) (h100 : 100 ≤ k ∧ k < 110) (ka : (hT h a).1 = k) (kb : (hT h b).1 = k) {sp dp n : Int} (i1 : in32 sp) (i2 : in32 dp) (i3 : in32 n) (hc : cpOk h a b sp dp n)
    (hv : ∀ (cm : ClassId) (kA : Class), s.vm.classes[gA g k]? = some kA → kA.kind = .array cm ty → ∀ T : State, T.heap = H → ∀ vm', s.vm.Alike vm' → ∀ j, j < n.toNat → fits ty (fv g h a (sp.toNat + j) (ak k)) = true ∧ (T.setVm vm').takes cm (fv g h a (sp.toNat + j) (ak k)))
    (hframes : 1 ≤ R.frames) (hlocals : (rest.map fun v => v.category).sum + (nativeFrameWords "java/lang/System" "arraycopy" 5 + 11) ≤ R.locals) (hdg : decode cc pc = .ok (.invokestatic index, 3))
    (kk : ∀ (H1 : Heap) (locs1 : List Loc), Rep g (hCpy h a b sp.toNat dp.toNat n.toNat) H1 → (∀ q ∈ locs1, gB g ≤ q.base) → W p l e R s m args below meth c H1 locs1 cells slots Q (F0 m (pc + 3) L rest)) :
    W p l e R s m args below meth c H locs cells slots Q (F0 m pc L (.int (Int32.ofInt n) :: .int (Int32.ofInt dp) :: .ref (phi g b) :: .int (Int32.ofInt sp) :: .ref (phi g a) :: rest)) := by
  obtain ⟨cs, s1, s2⟩ := rp.cell wf (a := a) (Or.inr (by rw [ka]; exact h100.1))
  obtain ⟨cd, d1, d2⟩ := rp.cell wf (a := b) (Or.inr (by rw [kb]; exact h100.1))
  obtain ⟨c1, c2, c3, c4, c5⟩ := hc
  obtain ⟨x1, x2, x3⟩ := s2.2.2.2.2 (by rw [ka]; exact h100.1)
  obtain ⟨y1, y2, y3⟩ := d2.2.2.2.2 (by rw [kb]; exact h100.1)
  obtain ⟨-, kA, hkA, cm, hkk⟩ := (E.2.2.2.1 k ty hty).1 0 (fun _ => .null)
  have hb68 : 68 ≤ b := wf.own (Or.inr (by rw [kb]; exact h100))
  intro T hT X
  obtain ⟨vm', X', step⟩ := X.arraycopy hexec hown hlink hnat hstat hini (src := phi g a) (dst := phi g b) (cs := cs) (cd := cd) (srcPos := Int32.ofInt sp) (destPos := Int32.ofInt dp) (n := Int32.ofInt n) (by rw [hT]; exact s1) (by rw [hT]; exact d1)
    (VmData.ne_statics_of s2.2.1) (VmData.ne_statics_of d2.2.1) s2.1 d2.1 (by rw [x1, ka]; exact hkA) (by rw [y1, kb]; exact hkA) hkk hkk (by simp) (neg_in i1 c1) (neg_in i2 c2) (neg_in i3 c3)
    (by rw [i1, i3, x2]; omega) (by rw [i2, i3, y2]; omega)
    (fun vm₁ hal i hi => by
      rw [clamp_in i3] at hi
      have e0 : cs.slots.getD ((Int32.ofInt sp).toNatClampNeg + i) .null = fv g h a (sp.toNat + i) (ak k) := by
        rw [clamp_in i1, Array.getD_eq_getD_getElem?, x3 (sp.toNat + i) (by omega), ka]
        rfl
      rw [e0]
      exact hv cm kA hkA hkk T hT vm₁ hal i hi)
    (g := F0 m pc L (.int (Int32.ofInt n) :: .int (Int32.ofInt dp) :: .ref (phi g b) :: .int (Int32.ofInt sp) :: .ref (phi g a) :: rest)) rfl (by rw [hml]) (rest := rest) rfl (by rw [hb]; exact hdg) hframes (by show 2 * 0 + _ + _ ≤ _; omega)
  have ec : copied cs cd (Int32.ofInt sp) (Int32.ofInt dp) (Int32.ofInt n) = cd.storeRun dp.toNat (cs.stretch sp.toNat n.toNat) := by
    show cd.storeRun _ (cs.stretch _ _) = _
    rw [clamp_in i1, clamp_in i2, clamp_in i3]
  rw [ec] at X' step
  have hl : phi g b < H.size := (Array.getElem?_eq_some_iff.mp d1).1
  have hheap : ((T.setVm vm').setCell (phi g b) (cd.storeRun dp.toNat (cs.stretch sp.toNat n.toNat))).heap = H.setIfInBounds (phi g b) (cd.storeRun dp.toNat (cs.stretch sp.toNat n.toNat)) := by rw [← hT]; rfl
  have oq : ∀ q : Nat, q ≠ phi g b → (H.setIfInBounds (phi g b) (cd.storeRun dp.toNat (cs.stretch sp.toNat n.toNat)))[q]? = H[q]? := fun q hq => by simp [Array.getElem?_setIfInBounds, Ne.symm hq]
  obtain ⟨t, a1, b1⟩ := kk _ _ (rp.upd E.1 (h' := hCpy h a b sp.toNat dp.toNat n.toNat) hb68 rfl rfl (fun b' hne j => ⟨by
      show cp2 (hI h) a b _ _ _ b' j = _
      unfold cp2; rw [if_neg (fun w => hne w.1)], by
      show cp2 (hL h) a b _ _ _ b' j = _
      unfold cp2; rw [if_neg (fun w => hne w.1)], by
      show cp2 (hR h) a b _ _ _ b' j = _
      unfold cp2; rw [if_neg (fun w => hne w.1)]⟩)
      (show (H.setIfInBounds (phi g b) _)[phi g b]? = some _ by simp [Array.getElem?_setIfInBounds, hl]) (cOK.cpy ka kb h100.1 s2 d2 (by omega) (by omega)) (by simp) oq) (fun q hq => by
      rcases List.mem_append.mp hq with w | w
      · exact hlo q w
      · obtain ⟨z, -, hz⟩ := List.mem_map.mp w
        rw [← hz]
        exact phi_ge hb68) _ hheap X'
  exact ⟨t, step t a1, b1⟩
end Cpy
section CpyRows
variable {yN : Nat → MethodName} {yW : Nat → Cond} {z : mi} {pc : Nat}
def cpyW (z : mi) (idx : Nat) : Prop := Cond.methodLink z.1 idx arraycopyName ∈ lw_all ∧ Cond.native arraycopyName ∈ lw_all ∧ Cond.static arraycopyName ∈ lw_all ∧ Cond.initialized "java/lang/System" ∈ lw_all
theorem ok_acpyB {idx : Nat} (hd : decode z.2.1 pc = .ok (.invokestatic idx, 3)) (hw : cpyW z idx) : RowOK yN yW z pc (o_acpy 102) := by
  intro g p l e R s m args below meth c d h0 Q C W' X' Q' hW hX hQ ls st h kT wf okl oks H locs L cells slots rp hl hlo hb hB
  unfold o_acpy at kT
  split at kT
  · rename_i n dp q sp r st
    obtain ⟨hsh, kT⟩ := kT
    cases r with
    | none => exact kT.elim
    | some a =>
      cases q with
      | none => exact kT.elim
      | some b =>
        obtain ⟨ka, kb, hc, kT⟩ := kT
        have E := C.2.2.2.2.1
        have hsh2 : st.length ≤ 8 := Nat.le_of_ble_eq_true hsh
        have hcat := sum_cat g st
        have hf1 : d + 9 ≤ R.frames := C.2.2.2.2.2.2.2.2.2.1
        have hf2 : 40 * d + 10500 ≤ R.locals := C.2.2.2.2.2.2.2.2.2.2.1
        have hnw : nativeFrameWords "java/lang/System" "arraycopy" 5 ≤ 20 := by decide +kernel
        refine acpy_core C.1 C.2.1 (by rw [C.2.2.1, ← hl.1.1]) C.2.2.2.1 (E.w hw.1 args) (E.w hw.2.1 args) (E.w hw.2.2.1 args) (E.w hw.2.2.2 args) E wf rp hlo (k := 102) (ty := .byte) rfl (by decide) ka kb oks.tl.tl.tl.hd oks.tl.hd oks.hd hc (fun cm kA _ _ T _ vm' _ j hj => ⟨?_, trivial⟩) (by omega) (by omega) hd (fun H1 locs1 rp1 hlo1 => hX _ _ _ _ kT (wf.cpy (by rw [ka, kb])) okl oks.tl.tl.tl.tl.tl H1 locs1 L cells slots rp1 hl hlo1 hb hB)
        have := (wf.2.2.2.2.2 a (sp.toNat + j)).2.1 ka
        exact this
  · exact kT.elim
theorem ok_acpyR {idx : Nat} {es : List Nat} (hd : decode z.2.1 pc = .ok (.invokestatic idx, 3)) (hw : cpyW z idx) (hes : ∀ q ∈ es, fitsK q "java/lang/Object") : RowOK yN yW z pc (o_acpyR es) := by
  intro g p l e R s m args below meth c d h0 Q C W' X' Q' hW hX hQ ls st h kT wf okl oks H locs L cells slots rp hl hlo hb hB
  unfold o_acpyR at kT
  split at kT
  · rename_i n dp q sp r st
    obtain ⟨hsh, kT⟩ := kT
    cases r with
    | none => exact kT.elim
    | some a =>
      cases q with
      | none => exact kT.elim
      | some b =>
        obtain ⟨ka, kb, hc, hfit, kT⟩ := kT
        have E := C.2.2.2.2.1
        have hsh2 : st.length ≤ 8 := Nat.le_of_ble_eq_true hsh
        have hcat := sum_cat g st
        have hf1 : d + 9 ≤ R.frames := C.2.2.2.2.2.2.2.2.2.1
        have hf2 : 40 * d + 10500 ≤ R.locals := C.2.2.2.2.2.2.2.2.2.2.1
        have hnw : nativeFrameWords "java/lang/System" "arraycopy" 5 ≤ 20 := by decide +kernel
        refine acpy_core C.1 C.2.1 (by rw [C.2.2.1, ← hl.1.1]) C.2.2.2.1 (E.w hw.1 args) (E.w hw.2.1 args) (E.w hw.2.2.1 args) (E.w hw.2.2.2 args) E wf rp hlo (k := 106) (ty := .object "java/lang/Object") rfl (by decide) ka kb oks.tl.tl.tl.hd oks.tl.hd oks.hd hc (fun cm kA hkA hkk T hT vm' hal j hj => ?_) (by omega) (by omega) hd (fun H1 locs1 rp1 hlo1 => hX _ _ _ _ kT (wf.cpy (by rw [ka, kb])) okl oks.tl.tl.tl.tl.tl H1 locs1 L cells slots rp1 hl hlo1 hb hB)
        show fits _ (cr g (hR h a (sp.toNat + j))) = true ∧ State.takes _ cm (cr g (hR h a (sp.toNat + j)))
        rcases hfit j hj with w | ⟨b2, w, hb2⟩
        · rw [w]; exact ⟨rfl, trivial⟩
        · rw [w]
          obtain ⟨cellV, cT, v1, v2, v3, v4⟩ := E.asg wf rp (hes _ hb2)
          obtain ⟨kA2, comp, r1, r2, r3, -⟩ := (E.2.2.2.1 106 _ rfl).2
          cases hkA.symm.trans r1
          cases hkk.symm.trans r2
          cases v3.symm.trans r3
          obtain ⟨kc0, hkc0, -⟩ := Vm.findClass_spec v3
          obtain ⟨kV, hkV⟩ : ∃ kV, s.vm.classes[cellV.cls]? = some kV := Vm.classAt_of_assignable v4 ⟨kc0, hkc0⟩
          obtain ⟨kV2, hkV2, -⟩ := hal.2.2 _ _ hkV
          obtain ⟨kc2, hkc2, -⟩ := hal.2.2 _ _ hkc0
          exact ⟨rfl, cellV, by rw [← hT] at v1; exact v1, VmData.ne_statics_of v2.2.1, ⟨kV2, hkV2⟩, ⟨kc2, hkc2⟩, by show vm'.assignable _ _ = true; rw [hal.assignable]; exact v4⟩
  · exact kT.elim
end CpyRows
