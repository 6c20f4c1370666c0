/-! locals, fields, arrays, new -/
section Rows
variable {yN : Nat → MethodName} {yW : Nat → Cond} {z : mi} {pc : Nat}
theorem inv_ldi {i n : Nat} {W : wt} {X : xt} {Q : qt} {pc : Nat} {ls st : List av} {h : hp} (hT : o_ldi i n W X Q pc ls st h) : ∃ x, gL ls i = vI x ∧ X (pc + n) ls (vI x :: st) h := by
  unfold o_ldi at hT; split at hT
  · exact ⟨_, by assumption, hT⟩
  · exact hT.elim
theorem inv_ldj {i n : Nat} {W : wt} {X : xt} {Q : qt} {pc : Nat} {ls st : List av} {h : hp} (hT : o_ldj i n W X Q pc ls st h) : ∃ x, gL ls i = vJ x ∧ gL ls (i + 1) = vU ∧ X (pc + n) ls (vJ x :: st) h := by
  unfold o_ldj at hT; split at hT
  · exact ⟨_, by assumption, by assumption, hT⟩
  · exact hT.elim
theorem inv_lda {i n : Nat} {W : wt} {X : xt} {Q : qt} {pc : Nat} {ls st : List av} {h : hp} (hT : o_lda i n W X Q pc ls st h) : ∃ x, gL ls i = vR x ∧ X (pc + n) ls (vR x :: st) h := by
  unfold o_lda at hT; split at hT
  · exact ⟨_, by assumption, hT⟩
  · exact hT.elim
theorem inv_sti {i n : Nat} {W : wt} {X : xt} {Q : qt} {pc : Nat} {ls s0 : List av} {h : hp} (hT : o_sti i n W X Q pc ls s0 h) : ∃ x st, s0 = vI x :: st ∧ i < ls.length ∧ X (pc + n) (tL ls i (vI x)) st h := by
  unfold o_sti at hT; split at hT
  · exact ⟨_, _, rfl, hT⟩
  · exact hT.elim
theorem inv_stj {i n : Nat} {W : wt} {X : xt} {Q : qt} {pc : Nat} {ls s0 : List av} {h : hp} (hT : o_stj i n W X Q pc ls s0 h) : ∃ x st, s0 = vJ x :: st ∧ i + 1 < ls.length ∧ X (pc + n) (tL (tL ls i (vJ x)) (i + 1) vU) st h := by
  unfold o_stj at hT; split at hT
  · exact ⟨_, _, rfl, hT⟩
  · exact hT.elim
theorem inv_sta {i n : Nat} {W : wt} {X : xt} {Q : qt} {pc : Nat} {ls s0 : List av} {h : hp} (hT : o_sta i n W X Q pc ls s0 h) : ∃ x st, s0 = vR x :: st ∧ i < ls.length ∧ X (pc + n) (tL ls i (vR x)) st h := by
  unfold o_sta at hT; split at hT
  · exact ⟨_, _, rfl, hT⟩
  · exact hT.elim
theorem inv_inc {i : Nat} {c : Int} {W : wt} {X : xt} {Q : qt} {pc : Nat} {ls st : List av} {h : hp} (hT : o_inc i c W X Q pc ls st h) : ∃ x, gL ls i = vI x ∧ i < ls.length ∧ X (pc + 3) (tL ls i (vI (n_add x c))) st h := by
  unfold o_inc at hT; split at hT
  · exact ⟨_, by assumption, hT⟩
  · exact hT.elim
theorem ok_iload_n {k : Fin 4} {i : Nat} (hd : decode z.2.1 pc = .ok (.iload_n k, 1)) (hi : (k : Nat) = i) : RowOK yN yW z pc (o_ldi i 1) := by
  intro g p l e R s m args below meth c d h0 Q C W' X' Q' hW hX hQ ls st h hT wf okl oks H locs L cells slots hR hl hlo hb hB
  obtain ⟨x, hx, hT2⟩ := inv_ldi hT
  have ho : okv (vI x) := by rw [← hx]; exact okl.gl i
  exact lv_iload_n C.1 C.2.1 hd hi (hl.i hx) (hX _ _ _ _ hT2 wf okl (okL_cons ho oks) H locs L cells slots hR hl hlo hb hB)
theorem ok_iload {i : Nat} (hd : decode z.2.1 pc = .ok (.iload i, 2)) : RowOK yN yW z pc (o_ldi i 2) := by
  intro g p l e R s m args below meth c d h0 Q C W' X' Q' hW hX hQ ls st h hT wf okl oks H locs L cells slots hR hl hlo hb hB
  obtain ⟨x, hx, hT2⟩ := inv_ldi hT
  have ho : okv (vI x) := by rw [← hx]; exact okl.gl i
  exact lv_iload C.1 C.2.1 hd (hl.i hx) (hX _ _ _ _ hT2 wf okl (okL_cons ho oks) H locs L cells slots hR hl hlo hb hB)
theorem ok_lload_n {k : Fin 4} {i : Nat} (hd : decode z.2.1 pc = .ok (.lload_n k, 1)) (hi : (k : Nat) = i) (hn : i + 1 < z.2.2.1) : RowOK yN yW z pc (o_ldj i 1) := by
  intro g p l e R s m args below meth c d h0 Q C W' X' Q' hW hX hQ ls st h hT wf okl oks H locs L cells slots hR hl hlo hb hB
  obtain ⟨x, hx, hu, hT2⟩ := inv_ldj hT
  have ho : okv (vJ x) := by rw [← hx]; exact okl.gl i
  exact lv_lload_n C.1 C.2.1 hd hi (hl.j hx hu (by rw [hl.2]; exact hn)) (hX _ _ _ _ hT2 wf okl (okL_cons ho oks) H locs L cells slots hR hl hlo hb hB)
theorem ok_lload {i : Nat} (hd : decode z.2.1 pc = .ok (.lload i, 2)) (hn : i + 1 < z.2.2.1) : RowOK yN yW z pc (o_ldj i 2) := by
  intro g p l e R s m args below meth c d h0 Q C W' X' Q' hW hX hQ ls st h hT wf okl oks H locs L cells slots hR hl hlo hb hB
  obtain ⟨x, hx, hu, hT2⟩ := inv_ldj hT
  have ho : okv (vJ x) := by rw [← hx]; exact okl.gl i
  exact lv_lload C.1 C.2.1 hd (hl.j hx hu (by rw [hl.2]; exact hn)) (hX _ _ _ _ hT2 wf okl (okL_cons ho oks) H locs L cells slots hR hl hlo hb hB)
theorem ok_aload_n {k : Fin 4} {i : Nat} (hd : decode z.2.1 pc = .ok (.aload_n k, 1)) (hi : (k : Nat) = i) : RowOK yN yW z pc (o_lda i 1) := by
  intro g p l e R s m args below meth c d h0 Q C W' X' Q' hW hX hQ ls st h hT wf okl oks H locs L cells slots hR hl hlo hb hB
  obtain ⟨x, hx, hT2⟩ := inv_lda hT
  have k2 := hX _ _ _ _ hT2 wf okl (okL_cons trivial oks) H locs L cells slots hR hl hlo hb hB
  cases x with
  | none => exact lv_aload_nN C.1 C.2.1 hd hi (hl.r hx) k2
  | some a => exact lv_aload_n C.1 C.2.1 hd hi (hl.r hx) k2
theorem ok_aload {i : Nat} (hd : decode z.2.1 pc = .ok (.aload i, 2)) : RowOK yN yW z pc (o_lda i 2) := by
  intro g p l e R s m args below meth c d h0 Q C W' X' Q' hW hX hQ ls st h hT wf okl oks H locs L cells slots hR hl hlo hb hB
  obtain ⟨x, hx, hT2⟩ := inv_lda hT
  have k2 := hX _ _ _ _ hT2 wf okl (okL_cons trivial oks) H locs L cells slots hR hl hlo hb hB
  cases x with
  | none => exact lv_aloadN C.1 C.2.1 hd (hl.r hx) k2
  | some a => exact lv_aload C.1 C.2.1 hd (hl.r hx) k2
theorem ok_istore_n {k : Fin 4} {i : Nat} (hd : decode z.2.1 pc = .ok (.istore_n k, 1)) (hi : (k : Nat) = i) : RowOK yN yW z pc (o_sti i 1) := by
  intro g p l e R s m args below meth c d h0 Q C W' X' Q' hW hX hQ ls st h hT wf okl oks H locs L cells slots hR hl hlo hb hB
  obtain ⟨x, st, rfl, hn, hT2⟩ := inv_sti hT
  exact lv_istore_n C.1 C.2.1 hd hi hl.1 (by rw [← hl.2]; exact hn) rfl (fun L2 hL2 => hX _ _ _ _ hT2 wf (okl.tL oks.hd i) oks.tl H locs L2 cells slots hR (hl.st1 (v := vI x) hn rfl hL2) hlo hb hB)
theorem ok_istore {i : Nat} (hd : decode z.2.1 pc = .ok (.istore i, 2)) : RowOK yN yW z pc (o_sti i 2) := by
  intro g p l e R s m args below meth c d h0 Q C W' X' Q' hW hX hQ ls st h hT wf okl oks H locs L cells slots hR hl hlo hb hB
  obtain ⟨x, st, rfl, hn, hT2⟩ := inv_sti hT
  exact lv_istore C.1 C.2.1 hd hl.1 (by rw [← hl.2]; exact hn) rfl (fun L2 hL2 => hX _ _ _ _ hT2 wf (okl.tL oks.hd i) oks.tl H locs L2 cells slots hR (hl.st1 (v := vI x) hn rfl hL2) hlo hb hB)
theorem ok_lstore_n {k : Fin 4} {i : Nat} (hd : decode z.2.1 pc = .ok (.lstore_n k, 1)) (hi : (k : Nat) = i) : RowOK yN yW z pc (o_stj i 1) := by
  intro g p l e R s m args below meth c d h0 Q C W' X' Q' hW hX hQ ls st h hT wf okl oks H locs L cells slots hR hl hlo hb hB
  obtain ⟨x, st, rfl, hn, hT2⟩ := inv_stj hT
  exact lv_lstore_n C.1 C.2.1 hd hi hl.1 (by rw [← hl.2]; exact hn) rfl (fun L2 hL2 => hX _ _ _ _ hT2 wf ((okl.tL oks.hd i).tL (v := vU) trivial (i + 1)) oks.tl H locs L2 cells slots hR (hl.st2 hn hL2) hlo hb hB)
theorem ok_lstore {i : Nat} (hd : decode z.2.1 pc = .ok (.lstore i, 2)) : RowOK yN yW z pc (o_stj i 2) := by
  intro g p l e R s m args below meth c d h0 Q C W' X' Q' hW hX hQ ls st h hT wf okl oks H locs L cells slots hR hl hlo hb hB
  obtain ⟨x, st, rfl, hn, hT2⟩ := inv_stj hT
  exact lv_lstore C.1 C.2.1 hd hl.1 (by rw [← hl.2]; exact hn) rfl (fun L2 hL2 => hX _ _ _ _ hT2 wf ((okl.tL oks.hd i).tL (v := vU) trivial (i + 1)) oks.tl H locs L2 cells slots hR (hl.st2 hn hL2) hlo hb hB)
theorem ok_astore_n {k : Fin 4} {i : Nat} (hd : decode z.2.1 pc = .ok (.astore_n k, 1)) (hi : (k : Nat) = i) : RowOK yN yW z pc (o_sta i 1) := by
  intro g p l e R s m args below meth c d h0 Q C W' X' Q' hW hX hQ ls st h hT wf okl oks H locs L cells slots hR hl hlo hb hB
  obtain ⟨x, st, rfl, hn, hT2⟩ := inv_sta hT
  have k2 := fun (L2 : Array Slot) hL2 => hX _ _ _ _ hT2 wf (okl.tL oks.hd i) oks.tl H locs L2 cells slots hR (hl.st1 (v := vR x) hn rfl hL2) hlo hb hB
  cases x with
  | none => exact lv_astore_nN C.1 C.2.1 hd hi hl.1 (by rw [← hl.2]; exact hn) rfl k2
  | some a => exact lv_astore_n C.1 C.2.1 hd hi hl.1 (by rw [← hl.2]; exact hn) rfl k2
theorem ok_astore {i : Nat} (hd : decode z.2.1 pc = .ok (.astore i, 2)) : RowOK yN yW z pc (o_sta i 2) := by
  intro g p l e R s m args below meth c d h0 Q C W' X' Q' hW hX hQ ls st h hT wf okl oks H locs L cells slots hR hl hlo hb hB
  obtain ⟨x, st, rfl, hn, hT2⟩ := inv_sta hT
  have k2 := fun (L2 : Array Slot) hL2 => hX _ _ _ _ hT2 wf (okl.tL oks.hd i) oks.tl H locs L2 cells slots hR (hl.st1 (v := vR x) hn rfl hL2) hlo hb hB
  cases x with
  | none => exact lv_astoreN C.1 C.2.1 hd hl.1 (by rw [← hl.2]; exact hn) rfl k2
  | some a => exact lv_astore C.1 C.2.1 hd hl.1 (by rw [← hl.2]; exact hn) rfl k2
theorem ok_iinc {i : Nat} {n : Int} (hd : decode z.2.1 pc = .ok (.iinc i n, 3)) : RowOK yN yW z pc (o_inc i n) := by
  intro g p l e R s m args below meth c d h0 Q C W' X' Q' hW hX hQ ls st h hT wf okl oks H locs L cells slots hR hl hlo hb hB
  obtain ⟨x, hx, hn, hT2⟩ := inv_inc hT
  obtain ⟨k, hk⟩ := List.getElem?_of_mem (clm_i (g := g) ls i 0 hx)
  rw [Nat.zero_add] at hk
  exact lv_iinc C.1 C.2.1 hd hl.1 hk (cn_add x n).symm (by rw [← hl.2]; exact hn) rfl (fun L2 hL2 => hX _ _ _ _ hT2 wf (okl.tL (v := vI (n_add x n)) (rn_add x n) i) oks H locs L2 cells slots hR (hl.st1 (v := vI (n_add x n)) hn rfl hL2) hlo hb hB)
theorem sw_W {K : Nat → Prop} {x : Int} : ∀ {ts : List Nat} {lo : Int} {dflt : Nat}, swK K x lo ts dflt → (∀ (i : Nat) (t : Nat), ts[i]? = some t → x = lo + i → K t) ∧ ((x < lo ∨ lo + ts.length ≤ x) → K dflt) := by
  intro ts
  induction ts with
  | nil => intro lo dflt k; exact ⟨fun i t h => by simp at h, fun _ => k⟩
  | cons t0 ts ih =>
    intro lo dflt k
    unfold swK at k
    by_cases hx : x = lo
    · rw [if_pos hx] at k
      refine ⟨fun i t h e => ?_, fun h => ?_⟩
      · cases i with
        | zero => simp at h; rw [← h]; exact k
        | succ i => exfalso; push_cast at e; omega
      · exfalso
        simp only [List.length_cons] at h
        push_cast at h
        omega
    · rw [if_neg hx] at k
      obtain ⟨k1, k2⟩ := ih k
      refine ⟨fun i t h e => ?_, fun h => k2 ?_⟩
      · cases i with
        | zero => exfalso; exact hx (by simpa using e)
        | succ i => exact k1 i t (by simpa using h) (by push_cast at e; omega)
      · simp only [List.length_cons] at h
        push_cast at h
        omega
theorem ok_tsw {dflt lo hi : Int} {offs : Array Int} {len : Nat} {ts : List Nat} {td : Nat} (hd : decode z.2.1 pc = .ok (.tableswitch dflt lo hi offs, len)) (htd : (pc : Int) + dflt = (td : Int)) (hts : offs.toList.map (fun o => (pc : Int) + o) = ts.map (fun t : Nat => (t : Int))) (hhi : hi = lo + ts.length - 1) : RowOK yN yW z pc (o_tsw lo ts td) := by
  intro g p l e R s m args below meth c d h0 Q C W' X' Q' hW hX hQ ls st h hT wf okl oks H locs L cells slots hR hl hlo hb hB
  unfold o_tsw at hT
  split at hT
  · rename_i x st
    obtain ⟨k1, k2⟩ := sw_W hT
    have hx : (Int32.ofInt x).toInt = x := oks.hd
    by_cases ho : x < lo ∨ hi < x
    · refine lv_tableOut C.1 C.2.1 hd (by rw [hx]; exact ho) htd (hX _ _ _ _ (k2 (by omega)) wf okl oks.tl H locs L cells slots hR hl hlo hb hB)
    · have hlen : (x - lo).toNat < ts.length := by omega
      have hlen2 : offs.size = ts.length := by
        have := congrArg List.length hts
        simpa using this
      obtain ⟨t, ht⟩ : ∃ t, ts[(x - lo).toNat]? = some t := ⟨_, List.getElem?_eq_getElem hlen⟩
      obtain ⟨off, hoff⟩ : ∃ off, offs[(x - lo).toNat]? = some off := ⟨_, Array.getElem?_eq_getElem (by omega)⟩
      have heq : (pc : Int) + off = (t : Int) := by
        have h1 := congrArg (fun q => q[(x - lo).toNat]?) hts
        simp only [List.getElem?_map, ht, Array.getElem?_toList, hoff, Option.map_some] at h1
        exact Option.some.inj h1
      refine lv_tableIn C.1 C.2.1 hd (by rw [hx]; omega) (by rw [hx]; omega) (by rw [hx]; exact hoff) heq (hX _ _ _ _ (k1 _ _ ht (by omega)) wf okl oks.tl H locs L cells slots hR hl hlo hb hB)
  · exact hT.elim
end Rows
