/-! call rows: static, special, virtual; by the answer's type -/
def Site (yN : Nat → MethodName) (yW : Nat → Cond) (z : mi) (pc y n len : Nat) (rv : hp → List av → Prop) : Prop :=
  (∃ ig, decode z.2.1 pc = .ok (ig, len)) ∧ (∃ nL, CodeIs (yN y) (yW y) nL ∧ nL ≤ 13) ∧ yW y ∈ lw_all ∧ Cond.initialized (yN y).cls ∈ lw_all ∧
  ∀ (g : gp) (p : Program) (l : Launch) (e : Env) (R : Room) (s : State) (m : MethodId) (args : Array Value) (below : List Frame) (meth : Method) (c : Code) (d : Nat) (h0 : hp), Cx g z d h0 p R s m meth c → ∀ (h : hp) (as rest : List av) (T : State) (locs : List Loc) (cells slots : Nat) (L : Array Slot), as.length = n → rv h as → WFh h → Rep g h T.heap → Stand p l e R s m args below meth c T locs cells slots →
    Inv p l e R s m args below meth c T locs cells slots (F0 m pc L ((as.reverse ++ rest).map (cv g))) (rest.map (cv g)) (yN y) (as.map (cv g)).toArray
def rvS : hp → List av → Prop := fun _ _ => True
def rvI : hp → List av → Prop := fun h as => ∃ b r, as = vR (some b) :: r ∧ (hT h b).1 < 64
def rvV (k : Nat) : hp → List av → Prop := fun h as => ∃ b r, as = vR (some b) :: r ∧ (hT h b).1 = k
theorem vsel_mem {vt : List (Nat × Nat)} {c : Nat} {K : Nat → Prop} : vsel vt c K → ∃ y, (c, y) ∈ vt ∧ K y := by
  induction vt with
  | nil => intro h; exact h.elim
  | cons q r ih =>
    intro h
    obtain ⟨k, y⟩ := q
    unfold vsel at h
    by_cases hk : c = k
    · rw [if_pos hk] at h
      exact ⟨y, by rw [hk]; exact List.mem_cons_self, h⟩
    · rw [if_neg hk] at h
      obtain ⟨y2, h1, h2⟩ := ih h
      exact ⟨y2, List.mem_cons_of_mem _ h1, h2⟩
theorem okL.app {a b : List av} (h : okL (a ++ b)) : okL a ∧ okL b := ⟨fun v hv => h v (List.mem_append_left _ hv), fun v hv => h v (List.mem_append_right _ hv)⟩
theorem okL.rev {a : List av} (h : okL a) : okL a.reverse := fun v hv => h v (List.mem_reverse.mp hv)
theorem drop_ne {n : Nat} {st : List av} {v : av} {r : List av} (hn : 1 ≤ n) (h : st.drop (n - 1) = v :: r) : n ≤ st.length ∧ (st.take n).reverse = v :: (st.take (n - 1)).reverse := by
  have h1 : (st.drop (n - 1)).length = r.length + 1 := by rw [h]; rfl
  rw [List.length_drop] at h1
  refine ⟨by omega, ?_⟩
  have h2 : st.take n = st.take (n - 1) ++ [v] := by
    have e : st = st.take (n - 1) ++ (v :: r) := by rw [← h]; exact (List.take_append_drop _ _).symm
    have hl : (st.take (n - 1)).length = n - 1 := by rw [List.length_take]; omega
    conv => lhs; rw [e]
    rw [List.take_append, hl, show n - (n - 1) = 1 by omega, List.take_of_length_le (by omega)]
    rfl
  rw [h2, List.reverse_append]
  rfl
section Rows
variable {yN : Nat → MethodName} {yW : Nat → Cond} {z : mi} {pc : Nat}
set_option maxRecDepth 100000 in
theorem row_I {y n len : Nat} {rv : hp → List av → Prop} (S : Site yN yW z pc y n len rv) {hs : List (Nat × Nat)} (hh : hsR z.1 pc z.2.2.2.2.2 hs) {g : gp} {p : Program} {l : Launch} {e : Env} {R : Room} {s : State} {m : MethodId} {args : Array Value} {below : List Frame} {meth : Method} {c : Code} {d : Nat} {h0 : hp} {Q : qt} (C : Cx g z d h0 p R s m meth c) {W' : wt} {X' : xt} {Q' : qt} (hW : WOK yN yW g l d W') (hX : ∀ pc ls st h, X' pc ls st h → Xc g z h0 Q p l e R s m args below meth c pc ls st h) (hQ : ∀ o h, Q' o h → Q o h) {ls as rest : List av} {h : hp} (hy : cI W' y as h (fun x h' => X' (pc + len) ls (vI x :: rest) h') (fun a h' => ex hs X' Q' ls a h')) (hn : as.length = n) (hrv : rv h as) (hsh : shrt rest = true)
    (wf : WFh h) (okl : okL ls) (oks : okL (as.reverse ++ rest)) {H : Heap} (rp : Rep g h H) {locs : List Loc} {cells slots : Nat} {L : Array Slot} (hl : lsR g ls L z.2.2.1) (hlo : ∀ q ∈ locs, gB g ≤ q.base) (hb : 13 * cells + slots + hU h0 ≤ hU h) (hB : hU h ≤ BUD) : W p l e R s m args below meth c H locs cells slots (MX g below h0 Q args s) (F0 m pc L ((as.reverse ++ rest).map (cv g))) := by
  obtain ⟨⟨ig, hd⟩, ⟨nL, hcw, hnL⟩, hwy, hini, hI⟩ := S
  obtain ⟨oka, okr⟩ := oks.app
  have oka := oka.rev
  rw [List.reverse_reverse] at oka
  refine call_core (rest := rest) C hW hX hQ hh hy (fun oa h' v q1 q2 q3 => ?_) (fun a h' q => q) oka wf okl hcw hnL hwy hini hsh rp hl hlo hb hB hd (fun T hT X => hI g p l e R s m args below meth c d h0 C h as rest T locs cells slots L hn hrv wf (by rw [hT]; exact rp) X)
  rcases oa with (_ | v2) | a
  · exact q1.elim
  · rcases v2 with x | x | x | x
    · have e1 : v = some (cv g (vI x)) := by cases q2; rfl
      subst e1
      exact ⟨vI x :: rest, q1, okL_cons q3 okr, rfl⟩
    · exact q1.elim
    · exact q1.elim
    · exact q1.elim
  · cases q2
set_option maxRecDepth 100000 in
theorem row_J {y n len : Nat} {rv : hp → List av → Prop} (S : Site yN yW z pc y n len rv) {hs : List (Nat × Nat)} (hh : hsR z.1 pc z.2.2.2.2.2 hs) {g : gp} {p : Program} {l : Launch} {e : Env} {R : Room} {s : State} {m : MethodId} {args : Array Value} {below : List Frame} {meth : Method} {c : Code} {d : Nat} {h0 : hp} {Q : qt} (C : Cx g z d h0 p R s m meth c) {W' : wt} {X' : xt} {Q' : qt} (hW : WOK yN yW g l d W') (hX : ∀ pc ls st h, X' pc ls st h → Xc g z h0 Q p l e R s m args below meth c pc ls st h) (hQ : ∀ o h, Q' o h → Q o h) {ls as rest : List av} {h : hp} (hy : cJ W' y as h (fun x h' => X' (pc + len) ls (vJ x :: rest) h') (fun a h' => ex hs X' Q' ls a h')) (hn : as.length = n) (hrv : rv h as) (hsh : shrt rest = true)
    (wf : WFh h) (okl : okL ls) (oks : okL (as.reverse ++ rest)) {H : Heap} (rp : Rep g h H) {locs : List Loc} {cells slots : Nat} {L : Array Slot} (hl : lsR g ls L z.2.2.1) (hlo : ∀ q ∈ locs, gB g ≤ q.base) (hb : 13 * cells + slots + hU h0 ≤ hU h) (hB : hU h ≤ BUD) : W p l e R s m args below meth c H locs cells slots (MX g below h0 Q args s) (F0 m pc L ((as.reverse ++ rest).map (cv g))) := by
  obtain ⟨⟨ig, hd⟩, ⟨nL, hcw, hnL⟩, hwy, hini, hI⟩ := S
  obtain ⟨oka, okr⟩ := oks.app
  have oka := oka.rev
  rw [List.reverse_reverse] at oka
  refine call_core (rest := rest) C hW hX hQ hh hy (fun oa h' v q1 q2 q3 => ?_) (fun a h' q => q) oka wf okl hcw hnL hwy hini hsh rp hl hlo hb hB hd (fun T hT X => hI g p l e R s m args below meth c d h0 C h as rest T locs cells slots L hn hrv wf (by rw [hT]; exact rp) X)
  rcases oa with (_ | v2) | a
  · exact q1.elim
  · rcases v2 with x | x | x | x
    · exact q1.elim
    · have e1 : v = some (cv g (vJ x)) := by cases q2; rfl
      subst e1
      exact ⟨vJ x :: rest, q1, okL_cons q3 okr, rfl⟩
    · exact q1.elim
    · exact q1.elim
  · cases q2
set_option maxRecDepth 100000 in
theorem row_R {y n len : Nat} {rv : hp → List av → Prop} (S : Site yN yW z pc y n len rv) {hs : List (Nat × Nat)} (hh : hsR z.1 pc z.2.2.2.2.2 hs) {g : gp} {p : Program} {l : Launch} {e : Env} {R : Room} {s : State} {m : MethodId} {args : Array Value} {below : List Frame} {meth : Method} {c : Code} {d : Nat} {h0 : hp} {Q : qt} (C : Cx g z d h0 p R s m meth c) {W' : wt} {X' : xt} {Q' : qt} (hW : WOK yN yW g l d W') (hX : ∀ pc ls st h, X' pc ls st h → Xc g z h0 Q p l e R s m args below meth c pc ls st h) (hQ : ∀ o h, Q' o h → Q o h) {ls as rest : List av} {h : hp} (hy : cR W' y as h (fun x h' => X' (pc + len) ls (vR x :: rest) h') (fun a h' => ex hs X' Q' ls a h')) (hn : as.length = n) (hrv : rv h as) (hsh : shrt rest = true)
    (wf : WFh h) (okl : okL ls) (oks : okL (as.reverse ++ rest)) {H : Heap} (rp : Rep g h H) {locs : List Loc} {cells slots : Nat} {L : Array Slot} (hl : lsR g ls L z.2.2.1) (hlo : ∀ q ∈ locs, gB g ≤ q.base) (hb : 13 * cells + slots + hU h0 ≤ hU h) (hB : hU h ≤ BUD) : W p l e R s m args below meth c H locs cells slots (MX g below h0 Q args s) (F0 m pc L ((as.reverse ++ rest).map (cv g))) := by
  obtain ⟨⟨ig, hd⟩, ⟨nL, hcw, hnL⟩, hwy, hini, hI⟩ := S
  obtain ⟨oka, okr⟩ := oks.app
  have oka := oka.rev
  rw [List.reverse_reverse] at oka
  refine call_core (rest := rest) C hW hX hQ hh hy (fun oa h' v q1 q2 q3 => ?_) (fun a h' q => q) oka wf okl hcw hnL hwy hini hsh rp hl hlo hb hB hd (fun T hT X => hI g p l e R s m args below meth c d h0 C h as rest T locs cells slots L hn hrv wf (by rw [hT]; exact rp) X)
  rcases oa with (_ | v2) | a
  · exact q1.elim
  · rcases v2 with x | x | x | x
    · exact q1.elim
    · exact q1.elim
    · have e1 : v = some (cv g (vR x)) := by cases q2; rfl
      subst e1
      exact ⟨vR x :: rest, q1, okL_cons q3 okr, rfl⟩
    · exact q1.elim
  · cases q2
set_option maxRecDepth 100000 in
theorem row_V {y n len : Nat} {rv : hp → List av → Prop} (S : Site yN yW z pc y n len rv) {hs : List (Nat × Nat)} (hh : hsR z.1 pc z.2.2.2.2.2 hs) {g : gp} {p : Program} {l : Launch} {e : Env} {R : Room} {s : State} {m : MethodId} {args : Array Value} {below : List Frame} {meth : Method} {c : Code} {d : Nat} {h0 : hp} {Q : qt} (C : Cx g z d h0 p R s m meth c) {W' : wt} {X' : xt} {Q' : qt} (hW : WOK yN yW g l d W') (hX : ∀ pc ls st h, X' pc ls st h → Xc g z h0 Q p l e R s m args below meth c pc ls st h) (hQ : ∀ o h, Q' o h → Q o h) {ls as rest : List av} {h : hp} (hy : cV W' y as h (fun h' => X' (pc + len) ls rest h') (fun a h' => ex hs X' Q' ls a h')) (hn : as.length = n) (hrv : rv h as) (hsh : shrt rest = true)
    (wf : WFh h) (okl : okL ls) (oks : okL (as.reverse ++ rest)) {H : Heap} (rp : Rep g h H) {locs : List Loc} {cells slots : Nat} {L : Array Slot} (hl : lsR g ls L z.2.2.1) (hlo : ∀ q ∈ locs, gB g ≤ q.base) (hb : 13 * cells + slots + hU h0 ≤ hU h) (hB : hU h ≤ BUD) : W p l e R s m args below meth c H locs cells slots (MX g below h0 Q args s) (F0 m pc L ((as.reverse ++ rest).map (cv g))) := by
  obtain ⟨⟨ig, hd⟩, ⟨nL, hcw, hnL⟩, hwy, hini, hI⟩ := S
  obtain ⟨oka, okr⟩ := oks.app
  have oka := oka.rev
  rw [List.reverse_reverse] at oka
  refine call_core (rest := rest) C hW hX hQ hh hy (fun oa h' v q1 q2 q3 => ?_) (fun a h' q => q) oka wf okl hcw hnL hwy hini hsh rp hl hlo hb hB hd (fun T hT X => hI g p l e R s m args below meth c d h0 C h as rest T locs cells slots L hn hrv wf (by rw [hT]; exact rp) X)
  rcases oa with (_ | x) | a
  · have e1 : v = none := by cases q2; rfl
    subst e1
    exact ⟨rest, q1, okr, rfl⟩
  · exact q1.elim
  · cases q2
theorem ok_sI {y n len : Nat} {hs : List (Nat × Nat)} (S : Site yN yW z pc y n len rvS) (hh : hsR z.1 pc z.2.2.2.2.2 hs) : RowOK yN yW z pc (o_sI y n len hs) := by
  intro g p l e R s m args below meth c d h0 Q C W' X' Q' hW hX hQ ls st h kT wf okl oks H locs L cells slots rp hl hlo hb hB
  obtain ⟨hsh, hy⟩ := kT
  rw [Bool.and_eq_true] at hsh
  have hn : n ≤ st.length := Nat.le_of_ble_eq_true hsh.1
  have e1 : (st.take n).reverse.reverse ++ st.drop n = st := by rw [List.reverse_reverse, List.take_append_drop]
  have k := row_I S hh C hW hX hQ hy (by rw [List.length_reverse, List.length_take]; omega) trivial hsh.2 wf okl (by rw [e1]; exact oks) rp hl hlo hb hB
  rw [e1] at k
  exact k
theorem ok_sJ {y n len : Nat} {hs : List (Nat × Nat)} (S : Site yN yW z pc y n len rvS) (hh : hsR z.1 pc z.2.2.2.2.2 hs) : RowOK yN yW z pc (o_sJ y n len hs) := by
  intro g p l e R s m args below meth c d h0 Q C W' X' Q' hW hX hQ ls st h kT wf okl oks H locs L cells slots rp hl hlo hb hB
  obtain ⟨hsh, hy⟩ := kT
  rw [Bool.and_eq_true] at hsh
  have hn : n ≤ st.length := Nat.le_of_ble_eq_true hsh.1
  have e1 : (st.take n).reverse.reverse ++ st.drop n = st := by rw [List.reverse_reverse, List.take_append_drop]
  have k := row_J S hh C hW hX hQ hy (by rw [List.length_reverse, List.length_take]; omega) trivial hsh.2 wf okl (by rw [e1]; exact oks) rp hl hlo hb hB
  rw [e1] at k
  exact k
theorem ok_sR {y n len : Nat} {hs : List (Nat × Nat)} (S : Site yN yW z pc y n len rvS) (hh : hsR z.1 pc z.2.2.2.2.2 hs) : RowOK yN yW z pc (o_sR y n len hs) := by
  intro g p l e R s m args below meth c d h0 Q C W' X' Q' hW hX hQ ls st h kT wf okl oks H locs L cells slots rp hl hlo hb hB
  obtain ⟨hsh, hy⟩ := kT
  rw [Bool.and_eq_true] at hsh
  have hn : n ≤ st.length := Nat.le_of_ble_eq_true hsh.1
  have e1 : (st.take n).reverse.reverse ++ st.drop n = st := by rw [List.reverse_reverse, List.take_append_drop]
  have k := row_R S hh C hW hX hQ hy (by rw [List.length_reverse, List.length_take]; omega) trivial hsh.2 wf okl (by rw [e1]; exact oks) rp hl hlo hb hB
  rw [e1] at k
  exact k
theorem ok_sV {y n len : Nat} {hs : List (Nat × Nat)} (S : Site yN yW z pc y n len rvS) (hh : hsR z.1 pc z.2.2.2.2.2 hs) : RowOK yN yW z pc (o_sV y n len hs) := by
  intro g p l e R s m args below meth c d h0 Q C W' X' Q' hW hX hQ ls st h kT wf okl oks H locs L cells slots rp hl hlo hb hB
  obtain ⟨hsh, hy⟩ := kT
  rw [Bool.and_eq_true] at hsh
  have hn : n ≤ st.length := Nat.le_of_ble_eq_true hsh.1
  have e1 : (st.take n).reverse.reverse ++ st.drop n = st := by rw [List.reverse_reverse, List.take_append_drop]
  have k := row_V S hh C hW hX hQ hy (by rw [List.length_reverse, List.length_take]; omega) trivial hsh.2 wf okl (by rw [e1]; exact oks) rp hl hlo hb hB
  rw [e1] at k
  exact k
theorem ok_iV {y n len : Nat} {hs : List (Nat × Nat)} (hn1 : 1 ≤ n) (S : Site yN yW z pc y n len rvI) (hh : hsR z.1 pc z.2.2.2.2.2 hs) : RowOK yN yW z pc (o_iV y n len hs) := by
  intro g p l e R s m args below meth c d h0 Q C W' X' Q' hW hX hQ ls st h kT wf okl oks H locs L cells slots rp hl hlo hb hB
  obtain ⟨hsh, hy⟩ := kT
  unfold rcs at hy
  split at hy
  · rename_i r st2 hdr
    cases r with
    | none => exact hy.elim
    | some b =>
      obtain ⟨hb64, hy⟩ := hy
      obtain ⟨hn, hrev⟩ := drop_ne hn1 hdr
      have e1 : (st.take n).reverse.reverse ++ st.drop n = st := by rw [List.reverse_reverse, List.take_append_drop]
      have k := row_V S hh C hW hX hQ hy (by rw [List.length_reverse, List.length_take]; omega) ⟨b, _, hrev, hb64⟩ hsh wf okl (by rw [e1]; exact oks) rp hl hlo hb hB
      rw [e1] at k
      exact k
  · exact hy.elim
theorem ok_vI {vt : List (Nat × Nat)} {n len : Nat} {hs : List (Nat × Nat)} (hn1 : 1 ≤ n) (S : ∀ q ∈ vt, Site yN yW z pc q.2 n len (rvV q.1)) (hh : hsR z.1 pc z.2.2.2.2.2 hs) : RowOK yN yW z pc (o_vI vt n len hs) := by
  intro g p l e R s m args below meth c d h0 Q C W' X' Q' hW hX hQ ls st h kT wf okl oks H locs L cells slots rp hl hlo hb hB
  obtain ⟨hsh, hy⟩ := kT
  unfold rcv at hy
  split at hy
  · rename_i r st2 hdr
    cases r with
    | none => exact hy.elim
    | some b =>
      obtain ⟨y, hmem, hy⟩ := vsel_mem hy
      obtain ⟨hn, hrev⟩ := drop_ne hn1 hdr
      have e1 : (st.take n).reverse.reverse ++ st.drop n = st := by rw [List.reverse_reverse, List.take_append_drop]
      have k := row_I (S _ hmem) hh C hW hX hQ hy (by rw [List.length_reverse, List.length_take]; omega) ⟨b, _, hrev, rfl⟩ hsh wf okl (by rw [e1]; exact oks) rp hl hlo hb hB
      rw [e1] at k
      exact k
  · exact hy.elim
theorem ok_vJ {vt : List (Nat × Nat)} {n len : Nat} {hs : List (Nat × Nat)} (hn1 : 1 ≤ n) (S : ∀ q ∈ vt, Site yN yW z pc q.2 n len (rvV q.1)) (hh : hsR z.1 pc z.2.2.2.2.2 hs) : RowOK yN yW z pc (o_vJ vt n len hs) := by
  intro g p l e R s m args below meth c d h0 Q C W' X' Q' hW hX hQ ls st h kT wf okl oks H locs L cells slots rp hl hlo hb hB
  obtain ⟨hsh, hy⟩ := kT
  unfold rcv at hy
  split at hy
  · rename_i r st2 hdr
    cases r with
    | none => exact hy.elim
    | some b =>
      obtain ⟨y, hmem, hy⟩ := vsel_mem hy
      obtain ⟨hn, hrev⟩ := drop_ne hn1 hdr
      have e1 : (st.take n).reverse.reverse ++ st.drop n = st := by rw [List.reverse_reverse, List.take_append_drop]
      have k := row_J (S _ hmem) hh C hW hX hQ hy (by rw [List.length_reverse, List.length_take]; omega) ⟨b, _, hrev, rfl⟩ hsh wf okl (by rw [e1]; exact oks) rp hl hlo hb hB
      rw [e1] at k
      exact k
  · exact hy.elim
theorem ok_vR {vt : List (Nat × Nat)} {n len : Nat} {hs : List (Nat × Nat)} (hn1 : 1 ≤ n) (S : ∀ q ∈ vt, Site yN yW z pc q.2 n len (rvV q.1)) (hh : hsR z.1 pc z.2.2.2.2.2 hs) : RowOK yN yW z pc (o_vR vt n len hs) := by
  intro g p l e R s m args below meth c d h0 Q C W' X' Q' hW hX hQ ls st h kT wf okl oks H locs L cells slots rp hl hlo hb hB
  obtain ⟨hsh, hy⟩ := kT
  unfold rcv at hy
  split at hy
  · rename_i r st2 hdr
    cases r with
    | none => exact hy.elim
    | some b =>
      obtain ⟨y, hmem, hy⟩ := vsel_mem hy
      obtain ⟨hn, hrev⟩ := drop_ne hn1 hdr
      have e1 : (st.take n).reverse.reverse ++ st.drop n = st := by rw [List.reverse_reverse, List.take_append_drop]
      have k := row_R (S _ hmem) hh C hW hX hQ hy (by rw [List.length_reverse, List.length_take]; omega) ⟨b, _, hrev, rfl⟩ hsh wf okl (by rw [e1]; exact oks) rp hl hlo hb hB
      rw [e1] at k
      exact k
  · exact hy.elim
theorem ok_vV {vt : List (Nat × Nat)} {n len : Nat} {hs : List (Nat × Nat)} (hn1 : 1 ≤ n) (S : ∀ q ∈ vt, Site yN yW z pc q.2 n len (rvV q.1)) (hh : hsR z.1 pc z.2.2.2.2.2 hs) : RowOK yN yW z pc (o_vV vt n len hs) := by
  intro g p l e R s m args below meth c d h0 Q C W' X' Q' hW hX hQ ls st h kT wf okl oks H locs L cells slots rp hl hlo hb hB
  obtain ⟨hsh, hy⟩ := kT
  unfold rcv at hy
  split at hy
  · rename_i r st2 hdr
    cases r with
    | none => exact hy.elim
    | some b =>
      obtain ⟨y, hmem, hy⟩ := vsel_mem hy
      obtain ⟨hn, hrev⟩ := drop_ne hn1 hdr
      have e1 : (st.take n).reverse.reverse ++ st.drop n = st := by rw [List.reverse_reverse, List.take_append_drop]
      have k := row_V (S _ hmem) hh C hW hX hQ hy (by rw [List.length_reverse, List.length_take]; omega) ⟨b, _, hrev, rfl⟩ hsh wf okl (by rw [e1]; exact oks) rp hl hlo hb hB
      rw [e1] at k
      exact k
  · exact hy.elim
theorem ok_athrow {hs : List (Nat × Nat)} (hd : decode z.2.1 pc = .ok (.athrow, 1)) (hh : hsR z.1 pc z.2.2.2.2.2 hs) : RowOK yN yW z pc (o_athrow hs) := by
  intro g p l e R s m args below meth c d h0 Q C W' X' Q' hW hX hQ ls st h kT wf okl oks H locs L cells slots rp hl hlo hb hB
  unfold o_athrow at kT
  split at kT
  · rename_i r st
    cases r with
    | none => exact kT.elim
    | some a =>
      obtain ⟨ha64, hex⟩ := kT
      intro T hT X
      obtain ⟨t, k1, k2⟩ := ex_W C hX hQ hh hex wf okl ⟨ha64, wf.lt (Or.inl ha64)⟩ (by rw [hT]; exact rp) X hl hlo hb hB (stk := st.map (cv g))
      refine ⟨t, ?_, k2⟩
      have hx := C.1
      have hdg : decode c.code (F0 m pc L (.ref (phi g a) :: st.map (cv g))).pc = .ok (.athrow, 1) := by rw [C.2.1]; exact hd
      have hstack : (F0 m pc L (.ref (phi g a) :: st.map (cv g))).stack = .ref (phi g a) :: st.map (cv g) := rfl
      show Steps p.tables e below (T.setTop (F0 m pc L (.ref (phi g a) :: st.map (cv g)))) t
      jvm_step X.here [hx, hdg, athrow.wp_sem, hstack]
      exact k1
  · exact kT.elim
end Rows
