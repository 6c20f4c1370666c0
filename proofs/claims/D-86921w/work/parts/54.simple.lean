/-! simple instructions -/
theorem cn_add (x y : Int) : Int32.ofInt (n_add x y) = Int32.ofInt x + Int32.ofInt y := by unfold n_add; rw [of_s32, Int32.ofInt_add]
theorem rn_add (x y : Int) : in32 (n_add x y) := in32_s _
theorem cl_add (x y : Int) : Int64.ofInt (l_add x y) = Int64.ofInt x + Int64.ofInt y := by unfold l_add; rw [of_s64, Int64.ofInt_add]
theorem rl_add (x y : Int) : in64 (l_add x y) := in64_s _
theorem cn_sub (x y : Int) : Int32.ofInt (n_sub x y) = Int32.ofInt x - Int32.ofInt y := by unfold n_sub; rw [of_s32, Int32.ofInt_sub]
theorem rn_sub (x y : Int) : in32 (n_sub x y) := in32_s _
theorem cl_sub (x y : Int) : Int64.ofInt (l_sub x y) = Int64.ofInt x - Int64.ofInt y := by unfold l_sub; rw [of_s64, Int64.ofInt_sub]
theorem rl_sub (x y : Int) : in64 (l_sub x y) := in64_s _
theorem cn_mul (x y : Int) : Int32.ofInt (n_mul x y) = Int32.ofInt x * Int32.ofInt y := by unfold n_mul; rw [of_s32, Int32.ofInt_mul]
theorem rn_mul (x y : Int) : in32 (n_mul x y) := in32_s _
theorem cl_mul (x y : Int) : Int64.ofInt (l_mul x y) = Int64.ofInt x * Int64.ofInt y := by unfold l_mul; rw [of_s64, Int64.ofInt_mul]
theorem rl_mul (x y : Int) : in64 (l_mul x y) := in64_s _
theorem cn_neg (x : Int) : Int32.ofInt (n_neg x) = -Int32.ofInt x := by unfold n_neg; rw [of_s32, Int32.ofInt_neg]
theorem rn_neg (x : Int) : in32 (n_neg x) := in32_s _
theorem cl_neg (x : Int) : Int64.ofInt (l_neg x) = -Int64.ofInt x := by unfold l_neg; rw [of_s64, Int64.ofInt_neg]
theorem rl_neg (x : Int) : in64 (l_neg x) := in64_s _
theorem cn_div (x y : Int) : Int32.ofInt (n_div x y) = Int32.ofInt x / Int32.ofInt y := by unfold n_div; rw [Int32.ofInt_toInt]
theorem rn_div (x y : Int) : in32 (n_div x y) := in32_t _
theorem cn_rem (x y : Int) : Int32.ofInt (n_rem x y) = Int32.ofInt x - Int32.ofInt x / Int32.ofInt y * Int32.ofInt y := by unfold n_rem; rw [Int32.ofInt_toInt]
theorem rn_rem (x y : Int) : in32 (n_rem x y) := in32_t _
theorem cn_and (x y : Int) : Int32.ofInt (n_and x y) = Int32.ofInt x &&& Int32.ofInt y := by unfold n_and; rw [Int32.ofInt_toInt]
theorem rn_and (x y : Int) : in32 (n_and x y) := in32_t _
theorem cn_or (x y : Int) : Int32.ofInt (n_or x y) = Int32.ofInt x ||| Int32.ofInt y := by unfold n_or; rw [Int32.ofInt_toInt]
theorem rn_or (x y : Int) : in32 (n_or x y) := in32_t _
theorem cn_xor (x y : Int) : Int32.ofInt (n_xor x y) = Int32.ofInt x ^^^ Int32.ofInt y := by unfold n_xor; rw [Int32.ofInt_toInt]
theorem rn_xor (x y : Int) : in32 (n_xor x y) := in32_t _
theorem cn_shl (x y : Int) : Int32.ofInt (n_shl x y) = Int32.ofInt x <<< (Int32.ofInt y &&& 31) := by unfold n_shl; rw [Int32.ofInt_toInt]
theorem rn_shl (x y : Int) : in32 (n_shl x y) := in32_t _
theorem cn_shr (x y : Int) : Int32.ofInt (n_shr x y) = Int32.ofInt x >>> (Int32.ofInt y &&& 31) := by unfold n_shr; rw [Int32.ofInt_toInt]
theorem rn_shr (x y : Int) : in32 (n_shr x y) := in32_t _
theorem cl_div (x y : Int) : Int64.ofInt (l_div x y) = Int64.ofInt x / Int64.ofInt y := by unfold l_div; rw [Int64.ofInt_toInt]
theorem rl_div (x y : Int) : in64 (l_div x y) := in64_t _
theorem cl_rem (x y : Int) : Int64.ofInt (l_rem x y) = Int64.ofInt x - Int64.ofInt x / Int64.ofInt y * Int64.ofInt y := by unfold l_rem; rw [Int64.ofInt_toInt]
theorem rl_rem (x y : Int) : in64 (l_rem x y) := in64_t _
theorem cl_and (x y : Int) : Int64.ofInt (l_and x y) = Int64.ofInt x &&& Int64.ofInt y := by unfold l_and; rw [Int64.ofInt_toInt]
theorem rl_and (x y : Int) : in64 (l_and x y) := in64_t _
theorem cl_or (x y : Int) : Int64.ofInt (l_or x y) = Int64.ofInt x ||| Int64.ofInt y := by unfold l_or; rw [Int64.ofInt_toInt]
theorem rl_or (x y : Int) : in64 (l_or x y) := in64_t _
theorem cl_xor (x y : Int) : Int64.ofInt (l_xor x y) = Int64.ofInt x ^^^ Int64.ofInt y := by unfold l_xor; rw [Int64.ofInt_toInt]
theorem rl_xor (x y : Int) : in64 (l_xor x y) := in64_t _
theorem cl_shl (x y : Int) : Int64.ofInt (l_shl x y) = Int64.ofInt x <<< ((Int32.ofInt y).toInt64 &&& 63) := by unfold l_shl; rw [Int64.ofInt_toInt]
theorem rl_shl (x y : Int) : in64 (l_shl x y) := in64_t _
theorem cl_shr (x y : Int) : Int64.ofInt (l_shr x y) = Int64.ofInt x >>> ((Int32.ofInt y).toInt64 &&& 63) := by unfold l_shr; rw [Int64.ofInt_toInt]
theorem rl_shr (x y : Int) : in64 (l_shr x y) := in64_t _
theorem cl_ushr (x y : Int) : Int64.ofInt (l_ushr x y) = ((Int64.ofInt x).toUInt64 >>> ((Int32.ofInt y).toInt64.toUInt64 &&& Int64.toUInt64 63)).toInt64 := by unfold l_ushr; rw [Int64.ofInt_toInt]
theorem rl_ushr (x y : Int) : in64 (l_ushr x y) := in64_t _
theorem cn_i2b (x : Int) : Int32.ofInt (n_i2b x) = (Int32.ofInt x).toInt8.toInt32 := by unfold n_i2b; rw [Int32.ofInt_toInt]
theorem rn_i2b (x : Int) : in32 (n_i2b x) := in32_t _
theorem cn_i2s (x : Int) : Int32.ofInt (n_i2s x) = (Int32.ofInt x).toInt16.toInt32 := by unfold n_i2s; rw [Int32.ofInt_toInt]
theorem rn_i2s (x : Int) : in32 (n_i2s x) := in32_t _
theorem cn_i2c (x : Int) : Int32.ofInt (n_i2c x) = ((Int32.ofInt x).toUInt32 % 65536).toInt32 := by unfold n_i2c; rw [Int32.ofInt_toInt]
theorem rn_i2c (x : Int) : in32 (n_i2c x) := in32_t _
theorem inv_i1 {W : wt} {X : xt} {Q : qt} {pc : Nat} {ls s0 : List av} {h : hp} {f : Int → Int} (hT : o_i1 f W X Q pc ls s0 h) : ∃ x st, s0 = vI x :: st ∧ X (pc + 1) ls (vI (f x) :: st) h := by
  unfold o_i1 at hT; split at hT
  · exact ⟨_, _, rfl, hT⟩
  · exact hT.elim
theorem inv_i2 {W : wt} {X : xt} {Q : qt} {pc : Nat} {ls s0 : List av} {h : hp} {f : Int → Int → Int} (hT : o_i2 f W X Q pc ls s0 h) : ∃ y x st, s0 = vI y :: vI x :: st ∧ X (pc + 1) ls (vI (f x y) :: st) h := by
  unfold o_i2 at hT; split at hT
  · exact ⟨_, _, _, rfl, hT⟩
  · exact hT.elim
theorem inv_i2n {W : wt} {X : xt} {Q : qt} {pc : Nat} {ls s0 : List av} {h : hp} {f : Int → Int → Int} (hT : o_i2n f W X Q pc ls s0 h) : ∃ y x st, s0 = vI y :: vI x :: st ∧ y ≠ 0 ∧ X (pc + 1) ls (vI (f x y) :: st) h := by
  unfold o_i2n at hT; split at hT
  · exact ⟨_, _, _, rfl, hT⟩
  · exact hT.elim
theorem inv_j1 {W : wt} {X : xt} {Q : qt} {pc : Nat} {ls s0 : List av} {h : hp} {f : Int → Int} (hT : o_j1 f W X Q pc ls s0 h) : ∃ x st, s0 = vJ x :: st ∧ X (pc + 1) ls (vJ (f x) :: st) h := by
  unfold o_j1 at hT; split at hT
  · exact ⟨_, _, rfl, hT⟩
  · exact hT.elim
theorem inv_j2 {W : wt} {X : xt} {Q : qt} {pc : Nat} {ls s0 : List av} {h : hp} {f : Int → Int → Int} (hT : o_j2 f W X Q pc ls s0 h) : ∃ y x st, s0 = vJ y :: vJ x :: st ∧ X (pc + 1) ls (vJ (f x y) :: st) h := by
  unfold o_j2 at hT; split at hT
  · exact ⟨_, _, _, rfl, hT⟩
  · exact hT.elim
theorem inv_j2n {W : wt} {X : xt} {Q : qt} {pc : Nat} {ls s0 : List av} {h : hp} {f : Int → Int → Int} (hT : o_j2n f W X Q pc ls s0 h) : ∃ y x st, s0 = vJ y :: vJ x :: st ∧ y ≠ 0 ∧ X (pc + 1) ls (vJ (f x y) :: st) h := by
  unfold o_j2n at hT; split at hT
  · exact ⟨_, _, _, rfl, hT⟩
  · exact hT.elim
theorem inv_jsh {W : wt} {X : xt} {Q : qt} {pc : Nat} {ls s0 : List av} {h : hp} {f : Int → Int → Int} (hT : o_jsh f W X Q pc ls s0 h) : ∃ y x st, s0 = vI y :: vJ x :: st ∧ X (pc + 1) ls (vJ (f x y) :: st) h := by
  unfold o_jsh at hT; split at hT
  · exact ⟨_, _, _, rfl, hT⟩
  · exact hT.elim
theorem inv_i2l {W : wt} {X : xt} {Q : qt} {pc : Nat} {ls s0 : List av} {h : hp} (hT : o_i2l W X Q pc ls s0 h) : ∃ x st, s0 = vI x :: st ∧ X (pc + 1) ls (vJ x :: st) h := by
  unfold o_i2l at hT; split at hT
  · exact ⟨_, _, rfl, hT⟩
  · exact hT.elim
theorem inv_l2i {W : wt} {X : xt} {Q : qt} {pc : Nat} {ls s0 : List av} {h : hp} (hT : o_l2i W X Q pc ls s0 h) : ∃ x st, s0 = vJ x :: st ∧ X (pc + 1) ls (vI (l_l2i x) :: st) h := by
  unfold o_l2i at hT; split at hT
  · exact ⟨_, _, rfl, hT⟩
  · exact hT.elim
theorem inv_lcmp {W : wt} {X : xt} {Q : qt} {pc : Nat} {ls s0 : List av} {h : hp} (hT : o_lcmp W X Q pc ls s0 h) : ∃ y x st, s0 = vJ y :: vJ x :: st ∧ X (pc + 1) ls (vI (l_cmp x y) :: st) h := by
  unfold o_lcmp at hT; split at hT
  · exact ⟨_, _, _, rfl, hT⟩
  · exact hT.elim
theorem inv_dup {W : wt} {X : xt} {Q : qt} {pc : Nat} {ls s0 : List av} {h : hp} (hT : o_dup W X Q pc ls s0 h) : ∃ v st, s0 = v :: st ∧ cat1 v = true ∧ X (pc + 1) ls (v :: v :: st) h := by
  unfold o_dup at hT; split at hT
  · exact ⟨_, _, rfl, hT⟩
  · exact hT.elim
theorem inv_dupx1 {W : wt} {X : xt} {Q : qt} {pc : Nat} {ls s0 : List av} {h : hp} (hT : o_dupx1 W X Q pc ls s0 h) : ∃ v w st, s0 = v :: w :: st ∧ cat1 v = true ∧ cat1 w = true ∧ X (pc + 1) ls (v :: w :: v :: st) h := by
  unfold o_dupx1 at hT; split at hT
  · exact ⟨_, _, _, rfl, hT⟩
  · exact hT.elim
theorem inv_dup2 {W : wt} {X : xt} {Q : qt} {pc : Nat} {ls s0 : List av} {h : hp} (hT : o_dup2 W X Q pc ls s0 h) : ∃ v w st, s0 = v :: w :: st ∧ cat1 v = true ∧ cat1 w = true ∧ X (pc + 1) ls (v :: w :: v :: w :: st) h := by
  unfold o_dup2 at hT; split at hT
  · exact ⟨_, _, _, rfl, hT⟩
  · exact hT.elim
theorem inv_pop {W : wt} {X : xt} {Q : qt} {pc : Nat} {ls s0 : List av} {h : hp} (hT : o_pop W X Q pc ls s0 h) : ∃ v st, s0 = v :: st ∧ cat1 v = true ∧ X (pc + 1) ls st h := by
  unfold o_pop at hT; split at hT
  · exact ⟨_, _, rfl, hT⟩
  · exact hT.elim
theorem inv_ifeq {W : wt} {X : xt} {Q : qt} {pc : Nat} {ls s0 : List av} {h : hp} {t : Nat} (hT : o_ifeq t W X Q pc ls s0 h) : ∃ x st, s0 = vI x :: st ∧ if x = 0 then X t ls st h else X (pc + 3) ls st h := by
  unfold o_ifeq at hT; split at hT
  · exact ⟨_, _, rfl, hT⟩
  · exact hT.elim
theorem inv_ifne {W : wt} {X : xt} {Q : qt} {pc : Nat} {ls s0 : List av} {h : hp} {t : Nat} (hT : o_ifne t W X Q pc ls s0 h) : ∃ x st, s0 = vI x :: st ∧ if x = 0 then X (pc + 3) ls st h else X t ls st h := by
  unfold o_ifne at hT; split at hT
  · exact ⟨_, _, rfl, hT⟩
  · exact hT.elim
theorem inv_iflt {W : wt} {X : xt} {Q : qt} {pc : Nat} {ls s0 : List av} {h : hp} {t : Nat} (hT : o_iflt t W X Q pc ls s0 h) : ∃ x st, s0 = vI x :: st ∧ if x < 0 then X t ls st h else X (pc + 3) ls st h := by
  unfold o_iflt at hT; split at hT
  · exact ⟨_, _, rfl, hT⟩
  · exact hT.elim
theorem inv_ifge {W : wt} {X : xt} {Q : qt} {pc : Nat} {ls s0 : List av} {h : hp} {t : Nat} (hT : o_ifge t W X Q pc ls s0 h) : ∃ x st, s0 = vI x :: st ∧ if x < 0 then X (pc + 3) ls st h else X t ls st h := by
  unfold o_ifge at hT; split at hT
  · exact ⟨_, _, rfl, hT⟩
  · exact hT.elim
theorem inv_ifgt {W : wt} {X : xt} {Q : qt} {pc : Nat} {ls s0 : List av} {h : hp} {t : Nat} (hT : o_ifgt t W X Q pc ls s0 h) : ∃ x st, s0 = vI x :: st ∧ if 0 < x then X t ls st h else X (pc + 3) ls st h := by
  unfold o_ifgt at hT; split at hT
  · exact ⟨_, _, rfl, hT⟩
  · exact hT.elim
theorem inv_ifle {W : wt} {X : xt} {Q : qt} {pc : Nat} {ls s0 : List av} {h : hp} {t : Nat} (hT : o_ifle t W X Q pc ls s0 h) : ∃ x st, s0 = vI x :: st ∧ if 0 < x then X (pc + 3) ls st h else X t ls st h := by
  unfold o_ifle at hT; split at hT
  · exact ⟨_, _, rfl, hT⟩
  · exact hT.elim
theorem inv_ceq {W : wt} {X : xt} {Q : qt} {pc : Nat} {ls s0 : List av} {h : hp} {t : Nat} (hT : o_ceq t W X Q pc ls s0 h) : ∃ y x st, s0 = vI y :: vI x :: st ∧ if x = y then X t ls st h else X (pc + 3) ls st h := by
  unfold o_ceq at hT; split at hT
  · exact ⟨_, _, _, rfl, hT⟩
  · exact hT.elim
theorem inv_cne {W : wt} {X : xt} {Q : qt} {pc : Nat} {ls s0 : List av} {h : hp} {t : Nat} (hT : o_cne t W X Q pc ls s0 h) : ∃ y x st, s0 = vI y :: vI x :: st ∧ if x = y then X (pc + 3) ls st h else X t ls st h := by
  unfold o_cne at hT; split at hT
  · exact ⟨_, _, _, rfl, hT⟩
  · exact hT.elim
theorem inv_clt {W : wt} {X : xt} {Q : qt} {pc : Nat} {ls s0 : List av} {h : hp} {t : Nat} (hT : o_clt t W X Q pc ls s0 h) : ∃ y x st, s0 = vI y :: vI x :: st ∧ if x < y then X t ls st h else X (pc + 3) ls st h := by
  unfold o_clt at hT; split at hT
  · exact ⟨_, _, _, rfl, hT⟩
  · exact hT.elim
theorem inv_cge {W : wt} {X : xt} {Q : qt} {pc : Nat} {ls s0 : List av} {h : hp} {t : Nat} (hT : o_cge t W X Q pc ls s0 h) : ∃ y x st, s0 = vI y :: vI x :: st ∧ if x < y then X (pc + 3) ls st h else X t ls st h := by
  unfold o_cge at hT; split at hT
  · exact ⟨_, _, _, rfl, hT⟩
  · exact hT.elim
theorem inv_cgt {W : wt} {X : xt} {Q : qt} {pc : Nat} {ls s0 : List av} {h : hp} {t : Nat} (hT : o_cgt t W X Q pc ls s0 h) : ∃ y x st, s0 = vI y :: vI x :: st ∧ if y < x then X t ls st h else X (pc + 3) ls st h := by
  unfold o_cgt at hT; split at hT
  · exact ⟨_, _, _, rfl, hT⟩
  · exact hT.elim
theorem inv_cle {W : wt} {X : xt} {Q : qt} {pc : Nat} {ls s0 : List av} {h : hp} {t : Nat} (hT : o_cle t W X Q pc ls s0 h) : ∃ y x st, s0 = vI y :: vI x :: st ∧ if y < x then X (pc + 3) ls st h else X t ls st h := by
  unfold o_cle at hT; split at hT
  · exact ⟨_, _, _, rfl, hT⟩
  · exact hT.elim
theorem inv_null {W : wt} {X : xt} {Q : qt} {pc : Nat} {ls s0 : List av} {h : hp} {t : Nat} (hT : o_null t W X Q pc ls s0 h) : ∃ r st, s0 = vR r :: st ∧ if r = none then X t ls st h else X (pc + 3) ls st h := by
  unfold o_null at hT; split at hT
  · exact ⟨_, _, rfl, hT⟩
  · exact hT.elim
theorem inv_nonnull {W : wt} {X : xt} {Q : qt} {pc : Nat} {ls s0 : List av} {h : hp} {t : Nat} (hT : o_nonnull t W X Q pc ls s0 h) : ∃ r st, s0 = vR r :: st ∧ if r = none then X (pc + 3) ls st h else X t ls st h := by
  unfold o_nonnull at hT; split at hT
  · exact ⟨_, _, rfl, hT⟩
  · exact hT.elim
theorem inv_aeq {W : wt} {X : xt} {Q : qt} {pc : Nat} {ls s0 : List av} {h : hp} {t : Nat} (hT : o_aeq t W X Q pc ls s0 h) : ∃ r q st, s0 = vR r :: vR q :: st ∧ okc q r ∧ if q = r then X t ls st h else X (pc + 3) ls st h := by
  unfold o_aeq at hT; split at hT
  · exact ⟨_, _, _, rfl, hT⟩
  · exact hT.elim
theorem inv_ane {W : wt} {X : xt} {Q : qt} {pc : Nat} {ls s0 : List av} {h : hp} {t : Nat} (hT : o_ane t W X Q pc ls s0 h) : ∃ r q st, s0 = vR r :: vR q :: st ∧ okc q r ∧ if q = r then X (pc + 3) ls st h else X t ls st h := by
  unfold o_ane at hT; split at hT
  · exact ⟨_, _, _, rfl, hT⟩
  · exact hT.elim
section Rows
variable {yN : Nat → MethodName} {yW : Nat → Cond} {z : mi} {pc : Nat}
theorem ok_iadd (hd : decode z.2.1 pc = .ok (.iadd, 1)) : RowOK yN yW z pc (o_i2 n_add) := by
  intro g p l e R s m args below meth c d h0 Q C W' X' Q' hW hX hQ ls st h hT wf okl oks H locs L cells slots hR hl hlo hb hB
  obtain ⟨y, x, st, rfl, hT⟩ := inv_i2 hT
  have k := hX _ _ _ _ hT wf okl (okL_cons (rn_add x y) oks.tl.tl) H locs L cells slots hR hl hlo hb hB
  have k2 : W p l e R s m args below meth c H locs cells slots (MX g below h0 Q args s) (F0 m (pc + 1) L (.int (Int32.ofInt x + Int32.ofInt y) :: st.map (cv g))) := by
    rw [← cn_add]; exact k
  exact lv_iadd C.1 C.2.1 hd k2
theorem ok_isub (hd : decode z.2.1 pc = .ok (.isub, 1)) : RowOK yN yW z pc (o_i2 n_sub) := by
  intro g p l e R s m args below meth c d h0 Q C W' X' Q' hW hX hQ ls st h hT wf okl oks H locs L cells slots hR hl hlo hb hB
  obtain ⟨y, x, st, rfl, hT⟩ := inv_i2 hT
  have k := hX _ _ _ _ hT wf okl (okL_cons (rn_sub x y) oks.tl.tl) H locs L cells slots hR hl hlo hb hB
  have k2 : W p l e R s m args below meth c H locs cells slots (MX g below h0 Q args s) (F0 m (pc + 1) L (.int (Int32.ofInt x - Int32.ofInt y) :: st.map (cv g))) := by
    rw [← cn_sub]; exact k
  exact lv_isub C.1 C.2.1 hd k2
theorem ok_imul (hd : decode z.2.1 pc = .ok (.imul, 1)) : RowOK yN yW z pc (o_i2 n_mul) := by
  intro g p l e R s m args below meth c d h0 Q C W' X' Q' hW hX hQ ls st h hT wf okl oks H locs L cells slots hR hl hlo hb hB
  obtain ⟨y, x, st, rfl, hT⟩ := inv_i2 hT
  have k := hX _ _ _ _ hT wf okl (okL_cons (rn_mul x y) oks.tl.tl) H locs L cells slots hR hl hlo hb hB
  have k2 : W p l e R s m args below meth c H locs cells slots (MX g below h0 Q args s) (F0 m (pc + 1) L (.int (Int32.ofInt x * Int32.ofInt y) :: st.map (cv g))) := by
    rw [← cn_mul]; exact k
  exact lv_imul C.1 C.2.1 hd k2
theorem ok_iand (hd : decode z.2.1 pc = .ok (.iand, 1)) : RowOK yN yW z pc (o_i2 n_and) := by
  intro g p l e R s m args below meth c d h0 Q C W' X' Q' hW hX hQ ls st h hT wf okl oks H locs L cells slots hR hl hlo hb hB
  obtain ⟨y, x, st, rfl, hT⟩ := inv_i2 hT
  have k := hX _ _ _ _ hT wf okl (okL_cons (rn_and x y) oks.tl.tl) H locs L cells slots hR hl hlo hb hB
  have k2 : W p l e R s m args below meth c H locs cells slots (MX g below h0 Q args s) (F0 m (pc + 1) L (.int (Int32.ofInt x &&& Int32.ofInt y) :: st.map (cv g))) := by
    rw [← cn_and]; exact k
  exact lv_iand C.1 C.2.1 hd k2
theorem ok_ior (hd : decode z.2.1 pc = .ok (.ior, 1)) : RowOK yN yW z pc (o_i2 n_or) := by
  intro g p l e R s m args below meth c d h0 Q C W' X' Q' hW hX hQ ls st h hT wf okl oks H locs L cells slots hR hl hlo hb hB
  obtain ⟨y, x, st, rfl, hT⟩ := inv_i2 hT
  have k := hX _ _ _ _ hT wf okl (okL_cons (rn_or x y) oks.tl.tl) H locs L cells slots hR hl hlo hb hB
  have k2 : W p l e R s m args below meth c H locs cells slots (MX g below h0 Q args s) (F0 m (pc + 1) L (.int (Int32.ofInt x ||| Int32.ofInt y) :: st.map (cv g))) := by
    rw [← cn_or]; exact k
  exact lv_ior C.1 C.2.1 hd k2
theorem ok_ixor (hd : decode z.2.1 pc = .ok (.ixor, 1)) : RowOK yN yW z pc (o_i2 n_xor) := by
  intro g p l e R s m args below meth c d h0 Q C W' X' Q' hW hX hQ ls st h hT wf okl oks H locs L cells slots hR hl hlo hb hB
  obtain ⟨y, x, st, rfl, hT⟩ := inv_i2 hT
  have k := hX _ _ _ _ hT wf okl (okL_cons (rn_xor x y) oks.tl.tl) H locs L cells slots hR hl hlo hb hB
  have k2 : W p l e R s m args below meth c H locs cells slots (MX g below h0 Q args s) (F0 m (pc + 1) L (.int (Int32.ofInt x ^^^ Int32.ofInt y) :: st.map (cv g))) := by
    rw [← cn_xor]; exact k
  exact lv_ixor C.1 C.2.1 hd k2
theorem ok_ishl (hd : decode z.2.1 pc = .ok (.ishl, 1)) : RowOK yN yW z pc (o_i2 n_shl) := by
  intro g p l e R s m args below meth c d h0 Q C W' X' Q' hW hX hQ ls st h hT wf okl oks H locs L cells slots hR hl hlo hb hB
  obtain ⟨y, x, st, rfl, hT⟩ := inv_i2 hT
  have k := hX _ _ _ _ hT wf okl (okL_cons (rn_shl x y) oks.tl.tl) H locs L cells slots hR hl hlo hb hB
  have k2 : W p l e R s m args below meth c H locs cells slots (MX g below h0 Q args s) (F0 m (pc + 1) L (.int (Int32.ofInt x <<< (Int32.ofInt y &&& 31)) :: st.map (cv g))) := by
    rw [← cn_shl]; exact k
  exact lv_ishl C.1 C.2.1 hd k2
theorem ok_ishr (hd : decode z.2.1 pc = .ok (.ishr, 1)) : RowOK yN yW z pc (o_i2 n_shr) := by
  intro g p l e R s m args below meth c d h0 Q C W' X' Q' hW hX hQ ls st h hT wf okl oks H locs L cells slots hR hl hlo hb hB
  obtain ⟨y, x, st, rfl, hT⟩ := inv_i2 hT
  have k := hX _ _ _ _ hT wf okl (okL_cons (rn_shr x y) oks.tl.tl) H locs L cells slots hR hl hlo hb hB
  have k2 : W p l e R s m args below meth c H locs cells slots (MX g below h0 Q args s) (F0 m (pc + 1) L (.int (Int32.ofInt x >>> (Int32.ofInt y &&& 31)) :: st.map (cv g))) := by
    rw [← cn_shr]; exact k
  exact lv_ishr C.1 C.2.1 hd k2
theorem ok_idiv (hd : decode z.2.1 pc = .ok (.idiv, 1)) : RowOK yN yW z pc (o_i2n n_div) := by
  intro g p l e R s m args below meth c d h0 Q C W' X' Q' hW hX hQ ls st h hT wf okl oks H locs L cells slots hR hl hlo hb hB
  obtain ⟨y, x, st, rfl, hy, hT⟩ := inv_i2n hT
  have k := hX _ _ _ _ hT wf okl (okL_cons (rn_div x y) oks.tl.tl) H locs L cells slots hR hl hlo hb hB
  have k2 : W p l e R s m args below meth c H locs cells slots (MX g below h0 Q args s) (F0 m (pc + 1) L (.int (Int32.ofInt x / Int32.ofInt y) :: st.map (cv g))) := by
    rw [← cn_div]; exact k
  exact lv_idiv C.1 C.2.1 hd (fun e0 => hy ((in32_eq oks.hd in32_0).mp e0)) k2
theorem ok_irem (hd : decode z.2.1 pc = .ok (.irem, 1)) : RowOK yN yW z pc (o_i2n n_rem) := by
  intro g p l e R s m args below meth c d h0 Q C W' X' Q' hW hX hQ ls st h hT wf okl oks H locs L cells slots hR hl hlo hb hB
  obtain ⟨y, x, st, rfl, hy, hT⟩ := inv_i2n hT
  have k := hX _ _ _ _ hT wf okl (okL_cons (rn_rem x y) oks.tl.tl) H locs L cells slots hR hl hlo hb hB
  have k2 : W p l e R s m args below meth c H locs cells slots (MX g below h0 Q args s) (F0 m (pc + 1) L (.int (Int32.ofInt x - Int32.ofInt x / Int32.ofInt y * Int32.ofInt y) :: st.map (cv g))) := by
    rw [← cn_rem]; exact k
  exact lv_irem C.1 C.2.1 hd (fun e0 => hy ((in32_eq oks.hd in32_0).mp e0)) k2
theorem ok_ladd (hd : decode z.2.1 pc = .ok (.ladd, 1)) : RowOK yN yW z pc (o_j2 l_add) := by
  intro g p l e R s m args below meth c d h0 Q C W' X' Q' hW hX hQ ls st h hT wf okl oks H locs L cells slots hR hl hlo hb hB
  obtain ⟨y, x, st, rfl, hT⟩ := inv_j2 hT
  have k := hX _ _ _ _ hT wf okl (okL_cons (rl_add x y) oks.tl.tl) H locs L cells slots hR hl hlo hb hB
  have k2 : W p l e R s m args below meth c H locs cells slots (MX g below h0 Q args s) (F0 m (pc + 1) L (.long (Int64.ofInt x + Int64.ofInt y) :: st.map (cv g))) := by
    rw [← cl_add]; exact k
  exact lv_ladd C.1 C.2.1 hd k2
theorem ok_lsub (hd : decode z.2.1 pc = .ok (.lsub, 1)) : RowOK yN yW z pc (o_j2 l_sub) := by
  intro g p l e R s m args below meth c d h0 Q C W' X' Q' hW hX hQ ls st h hT wf okl oks H locs L cells slots hR hl hlo hb hB
  obtain ⟨y, x, st, rfl, hT⟩ := inv_j2 hT
  have k := hX _ _ _ _ hT wf okl (okL_cons (rl_sub x y) oks.tl.tl) H locs L cells slots hR hl hlo hb hB
  have k2 : W p l e R s m args below meth c H locs cells slots (MX g below h0 Q args s) (F0 m (pc + 1) L (.long (Int64.ofInt x - Int64.ofInt y) :: st.map (cv g))) := by
    rw [← cl_sub]; exact k
  exact lv_lsub C.1 C.2.1 hd k2
theorem ok_lmul (hd : decode z.2.1 pc = .ok (.lmul, 1)) : RowOK yN yW z pc (o_j2 l_mul) := by
  intro g p l e R s m args below meth c d h0 Q C W' X' Q' hW hX hQ ls st h hT wf okl oks H locs L cells slots hR hl hlo hb hB
  obtain ⟨y, x, st, rfl, hT⟩ := inv_j2 hT
  have k := hX _ _ _ _ hT wf okl (okL_cons (rl_mul x y) oks.tl.tl) H locs L cells slots hR hl hlo hb hB
  have k2 : W p l e R s m args below meth c H locs cells slots (MX g below h0 Q args s) (F0 m (pc + 1) L (.long (Int64.ofInt x * Int64.ofInt y) :: st.map (cv g))) := by
    rw [← cl_mul]; exact k
  exact lv_lmul C.1 C.2.1 hd k2
theorem ok_land (hd : decode z.2.1 pc = .ok (.land, 1)) : RowOK yN yW z pc (o_j2 l_and) := by
  intro g p l e R s m args below meth c d h0 Q C W' X' Q' hW hX hQ ls st h hT wf okl oks H locs L cells slots hR hl hlo hb hB
  obtain ⟨y, x, st, rfl, hT⟩ := inv_j2 hT
  have k := hX _ _ _ _ hT wf okl (okL_cons (rl_and x y) oks.tl.tl) H locs L cells slots hR hl hlo hb hB
  have k2 : W p l e R s m args below meth c H locs cells slots (MX g below h0 Q args s) (F0 m (pc + 1) L (.long (Int64.ofInt x &&& Int64.ofInt y) :: st.map (cv g))) := by
    rw [← cl_and]; exact k
  exact lv_land C.1 C.2.1 hd k2
theorem ok_lor (hd : decode z.2.1 pc = .ok (.lor, 1)) : RowOK yN yW z pc (o_j2 l_or) := by
  intro g p l e R s m args below meth c d h0 Q C W' X' Q' hW hX hQ ls st h hT wf okl oks H locs L cells slots hR hl hlo hb hB
  obtain ⟨y, x, st, rfl, hT⟩ := inv_j2 hT
  have k := hX _ _ _ _ hT wf okl (okL_cons (rl_or x y) oks.tl.tl) H locs L cells slots hR hl hlo hb hB
  have k2 : W p l e R s m args below meth c H locs cells slots (MX g below h0 Q args s) (F0 m (pc + 1) L (.long (Int64.ofInt x ||| Int64.ofInt y) :: st.map (cv g))) := by
    rw [← cl_or]; exact k
  exact lv_lor C.1 C.2.1 hd k2
theorem ok_lxor (hd : decode z.2.1 pc = .ok (.lxor, 1)) : RowOK yN yW z pc (o_j2 l_xor) := by
  intro g p l e R s m args below meth c d h0 Q C W' X' Q' hW hX hQ ls st h hT wf okl oks H locs L cells slots hR hl hlo hb hB
  obtain ⟨y, x, st, rfl, hT⟩ := inv_j2 hT
  have k := hX _ _ _ _ hT wf okl (okL_cons (rl_xor x y) oks.tl.tl) H locs L cells slots hR hl hlo hb hB
  have k2 : W p l e R s m args below meth c H locs cells slots (MX g below h0 Q args s) (F0 m (pc + 1) L (.long (Int64.ofInt x ^^^ Int64.ofInt y) :: st.map (cv g))) := by
    rw [← cl_xor]; exact k
  exact lv_lxor C.1 C.2.1 hd k2
theorem ok_ldiv (hd : decode z.2.1 pc = .ok (.ldiv, 1)) : RowOK yN yW z pc (o_j2n l_div) := by
  intro g p l e R s m args below meth c d h0 Q C W' X' Q' hW hX hQ ls st h hT wf okl oks H locs L cells slots hR hl hlo hb hB
  obtain ⟨y, x, st, rfl, hy, hT⟩ := inv_j2n hT
  have k := hX _ _ _ _ hT wf okl (okL_cons (rl_div x y) oks.tl.tl) H locs L cells slots hR hl hlo hb hB
  have k2 : W p l e R s m args below meth c H locs cells slots (MX g below h0 Q args s) (F0 m (pc + 1) L (.long (Int64.ofInt x / Int64.ofInt y) :: st.map (cv g))) := by
    rw [← cl_div]; exact k
  have h2 : (Int64.ofInt y).toInt = y := oks.hd
  exact lv_ldiv C.1 C.2.1 hd (fun e0 => hy (by rw [e0] at h2; rw [← h2]; rfl)) k2
theorem ok_lrem (hd : decode z.2.1 pc = .ok (.lrem, 1)) : RowOK yN yW z pc (o_j2n l_rem) := by
  intro g p l e R s m args below meth c d h0 Q C W' X' Q' hW hX hQ ls st h hT wf okl oks H locs L cells slots hR hl hlo hb hB
  obtain ⟨y, x, st, rfl, hy, hT⟩ := inv_j2n hT
  have k := hX _ _ _ _ hT wf okl (okL_cons (rl_rem x y) oks.tl.tl) H locs L cells slots hR hl hlo hb hB
  have k2 : W p l e R s m args below meth c H locs cells slots (MX g below h0 Q args s) (F0 m (pc + 1) L (.long (Int64.ofInt x - Int64.ofInt x / Int64.ofInt y * Int64.ofInt y) :: st.map (cv g))) := by
    rw [← cl_rem]; exact k
  have h2 : (Int64.ofInt y).toInt = y := oks.hd
  exact lv_lrem C.1 C.2.1 hd (fun e0 => hy (by rw [e0] at h2; rw [← h2]; rfl)) k2
theorem ok_lshl (hd : decode z.2.1 pc = .ok (.lshl, 1)) : RowOK yN yW z pc (o_jsh l_shl) := by
  intro g p l e R s m args below meth c d h0 Q C W' X' Q' hW hX hQ ls st h hT wf okl oks H locs L cells slots hR hl hlo hb hB
  obtain ⟨y, x, st, rfl, hT⟩ := inv_jsh hT
  exact lv_lshl C.1 C.2.1 hd (cl_shl x y).symm (hX _ _ _ _ hT wf okl (okL_cons (rl_shl x y) oks.tl.tl) H locs L cells slots hR hl hlo hb hB)
theorem ok_lshr (hd : decode z.2.1 pc = .ok (.lshr, 1)) : RowOK yN yW z pc (o_jsh l_shr) := by
  intro g p l e R s m args below meth c d h0 Q C W' X' Q' hW hX hQ ls st h hT wf okl oks H locs L cells slots hR hl hlo hb hB
  obtain ⟨y, x, st, rfl, hT⟩ := inv_jsh hT
  exact lv_lshr C.1 C.2.1 hd (cl_shr x y).symm (hX _ _ _ _ hT wf okl (okL_cons (rl_shr x y) oks.tl.tl) H locs L cells slots hR hl hlo hb hB)
theorem ok_lushr (hd : decode z.2.1 pc = .ok (.lushr, 1)) : RowOK yN yW z pc (o_jsh l_ushr) := by
  intro g p l e R s m args below meth c d h0 Q C W' X' Q' hW hX hQ ls st h hT wf okl oks H locs L cells slots hR hl hlo hb hB
  obtain ⟨y, x, st, rfl, hT⟩ := inv_jsh hT
  exact lv_lushr C.1 C.2.1 hd (cl_ushr x y).symm (hX _ _ _ _ hT wf okl (okL_cons (rl_ushr x y) oks.tl.tl) H locs L cells slots hR hl hlo hb hB)
theorem ok_i2b (hd : decode z.2.1 pc = .ok (.i2b, 1)) : RowOK yN yW z pc (o_i1 n_i2b) := by
  intro g p l e R s m args below meth c d h0 Q C W' X' Q' hW hX hQ ls st h hT wf okl oks H locs L cells slots hR hl hlo hb hB
  obtain ⟨x, st, rfl, hT⟩ := inv_i1 hT
  exact lv_i2b C.1 C.2.1 hd (cn_i2b x).symm (hX _ _ _ _ hT wf okl (okL_cons (rn_i2b x) oks.tl) H locs L cells slots hR hl hlo hb hB)
theorem ok_i2s (hd : decode z.2.1 pc = .ok (.i2s, 1)) : RowOK yN yW z pc (o_i1 n_i2s) := by
  intro g p l e R s m args below meth c d h0 Q C W' X' Q' hW hX hQ ls st h hT wf okl oks H locs L cells slots hR hl hlo hb hB
  obtain ⟨x, st, rfl, hT⟩ := inv_i1 hT
  exact lv_i2s C.1 C.2.1 hd (cn_i2s x).symm (hX _ _ _ _ hT wf okl (okL_cons (rn_i2s x) oks.tl) H locs L cells slots hR hl hlo hb hB)
theorem ok_i2c (hd : decode z.2.1 pc = .ok (.i2c, 1)) : RowOK yN yW z pc (o_i1 n_i2c) := by
  intro g p l e R s m args below meth c d h0 Q C W' X' Q' hW hX hQ ls st h hT wf okl oks H locs L cells slots hR hl hlo hb hB
  obtain ⟨x, st, rfl, hT⟩ := inv_i1 hT
  exact lv_i2c C.1 C.2.1 hd (cn_i2c x).symm (hX _ _ _ _ hT wf okl (okL_cons (rn_i2c x) oks.tl) H locs L cells slots hR hl hlo hb hB)
theorem ok_ineg (hd : decode z.2.1 pc = .ok (.ineg, 1)) : RowOK yN yW z pc (o_i1 n_neg) := by
  intro g p l e R s m args below meth c d h0 Q C W' X' Q' hW hX hQ ls st h hT wf okl oks H locs L cells slots hR hl hlo hb hB
  obtain ⟨x, st, rfl, hT⟩ := inv_i1 hT
  have k := hX _ _ _ _ hT wf okl (okL_cons (rn_neg x) oks.tl) H locs L cells slots hR hl hlo hb hB
  have k2 : W p l e R s m args below meth c H locs cells slots (MX g below h0 Q args s) (F0 m (pc + 1) L (.int (-Int32.ofInt x) :: st.map (cv g))) := by
    rw [← cn_neg]; exact k
  exact lv_ineg C.1 C.2.1 hd k2
theorem ok_lneg (hd : decode z.2.1 pc = .ok (.lneg, 1)) : RowOK yN yW z pc (o_j1 l_neg) := by
  intro g p l e R s m args below meth c d h0 Q C W' X' Q' hW hX hQ ls st h hT wf okl oks H locs L cells slots hR hl hlo hb hB
  obtain ⟨x, st, rfl, hT⟩ := inv_j1 hT
  have k := hX _ _ _ _ hT wf okl (okL_cons (rl_neg x) oks.tl) H locs L cells slots hR hl hlo hb hB
  have k2 : W p l e R s m args below meth c H locs cells slots (MX g below h0 Q args s) (F0 m (pc + 1) L (.long (-Int64.ofInt x) :: st.map (cv g))) := by
    rw [← cl_neg]; exact k
  exact lv_lneg C.1 C.2.1 hd k2
theorem ok_i2l (hd : decode z.2.1 pc = .ok (.i2l, 1)) : RowOK yN yW z pc (o_i2l) := by
  intro g p l e R s m args below meth c d h0 Q C W' X' Q' hW hX hQ ls st h hT wf okl oks H locs L cells slots hR hl hlo hb hB
  obtain ⟨x, st, rfl, hT⟩ := inv_i2l hT
  exact lv_i2l C.1 C.2.1 hd (c_i2l oks.hd) (hX _ _ _ _ hT wf okl (okL_cons (in64_of32 oks.hd) oks.tl) H locs L cells slots hR hl hlo hb hB)
theorem ok_l2i (hd : decode z.2.1 pc = .ok (.l2i, 1)) : RowOK yN yW z pc (o_l2i) := by
  intro g p l e R s m args below meth c d h0 Q C W' X' Q' hW hX hQ ls st h hT wf okl oks H locs L cells slots hR hl hlo hb hB
  obtain ⟨x, st, rfl, hT⟩ := inv_l2i hT
  exact lv_l2i C.1 C.2.1 hd (c_l2i x) (hX _ _ _ _ hT wf okl (okL_cons (in32_s x) oks.tl) H locs L cells slots hR hl hlo hb hB)
theorem ok_lcmp (hd : decode z.2.1 pc = .ok (.lcmp, 1)) : RowOK yN yW z pc (o_lcmp) := by
  intro g p l e R s m args below meth c d h0 Q C W' X' Q' hW hX hQ ls st h hT wf okl oks H locs L cells slots hR hl hlo hb hB
  obtain ⟨y, x, st, rfl, hT⟩ := inv_lcmp hT
  have k := hX _ _ _ _ hT wf okl (okL_cons (r_lcmp x y) oks.tl.tl) H locs L cells slots hR hl hlo hb hB
  have k2 : W p l e R s m args below meth c H locs cells slots (MX g below h0 Q args s) (F0 m (pc + 1) L (.int (lg_cmp (Int64.ofInt x) (Int64.ofInt y)) :: st.map (cv g))) := by
    rw [← c_lcmp oks.tl.hd oks.hd]; exact k
  exact W.lcmp C.1 C.2.1 hd k2
theorem ok_dup (hd : decode z.2.1 pc = .ok (.dup, 1)) : RowOK yN yW z pc (o_dup) := by
  intro g p l e R s m args below meth c d h0 Q C W' X' Q' hW hX hQ ls st h hT wf okl oks H locs L cells slots hR hl hlo hb hB
  obtain ⟨v, st, rfl, h1, hT⟩ := inv_dup hT
  exact lv_dup C.1 C.2.1 hd (cv_cat h1) (hX _ _ _ _ hT wf okl (okL_cons oks.hd oks) H locs L cells slots hR hl hlo hb hB)
theorem ok_dupx1 (hd : decode z.2.1 pc = .ok (.dup_x1, 1)) : RowOK yN yW z pc (o_dupx1) := by
  intro g p l e R s m args below meth c d h0 Q C W' X' Q' hW hX hQ ls st h hT wf okl oks H locs L cells slots hR hl hlo hb hB
  obtain ⟨v, w, st, rfl, h1, h2, hT⟩ := inv_dupx1 hT
  exact lv_dup_x1 C.1 C.2.1 hd (cv_cat h1) (cv_cat h2) (hX _ _ _ _ hT wf okl (okL_cons oks.hd (okL_cons oks.tl.hd (okL_cons oks.hd oks.tl.tl))) H locs L cells slots hR hl hlo hb hB)
theorem ok_dup2 (hd : decode z.2.1 pc = .ok (.dup2, 1)) : RowOK yN yW z pc (o_dup2) := by
  intro g p l e R s m args below meth c d h0 Q C W' X' Q' hW hX hQ ls st h hT wf okl oks H locs L cells slots hR hl hlo hb hB
  obtain ⟨v, w, st, rfl, h1, h2, hT⟩ := inv_dup2 hT
  exact lv_dup2_11 C.1 C.2.1 hd (cv_cat h1) (cv_cat h2) (hX _ _ _ _ hT wf okl (okL_cons oks.hd (okL_cons oks.tl.hd oks)) H locs L cells slots hR hl hlo hb hB)
theorem ok_pop (hd : decode z.2.1 pc = .ok (.pop, 1)) : RowOK yN yW z pc (o_pop) := by
  intro g p l e R s m args below meth c d h0 Q C W' X' Q' hW hX hQ ls st h hT wf okl oks H locs L cells slots hR hl hlo hb hB
  obtain ⟨v, st, rfl, h1, hT⟩ := inv_pop hT
  exact lv_pop C.1 C.2.1 hd (cv_cat h1) (hX _ _ _ _ hT wf okl oks.tl H locs L cells slots hR hl hlo hb hB)
theorem ok_ifeq {off : Int} {t : Nat} (hd : decode z.2.1 pc = .ok (.ifCond .eq off, 3)) (ht : (pc : Int) + off = (t : Int)) : RowOK yN yW z pc (o_ifeq t) := by
  intro g p l e R s m args below meth c d h0 Q C W' X' Q' hW hX hQ ls st h hT wf okl oks H locs L cells slots hR hl hlo hb hB
  obtain ⟨x, st, rfl, hT2⟩ := inv_ifeq hT
  exact lv_if_eq C.1 C.2.1 hd ht (fun q => hX _ _ _ _ (by rw [if_pos ((in32_eq oks.hd in32_0).mp q)] at hT2; exact hT2) wf okl oks.tl H locs L cells slots hR hl hlo hb hB) (fun q => hX _ _ _ _ (by rw [if_neg (fun w => q ((in32_eq oks.hd in32_0).mpr w))] at hT2; exact hT2) wf okl oks.tl H locs L cells slots hR hl hlo hb hB)
theorem ok_ifne {off : Int} {t : Nat} (hd : decode z.2.1 pc = .ok (.ifCond .ne off, 3)) (ht : (pc : Int) + off = (t : Int)) : RowOK yN yW z pc (o_ifne t) := by
  intro g p l e R s m args below meth c d h0 Q C W' X' Q' hW hX hQ ls st h hT wf okl oks H locs L cells slots hR hl hlo hb hB
  obtain ⟨x, st, rfl, hT2⟩ := inv_ifne hT
  exact lv_if_ne C.1 C.2.1 hd ht (fun q => hX _ _ _ _ (by rw [if_neg (fun w => q ((in32_eq oks.hd in32_0).mpr w))] at hT2; exact hT2) wf okl oks.tl H locs L cells slots hR hl hlo hb hB) (fun q => hX _ _ _ _ (by rw [if_pos ((in32_eq oks.hd in32_0).mp q)] at hT2; exact hT2) wf okl oks.tl H locs L cells slots hR hl hlo hb hB)
theorem ok_iflt {off : Int} {t : Nat} (hd : decode z.2.1 pc = .ok (.ifCond .lt off, 3)) (ht : (pc : Int) + off = (t : Int)) : RowOK yN yW z pc (o_iflt t) := by
  intro g p l e R s m args below meth c d h0 Q C W' X' Q' hW hX hQ ls st h hT wf okl oks H locs L cells slots hR hl hlo hb hB
  obtain ⟨x, st, rfl, hT2⟩ := inv_iflt hT
  exact lv_if_lt C.1 C.2.1 hd ht (fun q => hX _ _ _ _ (by rw [if_pos ((in32_lt oks.hd in32_0).mp q)] at hT2; exact hT2) wf okl oks.tl H locs L cells slots hR hl hlo hb hB) (fun q => hX _ _ _ _ (by rw [if_neg (fun w => q ((in32_lt oks.hd in32_0).mpr w))] at hT2; exact hT2) wf okl oks.tl H locs L cells slots hR hl hlo hb hB)
theorem ok_ifgt {off : Int} {t : Nat} (hd : decode z.2.1 pc = .ok (.ifCond .gt off, 3)) (ht : (pc : Int) + off = (t : Int)) : RowOK yN yW z pc (o_ifgt t) := by
  intro g p l e R s m args below meth c d h0 Q C W' X' Q' hW hX hQ ls st h hT wf okl oks H locs L cells slots hR hl hlo hb hB
  obtain ⟨x, st, rfl, hT2⟩ := inv_ifgt hT
  exact lv_if_gt C.1 C.2.1 hd ht (fun q => hX _ _ _ _ (by rw [if_pos ((in32_lt in32_0 oks.hd).mp q)] at hT2; exact hT2) wf okl oks.tl H locs L cells slots hR hl hlo hb hB) (fun q => hX _ _ _ _ (by rw [if_neg (fun w => q ((in32_lt in32_0 oks.hd).mpr w))] at hT2; exact hT2) wf okl oks.tl H locs L cells slots hR hl hlo hb hB)
theorem ok_ifge {off : Int} {t : Nat} (hd : decode z.2.1 pc = .ok (.ifCond .ge off, 3)) (ht : (pc : Int) + off = (t : Int)) : RowOK yN yW z pc (o_ifge t) := by
  intro g p l e R s m args below meth c d h0 Q C W' X' Q' hW hX hQ ls st h hT wf okl oks H locs L cells slots hR hl hlo hb hB
  obtain ⟨x, st, rfl, hT2⟩ := inv_ifge hT
  exact lv_if_ge C.1 C.2.1 hd ht (fun q => hX _ _ _ _ (by have q2 := (in32_le in32_0 oks.hd).mp q; rw [if_neg (show ¬ x < 0 by omega)] at hT2; exact hT2) wf okl oks.tl H locs L cells slots hR hl hlo hb hB) (fun q => hX _ _ _ _ (by have q2 : ¬ (0 ≤ x) := fun w => q ((in32_le in32_0 oks.hd).mpr w); rw [if_pos (show x < 0 by omega)] at hT2; exact hT2) wf okl oks.tl H locs L cells slots hR hl hlo hb hB)
theorem ok_ifle {off : Int} {t : Nat} (hd : decode z.2.1 pc = .ok (.ifCond .le off, 3)) (ht : (pc : Int) + off = (t : Int)) : RowOK yN yW z pc (o_ifle t) := by
  intro g p l e R s m args below meth c d h0 Q C W' X' Q' hW hX hQ ls st h hT wf okl oks H locs L cells slots hR hl hlo hb hB
  obtain ⟨x, st, rfl, hT2⟩ := inv_ifle hT
  exact lv_if_le C.1 C.2.1 hd ht (fun q => hX _ _ _ _ (by have q2 := (in32_le oks.hd in32_0).mp q; rw [if_neg (show ¬ 0 < x by omega)] at hT2; exact hT2) wf okl oks.tl H locs L cells slots hR hl hlo hb hB) (fun q => hX _ _ _ _ (by have q2 : ¬ (x ≤ 0) := fun w => q ((in32_le oks.hd in32_0).mpr w); rw [if_pos (show 0 < x by omega)] at hT2; exact hT2) wf okl oks.tl H locs L cells slots hR hl hlo hb hB)
theorem ok_ceq {off : Int} {t : Nat} (hd : decode z.2.1 pc = .ok (.if_icmp .eq off, 3)) (ht : (pc : Int) + off = (t : Int)) : RowOK yN yW z pc (o_ceq t) := by
  intro g p l e R s m args below meth c d h0 Q C W' X' Q' hW hX hQ ls st h hT wf okl oks H locs L cells slots hR hl hlo hb hB
  obtain ⟨y, x, st, rfl, hT2⟩ := inv_ceq hT
  exact lv_icmp_eq C.1 C.2.1 hd ht (fun q => hX _ _ _ _ (by rw [if_pos ((in32_eq oks.tl.hd oks.hd).mp q)] at hT2; exact hT2) wf okl oks.tl.tl H locs L cells slots hR hl hlo hb hB) (fun q => hX _ _ _ _ (by rw [if_neg (fun w => q ((in32_eq oks.tl.hd oks.hd).mpr w))] at hT2; exact hT2) wf okl oks.tl.tl H locs L cells slots hR hl hlo hb hB)
theorem ok_cne {off : Int} {t : Nat} (hd : decode z.2.1 pc = .ok (.if_icmp .ne off, 3)) (ht : (pc : Int) + off = (t : Int)) : RowOK yN yW z pc (o_cne t) := by
  intro g p l e R s m args below meth c d h0 Q C W' X' Q' hW hX hQ ls st h hT wf okl oks H locs L cells slots hR hl hlo hb hB
  obtain ⟨y, x, st, rfl, hT2⟩ := inv_cne hT
  exact lv_icmp_ne C.1 C.2.1 hd ht (fun q => hX _ _ _ _ (by rw [if_neg (fun w => q ((in32_eq oks.tl.hd oks.hd).mpr w))] at hT2; exact hT2) wf okl oks.tl.tl H locs L cells slots hR hl hlo hb hB) (fun q => hX _ _ _ _ (by rw [if_pos ((in32_eq oks.tl.hd oks.hd).mp q)] at hT2; exact hT2) wf okl oks.tl.tl H locs L cells slots hR hl hlo hb hB)
theorem ok_clt {off : Int} {t : Nat} (hd : decode z.2.1 pc = .ok (.if_icmp .lt off, 3)) (ht : (pc : Int) + off = (t : Int)) : RowOK yN yW z pc (o_clt t) := by
  intro g p l e R s m args below meth c d h0 Q C W' X' Q' hW hX hQ ls st h hT wf okl oks H locs L cells slots hR hl hlo hb hB
  obtain ⟨y, x, st, rfl, hT2⟩ := inv_clt hT
  exact lv_icmp_lt C.1 C.2.1 hd ht (fun q => hX _ _ _ _ (by rw [if_pos ((in32_lt oks.tl.hd oks.hd).mp q)] at hT2; exact hT2) wf okl oks.tl.tl H locs L cells slots hR hl hlo hb hB) (fun q => hX _ _ _ _ (by rw [if_neg (fun w => q ((in32_lt oks.tl.hd oks.hd).mpr w))] at hT2; exact hT2) wf okl oks.tl.tl H locs L cells slots hR hl hlo hb hB)
theorem ok_cgt {off : Int} {t : Nat} (hd : decode z.2.1 pc = .ok (.if_icmp .gt off, 3)) (ht : (pc : Int) + off = (t : Int)) : RowOK yN yW z pc (o_cgt t) := by
  intro g p l e R s m args below meth c d h0 Q C W' X' Q' hW hX hQ ls st h hT wf okl oks H locs L cells slots hR hl hlo hb hB
  obtain ⟨y, x, st, rfl, hT2⟩ := inv_cgt hT
  exact lv_icmp_gt C.1 C.2.1 hd ht (fun q => hX _ _ _ _ (by rw [if_pos ((in32_lt oks.hd oks.tl.hd).mp q)] at hT2; exact hT2) wf okl oks.tl.tl H locs L cells slots hR hl hlo hb hB) (fun q => hX _ _ _ _ (by rw [if_neg (fun w => q ((in32_lt oks.hd oks.tl.hd).mpr w))] at hT2; exact hT2) wf okl oks.tl.tl H locs L cells slots hR hl hlo hb hB)
theorem ok_cge {off : Int} {t : Nat} (hd : decode z.2.1 pc = .ok (.if_icmp .ge off, 3)) (ht : (pc : Int) + off = (t : Int)) : RowOK yN yW z pc (o_cge t) := by
  intro g p l e R s m args below meth c d h0 Q C W' X' Q' hW hX hQ ls st h hT wf okl oks H locs L cells slots hR hl hlo hb hB
  obtain ⟨y, x, st, rfl, hT2⟩ := inv_cge hT
  exact lv_icmp_ge C.1 C.2.1 hd ht (fun q => hX _ _ _ _ (by have q2 := (in32_le oks.hd oks.tl.hd).mp q; rw [if_neg (show ¬ x < y by omega)] at hT2; exact hT2) wf okl oks.tl.tl H locs L cells slots hR hl hlo hb hB) (fun q => hX _ _ _ _ (by have q2 : ¬ (y ≤ x) := fun w => q ((in32_le oks.hd oks.tl.hd).mpr w); rw [if_pos (show x < y by omega)] at hT2; exact hT2) wf okl oks.tl.tl H locs L cells slots hR hl hlo hb hB)
theorem ok_cle {off : Int} {t : Nat} (hd : decode z.2.1 pc = .ok (.if_icmp .le off, 3)) (ht : (pc : Int) + off = (t : Int)) : RowOK yN yW z pc (o_cle t) := by
  intro g p l e R s m args below meth c d h0 Q C W' X' Q' hW hX hQ ls st h hT wf okl oks H locs L cells slots hR hl hlo hb hB
  obtain ⟨y, x, st, rfl, hT2⟩ := inv_cle hT
  exact lv_icmp_le C.1 C.2.1 hd ht (fun q => hX _ _ _ _ (by have q2 := (in32_le oks.tl.hd oks.hd).mp q; rw [if_neg (show ¬ y < x by omega)] at hT2; exact hT2) wf okl oks.tl.tl H locs L cells slots hR hl hlo hb hB) (fun q => hX _ _ _ _ (by have q2 : ¬ (x ≤ y) := fun w => q ((in32_le oks.tl.hd oks.hd).mpr w); rw [if_pos (show y < x by omega)] at hT2; exact hT2) wf okl oks.tl.tl H locs L cells slots hR hl hlo hb hB)
theorem ok_ifnull {off : Int} {t : Nat} (hd : decode z.2.1 pc = .ok (.ifnull off, 3)) (ht : (pc : Int) + off = (t : Int)) : RowOK yN yW z pc (o_null t) := by
  intro g p l e R s m args below meth c d h0 Q C W' X' Q' hW hX hQ ls st h hT wf okl oks H locs L cells slots hR hl hlo hb hB
  obtain ⟨r, st, rfl, hT2⟩ := inv_null hT
  cases r with
  | none => exact lv_ifnullN C.1 C.2.1 hd ht (hX _ _ _ _ (by rw [if_pos rfl] at hT2; exact hT2) wf okl oks.tl H locs L cells slots hR hl hlo hb hB)
  | some a => exact lv_ifnull C.1 C.2.1 hd (hX _ _ _ _ (by rw [if_neg (by simp)] at hT2; exact hT2) wf okl oks.tl H locs L cells slots hR hl hlo hb hB)
theorem ok_ifnonnull {off : Int} {t : Nat} (hd : decode z.2.1 pc = .ok (.ifnonnull off, 3)) (ht : (pc : Int) + off = (t : Int)) : RowOK yN yW z pc (o_nonnull t) := by
  intro g p l e R s m args below meth c d h0 Q C W' X' Q' hW hX hQ ls st h hT wf okl oks H locs L cells slots hR hl hlo hb hB
  obtain ⟨r, st, rfl, hT2⟩ := inv_nonnull hT
  cases r with
  | none => exact lv_ifnonnullN C.1 C.2.1 hd (hX _ _ _ _ (by rw [if_pos rfl] at hT2; exact hT2) wf okl oks.tl H locs L cells slots hR hl hlo hb hB)
  | some a => exact lv_ifnonnull C.1 C.2.1 hd ht (hX _ _ _ _ (by rw [if_neg (by simp)] at hT2; exact hT2) wf okl oks.tl H locs L cells slots hR hl hlo hb hB)
theorem ok_aeq {off : Int} {t : Nat} (hd : decode z.2.1 pc = .ok (.if_acmp .eq off, 3)) (ht : (pc : Int) + off = (t : Int)) : RowOK yN yW z pc (o_aeq t) := by
  intro g p l e R s m args below meth c d h0 Q C W' X' Q' hW hX hQ ls st h hT wf okl oks H locs L cells slots hR hl hlo hb hB
  obtain ⟨r, q, st, rfl, ho, hT2⟩ := inv_aeq hT
  exact lv_acmp_eq C.1 C.2.1 hd ht (fun q => hX _ _ _ _ (by rw [if_pos ((c_acmp C.2.2.2.2.1.1 ho).mp q)] at hT2; exact hT2) wf okl oks.tl.tl H locs L cells slots hR hl hlo hb hB) (fun q => hX _ _ _ _ (by rw [if_neg (fun w => q ((c_acmp C.2.2.2.2.1.1 ho).mpr w))] at hT2; exact hT2) wf okl oks.tl.tl H locs L cells slots hR hl hlo hb hB)
theorem ok_ane {off : Int} {t : Nat} (hd : decode z.2.1 pc = .ok (.if_acmp .ne off, 3)) (ht : (pc : Int) + off = (t : Int)) : RowOK yN yW z pc (o_ane t) := by
  intro g p l e R s m args below meth c d h0 Q C W' X' Q' hW hX hQ ls st h hT wf okl oks H locs L cells slots hR hl hlo hb hB
  obtain ⟨r, q, st, rfl, ho, hT2⟩ := inv_ane hT
  exact lv_acmp_ne C.1 C.2.1 hd ht (fun q => hX _ _ _ _ (by rw [if_neg (fun w => q ((c_acmp C.2.2.2.2.1.1 ho).mpr w))] at hT2; exact hT2) wf okl oks.tl.tl H locs L cells slots hR hl hlo hb hB) (fun q => hX _ _ _ _ (by rw [if_pos ((c_acmp C.2.2.2.2.1.1 ho).mp q)] at hT2; exact hT2) wf okl oks.tl.tl H locs L cells slots hR hl hlo hb hB)
theorem ok_goto {off : Int} {t : Nat} (hd : decode z.2.1 pc = .ok (.goto off, 3)) (ht : (pc : Int) + off = (t : Int)) : RowOK yN yW z pc (o_goto t) := by
  intro g p l e R s m args below meth c d h0 Q C W' X' Q' hW hX hQ ls st h hT wf okl oks H locs L cells slots hR hl hlo hb hB
  exact lv_goto C.1 C.2.1 hd ht (hX _ _ _ _ hT wf okl oks H locs L cells slots hR hl hlo hb hB)
end Rows
