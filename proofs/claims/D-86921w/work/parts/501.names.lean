/-! DECODE ROWS BY BYTES: one lemma an opcode; a method's code is cut into short pieces once, and a row reads its own piece alone. -/
set_option maxRecDepth 100000
/-- the code has just these bytes from pc on -/
def DkAt (code : ByteArray) (pc : Nat) (bs : List UInt8) : Prop := ∀ (j : Nat) (b : UInt8), bs[j]? = some b → code.data.toList[pc + j]? = some b
/-- the piece W has the bytes bs from its place j on -/
def dkIn (W : List UInt8) (j : Nat) (bs : List UInt8) : Bool := decide ((W.drop j).take bs.length = bs)
theorem dk_seg {l W T : List UInt8} {o o2 : Nat} (h : l.drop o = W ++ T) (n : Nat) (hn : W.length = n) (ho : o + n = o2) : l.drop o2 = T := by
  subst ho
  rw [← List.drop_drop, h, List.drop_left' hn]
theorem dk_at {code : ByteArray} {W T bs : List UInt8} {o pc : Nat} (h : code.data.toList.drop o = W ++ T) (j : Nat) (hp : o + j = pc) (hw : dkIn W j bs = true) : DkAt code pc bs := by
  subst hp
  intro i b e
  have h1 := of_decide_eq_true hw
  have h2 : i < bs.length := (List.getElem?_eq_some_iff.mp e).1
  have h3 : W[j + i]? = some b := by
    rw [← h1, List.getElem?_take, if_pos h2, List.getElem?_drop] at e
    exact e
  have h4 : j + i < W.length := (List.getElem?_eq_some_iff.mp h3).1
  have h5 : (code.data.toList.drop o)[j + i]? = some b := by
    rw [h, List.getElem?_append_left h4]
    exact h3
  rw [List.getElem?_drop, ← Nat.add_assoc] at h5
  exact h5
theorem dk_u1 {A : ByteArray} {p : Nat} {b : UInt8} (h : A.data.toList[p]? = some b) : (Reader.u1 : Reader DecodeError Nat) A p = .ok (b.toNat, p + 1) := by
  obtain ⟨h1, h2⟩ := List.getElem?_eq_some_iff.mp h
  have h3 : p < A.size := by simpa using h1
  have h4 : A[p]'h3 = b := h2
  have e : (Reader.u1 : Reader DecodeError Nat) A p = (if h : p < A.size then .ok (A[p].toNat, p + 1) else .error (HasTruncated.truncated p)) := by
    show (do if h : p < A.size then do set (p + 1); Pure.pure A[p].toNat else MonadExcept.throw (HasTruncated.truncated p) : Reader DecodeError Nat) A p = _
    by_cases hi : p < A.size
    · rw [dif_pos hi, dif_pos hi]; rfl
    · rw [dif_neg hi, dif_neg hi]; rfl
  rw [e, dif_pos h3, h4]
theorem dk_bind {α β : Type} {r : Reader DecodeError α} {f : α → Reader DecodeError β} {A : ByteArray} {p s : Nat} {a : α} (h : r A p = .ok (a, s)) : (r >>= f) A p = f a A s := by
  show (do let (a, s) ← r A p; f a A s : Except DecodeError (β × Nat)) = _
  rw [h]
  rfl
theorem dk_map {α β : Type} {r : Reader DecodeError α} {g : α → β} {A : ByteArray} {p s : Nat} {a : α} (h : r A p = .ok (a, s)) : (g <$> r) A p = .ok (g a, s) := by
  show (do let (a, s) ← r A p; .ok (g a, s) : Except DecodeError (β × Nat)) = _
  rw [h]
  rfl
theorem dk_u2 {A : ByteArray} {p : Nat} {a b : UInt8} (h : A.data.toList[p]? = some a) (h2 : A.data.toList[p + 1]? = some b) : (Reader.u2 : Reader DecodeError Nat) A p = .ok (a.toNat * 256 + b.toNat, p + 2) := by
  show (Reader.u1 >>= fun hi => Reader.u1 >>= fun lo => Pure.pure (hi * 256 + lo) : Reader DecodeError Nat) A p = _
  rw [dk_bind (dk_u1 h), dk_bind (dk_u1 h2)]
  rfl
theorem dk_of {code : ByteArray} {pc n : Nat} {i : Instr} (h : Decoder.instr pc code pc = .ok (i, pc + n)) : decode code pc = .ok (i, n) := by
  have e : decode code pc = (match Decoder.instr pc code pc with | .error x => .error x | .ok (j, s) => .ok (j, s - pc)) := by
    show (do let (j, s) ← Decoder.instr pc code pc; Pure.pure (j, s - pc) : Except DecodeError (Instr × Nat)) = _
    cases Decoder.instr pc code pc <;> rfl
  rw [e, h]
  show Except.ok (i, pc + n - pc) = _
  rw [Nat.add_sub_cancel_left]
theorem dk_1 {code : ByteArray} {pc : Nat} (h : DkAt code pc [1]) : decode code pc = .ok (.aconst_null, 1) := dk_of ((dk_bind (dk_u1 (h 0 _ rfl))).trans rfl)
theorem dk_2 {code : ByteArray} {pc : Nat} (h : DkAt code pc [2]) : decode code pc = .ok (.iconst (-1), 1) := dk_of ((dk_bind (dk_u1 (h 0 _ rfl))).trans rfl)
theorem dk_3 {code : ByteArray} {pc : Nat} (h : DkAt code pc [3]) : decode code pc = .ok (.iconst 0, 1) := dk_of ((dk_bind (dk_u1 (h 0 _ rfl))).trans rfl)
theorem dk_4 {code : ByteArray} {pc : Nat} (h : DkAt code pc [4]) : decode code pc = .ok (.iconst 1, 1) := dk_of ((dk_bind (dk_u1 (h 0 _ rfl))).trans rfl)
theorem dk_5 {code : ByteArray} {pc : Nat} (h : DkAt code pc [5]) : decode code pc = .ok (.iconst 2, 1) := dk_of ((dk_bind (dk_u1 (h 0 _ rfl))).trans rfl)
theorem dk_6 {code : ByteArray} {pc : Nat} (h : DkAt code pc [6]) : decode code pc = .ok (.iconst 3, 1) := dk_of ((dk_bind (dk_u1 (h 0 _ rfl))).trans rfl)
theorem dk_7 {code : ByteArray} {pc : Nat} (h : DkAt code pc [7]) : decode code pc = .ok (.iconst 4, 1) := dk_of ((dk_bind (dk_u1 (h 0 _ rfl))).trans rfl)
theorem dk_8 {code : ByteArray} {pc : Nat} (h : DkAt code pc [8]) : decode code pc = .ok (.iconst 5, 1) := dk_of ((dk_bind (dk_u1 (h 0 _ rfl))).trans rfl)
theorem dk_9 {code : ByteArray} {pc : Nat} (h : DkAt code pc [9]) : decode code pc = .ok (.lconst 0, 1) := dk_of ((dk_bind (dk_u1 (h 0 _ rfl))).trans rfl)
theorem dk_10 {code : ByteArray} {pc : Nat} (h : DkAt code pc [10]) : decode code pc = .ok (.lconst 1, 1) := dk_of ((dk_bind (dk_u1 (h 0 _ rfl))).trans rfl)
theorem dk_16 {code : ByteArray} {pc : Nat} (a : UInt8) (h : DkAt code pc [16, a]) : decode code pc = .ok (.bipush (Reader.signed 8 a.toNat), 2) := dk_of ((dk_bind (dk_u1 (h 0 _ rfl))).trans ((dk_bind (dk_map (dk_u1 (h 1 _ rfl)))).trans rfl))
theorem dk_17 {code : ByteArray} {pc : Nat} (a b : UInt8) (h : DkAt code pc [17, a, b]) : decode code pc = .ok (.sipush (Reader.signed 16 (a.toNat * 256 + b.toNat)), 3) := dk_of ((dk_bind (dk_u1 (h 0 _ rfl))).trans ((dk_bind (dk_map (dk_u2 (h 1 _ rfl) (h 2 _ rfl)))).trans rfl))
theorem dk_18 {code : ByteArray} {pc : Nat} (a : UInt8) (h : DkAt code pc [18, a]) : decode code pc = .ok (.ldc a.toNat, 2) := dk_of ((dk_bind (dk_u1 (h 0 _ rfl))).trans ((dk_bind (dk_u1 (h 1 _ rfl))).trans rfl))
theorem dk_19 {code : ByteArray} {pc : Nat} (a b : UInt8) (h : DkAt code pc [19, a, b]) : decode code pc = .ok (.ldc_w (a.toNat * 256 + b.toNat), 3) := dk_of ((dk_bind (dk_u1 (h 0 _ rfl))).trans ((dk_bind (dk_u2 (h 1 _ rfl) (h 2 _ rfl))).trans rfl))
theorem dk_20 {code : ByteArray} {pc : Nat} (a b : UInt8) (h : DkAt code pc [20, a, b]) : decode code pc = .ok (.ldc2_w (a.toNat * 256 + b.toNat), 3) := dk_of ((dk_bind (dk_u1 (h 0 _ rfl))).trans ((dk_bind (dk_u2 (h 1 _ rfl) (h 2 _ rfl))).trans rfl))
theorem dk_21 {code : ByteArray} {pc : Nat} (a : UInt8) (h : DkAt code pc [21, a]) : decode code pc = .ok (.iload a.toNat, 2) := dk_of ((dk_bind (dk_u1 (h 0 _ rfl))).trans ((dk_bind (dk_u1 (h 1 _ rfl))).trans rfl))
theorem dk_22 {code : ByteArray} {pc : Nat} (a : UInt8) (h : DkAt code pc [22, a]) : decode code pc = .ok (.lload a.toNat, 2) := dk_of ((dk_bind (dk_u1 (h 0 _ rfl))).trans ((dk_bind (dk_u1 (h 1 _ rfl))).trans rfl))
theorem dk_25 {code : ByteArray} {pc : Nat} (a : UInt8) (h : DkAt code pc [25, a]) : decode code pc = .ok (.aload a.toNat, 2) := dk_of ((dk_bind (dk_u1 (h 0 _ rfl))).trans ((dk_bind (dk_u1 (h 1 _ rfl))).trans rfl))
theorem dk_26 {code : ByteArray} {pc : Nat} (h : DkAt code pc [26]) : decode code pc = .ok (.iload_n 0, 1) := dk_of ((dk_bind (dk_u1 (h 0 _ rfl))).trans rfl)
theorem dk_27 {code : ByteArray} {pc : Nat} (h : DkAt code pc [27]) : decode code pc = .ok (.iload_n 1, 1) := dk_of ((dk_bind (dk_u1 (h 0 _ rfl))).trans rfl)
theorem dk_28 {code : ByteArray} {pc : Nat} (h : DkAt code pc [28]) : decode code pc = .ok (.iload_n 2, 1) := dk_of ((dk_bind (dk_u1 (h 0 _ rfl))).trans rfl)
theorem dk_29 {code : ByteArray} {pc : Nat} (h : DkAt code pc [29]) : decode code pc = .ok (.iload_n 3, 1) := dk_of ((dk_bind (dk_u1 (h 0 _ rfl))).trans rfl)
theorem dk_30 {code : ByteArray} {pc : Nat} (h : DkAt code pc [30]) : decode code pc = .ok (.lload_n 0, 1) := dk_of ((dk_bind (dk_u1 (h 0 _ rfl))).trans rfl)
theorem dk_31 {code : ByteArray} {pc : Nat} (h : DkAt code pc [31]) : decode code pc = .ok (.lload_n 1, 1) := dk_of ((dk_bind (dk_u1 (h 0 _ rfl))).trans rfl)
theorem dk_32 {code : ByteArray} {pc : Nat} (h : DkAt code pc [32]) : decode code pc = .ok (.lload_n 2, 1) := dk_of ((dk_bind (dk_u1 (h 0 _ rfl))).trans rfl)
theorem dk_33 {code : ByteArray} {pc : Nat} (h : DkAt code pc [33]) : decode code pc = .ok (.lload_n 3, 1) := dk_of ((dk_bind (dk_u1 (h 0 _ rfl))).trans rfl)
theorem dk_42 {code : ByteArray} {pc : Nat} (h : DkAt code pc [42]) : decode code pc = .ok (.aload_n 0, 1) := dk_of ((dk_bind (dk_u1 (h 0 _ rfl))).trans rfl)
theorem dk_43 {code : ByteArray} {pc : Nat} (h : DkAt code pc [43]) : decode code pc = .ok (.aload_n 1, 1) := dk_of ((dk_bind (dk_u1 (h 0 _ rfl))).trans rfl)
theorem dk_44 {code : ByteArray} {pc : Nat} (h : DkAt code pc [44]) : decode code pc = .ok (.aload_n 2, 1) := dk_of ((dk_bind (dk_u1 (h 0 _ rfl))).trans rfl)
theorem dk_45 {code : ByteArray} {pc : Nat} (h : DkAt code pc [45]) : decode code pc = .ok (.aload_n 3, 1) := dk_of ((dk_bind (dk_u1 (h 0 _ rfl))).trans rfl)
theorem dk_46 {code : ByteArray} {pc : Nat} (h : DkAt code pc [46]) : decode code pc = .ok (.iaload, 1) := dk_of ((dk_bind (dk_u1 (h 0 _ rfl))).trans rfl)
theorem dk_47 {code : ByteArray} {pc : Nat} (h : DkAt code pc [47]) : decode code pc = .ok (.laload, 1) := dk_of ((dk_bind (dk_u1 (h 0 _ rfl))).trans rfl)
theorem dk_50 {code : ByteArray} {pc : Nat} (h : DkAt code pc [50]) : decode code pc = .ok (.aaload, 1) := dk_of ((dk_bind (dk_u1 (h 0 _ rfl))).trans rfl)
theorem dk_51 {code : ByteArray} {pc : Nat} (h : DkAt code pc [51]) : decode code pc = .ok (.baload, 1) := dk_of ((dk_bind (dk_u1 (h 0 _ rfl))).trans rfl)
theorem dk_52 {code : ByteArray} {pc : Nat} (h : DkAt code pc [52]) : decode code pc = .ok (.caload, 1) := dk_of ((dk_bind (dk_u1 (h 0 _ rfl))).trans rfl)
theorem dk_53 {code : ByteArray} {pc : Nat} (h : DkAt code pc [53]) : decode code pc = .ok (.saload, 1) := dk_of ((dk_bind (dk_u1 (h 0 _ rfl))).trans rfl)
theorem dk_54 {code : ByteArray} {pc : Nat} (a : UInt8) (h : DkAt code pc [54, a]) : decode code pc = .ok (.istore a.toNat, 2) := dk_of ((dk_bind (dk_u1 (h 0 _ rfl))).trans ((dk_bind (dk_u1 (h 1 _ rfl))).trans rfl))
theorem dk_55 {code : ByteArray} {pc : Nat} (a : UInt8) (h : DkAt code pc [55, a]) : decode code pc = .ok (.lstore a.toNat, 2) := dk_of ((dk_bind (dk_u1 (h 0 _ rfl))).trans ((dk_bind (dk_u1 (h 1 _ rfl))).trans rfl))
theorem dk_58 {code : ByteArray} {pc : Nat} (a : UInt8) (h : DkAt code pc [58, a]) : decode code pc = .ok (.astore a.toNat, 2) := dk_of ((dk_bind (dk_u1 (h 0 _ rfl))).trans ((dk_bind (dk_u1 (h 1 _ rfl))).trans rfl))
theorem dk_60 {code : ByteArray} {pc : Nat} (h : DkAt code pc [60]) : decode code pc = .ok (.istore_n 1, 1) := dk_of ((dk_bind (dk_u1 (h 0 _ rfl))).trans rfl)
theorem dk_61 {code : ByteArray} {pc : Nat} (h : DkAt code pc [61]) : decode code pc = .ok (.istore_n 2, 1) := dk_of ((dk_bind (dk_u1 (h 0 _ rfl))).trans rfl)
theorem dk_62 {code : ByteArray} {pc : Nat} (h : DkAt code pc [62]) : decode code pc = .ok (.istore_n 3, 1) := dk_of ((dk_bind (dk_u1 (h 0 _ rfl))).trans rfl)
theorem dk_64 {code : ByteArray} {pc : Nat} (h : DkAt code pc [64]) : decode code pc = .ok (.lstore_n 1, 1) := dk_of ((dk_bind (dk_u1 (h 0 _ rfl))).trans rfl)
theorem dk_65 {code : ByteArray} {pc : Nat} (h : DkAt code pc [65]) : decode code pc = .ok (.lstore_n 2, 1) := dk_of ((dk_bind (dk_u1 (h 0 _ rfl))).trans rfl)
theorem dk_66 {code : ByteArray} {pc : Nat} (h : DkAt code pc [66]) : decode code pc = .ok (.lstore_n 3, 1) := dk_of ((dk_bind (dk_u1 (h 0 _ rfl))).trans rfl)
theorem dk_76 {code : ByteArray} {pc : Nat} (h : DkAt code pc [76]) : decode code pc = .ok (.astore_n 1, 1) := dk_of ((dk_bind (dk_u1 (h 0 _ rfl))).trans rfl)
theorem dk_77 {code : ByteArray} {pc : Nat} (h : DkAt code pc [77]) : decode code pc = .ok (.astore_n 2, 1) := dk_of ((dk_bind (dk_u1 (h 0 _ rfl))).trans rfl)
theorem dk_78 {code : ByteArray} {pc : Nat} (h : DkAt code pc [78]) : decode code pc = .ok (.astore_n 3, 1) := dk_of ((dk_bind (dk_u1 (h 0 _ rfl))).trans rfl)
theorem dk_79 {code : ByteArray} {pc : Nat} (h : DkAt code pc [79]) : decode code pc = .ok (.iastore, 1) := dk_of ((dk_bind (dk_u1 (h 0 _ rfl))).trans rfl)
theorem dk_80 {code : ByteArray} {pc : Nat} (h : DkAt code pc [80]) : decode code pc = .ok (.lastore, 1) := dk_of ((dk_bind (dk_u1 (h 0 _ rfl))).trans rfl)
theorem dk_83 {code : ByteArray} {pc : Nat} (h : DkAt code pc [83]) : decode code pc = .ok (.aastore, 1) := dk_of ((dk_bind (dk_u1 (h 0 _ rfl))).trans rfl)
theorem dk_84 {code : ByteArray} {pc : Nat} (h : DkAt code pc [84]) : decode code pc = .ok (.bastore, 1) := dk_of ((dk_bind (dk_u1 (h 0 _ rfl))).trans rfl)
theorem dk_85 {code : ByteArray} {pc : Nat} (h : DkAt code pc [85]) : decode code pc = .ok (.castore, 1) := dk_of ((dk_bind (dk_u1 (h 0 _ rfl))).trans rfl)
theorem dk_86 {code : ByteArray} {pc : Nat} (h : DkAt code pc [86]) : decode code pc = .ok (.sastore, 1) := dk_of ((dk_bind (dk_u1 (h 0 _ rfl))).trans rfl)
theorem dk_87 {code : ByteArray} {pc : Nat} (h : DkAt code pc [87]) : decode code pc = .ok (.pop, 1) := dk_of ((dk_bind (dk_u1 (h 0 _ rfl))).trans rfl)
theorem dk_89 {code : ByteArray} {pc : Nat} (h : DkAt code pc [89]) : decode code pc = .ok (.dup, 1) := dk_of ((dk_bind (dk_u1 (h 0 _ rfl))).trans rfl)
theorem dk_90 {code : ByteArray} {pc : Nat} (h : DkAt code pc [90]) : decode code pc = .ok (.dup_x1, 1) := dk_of ((dk_bind (dk_u1 (h 0 _ rfl))).trans rfl)
theorem dk_92 {code : ByteArray} {pc : Nat} (h : DkAt code pc [92]) : decode code pc = .ok (.dup2, 1) := dk_of ((dk_bind (dk_u1 (h 0 _ rfl))).trans rfl)
theorem dk_96 {code : ByteArray} {pc : Nat} (h : DkAt code pc [96]) : decode code pc = .ok (.iadd, 1) := dk_of ((dk_bind (dk_u1 (h 0 _ rfl))).trans rfl)
theorem dk_97 {code : ByteArray} {pc : Nat} (h : DkAt code pc [97]) : decode code pc = .ok (.ladd, 1) := dk_of ((dk_bind (dk_u1 (h 0 _ rfl))).trans rfl)
theorem dk_100 {code : ByteArray} {pc : Nat} (h : DkAt code pc [100]) : decode code pc = .ok (.isub, 1) := dk_of ((dk_bind (dk_u1 (h 0 _ rfl))).trans rfl)
theorem dk_101 {code : ByteArray} {pc : Nat} (h : DkAt code pc [101]) : decode code pc = .ok (.lsub, 1) := dk_of ((dk_bind (dk_u1 (h 0 _ rfl))).trans rfl)
theorem dk_104 {code : ByteArray} {pc : Nat} (h : DkAt code pc [104]) : decode code pc = .ok (.imul, 1) := dk_of ((dk_bind (dk_u1 (h 0 _ rfl))).trans rfl)
theorem dk_105 {code : ByteArray} {pc : Nat} (h : DkAt code pc [105]) : decode code pc = .ok (.lmul, 1) := dk_of ((dk_bind (dk_u1 (h 0 _ rfl))).trans rfl)
theorem dk_108 {code : ByteArray} {pc : Nat} (h : DkAt code pc [108]) : decode code pc = .ok (.idiv, 1) := dk_of ((dk_bind (dk_u1 (h 0 _ rfl))).trans rfl)
theorem dk_109 {code : ByteArray} {pc : Nat} (h : DkAt code pc [109]) : decode code pc = .ok (.ldiv, 1) := dk_of ((dk_bind (dk_u1 (h 0 _ rfl))).trans rfl)
theorem dk_112 {code : ByteArray} {pc : Nat} (h : DkAt code pc [112]) : decode code pc = .ok (.irem, 1) := dk_of ((dk_bind (dk_u1 (h 0 _ rfl))).trans rfl)
theorem dk_113 {code : ByteArray} {pc : Nat} (h : DkAt code pc [113]) : decode code pc = .ok (.lrem, 1) := dk_of ((dk_bind (dk_u1 (h 0 _ rfl))).trans rfl)
theorem dk_116 {code : ByteArray} {pc : Nat} (h : DkAt code pc [116]) : decode code pc = .ok (.ineg, 1) := dk_of ((dk_bind (dk_u1 (h 0 _ rfl))).trans rfl)
theorem dk_117 {code : ByteArray} {pc : Nat} (h : DkAt code pc [117]) : decode code pc = .ok (.lneg, 1) := dk_of ((dk_bind (dk_u1 (h 0 _ rfl))).trans rfl)
theorem dk_120 {code : ByteArray} {pc : Nat} (h : DkAt code pc [120]) : decode code pc = .ok (.ishl, 1) := dk_of ((dk_bind (dk_u1 (h 0 _ rfl))).trans rfl)
theorem dk_121 {code : ByteArray} {pc : Nat} (h : DkAt code pc [121]) : decode code pc = .ok (.lshl, 1) := dk_of ((dk_bind (dk_u1 (h 0 _ rfl))).trans rfl)
theorem dk_122 {code : ByteArray} {pc : Nat} (h : DkAt code pc [122]) : decode code pc = .ok (.ishr, 1) := dk_of ((dk_bind (dk_u1 (h 0 _ rfl))).trans rfl)
theorem dk_123 {code : ByteArray} {pc : Nat} (h : DkAt code pc [123]) : decode code pc = .ok (.lshr, 1) := dk_of ((dk_bind (dk_u1 (h 0 _ rfl))).trans rfl)
theorem dk_125 {code : ByteArray} {pc : Nat} (h : DkAt code pc [125]) : decode code pc = .ok (.lushr, 1) := dk_of ((dk_bind (dk_u1 (h 0 _ rfl))).trans rfl)
theorem dk_126 {code : ByteArray} {pc : Nat} (h : DkAt code pc [126]) : decode code pc = .ok (.iand, 1) := dk_of ((dk_bind (dk_u1 (h 0 _ rfl))).trans rfl)
theorem dk_127 {code : ByteArray} {pc : Nat} (h : DkAt code pc [127]) : decode code pc = .ok (.land, 1) := dk_of ((dk_bind (dk_u1 (h 0 _ rfl))).trans rfl)
theorem dk_128 {code : ByteArray} {pc : Nat} (h : DkAt code pc [128]) : decode code pc = .ok (.ior, 1) := dk_of ((dk_bind (dk_u1 (h 0 _ rfl))).trans rfl)
theorem dk_129 {code : ByteArray} {pc : Nat} (h : DkAt code pc [129]) : decode code pc = .ok (.lor, 1) := dk_of ((dk_bind (dk_u1 (h 0 _ rfl))).trans rfl)
theorem dk_130 {code : ByteArray} {pc : Nat} (h : DkAt code pc [130]) : decode code pc = .ok (.ixor, 1) := dk_of ((dk_bind (dk_u1 (h 0 _ rfl))).trans rfl)
theorem dk_131 {code : ByteArray} {pc : Nat} (h : DkAt code pc [131]) : decode code pc = .ok (.lxor, 1) := dk_of ((dk_bind (dk_u1 (h 0 _ rfl))).trans rfl)
theorem dk_132 {code : ByteArray} {pc : Nat} (a b : UInt8) (h : DkAt code pc [132, a, b]) : decode code pc = .ok (.iinc a.toNat (Reader.signed 8 b.toNat), 3) := dk_of ((dk_bind (dk_u1 (h 0 _ rfl))).trans ((dk_bind (dk_u1 (h 1 _ rfl))).trans ((dk_bind (dk_map (dk_u1 (h 2 _ rfl)))).trans rfl)))
theorem dk_133 {code : ByteArray} {pc : Nat} (h : DkAt code pc [133]) : decode code pc = .ok (.i2l, 1) := dk_of ((dk_bind (dk_u1 (h 0 _ rfl))).trans rfl)
theorem dk_136 {code : ByteArray} {pc : Nat} (h : DkAt code pc [136]) : decode code pc = .ok (.l2i, 1) := dk_of ((dk_bind (dk_u1 (h 0 _ rfl))).trans rfl)
theorem dk_145 {code : ByteArray} {pc : Nat} (h : DkAt code pc [145]) : decode code pc = .ok (.i2b, 1) := dk_of ((dk_bind (dk_u1 (h 0 _ rfl))).trans rfl)
theorem dk_146 {code : ByteArray} {pc : Nat} (h : DkAt code pc [146]) : decode code pc = .ok (.i2c, 1) := dk_of ((dk_bind (dk_u1 (h 0 _ rfl))).trans rfl)
theorem dk_147 {code : ByteArray} {pc : Nat} (h : DkAt code pc [147]) : decode code pc = .ok (.i2s, 1) := dk_of ((dk_bind (dk_u1 (h 0 _ rfl))).trans rfl)
theorem dk_148 {code : ByteArray} {pc : Nat} (h : DkAt code pc [148]) : decode code pc = .ok (.lcmp, 1) := dk_of ((dk_bind (dk_u1 (h 0 _ rfl))).trans rfl)
theorem dk_153 {code : ByteArray} {pc : Nat} (a b : UInt8) (h : DkAt code pc [153, a, b]) : decode code pc = .ok (.ifCond .eq (Reader.signed 16 (a.toNat * 256 + b.toNat)), 3) := dk_of ((dk_bind (dk_u1 (h 0 _ rfl))).trans ((dk_bind (dk_map (dk_u2 (h 1 _ rfl) (h 2 _ rfl)))).trans rfl))
theorem dk_154 {code : ByteArray} {pc : Nat} (a b : UInt8) (h : DkAt code pc [154, a, b]) : decode code pc = .ok (.ifCond .ne (Reader.signed 16 (a.toNat * 256 + b.toNat)), 3) := dk_of ((dk_bind (dk_u1 (h 0 _ rfl))).trans ((dk_bind (dk_map (dk_u2 (h 1 _ rfl) (h 2 _ rfl)))).trans rfl))
theorem dk_155 {code : ByteArray} {pc : Nat} (a b : UInt8) (h : DkAt code pc [155, a, b]) : decode code pc = .ok (.ifCond .lt (Reader.signed 16 (a.toNat * 256 + b.toNat)), 3) := dk_of ((dk_bind (dk_u1 (h 0 _ rfl))).trans ((dk_bind (dk_map (dk_u2 (h 1 _ rfl) (h 2 _ rfl)))).trans rfl))
theorem dk_156 {code : ByteArray} {pc : Nat} (a b : UInt8) (h : DkAt code pc [156, a, b]) : decode code pc = .ok (.ifCond .ge (Reader.signed 16 (a.toNat * 256 + b.toNat)), 3) := dk_of ((dk_bind (dk_u1 (h 0 _ rfl))).trans ((dk_bind (dk_map (dk_u2 (h 1 _ rfl) (h 2 _ rfl)))).trans rfl))
theorem dk_157 {code : ByteArray} {pc : Nat} (a b : UInt8) (h : DkAt code pc [157, a, b]) : decode code pc = .ok (.ifCond .gt (Reader.signed 16 (a.toNat * 256 + b.toNat)), 3) := dk_of ((dk_bind (dk_u1 (h 0 _ rfl))).trans ((dk_bind (dk_map (dk_u2 (h 1 _ rfl) (h 2 _ rfl)))).trans rfl))
theorem dk_158 {code : ByteArray} {pc : Nat} (a b : UInt8) (h : DkAt code pc [158, a, b]) : decode code pc = .ok (.ifCond .le (Reader.signed 16 (a.toNat * 256 + b.toNat)), 3) := dk_of ((dk_bind (dk_u1 (h 0 _ rfl))).trans ((dk_bind (dk_map (dk_u2 (h 1 _ rfl) (h 2 _ rfl)))).trans rfl))
theorem dk_159 {code : ByteArray} {pc : Nat} (a b : UInt8) (h : DkAt code pc [159, a, b]) : decode code pc = .ok (.if_icmp .eq (Reader.signed 16 (a.toNat * 256 + b.toNat)), 3) := dk_of ((dk_bind (dk_u1 (h 0 _ rfl))).trans ((dk_bind (dk_map (dk_u2 (h 1 _ rfl) (h 2 _ rfl)))).trans rfl))
theorem dk_160 {code : ByteArray} {pc : Nat} (a b : UInt8) (h : DkAt code pc [160, a, b]) : decode code pc = .ok (.if_icmp .ne (Reader.signed 16 (a.toNat * 256 + b.toNat)), 3) := dk_of ((dk_bind (dk_u1 (h 0 _ rfl))).trans ((dk_bind (dk_map (dk_u2 (h 1 _ rfl) (h 2 _ rfl)))).trans rfl))
theorem dk_161 {code : ByteArray} {pc : Nat} (a b : UInt8) (h : DkAt code pc [161, a, b]) : decode code pc = .ok (.if_icmp .lt (Reader.signed 16 (a.toNat * 256 + b.toNat)), 3) := dk_of ((dk_bind (dk_u1 (h 0 _ rfl))).trans ((dk_bind (dk_map (dk_u2 (h 1 _ rfl) (h 2 _ rfl)))).trans rfl))
theorem dk_162 {code : ByteArray} {pc : Nat} (a b : UInt8) (h : DkAt code pc [162, a, b]) : decode code pc = .ok (.if_icmp .ge (Reader.signed 16 (a.toNat * 256 + b.toNat)), 3) := dk_of ((dk_bind (dk_u1 (h 0 _ rfl))).trans ((dk_bind (dk_map (dk_u2 (h 1 _ rfl) (h 2 _ rfl)))).trans rfl))
theorem dk_163 {code : ByteArray} {pc : Nat} (a b : UInt8) (h : DkAt code pc [163, a, b]) : decode code pc = .ok (.if_icmp .gt (Reader.signed 16 (a.toNat * 256 + b.toNat)), 3) := dk_of ((dk_bind (dk_u1 (h 0 _ rfl))).trans ((dk_bind (dk_map (dk_u2 (h 1 _ rfl) (h 2 _ rfl)))).trans rfl))
theorem dk_164 {code : ByteArray} {pc : Nat} (a b : UInt8) (h : DkAt code pc [164, a, b]) : decode code pc = .ok (.if_icmp .le (Reader.signed 16 (a.toNat * 256 + b.toNat)), 3) := dk_of ((dk_bind (dk_u1 (h 0 _ rfl))).trans ((dk_bind (dk_map (dk_u2 (h 1 _ rfl) (h 2 _ rfl)))).trans rfl))
theorem dk_165 {code : ByteArray} {pc : Nat} (a b : UInt8) (h : DkAt code pc [165, a, b]) : decode code pc = .ok (.if_acmp .eq (Reader.signed 16 (a.toNat * 256 + b.toNat)), 3) := dk_of ((dk_bind (dk_u1 (h 0 _ rfl))).trans ((dk_bind (dk_map (dk_u2 (h 1 _ rfl) (h 2 _ rfl)))).trans rfl))
theorem dk_166 {code : ByteArray} {pc : Nat} (a b : UInt8) (h : DkAt code pc [166, a, b]) : decode code pc = .ok (.if_acmp .ne (Reader.signed 16 (a.toNat * 256 + b.toNat)), 3) := dk_of ((dk_bind (dk_u1 (h 0 _ rfl))).trans ((dk_bind (dk_map (dk_u2 (h 1 _ rfl) (h 2 _ rfl)))).trans rfl))
theorem dk_167 {code : ByteArray} {pc : Nat} (a b : UInt8) (h : DkAt code pc [167, a, b]) : decode code pc = .ok (.goto (Reader.signed 16 (a.toNat * 256 + b.toNat)), 3) := dk_of ((dk_bind (dk_u1 (h 0 _ rfl))).trans ((dk_bind (dk_map (dk_u2 (h 1 _ rfl) (h 2 _ rfl)))).trans rfl))
theorem dk_172 {code : ByteArray} {pc : Nat} (h : DkAt code pc [172]) : decode code pc = .ok (.ireturn, 1) := dk_of ((dk_bind (dk_u1 (h 0 _ rfl))).trans rfl)
theorem dk_173 {code : ByteArray} {pc : Nat} (h : DkAt code pc [173]) : decode code pc = .ok (.lreturn, 1) := dk_of ((dk_bind (dk_u1 (h 0 _ rfl))).trans rfl)
theorem dk_176 {code : ByteArray} {pc : Nat} (h : DkAt code pc [176]) : decode code pc = .ok (.areturn, 1) := dk_of ((dk_bind (dk_u1 (h 0 _ rfl))).trans rfl)
theorem dk_177 {code : ByteArray} {pc : Nat} (h : DkAt code pc [177]) : decode code pc = .ok (.return_, 1) := dk_of ((dk_bind (dk_u1 (h 0 _ rfl))).trans rfl)
theorem dk_178 {code : ByteArray} {pc : Nat} (a b : UInt8) (h : DkAt code pc [178, a, b]) : decode code pc = .ok (.getstatic (a.toNat * 256 + b.toNat), 3) := dk_of ((dk_bind (dk_u1 (h 0 _ rfl))).trans ((dk_bind (dk_u2 (h 1 _ rfl) (h 2 _ rfl))).trans rfl))
theorem dk_180 {code : ByteArray} {pc : Nat} (a b : UInt8) (h : DkAt code pc [180, a, b]) : decode code pc = .ok (.getfield (a.toNat * 256 + b.toNat), 3) := dk_of ((dk_bind (dk_u1 (h 0 _ rfl))).trans ((dk_bind (dk_u2 (h 1 _ rfl) (h 2 _ rfl))).trans rfl))
theorem dk_181 {code : ByteArray} {pc : Nat} (a b : UInt8) (h : DkAt code pc [181, a, b]) : decode code pc = .ok (.putfield (a.toNat * 256 + b.toNat), 3) := dk_of ((dk_bind (dk_u1 (h 0 _ rfl))).trans ((dk_bind (dk_u2 (h 1 _ rfl) (h 2 _ rfl))).trans rfl))
theorem dk_182 {code : ByteArray} {pc : Nat} (a b : UInt8) (h : DkAt code pc [182, a, b]) : decode code pc = .ok (.invokevirtual (a.toNat * 256 + b.toNat), 3) := dk_of ((dk_bind (dk_u1 (h 0 _ rfl))).trans ((dk_bind (dk_u2 (h 1 _ rfl) (h 2 _ rfl))).trans rfl))
theorem dk_183 {code : ByteArray} {pc : Nat} (a b : UInt8) (h : DkAt code pc [183, a, b]) : decode code pc = .ok (.invokespecial (a.toNat * 256 + b.toNat), 3) := dk_of ((dk_bind (dk_u1 (h 0 _ rfl))).trans ((dk_bind (dk_u2 (h 1 _ rfl) (h 2 _ rfl))).trans rfl))
theorem dk_184 {code : ByteArray} {pc : Nat} (a b : UInt8) (h : DkAt code pc [184, a, b]) : decode code pc = .ok (.invokestatic (a.toNat * 256 + b.toNat), 3) := dk_of ((dk_bind (dk_u1 (h 0 _ rfl))).trans ((dk_bind (dk_u2 (h 1 _ rfl) (h 2 _ rfl))).trans rfl))
theorem dk_187 {code : ByteArray} {pc : Nat} (a b : UInt8) (h : DkAt code pc [187, a, b]) : decode code pc = .ok (.new (a.toNat * 256 + b.toNat), 3) := dk_of ((dk_bind (dk_u1 (h 0 _ rfl))).trans ((dk_bind (dk_u2 (h 1 _ rfl) (h 2 _ rfl))).trans rfl))
theorem dk_188_4 {code : ByteArray} {pc : Nat} (h : DkAt code pc [188, 4]) : decode code pc = .ok (.newarray .boolean, 2) := dk_of ((dk_bind (dk_u1 (h 0 _ rfl))).trans ((dk_bind (dk_u1 (h 1 _ rfl))).trans rfl))
theorem dk_188_5 {code : ByteArray} {pc : Nat} (h : DkAt code pc [188, 5]) : decode code pc = .ok (.newarray .char, 2) := dk_of ((dk_bind (dk_u1 (h 0 _ rfl))).trans ((dk_bind (dk_u1 (h 1 _ rfl))).trans rfl))
theorem dk_188_8 {code : ByteArray} {pc : Nat} (h : DkAt code pc [188, 8]) : decode code pc = .ok (.newarray .byte, 2) := dk_of ((dk_bind (dk_u1 (h 0 _ rfl))).trans ((dk_bind (dk_u1 (h 1 _ rfl))).trans rfl))
theorem dk_188_9 {code : ByteArray} {pc : Nat} (h : DkAt code pc [188, 9]) : decode code pc = .ok (.newarray .short, 2) := dk_of ((dk_bind (dk_u1 (h 0 _ rfl))).trans ((dk_bind (dk_u1 (h 1 _ rfl))).trans rfl))
theorem dk_188_10 {code : ByteArray} {pc : Nat} (h : DkAt code pc [188, 10]) : decode code pc = .ok (.newarray .int, 2) := dk_of ((dk_bind (dk_u1 (h 0 _ rfl))).trans ((dk_bind (dk_u1 (h 1 _ rfl))).trans rfl))
theorem dk_188_11 {code : ByteArray} {pc : Nat} (h : DkAt code pc [188, 11]) : decode code pc = .ok (.newarray .long, 2) := dk_of ((dk_bind (dk_u1 (h 0 _ rfl))).trans ((dk_bind (dk_u1 (h 1 _ rfl))).trans rfl))
theorem dk_189 {code : ByteArray} {pc : Nat} (a b : UInt8) (h : DkAt code pc [189, a, b]) : decode code pc = .ok (.anewarray (a.toNat * 256 + b.toNat), 3) := dk_of ((dk_bind (dk_u1 (h 0 _ rfl))).trans ((dk_bind (dk_u2 (h 1 _ rfl) (h 2 _ rfl))).trans rfl))
theorem dk_190 {code : ByteArray} {pc : Nat} (h : DkAt code pc [190]) : decode code pc = .ok (.arraylength, 1) := dk_of ((dk_bind (dk_u1 (h 0 _ rfl))).trans rfl)
theorem dk_191 {code : ByteArray} {pc : Nat} (h : DkAt code pc [191]) : decode code pc = .ok (.athrow, 1) := dk_of ((dk_bind (dk_u1 (h 0 _ rfl))).trans rfl)
theorem dk_192 {code : ByteArray} {pc : Nat} (a b : UInt8) (h : DkAt code pc [192, a, b]) : decode code pc = .ok (.checkcast (a.toNat * 256 + b.toNat), 3) := dk_of ((dk_bind (dk_u1 (h 0 _ rfl))).trans ((dk_bind (dk_u2 (h 1 _ rfl) (h 2 _ rfl))).trans rfl))
theorem dk_193 {code : ByteArray} {pc : Nat} (a b : UInt8) (h : DkAt code pc [193, a, b]) : decode code pc = .ok (.instanceof (a.toNat * 256 + b.toNat), 3) := dk_of ((dk_bind (dk_u1 (h 0 _ rfl))).trans ((dk_bind (dk_u2 (h 1 _ rfl) (h 2 _ rfl))).trans rfl))
theorem dk_198 {code : ByteArray} {pc : Nat} (a b : UInt8) (h : DkAt code pc [198, a, b]) : decode code pc = .ok (.ifnull (Reader.signed 16 (a.toNat * 256 + b.toNat)), 3) := dk_of ((dk_bind (dk_u1 (h 0 _ rfl))).trans ((dk_bind (dk_map (dk_u2 (h 1 _ rfl) (h 2 _ rfl)))).trans rfl))
theorem dk_199 {code : ByteArray} {pc : Nat} (a b : UInt8) (h : DkAt code pc [199, a, b]) : decode code pc = .ok (.ifnonnull (Reader.signed 16 (a.toNat * 256 + b.toNat)), 3) := dk_of ((dk_bind (dk_u1 (h 0 _ rfl))).trans ((dk_bind (dk_map (dk_u2 (h 1 _ rfl) (h 2 _ rfl)))).trans rfl))
/-! ThereAndBack -/
set_option maxRecDepth 100000
def RX0 : String := "ThereAndBack"
def TX0 : u_T := fun k => match k with
  | 0 => ("ThereAndBack", "tape", "[B", true)
  | 1 => ("ThereAndBack", "taped", "I", false)
  | 2 => ("ThereAndBack", "at", "I", false)
  | 3 => ("ThereAndBack", "begins", "I", false)
  | 4 => ("ThereAndBack", "sort", "I", false)
  | 5 => ("ThereAndBack", "number", "I", false)
  | 6 => ("ThereAndBack", "faulty", "I", false)
  | 7 => ("ThereAndBack", "faultPlace", "I", false)
  | 8 => ("ThereAndBack", "wrong", "LThereAndBack$Wrong;", true)
  | 9 => ("ThereAndBack", "codes", "I", false)
  | 10 => ("ThereAndBack", "ordinary", "I", false)
  | 11 => ("ThereAndBack", "refusals", "[LThereAndBack$Refused;", true)
  | 12 => ("ThereAndBack", "routines", "[LThereAndBack$Routine;", true)
  | 13 => ("ThereAndBack", "isThere", "[Z", true)
  | 14 => ("ThereAndBack", "values", "[I", true)
  | 15 => ("ThereAndBack", "rows", "[LThereAndBack$Holder;", true)
  | 16 => ("ThereAndBack", "piles", "[I", true)
  | 17 => ("ThereAndBack", "heights", "[I", true)
  | 18 => ("ThereAndBack", "bench", "[LThereAndBack$Holder;", true)
  | 19 => ("ThereAndBack", "runs", "I", false)
  | 20 => ("ThereAndBack", "place", "I", false)
  | 21 => ("ThereAndBack", "way", "I", false)
  | 22 => ("ThereAndBack", "steps", "I", false)
  | 23 => ("ThereAndBack", "refused", "I", false)
  | 24 => ("ThereAndBack", "frames", "I", false)
  | 25 => ("ThereAndBack", "frameRoutine", "[I", true)
  | 26 => ("ThereAndBack", "frameCode", "[I", true)
  | 27 => ("ThereAndBack", "frameWay", "[I", true)
  | 28 => ("ThereAndBack", "barredName", "I", false)
  | 29 => ("ThereAndBack", "barredRow", "Ljava/lang/Object;", false)
  | 30 => ("ThereAndBack", "barredItem", "I", false)
  | 31 => ("ThereAndBack", "moves", "I", false)
  | 32 => ("ThereAndBack", "mostMoves", "I", false)
  | 33 => ("ThereAndBack", "out", "[B", true)
  | 34 => ("ThereAndBack", "spare", "[B", true)
  | 35 => ("ThereAndBack", "printed", "I", false)
  | 36 => ("ThereAndBack", "joined", "Z", false)
  | 37 => ("ThereAndBack", "outSize", "I", false)
  | 38 => ("ThereAndBack", "other", "[B", true)
  | _ => ("ThereAndBack", "failed", "I", false)
def tyX0 : Nat → FieldType := fun k => match k with
  | 0 => .array .byte
  | 1 => .int
  | 2 => .int
  | 3 => .int
  | 4 => .int
  | 5 => .int
  | 6 => .int
  | 7 => .int
  | 8 => .object "ThereAndBack$Wrong"
  | 9 => .int
  | 10 => .int
  | 11 => .array (.object "ThereAndBack$Refused")
  | 12 => .array (.object "ThereAndBack$Routine")
  | 13 => .array .boolean
  | 14 => .array .int
  | 15 => .array (.object "ThereAndBack$Holder")
  | 16 => .array .int
  | 17 => .array .int
  | 18 => .array (.object "ThereAndBack$Holder")
  | 19 => .int
  | 20 => .int
  | 21 => .int
  | 22 => .int
  | 23 => .int
  | 24 => .int
  | 25 => .array .int
  | 26 => .array .int
  | 27 => .array .int
  | 28 => .int
  | 29 => .object "java/lang/Object"
  | 30 => .int
  | 31 => .int
  | 32 => .int
  | 33 => .array .byte
  | 34 => .array .byte
  | 35 => .int
  | 36 => .boolean
  | 37 => .int
  | 38 => .array .byte
  | _ => .int
abbrev wsX00 : List Cond := u_ws RX0 TX0 40
set_option maxRecDepth 100000 in
theorem nmX0 : ∀ a, a < 40 → ∀ b, b < 40 → a ≠ b → (TX0 a).2.1 ≠ (TX0 b).2.1 := by decide +kernel
set_option maxRecDepth 100000 in
theorem tyX0_ok : ∀ k, k < 40 → parseFieldDescriptor (TX0 k).2.2.1 = some (tyX0 k) := by decide +kernel
abbrev cX0_init : ByteArray := prog_1_method_37_code
def yX0_init : MethodName := ⟨RX0, "<init>", "()V"⟩
def dkwX0_init_10 : List UInt8 := [167, 255, 234, 177]
abbrev dktX0_init_10 : List UInt8 := dkwX0_init_10 ++ []
def dkwX0_init_9 : List UInt8 := [27, 16, 8, 162, 0, 22, 42, 180, 1, 116, 27, 187, 1, 104, 89, 183, 1, 144, 83, 132, 1, 1]
abbrev dktX0_init_9 : List UInt8 := dkwX0_init_9 ++ dktX0_init_10
def dkwX0_init_8 : List UInt8 := [162, 0, 22, 42, 180, 1, 106, 27, 187, 1, 104, 89, 183, 1, 144, 83, 132, 1, 1, 167, 255, 234, 3, 60]
abbrev dktX0_init_8 : List UInt8 := dkwX0_init_8 ++ dktX0_init_9
def dkwX0_init_7 : List UInt8 := [180, 1, 86, 27, 187, 1, 84, 89, 27, 183, 1, 143, 83, 132, 1, 1, 167, 255, 230, 3, 60, 27, 16, 6]
abbrev dktX0_init_7 : List UInt8 := dkwX0_init_7 ++ dktX0_init_8
def dkwX0_init_6 : List UInt8 := [181, 1, 137, 42, 17, 23, 112, 188, 8, 181, 1, 140, 3, 60, 27, 42, 180, 1, 86, 190, 162, 0, 23, 42]
abbrev dktX0_init_6 : List UInt8 := dkwX0_init_6 ++ dktX0_init_7
def dkwX0_init_5 : List UInt8 := [181, 1, 128, 42, 2, 181, 1, 131, 42, 17, 23, 112, 188, 8, 181, 1, 134, 42, 17, 23, 112, 188, 8]
abbrev dktX0_init_5 : List UInt8 := dkwX0_init_5 ++ dktX0_init_6
def dkwX0_init_4 : List UInt8 := [181, 1, 119, 42, 16, 12, 188, 10, 181, 1, 122, 42, 16, 12, 188, 10, 181, 1, 125, 42, 16, 12, 188, 10]
abbrev dktX0_init_4 : List UInt8 := dkwX0_init_4 ++ dktX0_init_5
def dkwX0_init_3 : List UInt8 := [188, 10, 181, 1, 110, 42, 7, 188, 10, 181, 1, 113, 42, 16, 8, 189, 1, 104, 181, 1, 116, 42, 2]
abbrev dktX0_init_3 : List UInt8 := dkwX0_init_3 ++ dktX0_init_4
def dkwX0_init_2 : List UInt8 := [181, 1, 96, 42, 16, 26, 188, 10, 181, 1, 100, 42, 16, 6, 189, 1, 104, 181, 1, 106, 42, 16, 120]
abbrev dktX0_init_2 : List UInt8 := dkwX0_init_2 ++ dktX0_init_3
def dkwX0_init_1 : List UInt8 := [42, 16, 17, 189, 1, 84, 181, 1, 86, 42, 16, 10, 189, 1, 90, 181, 1, 92, 42, 16, 26, 188, 4]
abbrev dktX0_init_1 : List UInt8 := dkwX0_init_1 ++ dktX0_init_2
def dkwX0_init_0 : List UInt8 := [42, 183, 1, 78, 42, 17, 2, 88, 188, 8, 181, 0, 24, 42, 187, 1, 81, 89, 183, 1, 83, 181, 0, 10]
abbrev dktX0_init_0 : List UInt8 := dkwX0_init_0 ++ dktX0_init_1
theorem dksX0_init_0 : cX0_init.data.toList.drop 0 = dktX0_init_0 := by decide +kernel
theorem dksX0_init_1 : cX0_init.data.toList.drop 24 = dktX0_init_1 := dk_seg dksX0_init_0 24 rfl rfl
theorem dksX0_init_2 : cX0_init.data.toList.drop 47 = dktX0_init_2 := dk_seg dksX0_init_1 23 rfl rfl
theorem dksX0_init_3 : cX0_init.data.toList.drop 70 = dktX0_init_3 := dk_seg dksX0_init_2 23 rfl rfl
theorem dksX0_init_4 : cX0_init.data.toList.drop 93 = dktX0_init_4 := dk_seg dksX0_init_3 23 rfl rfl
theorem dksX0_init_5 : cX0_init.data.toList.drop 117 = dktX0_init_5 := dk_seg dksX0_init_4 24 rfl rfl
theorem dksX0_init_6 : cX0_init.data.toList.drop 140 = dktX0_init_6 := dk_seg dksX0_init_5 23 rfl rfl
theorem dksX0_init_7 : cX0_init.data.toList.drop 164 = dktX0_init_7 := dk_seg dksX0_init_6 24 rfl rfl
theorem dksX0_init_8 : cX0_init.data.toList.drop 188 = dktX0_init_8 := dk_seg dksX0_init_7 24 rfl rfl
theorem dksX0_init_9 : cX0_init.data.toList.drop 212 = dktX0_init_9 := dk_seg dksX0_init_8 24 rfl rfl
theorem dksX0_init_10 : cX0_init.data.toList.drop 234 = dktX0_init_10 := dk_seg dksX0_init_9 22 rfl rfl
theorem dX0_init_0 : decode cX0_init 0 = .ok (.aload_n 0, 1) := dk_42 (dk_at dksX0_init_0 0 rfl rfl)
theorem dX0_init_1 : decode cX0_init 1 = .ok (.invokespecial 334, 3) := dk_183 1 78 (dk_at dksX0_init_0 1 rfl rfl)
theorem dX0_init_4 : decode cX0_init 4 = .ok (.aload_n 0, 1) := dk_42 (dk_at dksX0_init_0 4 rfl rfl)
theorem dX0_init_5 : decode cX0_init 5 = .ok (.sipush 600, 3) := dk_17 2 88 (dk_at dksX0_init_0 5 rfl rfl)
theorem dX0_init_8 : decode cX0_init 8 = .ok (.newarray .byte, 2) := dk_188_8 (dk_at dksX0_init_0 8 rfl rfl)
theorem dX0_init_10 : decode cX0_init 10 = .ok (.putfield 24, 3) := dk_181 0 24 (dk_at dksX0_init_0 10 rfl rfl)
theorem dX0_init_13 : decode cX0_init 13 = .ok (.aload_n 0, 1) := dk_42 (dk_at dksX0_init_0 13 rfl rfl)
theorem dX0_init_14 : decode cX0_init 14 = .ok (.new 337, 3) := dk_187 1 81 (dk_at dksX0_init_0 14 rfl rfl)
theorem dX0_init_17 : decode cX0_init 17 = .ok (.dup, 1) := dk_89 (dk_at dksX0_init_0 17 rfl rfl)
theorem dX0_init_18 : decode cX0_init 18 = .ok (.invokespecial 339, 3) := dk_183 1 83 (dk_at dksX0_init_0 18 rfl rfl)
theorem dX0_init_21 : decode cX0_init 21 = .ok (.putfield 10, 3) := dk_181 0 10 (dk_at dksX0_init_0 21 rfl rfl)
theorem dX0_init_24 : decode cX0_init 24 = .ok (.aload_n 0, 1) := dk_42 (dk_at dksX0_init_1 0 rfl rfl)
theorem dX0_init_25 : decode cX0_init 25 = .ok (.bipush 17, 2) := dk_16 17 (dk_at dksX0_init_1 1 rfl rfl)
theorem dX0_init_27 : decode cX0_init 27 = .ok (.anewarray 340, 3) := dk_189 1 84 (dk_at dksX0_init_1 3 rfl rfl)
theorem dX0_init_30 : decode cX0_init 30 = .ok (.putfield 342, 3) := dk_181 1 86 (dk_at dksX0_init_1 6 rfl rfl)
theorem dX0_init_33 : decode cX0_init 33 = .ok (.aload_n 0, 1) := dk_42 (dk_at dksX0_init_1 9 rfl rfl)
theorem dX0_init_34 : decode cX0_init 34 = .ok (.bipush 10, 2) := dk_16 10 (dk_at dksX0_init_1 10 rfl rfl)
theorem dX0_init_36 : decode cX0_init 36 = .ok (.anewarray 346, 3) := dk_189 1 90 (dk_at dksX0_init_1 12 rfl rfl)
theorem dX0_init_39 : decode cX0_init 39 = .ok (.putfield 348, 3) := dk_181 1 92 (dk_at dksX0_init_1 15 rfl rfl)
theorem dX0_init_42 : decode cX0_init 42 = .ok (.aload_n 0, 1) := dk_42 (dk_at dksX0_init_1 18 rfl rfl)
theorem dX0_init_43 : decode cX0_init 43 = .ok (.bipush 26, 2) := dk_16 26 (dk_at dksX0_init_1 19 rfl rfl)
theorem dX0_init_45 : decode cX0_init 45 = .ok (.newarray .boolean, 2) := dk_188_4 (dk_at dksX0_init_1 21 rfl rfl)
theorem dX0_init_47 : decode cX0_init 47 = .ok (.putfield 352, 3) := dk_181 1 96 (dk_at dksX0_init_2 0 rfl rfl)
theorem dX0_init_50 : decode cX0_init 50 = .ok (.aload_n 0, 1) := dk_42 (dk_at dksX0_init_2 3 rfl rfl)
theorem dX0_init_51 : decode cX0_init 51 = .ok (.bipush 26, 2) := dk_16 26 (dk_at dksX0_init_2 4 rfl rfl)
theorem dX0_init_53 : decode cX0_init 53 = .ok (.newarray .int, 2) := dk_188_10 (dk_at dksX0_init_2 6 rfl rfl)
theorem dX0_init_55 : decode cX0_init 55 = .ok (.putfield 356, 3) := dk_181 1 100 (dk_at dksX0_init_2 8 rfl rfl)
theorem dX0_init_58 : decode cX0_init 58 = .ok (.aload_n 0, 1) := dk_42 (dk_at dksX0_init_2 11 rfl rfl)
theorem dX0_init_59 : decode cX0_init 59 = .ok (.bipush 6, 2) := dk_16 6 (dk_at dksX0_init_2 12 rfl rfl)
theorem dX0_init_61 : decode cX0_init 61 = .ok (.anewarray 360, 3) := dk_189 1 104 (dk_at dksX0_init_2 14 rfl rfl)
theorem dX0_init_64 : decode cX0_init 64 = .ok (.putfield 362, 3) := dk_181 1 106 (dk_at dksX0_init_2 17 rfl rfl)
theorem dX0_init_67 : decode cX0_init 67 = .ok (.aload_n 0, 1) := dk_42 (dk_at dksX0_init_2 20 rfl rfl)
theorem dX0_init_68 : decode cX0_init 68 = .ok (.bipush 120, 2) := dk_16 120 (dk_at dksX0_init_2 21 rfl rfl)
theorem dX0_init_70 : decode cX0_init 70 = .ok (.newarray .int, 2) := dk_188_10 (dk_at dksX0_init_3 0 rfl rfl)
theorem dX0_init_72 : decode cX0_init 72 = .ok (.putfield 366, 3) := dk_181 1 110 (dk_at dksX0_init_3 2 rfl rfl)
theorem dX0_init_75 : decode cX0_init 75 = .ok (.aload_n 0, 1) := dk_42 (dk_at dksX0_init_3 5 rfl rfl)
theorem dX0_init_76 : decode cX0_init 76 = .ok (.iconst 4, 1) := dk_7 (dk_at dksX0_init_3 6 rfl rfl)
theorem dX0_init_77 : decode cX0_init 77 = .ok (.newarray .int, 2) := dk_188_10 (dk_at dksX0_init_3 7 rfl rfl)
theorem dX0_init_79 : decode cX0_init 79 = .ok (.putfield 369, 3) := dk_181 1 113 (dk_at dksX0_init_3 9 rfl rfl)
theorem dX0_init_82 : decode cX0_init 82 = .ok (.aload_n 0, 1) := dk_42 (dk_at dksX0_init_3 12 rfl rfl)
theorem dX0_init_83 : decode cX0_init 83 = .ok (.bipush 8, 2) := dk_16 8 (dk_at dksX0_init_3 13 rfl rfl)
theorem dX0_init_85 : decode cX0_init 85 = .ok (.anewarray 360, 3) := dk_189 1 104 (dk_at dksX0_init_3 15 rfl rfl)
theorem dX0_init_88 : decode cX0_init 88 = .ok (.putfield 372, 3) := dk_181 1 116 (dk_at dksX0_init_3 18 rfl rfl)
theorem dX0_init_91 : decode cX0_init 91 = .ok (.aload_n 0, 1) := dk_42 (dk_at dksX0_init_3 21 rfl rfl)
theorem dX0_init_92 : decode cX0_init 92 = .ok (.iconst (-1), 1) := dk_2 (dk_at dksX0_init_3 22 rfl rfl)
theorem dX0_init_93 : decode cX0_init 93 = .ok (.putfield 375, 3) := dk_181 1 119 (dk_at dksX0_init_4 0 rfl rfl)
theorem dX0_init_96 : decode cX0_init 96 = .ok (.aload_n 0, 1) := dk_42 (dk_at dksX0_init_4 3 rfl rfl)
theorem dX0_init_97 : decode cX0_init 97 = .ok (.bipush 12, 2) := dk_16 12 (dk_at dksX0_init_4 4 rfl rfl)
theorem dX0_init_99 : decode cX0_init 99 = .ok (.newarray .int, 2) := dk_188_10 (dk_at dksX0_init_4 6 rfl rfl)
theorem dX0_init_101 : decode cX0_init 101 = .ok (.putfield 378, 3) := dk_181 1 122 (dk_at dksX0_init_4 8 rfl rfl)
theorem dX0_init_104 : decode cX0_init 104 = .ok (.aload_n 0, 1) := dk_42 (dk_at dksX0_init_4 11 rfl rfl)
theorem dX0_init_105 : decode cX0_init 105 = .ok (.bipush 12, 2) := dk_16 12 (dk_at dksX0_init_4 12 rfl rfl)
theorem dX0_init_107 : decode cX0_init 107 = .ok (.newarray .int, 2) := dk_188_10 (dk_at dksX0_init_4 14 rfl rfl)
theorem dX0_init_109 : decode cX0_init 109 = .ok (.putfield 381, 3) := dk_181 1 125 (dk_at dksX0_init_4 16 rfl rfl)
theorem dX0_init_112 : decode cX0_init 112 = .ok (.aload_n 0, 1) := dk_42 (dk_at dksX0_init_4 19 rfl rfl)
theorem dX0_init_113 : decode cX0_init 113 = .ok (.bipush 12, 2) := dk_16 12 (dk_at dksX0_init_4 20 rfl rfl)
theorem dX0_init_115 : decode cX0_init 115 = .ok (.newarray .int, 2) := dk_188_10 (dk_at dksX0_init_4 22 rfl rfl)
theorem dX0_init_117 : decode cX0_init 117 = .ok (.putfield 384, 3) := dk_181 1 128 (dk_at dksX0_init_5 0 rfl rfl)
theorem dX0_init_120 : decode cX0_init 120 = .ok (.aload_n 0, 1) := dk_42 (dk_at dksX0_init_5 3 rfl rfl)
theorem dX0_init_121 : decode cX0_init 121 = .ok (.iconst (-1), 1) := dk_2 (dk_at dksX0_init_5 4 rfl rfl)
theorem dX0_init_122 : decode cX0_init 122 = .ok (.putfield 387, 3) := dk_181 1 131 (dk_at dksX0_init_5 5 rfl rfl)
theorem dX0_init_125 : decode cX0_init 125 = .ok (.aload_n 0, 1) := dk_42 (dk_at dksX0_init_5 8 rfl rfl)
theorem dX0_init_126 : decode cX0_init 126 = .ok (.sipush 6000, 3) := dk_17 23 112 (dk_at dksX0_init_5 9 rfl rfl)
theorem dX0_init_129 : decode cX0_init 129 = .ok (.newarray .byte, 2) := dk_188_8 (dk_at dksX0_init_5 12 rfl rfl)
theorem dX0_init_131 : decode cX0_init 131 = .ok (.putfield 390, 3) := dk_181 1 134 (dk_at dksX0_init_5 14 rfl rfl)
theorem dX0_init_134 : decode cX0_init 134 = .ok (.aload_n 0, 1) := dk_42 (dk_at dksX0_init_5 17 rfl rfl)
theorem dX0_init_135 : decode cX0_init 135 = .ok (.sipush 6000, 3) := dk_17 23 112 (dk_at dksX0_init_5 18 rfl rfl)
theorem dX0_init_138 : decode cX0_init 138 = .ok (.newarray .byte, 2) := dk_188_8 (dk_at dksX0_init_5 21 rfl rfl)
theorem dX0_init_140 : decode cX0_init 140 = .ok (.putfield 393, 3) := dk_181 1 137 (dk_at dksX0_init_6 0 rfl rfl)
theorem dX0_init_143 : decode cX0_init 143 = .ok (.aload_n 0, 1) := dk_42 (dk_at dksX0_init_6 3 rfl rfl)
theorem dX0_init_144 : decode cX0_init 144 = .ok (.sipush 6000, 3) := dk_17 23 112 (dk_at dksX0_init_6 4 rfl rfl)
theorem dX0_init_147 : decode cX0_init 147 = .ok (.newarray .byte, 2) := dk_188_8 (dk_at dksX0_init_6 7 rfl rfl)
theorem dX0_init_149 : decode cX0_init 149 = .ok (.putfield 396, 3) := dk_181 1 140 (dk_at dksX0_init_6 9 rfl rfl)
theorem dX0_init_152 : decode cX0_init 152 = .ok (.iconst 0, 1) := dk_3 (dk_at dksX0_init_6 12 rfl rfl)
theorem dX0_init_153 : decode cX0_init 153 = .ok (.istore_n 1, 1) := dk_60 (dk_at dksX0_init_6 13 rfl rfl)
theorem dX0_init_154 : decode cX0_init 154 = .ok (.iload_n 1, 1) := dk_27 (dk_at dksX0_init_6 14 rfl rfl)
theorem dX0_init_155 : decode cX0_init 155 = .ok (.aload_n 0, 1) := dk_42 (dk_at dksX0_init_6 15 rfl rfl)
theorem dX0_init_156 : decode cX0_init 156 = .ok (.getfield 342, 3) := dk_180 1 86 (dk_at dksX0_init_6 16 rfl rfl)
theorem dX0_init_159 : decode cX0_init 159 = .ok (.arraylength, 1) := dk_190 (dk_at dksX0_init_6 19 rfl rfl)
theorem dX0_init_160 : decode cX0_init 160 = .ok (.if_icmp .ge 23, 3) := dk_162 0 23 (dk_at dksX0_init_6 20 rfl rfl)
theorem dX0_init_163 : decode cX0_init 163 = .ok (.aload_n 0, 1) := dk_42 (dk_at dksX0_init_6 23 rfl rfl)
theorem dX0_init_164 : decode cX0_init 164 = .ok (.getfield 342, 3) := dk_180 1 86 (dk_at dksX0_init_7 0 rfl rfl)
theorem dX0_init_167 : decode cX0_init 167 = .ok (.iload_n 1, 1) := dk_27 (dk_at dksX0_init_7 3 rfl rfl)
theorem dX0_init_168 : decode cX0_init 168 = .ok (.new 340, 3) := dk_187 1 84 (dk_at dksX0_init_7 4 rfl rfl)
theorem dX0_init_171 : decode cX0_init 171 = .ok (.dup, 1) := dk_89 (dk_at dksX0_init_7 7 rfl rfl)
theorem dX0_init_172 : decode cX0_init 172 = .ok (.iload_n 1, 1) := dk_27 (dk_at dksX0_init_7 8 rfl rfl)
theorem dX0_init_173 : decode cX0_init 173 = .ok (.invokespecial 399, 3) := dk_183 1 143 (dk_at dksX0_init_7 9 rfl rfl)
theorem dX0_init_176 : decode cX0_init 176 = .ok (.aastore, 1) := dk_83 (dk_at dksX0_init_7 12 rfl rfl)
theorem dX0_init_177 : decode cX0_init 177 = .ok (.iinc 1 1, 3) := dk_132 1 1 (dk_at dksX0_init_7 13 rfl rfl)
theorem dX0_init_180 : decode cX0_init 180 = .ok (.goto (-26), 3) := dk_167 255 230 (dk_at dksX0_init_7 16 rfl rfl)
theorem dX0_init_183 : decode cX0_init 183 = .ok (.iconst 0, 1) := dk_3 (dk_at dksX0_init_7 19 rfl rfl)
theorem dX0_init_184 : decode cX0_init 184 = .ok (.istore_n 1, 1) := dk_60 (dk_at dksX0_init_7 20 rfl rfl)
theorem dX0_init_185 : decode cX0_init 185 = .ok (.iload_n 1, 1) := dk_27 (dk_at dksX0_init_7 21 rfl rfl)
theorem dX0_init_186 : decode cX0_init 186 = .ok (.bipush 6, 2) := dk_16 6 (dk_at dksX0_init_7 22 rfl rfl)
theorem dX0_init_188 : decode cX0_init 188 = .ok (.if_icmp .ge 22, 3) := dk_162 0 22 (dk_at dksX0_init_8 0 rfl rfl)
theorem dX0_init_191 : decode cX0_init 191 = .ok (.aload_n 0, 1) := dk_42 (dk_at dksX0_init_8 3 rfl rfl)
theorem dX0_init_192 : decode cX0_init 192 = .ok (.getfield 362, 3) := dk_180 1 106 (dk_at dksX0_init_8 4 rfl rfl)
theorem dX0_init_195 : decode cX0_init 195 = .ok (.iload_n 1, 1) := dk_27 (dk_at dksX0_init_8 7 rfl rfl)
theorem dX0_init_196 : decode cX0_init 196 = .ok (.new 360, 3) := dk_187 1 104 (dk_at dksX0_init_8 8 rfl rfl)
theorem dX0_init_199 : decode cX0_init 199 = .ok (.dup, 1) := dk_89 (dk_at dksX0_init_8 11 rfl rfl)
theorem dX0_init_200 : decode cX0_init 200 = .ok (.invokespecial 400, 3) := dk_183 1 144 (dk_at dksX0_init_8 12 rfl rfl)
theorem dX0_init_203 : decode cX0_init 203 = .ok (.aastore, 1) := dk_83 (dk_at dksX0_init_8 15 rfl rfl)
theorem dX0_init_204 : decode cX0_init 204 = .ok (.iinc 1 1, 3) := dk_132 1 1 (dk_at dksX0_init_8 16 rfl rfl)
theorem dX0_init_207 : decode cX0_init 207 = .ok (.goto (-22), 3) := dk_167 255 234 (dk_at dksX0_init_8 19 rfl rfl)
theorem dX0_init_210 : decode cX0_init 210 = .ok (.iconst 0, 1) := dk_3 (dk_at dksX0_init_8 22 rfl rfl)
theorem dX0_init_211 : decode cX0_init 211 = .ok (.istore_n 1, 1) := dk_60 (dk_at dksX0_init_8 23 rfl rfl)
theorem dX0_init_212 : decode cX0_init 212 = .ok (.iload_n 1, 1) := dk_27 (dk_at dksX0_init_9 0 rfl rfl)
theorem dX0_init_213 : decode cX0_init 213 = .ok (.bipush 8, 2) := dk_16 8 (dk_at dksX0_init_9 1 rfl rfl)
theorem dX0_init_215 : decode cX0_init 215 = .ok (.if_icmp .ge 22, 3) := dk_162 0 22 (dk_at dksX0_init_9 3 rfl rfl)
theorem dX0_init_218 : decode cX0_init 218 = .ok (.aload_n 0, 1) := dk_42 (dk_at dksX0_init_9 6 rfl rfl)
theorem dX0_init_219 : decode cX0_init 219 = .ok (.getfield 372, 3) := dk_180 1 116 (dk_at dksX0_init_9 7 rfl rfl)
theorem dX0_init_222 : decode cX0_init 222 = .ok (.iload_n 1, 1) := dk_27 (dk_at dksX0_init_9 10 rfl rfl)
theorem dX0_init_223 : decode cX0_init 223 = .ok (.new 360, 3) := dk_187 1 104 (dk_at dksX0_init_9 11 rfl rfl)
theorem dX0_init_226 : decode cX0_init 226 = .ok (.dup, 1) := dk_89 (dk_at dksX0_init_9 14 rfl rfl)
theorem dX0_init_227 : decode cX0_init 227 = .ok (.invokespecial 400, 3) := dk_183 1 144 (dk_at dksX0_init_9 15 rfl rfl)
theorem dX0_init_230 : decode cX0_init 230 = .ok (.aastore, 1) := dk_83 (dk_at dksX0_init_9 18 rfl rfl)
theorem dX0_init_231 : decode cX0_init 231 = .ok (.iinc 1 1, 3) := dk_132 1 1 (dk_at dksX0_init_9 19 rfl rfl)
theorem dX0_init_234 : decode cX0_init 234 = .ok (.goto (-22), 3) := dk_167 255 234 (dk_at dksX0_init_10 0 rfl rfl)
theorem dX0_init_237 : decode cX0_init 237 = .ok (.return_, 1) := dk_177 (dk_at dksX0_init_10 3 rfl rfl)
abbrev cX0_type : ByteArray := prog_1_method_48_code
def yX0_type : MethodName := ⟨RX0, "type", "(JI)I"⟩
def dkwX0_type_4 : List UInt8 := [145, 84, 42, 89, 180, 0, 21, 4, 96, 181, 0, 21, 132, 4, 255, 167, 255, 220, 42, 180, 0, 21, 172]
abbrev dktX0_type_4 : List UInt8 := dkwX0_type_4 ++ []
def dkwX0_type_3 : List UInt8 := [100, 54, 4, 21, 4, 155, 0, 37, 42, 180, 0, 24, 42, 180, 0, 21, 31, 16, 8, 21, 4, 104, 123, 136]
abbrev dktX0_type_3 : List UInt8 := dkwX0_type_3 ++ dktX0_type_4
def dkwX0_type_2 : List UInt8 := [172, 132, 4, 255, 167, 255, 223, 42, 180, 0, 21, 29, 96, 17, 2, 88, 164, 0, 6, 16, 253, 172, 29, 4]
abbrev dktX0_type_2 : List UInt8 := dkwX0_type_2 ++ dktX0_type_3
def dkwX0_type_1 : List UInt8 := [31, 16, 8, 21, 4, 104, 123, 20, 1, 199, 127, 20, 1, 201, 20, 1, 203, 184, 1, 168, 154, 0, 5, 2]
abbrev dktX0_type_1 : List UInt8 := dkwX0_type_1 ++ dktX0_type_2
def dkwX0_type_0 : List UInt8 := [29, 133, 10, 20, 1, 197, 184, 1, 168, 154, 0, 5, 2, 172, 29, 4, 100, 54, 4, 21, 4, 155, 0, 34]
abbrev dktX0_type_0 : List UInt8 := dkwX0_type_0 ++ dktX0_type_1
theorem dksX0_type_0 : cX0_type.data.toList.drop 0 = dktX0_type_0 := by decide +kernel
theorem dksX0_type_1 : cX0_type.data.toList.drop 24 = dktX0_type_1 := dk_seg dksX0_type_0 24 rfl rfl
theorem dksX0_type_2 : cX0_type.data.toList.drop 48 = dktX0_type_2 := dk_seg dksX0_type_1 24 rfl rfl
theorem dksX0_type_3 : cX0_type.data.toList.drop 72 = dktX0_type_3 := dk_seg dksX0_type_2 24 rfl rfl
theorem dksX0_type_4 : cX0_type.data.toList.drop 96 = dktX0_type_4 := dk_seg dksX0_type_3 24 rfl rfl
theorem dX0_type_0 : decode cX0_type 0 = .ok (.iload_n 3, 1) := dk_29 (dk_at dksX0_type_0 0 rfl rfl)
theorem dX0_type_1 : decode cX0_type 1 = .ok (.i2l, 1) := dk_133 (dk_at dksX0_type_0 1 rfl rfl)
theorem dX0_type_2 : decode cX0_type 2 = .ok (.lconst 1, 1) := dk_10 (dk_at dksX0_type_0 2 rfl rfl)
theorem dX0_type_3 : decode cX0_type 3 = .ok (.ldc2_w 453, 3) := dk_20 1 197 (dk_at dksX0_type_0 3 rfl rfl)
theorem dX0_type_6 : decode cX0_type 6 = .ok (.invokestatic 424, 3) := dk_184 1 168 (dk_at dksX0_type_0 6 rfl rfl)
theorem dX0_type_9 : decode cX0_type 9 = .ok (.ifCond .ne 5, 3) := dk_154 0 5 (dk_at dksX0_type_0 9 rfl rfl)
theorem dX0_type_12 : decode cX0_type 12 = .ok (.iconst (-1), 1) := dk_2 (dk_at dksX0_type_0 12 rfl rfl)
theorem dX0_type_13 : decode cX0_type 13 = .ok (.ireturn, 1) := dk_172 (dk_at dksX0_type_0 13 rfl rfl)
theorem dX0_type_14 : decode cX0_type 14 = .ok (.iload_n 3, 1) := dk_29 (dk_at dksX0_type_0 14 rfl rfl)
theorem dX0_type_15 : decode cX0_type 15 = .ok (.iconst 1, 1) := dk_4 (dk_at dksX0_type_0 15 rfl rfl)
theorem dX0_type_16 : decode cX0_type 16 = .ok (.isub, 1) := dk_100 (dk_at dksX0_type_0 16 rfl rfl)
theorem dX0_type_17 : decode cX0_type 17 = .ok (.istore 4, 2) := dk_54 4 (dk_at dksX0_type_0 17 rfl rfl)
theorem dX0_type_19 : decode cX0_type 19 = .ok (.iload 4, 2) := dk_21 4 (dk_at dksX0_type_0 19 rfl rfl)
theorem dX0_type_21 : decode cX0_type 21 = .ok (.ifCond .lt 34, 3) := dk_155 0 34 (dk_at dksX0_type_0 21 rfl rfl)
theorem dX0_type_24 : decode cX0_type 24 = .ok (.lload_n 1, 1) := dk_31 (dk_at dksX0_type_1 0 rfl rfl)
theorem dX0_type_25 : decode cX0_type 25 = .ok (.bipush 8, 2) := dk_16 8 (dk_at dksX0_type_1 1 rfl rfl)
theorem dX0_type_27 : decode cX0_type 27 = .ok (.iload 4, 2) := dk_21 4 (dk_at dksX0_type_1 3 rfl rfl)
theorem dX0_type_29 : decode cX0_type 29 = .ok (.imul, 1) := dk_104 (dk_at dksX0_type_1 5 rfl rfl)
theorem dX0_type_30 : decode cX0_type 30 = .ok (.lshr, 1) := dk_123 (dk_at dksX0_type_1 6 rfl rfl)
theorem dX0_type_31 : decode cX0_type 31 = .ok (.ldc2_w 455, 3) := dk_20 1 199 (dk_at dksX0_type_1 7 rfl rfl)
theorem dX0_type_34 : decode cX0_type 34 = .ok (.land, 1) := dk_127 (dk_at dksX0_type_1 10 rfl rfl)
theorem dX0_type_35 : decode cX0_type 35 = .ok (.ldc2_w 457, 3) := dk_20 1 201 (dk_at dksX0_type_1 11 rfl rfl)
theorem dX0_type_38 : decode cX0_type 38 = .ok (.ldc2_w 459, 3) := dk_20 1 203 (dk_at dksX0_type_1 14 rfl rfl)
theorem dX0_type_41 : decode cX0_type 41 = .ok (.invokestatic 424, 3) := dk_184 1 168 (dk_at dksX0_type_1 17 rfl rfl)
theorem dX0_type_44 : decode cX0_type 44 = .ok (.ifCond .ne 5, 3) := dk_154 0 5 (dk_at dksX0_type_1 20 rfl rfl)
theorem dX0_type_47 : decode cX0_type 47 = .ok (.iconst (-1), 1) := dk_2 (dk_at dksX0_type_1 23 rfl rfl)
theorem dX0_type_48 : decode cX0_type 48 = .ok (.ireturn, 1) := dk_172 (dk_at dksX0_type_2 0 rfl rfl)
theorem dX0_type_49 : decode cX0_type 49 = .ok (.iinc 4 (-1), 3) := dk_132 4 255 (dk_at dksX0_type_2 1 rfl rfl)
theorem dX0_type_52 : decode cX0_type 52 = .ok (.goto (-33), 3) := dk_167 255 223 (dk_at dksX0_type_2 4 rfl rfl)
theorem dX0_type_55 : decode cX0_type 55 = .ok (.aload_n 0, 1) := dk_42 (dk_at dksX0_type_2 7 rfl rfl)
theorem dX0_type_56 : decode cX0_type 56 = .ok (.getfield 21, 3) := dk_180 0 21 (dk_at dksX0_type_2 8 rfl rfl)
theorem dX0_type_59 : decode cX0_type 59 = .ok (.iload_n 3, 1) := dk_29 (dk_at dksX0_type_2 11 rfl rfl)
theorem dX0_type_60 : decode cX0_type 60 = .ok (.iadd, 1) := dk_96 (dk_at dksX0_type_2 12 rfl rfl)
theorem dX0_type_61 : decode cX0_type 61 = .ok (.sipush 600, 3) := dk_17 2 88 (dk_at dksX0_type_2 13 rfl rfl)
theorem dX0_type_64 : decode cX0_type 64 = .ok (.if_icmp .le 6, 3) := dk_164 0 6 (dk_at dksX0_type_2 16 rfl rfl)
theorem dX0_type_67 : decode cX0_type 67 = .ok (.bipush (-3), 2) := dk_16 253 (dk_at dksX0_type_2 19 rfl rfl)
theorem dX0_type_69 : decode cX0_type 69 = .ok (.ireturn, 1) := dk_172 (dk_at dksX0_type_2 21 rfl rfl)
theorem dX0_type_70 : decode cX0_type 70 = .ok (.iload_n 3, 1) := dk_29 (dk_at dksX0_type_2 22 rfl rfl)
theorem dX0_type_71 : decode cX0_type 71 = .ok (.iconst 1, 1) := dk_4 (dk_at dksX0_type_2 23 rfl rfl)
theorem dX0_type_72 : decode cX0_type 72 = .ok (.isub, 1) := dk_100 (dk_at dksX0_type_3 0 rfl rfl)
theorem dX0_type_73 : decode cX0_type 73 = .ok (.istore 4, 2) := dk_54 4 (dk_at dksX0_type_3 1 rfl rfl)
theorem dX0_type_75 : decode cX0_type 75 = .ok (.iload 4, 2) := dk_21 4 (dk_at dksX0_type_3 3 rfl rfl)
theorem dX0_type_77 : decode cX0_type 77 = .ok (.ifCond .lt 37, 3) := dk_155 0 37 (dk_at dksX0_type_3 5 rfl rfl)
theorem dX0_type_80 : decode cX0_type 80 = .ok (.aload_n 0, 1) := dk_42 (dk_at dksX0_type_3 8 rfl rfl)
theorem dX0_type_81 : decode cX0_type 81 = .ok (.getfield 24, 3) := dk_180 0 24 (dk_at dksX0_type_3 9 rfl rfl)
theorem dX0_type_84 : decode cX0_type 84 = .ok (.aload_n 0, 1) := dk_42 (dk_at dksX0_type_3 12 rfl rfl)
theorem dX0_type_85 : decode cX0_type 85 = .ok (.getfield 21, 3) := dk_180 0 21 (dk_at dksX0_type_3 13 rfl rfl)
theorem dX0_type_88 : decode cX0_type 88 = .ok (.lload_n 1, 1) := dk_31 (dk_at dksX0_type_3 16 rfl rfl)
theorem dX0_type_89 : decode cX0_type 89 = .ok (.bipush 8, 2) := dk_16 8 (dk_at dksX0_type_3 17 rfl rfl)
theorem dX0_type_91 : decode cX0_type 91 = .ok (.iload 4, 2) := dk_21 4 (dk_at dksX0_type_3 19 rfl rfl)
theorem dX0_type_93 : decode cX0_type 93 = .ok (.imul, 1) := dk_104 (dk_at dksX0_type_3 21 rfl rfl)
theorem dX0_type_94 : decode cX0_type 94 = .ok (.lshr, 1) := dk_123 (dk_at dksX0_type_3 22 rfl rfl)
theorem dX0_type_95 : decode cX0_type 95 = .ok (.l2i, 1) := dk_136 (dk_at dksX0_type_3 23 rfl rfl)
theorem dX0_type_96 : decode cX0_type 96 = .ok (.i2b, 1) := dk_145 (dk_at dksX0_type_4 0 rfl rfl)
theorem dX0_type_97 : decode cX0_type 97 = .ok (.bastore, 1) := dk_84 (dk_at dksX0_type_4 1 rfl rfl)
theorem dX0_type_98 : decode cX0_type 98 = .ok (.aload_n 0, 1) := dk_42 (dk_at dksX0_type_4 2 rfl rfl)
theorem dX0_type_99 : decode cX0_type 99 = .ok (.dup, 1) := dk_89 (dk_at dksX0_type_4 3 rfl rfl)
theorem dX0_type_100 : decode cX0_type 100 = .ok (.getfield 21, 3) := dk_180 0 21 (dk_at dksX0_type_4 4 rfl rfl)
theorem dX0_type_103 : decode cX0_type 103 = .ok (.iconst 1, 1) := dk_4 (dk_at dksX0_type_4 7 rfl rfl)
theorem dX0_type_104 : decode cX0_type 104 = .ok (.iadd, 1) := dk_96 (dk_at dksX0_type_4 8 rfl rfl)
theorem dX0_type_105 : decode cX0_type 105 = .ok (.putfield 21, 3) := dk_181 0 21 (dk_at dksX0_type_4 9 rfl rfl)
theorem dX0_type_108 : decode cX0_type 108 = .ok (.iinc 4 (-1), 3) := dk_132 4 255 (dk_at dksX0_type_4 12 rfl rfl)
theorem dX0_type_111 : decode cX0_type 111 = .ok (.goto (-36), 3) := dk_167 255 220 (dk_at dksX0_type_4 15 rfl rfl)
theorem dX0_type_114 : decode cX0_type 114 = .ok (.aload_n 0, 1) := dk_42 (dk_at dksX0_type_4 18 rfl rfl)
theorem dX0_type_115 : decode cX0_type 115 = .ok (.getfield 21, 3) := dk_180 0 21 (dk_at dksX0_type_4 19 rfl rfl)
theorem dX0_type_118 : decode cX0_type 118 = .ok (.ireturn, 1) := dk_172 (dk_at dksX0_type_4 22 rfl rfl)
abbrev cX0_isIn : ByteArray := prog_1_method_1_code
def yX0_isIn : MethodName := ⟨RX0, "isIn", "(JJJ)Z"⟩
def dkwX0_isIn_0 : List UInt8 := [30, 32, 148, 155, 0, 14, 30, 22, 4, 148, 157, 0, 7, 4, 167, 0, 4, 3, 172]
abbrev dktX0_isIn_0 : List UInt8 := dkwX0_isIn_0 ++ []
theorem dksX0_isIn_0 : cX0_isIn.data.toList.drop 0 = dktX0_isIn_0 := by decide +kernel
theorem dX0_isIn_0 : decode cX0_isIn 0 = .ok (.lload_n 0, 1) := dk_30 (dk_at dksX0_isIn_0 0 rfl rfl)
theorem dX0_isIn_1 : decode cX0_isIn 1 = .ok (.lload_n 2, 1) := dk_32 (dk_at dksX0_isIn_0 1 rfl rfl)
theorem dX0_isIn_2 : decode cX0_isIn 2 = .ok (.lcmp, 1) := dk_148 (dk_at dksX0_isIn_0 2 rfl rfl)
theorem dX0_isIn_3 : decode cX0_isIn 3 = .ok (.ifCond .lt 14, 3) := dk_155 0 14 (dk_at dksX0_isIn_0 3 rfl rfl)
theorem dX0_isIn_6 : decode cX0_isIn 6 = .ok (.lload_n 0, 1) := dk_30 (dk_at dksX0_isIn_0 6 rfl rfl)
theorem dX0_isIn_7 : decode cX0_isIn 7 = .ok (.lload 4, 2) := dk_22 4 (dk_at dksX0_isIn_0 7 rfl rfl)
theorem dX0_isIn_9 : decode cX0_isIn 9 = .ok (.lcmp, 1) := dk_148 (dk_at dksX0_isIn_0 9 rfl rfl)
theorem dX0_isIn_10 : decode cX0_isIn 10 = .ok (.ifCond .gt 7, 3) := dk_157 0 7 (dk_at dksX0_isIn_0 10 rfl rfl)
theorem dX0_isIn_13 : decode cX0_isIn 13 = .ok (.iconst 1, 1) := dk_4 (dk_at dksX0_isIn_0 13 rfl rfl)
theorem dX0_isIn_14 : decode cX0_isIn 14 = .ok (.goto 4, 3) := dk_167 0 4 (dk_at dksX0_isIn_0 14 rfl rfl)
theorem dX0_isIn_17 : decode cX0_isIn 17 = .ok (.iconst 0, 1) := dk_3 (dk_at dksX0_isIn_0 17 rfl rfl)
theorem dX0_isIn_18 : decode cX0_isIn 18 = .ok (.ireturn, 1) := dk_172 (dk_at dksX0_isIn_0 18 rfl rfl)
abbrev cX0_read : ByteArray := prog_1_method_49_code
def yX0_read : MethodName := ⟨RX0, "read", "(I)I"⟩
def dkwX0_read_3 : List UInt8 := [180, 0, 1, 100, 172, 42, 3, 181, 0, 21, 42, 44, 27, 182, 1, 205, 172]
abbrev dktX0_read_3 : List UInt8 := dkwX0_read_3 ++ []
def dkwX0_read_2 : List UInt8 := [180, 0, 35, 153, 0, 8, 42, 182, 0, 61, 191, 167, 0, 17, 78, 42, 3, 181, 0, 21, 16, 246, 42]
abbrev dktX0_read_2 : List UInt8 := dkwX0_read_2 ++ dktX0_read_3
def dkwX0_read_1 : List UInt8 := [42, 3, 181, 0, 1, 42, 3, 181, 0, 7, 1, 77, 42, 182, 0, 65, 42, 3, 182, 0, 148, 77, 42]
abbrev dktX0_read_1 : List UInt8 := dkwX0_read_1 ++ dktX0_read_2
def dkwX0_read_0 : List UInt8 := [27, 184, 1, 188, 154, 0, 5, 2, 172, 42, 3, 181, 0, 28, 42, 3, 181, 0, 145, 42, 2, 181, 0, 165]
abbrev dktX0_read_0 : List UInt8 := dkwX0_read_0 ++ dktX0_read_1
theorem dksX0_read_0 : cX0_read.data.toList.drop 0 = dktX0_read_0 := by decide +kernel
theorem dksX0_read_1 : cX0_read.data.toList.drop 24 = dktX0_read_1 := dk_seg dksX0_read_0 24 rfl rfl
theorem dksX0_read_2 : cX0_read.data.toList.drop 47 = dktX0_read_2 := dk_seg dksX0_read_1 23 rfl rfl
theorem dksX0_read_3 : cX0_read.data.toList.drop 70 = dktX0_read_3 := dk_seg dksX0_read_2 23 rfl rfl
theorem dX0_read_0 : decode cX0_read 0 = .ok (.iload_n 1, 1) := dk_27 (dk_at dksX0_read_0 0 rfl rfl)
theorem dX0_read_1 : decode cX0_read 1 = .ok (.invokestatic 444, 3) := dk_184 1 188 (dk_at dksX0_read_0 1 rfl rfl)
theorem dX0_read_4 : decode cX0_read 4 = .ok (.ifCond .ne 5, 3) := dk_154 0 5 (dk_at dksX0_read_0 4 rfl rfl)
theorem dX0_read_7 : decode cX0_read 7 = .ok (.iconst (-1), 1) := dk_2 (dk_at dksX0_read_0 7 rfl rfl)
theorem dX0_read_8 : decode cX0_read 8 = .ok (.ireturn, 1) := dk_172 (dk_at dksX0_read_0 8 rfl rfl)
theorem dX0_read_9 : decode cX0_read 9 = .ok (.aload_n 0, 1) := dk_42 (dk_at dksX0_read_0 9 rfl rfl)
theorem dX0_read_10 : decode cX0_read 10 = .ok (.iconst 0, 1) := dk_3 (dk_at dksX0_read_0 10 rfl rfl)
theorem dX0_read_11 : decode cX0_read 11 = .ok (.putfield 28, 3) := dk_181 0 28 (dk_at dksX0_read_0 11 rfl rfl)
theorem dX0_read_14 : decode cX0_read 14 = .ok (.aload_n 0, 1) := dk_42 (dk_at dksX0_read_0 14 rfl rfl)
theorem dX0_read_15 : decode cX0_read 15 = .ok (.iconst 0, 1) := dk_3 (dk_at dksX0_read_0 15 rfl rfl)
theorem dX0_read_16 : decode cX0_read 16 = .ok (.putfield 145, 3) := dk_181 0 145 (dk_at dksX0_read_0 16 rfl rfl)
theorem dX0_read_19 : decode cX0_read 19 = .ok (.aload_n 0, 1) := dk_42 (dk_at dksX0_read_0 19 rfl rfl)
theorem dX0_read_20 : decode cX0_read 20 = .ok (.iconst (-1), 1) := dk_2 (dk_at dksX0_read_0 20 rfl rfl)
theorem dX0_read_21 : decode cX0_read 21 = .ok (.putfield 165, 3) := dk_181 0 165 (dk_at dksX0_read_0 21 rfl rfl)
theorem dX0_read_24 : decode cX0_read 24 = .ok (.aload_n 0, 1) := dk_42 (dk_at dksX0_read_1 0 rfl rfl)
theorem dX0_read_25 : decode cX0_read 25 = .ok (.iconst 0, 1) := dk_3 (dk_at dksX0_read_1 1 rfl rfl)
theorem dX0_read_26 : decode cX0_read 26 = .ok (.putfield 1, 3) := dk_181 0 1 (dk_at dksX0_read_1 2 rfl rfl)
theorem dX0_read_29 : decode cX0_read 29 = .ok (.aload_n 0, 1) := dk_42 (dk_at dksX0_read_1 5 rfl rfl)
theorem dX0_read_30 : decode cX0_read 30 = .ok (.iconst 0, 1) := dk_3 (dk_at dksX0_read_1 6 rfl rfl)
theorem dX0_read_31 : decode cX0_read 31 = .ok (.putfield 7, 3) := dk_181 0 7 (dk_at dksX0_read_1 7 rfl rfl)
theorem dX0_read_34 : decode cX0_read 34 = .ok (.aconst_null, 1) := dk_1 (dk_at dksX0_read_1 10 rfl rfl)
theorem dX0_read_35 : decode cX0_read 35 = .ok (.astore_n 2, 1) := dk_77 (dk_at dksX0_read_1 11 rfl rfl)
theorem dX0_read_36 : decode cX0_read 36 = .ok (.aload_n 0, 1) := dk_42 (dk_at dksX0_read_1 12 rfl rfl)
theorem dX0_read_37 : decode cX0_read 37 = .ok (.invokevirtual 65, 3) := dk_182 0 65 (dk_at dksX0_read_1 13 rfl rfl)
theorem dX0_read_40 : decode cX0_read 40 = .ok (.aload_n 0, 1) := dk_42 (dk_at dksX0_read_1 16 rfl rfl)
theorem dX0_read_41 : decode cX0_read 41 = .ok (.iconst 0, 1) := dk_3 (dk_at dksX0_read_1 17 rfl rfl)
theorem dX0_read_42 : decode cX0_read 42 = .ok (.invokevirtual 148, 3) := dk_182 0 148 (dk_at dksX0_read_1 18 rfl rfl)
theorem dX0_read_45 : decode cX0_read 45 = .ok (.astore_n 2, 1) := dk_77 (dk_at dksX0_read_1 21 rfl rfl)
theorem dX0_read_46 : decode cX0_read 46 = .ok (.aload_n 0, 1) := dk_42 (dk_at dksX0_read_1 22 rfl rfl)
theorem dX0_read_47 : decode cX0_read 47 = .ok (.getfield 35, 3) := dk_180 0 35 (dk_at dksX0_read_2 0 rfl rfl)
theorem dX0_read_50 : decode cX0_read 50 = .ok (.ifCond .eq 8, 3) := dk_153 0 8 (dk_at dksX0_read_2 3 rfl rfl)
theorem dX0_read_53 : decode cX0_read 53 = .ok (.aload_n 0, 1) := dk_42 (dk_at dksX0_read_2 6 rfl rfl)
theorem dX0_read_54 : decode cX0_read 54 = .ok (.invokevirtual 61, 3) := dk_182 0 61 (dk_at dksX0_read_2 7 rfl rfl)
theorem dX0_read_57 : decode cX0_read 57 = .ok (.athrow, 1) := dk_191 (dk_at dksX0_read_2 10 rfl rfl)
theorem dX0_read_58 : decode cX0_read 58 = .ok (.goto 17, 3) := dk_167 0 17 (dk_at dksX0_read_2 11 rfl rfl)
theorem dX0_read_61 : decode cX0_read 61 = .ok (.astore_n 3, 1) := dk_78 (dk_at dksX0_read_2 14 rfl rfl)
theorem dX0_read_62 : decode cX0_read 62 = .ok (.aload_n 0, 1) := dk_42 (dk_at dksX0_read_2 15 rfl rfl)
theorem dX0_read_63 : decode cX0_read 63 = .ok (.iconst 0, 1) := dk_3 (dk_at dksX0_read_2 16 rfl rfl)
theorem dX0_read_64 : decode cX0_read 64 = .ok (.putfield 21, 3) := dk_181 0 21 (dk_at dksX0_read_2 17 rfl rfl)
theorem dX0_read_67 : decode cX0_read 67 = .ok (.bipush (-10), 2) := dk_16 246 (dk_at dksX0_read_2 20 rfl rfl)
theorem dX0_read_69 : decode cX0_read 69 = .ok (.aload_n 0, 1) := dk_42 (dk_at dksX0_read_2 22 rfl rfl)
theorem dX0_read_70 : decode cX0_read 70 = .ok (.getfield 1, 3) := dk_180 0 1 (dk_at dksX0_read_3 0 rfl rfl)
theorem dX0_read_73 : decode cX0_read 73 = .ok (.isub, 1) := dk_100 (dk_at dksX0_read_3 3 rfl rfl)
theorem dX0_read_74 : decode cX0_read 74 = .ok (.ireturn, 1) := dk_172 (dk_at dksX0_read_3 4 rfl rfl)
theorem dX0_read_75 : decode cX0_read 75 = .ok (.aload_n 0, 1) := dk_42 (dk_at dksX0_read_3 5 rfl rfl)
theorem dX0_read_76 : decode cX0_read 76 = .ok (.iconst 0, 1) := dk_3 (dk_at dksX0_read_3 6 rfl rfl)
theorem dX0_read_77 : decode cX0_read 77 = .ok (.putfield 21, 3) := dk_181 0 21 (dk_at dksX0_read_3 7 rfl rfl)
theorem dX0_read_80 : decode cX0_read 80 = .ok (.aload_n 0, 1) := dk_42 (dk_at dksX0_read_3 10 rfl rfl)
theorem dX0_read_81 : decode cX0_read 81 = .ok (.aload_n 2, 1) := dk_44 (dk_at dksX0_read_3 11 rfl rfl)
theorem dX0_read_82 : decode cX0_read 82 = .ok (.iload_n 1, 1) := dk_27 (dk_at dksX0_read_3 12 rfl rfl)
theorem dX0_read_83 : decode cX0_read 83 = .ok (.invokevirtual 461, 3) := dk_182 1 205 (dk_at dksX0_read_3 13 rfl rfl)
theorem dX0_read_86 : decode cX0_read 86 = .ok (.ireturn, 1) := dk_172 (dk_at dksX0_read_3 16 rfl rfl)
abbrev cX0_isRoutine : ByteArray := prog_1_method_45_code
def yX0_isRoutine : MethodName := ⟨RX0, "isRoutine", "(I)Z"⟩
def dkwX0_isRoutine_0 : List UInt8 := [26, 133, 9, 20, 1, 186, 184, 1, 168, 172]
abbrev dktX0_isRoutine_0 : List UInt8 := dkwX0_isRoutine_0 ++ []
theorem dksX0_isRoutine_0 : cX0_isRoutine.data.toList.drop 0 = dktX0_isRoutine_0 := by decide +kernel
theorem dX0_isRoutine_0 : decode cX0_isRoutine 0 = .ok (.iload_n 0, 1) := dk_26 (dk_at dksX0_isRoutine_0 0 rfl rfl)
theorem dX0_isRoutine_1 : decode cX0_isRoutine 1 = .ok (.i2l, 1) := dk_133 (dk_at dksX0_isRoutine_0 1 rfl rfl)
theorem dX0_isRoutine_2 : decode cX0_isRoutine 2 = .ok (.lconst 0, 1) := dk_9 (dk_at dksX0_isRoutine_0 2 rfl rfl)
theorem dX0_isRoutine_3 : decode cX0_isRoutine 3 = .ok (.ldc2_w 442, 3) := dk_20 1 186 (dk_at dksX0_isRoutine_0 3 rfl rfl)
theorem dX0_isRoutine_6 : decode cX0_isRoutine 6 = .ok (.invokestatic 424, 3) := dk_184 1 168 (dk_at dksX0_isRoutine_0 6 rfl rfl)
theorem dX0_isRoutine_9 : decode cX0_isRoutine 9 = .ok (.ireturn, 1) := dk_172 (dk_at dksX0_isRoutine_0 9 rfl rfl)
abbrev cX0_next : ByteArray := prog_1_method_9_code
def yX0_next : MethodName := ⟨RX0, "next", "()V"⟩
def dkwX0_next_13 : List UInt8 := [181, 0, 28, 177]
abbrev dktX0_next_13 : List UInt8 := dkwX0_next_13 ++ []
def dkwX0_next_12 : List UInt8 := [167, 0, 4, 7, 181, 0, 35, 42, 89, 180, 0, 28, 29, 153, 0, 7, 4, 167, 0, 4, 3, 96]
abbrev dktX0_next_12 : List UInt8 := dkwX0_next_12 ++ dktX0_next_13
def dkwX0_next_11 : List UInt8 := [16, 62, 160, 0, 13, 28, 16, 62, 160, 0, 7, 4, 167, 0, 4, 3, 62, 42, 29, 153, 0, 7, 8]
abbrev dktX0_next_11 : List UInt8 := dkwX0_next_11 ++ dktX0_next_12
def dkwX0_next_10 : List UInt8 := [16, 94, 159, 0, 33, 27, 16, 60, 160, 0, 15, 28, 16, 62, 159, 0, 21, 28, 16, 60, 159, 0, 15, 27]
abbrev dktX0_next_10 : List UInt8 := dkwX0_next_10 ++ dktX0_next_11
def dkwX0_next_9 : List UInt8 := [182, 0, 31, 61, 28, 16, 61, 160, 0, 21, 27, 16, 43, 159, 0, 45, 27, 16, 45, 159, 0, 39, 27]
abbrev dktX0_next_9 : List UInt8 := dkwX0_next_9 ++ dktX0_next_10
def dkwX0_next_8 : List UInt8 := [16, 65, 161, 0, 17, 27, 16, 90, 163, 0, 11, 42, 6, 181, 0, 35, 167, 0, 103, 42, 42, 180, 0, 28]
abbrev dktX0_next_8 : List UInt8 := dkwX0_next_8 ++ dktX0_next_9
def dkwX0_next_7 : List UInt8 := [182, 0, 31, 96, 16, 48, 100, 181, 0, 45, 42, 89, 180, 0, 28, 4, 96, 181, 0, 28, 167, 255, 195, 27]
abbrev dktX0_next_7 : List UInt8 := dkwX0_next_7 ++ dktX0_next_8
def dkwX0_next_6 : List UInt8 := [180, 0, 14, 100, 16, 9, 162, 0, 159, 42, 16, 10, 42, 180, 0, 45, 104, 42, 42, 180, 0, 28]
abbrev dktX0_next_6 : List UInt8 := dkwX0_next_6 ++ dktX0_next_7
def dkwX0_next_5 : List UInt8 := [181, 0, 45, 42, 42, 180, 0, 28, 182, 0, 31, 184, 0, 42, 153, 0, 173, 42, 180, 0, 28, 42]
abbrev dktX0_next_5 : List UInt8 := dkwX0_next_5 ++ dktX0_next_6
def dkwX0_next_4 : List UInt8 := [96, 181, 0, 28, 167, 255, 232, 27, 184, 0, 42, 153, 0, 80, 42, 5, 181, 0, 35, 42, 27, 16, 48, 100]
abbrev dktX0_next_4 : List UInt8 := dkwX0_next_4 ++ dktX0_next_5
def dkwX0_next_3 : List UInt8 := [4, 181, 0, 35, 42, 42, 180, 0, 28, 182, 0, 31, 184, 0, 38, 153, 0, 220, 42, 89, 180, 0, 28, 4]
abbrev dktX0_next_3 : List UInt8 := dkwX0_next_3 ++ dktX0_next_4
def dkwX0_next_2 : List UInt8 := [42, 3, 181, 0, 35, 177, 42, 89, 180, 0, 28, 4, 96, 181, 0, 28, 27, 184, 0, 38, 153, 0, 35, 42]
abbrev dktX0_next_2 : List UInt8 := dkwX0_next_2 ++ dktX0_next_3
def dkwX0_next_1 : List UInt8 := [167, 255, 233, 42, 42, 180, 0, 28, 181, 0, 14, 42, 42, 180, 0, 28, 182, 0, 31, 60, 27, 156, 0, 9]
abbrev dktX0_next_1 : List UInt8 := dkwX0_next_1 ++ dktX0_next_2
def dkwX0_next_0 : List UInt8 := [42, 42, 180, 0, 28, 182, 0, 31, 16, 32, 160, 0, 16, 42, 89, 180, 0, 28, 4, 96, 181, 0, 28]
abbrev dktX0_next_0 : List UInt8 := dkwX0_next_0 ++ dktX0_next_1
theorem dksX0_next_0 : cX0_next.data.toList.drop 0 = dktX0_next_0 := by decide +kernel
theorem dksX0_next_1 : cX0_next.data.toList.drop 23 = dktX0_next_1 := dk_seg dksX0_next_0 23 rfl rfl
theorem dksX0_next_2 : cX0_next.data.toList.drop 47 = dktX0_next_2 := dk_seg dksX0_next_1 24 rfl rfl
theorem dksX0_next_3 : cX0_next.data.toList.drop 71 = dktX0_next_3 := dk_seg dksX0_next_2 24 rfl rfl
theorem dksX0_next_4 : cX0_next.data.toList.drop 95 = dktX0_next_4 := dk_seg dksX0_next_3 24 rfl rfl
theorem dksX0_next_5 : cX0_next.data.toList.drop 119 = dktX0_next_5 := dk_seg dksX0_next_4 24 rfl rfl
theorem dksX0_next_6 : cX0_next.data.toList.drop 141 = dktX0_next_6 := dk_seg dksX0_next_5 22 rfl rfl
theorem dksX0_next_7 : cX0_next.data.toList.drop 163 = dktX0_next_7 := dk_seg dksX0_next_6 22 rfl rfl
theorem dksX0_next_8 : cX0_next.data.toList.drop 187 = dktX0_next_8 := dk_seg dksX0_next_7 24 rfl rfl
theorem dksX0_next_9 : cX0_next.data.toList.drop 211 = dktX0_next_9 := dk_seg dksX0_next_8 24 rfl rfl
theorem dksX0_next_10 : cX0_next.data.toList.drop 234 = dktX0_next_10 := dk_seg dksX0_next_9 23 rfl rfl
theorem dksX0_next_11 : cX0_next.data.toList.drop 258 = dktX0_next_11 := dk_seg dksX0_next_10 24 rfl rfl
theorem dksX0_next_12 : cX0_next.data.toList.drop 281 = dktX0_next_12 := dk_seg dksX0_next_11 23 rfl rfl
theorem dksX0_next_13 : cX0_next.data.toList.drop 303 = dktX0_next_13 := dk_seg dksX0_next_12 22 rfl rfl
theorem dX0_next_0 : decode cX0_next 0 = .ok (.aload_n 0, 1) := dk_42 (dk_at dksX0_next_0 0 rfl rfl)
theorem dX0_next_1 : decode cX0_next 1 = .ok (.aload_n 0, 1) := dk_42 (dk_at dksX0_next_0 1 rfl rfl)
theorem dX0_next_2 : decode cX0_next 2 = .ok (.getfield 28, 3) := dk_180 0 28 (dk_at dksX0_next_0 2 rfl rfl)
theorem dX0_next_5 : decode cX0_next 5 = .ok (.invokevirtual 31, 3) := dk_182 0 31 (dk_at dksX0_next_0 5 rfl rfl)
theorem dX0_next_8 : decode cX0_next 8 = .ok (.bipush 32, 2) := dk_16 32 (dk_at dksX0_next_0 8 rfl rfl)
theorem dX0_next_10 : decode cX0_next 10 = .ok (.if_icmp .ne 16, 3) := dk_160 0 16 (dk_at dksX0_next_0 10 rfl rfl)
theorem dX0_next_13 : decode cX0_next 13 = .ok (.aload_n 0, 1) := dk_42 (dk_at dksX0_next_0 13 rfl rfl)
theorem dX0_next_14 : decode cX0_next 14 = .ok (.dup, 1) := dk_89 (dk_at dksX0_next_0 14 rfl rfl)
theorem dX0_next_15 : decode cX0_next 15 = .ok (.getfield 28, 3) := dk_180 0 28 (dk_at dksX0_next_0 15 rfl rfl)
theorem dX0_next_18 : decode cX0_next 18 = .ok (.iconst 1, 1) := dk_4 (dk_at dksX0_next_0 18 rfl rfl)
theorem dX0_next_19 : decode cX0_next 19 = .ok (.iadd, 1) := dk_96 (dk_at dksX0_next_0 19 rfl rfl)
theorem dX0_next_20 : decode cX0_next 20 = .ok (.putfield 28, 3) := dk_181 0 28 (dk_at dksX0_next_0 20 rfl rfl)
theorem dX0_next_23 : decode cX0_next 23 = .ok (.goto (-23), 3) := dk_167 255 233 (dk_at dksX0_next_1 0 rfl rfl)
theorem dX0_next_26 : decode cX0_next 26 = .ok (.aload_n 0, 1) := dk_42 (dk_at dksX0_next_1 3 rfl rfl)
theorem dX0_next_27 : decode cX0_next 27 = .ok (.aload_n 0, 1) := dk_42 (dk_at dksX0_next_1 4 rfl rfl)
theorem dX0_next_28 : decode cX0_next 28 = .ok (.getfield 28, 3) := dk_180 0 28 (dk_at dksX0_next_1 5 rfl rfl)
theorem dX0_next_31 : decode cX0_next 31 = .ok (.putfield 14, 3) := dk_181 0 14 (dk_at dksX0_next_1 8 rfl rfl)
theorem dX0_next_34 : decode cX0_next 34 = .ok (.aload_n 0, 1) := dk_42 (dk_at dksX0_next_1 11 rfl rfl)
theorem dX0_next_35 : decode cX0_next 35 = .ok (.aload_n 0, 1) := dk_42 (dk_at dksX0_next_1 12 rfl rfl)
theorem dX0_next_36 : decode cX0_next 36 = .ok (.getfield 28, 3) := dk_180 0 28 (dk_at dksX0_next_1 13 rfl rfl)
theorem dX0_next_39 : decode cX0_next 39 = .ok (.invokevirtual 31, 3) := dk_182 0 31 (dk_at dksX0_next_1 16 rfl rfl)
theorem dX0_next_42 : decode cX0_next 42 = .ok (.istore_n 1, 1) := dk_60 (dk_at dksX0_next_1 19 rfl rfl)
theorem dX0_next_43 : decode cX0_next 43 = .ok (.iload_n 1, 1) := dk_27 (dk_at dksX0_next_1 20 rfl rfl)
theorem dX0_next_44 : decode cX0_next 44 = .ok (.ifCond .ge 9, 3) := dk_156 0 9 (dk_at dksX0_next_1 21 rfl rfl)
theorem dX0_next_47 : decode cX0_next 47 = .ok (.aload_n 0, 1) := dk_42 (dk_at dksX0_next_2 0 rfl rfl)
theorem dX0_next_48 : decode cX0_next 48 = .ok (.iconst 0, 1) := dk_3 (dk_at dksX0_next_2 1 rfl rfl)
theorem dX0_next_49 : decode cX0_next 49 = .ok (.putfield 35, 3) := dk_181 0 35 (dk_at dksX0_next_2 2 rfl rfl)
theorem dX0_next_52 : decode cX0_next 52 = .ok (.return_, 1) := dk_177 (dk_at dksX0_next_2 5 rfl rfl)
theorem dX0_next_53 : decode cX0_next 53 = .ok (.aload_n 0, 1) := dk_42 (dk_at dksX0_next_2 6 rfl rfl)
theorem dX0_next_54 : decode cX0_next 54 = .ok (.dup, 1) := dk_89 (dk_at dksX0_next_2 7 rfl rfl)
theorem dX0_next_55 : decode cX0_next 55 = .ok (.getfield 28, 3) := dk_180 0 28 (dk_at dksX0_next_2 8 rfl rfl)
theorem dX0_next_58 : decode cX0_next 58 = .ok (.iconst 1, 1) := dk_4 (dk_at dksX0_next_2 11 rfl rfl)
theorem dX0_next_59 : decode cX0_next 59 = .ok (.iadd, 1) := dk_96 (dk_at dksX0_next_2 12 rfl rfl)
theorem dX0_next_60 : decode cX0_next 60 = .ok (.putfield 28, 3) := dk_181 0 28 (dk_at dksX0_next_2 13 rfl rfl)
theorem dX0_next_63 : decode cX0_next 63 = .ok (.iload_n 1, 1) := dk_27 (dk_at dksX0_next_2 16 rfl rfl)
theorem dX0_next_64 : decode cX0_next 64 = .ok (.invokestatic 38, 3) := dk_184 0 38 (dk_at dksX0_next_2 17 rfl rfl)
theorem dX0_next_67 : decode cX0_next 67 = .ok (.ifCond .eq 35, 3) := dk_153 0 35 (dk_at dksX0_next_2 20 rfl rfl)
theorem dX0_next_70 : decode cX0_next 70 = .ok (.aload_n 0, 1) := dk_42 (dk_at dksX0_next_2 23 rfl rfl)
theorem dX0_next_71 : decode cX0_next 71 = .ok (.iconst 1, 1) := dk_4 (dk_at dksX0_next_3 0 rfl rfl)
theorem dX0_next_72 : decode cX0_next 72 = .ok (.putfield 35, 3) := dk_181 0 35 (dk_at dksX0_next_3 1 rfl rfl)
theorem dX0_next_75 : decode cX0_next 75 = .ok (.aload_n 0, 1) := dk_42 (dk_at dksX0_next_3 4 rfl rfl)
theorem dX0_next_76 : decode cX0_next 76 = .ok (.aload_n 0, 1) := dk_42 (dk_at dksX0_next_3 5 rfl rfl)
theorem dX0_next_77 : decode cX0_next 77 = .ok (.getfield 28, 3) := dk_180 0 28 (dk_at dksX0_next_3 6 rfl rfl)
theorem dX0_next_80 : decode cX0_next 80 = .ok (.invokevirtual 31, 3) := dk_182 0 31 (dk_at dksX0_next_3 9 rfl rfl)
theorem dX0_next_83 : decode cX0_next 83 = .ok (.invokestatic 38, 3) := dk_184 0 38 (dk_at dksX0_next_3 12 rfl rfl)
theorem dX0_next_86 : decode cX0_next 86 = .ok (.ifCond .eq 220, 3) := dk_153 0 220 (dk_at dksX0_next_3 15 rfl rfl)
theorem dX0_next_89 : decode cX0_next 89 = .ok (.aload_n 0, 1) := dk_42 (dk_at dksX0_next_3 18 rfl rfl)
theorem dX0_next_90 : decode cX0_next 90 = .ok (.dup, 1) := dk_89 (dk_at dksX0_next_3 19 rfl rfl)
theorem dX0_next_91 : decode cX0_next 91 = .ok (.getfield 28, 3) := dk_180 0 28 (dk_at dksX0_next_3 20 rfl rfl)
theorem dX0_next_94 : decode cX0_next 94 = .ok (.iconst 1, 1) := dk_4 (dk_at dksX0_next_3 23 rfl rfl)
theorem dX0_next_95 : decode cX0_next 95 = .ok (.iadd, 1) := dk_96 (dk_at dksX0_next_4 0 rfl rfl)
theorem dX0_next_96 : decode cX0_next 96 = .ok (.putfield 28, 3) := dk_181 0 28 (dk_at dksX0_next_4 1 rfl rfl)
theorem dX0_next_99 : decode cX0_next 99 = .ok (.goto (-24), 3) := dk_167 255 232 (dk_at dksX0_next_4 4 rfl rfl)
theorem dX0_next_102 : decode cX0_next 102 = .ok (.iload_n 1, 1) := dk_27 (dk_at dksX0_next_4 7 rfl rfl)
theorem dX0_next_103 : decode cX0_next 103 = .ok (.invokestatic 42, 3) := dk_184 0 42 (dk_at dksX0_next_4 8 rfl rfl)
theorem dX0_next_106 : decode cX0_next 106 = .ok (.ifCond .eq 80, 3) := dk_153 0 80 (dk_at dksX0_next_4 11 rfl rfl)
theorem dX0_next_109 : decode cX0_next 109 = .ok (.aload_n 0, 1) := dk_42 (dk_at dksX0_next_4 14 rfl rfl)
theorem dX0_next_110 : decode cX0_next 110 = .ok (.iconst 2, 1) := dk_5 (dk_at dksX0_next_4 15 rfl rfl)
theorem dX0_next_111 : decode cX0_next 111 = .ok (.putfield 35, 3) := dk_181 0 35 (dk_at dksX0_next_4 16 rfl rfl)
theorem dX0_next_114 : decode cX0_next 114 = .ok (.aload_n 0, 1) := dk_42 (dk_at dksX0_next_4 19 rfl rfl)
theorem dX0_next_115 : decode cX0_next 115 = .ok (.iload_n 1, 1) := dk_27 (dk_at dksX0_next_4 20 rfl rfl)
theorem dX0_next_116 : decode cX0_next 116 = .ok (.bipush 48, 2) := dk_16 48 (dk_at dksX0_next_4 21 rfl rfl)
theorem dX0_next_118 : decode cX0_next 118 = .ok (.isub, 1) := dk_100 (dk_at dksX0_next_4 23 rfl rfl)
theorem dX0_next_119 : decode cX0_next 119 = .ok (.putfield 45, 3) := dk_181 0 45 (dk_at dksX0_next_5 0 rfl rfl)
theorem dX0_next_122 : decode cX0_next 122 = .ok (.aload_n 0, 1) := dk_42 (dk_at dksX0_next_5 3 rfl rfl)
theorem dX0_next_123 : decode cX0_next 123 = .ok (.aload_n 0, 1) := dk_42 (dk_at dksX0_next_5 4 rfl rfl)
theorem dX0_next_124 : decode cX0_next 124 = .ok (.getfield 28, 3) := dk_180 0 28 (dk_at dksX0_next_5 5 rfl rfl)
theorem dX0_next_127 : decode cX0_next 127 = .ok (.invokevirtual 31, 3) := dk_182 0 31 (dk_at dksX0_next_5 8 rfl rfl)
theorem dX0_next_130 : decode cX0_next 130 = .ok (.invokestatic 42, 3) := dk_184 0 42 (dk_at dksX0_next_5 11 rfl rfl)
theorem dX0_next_133 : decode cX0_next 133 = .ok (.ifCond .eq 173, 3) := dk_153 0 173 (dk_at dksX0_next_5 14 rfl rfl)
theorem dX0_next_136 : decode cX0_next 136 = .ok (.aload_n 0, 1) := dk_42 (dk_at dksX0_next_5 17 rfl rfl)
theorem dX0_next_137 : decode cX0_next 137 = .ok (.getfield 28, 3) := dk_180 0 28 (dk_at dksX0_next_5 18 rfl rfl)
theorem dX0_next_140 : decode cX0_next 140 = .ok (.aload_n 0, 1) := dk_42 (dk_at dksX0_next_5 21 rfl rfl)
theorem dX0_next_141 : decode cX0_next 141 = .ok (.getfield 14, 3) := dk_180 0 14 (dk_at dksX0_next_6 0 rfl rfl)
theorem dX0_next_144 : decode cX0_next 144 = .ok (.isub, 1) := dk_100 (dk_at dksX0_next_6 3 rfl rfl)
theorem dX0_next_145 : decode cX0_next 145 = .ok (.bipush 9, 2) := dk_16 9 (dk_at dksX0_next_6 4 rfl rfl)
theorem dX0_next_147 : decode cX0_next 147 = .ok (.if_icmp .ge 159, 3) := dk_162 0 159 (dk_at dksX0_next_6 6 rfl rfl)
theorem dX0_next_150 : decode cX0_next 150 = .ok (.aload_n 0, 1) := dk_42 (dk_at dksX0_next_6 9 rfl rfl)
theorem dX0_next_151 : decode cX0_next 151 = .ok (.bipush 10, 2) := dk_16 10 (dk_at dksX0_next_6 10 rfl rfl)
theorem dX0_next_153 : decode cX0_next 153 = .ok (.aload_n 0, 1) := dk_42 (dk_at dksX0_next_6 12 rfl rfl)
theorem dX0_next_154 : decode cX0_next 154 = .ok (.getfield 45, 3) := dk_180 0 45 (dk_at dksX0_next_6 13 rfl rfl)
theorem dX0_next_157 : decode cX0_next 157 = .ok (.imul, 1) := dk_104 (dk_at dksX0_next_6 16 rfl rfl)
theorem dX0_next_158 : decode cX0_next 158 = .ok (.aload_n 0, 1) := dk_42 (dk_at dksX0_next_6 17 rfl rfl)
theorem dX0_next_159 : decode cX0_next 159 = .ok (.aload_n 0, 1) := dk_42 (dk_at dksX0_next_6 18 rfl rfl)
theorem dX0_next_160 : decode cX0_next 160 = .ok (.getfield 28, 3) := dk_180 0 28 (dk_at dksX0_next_6 19 rfl rfl)
theorem dX0_next_163 : decode cX0_next 163 = .ok (.invokevirtual 31, 3) := dk_182 0 31 (dk_at dksX0_next_7 0 rfl rfl)
theorem dX0_next_166 : decode cX0_next 166 = .ok (.iadd, 1) := dk_96 (dk_at dksX0_next_7 3 rfl rfl)
theorem dX0_next_167 : decode cX0_next 167 = .ok (.bipush 48, 2) := dk_16 48 (dk_at dksX0_next_7 4 rfl rfl)
theorem dX0_next_169 : decode cX0_next 169 = .ok (.isub, 1) := dk_100 (dk_at dksX0_next_7 6 rfl rfl)
theorem dX0_next_170 : decode cX0_next 170 = .ok (.putfield 45, 3) := dk_181 0 45 (dk_at dksX0_next_7 7 rfl rfl)
theorem dX0_next_173 : decode cX0_next 173 = .ok (.aload_n 0, 1) := dk_42 (dk_at dksX0_next_7 10 rfl rfl)
theorem dX0_next_174 : decode cX0_next 174 = .ok (.dup, 1) := dk_89 (dk_at dksX0_next_7 11 rfl rfl)
theorem dX0_next_175 : decode cX0_next 175 = .ok (.getfield 28, 3) := dk_180 0 28 (dk_at dksX0_next_7 12 rfl rfl)
theorem dX0_next_178 : decode cX0_next 178 = .ok (.iconst 1, 1) := dk_4 (dk_at dksX0_next_7 15 rfl rfl)
theorem dX0_next_179 : decode cX0_next 179 = .ok (.iadd, 1) := dk_96 (dk_at dksX0_next_7 16 rfl rfl)
theorem dX0_next_180 : decode cX0_next 180 = .ok (.putfield 28, 3) := dk_181 0 28 (dk_at dksX0_next_7 17 rfl rfl)
theorem dX0_next_183 : decode cX0_next 183 = .ok (.goto (-61), 3) := dk_167 255 195 (dk_at dksX0_next_7 20 rfl rfl)
theorem dX0_next_186 : decode cX0_next 186 = .ok (.iload_n 1, 1) := dk_27 (dk_at dksX0_next_7 23 rfl rfl)
theorem dX0_next_187 : decode cX0_next 187 = .ok (.bipush 65, 2) := dk_16 65 (dk_at dksX0_next_8 0 rfl rfl)
theorem dX0_next_189 : decode cX0_next 189 = .ok (.if_icmp .lt 17, 3) := dk_161 0 17 (dk_at dksX0_next_8 2 rfl rfl)
theorem dX0_next_192 : decode cX0_next 192 = .ok (.iload_n 1, 1) := dk_27 (dk_at dksX0_next_8 5 rfl rfl)
theorem dX0_next_193 : decode cX0_next 193 = .ok (.bipush 90, 2) := dk_16 90 (dk_at dksX0_next_8 6 rfl rfl)
theorem dX0_next_195 : decode cX0_next 195 = .ok (.if_icmp .gt 11, 3) := dk_163 0 11 (dk_at dksX0_next_8 8 rfl rfl)
theorem dX0_next_198 : decode cX0_next 198 = .ok (.aload_n 0, 1) := dk_42 (dk_at dksX0_next_8 11 rfl rfl)
theorem dX0_next_199 : decode cX0_next 199 = .ok (.iconst 3, 1) := dk_6 (dk_at dksX0_next_8 12 rfl rfl)
theorem dX0_next_200 : decode cX0_next 200 = .ok (.putfield 35, 3) := dk_181 0 35 (dk_at dksX0_next_8 13 rfl rfl)
theorem dX0_next_203 : decode cX0_next 203 = .ok (.goto 103, 3) := dk_167 0 103 (dk_at dksX0_next_8 16 rfl rfl)
theorem dX0_next_206 : decode cX0_next 206 = .ok (.aload_n 0, 1) := dk_42 (dk_at dksX0_next_8 19 rfl rfl)
theorem dX0_next_207 : decode cX0_next 207 = .ok (.aload_n 0, 1) := dk_42 (dk_at dksX0_next_8 20 rfl rfl)
theorem dX0_next_208 : decode cX0_next 208 = .ok (.getfield 28, 3) := dk_180 0 28 (dk_at dksX0_next_8 21 rfl rfl)
theorem dX0_next_211 : decode cX0_next 211 = .ok (.invokevirtual 31, 3) := dk_182 0 31 (dk_at dksX0_next_9 0 rfl rfl)
theorem dX0_next_214 : decode cX0_next 214 = .ok (.istore_n 2, 1) := dk_61 (dk_at dksX0_next_9 3 rfl rfl)
theorem dX0_next_215 : decode cX0_next 215 = .ok (.iload_n 2, 1) := dk_28 (dk_at dksX0_next_9 4 rfl rfl)
theorem dX0_next_216 : decode cX0_next 216 = .ok (.bipush 61, 2) := dk_16 61 (dk_at dksX0_next_9 5 rfl rfl)
theorem dX0_next_218 : decode cX0_next 218 = .ok (.if_icmp .ne 21, 3) := dk_160 0 21 (dk_at dksX0_next_9 7 rfl rfl)
theorem dX0_next_221 : decode cX0_next 221 = .ok (.iload_n 1, 1) := dk_27 (dk_at dksX0_next_9 10 rfl rfl)
theorem dX0_next_222 : decode cX0_next 222 = .ok (.bipush 43, 2) := dk_16 43 (dk_at dksX0_next_9 11 rfl rfl)
theorem dX0_next_224 : decode cX0_next 224 = .ok (.if_icmp .eq 45, 3) := dk_159 0 45 (dk_at dksX0_next_9 13 rfl rfl)
theorem dX0_next_227 : decode cX0_next 227 = .ok (.iload_n 1, 1) := dk_27 (dk_at dksX0_next_9 16 rfl rfl)
theorem dX0_next_228 : decode cX0_next 228 = .ok (.bipush 45, 2) := dk_16 45 (dk_at dksX0_next_9 17 rfl rfl)
theorem dX0_next_230 : decode cX0_next 230 = .ok (.if_icmp .eq 39, 3) := dk_159 0 39 (dk_at dksX0_next_9 19 rfl rfl)
theorem dX0_next_233 : decode cX0_next 233 = .ok (.iload_n 1, 1) := dk_27 (dk_at dksX0_next_9 22 rfl rfl)
theorem dX0_next_234 : decode cX0_next 234 = .ok (.bipush 94, 2) := dk_16 94 (dk_at dksX0_next_10 0 rfl rfl)
theorem dX0_next_236 : decode cX0_next 236 = .ok (.if_icmp .eq 33, 3) := dk_159 0 33 (dk_at dksX0_next_10 2 rfl rfl)
theorem dX0_next_239 : decode cX0_next 239 = .ok (.iload_n 1, 1) := dk_27 (dk_at dksX0_next_10 5 rfl rfl)
theorem dX0_next_240 : decode cX0_next 240 = .ok (.bipush 60, 2) := dk_16 60 (dk_at dksX0_next_10 6 rfl rfl)
theorem dX0_next_242 : decode cX0_next 242 = .ok (.if_icmp .ne 15, 3) := dk_160 0 15 (dk_at dksX0_next_10 8 rfl rfl)
theorem dX0_next_245 : decode cX0_next 245 = .ok (.iload_n 2, 1) := dk_28 (dk_at dksX0_next_10 11 rfl rfl)
theorem dX0_next_246 : decode cX0_next 246 = .ok (.bipush 62, 2) := dk_16 62 (dk_at dksX0_next_10 12 rfl rfl)
theorem dX0_next_248 : decode cX0_next 248 = .ok (.if_icmp .eq 21, 3) := dk_159 0 21 (dk_at dksX0_next_10 14 rfl rfl)
theorem dX0_next_251 : decode cX0_next 251 = .ok (.iload_n 2, 1) := dk_28 (dk_at dksX0_next_10 17 rfl rfl)
theorem dX0_next_252 : decode cX0_next 252 = .ok (.bipush 60, 2) := dk_16 60 (dk_at dksX0_next_10 18 rfl rfl)
theorem dX0_next_254 : decode cX0_next 254 = .ok (.if_icmp .eq 15, 3) := dk_159 0 15 (dk_at dksX0_next_10 20 rfl rfl)
theorem dX0_next_257 : decode cX0_next 257 = .ok (.iload_n 1, 1) := dk_27 (dk_at dksX0_next_10 23 rfl rfl)
theorem dX0_next_258 : decode cX0_next 258 = .ok (.bipush 62, 2) := dk_16 62 (dk_at dksX0_next_11 0 rfl rfl)
theorem dX0_next_260 : decode cX0_next 260 = .ok (.if_icmp .ne 13, 3) := dk_160 0 13 (dk_at dksX0_next_11 2 rfl rfl)
theorem dX0_next_263 : decode cX0_next 263 = .ok (.iload_n 2, 1) := dk_28 (dk_at dksX0_next_11 5 rfl rfl)
theorem dX0_next_264 : decode cX0_next 264 = .ok (.bipush 62, 2) := dk_16 62 (dk_at dksX0_next_11 6 rfl rfl)
theorem dX0_next_266 : decode cX0_next 266 = .ok (.if_icmp .ne 7, 3) := dk_160 0 7 (dk_at dksX0_next_11 8 rfl rfl)
theorem dX0_next_269 : decode cX0_next 269 = .ok (.iconst 1, 1) := dk_4 (dk_at dksX0_next_11 11 rfl rfl)
theorem dX0_next_270 : decode cX0_next 270 = .ok (.goto 4, 3) := dk_167 0 4 (dk_at dksX0_next_11 12 rfl rfl)
theorem dX0_next_273 : decode cX0_next 273 = .ok (.iconst 0, 1) := dk_3 (dk_at dksX0_next_11 15 rfl rfl)
theorem dX0_next_274 : decode cX0_next 274 = .ok (.istore_n 3, 1) := dk_62 (dk_at dksX0_next_11 16 rfl rfl)
theorem dX0_next_275 : decode cX0_next 275 = .ok (.aload_n 0, 1) := dk_42 (dk_at dksX0_next_11 17 rfl rfl)
theorem dX0_next_276 : decode cX0_next 276 = .ok (.iload_n 3, 1) := dk_29 (dk_at dksX0_next_11 18 rfl rfl)
theorem dX0_next_277 : decode cX0_next 277 = .ok (.ifCond .eq 7, 3) := dk_153 0 7 (dk_at dksX0_next_11 19 rfl rfl)
theorem dX0_next_280 : decode cX0_next 280 = .ok (.iconst 5, 1) := dk_8 (dk_at dksX0_next_11 22 rfl rfl)
theorem dX0_next_281 : decode cX0_next 281 = .ok (.goto 4, 3) := dk_167 0 4 (dk_at dksX0_next_12 0 rfl rfl)
theorem dX0_next_284 : decode cX0_next 284 = .ok (.iconst 4, 1) := dk_7 (dk_at dksX0_next_12 3 rfl rfl)
theorem dX0_next_285 : decode cX0_next 285 = .ok (.putfield 35, 3) := dk_181 0 35 (dk_at dksX0_next_12 4 rfl rfl)
theorem dX0_next_288 : decode cX0_next 288 = .ok (.aload_n 0, 1) := dk_42 (dk_at dksX0_next_12 7 rfl rfl)
theorem dX0_next_289 : decode cX0_next 289 = .ok (.dup, 1) := dk_89 (dk_at dksX0_next_12 8 rfl rfl)
theorem dX0_next_290 : decode cX0_next 290 = .ok (.getfield 28, 3) := dk_180 0 28 (dk_at dksX0_next_12 9 rfl rfl)
theorem dX0_next_293 : decode cX0_next 293 = .ok (.iload_n 3, 1) := dk_29 (dk_at dksX0_next_12 12 rfl rfl)
theorem dX0_next_294 : decode cX0_next 294 = .ok (.ifCond .eq 7, 3) := dk_153 0 7 (dk_at dksX0_next_12 13 rfl rfl)
theorem dX0_next_297 : decode cX0_next 297 = .ok (.iconst 1, 1) := dk_4 (dk_at dksX0_next_12 16 rfl rfl)
theorem dX0_next_298 : decode cX0_next 298 = .ok (.goto 4, 3) := dk_167 0 4 (dk_at dksX0_next_12 17 rfl rfl)
theorem dX0_next_301 : decode cX0_next 301 = .ok (.iconst 0, 1) := dk_3 (dk_at dksX0_next_12 20 rfl rfl)
theorem dX0_next_302 : decode cX0_next 302 = .ok (.iadd, 1) := dk_96 (dk_at dksX0_next_12 21 rfl rfl)
theorem dX0_next_303 : decode cX0_next 303 = .ok (.putfield 28, 3) := dk_181 0 28 (dk_at dksX0_next_13 0 rfl rfl)
theorem dX0_next_306 : decode cX0_next 306 = .ok (.return_, 1) := dk_177 (dk_at dksX0_next_13 3 rfl rfl)
abbrev cX0_byteAt : ByteArray := prog_1_method_6_code
def yX0_byteAt : MethodName := ⟨RX0, "byteAt", "(I)I"⟩
def dkwX0_byteAt_0 : List UInt8 := [27, 42, 180, 0, 21, 162, 0, 12, 42, 180, 0, 24, 27, 51, 167, 0, 4, 2, 172]
abbrev dktX0_byteAt_0 : List UInt8 := dkwX0_byteAt_0 ++ []
theorem dksX0_byteAt_0 : cX0_byteAt.data.toList.drop 0 = dktX0_byteAt_0 := by decide +kernel
theorem dX0_byteAt_0 : decode cX0_byteAt 0 = .ok (.iload_n 1, 1) := dk_27 (dk_at dksX0_byteAt_0 0 rfl rfl)
theorem dX0_byteAt_1 : decode cX0_byteAt 1 = .ok (.aload_n 0, 1) := dk_42 (dk_at dksX0_byteAt_0 1 rfl rfl)
theorem dX0_byteAt_2 : decode cX0_byteAt 2 = .ok (.getfield 21, 3) := dk_180 0 21 (dk_at dksX0_byteAt_0 2 rfl rfl)
theorem dX0_byteAt_5 : decode cX0_byteAt 5 = .ok (.if_icmp .ge 12, 3) := dk_162 0 12 (dk_at dksX0_byteAt_0 5 rfl rfl)
theorem dX0_byteAt_8 : decode cX0_byteAt 8 = .ok (.aload_n 0, 1) := dk_42 (dk_at dksX0_byteAt_0 8 rfl rfl)
theorem dX0_byteAt_9 : decode cX0_byteAt 9 = .ok (.getfield 24, 3) := dk_180 0 24 (dk_at dksX0_byteAt_0 9 rfl rfl)
theorem dX0_byteAt_12 : decode cX0_byteAt 12 = .ok (.iload_n 1, 1) := dk_27 (dk_at dksX0_byteAt_0 12 rfl rfl)
theorem dX0_byteAt_13 : decode cX0_byteAt 13 = .ok (.baload, 1) := dk_51 (dk_at dksX0_byteAt_0 13 rfl rfl)
theorem dX0_byteAt_14 : decode cX0_byteAt 14 = .ok (.goto 4, 3) := dk_167 0 4 (dk_at dksX0_byteAt_0 14 rfl rfl)
theorem dX0_byteAt_17 : decode cX0_byteAt 17 = .ok (.iconst (-1), 1) := dk_2 (dk_at dksX0_byteAt_0 17 rfl rfl)
theorem dX0_byteAt_18 : decode cX0_byteAt 18 = .ok (.ireturn, 1) := dk_172 (dk_at dksX0_byteAt_0 18 rfl rfl)
abbrev cX0_isSmall : ByteArray := prog_1_method_7_code
def yX0_isSmall : MethodName := ⟨RX0, "isSmall", "(I)Z"⟩
def dkwX0_isSmall_0 : List UInt8 := [26, 16, 97, 161, 0, 13, 26, 16, 122, 163, 0, 7, 4, 167, 0, 4, 3, 172]
abbrev dktX0_isSmall_0 : List UInt8 := dkwX0_isSmall_0 ++ []
theorem dksX0_isSmall_0 : cX0_isSmall.data.toList.drop 0 = dktX0_isSmall_0 := by decide +kernel
theorem dX0_isSmall_0 : decode cX0_isSmall 0 = .ok (.iload_n 0, 1) := dk_26 (dk_at dksX0_isSmall_0 0 rfl rfl)
theorem dX0_isSmall_1 : decode cX0_isSmall 1 = .ok (.bipush 97, 2) := dk_16 97 (dk_at dksX0_isSmall_0 1 rfl rfl)
theorem dX0_isSmall_3 : decode cX0_isSmall 3 = .ok (.if_icmp .lt 13, 3) := dk_161 0 13 (dk_at dksX0_isSmall_0 3 rfl rfl)
theorem dX0_isSmall_6 : decode cX0_isSmall 6 = .ok (.iload_n 0, 1) := dk_26 (dk_at dksX0_isSmall_0 6 rfl rfl)
theorem dX0_isSmall_7 : decode cX0_isSmall 7 = .ok (.bipush 122, 2) := dk_16 122 (dk_at dksX0_isSmall_0 7 rfl rfl)
theorem dX0_isSmall_9 : decode cX0_isSmall 9 = .ok (.if_icmp .gt 7, 3) := dk_163 0 7 (dk_at dksX0_isSmall_0 9 rfl rfl)
theorem dX0_isSmall_12 : decode cX0_isSmall 12 = .ok (.iconst 1, 1) := dk_4 (dk_at dksX0_isSmall_0 12 rfl rfl)
theorem dX0_isSmall_13 : decode cX0_isSmall 13 = .ok (.goto 4, 3) := dk_167 0 4 (dk_at dksX0_isSmall_0 13 rfl rfl)
theorem dX0_isSmall_16 : decode cX0_isSmall 16 = .ok (.iconst 0, 1) := dk_3 (dk_at dksX0_isSmall_0 16 rfl rfl)
theorem dX0_isSmall_17 : decode cX0_isSmall 17 = .ok (.ireturn, 1) := dk_172 (dk_at dksX0_isSmall_0 17 rfl rfl)
abbrev cX0_isDigit : ByteArray := prog_1_method_8_code
def yX0_isDigit : MethodName := ⟨RX0, "isDigit", "(I)Z"⟩
def dkwX0_isDigit_0 : List UInt8 := [26, 16, 48, 161, 0, 13, 26, 16, 57, 163, 0, 7, 4, 167, 0, 4, 3, 172]
abbrev dktX0_isDigit_0 : List UInt8 := dkwX0_isDigit_0 ++ []
theorem dksX0_isDigit_0 : cX0_isDigit.data.toList.drop 0 = dktX0_isDigit_0 := by decide +kernel
theorem dX0_isDigit_0 : decode cX0_isDigit 0 = .ok (.iload_n 0, 1) := dk_26 (dk_at dksX0_isDigit_0 0 rfl rfl)
theorem dX0_isDigit_1 : decode cX0_isDigit 1 = .ok (.bipush 48, 2) := dk_16 48 (dk_at dksX0_isDigit_0 1 rfl rfl)
theorem dX0_isDigit_3 : decode cX0_isDigit 3 = .ok (.if_icmp .lt 13, 3) := dk_161 0 13 (dk_at dksX0_isDigit_0 3 rfl rfl)
theorem dX0_isDigit_6 : decode cX0_isDigit 6 = .ok (.iload_n 0, 1) := dk_26 (dk_at dksX0_isDigit_0 6 rfl rfl)
theorem dX0_isDigit_7 : decode cX0_isDigit 7 = .ok (.bipush 57, 2) := dk_16 57 (dk_at dksX0_isDigit_0 7 rfl rfl)
theorem dX0_isDigit_9 : decode cX0_isDigit 9 = .ok (.if_icmp .gt 7, 3) := dk_163 0 7 (dk_at dksX0_isDigit_0 9 rfl rfl)
theorem dX0_isDigit_12 : decode cX0_isDigit 12 = .ok (.iconst 1, 1) := dk_4 (dk_at dksX0_isDigit_0 12 rfl rfl)
theorem dX0_isDigit_13 : decode cX0_isDigit 13 = .ok (.goto 4, 3) := dk_167 0 4 (dk_at dksX0_isDigit_0 13 rfl rfl)
theorem dX0_isDigit_16 : decode cX0_isDigit 16 = .ok (.iconst 0, 1) := dk_3 (dk_at dksX0_isDigit_0 16 rfl rfl)
theorem dX0_isDigit_17 : decode cX0_isDigit 17 = .ok (.ireturn, 1) := dk_172 (dk_at dksX0_isDigit_0 17 rfl rfl)
abbrev cX0_steps : ByteArray := prog_1_method_28_code
def yX0_steps : MethodName := ⟨RX0, "steps", "(I)LThereAndBack$Part;"⟩
def dkwX0_steps_5 : List UInt8 := [182, 0, 171, 185, 0, 175, 2, 0, 87, 167, 255, 139, 44, 176]
abbrev dktX0_steps_5 : List UInt8 := dkwX0_steps_5 ++ []
def dkwX0_steps_4 : List UInt8 := [182, 0, 17, 191, 42, 29, 153, 0, 7, 4, 167, 0, 4, 3, 181, 0, 165, 44, 180, 0, 168, 42, 27]
abbrev dktX0_steps_4 : List UInt8 := dkwX0_steps_4 ++ dktX0_steps_5
def dkwX0_steps_3 : List UInt8 := [180, 0, 165, 4, 160, 0, 7, 4, 167, 0, 4, 3, 29, 159, 0, 14, 42, 16, 6, 42, 180, 0, 14]
abbrev dktX0_steps_3 : List UInt8 := dkwX0_steps_3 ++ dktX0_steps_4
def dkwX0_steps_2 : List UInt8 := [42, 18, 163, 182, 0, 69, 153, 0, 7, 4, 167, 0, 4, 3, 62, 42, 180, 0, 165, 155, 0, 31, 42]
abbrev dktX0_steps_2 : List UInt8 := dkwX0_steps_2 ++ dktX0_steps_3
def dkwX0_steps_1 : List UInt8 := [182, 0, 156, 153, 0, 102, 42, 18, 159, 182, 0, 69, 154, 0, 21, 42, 18, 161, 182, 0, 69, 154, 0, 12]
abbrev dktX0_steps_1 : List UInt8 := dkwX0_steps_1 ++ dktX0_steps_2
def dkwX0_steps_0 : List UInt8 := [187, 0, 152, 89, 183, 0, 154, 77, 42, 182, 0, 73, 154, 0, 17, 42, 182, 0, 77, 154, 0, 10, 42]
abbrev dktX0_steps_0 : List UInt8 := dkwX0_steps_0 ++ dktX0_steps_1
theorem dksX0_steps_0 : cX0_steps.data.toList.drop 0 = dktX0_steps_0 := by decide +kernel
theorem dksX0_steps_1 : cX0_steps.data.toList.drop 23 = dktX0_steps_1 := dk_seg dksX0_steps_0 23 rfl rfl
theorem dksX0_steps_2 : cX0_steps.data.toList.drop 47 = dktX0_steps_2 := dk_seg dksX0_steps_1 24 rfl rfl
theorem dksX0_steps_3 : cX0_steps.data.toList.drop 70 = dktX0_steps_3 := dk_seg dksX0_steps_2 23 rfl rfl
theorem dksX0_steps_4 : cX0_steps.data.toList.drop 93 = dktX0_steps_4 := dk_seg dksX0_steps_3 23 rfl rfl
theorem dksX0_steps_5 : cX0_steps.data.toList.drop 116 = dktX0_steps_5 := dk_seg dksX0_steps_4 23 rfl rfl
theorem dX0_steps_0 : decode cX0_steps 0 = .ok (.new 152, 3) := dk_187 0 152 (dk_at dksX0_steps_0 0 rfl rfl)
theorem dX0_steps_3 : decode cX0_steps 3 = .ok (.dup, 1) := dk_89 (dk_at dksX0_steps_0 3 rfl rfl)
theorem dX0_steps_4 : decode cX0_steps 4 = .ok (.invokespecial 154, 3) := dk_183 0 154 (dk_at dksX0_steps_0 4 rfl rfl)
theorem dX0_steps_7 : decode cX0_steps 7 = .ok (.astore_n 2, 1) := dk_77 (dk_at dksX0_steps_0 7 rfl rfl)
theorem dX0_steps_8 : decode cX0_steps 8 = .ok (.aload_n 0, 1) := dk_42 (dk_at dksX0_steps_0 8 rfl rfl)
theorem dX0_steps_9 : decode cX0_steps 9 = .ok (.invokevirtual 73, 3) := dk_182 0 73 (dk_at dksX0_steps_0 9 rfl rfl)
theorem dX0_steps_12 : decode cX0_steps 12 = .ok (.ifCond .ne 17, 3) := dk_154 0 17 (dk_at dksX0_steps_0 12 rfl rfl)
theorem dX0_steps_15 : decode cX0_steps 15 = .ok (.aload_n 0, 1) := dk_42 (dk_at dksX0_steps_0 15 rfl rfl)
theorem dX0_steps_16 : decode cX0_steps 16 = .ok (.invokevirtual 77, 3) := dk_182 0 77 (dk_at dksX0_steps_0 16 rfl rfl)
theorem dX0_steps_19 : decode cX0_steps 19 = .ok (.ifCond .ne 10, 3) := dk_154 0 10 (dk_at dksX0_steps_0 19 rfl rfl)
theorem dX0_steps_22 : decode cX0_steps 22 = .ok (.aload_n 0, 1) := dk_42 (dk_at dksX0_steps_0 22 rfl rfl)
theorem dX0_steps_23 : decode cX0_steps 23 = .ok (.invokevirtual 156, 3) := dk_182 0 156 (dk_at dksX0_steps_1 0 rfl rfl)
theorem dX0_steps_26 : decode cX0_steps 26 = .ok (.ifCond .eq 102, 3) := dk_153 0 102 (dk_at dksX0_steps_1 3 rfl rfl)
theorem dX0_steps_29 : decode cX0_steps 29 = .ok (.aload_n 0, 1) := dk_42 (dk_at dksX0_steps_1 6 rfl rfl)
theorem dX0_steps_30 : decode cX0_steps 30 = .ok (.ldc 159, 2) := dk_18 159 (dk_at dksX0_steps_1 7 rfl rfl)
theorem dX0_steps_32 : decode cX0_steps 32 = .ok (.invokevirtual 69, 3) := dk_182 0 69 (dk_at dksX0_steps_1 9 rfl rfl)
theorem dX0_steps_35 : decode cX0_steps 35 = .ok (.ifCond .ne 21, 3) := dk_154 0 21 (dk_at dksX0_steps_1 12 rfl rfl)
theorem dX0_steps_38 : decode cX0_steps 38 = .ok (.aload_n 0, 1) := dk_42 (dk_at dksX0_steps_1 15 rfl rfl)
theorem dX0_steps_39 : decode cX0_steps 39 = .ok (.ldc 161, 2) := dk_18 161 (dk_at dksX0_steps_1 16 rfl rfl)
theorem dX0_steps_41 : decode cX0_steps 41 = .ok (.invokevirtual 69, 3) := dk_182 0 69 (dk_at dksX0_steps_1 18 rfl rfl)
theorem dX0_steps_44 : decode cX0_steps 44 = .ok (.ifCond .ne 12, 3) := dk_154 0 12 (dk_at dksX0_steps_1 21 rfl rfl)
theorem dX0_steps_47 : decode cX0_steps 47 = .ok (.aload_n 0, 1) := dk_42 (dk_at dksX0_steps_2 0 rfl rfl)
theorem dX0_steps_48 : decode cX0_steps 48 = .ok (.ldc 163, 2) := dk_18 163 (dk_at dksX0_steps_2 1 rfl rfl)
theorem dX0_steps_50 : decode cX0_steps 50 = .ok (.invokevirtual 69, 3) := dk_182 0 69 (dk_at dksX0_steps_2 3 rfl rfl)
theorem dX0_steps_53 : decode cX0_steps 53 = .ok (.ifCond .eq 7, 3) := dk_153 0 7 (dk_at dksX0_steps_2 6 rfl rfl)
theorem dX0_steps_56 : decode cX0_steps 56 = .ok (.iconst 1, 1) := dk_4 (dk_at dksX0_steps_2 9 rfl rfl)
theorem dX0_steps_57 : decode cX0_steps 57 = .ok (.goto 4, 3) := dk_167 0 4 (dk_at dksX0_steps_2 10 rfl rfl)
theorem dX0_steps_60 : decode cX0_steps 60 = .ok (.iconst 0, 1) := dk_3 (dk_at dksX0_steps_2 13 rfl rfl)
theorem dX0_steps_61 : decode cX0_steps 61 = .ok (.istore_n 3, 1) := dk_62 (dk_at dksX0_steps_2 14 rfl rfl)
theorem dX0_steps_62 : decode cX0_steps 62 = .ok (.aload_n 0, 1) := dk_42 (dk_at dksX0_steps_2 15 rfl rfl)
theorem dX0_steps_63 : decode cX0_steps 63 = .ok (.getfield 165, 3) := dk_180 0 165 (dk_at dksX0_steps_2 16 rfl rfl)
theorem dX0_steps_66 : decode cX0_steps 66 = .ok (.ifCond .lt 31, 3) := dk_155 0 31 (dk_at dksX0_steps_2 19 rfl rfl)
theorem dX0_steps_69 : decode cX0_steps 69 = .ok (.aload_n 0, 1) := dk_42 (dk_at dksX0_steps_2 22 rfl rfl)
theorem dX0_steps_70 : decode cX0_steps 70 = .ok (.getfield 165, 3) := dk_180 0 165 (dk_at dksX0_steps_3 0 rfl rfl)
theorem dX0_steps_73 : decode cX0_steps 73 = .ok (.iconst 1, 1) := dk_4 (dk_at dksX0_steps_3 3 rfl rfl)
theorem dX0_steps_74 : decode cX0_steps 74 = .ok (.if_icmp .ne 7, 3) := dk_160 0 7 (dk_at dksX0_steps_3 4 rfl rfl)
theorem dX0_steps_77 : decode cX0_steps 77 = .ok (.iconst 1, 1) := dk_4 (dk_at dksX0_steps_3 7 rfl rfl)
theorem dX0_steps_78 : decode cX0_steps 78 = .ok (.goto 4, 3) := dk_167 0 4 (dk_at dksX0_steps_3 8 rfl rfl)
theorem dX0_steps_81 : decode cX0_steps 81 = .ok (.iconst 0, 1) := dk_3 (dk_at dksX0_steps_3 11 rfl rfl)
theorem dX0_steps_82 : decode cX0_steps 82 = .ok (.iload_n 3, 1) := dk_29 (dk_at dksX0_steps_3 12 rfl rfl)
theorem dX0_steps_83 : decode cX0_steps 83 = .ok (.if_icmp .eq 14, 3) := dk_159 0 14 (dk_at dksX0_steps_3 13 rfl rfl)
theorem dX0_steps_86 : decode cX0_steps 86 = .ok (.aload_n 0, 1) := dk_42 (dk_at dksX0_steps_3 16 rfl rfl)
theorem dX0_steps_87 : decode cX0_steps 87 = .ok (.bipush 6, 2) := dk_16 6 (dk_at dksX0_steps_3 17 rfl rfl)
theorem dX0_steps_89 : decode cX0_steps 89 = .ok (.aload_n 0, 1) := dk_42 (dk_at dksX0_steps_3 19 rfl rfl)
theorem dX0_steps_90 : decode cX0_steps 90 = .ok (.getfield 14, 3) := dk_180 0 14 (dk_at dksX0_steps_3 20 rfl rfl)
theorem dX0_steps_93 : decode cX0_steps 93 = .ok (.invokevirtual 17, 3) := dk_182 0 17 (dk_at dksX0_steps_4 0 rfl rfl)
theorem dX0_steps_96 : decode cX0_steps 96 = .ok (.athrow, 1) := dk_191 (dk_at dksX0_steps_4 3 rfl rfl)
theorem dX0_steps_97 : decode cX0_steps 97 = .ok (.aload_n 0, 1) := dk_42 (dk_at dksX0_steps_4 4 rfl rfl)
theorem dX0_steps_98 : decode cX0_steps 98 = .ok (.iload_n 3, 1) := dk_29 (dk_at dksX0_steps_4 5 rfl rfl)
theorem dX0_steps_99 : decode cX0_steps 99 = .ok (.ifCond .eq 7, 3) := dk_153 0 7 (dk_at dksX0_steps_4 6 rfl rfl)
theorem dX0_steps_102 : decode cX0_steps 102 = .ok (.iconst 1, 1) := dk_4 (dk_at dksX0_steps_4 9 rfl rfl)
theorem dX0_steps_103 : decode cX0_steps 103 = .ok (.goto 4, 3) := dk_167 0 4 (dk_at dksX0_steps_4 10 rfl rfl)
theorem dX0_steps_106 : decode cX0_steps 106 = .ok (.iconst 0, 1) := dk_3 (dk_at dksX0_steps_4 13 rfl rfl)
theorem dX0_steps_107 : decode cX0_steps 107 = .ok (.putfield 165, 3) := dk_181 0 165 (dk_at dksX0_steps_4 14 rfl rfl)
theorem dX0_steps_110 : decode cX0_steps 110 = .ok (.aload_n 2, 1) := dk_44 (dk_at dksX0_steps_4 17 rfl rfl)
theorem dX0_steps_111 : decode cX0_steps 111 = .ok (.getfield 168, 3) := dk_180 0 168 (dk_at dksX0_steps_4 18 rfl rfl)
theorem dX0_steps_114 : decode cX0_steps 114 = .ok (.aload_n 0, 1) := dk_42 (dk_at dksX0_steps_4 21 rfl rfl)
theorem dX0_steps_115 : decode cX0_steps 115 = .ok (.iload_n 1, 1) := dk_27 (dk_at dksX0_steps_4 22 rfl rfl)
theorem dX0_steps_116 : decode cX0_steps 116 = .ok (.invokevirtual 171, 3) := dk_182 0 171 (dk_at dksX0_steps_5 0 rfl rfl)
theorem dX0_steps_119 : decode cX0_steps 119 = .ok (.invokeinterface 175 2, 5) := by decide +kernel
theorem dX0_steps_124 : decode cX0_steps 124 = .ok (.pop, 1) := dk_87 (dk_at dksX0_steps_5 8 rfl rfl)
theorem dX0_steps_125 : decode cX0_steps 125 = .ok (.goto (-117), 3) := dk_167 255 139 (dk_at dksX0_steps_5 9 rfl rfl)
theorem dX0_steps_128 : decode cX0_steps 128 = .ok (.aload_n 2, 1) := dk_44 (dk_at dksX0_steps_5 12 rfl rfl)
theorem dX0_steps_129 : decode cX0_steps 129 = .ok (.areturn, 1) := dk_176 (dk_at dksX0_steps_5 13 rfl rfl)
abbrev cX0_isNameToken : ByteArray := prog_1_method_13_code
def yX0_isNameToken : MethodName := ⟨RX0, "isNameToken", "()Z"⟩
def dkwX0_isNameToken_1 : List UInt8 := [167, 0, 4, 3, 172]
abbrev dktX0_isNameToken_1 : List UInt8 := dkwX0_isNameToken_1 ++ []
def dkwX0_isNameToken_0 : List UInt8 := [42, 180, 0, 35, 4, 160, 0, 20, 42, 180, 0, 28, 42, 180, 0, 14, 100, 4, 160, 0, 7, 4]
abbrev dktX0_isNameToken_0 : List UInt8 := dkwX0_isNameToken_0 ++ dktX0_isNameToken_1
theorem dksX0_isNameToken_0 : cX0_isNameToken.data.toList.drop 0 = dktX0_isNameToken_0 := by decide +kernel
theorem dksX0_isNameToken_1 : cX0_isNameToken.data.toList.drop 22 = dktX0_isNameToken_1 := dk_seg dksX0_isNameToken_0 22 rfl rfl
theorem dX0_isNameToken_0 : decode cX0_isNameToken 0 = .ok (.aload_n 0, 1) := dk_42 (dk_at dksX0_isNameToken_0 0 rfl rfl)
theorem dX0_isNameToken_1 : decode cX0_isNameToken 1 = .ok (.getfield 35, 3) := dk_180 0 35 (dk_at dksX0_isNameToken_0 1 rfl rfl)
theorem dX0_isNameToken_4 : decode cX0_isNameToken 4 = .ok (.iconst 1, 1) := dk_4 (dk_at dksX0_isNameToken_0 4 rfl rfl)
theorem dX0_isNameToken_5 : decode cX0_isNameToken 5 = .ok (.if_icmp .ne 20, 3) := dk_160 0 20 (dk_at dksX0_isNameToken_0 5 rfl rfl)
theorem dX0_isNameToken_8 : decode cX0_isNameToken 8 = .ok (.aload_n 0, 1) := dk_42 (dk_at dksX0_isNameToken_0 8 rfl rfl)
theorem dX0_isNameToken_9 : decode cX0_isNameToken 9 = .ok (.getfield 28, 3) := dk_180 0 28 (dk_at dksX0_isNameToken_0 9 rfl rfl)
theorem dX0_isNameToken_12 : decode cX0_isNameToken 12 = .ok (.aload_n 0, 1) := dk_42 (dk_at dksX0_isNameToken_0 12 rfl rfl)
theorem dX0_isNameToken_13 : decode cX0_isNameToken 13 = .ok (.getfield 14, 3) := dk_180 0 14 (dk_at dksX0_isNameToken_0 13 rfl rfl)
theorem dX0_isNameToken_16 : decode cX0_isNameToken 16 = .ok (.isub, 1) := dk_100 (dk_at dksX0_isNameToken_0 16 rfl rfl)
theorem dX0_isNameToken_17 : decode cX0_isNameToken 17 = .ok (.iconst 1, 1) := dk_4 (dk_at dksX0_isNameToken_0 17 rfl rfl)
theorem dX0_isNameToken_18 : decode cX0_isNameToken 18 = .ok (.if_icmp .ne 7, 3) := dk_160 0 7 (dk_at dksX0_isNameToken_0 18 rfl rfl)
theorem dX0_isNameToken_21 : decode cX0_isNameToken 21 = .ok (.iconst 1, 1) := dk_4 (dk_at dksX0_isNameToken_0 21 rfl rfl)
theorem dX0_isNameToken_22 : decode cX0_isNameToken 22 = .ok (.goto 4, 3) := dk_167 0 4 (dk_at dksX0_isNameToken_1 0 rfl rfl)
theorem dX0_isNameToken_25 : decode cX0_isNameToken 25 = .ok (.iconst 0, 1) := dk_3 (dk_at dksX0_isNameToken_1 3 rfl rfl)
theorem dX0_isNameToken_26 : decode cX0_isNameToken 26 = .ok (.ireturn, 1) := dk_172 (dk_at dksX0_isNameToken_1 4 rfl rfl)
abbrev cX0_isRowToken : ByteArray := prog_1_method_14_code
def yX0_isRowToken : MethodName := ⟨RX0, "isRowToken", "()Z"⟩
def dkwX0_isRowToken_1 : List UInt8 := [167, 0, 4, 3, 172]
abbrev dktX0_isRowToken_1 : List UInt8 := dkwX0_isRowToken_1 ++ []
def dkwX0_isRowToken_0 : List UInt8 := [42, 180, 0, 35, 6, 160, 0, 21, 42, 180, 0, 24, 42, 180, 0, 14, 51, 16, 70, 163, 0, 7, 4]
abbrev dktX0_isRowToken_0 : List UInt8 := dkwX0_isRowToken_0 ++ dktX0_isRowToken_1
theorem dksX0_isRowToken_0 : cX0_isRowToken.data.toList.drop 0 = dktX0_isRowToken_0 := by decide +kernel
theorem dksX0_isRowToken_1 : cX0_isRowToken.data.toList.drop 23 = dktX0_isRowToken_1 := dk_seg dksX0_isRowToken_0 23 rfl rfl
theorem dX0_isRowToken_0 : decode cX0_isRowToken 0 = .ok (.aload_n 0, 1) := dk_42 (dk_at dksX0_isRowToken_0 0 rfl rfl)
theorem dX0_isRowToken_1 : decode cX0_isRowToken 1 = .ok (.getfield 35, 3) := dk_180 0 35 (dk_at dksX0_isRowToken_0 1 rfl rfl)
theorem dX0_isRowToken_4 : decode cX0_isRowToken 4 = .ok (.iconst 3, 1) := dk_6 (dk_at dksX0_isRowToken_0 4 rfl rfl)
theorem dX0_isRowToken_5 : decode cX0_isRowToken 5 = .ok (.if_icmp .ne 21, 3) := dk_160 0 21 (dk_at dksX0_isRowToken_0 5 rfl rfl)
theorem dX0_isRowToken_8 : decode cX0_isRowToken 8 = .ok (.aload_n 0, 1) := dk_42 (dk_at dksX0_isRowToken_0 8 rfl rfl)
theorem dX0_isRowToken_9 : decode cX0_isRowToken 9 = .ok (.getfield 24, 3) := dk_180 0 24 (dk_at dksX0_isRowToken_0 9 rfl rfl)
theorem dX0_isRowToken_12 : decode cX0_isRowToken 12 = .ok (.aload_n 0, 1) := dk_42 (dk_at dksX0_isRowToken_0 12 rfl rfl)
theorem dX0_isRowToken_13 : decode cX0_isRowToken 13 = .ok (.getfield 14, 3) := dk_180 0 14 (dk_at dksX0_isRowToken_0 13 rfl rfl)
theorem dX0_isRowToken_16 : decode cX0_isRowToken 16 = .ok (.baload, 1) := dk_51 (dk_at dksX0_isRowToken_0 16 rfl rfl)
theorem dX0_isRowToken_17 : decode cX0_isRowToken 17 = .ok (.bipush 70, 2) := dk_16 70 (dk_at dksX0_isRowToken_0 17 rfl rfl)
theorem dX0_isRowToken_19 : decode cX0_isRowToken 19 = .ok (.if_icmp .gt 7, 3) := dk_163 0 7 (dk_at dksX0_isRowToken_0 19 rfl rfl)
theorem dX0_isRowToken_22 : decode cX0_isRowToken 22 = .ok (.iconst 1, 1) := dk_4 (dk_at dksX0_isRowToken_0 22 rfl rfl)
theorem dX0_isRowToken_23 : decode cX0_isRowToken 23 = .ok (.goto 4, 3) := dk_167 0 4 (dk_at dksX0_isRowToken_1 0 rfl rfl)
theorem dX0_isRowToken_26 : decode cX0_isRowToken 26 = .ok (.iconst 0, 1) := dk_3 (dk_at dksX0_isRowToken_1 3 rfl rfl)
theorem dX0_isRowToken_27 : decode cX0_isRowToken 27 = .ok (.ireturn, 1) := dk_172 (dk_at dksX0_isRowToken_1 4 rfl rfl)
abbrev cX0_isKey : ByteArray := prog_1_method_29_code
def yX0_isKey : MethodName := ⟨RX0, "isKey", "()Z"⟩
def dkwX0_isKey_5 : List UInt8 := [167, 0, 4, 3, 172]
abbrev dktX0_isKey_5 : List UInt8 := dkwX0_isKey_5 ++ []
def dkwX0_isKey_4 : List UInt8 := [154, 0, 21, 42, 18, 161, 182, 0, 69, 154, 0, 12, 42, 18, 163, 182, 0, 69, 153, 0, 7, 4]
abbrev dktX0_isKey_4 : List UInt8 := dkwX0_isKey_4 ++ dktX0_isKey_5
def dkwX0_isKey_3 : List UInt8 := [42, 18, 197, 182, 0, 69, 154, 0, 39, 42, 18, 199, 182, 0, 69, 154, 0, 30, 42, 18, 159, 182, 0, 69]
abbrev dktX0_isKey_3 : List UInt8 := dkwX0_isKey_3 ++ dktX0_isKey_4
def dkwX0_isKey_2 : List UInt8 := [182, 0, 69, 154, 0, 66, 42, 18, 193, 182, 0, 69, 154, 0, 57, 42, 18, 195, 182, 0, 69, 154, 0, 48]
abbrev dktX0_isKey_2 : List UInt8 := dkwX0_isKey_2 ++ dktX0_isKey_3
def dkwX0_isKey_1 : List UInt8 := [154, 0, 93, 42, 18, 187, 182, 0, 69, 154, 0, 84, 42, 18, 189, 182, 0, 69, 154, 0, 75, 42, 18, 191]
abbrev dktX0_isKey_1 : List UInt8 := dkwX0_isKey_1 ++ dktX0_isKey_2
def dkwX0_isKey_0 : List UInt8 := [42, 18, 181, 182, 0, 69, 154, 0, 111, 42, 18, 183, 182, 0, 69, 154, 0, 102, 42, 18, 185, 182, 0, 69]
abbrev dktX0_isKey_0 : List UInt8 := dkwX0_isKey_0 ++ dktX0_isKey_1
theorem dksX0_isKey_0 : cX0_isKey.data.toList.drop 0 = dktX0_isKey_0 := by decide +kernel
theorem dksX0_isKey_1 : cX0_isKey.data.toList.drop 24 = dktX0_isKey_1 := dk_seg dksX0_isKey_0 24 rfl rfl
theorem dksX0_isKey_2 : cX0_isKey.data.toList.drop 48 = dktX0_isKey_2 := dk_seg dksX0_isKey_1 24 rfl rfl
theorem dksX0_isKey_3 : cX0_isKey.data.toList.drop 72 = dktX0_isKey_3 := dk_seg dksX0_isKey_2 24 rfl rfl
theorem dksX0_isKey_4 : cX0_isKey.data.toList.drop 96 = dktX0_isKey_4 := dk_seg dksX0_isKey_3 24 rfl rfl
theorem dksX0_isKey_5 : cX0_isKey.data.toList.drop 118 = dktX0_isKey_5 := dk_seg dksX0_isKey_4 22 rfl rfl
theorem dX0_isKey_0 : decode cX0_isKey 0 = .ok (.aload_n 0, 1) := dk_42 (dk_at dksX0_isKey_0 0 rfl rfl)
theorem dX0_isKey_1 : decode cX0_isKey 1 = .ok (.ldc 181, 2) := dk_18 181 (dk_at dksX0_isKey_0 1 rfl rfl)
theorem dX0_isKey_3 : decode cX0_isKey 3 = .ok (.invokevirtual 69, 3) := dk_182 0 69 (dk_at dksX0_isKey_0 3 rfl rfl)
theorem dX0_isKey_6 : decode cX0_isKey 6 = .ok (.ifCond .ne 111, 3) := dk_154 0 111 (dk_at dksX0_isKey_0 6 rfl rfl)
theorem dX0_isKey_9 : decode cX0_isKey 9 = .ok (.aload_n 0, 1) := dk_42 (dk_at dksX0_isKey_0 9 rfl rfl)
theorem dX0_isKey_10 : decode cX0_isKey 10 = .ok (.ldc 183, 2) := dk_18 183 (dk_at dksX0_isKey_0 10 rfl rfl)
theorem dX0_isKey_12 : decode cX0_isKey 12 = .ok (.invokevirtual 69, 3) := dk_182 0 69 (dk_at dksX0_isKey_0 12 rfl rfl)
theorem dX0_isKey_15 : decode cX0_isKey 15 = .ok (.ifCond .ne 102, 3) := dk_154 0 102 (dk_at dksX0_isKey_0 15 rfl rfl)
theorem dX0_isKey_18 : decode cX0_isKey 18 = .ok (.aload_n 0, 1) := dk_42 (dk_at dksX0_isKey_0 18 rfl rfl)
theorem dX0_isKey_19 : decode cX0_isKey 19 = .ok (.ldc 185, 2) := dk_18 185 (dk_at dksX0_isKey_0 19 rfl rfl)
theorem dX0_isKey_21 : decode cX0_isKey 21 = .ok (.invokevirtual 69, 3) := dk_182 0 69 (dk_at dksX0_isKey_0 21 rfl rfl)
theorem dX0_isKey_24 : decode cX0_isKey 24 = .ok (.ifCond .ne 93, 3) := dk_154 0 93 (dk_at dksX0_isKey_1 0 rfl rfl)
theorem dX0_isKey_27 : decode cX0_isKey 27 = .ok (.aload_n 0, 1) := dk_42 (dk_at dksX0_isKey_1 3 rfl rfl)
theorem dX0_isKey_28 : decode cX0_isKey 28 = .ok (.ldc 187, 2) := dk_18 187 (dk_at dksX0_isKey_1 4 rfl rfl)
theorem dX0_isKey_30 : decode cX0_isKey 30 = .ok (.invokevirtual 69, 3) := dk_182 0 69 (dk_at dksX0_isKey_1 6 rfl rfl)
theorem dX0_isKey_33 : decode cX0_isKey 33 = .ok (.ifCond .ne 84, 3) := dk_154 0 84 (dk_at dksX0_isKey_1 9 rfl rfl)
theorem dX0_isKey_36 : decode cX0_isKey 36 = .ok (.aload_n 0, 1) := dk_42 (dk_at dksX0_isKey_1 12 rfl rfl)
theorem dX0_isKey_37 : decode cX0_isKey 37 = .ok (.ldc 189, 2) := dk_18 189 (dk_at dksX0_isKey_1 13 rfl rfl)
theorem dX0_isKey_39 : decode cX0_isKey 39 = .ok (.invokevirtual 69, 3) := dk_182 0 69 (dk_at dksX0_isKey_1 15 rfl rfl)
theorem dX0_isKey_42 : decode cX0_isKey 42 = .ok (.ifCond .ne 75, 3) := dk_154 0 75 (dk_at dksX0_isKey_1 18 rfl rfl)
theorem dX0_isKey_45 : decode cX0_isKey 45 = .ok (.aload_n 0, 1) := dk_42 (dk_at dksX0_isKey_1 21 rfl rfl)
theorem dX0_isKey_46 : decode cX0_isKey 46 = .ok (.ldc 191, 2) := dk_18 191 (dk_at dksX0_isKey_1 22 rfl rfl)
theorem dX0_isKey_48 : decode cX0_isKey 48 = .ok (.invokevirtual 69, 3) := dk_182 0 69 (dk_at dksX0_isKey_2 0 rfl rfl)
theorem dX0_isKey_51 : decode cX0_isKey 51 = .ok (.ifCond .ne 66, 3) := dk_154 0 66 (dk_at dksX0_isKey_2 3 rfl rfl)
theorem dX0_isKey_54 : decode cX0_isKey 54 = .ok (.aload_n 0, 1) := dk_42 (dk_at dksX0_isKey_2 6 rfl rfl)
theorem dX0_isKey_55 : decode cX0_isKey 55 = .ok (.ldc 193, 2) := dk_18 193 (dk_at dksX0_isKey_2 7 rfl rfl)
theorem dX0_isKey_57 : decode cX0_isKey 57 = .ok (.invokevirtual 69, 3) := dk_182 0 69 (dk_at dksX0_isKey_2 9 rfl rfl)
theorem dX0_isKey_60 : decode cX0_isKey 60 = .ok (.ifCond .ne 57, 3) := dk_154 0 57 (dk_at dksX0_isKey_2 12 rfl rfl)
theorem dX0_isKey_63 : decode cX0_isKey 63 = .ok (.aload_n 0, 1) := dk_42 (dk_at dksX0_isKey_2 15 rfl rfl)
theorem dX0_isKey_64 : decode cX0_isKey 64 = .ok (.ldc 195, 2) := dk_18 195 (dk_at dksX0_isKey_2 16 rfl rfl)
theorem dX0_isKey_66 : decode cX0_isKey 66 = .ok (.invokevirtual 69, 3) := dk_182 0 69 (dk_at dksX0_isKey_2 18 rfl rfl)
theorem dX0_isKey_69 : decode cX0_isKey 69 = .ok (.ifCond .ne 48, 3) := dk_154 0 48 (dk_at dksX0_isKey_2 21 rfl rfl)
theorem dX0_isKey_72 : decode cX0_isKey 72 = .ok (.aload_n 0, 1) := dk_42 (dk_at dksX0_isKey_3 0 rfl rfl)
theorem dX0_isKey_73 : decode cX0_isKey 73 = .ok (.ldc 197, 2) := dk_18 197 (dk_at dksX0_isKey_3 1 rfl rfl)
theorem dX0_isKey_75 : decode cX0_isKey 75 = .ok (.invokevirtual 69, 3) := dk_182 0 69 (dk_at dksX0_isKey_3 3 rfl rfl)
theorem dX0_isKey_78 : decode cX0_isKey 78 = .ok (.ifCond .ne 39, 3) := dk_154 0 39 (dk_at dksX0_isKey_3 6 rfl rfl)
theorem dX0_isKey_81 : decode cX0_isKey 81 = .ok (.aload_n 0, 1) := dk_42 (dk_at dksX0_isKey_3 9 rfl rfl)
theorem dX0_isKey_82 : decode cX0_isKey 82 = .ok (.ldc 199, 2) := dk_18 199 (dk_at dksX0_isKey_3 10 rfl rfl)
theorem dX0_isKey_84 : decode cX0_isKey 84 = .ok (.invokevirtual 69, 3) := dk_182 0 69 (dk_at dksX0_isKey_3 12 rfl rfl)
theorem dX0_isKey_87 : decode cX0_isKey 87 = .ok (.ifCond .ne 30, 3) := dk_154 0 30 (dk_at dksX0_isKey_3 15 rfl rfl)
theorem dX0_isKey_90 : decode cX0_isKey 90 = .ok (.aload_n 0, 1) := dk_42 (dk_at dksX0_isKey_3 18 rfl rfl)
theorem dX0_isKey_91 : decode cX0_isKey 91 = .ok (.ldc 159, 2) := dk_18 159 (dk_at dksX0_isKey_3 19 rfl rfl)
theorem dX0_isKey_93 : decode cX0_isKey 93 = .ok (.invokevirtual 69, 3) := dk_182 0 69 (dk_at dksX0_isKey_3 21 rfl rfl)
theorem dX0_isKey_96 : decode cX0_isKey 96 = .ok (.ifCond .ne 21, 3) := dk_154 0 21 (dk_at dksX0_isKey_4 0 rfl rfl)
theorem dX0_isKey_99 : decode cX0_isKey 99 = .ok (.aload_n 0, 1) := dk_42 (dk_at dksX0_isKey_4 3 rfl rfl)
theorem dX0_isKey_100 : decode cX0_isKey 100 = .ok (.ldc 161, 2) := dk_18 161 (dk_at dksX0_isKey_4 4 rfl rfl)
theorem dX0_isKey_102 : decode cX0_isKey 102 = .ok (.invokevirtual 69, 3) := dk_182 0 69 (dk_at dksX0_isKey_4 6 rfl rfl)
theorem dX0_isKey_105 : decode cX0_isKey 105 = .ok (.ifCond .ne 12, 3) := dk_154 0 12 (dk_at dksX0_isKey_4 9 rfl rfl)
theorem dX0_isKey_108 : decode cX0_isKey 108 = .ok (.aload_n 0, 1) := dk_42 (dk_at dksX0_isKey_4 12 rfl rfl)
theorem dX0_isKey_109 : decode cX0_isKey 109 = .ok (.ldc 163, 2) := dk_18 163 (dk_at dksX0_isKey_4 13 rfl rfl)
theorem dX0_isKey_111 : decode cX0_isKey 111 = .ok (.invokevirtual 69, 3) := dk_182 0 69 (dk_at dksX0_isKey_4 15 rfl rfl)
theorem dX0_isKey_114 : decode cX0_isKey 114 = .ok (.ifCond .eq 7, 3) := dk_153 0 7 (dk_at dksX0_isKey_4 18 rfl rfl)
theorem dX0_isKey_117 : decode cX0_isKey 117 = .ok (.iconst 1, 1) := dk_4 (dk_at dksX0_isKey_4 21 rfl rfl)
theorem dX0_isKey_118 : decode cX0_isKey 118 = .ok (.goto 4, 3) := dk_167 0 4 (dk_at dksX0_isKey_5 0 rfl rfl)
theorem dX0_isKey_121 : decode cX0_isKey 121 = .ok (.iconst 0, 1) := dk_3 (dk_at dksX0_isKey_5 3 rfl rfl)
theorem dX0_isKey_122 : decode cX0_isKey 122 = .ok (.ireturn, 1) := dk_172 (dk_at dksX0_isKey_5 4 rfl rfl)
abbrev cX0_isWord : ByteArray := prog_1_method_11_code
def yX0_isWord : MethodName := ⟨RX0, "isWord", "(Ljava/lang/String;)Z"⟩
def dkwX0_isWord_3 : List UInt8 := [167, 255, 216, 28, 172]
abbrev dktX0_isWord_3 : List UInt8 := dkwX0_isWord_3 ++ []
def dkwX0_isWord_2 : List UInt8 := [42, 180, 0, 14, 29, 96, 51, 43, 29, 182, 0, 54, 160, 0, 7, 4, 167, 0, 4, 3, 61, 132, 3, 1]
abbrev dktX0_isWord_2 : List UInt8 := dkwX0_isWord_2 ++ dktX0_isWord_3
def dkwX0_isWord_1 : List UInt8 := [4, 167, 0, 4, 3, 61, 3, 62, 28, 153, 0, 42, 29, 43, 182, 0, 48, 162, 0, 34, 42, 180, 0, 24]
abbrev dktX0_isWord_1 : List UInt8 := dkwX0_isWord_1 ++ dktX0_isWord_2
def dkwX0_isWord_0 : List UInt8 := [42, 180, 0, 35, 4, 160, 0, 23, 42, 180, 0, 28, 42, 180, 0, 14, 100, 43, 182, 0, 48, 160, 0, 7]
abbrev dktX0_isWord_0 : List UInt8 := dkwX0_isWord_0 ++ dktX0_isWord_1
theorem dksX0_isWord_0 : cX0_isWord.data.toList.drop 0 = dktX0_isWord_0 := by decide +kernel
theorem dksX0_isWord_1 : cX0_isWord.data.toList.drop 24 = dktX0_isWord_1 := dk_seg dksX0_isWord_0 24 rfl rfl
theorem dksX0_isWord_2 : cX0_isWord.data.toList.drop 48 = dktX0_isWord_2 := dk_seg dksX0_isWord_1 24 rfl rfl
theorem dksX0_isWord_3 : cX0_isWord.data.toList.drop 72 = dktX0_isWord_3 := dk_seg dksX0_isWord_2 24 rfl rfl
theorem dX0_isWord_0 : decode cX0_isWord 0 = .ok (.aload_n 0, 1) := dk_42 (dk_at dksX0_isWord_0 0 rfl rfl)
theorem dX0_isWord_1 : decode cX0_isWord 1 = .ok (.getfield 35, 3) := dk_180 0 35 (dk_at dksX0_isWord_0 1 rfl rfl)
theorem dX0_isWord_4 : decode cX0_isWord 4 = .ok (.iconst 1, 1) := dk_4 (dk_at dksX0_isWord_0 4 rfl rfl)
theorem dX0_isWord_5 : decode cX0_isWord 5 = .ok (.if_icmp .ne 23, 3) := dk_160 0 23 (dk_at dksX0_isWord_0 5 rfl rfl)
theorem dX0_isWord_8 : decode cX0_isWord 8 = .ok (.aload_n 0, 1) := dk_42 (dk_at dksX0_isWord_0 8 rfl rfl)
theorem dX0_isWord_9 : decode cX0_isWord 9 = .ok (.getfield 28, 3) := dk_180 0 28 (dk_at dksX0_isWord_0 9 rfl rfl)
theorem dX0_isWord_12 : decode cX0_isWord 12 = .ok (.aload_n 0, 1) := dk_42 (dk_at dksX0_isWord_0 12 rfl rfl)
theorem dX0_isWord_13 : decode cX0_isWord 13 = .ok (.getfield 14, 3) := dk_180 0 14 (dk_at dksX0_isWord_0 13 rfl rfl)
theorem dX0_isWord_16 : decode cX0_isWord 16 = .ok (.isub, 1) := dk_100 (dk_at dksX0_isWord_0 16 rfl rfl)
theorem dX0_isWord_17 : decode cX0_isWord 17 = .ok (.aload_n 1, 1) := dk_43 (dk_at dksX0_isWord_0 17 rfl rfl)
theorem dX0_isWord_18 : decode cX0_isWord 18 = .ok (.invokevirtual 48, 3) := dk_182 0 48 (dk_at dksX0_isWord_0 18 rfl rfl)
theorem dX0_isWord_21 : decode cX0_isWord 21 = .ok (.if_icmp .ne 7, 3) := dk_160 0 7 (dk_at dksX0_isWord_0 21 rfl rfl)
theorem dX0_isWord_24 : decode cX0_isWord 24 = .ok (.iconst 1, 1) := dk_4 (dk_at dksX0_isWord_1 0 rfl rfl)
theorem dX0_isWord_25 : decode cX0_isWord 25 = .ok (.goto 4, 3) := dk_167 0 4 (dk_at dksX0_isWord_1 1 rfl rfl)
theorem dX0_isWord_28 : decode cX0_isWord 28 = .ok (.iconst 0, 1) := dk_3 (dk_at dksX0_isWord_1 4 rfl rfl)
theorem dX0_isWord_29 : decode cX0_isWord 29 = .ok (.istore_n 2, 1) := dk_61 (dk_at dksX0_isWord_1 5 rfl rfl)
theorem dX0_isWord_30 : decode cX0_isWord 30 = .ok (.iconst 0, 1) := dk_3 (dk_at dksX0_isWord_1 6 rfl rfl)
theorem dX0_isWord_31 : decode cX0_isWord 31 = .ok (.istore_n 3, 1) := dk_62 (dk_at dksX0_isWord_1 7 rfl rfl)
theorem dX0_isWord_32 : decode cX0_isWord 32 = .ok (.iload_n 2, 1) := dk_28 (dk_at dksX0_isWord_1 8 rfl rfl)
theorem dX0_isWord_33 : decode cX0_isWord 33 = .ok (.ifCond .eq 42, 3) := dk_153 0 42 (dk_at dksX0_isWord_1 9 rfl rfl)
theorem dX0_isWord_36 : decode cX0_isWord 36 = .ok (.iload_n 3, 1) := dk_29 (dk_at dksX0_isWord_1 12 rfl rfl)
theorem dX0_isWord_37 : decode cX0_isWord 37 = .ok (.aload_n 1, 1) := dk_43 (dk_at dksX0_isWord_1 13 rfl rfl)
theorem dX0_isWord_38 : decode cX0_isWord 38 = .ok (.invokevirtual 48, 3) := dk_182 0 48 (dk_at dksX0_isWord_1 14 rfl rfl)
theorem dX0_isWord_41 : decode cX0_isWord 41 = .ok (.if_icmp .ge 34, 3) := dk_162 0 34 (dk_at dksX0_isWord_1 17 rfl rfl)
theorem dX0_isWord_44 : decode cX0_isWord 44 = .ok (.aload_n 0, 1) := dk_42 (dk_at dksX0_isWord_1 20 rfl rfl)
theorem dX0_isWord_45 : decode cX0_isWord 45 = .ok (.getfield 24, 3) := dk_180 0 24 (dk_at dksX0_isWord_1 21 rfl rfl)
theorem dX0_isWord_48 : decode cX0_isWord 48 = .ok (.aload_n 0, 1) := dk_42 (dk_at dksX0_isWord_2 0 rfl rfl)
theorem dX0_isWord_49 : decode cX0_isWord 49 = .ok (.getfield 14, 3) := dk_180 0 14 (dk_at dksX0_isWord_2 1 rfl rfl)
theorem dX0_isWord_52 : decode cX0_isWord 52 = .ok (.iload_n 3, 1) := dk_29 (dk_at dksX0_isWord_2 4 rfl rfl)
theorem dX0_isWord_53 : decode cX0_isWord 53 = .ok (.iadd, 1) := dk_96 (dk_at dksX0_isWord_2 5 rfl rfl)
theorem dX0_isWord_54 : decode cX0_isWord 54 = .ok (.baload, 1) := dk_51 (dk_at dksX0_isWord_2 6 rfl rfl)
theorem dX0_isWord_55 : decode cX0_isWord 55 = .ok (.aload_n 1, 1) := dk_43 (dk_at dksX0_isWord_2 7 rfl rfl)
theorem dX0_isWord_56 : decode cX0_isWord 56 = .ok (.iload_n 3, 1) := dk_29 (dk_at dksX0_isWord_2 8 rfl rfl)
theorem dX0_isWord_57 : decode cX0_isWord 57 = .ok (.invokevirtual 54, 3) := dk_182 0 54 (dk_at dksX0_isWord_2 9 rfl rfl)
theorem dX0_isWord_60 : decode cX0_isWord 60 = .ok (.if_icmp .ne 7, 3) := dk_160 0 7 (dk_at dksX0_isWord_2 12 rfl rfl)
theorem dX0_isWord_63 : decode cX0_isWord 63 = .ok (.iconst 1, 1) := dk_4 (dk_at dksX0_isWord_2 15 rfl rfl)
theorem dX0_isWord_64 : decode cX0_isWord 64 = .ok (.goto 4, 3) := dk_167 0 4 (dk_at dksX0_isWord_2 16 rfl rfl)
theorem dX0_isWord_67 : decode cX0_isWord 67 = .ok (.iconst 0, 1) := dk_3 (dk_at dksX0_isWord_2 19 rfl rfl)
theorem dX0_isWord_68 : decode cX0_isWord 68 = .ok (.istore_n 2, 1) := dk_61 (dk_at dksX0_isWord_2 20 rfl rfl)
theorem dX0_isWord_69 : decode cX0_isWord 69 = .ok (.iinc 3 1, 3) := dk_132 3 1 (dk_at dksX0_isWord_2 21 rfl rfl)
theorem dX0_isWord_72 : decode cX0_isWord 72 = .ok (.goto (-40), 3) := dk_167 255 216 (dk_at dksX0_isWord_3 0 rfl rfl)
theorem dX0_isWord_75 : decode cX0_isWord 75 = .ok (.iload_n 2, 1) := dk_28 (dk_at dksX0_isWord_3 3 rfl rfl)
theorem dX0_isWord_76 : decode cX0_isWord 76 = .ok (.ireturn, 1) := dk_172 (dk_at dksX0_isWord_3 4 rfl rfl)
abbrev cX0_wrongAt : ByteArray := prog_1_method_4_code
def yX0_wrongAt : MethodName := ⟨RX0, "wrongAt", "(II)LThereAndBack$Wrong;"⟩
def dkwX0_wrongAt_0 : List UInt8 := [42, 27, 181, 0, 1, 42, 28, 181, 0, 7, 42, 180, 0, 10, 176]
abbrev dktX0_wrongAt_0 : List UInt8 := dkwX0_wrongAt_0 ++ []
theorem dksX0_wrongAt_0 : cX0_wrongAt.data.toList.drop 0 = dktX0_wrongAt_0 := by decide +kernel
theorem dX0_wrongAt_0 : decode cX0_wrongAt 0 = .ok (.aload_n 0, 1) := dk_42 (dk_at dksX0_wrongAt_0 0 rfl rfl)
theorem dX0_wrongAt_1 : decode cX0_wrongAt 1 = .ok (.iload_n 1, 1) := dk_27 (dk_at dksX0_wrongAt_0 1 rfl rfl)
theorem dX0_wrongAt_2 : decode cX0_wrongAt 2 = .ok (.putfield 1, 3) := dk_181 0 1 (dk_at dksX0_wrongAt_0 2 rfl rfl)
theorem dX0_wrongAt_5 : decode cX0_wrongAt 5 = .ok (.aload_n 0, 1) := dk_42 (dk_at dksX0_wrongAt_0 5 rfl rfl)
theorem dX0_wrongAt_6 : decode cX0_wrongAt 6 = .ok (.iload_n 2, 1) := dk_28 (dk_at dksX0_wrongAt_0 6 rfl rfl)
theorem dX0_wrongAt_7 : decode cX0_wrongAt 7 = .ok (.putfield 7, 3) := dk_181 0 7 (dk_at dksX0_wrongAt_0 7 rfl rfl)
theorem dX0_wrongAt_10 : decode cX0_wrongAt 10 = .ok (.aload_n 0, 1) := dk_42 (dk_at dksX0_wrongAt_0 10 rfl rfl)
theorem dX0_wrongAt_11 : decode cX0_wrongAt 11 = .ok (.getfield 10, 3) := dk_180 0 10 (dk_at dksX0_wrongAt_0 11 rfl rfl)
theorem dX0_wrongAt_14 : decode cX0_wrongAt 14 = .ok (.areturn, 1) := dk_176 (dk_at dksX0_wrongAt_0 14 rfl rfl)
abbrev cX0_step : ByteArray := prog_1_method_30_code
def yX0_step : MethodName := ⟨RX0, "step", "(I)LThereAndBack$Step;"⟩
def dkwX0_step_13 : List UInt8 := [25, 5, 25, 6, 183, 0, 247, 176, 42, 28, 27, 182, 0, 248, 176]
abbrev dktX0_step_13 : List UInt8 := dkwX0_step_13 ++ []
def dkwX0_step_12 : List UInt8 := [182, 0, 230, 42, 3, 182, 0, 125, 58, 6, 42, 28, 3, 6, 182, 0, 210, 187, 0, 245, 89, 45, 25, 4]
abbrev dktX0_step_12 : List UInt8 := dkwX0_step_12 ++ dktX0_step_13
def dkwX0_step_11 : List UInt8 := [78, 42, 27, 182, 0, 225, 58, 4, 42, 18, 241, 182, 0, 230, 42, 27, 182, 0, 225, 58, 5, 42, 18, 243]
abbrev dktX0_step_11 : List UInt8 := dkwX0_step_11 ++ dktX0_step_12
def dkwX0_step_10 : List UInt8 := [25, 6, 183, 0, 238, 176, 42, 18, 199, 182, 0, 69, 153, 0, 68, 42, 182, 0, 65, 42, 3, 182, 0, 125]
abbrev dktX0_step_10 : List UInt8 := dkwX0_step_10 ++ dktX0_step_11
def dkwX0_step_9 : List UInt8 := [42, 3, 182, 0, 125, 58, 6, 42, 28, 3, 6, 182, 0, 210, 187, 0, 236, 89, 45, 25, 4, 25, 5]
abbrev dktX0_step_9 : List UInt8 := dkwX0_step_9 ++ dktX0_step_10
def dkwX0_step_8 : List UInt8 := [182, 0, 225, 58, 4, 42, 18, 228, 182, 0, 230, 42, 27, 182, 0, 225, 58, 5, 42, 18, 234, 182, 0, 230]
abbrev dktX0_step_8 : List UInt8 := dkwX0_step_8 ++ dktX0_step_9
def dkwX0_step_7 : List UInt8 := [176, 42, 18, 197, 182, 0, 69, 153, 0, 68, 42, 182, 0, 65, 42, 3, 182, 0, 125, 78, 42, 27]
abbrev dktX0_step_7 : List UInt8 := dkwX0_step_7 ++ dktX0_step_8
def dkwX0_step_6 : List UInt8 := [176, 42, 18, 193, 182, 0, 69, 154, 0, 12, 42, 18, 195, 182, 0, 69, 153, 0, 9, 42, 28, 182, 0, 222]
abbrev dktX0_step_6 : List UInt8 := dkwX0_step_6 ++ dktX0_step_7
def dkwX0_step_5 : List UInt8 := [176, 42, 18, 189, 182, 0, 69, 154, 0, 12, 42, 18, 191, 182, 0, 69, 153, 0, 9, 42, 28, 182, 0, 219]
abbrev dktX0_step_5 : List UInt8 := dkwX0_step_5 ++ dktX0_step_6
def dkwX0_step_4 : List UInt8 := [182, 0, 207, 54, 5, 42, 28, 3, 4, 182, 0, 210, 187, 0, 214, 89, 21, 4, 21, 5, 29, 183, 0, 216]
abbrev dktX0_step_4 : List UInt8 := dkwX0_step_4 ++ dktX0_step_5
def dkwX0_step_3 : List UInt8 := [182, 0, 69, 153, 0, 46, 42, 18, 185, 182, 0, 69, 62, 42, 182, 0, 65, 42, 182, 0, 103, 54, 4, 42]
abbrev dktX0_step_3 : List UInt8 := dkwX0_step_3 ++ dktX0_step_4
def dkwX0_step_2 : List UInt8 := [182, 0, 69, 153, 0, 9, 42, 28, 182, 0, 204, 176, 42, 18, 185, 182, 0, 69, 154, 0, 12, 42, 18, 187]
abbrev dktX0_step_2 : List UInt8 := dkwX0_step_2 ++ dktX0_step_3
def dkwX0_step_1 : List UInt8 := [176, 42, 18, 181, 182, 0, 69, 154, 0, 21, 42, 18, 183, 182, 0, 69, 154, 0, 12, 42, 18, 159]
abbrev dktX0_step_1 : List UInt8 := dkwX0_step_1 ++ dktX0_step_2
def dkwX0_step_0 : List UInt8 := [42, 180, 0, 14, 61, 42, 182, 0, 73, 154, 0, 10, 42, 182, 0, 77, 153, 0, 9, 42, 28, 182, 0, 201]
abbrev dktX0_step_0 : List UInt8 := dkwX0_step_0 ++ dktX0_step_1
theorem dksX0_step_0 : cX0_step.data.toList.drop 0 = dktX0_step_0 := by decide +kernel
theorem dksX0_step_1 : cX0_step.data.toList.drop 24 = dktX0_step_1 := dk_seg dksX0_step_0 24 rfl rfl
theorem dksX0_step_2 : cX0_step.data.toList.drop 46 = dktX0_step_2 := dk_seg dksX0_step_1 22 rfl rfl
theorem dksX0_step_3 : cX0_step.data.toList.drop 70 = dktX0_step_3 := dk_seg dksX0_step_2 24 rfl rfl
theorem dksX0_step_4 : cX0_step.data.toList.drop 94 = dktX0_step_4 := dk_seg dksX0_step_3 24 rfl rfl
theorem dksX0_step_5 : cX0_step.data.toList.drop 118 = dktX0_step_5 := dk_seg dksX0_step_4 24 rfl rfl
theorem dksX0_step_6 : cX0_step.data.toList.drop 142 = dktX0_step_6 := dk_seg dksX0_step_5 24 rfl rfl
theorem dksX0_step_7 : cX0_step.data.toList.drop 166 = dktX0_step_7 := dk_seg dksX0_step_6 24 rfl rfl
theorem dksX0_step_8 : cX0_step.data.toList.drop 188 = dktX0_step_8 := dk_seg dksX0_step_7 22 rfl rfl
theorem dksX0_step_9 : cX0_step.data.toList.drop 212 = dktX0_step_9 := dk_seg dksX0_step_8 24 rfl rfl
theorem dksX0_step_10 : cX0_step.data.toList.drop 235 = dktX0_step_10 := dk_seg dksX0_step_9 23 rfl rfl
theorem dksX0_step_11 : cX0_step.data.toList.drop 259 = dktX0_step_11 := dk_seg dksX0_step_10 24 rfl rfl
theorem dksX0_step_12 : cX0_step.data.toList.drop 283 = dktX0_step_12 := dk_seg dksX0_step_11 24 rfl rfl
theorem dksX0_step_13 : cX0_step.data.toList.drop 307 = dktX0_step_13 := dk_seg dksX0_step_12 24 rfl rfl
theorem dX0_step_0 : decode cX0_step 0 = .ok (.aload_n 0, 1) := dk_42 (dk_at dksX0_step_0 0 rfl rfl)
theorem dX0_step_1 : decode cX0_step 1 = .ok (.getfield 14, 3) := dk_180 0 14 (dk_at dksX0_step_0 1 rfl rfl)
theorem dX0_step_4 : decode cX0_step 4 = .ok (.istore_n 2, 1) := dk_61 (dk_at dksX0_step_0 4 rfl rfl)
theorem dX0_step_5 : decode cX0_step 5 = .ok (.aload_n 0, 1) := dk_42 (dk_at dksX0_step_0 5 rfl rfl)
theorem dX0_step_6 : decode cX0_step 6 = .ok (.invokevirtual 73, 3) := dk_182 0 73 (dk_at dksX0_step_0 6 rfl rfl)
theorem dX0_step_9 : decode cX0_step 9 = .ok (.ifCond .ne 10, 3) := dk_154 0 10 (dk_at dksX0_step_0 9 rfl rfl)
theorem dX0_step_12 : decode cX0_step 12 = .ok (.aload_n 0, 1) := dk_42 (dk_at dksX0_step_0 12 rfl rfl)
theorem dX0_step_13 : decode cX0_step 13 = .ok (.invokevirtual 77, 3) := dk_182 0 77 (dk_at dksX0_step_0 13 rfl rfl)
theorem dX0_step_16 : decode cX0_step 16 = .ok (.ifCond .eq 9, 3) := dk_153 0 9 (dk_at dksX0_step_0 16 rfl rfl)
theorem dX0_step_19 : decode cX0_step 19 = .ok (.aload_n 0, 1) := dk_42 (dk_at dksX0_step_0 19 rfl rfl)
theorem dX0_step_20 : decode cX0_step 20 = .ok (.iload_n 2, 1) := dk_28 (dk_at dksX0_step_0 20 rfl rfl)
theorem dX0_step_21 : decode cX0_step 21 = .ok (.invokevirtual 201, 3) := dk_182 0 201 (dk_at dksX0_step_0 21 rfl rfl)
theorem dX0_step_24 : decode cX0_step 24 = .ok (.areturn, 1) := dk_176 (dk_at dksX0_step_1 0 rfl rfl)
theorem dX0_step_25 : decode cX0_step 25 = .ok (.aload_n 0, 1) := dk_42 (dk_at dksX0_step_1 1 rfl rfl)
theorem dX0_step_26 : decode cX0_step 26 = .ok (.ldc 181, 2) := dk_18 181 (dk_at dksX0_step_1 2 rfl rfl)
theorem dX0_step_28 : decode cX0_step 28 = .ok (.invokevirtual 69, 3) := dk_182 0 69 (dk_at dksX0_step_1 4 rfl rfl)
theorem dX0_step_31 : decode cX0_step 31 = .ok (.ifCond .ne 21, 3) := dk_154 0 21 (dk_at dksX0_step_1 7 rfl rfl)
theorem dX0_step_34 : decode cX0_step 34 = .ok (.aload_n 0, 1) := dk_42 (dk_at dksX0_step_1 10 rfl rfl)
theorem dX0_step_35 : decode cX0_step 35 = .ok (.ldc 183, 2) := dk_18 183 (dk_at dksX0_step_1 11 rfl rfl)
theorem dX0_step_37 : decode cX0_step 37 = .ok (.invokevirtual 69, 3) := dk_182 0 69 (dk_at dksX0_step_1 13 rfl rfl)
theorem dX0_step_40 : decode cX0_step 40 = .ok (.ifCond .ne 12, 3) := dk_154 0 12 (dk_at dksX0_step_1 16 rfl rfl)
theorem dX0_step_43 : decode cX0_step 43 = .ok (.aload_n 0, 1) := dk_42 (dk_at dksX0_step_1 19 rfl rfl)
theorem dX0_step_44 : decode cX0_step 44 = .ok (.ldc 159, 2) := dk_18 159 (dk_at dksX0_step_1 20 rfl rfl)
theorem dX0_step_46 : decode cX0_step 46 = .ok (.invokevirtual 69, 3) := dk_182 0 69 (dk_at dksX0_step_2 0 rfl rfl)
theorem dX0_step_49 : decode cX0_step 49 = .ok (.ifCond .eq 9, 3) := dk_153 0 9 (dk_at dksX0_step_2 3 rfl rfl)
theorem dX0_step_52 : decode cX0_step 52 = .ok (.aload_n 0, 1) := dk_42 (dk_at dksX0_step_2 6 rfl rfl)
theorem dX0_step_53 : decode cX0_step 53 = .ok (.iload_n 2, 1) := dk_28 (dk_at dksX0_step_2 7 rfl rfl)
theorem dX0_step_54 : decode cX0_step 54 = .ok (.invokevirtual 204, 3) := dk_182 0 204 (dk_at dksX0_step_2 8 rfl rfl)
theorem dX0_step_57 : decode cX0_step 57 = .ok (.areturn, 1) := dk_176 (dk_at dksX0_step_2 11 rfl rfl)
theorem dX0_step_58 : decode cX0_step 58 = .ok (.aload_n 0, 1) := dk_42 (dk_at dksX0_step_2 12 rfl rfl)
theorem dX0_step_59 : decode cX0_step 59 = .ok (.ldc 185, 2) := dk_18 185 (dk_at dksX0_step_2 13 rfl rfl)
theorem dX0_step_61 : decode cX0_step 61 = .ok (.invokevirtual 69, 3) := dk_182 0 69 (dk_at dksX0_step_2 15 rfl rfl)
theorem dX0_step_64 : decode cX0_step 64 = .ok (.ifCond .ne 12, 3) := dk_154 0 12 (dk_at dksX0_step_2 18 rfl rfl)
theorem dX0_step_67 : decode cX0_step 67 = .ok (.aload_n 0, 1) := dk_42 (dk_at dksX0_step_2 21 rfl rfl)
theorem dX0_step_68 : decode cX0_step 68 = .ok (.ldc 187, 2) := dk_18 187 (dk_at dksX0_step_2 22 rfl rfl)
theorem dX0_step_70 : decode cX0_step 70 = .ok (.invokevirtual 69, 3) := dk_182 0 69 (dk_at dksX0_step_3 0 rfl rfl)
theorem dX0_step_73 : decode cX0_step 73 = .ok (.ifCond .eq 46, 3) := dk_153 0 46 (dk_at dksX0_step_3 3 rfl rfl)
theorem dX0_step_76 : decode cX0_step 76 = .ok (.aload_n 0, 1) := dk_42 (dk_at dksX0_step_3 6 rfl rfl)
theorem dX0_step_77 : decode cX0_step 77 = .ok (.ldc 185, 2) := dk_18 185 (dk_at dksX0_step_3 7 rfl rfl)
theorem dX0_step_79 : decode cX0_step 79 = .ok (.invokevirtual 69, 3) := dk_182 0 69 (dk_at dksX0_step_3 9 rfl rfl)
theorem dX0_step_82 : decode cX0_step 82 = .ok (.istore_n 3, 1) := dk_62 (dk_at dksX0_step_3 12 rfl rfl)
theorem dX0_step_83 : decode cX0_step 83 = .ok (.aload_n 0, 1) := dk_42 (dk_at dksX0_step_3 13 rfl rfl)
theorem dX0_step_84 : decode cX0_step 84 = .ok (.invokevirtual 65, 3) := dk_182 0 65 (dk_at dksX0_step_3 14 rfl rfl)
theorem dX0_step_87 : decode cX0_step 87 = .ok (.aload_n 0, 1) := dk_42 (dk_at dksX0_step_3 17 rfl rfl)
theorem dX0_step_88 : decode cX0_step 88 = .ok (.invokevirtual 103, 3) := dk_182 0 103 (dk_at dksX0_step_3 18 rfl rfl)
theorem dX0_step_91 : decode cX0_step 91 = .ok (.istore 4, 2) := dk_54 4 (dk_at dksX0_step_3 21 rfl rfl)
theorem dX0_step_93 : decode cX0_step 93 = .ok (.aload_n 0, 1) := dk_42 (dk_at dksX0_step_3 23 rfl rfl)
theorem dX0_step_94 : decode cX0_step 94 = .ok (.invokevirtual 207, 3) := dk_182 0 207 (dk_at dksX0_step_4 0 rfl rfl)
theorem dX0_step_97 : decode cX0_step 97 = .ok (.istore 5, 2) := dk_54 5 (dk_at dksX0_step_4 3 rfl rfl)
theorem dX0_step_99 : decode cX0_step 99 = .ok (.aload_n 0, 1) := dk_42 (dk_at dksX0_step_4 5 rfl rfl)
theorem dX0_step_100 : decode cX0_step 100 = .ok (.iload_n 2, 1) := dk_28 (dk_at dksX0_step_4 6 rfl rfl)
theorem dX0_step_101 : decode cX0_step 101 = .ok (.iconst 0, 1) := dk_3 (dk_at dksX0_step_4 7 rfl rfl)
theorem dX0_step_102 : decode cX0_step 102 = .ok (.iconst 1, 1) := dk_4 (dk_at dksX0_step_4 8 rfl rfl)
theorem dX0_step_103 : decode cX0_step 103 = .ok (.invokevirtual 210, 3) := dk_182 0 210 (dk_at dksX0_step_4 9 rfl rfl)
theorem dX0_step_106 : decode cX0_step 106 = .ok (.new 214, 3) := dk_187 0 214 (dk_at dksX0_step_4 12 rfl rfl)
theorem dX0_step_109 : decode cX0_step 109 = .ok (.dup, 1) := dk_89 (dk_at dksX0_step_4 15 rfl rfl)
theorem dX0_step_110 : decode cX0_step 110 = .ok (.iload 4, 2) := dk_21 4 (dk_at dksX0_step_4 16 rfl rfl)
theorem dX0_step_112 : decode cX0_step 112 = .ok (.iload 5, 2) := dk_21 5 (dk_at dksX0_step_4 18 rfl rfl)
theorem dX0_step_114 : decode cX0_step 114 = .ok (.iload_n 3, 1) := dk_29 (dk_at dksX0_step_4 20 rfl rfl)
theorem dX0_step_115 : decode cX0_step 115 = .ok (.invokespecial 216, 3) := dk_183 0 216 (dk_at dksX0_step_4 21 rfl rfl)
theorem dX0_step_118 : decode cX0_step 118 = .ok (.areturn, 1) := dk_176 (dk_at dksX0_step_5 0 rfl rfl)
theorem dX0_step_119 : decode cX0_step 119 = .ok (.aload_n 0, 1) := dk_42 (dk_at dksX0_step_5 1 rfl rfl)
theorem dX0_step_120 : decode cX0_step 120 = .ok (.ldc 189, 2) := dk_18 189 (dk_at dksX0_step_5 2 rfl rfl)
theorem dX0_step_122 : decode cX0_step 122 = .ok (.invokevirtual 69, 3) := dk_182 0 69 (dk_at dksX0_step_5 4 rfl rfl)
theorem dX0_step_125 : decode cX0_step 125 = .ok (.ifCond .ne 12, 3) := dk_154 0 12 (dk_at dksX0_step_5 7 rfl rfl)
theorem dX0_step_128 : decode cX0_step 128 = .ok (.aload_n 0, 1) := dk_42 (dk_at dksX0_step_5 10 rfl rfl)
theorem dX0_step_129 : decode cX0_step 129 = .ok (.ldc 191, 2) := dk_18 191 (dk_at dksX0_step_5 11 rfl rfl)
theorem dX0_step_131 : decode cX0_step 131 = .ok (.invokevirtual 69, 3) := dk_182 0 69 (dk_at dksX0_step_5 13 rfl rfl)
theorem dX0_step_134 : decode cX0_step 134 = .ok (.ifCond .eq 9, 3) := dk_153 0 9 (dk_at dksX0_step_5 16 rfl rfl)
theorem dX0_step_137 : decode cX0_step 137 = .ok (.aload_n 0, 1) := dk_42 (dk_at dksX0_step_5 19 rfl rfl)
theorem dX0_step_138 : decode cX0_step 138 = .ok (.iload_n 2, 1) := dk_28 (dk_at dksX0_step_5 20 rfl rfl)
theorem dX0_step_139 : decode cX0_step 139 = .ok (.invokevirtual 219, 3) := dk_182 0 219 (dk_at dksX0_step_5 21 rfl rfl)
theorem dX0_step_142 : decode cX0_step 142 = .ok (.areturn, 1) := dk_176 (dk_at dksX0_step_6 0 rfl rfl)
theorem dX0_step_143 : decode cX0_step 143 = .ok (.aload_n 0, 1) := dk_42 (dk_at dksX0_step_6 1 rfl rfl)
theorem dX0_step_144 : decode cX0_step 144 = .ok (.ldc 193, 2) := dk_18 193 (dk_at dksX0_step_6 2 rfl rfl)
theorem dX0_step_146 : decode cX0_step 146 = .ok (.invokevirtual 69, 3) := dk_182 0 69 (dk_at dksX0_step_6 4 rfl rfl)
theorem dX0_step_149 : decode cX0_step 149 = .ok (.ifCond .ne 12, 3) := dk_154 0 12 (dk_at dksX0_step_6 7 rfl rfl)
theorem dX0_step_152 : decode cX0_step 152 = .ok (.aload_n 0, 1) := dk_42 (dk_at dksX0_step_6 10 rfl rfl)
theorem dX0_step_153 : decode cX0_step 153 = .ok (.ldc 195, 2) := dk_18 195 (dk_at dksX0_step_6 11 rfl rfl)
theorem dX0_step_155 : decode cX0_step 155 = .ok (.invokevirtual 69, 3) := dk_182 0 69 (dk_at dksX0_step_6 13 rfl rfl)
theorem dX0_step_158 : decode cX0_step 158 = .ok (.ifCond .eq 9, 3) := dk_153 0 9 (dk_at dksX0_step_6 16 rfl rfl)
theorem dX0_step_161 : decode cX0_step 161 = .ok (.aload_n 0, 1) := dk_42 (dk_at dksX0_step_6 19 rfl rfl)
theorem dX0_step_162 : decode cX0_step 162 = .ok (.iload_n 2, 1) := dk_28 (dk_at dksX0_step_6 20 rfl rfl)
theorem dX0_step_163 : decode cX0_step 163 = .ok (.invokevirtual 222, 3) := dk_182 0 222 (dk_at dksX0_step_6 21 rfl rfl)
theorem dX0_step_166 : decode cX0_step 166 = .ok (.areturn, 1) := dk_176 (dk_at dksX0_step_7 0 rfl rfl)
theorem dX0_step_167 : decode cX0_step 167 = .ok (.aload_n 0, 1) := dk_42 (dk_at dksX0_step_7 1 rfl rfl)
theorem dX0_step_168 : decode cX0_step 168 = .ok (.ldc 197, 2) := dk_18 197 (dk_at dksX0_step_7 2 rfl rfl)
theorem dX0_step_170 : decode cX0_step 170 = .ok (.invokevirtual 69, 3) := dk_182 0 69 (dk_at dksX0_step_7 4 rfl rfl)
theorem dX0_step_173 : decode cX0_step 173 = .ok (.ifCond .eq 68, 3) := dk_153 0 68 (dk_at dksX0_step_7 7 rfl rfl)
theorem dX0_step_176 : decode cX0_step 176 = .ok (.aload_n 0, 1) := dk_42 (dk_at dksX0_step_7 10 rfl rfl)
theorem dX0_step_177 : decode cX0_step 177 = .ok (.invokevirtual 65, 3) := dk_182 0 65 (dk_at dksX0_step_7 11 rfl rfl)
theorem dX0_step_180 : decode cX0_step 180 = .ok (.aload_n 0, 1) := dk_42 (dk_at dksX0_step_7 14 rfl rfl)
theorem dX0_step_181 : decode cX0_step 181 = .ok (.iconst 0, 1) := dk_3 (dk_at dksX0_step_7 15 rfl rfl)
theorem dX0_step_182 : decode cX0_step 182 = .ok (.invokevirtual 125, 3) := dk_182 0 125 (dk_at dksX0_step_7 16 rfl rfl)
theorem dX0_step_185 : decode cX0_step 185 = .ok (.astore_n 3, 1) := dk_78 (dk_at dksX0_step_7 19 rfl rfl)
theorem dX0_step_186 : decode cX0_step 186 = .ok (.aload_n 0, 1) := dk_42 (dk_at dksX0_step_7 20 rfl rfl)
theorem dX0_step_187 : decode cX0_step 187 = .ok (.iload_n 1, 1) := dk_27 (dk_at dksX0_step_7 21 rfl rfl)
theorem dX0_step_188 : decode cX0_step 188 = .ok (.invokevirtual 225, 3) := dk_182 0 225 (dk_at dksX0_step_8 0 rfl rfl)
theorem dX0_step_191 : decode cX0_step 191 = .ok (.astore 4, 2) := dk_58 4 (dk_at dksX0_step_8 3 rfl rfl)
theorem dX0_step_193 : decode cX0_step 193 = .ok (.aload_n 0, 1) := dk_42 (dk_at dksX0_step_8 5 rfl rfl)
theorem dX0_step_194 : decode cX0_step 194 = .ok (.ldc 228, 2) := dk_18 228 (dk_at dksX0_step_8 6 rfl rfl)
theorem dX0_step_196 : decode cX0_step 196 = .ok (.invokevirtual 230, 3) := dk_182 0 230 (dk_at dksX0_step_8 8 rfl rfl)
theorem dX0_step_199 : decode cX0_step 199 = .ok (.aload_n 0, 1) := dk_42 (dk_at dksX0_step_8 11 rfl rfl)
theorem dX0_step_200 : decode cX0_step 200 = .ok (.iload_n 1, 1) := dk_27 (dk_at dksX0_step_8 12 rfl rfl)
theorem dX0_step_201 : decode cX0_step 201 = .ok (.invokevirtual 225, 3) := dk_182 0 225 (dk_at dksX0_step_8 13 rfl rfl)
theorem dX0_step_204 : decode cX0_step 204 = .ok (.astore 5, 2) := dk_58 5 (dk_at dksX0_step_8 16 rfl rfl)
theorem dX0_step_206 : decode cX0_step 206 = .ok (.aload_n 0, 1) := dk_42 (dk_at dksX0_step_8 18 rfl rfl)
theorem dX0_step_207 : decode cX0_step 207 = .ok (.ldc 234, 2) := dk_18 234 (dk_at dksX0_step_8 19 rfl rfl)
theorem dX0_step_209 : decode cX0_step 209 = .ok (.invokevirtual 230, 3) := dk_182 0 230 (dk_at dksX0_step_8 21 rfl rfl)
theorem dX0_step_212 : decode cX0_step 212 = .ok (.aload_n 0, 1) := dk_42 (dk_at dksX0_step_9 0 rfl rfl)
theorem dX0_step_213 : decode cX0_step 213 = .ok (.iconst 0, 1) := dk_3 (dk_at dksX0_step_9 1 rfl rfl)
theorem dX0_step_214 : decode cX0_step 214 = .ok (.invokevirtual 125, 3) := dk_182 0 125 (dk_at dksX0_step_9 2 rfl rfl)
theorem dX0_step_217 : decode cX0_step 217 = .ok (.astore 6, 2) := dk_58 6 (dk_at dksX0_step_9 5 rfl rfl)
theorem dX0_step_219 : decode cX0_step 219 = .ok (.aload_n 0, 1) := dk_42 (dk_at dksX0_step_9 7 rfl rfl)
theorem dX0_step_220 : decode cX0_step 220 = .ok (.iload_n 2, 1) := dk_28 (dk_at dksX0_step_9 8 rfl rfl)
theorem dX0_step_221 : decode cX0_step 221 = .ok (.iconst 0, 1) := dk_3 (dk_at dksX0_step_9 9 rfl rfl)
theorem dX0_step_222 : decode cX0_step 222 = .ok (.iconst 3, 1) := dk_6 (dk_at dksX0_step_9 10 rfl rfl)
theorem dX0_step_223 : decode cX0_step 223 = .ok (.invokevirtual 210, 3) := dk_182 0 210 (dk_at dksX0_step_9 11 rfl rfl)
theorem dX0_step_226 : decode cX0_step 226 = .ok (.new 236, 3) := dk_187 0 236 (dk_at dksX0_step_9 14 rfl rfl)
theorem dX0_step_229 : decode cX0_step 229 = .ok (.dup, 1) := dk_89 (dk_at dksX0_step_9 17 rfl rfl)
theorem dX0_step_230 : decode cX0_step 230 = .ok (.aload_n 3, 1) := dk_45 (dk_at dksX0_step_9 18 rfl rfl)
theorem dX0_step_231 : decode cX0_step 231 = .ok (.aload 4, 2) := dk_25 4 (dk_at dksX0_step_9 19 rfl rfl)
theorem dX0_step_233 : decode cX0_step 233 = .ok (.aload 5, 2) := dk_25 5 (dk_at dksX0_step_9 21 rfl rfl)
theorem dX0_step_235 : decode cX0_step 235 = .ok (.aload 6, 2) := dk_25 6 (dk_at dksX0_step_10 0 rfl rfl)
theorem dX0_step_237 : decode cX0_step 237 = .ok (.invokespecial 238, 3) := dk_183 0 238 (dk_at dksX0_step_10 2 rfl rfl)
theorem dX0_step_240 : decode cX0_step 240 = .ok (.areturn, 1) := dk_176 (dk_at dksX0_step_10 5 rfl rfl)
theorem dX0_step_241 : decode cX0_step 241 = .ok (.aload_n 0, 1) := dk_42 (dk_at dksX0_step_10 6 rfl rfl)
theorem dX0_step_242 : decode cX0_step 242 = .ok (.ldc 199, 2) := dk_18 199 (dk_at dksX0_step_10 7 rfl rfl)
theorem dX0_step_244 : decode cX0_step 244 = .ok (.invokevirtual 69, 3) := dk_182 0 69 (dk_at dksX0_step_10 9 rfl rfl)
theorem dX0_step_247 : decode cX0_step 247 = .ok (.ifCond .eq 68, 3) := dk_153 0 68 (dk_at dksX0_step_10 12 rfl rfl)
theorem dX0_step_250 : decode cX0_step 250 = .ok (.aload_n 0, 1) := dk_42 (dk_at dksX0_step_10 15 rfl rfl)
theorem dX0_step_251 : decode cX0_step 251 = .ok (.invokevirtual 65, 3) := dk_182 0 65 (dk_at dksX0_step_10 16 rfl rfl)
theorem dX0_step_254 : decode cX0_step 254 = .ok (.aload_n 0, 1) := dk_42 (dk_at dksX0_step_10 19 rfl rfl)
theorem dX0_step_255 : decode cX0_step 255 = .ok (.iconst 0, 1) := dk_3 (dk_at dksX0_step_10 20 rfl rfl)
theorem dX0_step_256 : decode cX0_step 256 = .ok (.invokevirtual 125, 3) := dk_182 0 125 (dk_at dksX0_step_10 21 rfl rfl)
theorem dX0_step_259 : decode cX0_step 259 = .ok (.astore_n 3, 1) := dk_78 (dk_at dksX0_step_11 0 rfl rfl)
theorem dX0_step_260 : decode cX0_step 260 = .ok (.aload_n 0, 1) := dk_42 (dk_at dksX0_step_11 1 rfl rfl)
theorem dX0_step_261 : decode cX0_step 261 = .ok (.iload_n 1, 1) := dk_27 (dk_at dksX0_step_11 2 rfl rfl)
theorem dX0_step_262 : decode cX0_step 262 = .ok (.invokevirtual 225, 3) := dk_182 0 225 (dk_at dksX0_step_11 3 rfl rfl)
theorem dX0_step_265 : decode cX0_step 265 = .ok (.astore 4, 2) := dk_58 4 (dk_at dksX0_step_11 6 rfl rfl)
theorem dX0_step_267 : decode cX0_step 267 = .ok (.aload_n 0, 1) := dk_42 (dk_at dksX0_step_11 8 rfl rfl)
theorem dX0_step_268 : decode cX0_step 268 = .ok (.ldc 241, 2) := dk_18 241 (dk_at dksX0_step_11 9 rfl rfl)
theorem dX0_step_270 : decode cX0_step 270 = .ok (.invokevirtual 230, 3) := dk_182 0 230 (dk_at dksX0_step_11 11 rfl rfl)
theorem dX0_step_273 : decode cX0_step 273 = .ok (.aload_n 0, 1) := dk_42 (dk_at dksX0_step_11 14 rfl rfl)
theorem dX0_step_274 : decode cX0_step 274 = .ok (.iload_n 1, 1) := dk_27 (dk_at dksX0_step_11 15 rfl rfl)
theorem dX0_step_275 : decode cX0_step 275 = .ok (.invokevirtual 225, 3) := dk_182 0 225 (dk_at dksX0_step_11 16 rfl rfl)
theorem dX0_step_278 : decode cX0_step 278 = .ok (.astore 5, 2) := dk_58 5 (dk_at dksX0_step_11 19 rfl rfl)
theorem dX0_step_280 : decode cX0_step 280 = .ok (.aload_n 0, 1) := dk_42 (dk_at dksX0_step_11 21 rfl rfl)
theorem dX0_step_281 : decode cX0_step 281 = .ok (.ldc 243, 2) := dk_18 243 (dk_at dksX0_step_11 22 rfl rfl)
theorem dX0_step_283 : decode cX0_step 283 = .ok (.invokevirtual 230, 3) := dk_182 0 230 (dk_at dksX0_step_12 0 rfl rfl)
theorem dX0_step_286 : decode cX0_step 286 = .ok (.aload_n 0, 1) := dk_42 (dk_at dksX0_step_12 3 rfl rfl)
theorem dX0_step_287 : decode cX0_step 287 = .ok (.iconst 0, 1) := dk_3 (dk_at dksX0_step_12 4 rfl rfl)
theorem dX0_step_288 : decode cX0_step 288 = .ok (.invokevirtual 125, 3) := dk_182 0 125 (dk_at dksX0_step_12 5 rfl rfl)
theorem dX0_step_291 : decode cX0_step 291 = .ok (.astore 6, 2) := dk_58 6 (dk_at dksX0_step_12 8 rfl rfl)
theorem dX0_step_293 : decode cX0_step 293 = .ok (.aload_n 0, 1) := dk_42 (dk_at dksX0_step_12 10 rfl rfl)
theorem dX0_step_294 : decode cX0_step 294 = .ok (.iload_n 2, 1) := dk_28 (dk_at dksX0_step_12 11 rfl rfl)
theorem dX0_step_295 : decode cX0_step 295 = .ok (.iconst 0, 1) := dk_3 (dk_at dksX0_step_12 12 rfl rfl)
theorem dX0_step_296 : decode cX0_step 296 = .ok (.iconst 3, 1) := dk_6 (dk_at dksX0_step_12 13 rfl rfl)
theorem dX0_step_297 : decode cX0_step 297 = .ok (.invokevirtual 210, 3) := dk_182 0 210 (dk_at dksX0_step_12 14 rfl rfl)
theorem dX0_step_300 : decode cX0_step 300 = .ok (.new 245, 3) := dk_187 0 245 (dk_at dksX0_step_12 17 rfl rfl)
theorem dX0_step_303 : decode cX0_step 303 = .ok (.dup, 1) := dk_89 (dk_at dksX0_step_12 20 rfl rfl)
theorem dX0_step_304 : decode cX0_step 304 = .ok (.aload_n 3, 1) := dk_45 (dk_at dksX0_step_12 21 rfl rfl)
theorem dX0_step_305 : decode cX0_step 305 = .ok (.aload 4, 2) := dk_25 4 (dk_at dksX0_step_12 22 rfl rfl)
theorem dX0_step_307 : decode cX0_step 307 = .ok (.aload 5, 2) := dk_25 5 (dk_at dksX0_step_13 0 rfl rfl)
theorem dX0_step_309 : decode cX0_step 309 = .ok (.aload 6, 2) := dk_25 6 (dk_at dksX0_step_13 2 rfl rfl)
theorem dX0_step_311 : decode cX0_step 311 = .ok (.invokespecial 247, 3) := dk_183 0 247 (dk_at dksX0_step_13 4 rfl rfl)
theorem dX0_step_314 : decode cX0_step 314 = .ok (.areturn, 1) := dk_176 (dk_at dksX0_step_13 7 rfl rfl)
theorem dX0_step_315 : decode cX0_step 315 = .ok (.aload_n 0, 1) := dk_42 (dk_at dksX0_step_13 8 rfl rfl)
theorem dX0_step_316 : decode cX0_step 316 = .ok (.iload_n 2, 1) := dk_28 (dk_at dksX0_step_13 9 rfl rfl)
theorem dX0_step_317 : decode cX0_step 317 = .ok (.iload_n 1, 1) := dk_27 (dk_at dksX0_step_13 10 rfl rfl)
theorem dX0_step_318 : decode cX0_step 318 = .ok (.invokevirtual 248, 3) := dk_182 0 248 (dk_at dksX0_step_13 11 rfl rfl)
theorem dX0_step_321 : decode cX0_step 321 = .ok (.areturn, 1) := dk_176 (dk_at dksX0_step_13 14 rfl rfl)
abbrev cX0_changing : ByteArray := prog_1_method_36_code
def yX0_changing : MethodName := ⟨RX0, "changing", "(I)LThereAndBack$Step;"⟩
def dkwX0_changing_7 : List UInt8 := [187, 1, 73, 89, 44, 29, 25, 4, 183, 1, 75, 176]
abbrev dktX0_changing_7 : List UInt8 := dkwX0_changing_7 ++ []
def dkwX0_changing_6 : List UInt8 := [153, 0, 19, 25, 4, 44, 180, 1, 71, 182, 1, 6, 153, 0, 7, 4, 167, 0, 4, 3, 4, 182, 0, 210]
abbrev dktX0_changing_6 : List UInt8 := dkwX0_changing_6 ++ dktX0_changing_7
def dkwX0_changing_5 : List UInt8 := [187, 1, 63, 89, 44, 25, 4, 183, 1, 65, 176, 42, 3, 182, 0, 125, 58, 4, 42, 27, 44, 182, 1, 68]
abbrev dktX0_changing_5 : List UInt8 := dkwX0_changing_5 ++ dktX0_changing_6
def dkwX0_changing_4 : List UInt8 := [191, 42, 182, 0, 65, 29, 156, 0, 27, 42, 182, 1, 44, 58, 4, 42, 27, 3, 4, 182, 0, 210]
abbrev dktX0_changing_4 : List UInt8 := dkwX0_changing_4 ++ dktX0_changing_5
def dkwX0_changing_3 : List UInt8 := [7, 167, 0, 4, 2, 62, 29, 156, 0, 18, 42, 19, 1, 61, 182, 1, 50, 154, 0, 8, 42, 182, 0, 61]
abbrev dktX0_changing_3 : List UInt8 := dkwX0_changing_3 ++ dktX0_changing_4
def dkwX0_changing_2 : List UInt8 := [42, 19, 1, 57, 182, 1, 50, 153, 0, 7, 6, 167, 0, 18, 42, 19, 1, 59, 182, 1, 50, 153, 0, 7]
abbrev dktX0_changing_2 : List UInt8 := dkwX0_changing_2 ++ dktX0_changing_3
def dkwX0_changing_1 : List UInt8 := [182, 1, 50, 153, 0, 7, 4, 167, 0, 46, 42, 19, 1, 55, 182, 1, 50, 153, 0, 7, 5, 167, 0, 32]
abbrev dktX0_changing_1 : List UInt8 := dkwX0_changing_1 ++ dktX0_changing_2
def dkwX0_changing_0 : List UInt8 := [42, 182, 1, 44, 77, 42, 19, 1, 48, 182, 1, 50, 153, 0, 7, 3, 167, 0, 60, 42, 19, 1, 53]
abbrev dktX0_changing_0 : List UInt8 := dkwX0_changing_0 ++ dktX0_changing_1
theorem dksX0_changing_0 : cX0_changing.data.toList.drop 0 = dktX0_changing_0 := by decide +kernel
theorem dksX0_changing_1 : cX0_changing.data.toList.drop 23 = dktX0_changing_1 := dk_seg dksX0_changing_0 23 rfl rfl
theorem dksX0_changing_2 : cX0_changing.data.toList.drop 47 = dktX0_changing_2 := dk_seg dksX0_changing_1 24 rfl rfl
theorem dksX0_changing_3 : cX0_changing.data.toList.drop 71 = dktX0_changing_3 := dk_seg dksX0_changing_2 24 rfl rfl
theorem dksX0_changing_4 : cX0_changing.data.toList.drop 95 = dktX0_changing_4 := dk_seg dksX0_changing_3 24 rfl rfl
theorem dksX0_changing_5 : cX0_changing.data.toList.drop 117 = dktX0_changing_5 := dk_seg dksX0_changing_4 22 rfl rfl
theorem dksX0_changing_6 : cX0_changing.data.toList.drop 141 = dktX0_changing_6 := dk_seg dksX0_changing_5 24 rfl rfl
theorem dksX0_changing_7 : cX0_changing.data.toList.drop 165 = dktX0_changing_7 := dk_seg dksX0_changing_6 24 rfl rfl
theorem dX0_changing_0 : decode cX0_changing 0 = .ok (.aload_n 0, 1) := dk_42 (dk_at dksX0_changing_0 0 rfl rfl)
theorem dX0_changing_1 : decode cX0_changing 1 = .ok (.invokevirtual 300, 3) := dk_182 1 44 (dk_at dksX0_changing_0 1 rfl rfl)
theorem dX0_changing_4 : decode cX0_changing 4 = .ok (.astore_n 2, 1) := dk_77 (dk_at dksX0_changing_0 4 rfl rfl)
theorem dX0_changing_5 : decode cX0_changing 5 = .ok (.aload_n 0, 1) := dk_42 (dk_at dksX0_changing_0 5 rfl rfl)
theorem dX0_changing_6 : decode cX0_changing 6 = .ok (.ldc_w 304, 3) := dk_19 1 48 (dk_at dksX0_changing_0 6 rfl rfl)
theorem dX0_changing_9 : decode cX0_changing 9 = .ok (.invokevirtual 306, 3) := dk_182 1 50 (dk_at dksX0_changing_0 9 rfl rfl)
theorem dX0_changing_12 : decode cX0_changing 12 = .ok (.ifCond .eq 7, 3) := dk_153 0 7 (dk_at dksX0_changing_0 12 rfl rfl)
theorem dX0_changing_15 : decode cX0_changing 15 = .ok (.iconst 0, 1) := dk_3 (dk_at dksX0_changing_0 15 rfl rfl)
theorem dX0_changing_16 : decode cX0_changing 16 = .ok (.goto 60, 3) := dk_167 0 60 (dk_at dksX0_changing_0 16 rfl rfl)
theorem dX0_changing_19 : decode cX0_changing 19 = .ok (.aload_n 0, 1) := dk_42 (dk_at dksX0_changing_0 19 rfl rfl)
theorem dX0_changing_20 : decode cX0_changing 20 = .ok (.ldc_w 309, 3) := dk_19 1 53 (dk_at dksX0_changing_0 20 rfl rfl)
theorem dX0_changing_23 : decode cX0_changing 23 = .ok (.invokevirtual 306, 3) := dk_182 1 50 (dk_at dksX0_changing_1 0 rfl rfl)
theorem dX0_changing_26 : decode cX0_changing 26 = .ok (.ifCond .eq 7, 3) := dk_153 0 7 (dk_at dksX0_changing_1 3 rfl rfl)
theorem dX0_changing_29 : decode cX0_changing 29 = .ok (.iconst 1, 1) := dk_4 (dk_at dksX0_changing_1 6 rfl rfl)
theorem dX0_changing_30 : decode cX0_changing 30 = .ok (.goto 46, 3) := dk_167 0 46 (dk_at dksX0_changing_1 7 rfl rfl)
theorem dX0_changing_33 : decode cX0_changing 33 = .ok (.aload_n 0, 1) := dk_42 (dk_at dksX0_changing_1 10 rfl rfl)
theorem dX0_changing_34 : decode cX0_changing 34 = .ok (.ldc_w 311, 3) := dk_19 1 55 (dk_at dksX0_changing_1 11 rfl rfl)
theorem dX0_changing_37 : decode cX0_changing 37 = .ok (.invokevirtual 306, 3) := dk_182 1 50 (dk_at dksX0_changing_1 14 rfl rfl)
theorem dX0_changing_40 : decode cX0_changing 40 = .ok (.ifCond .eq 7, 3) := dk_153 0 7 (dk_at dksX0_changing_1 17 rfl rfl)
theorem dX0_changing_43 : decode cX0_changing 43 = .ok (.iconst 2, 1) := dk_5 (dk_at dksX0_changing_1 20 rfl rfl)
theorem dX0_changing_44 : decode cX0_changing 44 = .ok (.goto 32, 3) := dk_167 0 32 (dk_at dksX0_changing_1 21 rfl rfl)
theorem dX0_changing_47 : decode cX0_changing 47 = .ok (.aload_n 0, 1) := dk_42 (dk_at dksX0_changing_2 0 rfl rfl)
theorem dX0_changing_48 : decode cX0_changing 48 = .ok (.ldc_w 313, 3) := dk_19 1 57 (dk_at dksX0_changing_2 1 rfl rfl)
theorem dX0_changing_51 : decode cX0_changing 51 = .ok (.invokevirtual 306, 3) := dk_182 1 50 (dk_at dksX0_changing_2 4 rfl rfl)
theorem dX0_changing_54 : decode cX0_changing 54 = .ok (.ifCond .eq 7, 3) := dk_153 0 7 (dk_at dksX0_changing_2 7 rfl rfl)
theorem dX0_changing_57 : decode cX0_changing 57 = .ok (.iconst 3, 1) := dk_6 (dk_at dksX0_changing_2 10 rfl rfl)
theorem dX0_changing_58 : decode cX0_changing 58 = .ok (.goto 18, 3) := dk_167 0 18 (dk_at dksX0_changing_2 11 rfl rfl)
theorem dX0_changing_61 : decode cX0_changing 61 = .ok (.aload_n 0, 1) := dk_42 (dk_at dksX0_changing_2 14 rfl rfl)
theorem dX0_changing_62 : decode cX0_changing 62 = .ok (.ldc_w 315, 3) := dk_19 1 59 (dk_at dksX0_changing_2 15 rfl rfl)
theorem dX0_changing_65 : decode cX0_changing 65 = .ok (.invokevirtual 306, 3) := dk_182 1 50 (dk_at dksX0_changing_2 18 rfl rfl)
theorem dX0_changing_68 : decode cX0_changing 68 = .ok (.ifCond .eq 7, 3) := dk_153 0 7 (dk_at dksX0_changing_2 21 rfl rfl)
theorem dX0_changing_71 : decode cX0_changing 71 = .ok (.iconst 4, 1) := dk_7 (dk_at dksX0_changing_3 0 rfl rfl)
theorem dX0_changing_72 : decode cX0_changing 72 = .ok (.goto 4, 3) := dk_167 0 4 (dk_at dksX0_changing_3 1 rfl rfl)
theorem dX0_changing_75 : decode cX0_changing 75 = .ok (.iconst (-1), 1) := dk_2 (dk_at dksX0_changing_3 4 rfl rfl)
theorem dX0_changing_76 : decode cX0_changing 76 = .ok (.istore_n 3, 1) := dk_62 (dk_at dksX0_changing_3 5 rfl rfl)
theorem dX0_changing_77 : decode cX0_changing 77 = .ok (.iload_n 3, 1) := dk_29 (dk_at dksX0_changing_3 6 rfl rfl)
theorem dX0_changing_78 : decode cX0_changing 78 = .ok (.ifCond .ge 18, 3) := dk_156 0 18 (dk_at dksX0_changing_3 7 rfl rfl)
theorem dX0_changing_81 : decode cX0_changing 81 = .ok (.aload_n 0, 1) := dk_42 (dk_at dksX0_changing_3 10 rfl rfl)
theorem dX0_changing_82 : decode cX0_changing 82 = .ok (.ldc_w 317, 3) := dk_19 1 61 (dk_at dksX0_changing_3 11 rfl rfl)
theorem dX0_changing_85 : decode cX0_changing 85 = .ok (.invokevirtual 306, 3) := dk_182 1 50 (dk_at dksX0_changing_3 14 rfl rfl)
theorem dX0_changing_88 : decode cX0_changing 88 = .ok (.ifCond .ne 8, 3) := dk_154 0 8 (dk_at dksX0_changing_3 17 rfl rfl)
theorem dX0_changing_91 : decode cX0_changing 91 = .ok (.aload_n 0, 1) := dk_42 (dk_at dksX0_changing_3 20 rfl rfl)
theorem dX0_changing_92 : decode cX0_changing 92 = .ok (.invokevirtual 61, 3) := dk_182 0 61 (dk_at dksX0_changing_3 21 rfl rfl)
theorem dX0_changing_95 : decode cX0_changing 95 = .ok (.athrow, 1) := dk_191 (dk_at dksX0_changing_4 0 rfl rfl)
theorem dX0_changing_96 : decode cX0_changing 96 = .ok (.aload_n 0, 1) := dk_42 (dk_at dksX0_changing_4 1 rfl rfl)
theorem dX0_changing_97 : decode cX0_changing 97 = .ok (.invokevirtual 65, 3) := dk_182 0 65 (dk_at dksX0_changing_4 2 rfl rfl)
theorem dX0_changing_100 : decode cX0_changing 100 = .ok (.iload_n 3, 1) := dk_29 (dk_at dksX0_changing_4 5 rfl rfl)
theorem dX0_changing_101 : decode cX0_changing 101 = .ok (.ifCond .ge 27, 3) := dk_156 0 27 (dk_at dksX0_changing_4 6 rfl rfl)
theorem dX0_changing_104 : decode cX0_changing 104 = .ok (.aload_n 0, 1) := dk_42 (dk_at dksX0_changing_4 9 rfl rfl)
theorem dX0_changing_105 : decode cX0_changing 105 = .ok (.invokevirtual 300, 3) := dk_182 1 44 (dk_at dksX0_changing_4 10 rfl rfl)
theorem dX0_changing_108 : decode cX0_changing 108 = .ok (.astore 4, 2) := dk_58 4 (dk_at dksX0_changing_4 13 rfl rfl)
theorem dX0_changing_110 : decode cX0_changing 110 = .ok (.aload_n 0, 1) := dk_42 (dk_at dksX0_changing_4 15 rfl rfl)
theorem dX0_changing_111 : decode cX0_changing 111 = .ok (.iload_n 1, 1) := dk_27 (dk_at dksX0_changing_4 16 rfl rfl)
theorem dX0_changing_112 : decode cX0_changing 112 = .ok (.iconst 0, 1) := dk_3 (dk_at dksX0_changing_4 17 rfl rfl)
theorem dX0_changing_113 : decode cX0_changing 113 = .ok (.iconst 1, 1) := dk_4 (dk_at dksX0_changing_4 18 rfl rfl)
theorem dX0_changing_114 : decode cX0_changing 114 = .ok (.invokevirtual 210, 3) := dk_182 0 210 (dk_at dksX0_changing_4 19 rfl rfl)
theorem dX0_changing_117 : decode cX0_changing 117 = .ok (.new 319, 3) := dk_187 1 63 (dk_at dksX0_changing_5 0 rfl rfl)
theorem dX0_changing_120 : decode cX0_changing 120 = .ok (.dup, 1) := dk_89 (dk_at dksX0_changing_5 3 rfl rfl)
theorem dX0_changing_121 : decode cX0_changing 121 = .ok (.aload_n 2, 1) := dk_44 (dk_at dksX0_changing_5 4 rfl rfl)
theorem dX0_changing_122 : decode cX0_changing 122 = .ok (.aload 4, 2) := dk_25 4 (dk_at dksX0_changing_5 5 rfl rfl)
theorem dX0_changing_124 : decode cX0_changing 124 = .ok (.invokespecial 321, 3) := dk_183 1 65 (dk_at dksX0_changing_5 7 rfl rfl)
theorem dX0_changing_127 : decode cX0_changing 127 = .ok (.areturn, 1) := dk_176 (dk_at dksX0_changing_5 10 rfl rfl)
theorem dX0_changing_128 : decode cX0_changing 128 = .ok (.aload_n 0, 1) := dk_42 (dk_at dksX0_changing_5 11 rfl rfl)
theorem dX0_changing_129 : decode cX0_changing 129 = .ok (.iconst 0, 1) := dk_3 (dk_at dksX0_changing_5 12 rfl rfl)
theorem dX0_changing_130 : decode cX0_changing 130 = .ok (.invokevirtual 125, 3) := dk_182 0 125 (dk_at dksX0_changing_5 13 rfl rfl)
theorem dX0_changing_133 : decode cX0_changing 133 = .ok (.astore 4, 2) := dk_58 4 (dk_at dksX0_changing_5 16 rfl rfl)
theorem dX0_changing_135 : decode cX0_changing 135 = .ok (.aload_n 0, 1) := dk_42 (dk_at dksX0_changing_5 18 rfl rfl)
theorem dX0_changing_136 : decode cX0_changing 136 = .ok (.iload_n 1, 1) := dk_27 (dk_at dksX0_changing_5 19 rfl rfl)
theorem dX0_changing_137 : decode cX0_changing 137 = .ok (.aload_n 2, 1) := dk_44 (dk_at dksX0_changing_5 20 rfl rfl)
theorem dX0_changing_138 : decode cX0_changing 138 = .ok (.invokevirtual 324, 3) := dk_182 1 68 (dk_at dksX0_changing_5 21 rfl rfl)
theorem dX0_changing_141 : decode cX0_changing 141 = .ok (.ifCond .eq 19, 3) := dk_153 0 19 (dk_at dksX0_changing_6 0 rfl rfl)
theorem dX0_changing_144 : decode cX0_changing 144 = .ok (.aload 4, 2) := dk_25 4 (dk_at dksX0_changing_6 3 rfl rfl)
theorem dX0_changing_146 : decode cX0_changing 146 = .ok (.aload_n 2, 1) := dk_44 (dk_at dksX0_changing_6 5 rfl rfl)
theorem dX0_changing_147 : decode cX0_changing 147 = .ok (.getfield 327, 3) := dk_180 1 71 (dk_at dksX0_changing_6 6 rfl rfl)
theorem dX0_changing_150 : decode cX0_changing 150 = .ok (.invokevirtual 262, 3) := dk_182 1 6 (dk_at dksX0_changing_6 9 rfl rfl)
theorem dX0_changing_153 : decode cX0_changing 153 = .ok (.ifCond .eq 7, 3) := dk_153 0 7 (dk_at dksX0_changing_6 12 rfl rfl)
theorem dX0_changing_156 : decode cX0_changing 156 = .ok (.iconst 1, 1) := dk_4 (dk_at dksX0_changing_6 15 rfl rfl)
theorem dX0_changing_157 : decode cX0_changing 157 = .ok (.goto 4, 3) := dk_167 0 4 (dk_at dksX0_changing_6 16 rfl rfl)
theorem dX0_changing_160 : decode cX0_changing 160 = .ok (.iconst 0, 1) := dk_3 (dk_at dksX0_changing_6 19 rfl rfl)
theorem dX0_changing_161 : decode cX0_changing 161 = .ok (.iconst 1, 1) := dk_4 (dk_at dksX0_changing_6 20 rfl rfl)
theorem dX0_changing_162 : decode cX0_changing 162 = .ok (.invokevirtual 210, 3) := dk_182 0 210 (dk_at dksX0_changing_6 21 rfl rfl)
theorem dX0_changing_165 : decode cX0_changing 165 = .ok (.new 329, 3) := dk_187 1 73 (dk_at dksX0_changing_7 0 rfl rfl)
theorem dX0_changing_168 : decode cX0_changing 168 = .ok (.dup, 1) := dk_89 (dk_at dksX0_changing_7 3 rfl rfl)
theorem dX0_changing_169 : decode cX0_changing 169 = .ok (.aload_n 2, 1) := dk_44 (dk_at dksX0_changing_7 4 rfl rfl)
theorem dX0_changing_170 : decode cX0_changing 170 = .ok (.iload_n 3, 1) := dk_29 (dk_at dksX0_changing_7 5 rfl rfl)
theorem dX0_changing_171 : decode cX0_changing 171 = .ok (.aload 4, 2) := dk_25 4 (dk_at dksX0_changing_7 6 rfl rfl)
theorem dX0_changing_173 : decode cX0_changing 173 = .ok (.invokespecial 331, 3) := dk_183 1 75 (dk_at dksX0_changing_7 8 rfl rfl)
theorem dX0_changing_176 : decode cX0_changing 176 = .ok (.areturn, 1) := dk_176 (dk_at dksX0_changing_7 11 rfl rfl)
abbrev cX0_target : ByteArray := prog_1_method_35_code
def yX0_target : MethodName := ⟨RX0, "target", "()LThereAndBack$Place;"⟩
def dkwX0_target_2 : List UInt8 := [187, 1, 39, 89, 2, 27, 44, 183, 1, 41, 176]
abbrev dktX0_target_2 : List UInt8 := dkwX0_target_2 ++ []
def dkwX0_target_1 : List UInt8 := [182, 0, 107, 60, 42, 16, 91, 182, 0, 131, 42, 3, 182, 0, 125, 77, 42, 16, 93, 182, 0, 131]
abbrev dktX0_target_1 : List UInt8 := dkwX0_target_1 ++ dktX0_target_2
def dkwX0_target_0 : List UInt8 := [42, 182, 0, 73, 153, 0, 17, 187, 1, 39, 89, 42, 182, 0, 103, 3, 1, 183, 1, 41, 176, 42]
abbrev dktX0_target_0 : List UInt8 := dkwX0_target_0 ++ dktX0_target_1
theorem dksX0_target_0 : cX0_target.data.toList.drop 0 = dktX0_target_0 := by decide +kernel
theorem dksX0_target_1 : cX0_target.data.toList.drop 22 = dktX0_target_1 := dk_seg dksX0_target_0 22 rfl rfl
theorem dksX0_target_2 : cX0_target.data.toList.drop 44 = dktX0_target_2 := dk_seg dksX0_target_1 22 rfl rfl
theorem dX0_target_0 : decode cX0_target 0 = .ok (.aload_n 0, 1) := dk_42 (dk_at dksX0_target_0 0 rfl rfl)
theorem dX0_target_1 : decode cX0_target 1 = .ok (.invokevirtual 73, 3) := dk_182 0 73 (dk_at dksX0_target_0 1 rfl rfl)
theorem dX0_target_4 : decode cX0_target 4 = .ok (.ifCond .eq 17, 3) := dk_153 0 17 (dk_at dksX0_target_0 4 rfl rfl)
theorem dX0_target_7 : decode cX0_target 7 = .ok (.new 295, 3) := dk_187 1 39 (dk_at dksX0_target_0 7 rfl rfl)
theorem dX0_target_10 : decode cX0_target 10 = .ok (.dup, 1) := dk_89 (dk_at dksX0_target_0 10 rfl rfl)
theorem dX0_target_11 : decode cX0_target 11 = .ok (.aload_n 0, 1) := dk_42 (dk_at dksX0_target_0 11 rfl rfl)
theorem dX0_target_12 : decode cX0_target 12 = .ok (.invokevirtual 103, 3) := dk_182 0 103 (dk_at dksX0_target_0 12 rfl rfl)
theorem dX0_target_15 : decode cX0_target 15 = .ok (.iconst 0, 1) := dk_3 (dk_at dksX0_target_0 15 rfl rfl)
theorem dX0_target_16 : decode cX0_target 16 = .ok (.aconst_null, 1) := dk_1 (dk_at dksX0_target_0 16 rfl rfl)
theorem dX0_target_17 : decode cX0_target 17 = .ok (.invokespecial 297, 3) := dk_183 1 41 (dk_at dksX0_target_0 17 rfl rfl)
theorem dX0_target_20 : decode cX0_target 20 = .ok (.areturn, 1) := dk_176 (dk_at dksX0_target_0 20 rfl rfl)
theorem dX0_target_21 : decode cX0_target 21 = .ok (.aload_n 0, 1) := dk_42 (dk_at dksX0_target_0 21 rfl rfl)
theorem dX0_target_22 : decode cX0_target 22 = .ok (.invokevirtual 107, 3) := dk_182 0 107 (dk_at dksX0_target_1 0 rfl rfl)
theorem dX0_target_25 : decode cX0_target 25 = .ok (.istore_n 1, 1) := dk_60 (dk_at dksX0_target_1 3 rfl rfl)
theorem dX0_target_26 : decode cX0_target 26 = .ok (.aload_n 0, 1) := dk_42 (dk_at dksX0_target_1 4 rfl rfl)
theorem dX0_target_27 : decode cX0_target 27 = .ok (.bipush 91, 2) := dk_16 91 (dk_at dksX0_target_1 5 rfl rfl)
theorem dX0_target_29 : decode cX0_target 29 = .ok (.invokevirtual 131, 3) := dk_182 0 131 (dk_at dksX0_target_1 7 rfl rfl)
theorem dX0_target_32 : decode cX0_target 32 = .ok (.aload_n 0, 1) := dk_42 (dk_at dksX0_target_1 10 rfl rfl)
theorem dX0_target_33 : decode cX0_target 33 = .ok (.iconst 0, 1) := dk_3 (dk_at dksX0_target_1 11 rfl rfl)
theorem dX0_target_34 : decode cX0_target 34 = .ok (.invokevirtual 125, 3) := dk_182 0 125 (dk_at dksX0_target_1 12 rfl rfl)
theorem dX0_target_37 : decode cX0_target 37 = .ok (.astore_n 2, 1) := dk_77 (dk_at dksX0_target_1 15 rfl rfl)
theorem dX0_target_38 : decode cX0_target 38 = .ok (.aload_n 0, 1) := dk_42 (dk_at dksX0_target_1 16 rfl rfl)
theorem dX0_target_39 : decode cX0_target 39 = .ok (.bipush 93, 2) := dk_16 93 (dk_at dksX0_target_1 17 rfl rfl)
theorem dX0_target_41 : decode cX0_target 41 = .ok (.invokevirtual 131, 3) := dk_182 0 131 (dk_at dksX0_target_1 19 rfl rfl)
theorem dX0_target_44 : decode cX0_target 44 = .ok (.new 295, 3) := dk_187 1 39 (dk_at dksX0_target_2 0 rfl rfl)
theorem dX0_target_47 : decode cX0_target 47 = .ok (.dup, 1) := dk_89 (dk_at dksX0_target_2 3 rfl rfl)
theorem dX0_target_48 : decode cX0_target 48 = .ok (.iconst (-1), 1) := dk_2 (dk_at dksX0_target_2 4 rfl rfl)
theorem dX0_target_49 : decode cX0_target 49 = .ok (.iload_n 1, 1) := dk_27 (dk_at dksX0_target_2 5 rfl rfl)
theorem dX0_target_50 : decode cX0_target 50 = .ok (.aload_n 2, 1) := dk_44 (dk_at dksX0_target_2 6 rfl rfl)
theorem dX0_target_51 : decode cX0_target 51 = .ok (.invokespecial 297, 3) := dk_183 1 41 (dk_at dksX0_target_2 7 rfl rfl)
theorem dX0_target_54 : decode cX0_target 54 = .ok (.areturn, 1) := dk_176 (dk_at dksX0_target_2 10 rfl rfl)
abbrev cX0_name : ByteArray := prog_1_method_17_code
def yX0_name : MethodName := ⟨RX0, "name", "()I"⟩
def dkwX0_name_1 : List UInt8 := [60, 42, 182, 0, 65, 27, 172]
abbrev dktX0_name_1 : List UInt8 := dkwX0_name_1 ++ []
def dkwX0_name_0 : List UInt8 := [42, 182, 0, 73, 154, 0, 8, 42, 182, 0, 61, 191, 42, 180, 0, 24, 42, 180, 0, 14, 51, 16, 97, 100]
abbrev dktX0_name_0 : List UInt8 := dkwX0_name_0 ++ dktX0_name_1
theorem dksX0_name_0 : cX0_name.data.toList.drop 0 = dktX0_name_0 := by decide +kernel
theorem dksX0_name_1 : cX0_name.data.toList.drop 24 = dktX0_name_1 := dk_seg dksX0_name_0 24 rfl rfl
theorem dX0_name_0 : decode cX0_name 0 = .ok (.aload_n 0, 1) := dk_42 (dk_at dksX0_name_0 0 rfl rfl)
theorem dX0_name_1 : decode cX0_name 1 = .ok (.invokevirtual 73, 3) := dk_182 0 73 (dk_at dksX0_name_0 1 rfl rfl)
theorem dX0_name_4 : decode cX0_name 4 = .ok (.ifCond .ne 8, 3) := dk_154 0 8 (dk_at dksX0_name_0 4 rfl rfl)
theorem dX0_name_7 : decode cX0_name 7 = .ok (.aload_n 0, 1) := dk_42 (dk_at dksX0_name_0 7 rfl rfl)
theorem dX0_name_8 : decode cX0_name 8 = .ok (.invokevirtual 61, 3) := dk_182 0 61 (dk_at dksX0_name_0 8 rfl rfl)
theorem dX0_name_11 : decode cX0_name 11 = .ok (.athrow, 1) := dk_191 (dk_at dksX0_name_0 11 rfl rfl)
theorem dX0_name_12 : decode cX0_name 12 = .ok (.aload_n 0, 1) := dk_42 (dk_at dksX0_name_0 12 rfl rfl)
theorem dX0_name_13 : decode cX0_name 13 = .ok (.getfield 24, 3) := dk_180 0 24 (dk_at dksX0_name_0 13 rfl rfl)
theorem dX0_name_16 : decode cX0_name 16 = .ok (.aload_n 0, 1) := dk_42 (dk_at dksX0_name_0 16 rfl rfl)
theorem dX0_name_17 : decode cX0_name 17 = .ok (.getfield 14, 3) := dk_180 0 14 (dk_at dksX0_name_0 17 rfl rfl)
theorem dX0_name_20 : decode cX0_name 20 = .ok (.baload, 1) := dk_51 (dk_at dksX0_name_0 20 rfl rfl)
theorem dX0_name_21 : decode cX0_name 21 = .ok (.bipush 97, 2) := dk_16 97 (dk_at dksX0_name_0 21 rfl rfl)
theorem dX0_name_23 : decode cX0_name 23 = .ok (.isub, 1) := dk_100 (dk_at dksX0_name_0 23 rfl rfl)
theorem dX0_name_24 : decode cX0_name 24 = .ok (.istore_n 1, 1) := dk_60 (dk_at dksX0_name_1 0 rfl rfl)
theorem dX0_name_25 : decode cX0_name 25 = .ok (.aload_n 0, 1) := dk_42 (dk_at dksX0_name_1 1 rfl rfl)
theorem dX0_name_26 : decode cX0_name 26 = .ok (.invokevirtual 65, 3) := dk_182 0 65 (dk_at dksX0_name_1 2 rfl rfl)
theorem dX0_name_29 : decode cX0_name 29 = .ok (.iload_n 1, 1) := dk_27 (dk_at dksX0_name_1 5 rfl rfl)
theorem dX0_name_30 : decode cX0_name 30 = .ok (.ireturn, 1) := dk_172 (dk_at dksX0_name_1 6 rfl rfl)
abbrev cX0_cannot : ByteArray := prog_1_method_5_code
def yX0_cannot : MethodName := ⟨RX0, "cannot", "()LThereAndBack$Wrong;"⟩
def dkwX0_cannot_0 : List UInt8 := [42, 4, 42, 180, 0, 14, 182, 0, 17, 176]
abbrev dktX0_cannot_0 : List UInt8 := dkwX0_cannot_0 ++ []
theorem dksX0_cannot_0 : cX0_cannot.data.toList.drop 0 = dktX0_cannot_0 := by decide +kernel
theorem dX0_cannot_0 : decode cX0_cannot 0 = .ok (.aload_n 0, 1) := dk_42 (dk_at dksX0_cannot_0 0 rfl rfl)
theorem dX0_cannot_1 : decode cX0_cannot 1 = .ok (.iconst 1, 1) := dk_4 (dk_at dksX0_cannot_0 1 rfl rfl)
theorem dX0_cannot_2 : decode cX0_cannot 2 = .ok (.aload_n 0, 1) := dk_42 (dk_at dksX0_cannot_0 2 rfl rfl)
theorem dX0_cannot_3 : decode cX0_cannot 3 = .ok (.getfield 14, 3) := dk_180 0 14 (dk_at dksX0_cannot_0 3 rfl rfl)
theorem dX0_cannot_6 : decode cX0_cannot 6 = .ok (.invokevirtual 17, 3) := dk_182 0 17 (dk_at dksX0_cannot_0 6 rfl rfl)
theorem dX0_cannot_9 : decode cX0_cannot 9 = .ok (.areturn, 1) := dk_176 (dk_at dksX0_cannot_0 9 rfl rfl)
abbrev cX0_rowName : ByteArray := prog_1_method_18_code
def yX0_rowName : MethodName := ⟨RX0, "rowName", "()I"⟩
def dkwX0_rowName_1 : List UInt8 := [60, 42, 182, 0, 65, 27, 172]
abbrev dktX0_rowName_1 : List UInt8 := dkwX0_rowName_1 ++ []
def dkwX0_rowName_0 : List UInt8 := [42, 182, 0, 77, 154, 0, 8, 42, 182, 0, 61, 191, 42, 180, 0, 24, 42, 180, 0, 14, 51, 16, 65, 100]
abbrev dktX0_rowName_0 : List UInt8 := dkwX0_rowName_0 ++ dktX0_rowName_1
theorem dksX0_rowName_0 : cX0_rowName.data.toList.drop 0 = dktX0_rowName_0 := by decide +kernel
theorem dksX0_rowName_1 : cX0_rowName.data.toList.drop 24 = dktX0_rowName_1 := dk_seg dksX0_rowName_0 24 rfl rfl
theorem dX0_rowName_0 : decode cX0_rowName 0 = .ok (.aload_n 0, 1) := dk_42 (dk_at dksX0_rowName_0 0 rfl rfl)
theorem dX0_rowName_1 : decode cX0_rowName 1 = .ok (.invokevirtual 77, 3) := dk_182 0 77 (dk_at dksX0_rowName_0 1 rfl rfl)
theorem dX0_rowName_4 : decode cX0_rowName 4 = .ok (.ifCond .ne 8, 3) := dk_154 0 8 (dk_at dksX0_rowName_0 4 rfl rfl)
theorem dX0_rowName_7 : decode cX0_rowName 7 = .ok (.aload_n 0, 1) := dk_42 (dk_at dksX0_rowName_0 7 rfl rfl)
theorem dX0_rowName_8 : decode cX0_rowName 8 = .ok (.invokevirtual 61, 3) := dk_182 0 61 (dk_at dksX0_rowName_0 8 rfl rfl)
theorem dX0_rowName_11 : decode cX0_rowName 11 = .ok (.athrow, 1) := dk_191 (dk_at dksX0_rowName_0 11 rfl rfl)
theorem dX0_rowName_12 : decode cX0_rowName 12 = .ok (.aload_n 0, 1) := dk_42 (dk_at dksX0_rowName_0 12 rfl rfl)
theorem dX0_rowName_13 : decode cX0_rowName 13 = .ok (.getfield 24, 3) := dk_180 0 24 (dk_at dksX0_rowName_0 13 rfl rfl)
theorem dX0_rowName_16 : decode cX0_rowName 16 = .ok (.aload_n 0, 1) := dk_42 (dk_at dksX0_rowName_0 16 rfl rfl)
theorem dX0_rowName_17 : decode cX0_rowName 17 = .ok (.getfield 14, 3) := dk_180 0 14 (dk_at dksX0_rowName_0 17 rfl rfl)
theorem dX0_rowName_20 : decode cX0_rowName 20 = .ok (.baload, 1) := dk_51 (dk_at dksX0_rowName_0 20 rfl rfl)
theorem dX0_rowName_21 : decode cX0_rowName 21 = .ok (.bipush 65, 2) := dk_16 65 (dk_at dksX0_rowName_0 21 rfl rfl)
theorem dX0_rowName_23 : decode cX0_rowName 23 = .ok (.isub, 1) := dk_100 (dk_at dksX0_rowName_0 23 rfl rfl)
theorem dX0_rowName_24 : decode cX0_rowName 24 = .ok (.istore_n 1, 1) := dk_60 (dk_at dksX0_rowName_1 0 rfl rfl)
theorem dX0_rowName_25 : decode cX0_rowName 25 = .ok (.aload_n 0, 1) := dk_42 (dk_at dksX0_rowName_1 1 rfl rfl)
theorem dX0_rowName_26 : decode cX0_rowName 26 = .ok (.invokevirtual 65, 3) := dk_182 0 65 (dk_at dksX0_rowName_1 2 rfl rfl)
theorem dX0_rowName_29 : decode cX0_rowName 29 = .ok (.iload_n 1, 1) := dk_27 (dk_at dksX0_rowName_1 5 rfl rfl)
theorem dX0_rowName_30 : decode cX0_rowName 30 = .ok (.ireturn, 1) := dk_172 (dk_at dksX0_rowName_1 6 rfl rfl)
abbrev cX0_sign : ByteArray := prog_1_method_15_code
def yX0_sign : MethodName := ⟨RX0, "sign", "(I)V"⟩
def dkwX0_sign_0 : List UInt8 := [42, 27, 182, 0, 58, 154, 0, 8, 42, 182, 0, 61, 191, 42, 182, 0, 65, 177]
abbrev dktX0_sign_0 : List UInt8 := dkwX0_sign_0 ++ []
theorem dksX0_sign_0 : cX0_sign.data.toList.drop 0 = dktX0_sign_0 := by decide +kernel
theorem dX0_sign_0 : decode cX0_sign 0 = .ok (.aload_n 0, 1) := dk_42 (dk_at dksX0_sign_0 0 rfl rfl)
theorem dX0_sign_1 : decode cX0_sign 1 = .ok (.iload_n 1, 1) := dk_27 (dk_at dksX0_sign_0 1 rfl rfl)
theorem dX0_sign_2 : decode cX0_sign 2 = .ok (.invokevirtual 58, 3) := dk_182 0 58 (dk_at dksX0_sign_0 2 rfl rfl)
theorem dX0_sign_5 : decode cX0_sign 5 = .ok (.ifCond .ne 8, 3) := dk_154 0 8 (dk_at dksX0_sign_0 5 rfl rfl)
theorem dX0_sign_8 : decode cX0_sign 8 = .ok (.aload_n 0, 1) := dk_42 (dk_at dksX0_sign_0 8 rfl rfl)
theorem dX0_sign_9 : decode cX0_sign 9 = .ok (.invokevirtual 61, 3) := dk_182 0 61 (dk_at dksX0_sign_0 9 rfl rfl)
theorem dX0_sign_12 : decode cX0_sign 12 = .ok (.athrow, 1) := dk_191 (dk_at dksX0_sign_0 12 rfl rfl)
theorem dX0_sign_13 : decode cX0_sign 13 = .ok (.aload_n 0, 1) := dk_42 (dk_at dksX0_sign_0 13 rfl rfl)
theorem dX0_sign_14 : decode cX0_sign 14 = .ok (.invokevirtual 65, 3) := dk_182 0 65 (dk_at dksX0_sign_0 14 rfl rfl)
theorem dX0_sign_17 : decode cX0_sign 17 = .ok (.return_, 1) := dk_177 (dk_at dksX0_sign_0 17 rfl rfl)
abbrev cX0_isSign : ByteArray := prog_1_method_10_code
def yX0_isSign : MethodName := ⟨RX0, "isSign", "(I)Z"⟩
def dkwX0_isSign_1 : List UInt8 := [167, 0, 4, 3, 172]
abbrev dktX0_isSign_1 : List UInt8 := dkwX0_isSign_1 ++ []
def dkwX0_isSign_0 : List UInt8 := [42, 180, 0, 35, 7, 160, 0, 20, 42, 180, 0, 24, 42, 180, 0, 14, 51, 27, 160, 0, 7, 4]
abbrev dktX0_isSign_0 : List UInt8 := dkwX0_isSign_0 ++ dktX0_isSign_1
theorem dksX0_isSign_0 : cX0_isSign.data.toList.drop 0 = dktX0_isSign_0 := by decide +kernel
theorem dksX0_isSign_1 : cX0_isSign.data.toList.drop 22 = dktX0_isSign_1 := dk_seg dksX0_isSign_0 22 rfl rfl
theorem dX0_isSign_0 : decode cX0_isSign 0 = .ok (.aload_n 0, 1) := dk_42 (dk_at dksX0_isSign_0 0 rfl rfl)
theorem dX0_isSign_1 : decode cX0_isSign 1 = .ok (.getfield 35, 3) := dk_180 0 35 (dk_at dksX0_isSign_0 1 rfl rfl)
theorem dX0_isSign_4 : decode cX0_isSign 4 = .ok (.iconst 4, 1) := dk_7 (dk_at dksX0_isSign_0 4 rfl rfl)
theorem dX0_isSign_5 : decode cX0_isSign 5 = .ok (.if_icmp .ne 20, 3) := dk_160 0 20 (dk_at dksX0_isSign_0 5 rfl rfl)
theorem dX0_isSign_8 : decode cX0_isSign 8 = .ok (.aload_n 0, 1) := dk_42 (dk_at dksX0_isSign_0 8 rfl rfl)
theorem dX0_isSign_9 : decode cX0_isSign 9 = .ok (.getfield 24, 3) := dk_180 0 24 (dk_at dksX0_isSign_0 9 rfl rfl)
theorem dX0_isSign_12 : decode cX0_isSign 12 = .ok (.aload_n 0, 1) := dk_42 (dk_at dksX0_isSign_0 12 rfl rfl)
theorem dX0_isSign_13 : decode cX0_isSign 13 = .ok (.getfield 14, 3) := dk_180 0 14 (dk_at dksX0_isSign_0 13 rfl rfl)
theorem dX0_isSign_16 : decode cX0_isSign 16 = .ok (.baload, 1) := dk_51 (dk_at dksX0_isSign_0 16 rfl rfl)
theorem dX0_isSign_17 : decode cX0_isSign 17 = .ok (.iload_n 1, 1) := dk_27 (dk_at dksX0_isSign_0 17 rfl rfl)
theorem dX0_isSign_18 : decode cX0_isSign 18 = .ok (.if_icmp .ne 7, 3) := dk_160 0 7 (dk_at dksX0_isSign_0 18 rfl rfl)
theorem dX0_isSign_21 : decode cX0_isSign 21 = .ok (.iconst 1, 1) := dk_4 (dk_at dksX0_isSign_0 21 rfl rfl)
theorem dX0_isSign_22 : decode cX0_isSign 22 = .ok (.goto 4, 3) := dk_167 0 4 (dk_at dksX0_isSign_1 0 rfl rfl)
theorem dX0_isSign_25 : decode cX0_isSign 25 = .ok (.iconst 0, 1) := dk_3 (dk_at dksX0_isSign_1 3 rfl rfl)
theorem dX0_isSign_26 : decode cX0_isSign 26 = .ok (.ireturn, 1) := dk_172 (dk_at dksX0_isSign_1 4 rfl rfl)
abbrev cX0_expr : ByteArray := prog_1_method_21_code
def yX0_expr : MethodName := ⟨RX0, "expr", "(I)LThereAndBack$Expr;"⟩
def dkwX0_expr_3 : List UInt8 := [167, 255, 191, 44, 176]
abbrev dktX0_expr_3 : List UInt8 := dkwX0_expr_3 ++ []
def dkwX0_expr_2 : List UInt8 := [180, 0, 14, 51, 62, 42, 182, 0, 65, 187, 0, 84, 89, 44, 29, 42, 27, 182, 0, 80, 183, 0, 86, 77]
abbrev dktX0_expr_2 : List UInt8 := dkwX0_expr_2 ++ dktX0_expr_3
def dkwX0_expr_1 : List UInt8 := [42, 16, 94, 182, 0, 58, 154, 0, 12, 42, 16, 124, 182, 0, 58, 153, 0, 35, 42, 180, 0, 24, 42]
abbrev dktX0_expr_1 : List UInt8 := dkwX0_expr_1 ++ dktX0_expr_2
def dkwX0_expr_0 : List UInt8 := [42, 27, 182, 0, 80, 77, 42, 16, 43, 182, 0, 58, 154, 0, 30, 42, 16, 45, 182, 0, 58, 154, 0, 21]
abbrev dktX0_expr_0 : List UInt8 := dkwX0_expr_0 ++ dktX0_expr_1
theorem dksX0_expr_0 : cX0_expr.data.toList.drop 0 = dktX0_expr_0 := by decide +kernel
theorem dksX0_expr_1 : cX0_expr.data.toList.drop 24 = dktX0_expr_1 := dk_seg dksX0_expr_0 24 rfl rfl
theorem dksX0_expr_2 : cX0_expr.data.toList.drop 47 = dktX0_expr_2 := dk_seg dksX0_expr_1 23 rfl rfl
theorem dksX0_expr_3 : cX0_expr.data.toList.drop 71 = dktX0_expr_3 := dk_seg dksX0_expr_2 24 rfl rfl
theorem dX0_expr_0 : decode cX0_expr 0 = .ok (.aload_n 0, 1) := dk_42 (dk_at dksX0_expr_0 0 rfl rfl)
theorem dX0_expr_1 : decode cX0_expr 1 = .ok (.iload_n 1, 1) := dk_27 (dk_at dksX0_expr_0 1 rfl rfl)
theorem dX0_expr_2 : decode cX0_expr 2 = .ok (.invokevirtual 80, 3) := dk_182 0 80 (dk_at dksX0_expr_0 2 rfl rfl)
theorem dX0_expr_5 : decode cX0_expr 5 = .ok (.astore_n 2, 1) := dk_77 (dk_at dksX0_expr_0 5 rfl rfl)
theorem dX0_expr_6 : decode cX0_expr 6 = .ok (.aload_n 0, 1) := dk_42 (dk_at dksX0_expr_0 6 rfl rfl)
theorem dX0_expr_7 : decode cX0_expr 7 = .ok (.bipush 43, 2) := dk_16 43 (dk_at dksX0_expr_0 7 rfl rfl)
theorem dX0_expr_9 : decode cX0_expr 9 = .ok (.invokevirtual 58, 3) := dk_182 0 58 (dk_at dksX0_expr_0 9 rfl rfl)
theorem dX0_expr_12 : decode cX0_expr 12 = .ok (.ifCond .ne 30, 3) := dk_154 0 30 (dk_at dksX0_expr_0 12 rfl rfl)
theorem dX0_expr_15 : decode cX0_expr 15 = .ok (.aload_n 0, 1) := dk_42 (dk_at dksX0_expr_0 15 rfl rfl)
theorem dX0_expr_16 : decode cX0_expr 16 = .ok (.bipush 45, 2) := dk_16 45 (dk_at dksX0_expr_0 16 rfl rfl)
theorem dX0_expr_18 : decode cX0_expr 18 = .ok (.invokevirtual 58, 3) := dk_182 0 58 (dk_at dksX0_expr_0 18 rfl rfl)
theorem dX0_expr_21 : decode cX0_expr 21 = .ok (.ifCond .ne 21, 3) := dk_154 0 21 (dk_at dksX0_expr_0 21 rfl rfl)
theorem dX0_expr_24 : decode cX0_expr 24 = .ok (.aload_n 0, 1) := dk_42 (dk_at dksX0_expr_1 0 rfl rfl)
theorem dX0_expr_25 : decode cX0_expr 25 = .ok (.bipush 94, 2) := dk_16 94 (dk_at dksX0_expr_1 1 rfl rfl)
theorem dX0_expr_27 : decode cX0_expr 27 = .ok (.invokevirtual 58, 3) := dk_182 0 58 (dk_at dksX0_expr_1 3 rfl rfl)
theorem dX0_expr_30 : decode cX0_expr 30 = .ok (.ifCond .ne 12, 3) := dk_154 0 12 (dk_at dksX0_expr_1 6 rfl rfl)
theorem dX0_expr_33 : decode cX0_expr 33 = .ok (.aload_n 0, 1) := dk_42 (dk_at dksX0_expr_1 9 rfl rfl)
theorem dX0_expr_34 : decode cX0_expr 34 = .ok (.bipush 124, 2) := dk_16 124 (dk_at dksX0_expr_1 10 rfl rfl)
theorem dX0_expr_36 : decode cX0_expr 36 = .ok (.invokevirtual 58, 3) := dk_182 0 58 (dk_at dksX0_expr_1 12 rfl rfl)
theorem dX0_expr_39 : decode cX0_expr 39 = .ok (.ifCond .eq 35, 3) := dk_153 0 35 (dk_at dksX0_expr_1 15 rfl rfl)
theorem dX0_expr_42 : decode cX0_expr 42 = .ok (.aload_n 0, 1) := dk_42 (dk_at dksX0_expr_1 18 rfl rfl)
theorem dX0_expr_43 : decode cX0_expr 43 = .ok (.getfield 24, 3) := dk_180 0 24 (dk_at dksX0_expr_1 19 rfl rfl)
theorem dX0_expr_46 : decode cX0_expr 46 = .ok (.aload_n 0, 1) := dk_42 (dk_at dksX0_expr_1 22 rfl rfl)
theorem dX0_expr_47 : decode cX0_expr 47 = .ok (.getfield 14, 3) := dk_180 0 14 (dk_at dksX0_expr_2 0 rfl rfl)
theorem dX0_expr_50 : decode cX0_expr 50 = .ok (.baload, 1) := dk_51 (dk_at dksX0_expr_2 3 rfl rfl)
theorem dX0_expr_51 : decode cX0_expr 51 = .ok (.istore_n 3, 1) := dk_62 (dk_at dksX0_expr_2 4 rfl rfl)
theorem dX0_expr_52 : decode cX0_expr 52 = .ok (.aload_n 0, 1) := dk_42 (dk_at dksX0_expr_2 5 rfl rfl)
theorem dX0_expr_53 : decode cX0_expr 53 = .ok (.invokevirtual 65, 3) := dk_182 0 65 (dk_at dksX0_expr_2 6 rfl rfl)
theorem dX0_expr_56 : decode cX0_expr 56 = .ok (.new 84, 3) := dk_187 0 84 (dk_at dksX0_expr_2 9 rfl rfl)
theorem dX0_expr_59 : decode cX0_expr 59 = .ok (.dup, 1) := dk_89 (dk_at dksX0_expr_2 12 rfl rfl)
theorem dX0_expr_60 : decode cX0_expr 60 = .ok (.aload_n 2, 1) := dk_44 (dk_at dksX0_expr_2 13 rfl rfl)
theorem dX0_expr_61 : decode cX0_expr 61 = .ok (.iload_n 3, 1) := dk_29 (dk_at dksX0_expr_2 14 rfl rfl)
theorem dX0_expr_62 : decode cX0_expr 62 = .ok (.aload_n 0, 1) := dk_42 (dk_at dksX0_expr_2 15 rfl rfl)
theorem dX0_expr_63 : decode cX0_expr 63 = .ok (.iload_n 1, 1) := dk_27 (dk_at dksX0_expr_2 16 rfl rfl)
theorem dX0_expr_64 : decode cX0_expr 64 = .ok (.invokevirtual 80, 3) := dk_182 0 80 (dk_at dksX0_expr_2 17 rfl rfl)
theorem dX0_expr_67 : decode cX0_expr 67 = .ok (.invokespecial 86, 3) := dk_183 0 86 (dk_at dksX0_expr_2 20 rfl rfl)
theorem dX0_expr_70 : decode cX0_expr 70 = .ok (.astore_n 2, 1) := dk_77 (dk_at dksX0_expr_2 23 rfl rfl)
theorem dX0_expr_71 : decode cX0_expr 71 = .ok (.goto (-65), 3) := dk_167 255 191 (dk_at dksX0_expr_3 0 rfl rfl)
theorem dX0_expr_74 : decode cX0_expr 74 = .ok (.aload_n 2, 1) := dk_44 (dk_at dksX0_expr_3 3 rfl rfl)
theorem dX0_expr_75 : decode cX0_expr 75 = .ok (.areturn, 1) := dk_176 (dk_at dksX0_expr_3 4 rfl rfl)
abbrev cX0_product : ByteArray := prog_1_method_22_code
def yX0_product : MethodName := ⟨RX0, "product", "(I)LThereAndBack$Expr;"⟩
def dkwX0_product_3 : List UInt8 := [167, 255, 191, 44, 176]
abbrev dktX0_product_3 : List UInt8 := dkwX0_product_3 ++ []
def dkwX0_product_2 : List UInt8 := [180, 0, 14, 51, 62, 42, 182, 0, 65, 187, 0, 93, 89, 44, 29, 42, 27, 182, 0, 90, 183, 0, 95, 77]
abbrev dktX0_product_2 : List UInt8 := dkwX0_product_2 ++ dktX0_product_3
def dkwX0_product_1 : List UInt8 := [42, 16, 37, 182, 0, 58, 154, 0, 12, 42, 16, 38, 182, 0, 58, 153, 0, 35, 42, 180, 0, 24, 42]
abbrev dktX0_product_1 : List UInt8 := dkwX0_product_1 ++ dktX0_product_2
def dkwX0_product_0 : List UInt8 := [42, 27, 182, 0, 90, 77, 42, 16, 42, 182, 0, 58, 154, 0, 30, 42, 16, 47, 182, 0, 58, 154, 0, 21]
abbrev dktX0_product_0 : List UInt8 := dkwX0_product_0 ++ dktX0_product_1
theorem dksX0_product_0 : cX0_product.data.toList.drop 0 = dktX0_product_0 := by decide +kernel
theorem dksX0_product_1 : cX0_product.data.toList.drop 24 = dktX0_product_1 := dk_seg dksX0_product_0 24 rfl rfl
theorem dksX0_product_2 : cX0_product.data.toList.drop 47 = dktX0_product_2 := dk_seg dksX0_product_1 23 rfl rfl
theorem dksX0_product_3 : cX0_product.data.toList.drop 71 = dktX0_product_3 := dk_seg dksX0_product_2 24 rfl rfl
theorem dX0_product_0 : decode cX0_product 0 = .ok (.aload_n 0, 1) := dk_42 (dk_at dksX0_product_0 0 rfl rfl)
theorem dX0_product_1 : decode cX0_product 1 = .ok (.iload_n 1, 1) := dk_27 (dk_at dksX0_product_0 1 rfl rfl)
theorem dX0_product_2 : decode cX0_product 2 = .ok (.invokevirtual 90, 3) := dk_182 0 90 (dk_at dksX0_product_0 2 rfl rfl)
theorem dX0_product_5 : decode cX0_product 5 = .ok (.astore_n 2, 1) := dk_77 (dk_at dksX0_product_0 5 rfl rfl)
theorem dX0_product_6 : decode cX0_product 6 = .ok (.aload_n 0, 1) := dk_42 (dk_at dksX0_product_0 6 rfl rfl)
theorem dX0_product_7 : decode cX0_product 7 = .ok (.bipush 42, 2) := dk_16 42 (dk_at dksX0_product_0 7 rfl rfl)
theorem dX0_product_9 : decode cX0_product 9 = .ok (.invokevirtual 58, 3) := dk_182 0 58 (dk_at dksX0_product_0 9 rfl rfl)
theorem dX0_product_12 : decode cX0_product 12 = .ok (.ifCond .ne 30, 3) := dk_154 0 30 (dk_at dksX0_product_0 12 rfl rfl)
theorem dX0_product_15 : decode cX0_product 15 = .ok (.aload_n 0, 1) := dk_42 (dk_at dksX0_product_0 15 rfl rfl)
theorem dX0_product_16 : decode cX0_product 16 = .ok (.bipush 47, 2) := dk_16 47 (dk_at dksX0_product_0 16 rfl rfl)
theorem dX0_product_18 : decode cX0_product 18 = .ok (.invokevirtual 58, 3) := dk_182 0 58 (dk_at dksX0_product_0 18 rfl rfl)
theorem dX0_product_21 : decode cX0_product 21 = .ok (.ifCond .ne 21, 3) := dk_154 0 21 (dk_at dksX0_product_0 21 rfl rfl)
theorem dX0_product_24 : decode cX0_product 24 = .ok (.aload_n 0, 1) := dk_42 (dk_at dksX0_product_1 0 rfl rfl)
theorem dX0_product_25 : decode cX0_product 25 = .ok (.bipush 37, 2) := dk_16 37 (dk_at dksX0_product_1 1 rfl rfl)
theorem dX0_product_27 : decode cX0_product 27 = .ok (.invokevirtual 58, 3) := dk_182 0 58 (dk_at dksX0_product_1 3 rfl rfl)
theorem dX0_product_30 : decode cX0_product 30 = .ok (.ifCond .ne 12, 3) := dk_154 0 12 (dk_at dksX0_product_1 6 rfl rfl)
theorem dX0_product_33 : decode cX0_product 33 = .ok (.aload_n 0, 1) := dk_42 (dk_at dksX0_product_1 9 rfl rfl)
theorem dX0_product_34 : decode cX0_product 34 = .ok (.bipush 38, 2) := dk_16 38 (dk_at dksX0_product_1 10 rfl rfl)
theorem dX0_product_36 : decode cX0_product 36 = .ok (.invokevirtual 58, 3) := dk_182 0 58 (dk_at dksX0_product_1 12 rfl rfl)
theorem dX0_product_39 : decode cX0_product 39 = .ok (.ifCond .eq 35, 3) := dk_153 0 35 (dk_at dksX0_product_1 15 rfl rfl)
theorem dX0_product_42 : decode cX0_product 42 = .ok (.aload_n 0, 1) := dk_42 (dk_at dksX0_product_1 18 rfl rfl)
theorem dX0_product_43 : decode cX0_product 43 = .ok (.getfield 24, 3) := dk_180 0 24 (dk_at dksX0_product_1 19 rfl rfl)
theorem dX0_product_46 : decode cX0_product 46 = .ok (.aload_n 0, 1) := dk_42 (dk_at dksX0_product_1 22 rfl rfl)
theorem dX0_product_47 : decode cX0_product 47 = .ok (.getfield 14, 3) := dk_180 0 14 (dk_at dksX0_product_2 0 rfl rfl)
theorem dX0_product_50 : decode cX0_product 50 = .ok (.baload, 1) := dk_51 (dk_at dksX0_product_2 3 rfl rfl)
theorem dX0_product_51 : decode cX0_product 51 = .ok (.istore_n 3, 1) := dk_62 (dk_at dksX0_product_2 4 rfl rfl)
theorem dX0_product_52 : decode cX0_product 52 = .ok (.aload_n 0, 1) := dk_42 (dk_at dksX0_product_2 5 rfl rfl)
theorem dX0_product_53 : decode cX0_product 53 = .ok (.invokevirtual 65, 3) := dk_182 0 65 (dk_at dksX0_product_2 6 rfl rfl)
theorem dX0_product_56 : decode cX0_product 56 = .ok (.new 93, 3) := dk_187 0 93 (dk_at dksX0_product_2 9 rfl rfl)
theorem dX0_product_59 : decode cX0_product 59 = .ok (.dup, 1) := dk_89 (dk_at dksX0_product_2 12 rfl rfl)
theorem dX0_product_60 : decode cX0_product 60 = .ok (.aload_n 2, 1) := dk_44 (dk_at dksX0_product_2 13 rfl rfl)
theorem dX0_product_61 : decode cX0_product 61 = .ok (.iload_n 3, 1) := dk_29 (dk_at dksX0_product_2 14 rfl rfl)
theorem dX0_product_62 : decode cX0_product 62 = .ok (.aload_n 0, 1) := dk_42 (dk_at dksX0_product_2 15 rfl rfl)
theorem dX0_product_63 : decode cX0_product 63 = .ok (.iload_n 1, 1) := dk_27 (dk_at dksX0_product_2 16 rfl rfl)
theorem dX0_product_64 : decode cX0_product 64 = .ok (.invokevirtual 90, 3) := dk_182 0 90 (dk_at dksX0_product_2 17 rfl rfl)
theorem dX0_product_67 : decode cX0_product 67 = .ok (.invokespecial 95, 3) := dk_183 0 95 (dk_at dksX0_product_2 20 rfl rfl)
theorem dX0_product_70 : decode cX0_product 70 = .ok (.astore_n 2, 1) := dk_77 (dk_at dksX0_product_2 23 rfl rfl)
theorem dX0_product_71 : decode cX0_product 71 = .ok (.goto (-65), 3) := dk_167 255 191 (dk_at dksX0_product_3 0 rfl rfl)
theorem dX0_product_74 : decode cX0_product 74 = .ok (.aload_n 2, 1) := dk_44 (dk_at dksX0_product_3 3 rfl rfl)
theorem dX0_product_75 : decode cX0_product 75 = .ok (.areturn, 1) := dk_176 (dk_at dksX0_product_3 4 rfl rfl)
abbrev cX0_factor : ByteArray := prog_1_method_23_code
def yX0_factor : MethodName := ⟨RX0, "factor", "(I)LThereAndBack$Expr;"⟩
def dkwX0_factor_9 : List UInt8 := [176, 42, 16, 41, 182, 0, 131, 187, 0, 134, 89, 44, 183, 0, 136, 176]
abbrev dktX0_factor_9 : List UInt8 := dkwX0_factor_9 ++ []
def dkwX0_factor_8 : List UInt8 := [187, 0, 128, 89, 44, 29, 42, 27, 4, 96, 182, 0, 125, 183, 0, 130, 77, 42, 16, 41, 182, 0, 131, 44]
abbrev dktX0_factor_8 : List UInt8 := dkwX0_factor_8 ++ dktX0_factor_9
def dkwX0_factor_7 : List UInt8 := [42, 16, 61, 182, 0, 58, 153, 0, 42, 42, 180, 0, 24, 42, 180, 0, 14, 51, 62, 42, 182, 0, 65]
abbrev dktX0_factor_7 : List UInt8 := dkwX0_factor_7 ++ dktX0_factor_8
def dkwX0_factor_6 : List UInt8 := [182, 0, 117, 42, 182, 0, 65, 42, 27, 4, 96, 182, 0, 125, 77, 42, 16, 60, 182, 0, 58, 154, 0, 12]
abbrev dktX0_factor_6 : List UInt8 := dkwX0_factor_6 ++ dktX0_factor_7
def dkwX0_factor_5 : List UInt8 := [182, 0, 90, 183, 0, 122, 176, 42, 16, 40, 182, 0, 58, 154, 0, 8, 42, 182, 0, 61, 191, 42, 27]
abbrev dktX0_factor_5 : List UInt8 := dkwX0_factor_5 ++ dktX0_factor_6
def dkwX0_factor_4 : List UInt8 := [182, 0, 58, 153, 0, 27, 42, 27, 182, 0, 117, 42, 182, 0, 65, 187, 0, 120, 89, 42, 27, 4, 96]
abbrev dktX0_factor_4 : List UInt8 := dkwX0_factor_4 ++ dktX0_factor_5
def dkwX0_factor_3 : List UInt8 := [153, 0, 19, 42, 182, 0, 65, 187, 0, 114, 89, 42, 182, 0, 107, 183, 0, 116, 176, 42, 16, 45]
abbrev dktX0_factor_3 : List UInt8 := dkwX0_factor_3 ++ dktX0_factor_4
def dkwX0_factor_2 : List UInt8 := [182, 0, 77, 153, 0, 13, 42, 42, 182, 0, 107, 27, 182, 0, 110, 176, 42, 16, 35, 182, 0, 58]
abbrev dktX0_factor_2 : List UInt8 := dkwX0_factor_2 ++ dktX0_factor_3
def dkwX0_factor_1 : List UInt8 := [44, 176, 42, 182, 0, 73, 153, 0, 15, 187, 0, 101, 89, 42, 182, 0, 103, 183, 0, 106, 176, 42]
abbrev dktX0_factor_1 : List UInt8 := dkwX0_factor_1 ++ dktX0_factor_2
def dkwX0_factor_0 : List UInt8 := [42, 180, 0, 35, 5, 160, 0, 21, 187, 0, 96, 89, 42, 180, 0, 45, 183, 0, 98, 77, 42, 182, 0, 65]
abbrev dktX0_factor_0 : List UInt8 := dkwX0_factor_0 ++ dktX0_factor_1
theorem dksX0_factor_0 : cX0_factor.data.toList.drop 0 = dktX0_factor_0 := by decide +kernel
theorem dksX0_factor_1 : cX0_factor.data.toList.drop 24 = dktX0_factor_1 := dk_seg dksX0_factor_0 24 rfl rfl
theorem dksX0_factor_2 : cX0_factor.data.toList.drop 46 = dktX0_factor_2 := dk_seg dksX0_factor_1 22 rfl rfl
theorem dksX0_factor_3 : cX0_factor.data.toList.drop 68 = dktX0_factor_3 := dk_seg dksX0_factor_2 22 rfl rfl
theorem dksX0_factor_4 : cX0_factor.data.toList.drop 90 = dktX0_factor_4 := dk_seg dksX0_factor_3 22 rfl rfl
theorem dksX0_factor_5 : cX0_factor.data.toList.drop 113 = dktX0_factor_5 := dk_seg dksX0_factor_4 23 rfl rfl
theorem dksX0_factor_6 : cX0_factor.data.toList.drop 136 = dktX0_factor_6 := dk_seg dksX0_factor_5 23 rfl rfl
theorem dksX0_factor_7 : cX0_factor.data.toList.drop 160 = dktX0_factor_7 := dk_seg dksX0_factor_6 24 rfl rfl
theorem dksX0_factor_8 : cX0_factor.data.toList.drop 183 = dktX0_factor_8 := dk_seg dksX0_factor_7 23 rfl rfl
theorem dksX0_factor_9 : cX0_factor.data.toList.drop 207 = dktX0_factor_9 := dk_seg dksX0_factor_8 24 rfl rfl
theorem dX0_factor_0 : decode cX0_factor 0 = .ok (.aload_n 0, 1) := dk_42 (dk_at dksX0_factor_0 0 rfl rfl)
theorem dX0_factor_1 : decode cX0_factor 1 = .ok (.getfield 35, 3) := dk_180 0 35 (dk_at dksX0_factor_0 1 rfl rfl)
theorem dX0_factor_4 : decode cX0_factor 4 = .ok (.iconst 2, 1) := dk_5 (dk_at dksX0_factor_0 4 rfl rfl)
theorem dX0_factor_5 : decode cX0_factor 5 = .ok (.if_icmp .ne 21, 3) := dk_160 0 21 (dk_at dksX0_factor_0 5 rfl rfl)
theorem dX0_factor_8 : decode cX0_factor 8 = .ok (.new 96, 3) := dk_187 0 96 (dk_at dksX0_factor_0 8 rfl rfl)
theorem dX0_factor_11 : decode cX0_factor 11 = .ok (.dup, 1) := dk_89 (dk_at dksX0_factor_0 11 rfl rfl)
theorem dX0_factor_12 : decode cX0_factor 12 = .ok (.aload_n 0, 1) := dk_42 (dk_at dksX0_factor_0 12 rfl rfl)
theorem dX0_factor_13 : decode cX0_factor 13 = .ok (.getfield 45, 3) := dk_180 0 45 (dk_at dksX0_factor_0 13 rfl rfl)
theorem dX0_factor_16 : decode cX0_factor 16 = .ok (.invokespecial 98, 3) := dk_183 0 98 (dk_at dksX0_factor_0 16 rfl rfl)
theorem dX0_factor_19 : decode cX0_factor 19 = .ok (.astore_n 2, 1) := dk_77 (dk_at dksX0_factor_0 19 rfl rfl)
theorem dX0_factor_20 : decode cX0_factor 20 = .ok (.aload_n 0, 1) := dk_42 (dk_at dksX0_factor_0 20 rfl rfl)
theorem dX0_factor_21 : decode cX0_factor 21 = .ok (.invokevirtual 65, 3) := dk_182 0 65 (dk_at dksX0_factor_0 21 rfl rfl)
theorem dX0_factor_24 : decode cX0_factor 24 = .ok (.aload_n 2, 1) := dk_44 (dk_at dksX0_factor_1 0 rfl rfl)
theorem dX0_factor_25 : decode cX0_factor 25 = .ok (.areturn, 1) := dk_176 (dk_at dksX0_factor_1 1 rfl rfl)
theorem dX0_factor_26 : decode cX0_factor 26 = .ok (.aload_n 0, 1) := dk_42 (dk_at dksX0_factor_1 2 rfl rfl)
theorem dX0_factor_27 : decode cX0_factor 27 = .ok (.invokevirtual 73, 3) := dk_182 0 73 (dk_at dksX0_factor_1 3 rfl rfl)
theorem dX0_factor_30 : decode cX0_factor 30 = .ok (.ifCond .eq 15, 3) := dk_153 0 15 (dk_at dksX0_factor_1 6 rfl rfl)
theorem dX0_factor_33 : decode cX0_factor 33 = .ok (.new 101, 3) := dk_187 0 101 (dk_at dksX0_factor_1 9 rfl rfl)
theorem dX0_factor_36 : decode cX0_factor 36 = .ok (.dup, 1) := dk_89 (dk_at dksX0_factor_1 12 rfl rfl)
theorem dX0_factor_37 : decode cX0_factor 37 = .ok (.aload_n 0, 1) := dk_42 (dk_at dksX0_factor_1 13 rfl rfl)
theorem dX0_factor_38 : decode cX0_factor 38 = .ok (.invokevirtual 103, 3) := dk_182 0 103 (dk_at dksX0_factor_1 14 rfl rfl)
theorem dX0_factor_41 : decode cX0_factor 41 = .ok (.invokespecial 106, 3) := dk_183 0 106 (dk_at dksX0_factor_1 17 rfl rfl)
theorem dX0_factor_44 : decode cX0_factor 44 = .ok (.areturn, 1) := dk_176 (dk_at dksX0_factor_1 20 rfl rfl)
theorem dX0_factor_45 : decode cX0_factor 45 = .ok (.aload_n 0, 1) := dk_42 (dk_at dksX0_factor_1 21 rfl rfl)
theorem dX0_factor_46 : decode cX0_factor 46 = .ok (.invokevirtual 77, 3) := dk_182 0 77 (dk_at dksX0_factor_2 0 rfl rfl)
theorem dX0_factor_49 : decode cX0_factor 49 = .ok (.ifCond .eq 13, 3) := dk_153 0 13 (dk_at dksX0_factor_2 3 rfl rfl)
theorem dX0_factor_52 : decode cX0_factor 52 = .ok (.aload_n 0, 1) := dk_42 (dk_at dksX0_factor_2 6 rfl rfl)
theorem dX0_factor_53 : decode cX0_factor 53 = .ok (.aload_n 0, 1) := dk_42 (dk_at dksX0_factor_2 7 rfl rfl)
theorem dX0_factor_54 : decode cX0_factor 54 = .ok (.invokevirtual 107, 3) := dk_182 0 107 (dk_at dksX0_factor_2 8 rfl rfl)
theorem dX0_factor_57 : decode cX0_factor 57 = .ok (.iload_n 1, 1) := dk_27 (dk_at dksX0_factor_2 11 rfl rfl)
theorem dX0_factor_58 : decode cX0_factor 58 = .ok (.invokevirtual 110, 3) := dk_182 0 110 (dk_at dksX0_factor_2 12 rfl rfl)
theorem dX0_factor_61 : decode cX0_factor 61 = .ok (.areturn, 1) := dk_176 (dk_at dksX0_factor_2 15 rfl rfl)
theorem dX0_factor_62 : decode cX0_factor 62 = .ok (.aload_n 0, 1) := dk_42 (dk_at dksX0_factor_2 16 rfl rfl)
theorem dX0_factor_63 : decode cX0_factor 63 = .ok (.bipush 35, 2) := dk_16 35 (dk_at dksX0_factor_2 17 rfl rfl)
theorem dX0_factor_65 : decode cX0_factor 65 = .ok (.invokevirtual 58, 3) := dk_182 0 58 (dk_at dksX0_factor_2 19 rfl rfl)
theorem dX0_factor_68 : decode cX0_factor 68 = .ok (.ifCond .eq 19, 3) := dk_153 0 19 (dk_at dksX0_factor_3 0 rfl rfl)
theorem dX0_factor_71 : decode cX0_factor 71 = .ok (.aload_n 0, 1) := dk_42 (dk_at dksX0_factor_3 3 rfl rfl)
theorem dX0_factor_72 : decode cX0_factor 72 = .ok (.invokevirtual 65, 3) := dk_182 0 65 (dk_at dksX0_factor_3 4 rfl rfl)
theorem dX0_factor_75 : decode cX0_factor 75 = .ok (.new 114, 3) := dk_187 0 114 (dk_at dksX0_factor_3 7 rfl rfl)
theorem dX0_factor_78 : decode cX0_factor 78 = .ok (.dup, 1) := dk_89 (dk_at dksX0_factor_3 10 rfl rfl)
theorem dX0_factor_79 : decode cX0_factor 79 = .ok (.aload_n 0, 1) := dk_42 (dk_at dksX0_factor_3 11 rfl rfl)
theorem dX0_factor_80 : decode cX0_factor 80 = .ok (.invokevirtual 107, 3) := dk_182 0 107 (dk_at dksX0_factor_3 12 rfl rfl)
theorem dX0_factor_83 : decode cX0_factor 83 = .ok (.invokespecial 116, 3) := dk_183 0 116 (dk_at dksX0_factor_3 15 rfl rfl)
theorem dX0_factor_86 : decode cX0_factor 86 = .ok (.areturn, 1) := dk_176 (dk_at dksX0_factor_3 18 rfl rfl)
theorem dX0_factor_87 : decode cX0_factor 87 = .ok (.aload_n 0, 1) := dk_42 (dk_at dksX0_factor_3 19 rfl rfl)
theorem dX0_factor_88 : decode cX0_factor 88 = .ok (.bipush 45, 2) := dk_16 45 (dk_at dksX0_factor_3 20 rfl rfl)
theorem dX0_factor_90 : decode cX0_factor 90 = .ok (.invokevirtual 58, 3) := dk_182 0 58 (dk_at dksX0_factor_4 0 rfl rfl)
theorem dX0_factor_93 : decode cX0_factor 93 = .ok (.ifCond .eq 27, 3) := dk_153 0 27 (dk_at dksX0_factor_4 3 rfl rfl)
theorem dX0_factor_96 : decode cX0_factor 96 = .ok (.aload_n 0, 1) := dk_42 (dk_at dksX0_factor_4 6 rfl rfl)
theorem dX0_factor_97 : decode cX0_factor 97 = .ok (.iload_n 1, 1) := dk_27 (dk_at dksX0_factor_4 7 rfl rfl)
theorem dX0_factor_98 : decode cX0_factor 98 = .ok (.invokevirtual 117, 3) := dk_182 0 117 (dk_at dksX0_factor_4 8 rfl rfl)
theorem dX0_factor_101 : decode cX0_factor 101 = .ok (.aload_n 0, 1) := dk_42 (dk_at dksX0_factor_4 11 rfl rfl)
theorem dX0_factor_102 : decode cX0_factor 102 = .ok (.invokevirtual 65, 3) := dk_182 0 65 (dk_at dksX0_factor_4 12 rfl rfl)
theorem dX0_factor_105 : decode cX0_factor 105 = .ok (.new 120, 3) := dk_187 0 120 (dk_at dksX0_factor_4 15 rfl rfl)
theorem dX0_factor_108 : decode cX0_factor 108 = .ok (.dup, 1) := dk_89 (dk_at dksX0_factor_4 18 rfl rfl)
theorem dX0_factor_109 : decode cX0_factor 109 = .ok (.aload_n 0, 1) := dk_42 (dk_at dksX0_factor_4 19 rfl rfl)
theorem dX0_factor_110 : decode cX0_factor 110 = .ok (.iload_n 1, 1) := dk_27 (dk_at dksX0_factor_4 20 rfl rfl)
theorem dX0_factor_111 : decode cX0_factor 111 = .ok (.iconst 1, 1) := dk_4 (dk_at dksX0_factor_4 21 rfl rfl)
theorem dX0_factor_112 : decode cX0_factor 112 = .ok (.iadd, 1) := dk_96 (dk_at dksX0_factor_4 22 rfl rfl)
theorem dX0_factor_113 : decode cX0_factor 113 = .ok (.invokevirtual 90, 3) := dk_182 0 90 (dk_at dksX0_factor_5 0 rfl rfl)
theorem dX0_factor_116 : decode cX0_factor 116 = .ok (.invokespecial 122, 3) := dk_183 0 122 (dk_at dksX0_factor_5 3 rfl rfl)
theorem dX0_factor_119 : decode cX0_factor 119 = .ok (.areturn, 1) := dk_176 (dk_at dksX0_factor_5 6 rfl rfl)
theorem dX0_factor_120 : decode cX0_factor 120 = .ok (.aload_n 0, 1) := dk_42 (dk_at dksX0_factor_5 7 rfl rfl)
theorem dX0_factor_121 : decode cX0_factor 121 = .ok (.bipush 40, 2) := dk_16 40 (dk_at dksX0_factor_5 8 rfl rfl)
theorem dX0_factor_123 : decode cX0_factor 123 = .ok (.invokevirtual 58, 3) := dk_182 0 58 (dk_at dksX0_factor_5 10 rfl rfl)
theorem dX0_factor_126 : decode cX0_factor 126 = .ok (.ifCond .ne 8, 3) := dk_154 0 8 (dk_at dksX0_factor_5 13 rfl rfl)
theorem dX0_factor_129 : decode cX0_factor 129 = .ok (.aload_n 0, 1) := dk_42 (dk_at dksX0_factor_5 16 rfl rfl)
theorem dX0_factor_130 : decode cX0_factor 130 = .ok (.invokevirtual 61, 3) := dk_182 0 61 (dk_at dksX0_factor_5 17 rfl rfl)
theorem dX0_factor_133 : decode cX0_factor 133 = .ok (.athrow, 1) := dk_191 (dk_at dksX0_factor_5 20 rfl rfl)
theorem dX0_factor_134 : decode cX0_factor 134 = .ok (.aload_n 0, 1) := dk_42 (dk_at dksX0_factor_5 21 rfl rfl)
theorem dX0_factor_135 : decode cX0_factor 135 = .ok (.iload_n 1, 1) := dk_27 (dk_at dksX0_factor_5 22 rfl rfl)
theorem dX0_factor_136 : decode cX0_factor 136 = .ok (.invokevirtual 117, 3) := dk_182 0 117 (dk_at dksX0_factor_6 0 rfl rfl)
theorem dX0_factor_139 : decode cX0_factor 139 = .ok (.aload_n 0, 1) := dk_42 (dk_at dksX0_factor_6 3 rfl rfl)
theorem dX0_factor_140 : decode cX0_factor 140 = .ok (.invokevirtual 65, 3) := dk_182 0 65 (dk_at dksX0_factor_6 4 rfl rfl)
theorem dX0_factor_143 : decode cX0_factor 143 = .ok (.aload_n 0, 1) := dk_42 (dk_at dksX0_factor_6 7 rfl rfl)
theorem dX0_factor_144 : decode cX0_factor 144 = .ok (.iload_n 1, 1) := dk_27 (dk_at dksX0_factor_6 8 rfl rfl)
theorem dX0_factor_145 : decode cX0_factor 145 = .ok (.iconst 1, 1) := dk_4 (dk_at dksX0_factor_6 9 rfl rfl)
theorem dX0_factor_146 : decode cX0_factor 146 = .ok (.iadd, 1) := dk_96 (dk_at dksX0_factor_6 10 rfl rfl)
theorem dX0_factor_147 : decode cX0_factor 147 = .ok (.invokevirtual 125, 3) := dk_182 0 125 (dk_at dksX0_factor_6 11 rfl rfl)
theorem dX0_factor_150 : decode cX0_factor 150 = .ok (.astore_n 2, 1) := dk_77 (dk_at dksX0_factor_6 14 rfl rfl)
theorem dX0_factor_151 : decode cX0_factor 151 = .ok (.aload_n 0, 1) := dk_42 (dk_at dksX0_factor_6 15 rfl rfl)
theorem dX0_factor_152 : decode cX0_factor 152 = .ok (.bipush 60, 2) := dk_16 60 (dk_at dksX0_factor_6 16 rfl rfl)
theorem dX0_factor_154 : decode cX0_factor 154 = .ok (.invokevirtual 58, 3) := dk_182 0 58 (dk_at dksX0_factor_6 18 rfl rfl)
theorem dX0_factor_157 : decode cX0_factor 157 = .ok (.ifCond .ne 12, 3) := dk_154 0 12 (dk_at dksX0_factor_6 21 rfl rfl)
theorem dX0_factor_160 : decode cX0_factor 160 = .ok (.aload_n 0, 1) := dk_42 (dk_at dksX0_factor_7 0 rfl rfl)
theorem dX0_factor_161 : decode cX0_factor 161 = .ok (.bipush 61, 2) := dk_16 61 (dk_at dksX0_factor_7 1 rfl rfl)
theorem dX0_factor_163 : decode cX0_factor 163 = .ok (.invokevirtual 58, 3) := dk_182 0 58 (dk_at dksX0_factor_7 3 rfl rfl)
theorem dX0_factor_166 : decode cX0_factor 166 = .ok (.ifCond .eq 42, 3) := dk_153 0 42 (dk_at dksX0_factor_7 6 rfl rfl)
theorem dX0_factor_169 : decode cX0_factor 169 = .ok (.aload_n 0, 1) := dk_42 (dk_at dksX0_factor_7 9 rfl rfl)
theorem dX0_factor_170 : decode cX0_factor 170 = .ok (.getfield 24, 3) := dk_180 0 24 (dk_at dksX0_factor_7 10 rfl rfl)
theorem dX0_factor_173 : decode cX0_factor 173 = .ok (.aload_n 0, 1) := dk_42 (dk_at dksX0_factor_7 13 rfl rfl)
theorem dX0_factor_174 : decode cX0_factor 174 = .ok (.getfield 14, 3) := dk_180 0 14 (dk_at dksX0_factor_7 14 rfl rfl)
theorem dX0_factor_177 : decode cX0_factor 177 = .ok (.baload, 1) := dk_51 (dk_at dksX0_factor_7 17 rfl rfl)
theorem dX0_factor_178 : decode cX0_factor 178 = .ok (.istore_n 3, 1) := dk_62 (dk_at dksX0_factor_7 18 rfl rfl)
theorem dX0_factor_179 : decode cX0_factor 179 = .ok (.aload_n 0, 1) := dk_42 (dk_at dksX0_factor_7 19 rfl rfl)
theorem dX0_factor_180 : decode cX0_factor 180 = .ok (.invokevirtual 65, 3) := dk_182 0 65 (dk_at dksX0_factor_7 20 rfl rfl)
theorem dX0_factor_183 : decode cX0_factor 183 = .ok (.new 128, 3) := dk_187 0 128 (dk_at dksX0_factor_8 0 rfl rfl)
theorem dX0_factor_186 : decode cX0_factor 186 = .ok (.dup, 1) := dk_89 (dk_at dksX0_factor_8 3 rfl rfl)
theorem dX0_factor_187 : decode cX0_factor 187 = .ok (.aload_n 2, 1) := dk_44 (dk_at dksX0_factor_8 4 rfl rfl)
theorem dX0_factor_188 : decode cX0_factor 188 = .ok (.iload_n 3, 1) := dk_29 (dk_at dksX0_factor_8 5 rfl rfl)
theorem dX0_factor_189 : decode cX0_factor 189 = .ok (.aload_n 0, 1) := dk_42 (dk_at dksX0_factor_8 6 rfl rfl)
theorem dX0_factor_190 : decode cX0_factor 190 = .ok (.iload_n 1, 1) := dk_27 (dk_at dksX0_factor_8 7 rfl rfl)
theorem dX0_factor_191 : decode cX0_factor 191 = .ok (.iconst 1, 1) := dk_4 (dk_at dksX0_factor_8 8 rfl rfl)
theorem dX0_factor_192 : decode cX0_factor 192 = .ok (.iadd, 1) := dk_96 (dk_at dksX0_factor_8 9 rfl rfl)
theorem dX0_factor_193 : decode cX0_factor 193 = .ok (.invokevirtual 125, 3) := dk_182 0 125 (dk_at dksX0_factor_8 10 rfl rfl)
theorem dX0_factor_196 : decode cX0_factor 196 = .ok (.invokespecial 130, 3) := dk_183 0 130 (dk_at dksX0_factor_8 13 rfl rfl)
theorem dX0_factor_199 : decode cX0_factor 199 = .ok (.astore_n 2, 1) := dk_77 (dk_at dksX0_factor_8 16 rfl rfl)
theorem dX0_factor_200 : decode cX0_factor 200 = .ok (.aload_n 0, 1) := dk_42 (dk_at dksX0_factor_8 17 rfl rfl)
theorem dX0_factor_201 : decode cX0_factor 201 = .ok (.bipush 41, 2) := dk_16 41 (dk_at dksX0_factor_8 18 rfl rfl)
theorem dX0_factor_203 : decode cX0_factor 203 = .ok (.invokevirtual 131, 3) := dk_182 0 131 (dk_at dksX0_factor_8 20 rfl rfl)
theorem dX0_factor_206 : decode cX0_factor 206 = .ok (.aload_n 2, 1) := dk_44 (dk_at dksX0_factor_8 23 rfl rfl)
theorem dX0_factor_207 : decode cX0_factor 207 = .ok (.areturn, 1) := dk_176 (dk_at dksX0_factor_9 0 rfl rfl)
theorem dX0_factor_208 : decode cX0_factor 208 = .ok (.aload_n 0, 1) := dk_42 (dk_at dksX0_factor_9 1 rfl rfl)
theorem dX0_factor_209 : decode cX0_factor 209 = .ok (.bipush 41, 2) := dk_16 41 (dk_at dksX0_factor_9 2 rfl rfl)
theorem dX0_factor_211 : decode cX0_factor 211 = .ok (.invokevirtual 131, 3) := dk_182 0 131 (dk_at dksX0_factor_9 4 rfl rfl)
theorem dX0_factor_214 : decode cX0_factor 214 = .ok (.new 134, 3) := dk_187 0 134 (dk_at dksX0_factor_9 7 rfl rfl)
theorem dX0_factor_217 : decode cX0_factor 217 = .ok (.dup, 1) := dk_89 (dk_at dksX0_factor_9 10 rfl rfl)
theorem dX0_factor_218 : decode cX0_factor 218 = .ok (.aload_n 2, 1) := dk_44 (dk_at dksX0_factor_9 11 rfl rfl)
theorem dX0_factor_219 : decode cX0_factor 219 = .ok (.invokespecial 136, 3) := dk_183 0 136 (dk_at dksX0_factor_9 12 rfl rfl)
theorem dX0_factor_222 : decode cX0_factor 222 = .ok (.areturn, 1) := dk_176 (dk_at dksX0_factor_9 15 rfl rfl)
abbrev cX0_itemOf : ByteArray := prog_1_method_25_code
def yX0_itemOf : MethodName := ⟨RX0, "itemOf", "(II)LThereAndBack$Expr;"⟩
def dkwX0_itemOf_0 : List UInt8 := [187, 0, 137, 89, 27, 42, 28, 182, 0, 139, 183, 0, 142, 176]
abbrev dktX0_itemOf_0 : List UInt8 := dkwX0_itemOf_0 ++ []
theorem dksX0_itemOf_0 : cX0_itemOf.data.toList.drop 0 = dktX0_itemOf_0 := by decide +kernel
theorem dX0_itemOf_0 : decode cX0_itemOf 0 = .ok (.new 137, 3) := dk_187 0 137 (dk_at dksX0_itemOf_0 0 rfl rfl)
theorem dX0_itemOf_3 : decode cX0_itemOf 3 = .ok (.dup, 1) := dk_89 (dk_at dksX0_itemOf_0 3 rfl rfl)
theorem dX0_itemOf_4 : decode cX0_itemOf 4 = .ok (.iload_n 1, 1) := dk_27 (dk_at dksX0_itemOf_0 4 rfl rfl)
theorem dX0_itemOf_5 : decode cX0_itemOf 5 = .ok (.aload_n 0, 1) := dk_42 (dk_at dksX0_itemOf_0 5 rfl rfl)
theorem dX0_itemOf_6 : decode cX0_itemOf 6 = .ok (.iload_n 2, 1) := dk_28 (dk_at dksX0_itemOf_0 6 rfl rfl)
theorem dX0_itemOf_7 : decode cX0_itemOf 7 = .ok (.invokevirtual 139, 3) := dk_182 0 139 (dk_at dksX0_itemOf_0 7 rfl rfl)
theorem dX0_itemOf_10 : decode cX0_itemOf 10 = .ok (.invokespecial 142, 3) := dk_183 0 142 (dk_at dksX0_itemOf_0 10 rfl rfl)
theorem dX0_itemOf_13 : decode cX0_itemOf 13 = .ok (.areturn, 1) := dk_176 (dk_at dksX0_itemOf_0 13 rfl rfl)
abbrev cX0_index : ByteArray := prog_1_method_24_code
def yX0_index : MethodName := ⟨RX0, "index", "(I)LThereAndBack$Expr;"⟩
def dkwX0_index_1 : List UInt8 := [27, 4, 96, 182, 0, 125, 77, 42, 16, 93, 182, 0, 131, 44, 176]
abbrev dktX0_index_1 : List UInt8 := dkwX0_index_1 ++ []
def dkwX0_index_0 : List UInt8 := [42, 16, 91, 182, 0, 58, 154, 0, 8, 42, 182, 0, 61, 191, 42, 27, 182, 0, 117, 42, 182, 0, 65, 42]
abbrev dktX0_index_0 : List UInt8 := dkwX0_index_0 ++ dktX0_index_1
theorem dksX0_index_0 : cX0_index.data.toList.drop 0 = dktX0_index_0 := by decide +kernel
theorem dksX0_index_1 : cX0_index.data.toList.drop 24 = dktX0_index_1 := dk_seg dksX0_index_0 24 rfl rfl
theorem dX0_index_0 : decode cX0_index 0 = .ok (.aload_n 0, 1) := dk_42 (dk_at dksX0_index_0 0 rfl rfl)
theorem dX0_index_1 : decode cX0_index 1 = .ok (.bipush 91, 2) := dk_16 91 (dk_at dksX0_index_0 1 rfl rfl)
theorem dX0_index_3 : decode cX0_index 3 = .ok (.invokevirtual 58, 3) := dk_182 0 58 (dk_at dksX0_index_0 3 rfl rfl)
theorem dX0_index_6 : decode cX0_index 6 = .ok (.ifCond .ne 8, 3) := dk_154 0 8 (dk_at dksX0_index_0 6 rfl rfl)
theorem dX0_index_9 : decode cX0_index 9 = .ok (.aload_n 0, 1) := dk_42 (dk_at dksX0_index_0 9 rfl rfl)
theorem dX0_index_10 : decode cX0_index 10 = .ok (.invokevirtual 61, 3) := dk_182 0 61 (dk_at dksX0_index_0 10 rfl rfl)
theorem dX0_index_13 : decode cX0_index 13 = .ok (.athrow, 1) := dk_191 (dk_at dksX0_index_0 13 rfl rfl)
theorem dX0_index_14 : decode cX0_index 14 = .ok (.aload_n 0, 1) := dk_42 (dk_at dksX0_index_0 14 rfl rfl)
theorem dX0_index_15 : decode cX0_index 15 = .ok (.iload_n 1, 1) := dk_27 (dk_at dksX0_index_0 15 rfl rfl)
theorem dX0_index_16 : decode cX0_index 16 = .ok (.invokevirtual 117, 3) := dk_182 0 117 (dk_at dksX0_index_0 16 rfl rfl)
theorem dX0_index_19 : decode cX0_index 19 = .ok (.aload_n 0, 1) := dk_42 (dk_at dksX0_index_0 19 rfl rfl)
theorem dX0_index_20 : decode cX0_index 20 = .ok (.invokevirtual 65, 3) := dk_182 0 65 (dk_at dksX0_index_0 20 rfl rfl)
theorem dX0_index_23 : decode cX0_index 23 = .ok (.aload_n 0, 1) := dk_42 (dk_at dksX0_index_0 23 rfl rfl)
theorem dX0_index_24 : decode cX0_index 24 = .ok (.iload_n 1, 1) := dk_27 (dk_at dksX0_index_1 0 rfl rfl)
theorem dX0_index_25 : decode cX0_index 25 = .ok (.iconst 1, 1) := dk_4 (dk_at dksX0_index_1 1 rfl rfl)
theorem dX0_index_26 : decode cX0_index 26 = .ok (.iadd, 1) := dk_96 (dk_at dksX0_index_1 2 rfl rfl)
theorem dX0_index_27 : decode cX0_index 27 = .ok (.invokevirtual 125, 3) := dk_182 0 125 (dk_at dksX0_index_1 3 rfl rfl)
theorem dX0_index_30 : decode cX0_index 30 = .ok (.astore_n 2, 1) := dk_77 (dk_at dksX0_index_1 6 rfl rfl)
theorem dX0_index_31 : decode cX0_index 31 = .ok (.aload_n 0, 1) := dk_42 (dk_at dksX0_index_1 7 rfl rfl)
theorem dX0_index_32 : decode cX0_index 32 = .ok (.bipush 93, 2) := dk_16 93 (dk_at dksX0_index_1 8 rfl rfl)
theorem dX0_index_34 : decode cX0_index 34 = .ok (.invokevirtual 131, 3) := dk_182 0 131 (dk_at dksX0_index_1 10 rfl rfl)
theorem dX0_index_37 : decode cX0_index 37 = .ok (.aload_n 2, 1) := dk_44 (dk_at dksX0_index_1 13 rfl rfl)
theorem dX0_index_38 : decode cX0_index 38 = .ok (.areturn, 1) := dk_176 (dk_at dksX0_index_1 14 rfl rfl)
abbrev cX0_deep : ByteArray := prog_1_method_20_code
def yX0_deep : MethodName := ⟨RX0, "deep", "(I)V"⟩
def dkwX0_deep_0 : List UInt8 := [27, 16, 8, 160, 0, 13, 42, 5, 42, 180, 0, 14, 182, 0, 17, 191, 177]
abbrev dktX0_deep_0 : List UInt8 := dkwX0_deep_0 ++ []
theorem dksX0_deep_0 : cX0_deep.data.toList.drop 0 = dktX0_deep_0 := by decide +kernel
theorem dX0_deep_0 : decode cX0_deep 0 = .ok (.iload_n 1, 1) := dk_27 (dk_at dksX0_deep_0 0 rfl rfl)
theorem dX0_deep_1 : decode cX0_deep 1 = .ok (.bipush 8, 2) := dk_16 8 (dk_at dksX0_deep_0 1 rfl rfl)
theorem dX0_deep_3 : decode cX0_deep 3 = .ok (.if_icmp .ne 13, 3) := dk_160 0 13 (dk_at dksX0_deep_0 3 rfl rfl)
theorem dX0_deep_6 : decode cX0_deep 6 = .ok (.aload_n 0, 1) := dk_42 (dk_at dksX0_deep_0 6 rfl rfl)
theorem dX0_deep_7 : decode cX0_deep 7 = .ok (.iconst 2, 1) := dk_5 (dk_at dksX0_deep_0 7 rfl rfl)
theorem dX0_deep_8 : decode cX0_deep 8 = .ok (.aload_n 0, 1) := dk_42 (dk_at dksX0_deep_0 8 rfl rfl)
theorem dX0_deep_9 : decode cX0_deep 9 = .ok (.getfield 14, 3) := dk_180 0 14 (dk_at dksX0_deep_0 9 rfl rfl)
theorem dX0_deep_12 : decode cX0_deep 12 = .ok (.invokevirtual 17, 3) := dk_182 0 17 (dk_at dksX0_deep_0 12 rfl rfl)
theorem dX0_deep_15 : decode cX0_deep 15 = .ok (.athrow, 1) := dk_191 (dk_at dksX0_deep_0 15 rfl rfl)
theorem dX0_deep_16 : decode cX0_deep 16 = .ok (.return_, 1) := dk_177 (dk_at dksX0_deep_0 16 rfl rfl)
abbrev cX0_isPair : ByteArray := prog_1_method_12_code
def yX0_isPair : MethodName := ⟨RX0, "isPair", "(Ljava/lang/String;)Z"⟩
def dkwX0_isPair_2 : List UInt8 := [167, 0, 4, 3, 172]
abbrev dktX0_isPair_2 : List UInt8 := dkwX0_isPair_2 ++ []
def dkwX0_isPair_1 : List UInt8 := [160, 0, 26, 42, 180, 0, 24, 42, 180, 0, 14, 4, 96, 51, 43, 4, 182, 0, 54, 160, 0, 7, 4]
abbrev dktX0_isPair_1 : List UInt8 := dkwX0_isPair_1 ++ dktX0_isPair_2
def dkwX0_isPair_0 : List UInt8 := [42, 180, 0, 35, 8, 160, 0, 43, 42, 180, 0, 24, 42, 180, 0, 14, 51, 43, 3, 182, 0, 54]
abbrev dktX0_isPair_0 : List UInt8 := dkwX0_isPair_0 ++ dktX0_isPair_1
theorem dksX0_isPair_0 : cX0_isPair.data.toList.drop 0 = dktX0_isPair_0 := by decide +kernel
theorem dksX0_isPair_1 : cX0_isPair.data.toList.drop 22 = dktX0_isPair_1 := dk_seg dksX0_isPair_0 22 rfl rfl
theorem dksX0_isPair_2 : cX0_isPair.data.toList.drop 45 = dktX0_isPair_2 := dk_seg dksX0_isPair_1 23 rfl rfl
theorem dX0_isPair_0 : decode cX0_isPair 0 = .ok (.aload_n 0, 1) := dk_42 (dk_at dksX0_isPair_0 0 rfl rfl)
theorem dX0_isPair_1 : decode cX0_isPair 1 = .ok (.getfield 35, 3) := dk_180 0 35 (dk_at dksX0_isPair_0 1 rfl rfl)
theorem dX0_isPair_4 : decode cX0_isPair 4 = .ok (.iconst 5, 1) := dk_8 (dk_at dksX0_isPair_0 4 rfl rfl)
theorem dX0_isPair_5 : decode cX0_isPair 5 = .ok (.if_icmp .ne 43, 3) := dk_160 0 43 (dk_at dksX0_isPair_0 5 rfl rfl)
theorem dX0_isPair_8 : decode cX0_isPair 8 = .ok (.aload_n 0, 1) := dk_42 (dk_at dksX0_isPair_0 8 rfl rfl)
theorem dX0_isPair_9 : decode cX0_isPair 9 = .ok (.getfield 24, 3) := dk_180 0 24 (dk_at dksX0_isPair_0 9 rfl rfl)
theorem dX0_isPair_12 : decode cX0_isPair 12 = .ok (.aload_n 0, 1) := dk_42 (dk_at dksX0_isPair_0 12 rfl rfl)
theorem dX0_isPair_13 : decode cX0_isPair 13 = .ok (.getfield 14, 3) := dk_180 0 14 (dk_at dksX0_isPair_0 13 rfl rfl)
theorem dX0_isPair_16 : decode cX0_isPair 16 = .ok (.baload, 1) := dk_51 (dk_at dksX0_isPair_0 16 rfl rfl)
theorem dX0_isPair_17 : decode cX0_isPair 17 = .ok (.aload_n 1, 1) := dk_43 (dk_at dksX0_isPair_0 17 rfl rfl)
theorem dX0_isPair_18 : decode cX0_isPair 18 = .ok (.iconst 0, 1) := dk_3 (dk_at dksX0_isPair_0 18 rfl rfl)
theorem dX0_isPair_19 : decode cX0_isPair 19 = .ok (.invokevirtual 54, 3) := dk_182 0 54 (dk_at dksX0_isPair_0 19 rfl rfl)
theorem dX0_isPair_22 : decode cX0_isPair 22 = .ok (.if_icmp .ne 26, 3) := dk_160 0 26 (dk_at dksX0_isPair_1 0 rfl rfl)
theorem dX0_isPair_25 : decode cX0_isPair 25 = .ok (.aload_n 0, 1) := dk_42 (dk_at dksX0_isPair_1 3 rfl rfl)
theorem dX0_isPair_26 : decode cX0_isPair 26 = .ok (.getfield 24, 3) := dk_180 0 24 (dk_at dksX0_isPair_1 4 rfl rfl)
theorem dX0_isPair_29 : decode cX0_isPair 29 = .ok (.aload_n 0, 1) := dk_42 (dk_at dksX0_isPair_1 7 rfl rfl)
theorem dX0_isPair_30 : decode cX0_isPair 30 = .ok (.getfield 14, 3) := dk_180 0 14 (dk_at dksX0_isPair_1 8 rfl rfl)
theorem dX0_isPair_33 : decode cX0_isPair 33 = .ok (.iconst 1, 1) := dk_4 (dk_at dksX0_isPair_1 11 rfl rfl)
theorem dX0_isPair_34 : decode cX0_isPair 34 = .ok (.iadd, 1) := dk_96 (dk_at dksX0_isPair_1 12 rfl rfl)
theorem dX0_isPair_35 : decode cX0_isPair 35 = .ok (.baload, 1) := dk_51 (dk_at dksX0_isPair_1 13 rfl rfl)
theorem dX0_isPair_36 : decode cX0_isPair 36 = .ok (.aload_n 1, 1) := dk_43 (dk_at dksX0_isPair_1 14 rfl rfl)
theorem dX0_isPair_37 : decode cX0_isPair 37 = .ok (.iconst 1, 1) := dk_4 (dk_at dksX0_isPair_1 15 rfl rfl)
theorem dX0_isPair_38 : decode cX0_isPair 38 = .ok (.invokevirtual 54, 3) := dk_182 0 54 (dk_at dksX0_isPair_1 16 rfl rfl)
theorem dX0_isPair_41 : decode cX0_isPair 41 = .ok (.if_icmp .ne 7, 3) := dk_160 0 7 (dk_at dksX0_isPair_1 19 rfl rfl)
theorem dX0_isPair_44 : decode cX0_isPair 44 = .ok (.iconst 1, 1) := dk_4 (dk_at dksX0_isPair_1 22 rfl rfl)
theorem dX0_isPair_45 : decode cX0_isPair 45 = .ok (.goto 4, 3) := dk_167 0 4 (dk_at dksX0_isPair_2 0 rfl rfl)
theorem dX0_isPair_48 : decode cX0_isPair 48 = .ok (.iconst 0, 1) := dk_3 (dk_at dksX0_isPair_2 3 rfl rfl)
theorem dX0_isPair_49 : decode cX0_isPair 49 = .ok (.ireturn, 1) := dk_172 (dk_at dksX0_isPair_2 4 rfl rfl)
abbrev cX0_close : ByteArray := prog_1_method_26_code
def yX0_close : MethodName := ⟨RX0, "close", "(IZI)V"⟩
def dkwX0_close_2 : List UInt8 := [182, 0, 17, 191, 42, 182, 0, 65, 177]
abbrev dktX0_close_2 : List UInt8 := dkwX0_close_2 ++ []
def dkwX0_close_1 : List UInt8 := [191, 42, 89, 180, 0, 145, 29, 96, 181, 0, 145, 42, 180, 0, 145, 16, 40, 164, 0, 10, 42, 7, 27]
abbrev dktX0_close_1 : List UInt8 := dkwX0_close_1 ++ dktX0_close_2
def dkwX0_close_0 : List UInt8 := [42, 16, 59, 182, 0, 58, 154, 0, 8, 42, 182, 0, 61, 191, 28, 153, 0, 10, 42, 6, 27, 182, 0, 17]
abbrev dktX0_close_0 : List UInt8 := dkwX0_close_0 ++ dktX0_close_1
theorem dksX0_close_0 : cX0_close.data.toList.drop 0 = dktX0_close_0 := by decide +kernel
theorem dksX0_close_1 : cX0_close.data.toList.drop 24 = dktX0_close_1 := dk_seg dksX0_close_0 24 rfl rfl
theorem dksX0_close_2 : cX0_close.data.toList.drop 47 = dktX0_close_2 := dk_seg dksX0_close_1 23 rfl rfl
theorem dX0_close_0 : decode cX0_close 0 = .ok (.aload_n 0, 1) := dk_42 (dk_at dksX0_close_0 0 rfl rfl)
theorem dX0_close_1 : decode cX0_close 1 = .ok (.bipush 59, 2) := dk_16 59 (dk_at dksX0_close_0 1 rfl rfl)
theorem dX0_close_3 : decode cX0_close 3 = .ok (.invokevirtual 58, 3) := dk_182 0 58 (dk_at dksX0_close_0 3 rfl rfl)
theorem dX0_close_6 : decode cX0_close 6 = .ok (.ifCond .ne 8, 3) := dk_154 0 8 (dk_at dksX0_close_0 6 rfl rfl)
theorem dX0_close_9 : decode cX0_close 9 = .ok (.aload_n 0, 1) := dk_42 (dk_at dksX0_close_0 9 rfl rfl)
theorem dX0_close_10 : decode cX0_close 10 = .ok (.invokevirtual 61, 3) := dk_182 0 61 (dk_at dksX0_close_0 10 rfl rfl)
theorem dX0_close_13 : decode cX0_close 13 = .ok (.athrow, 1) := dk_191 (dk_at dksX0_close_0 13 rfl rfl)
theorem dX0_close_14 : decode cX0_close 14 = .ok (.iload_n 2, 1) := dk_28 (dk_at dksX0_close_0 14 rfl rfl)
theorem dX0_close_15 : decode cX0_close 15 = .ok (.ifCond .eq 10, 3) := dk_153 0 10 (dk_at dksX0_close_0 15 rfl rfl)
theorem dX0_close_18 : decode cX0_close 18 = .ok (.aload_n 0, 1) := dk_42 (dk_at dksX0_close_0 18 rfl rfl)
theorem dX0_close_19 : decode cX0_close 19 = .ok (.iconst 3, 1) := dk_6 (dk_at dksX0_close_0 19 rfl rfl)
theorem dX0_close_20 : decode cX0_close 20 = .ok (.iload_n 1, 1) := dk_27 (dk_at dksX0_close_0 20 rfl rfl)
theorem dX0_close_21 : decode cX0_close 21 = .ok (.invokevirtual 17, 3) := dk_182 0 17 (dk_at dksX0_close_0 21 rfl rfl)
theorem dX0_close_24 : decode cX0_close 24 = .ok (.athrow, 1) := dk_191 (dk_at dksX0_close_1 0 rfl rfl)
theorem dX0_close_25 : decode cX0_close 25 = .ok (.aload_n 0, 1) := dk_42 (dk_at dksX0_close_1 1 rfl rfl)
theorem dX0_close_26 : decode cX0_close 26 = .ok (.dup, 1) := dk_89 (dk_at dksX0_close_1 2 rfl rfl)
theorem dX0_close_27 : decode cX0_close 27 = .ok (.getfield 145, 3) := dk_180 0 145 (dk_at dksX0_close_1 3 rfl rfl)
theorem dX0_close_30 : decode cX0_close 30 = .ok (.iload_n 3, 1) := dk_29 (dk_at dksX0_close_1 6 rfl rfl)
theorem dX0_close_31 : decode cX0_close 31 = .ok (.iadd, 1) := dk_96 (dk_at dksX0_close_1 7 rfl rfl)
theorem dX0_close_32 : decode cX0_close 32 = .ok (.putfield 145, 3) := dk_181 0 145 (dk_at dksX0_close_1 8 rfl rfl)
theorem dX0_close_35 : decode cX0_close 35 = .ok (.aload_n 0, 1) := dk_42 (dk_at dksX0_close_1 11 rfl rfl)
theorem dX0_close_36 : decode cX0_close 36 = .ok (.getfield 145, 3) := dk_180 0 145 (dk_at dksX0_close_1 12 rfl rfl)
theorem dX0_close_39 : decode cX0_close 39 = .ok (.bipush 40, 2) := dk_16 40 (dk_at dksX0_close_1 15 rfl rfl)
theorem dX0_close_41 : decode cX0_close 41 = .ok (.if_icmp .le 10, 3) := dk_164 0 10 (dk_at dksX0_close_1 17 rfl rfl)
theorem dX0_close_44 : decode cX0_close 44 = .ok (.aload_n 0, 1) := dk_42 (dk_at dksX0_close_1 20 rfl rfl)
theorem dX0_close_45 : decode cX0_close 45 = .ok (.iconst 4, 1) := dk_7 (dk_at dksX0_close_1 21 rfl rfl)
theorem dX0_close_46 : decode cX0_close 46 = .ok (.iload_n 1, 1) := dk_27 (dk_at dksX0_close_1 22 rfl rfl)
theorem dX0_close_47 : decode cX0_close 47 = .ok (.invokevirtual 17, 3) := dk_182 0 17 (dk_at dksX0_close_2 0 rfl rfl)
theorem dX0_close_50 : decode cX0_close 50 = .ok (.athrow, 1) := dk_191 (dk_at dksX0_close_2 3 rfl rfl)
theorem dX0_close_51 : decode cX0_close 51 = .ok (.aload_n 0, 1) := dk_42 (dk_at dksX0_close_2 4 rfl rfl)
theorem dX0_close_52 : decode cX0_close 52 = .ok (.invokevirtual 65, 3) := dk_182 0 65 (dk_at dksX0_close_2 5 rfl rfl)
theorem dX0_close_55 : decode cX0_close 55 = .ok (.return_, 1) := dk_177 (dk_at dksX0_close_2 8 rfl rfl)
abbrev cX0_naming : ByteArray := prog_1_method_32_code
def yX0_naming : MethodName := ⟨RX0, "naming", "(I)LThereAndBack$Step;"⟩
def dkwX0_naming_3 : List UInt8 := [21, 4, 25, 5, 183, 1, 13, 167, 0, 15, 187, 1, 14, 89, 21, 4, 25, 5, 29, 183, 1, 16, 176]
abbrev dktX0_naming_3 : List UInt8 := dkwX0_naming_3 ++ []
def dkwX0_naming_2 : List UInt8 := [182, 1, 6, 153, 0, 7, 4, 167, 0, 4, 3, 4, 182, 0, 210, 28, 153, 0, 17, 187, 1, 11, 89]
abbrev dktX0_naming_2 : List UInt8 := dkwX0_naming_2 ++ dktX0_naming_3
def dkwX0_naming_1 : List UInt8 := [42, 16, 61, 182, 0, 131, 42, 3, 182, 0, 125, 58, 5, 42, 27, 28, 154, 0, 17, 25, 5, 21, 4]
abbrev dktX0_naming_1 : List UInt8 := dkwX0_naming_1 ++ dktX0_naming_2
def dkwX0_naming_0 : List UInt8 := [42, 18, 159, 182, 0, 69, 61, 42, 18, 181, 182, 0, 69, 62, 42, 182, 0, 65, 42, 182, 0, 103, 54, 4]
abbrev dktX0_naming_0 : List UInt8 := dkwX0_naming_0 ++ dktX0_naming_1
theorem dksX0_naming_0 : cX0_naming.data.toList.drop 0 = dktX0_naming_0 := by decide +kernel
theorem dksX0_naming_1 : cX0_naming.data.toList.drop 24 = dktX0_naming_1 := dk_seg dksX0_naming_0 24 rfl rfl
theorem dksX0_naming_2 : cX0_naming.data.toList.drop 47 = dktX0_naming_2 := dk_seg dksX0_naming_1 23 rfl rfl
theorem dksX0_naming_3 : cX0_naming.data.toList.drop 70 = dktX0_naming_3 := dk_seg dksX0_naming_2 23 rfl rfl
theorem dX0_naming_0 : decode cX0_naming 0 = .ok (.aload_n 0, 1) := dk_42 (dk_at dksX0_naming_0 0 rfl rfl)
theorem dX0_naming_1 : decode cX0_naming 1 = .ok (.ldc 159, 2) := dk_18 159 (dk_at dksX0_naming_0 1 rfl rfl)
theorem dX0_naming_3 : decode cX0_naming 3 = .ok (.invokevirtual 69, 3) := dk_182 0 69 (dk_at dksX0_naming_0 3 rfl rfl)
theorem dX0_naming_6 : decode cX0_naming 6 = .ok (.istore_n 2, 1) := dk_61 (dk_at dksX0_naming_0 6 rfl rfl)
theorem dX0_naming_7 : decode cX0_naming 7 = .ok (.aload_n 0, 1) := dk_42 (dk_at dksX0_naming_0 7 rfl rfl)
theorem dX0_naming_8 : decode cX0_naming 8 = .ok (.ldc 181, 2) := dk_18 181 (dk_at dksX0_naming_0 8 rfl rfl)
theorem dX0_naming_10 : decode cX0_naming 10 = .ok (.invokevirtual 69, 3) := dk_182 0 69 (dk_at dksX0_naming_0 10 rfl rfl)
theorem dX0_naming_13 : decode cX0_naming 13 = .ok (.istore_n 3, 1) := dk_62 (dk_at dksX0_naming_0 13 rfl rfl)
theorem dX0_naming_14 : decode cX0_naming 14 = .ok (.aload_n 0, 1) := dk_42 (dk_at dksX0_naming_0 14 rfl rfl)
theorem dX0_naming_15 : decode cX0_naming 15 = .ok (.invokevirtual 65, 3) := dk_182 0 65 (dk_at dksX0_naming_0 15 rfl rfl)
theorem dX0_naming_18 : decode cX0_naming 18 = .ok (.aload_n 0, 1) := dk_42 (dk_at dksX0_naming_0 18 rfl rfl)
theorem dX0_naming_19 : decode cX0_naming 19 = .ok (.invokevirtual 103, 3) := dk_182 0 103 (dk_at dksX0_naming_0 19 rfl rfl)
theorem dX0_naming_22 : decode cX0_naming 22 = .ok (.istore 4, 2) := dk_54 4 (dk_at dksX0_naming_0 22 rfl rfl)
theorem dX0_naming_24 : decode cX0_naming 24 = .ok (.aload_n 0, 1) := dk_42 (dk_at dksX0_naming_1 0 rfl rfl)
theorem dX0_naming_25 : decode cX0_naming 25 = .ok (.bipush 61, 2) := dk_16 61 (dk_at dksX0_naming_1 1 rfl rfl)
theorem dX0_naming_27 : decode cX0_naming 27 = .ok (.invokevirtual 131, 3) := dk_182 0 131 (dk_at dksX0_naming_1 3 rfl rfl)
theorem dX0_naming_30 : decode cX0_naming 30 = .ok (.aload_n 0, 1) := dk_42 (dk_at dksX0_naming_1 6 rfl rfl)
theorem dX0_naming_31 : decode cX0_naming 31 = .ok (.iconst 0, 1) := dk_3 (dk_at dksX0_naming_1 7 rfl rfl)
theorem dX0_naming_32 : decode cX0_naming 32 = .ok (.invokevirtual 125, 3) := dk_182 0 125 (dk_at dksX0_naming_1 8 rfl rfl)
theorem dX0_naming_35 : decode cX0_naming 35 = .ok (.astore 5, 2) := dk_58 5 (dk_at dksX0_naming_1 11 rfl rfl)
theorem dX0_naming_37 : decode cX0_naming 37 = .ok (.aload_n 0, 1) := dk_42 (dk_at dksX0_naming_1 13 rfl rfl)
theorem dX0_naming_38 : decode cX0_naming 38 = .ok (.iload_n 1, 1) := dk_27 (dk_at dksX0_naming_1 14 rfl rfl)
theorem dX0_naming_39 : decode cX0_naming 39 = .ok (.iload_n 2, 1) := dk_28 (dk_at dksX0_naming_1 15 rfl rfl)
theorem dX0_naming_40 : decode cX0_naming 40 = .ok (.ifCond .ne 17, 3) := dk_154 0 17 (dk_at dksX0_naming_1 16 rfl rfl)
theorem dX0_naming_43 : decode cX0_naming 43 = .ok (.aload 5, 2) := dk_25 5 (dk_at dksX0_naming_1 19 rfl rfl)
theorem dX0_naming_45 : decode cX0_naming 45 = .ok (.iload 4, 2) := dk_21 4 (dk_at dksX0_naming_1 21 rfl rfl)
theorem dX0_naming_47 : decode cX0_naming 47 = .ok (.invokevirtual 262, 3) := dk_182 1 6 (dk_at dksX0_naming_2 0 rfl rfl)
theorem dX0_naming_50 : decode cX0_naming 50 = .ok (.ifCond .eq 7, 3) := dk_153 0 7 (dk_at dksX0_naming_2 3 rfl rfl)
theorem dX0_naming_53 : decode cX0_naming 53 = .ok (.iconst 1, 1) := dk_4 (dk_at dksX0_naming_2 6 rfl rfl)
theorem dX0_naming_54 : decode cX0_naming 54 = .ok (.goto 4, 3) := dk_167 0 4 (dk_at dksX0_naming_2 7 rfl rfl)
theorem dX0_naming_57 : decode cX0_naming 57 = .ok (.iconst 0, 1) := dk_3 (dk_at dksX0_naming_2 10 rfl rfl)
theorem dX0_naming_58 : decode cX0_naming 58 = .ok (.iconst 1, 1) := dk_4 (dk_at dksX0_naming_2 11 rfl rfl)
theorem dX0_naming_59 : decode cX0_naming 59 = .ok (.invokevirtual 210, 3) := dk_182 0 210 (dk_at dksX0_naming_2 12 rfl rfl)
theorem dX0_naming_62 : decode cX0_naming 62 = .ok (.iload_n 2, 1) := dk_28 (dk_at dksX0_naming_2 15 rfl rfl)
theorem dX0_naming_63 : decode cX0_naming 63 = .ok (.ifCond .eq 17, 3) := dk_153 0 17 (dk_at dksX0_naming_2 16 rfl rfl)
theorem dX0_naming_66 : decode cX0_naming 66 = .ok (.new 267, 3) := dk_187 1 11 (dk_at dksX0_naming_2 19 rfl rfl)
theorem dX0_naming_69 : decode cX0_naming 69 = .ok (.dup, 1) := dk_89 (dk_at dksX0_naming_2 22 rfl rfl)
theorem dX0_naming_70 : decode cX0_naming 70 = .ok (.iload 4, 2) := dk_21 4 (dk_at dksX0_naming_3 0 rfl rfl)
theorem dX0_naming_72 : decode cX0_naming 72 = .ok (.aload 5, 2) := dk_25 5 (dk_at dksX0_naming_3 2 rfl rfl)
theorem dX0_naming_74 : decode cX0_naming 74 = .ok (.invokespecial 269, 3) := dk_183 1 13 (dk_at dksX0_naming_3 4 rfl rfl)
theorem dX0_naming_77 : decode cX0_naming 77 = .ok (.goto 15, 3) := dk_167 0 15 (dk_at dksX0_naming_3 7 rfl rfl)
theorem dX0_naming_80 : decode cX0_naming 80 = .ok (.new 270, 3) := dk_187 1 14 (dk_at dksX0_naming_3 10 rfl rfl)
theorem dX0_naming_83 : decode cX0_naming 83 = .ok (.dup, 1) := dk_89 (dk_at dksX0_naming_3 13 rfl rfl)
theorem dX0_naming_84 : decode cX0_naming 84 = .ok (.iload 4, 2) := dk_21 4 (dk_at dksX0_naming_3 14 rfl rfl)
theorem dX0_naming_86 : decode cX0_naming 86 = .ok (.aload 5, 2) := dk_25 5 (dk_at dksX0_naming_3 16 rfl rfl)
theorem dX0_naming_88 : decode cX0_naming 88 = .ok (.iload_n 3, 1) := dk_29 (dk_at dksX0_naming_3 18 rfl rfl)
theorem dX0_naming_89 : decode cX0_naming 89 = .ok (.invokespecial 272, 3) := dk_183 1 16 (dk_at dksX0_naming_3 19 rfl rfl)
theorem dX0_naming_92 : decode cX0_naming 92 = .ok (.areturn, 1) := dk_176 (dk_at dksX0_naming_3 22 rfl rfl)
abbrev cX0_stackName : ByteArray := prog_1_method_19_code
def yX0_stackName : MethodName := ⟨RX0, "stackName", "()I"⟩
def dkwX0_stackName_2 : List UInt8 := [180, 0, 14, 51, 16, 83, 100, 60, 42, 182, 0, 65, 27, 172]
abbrev dktX0_stackName_2 : List UInt8 := dkwX0_stackName_2 ++ []
def dkwX0_stackName_1 : List UInt8 := [180, 0, 24, 42, 180, 0, 14, 51, 16, 86, 164, 0, 8, 42, 182, 0, 61, 191, 42, 180, 0, 24, 42]
abbrev dktX0_stackName_1 : List UInt8 := dkwX0_stackName_1 ++ dktX0_stackName_2
def dkwX0_stackName_0 : List UInt8 := [42, 180, 0, 35, 6, 160, 0, 31, 42, 180, 0, 24, 42, 180, 0, 14, 51, 16, 83, 161, 0, 17, 42]
abbrev dktX0_stackName_0 : List UInt8 := dkwX0_stackName_0 ++ dktX0_stackName_1
theorem dksX0_stackName_0 : cX0_stackName.data.toList.drop 0 = dktX0_stackName_0 := by decide +kernel
theorem dksX0_stackName_1 : cX0_stackName.data.toList.drop 23 = dktX0_stackName_1 := dk_seg dksX0_stackName_0 23 rfl rfl
theorem dksX0_stackName_2 : cX0_stackName.data.toList.drop 46 = dktX0_stackName_2 := dk_seg dksX0_stackName_1 23 rfl rfl
theorem dX0_stackName_0 : decode cX0_stackName 0 = .ok (.aload_n 0, 1) := dk_42 (dk_at dksX0_stackName_0 0 rfl rfl)
theorem dX0_stackName_1 : decode cX0_stackName 1 = .ok (.getfield 35, 3) := dk_180 0 35 (dk_at dksX0_stackName_0 1 rfl rfl)
theorem dX0_stackName_4 : decode cX0_stackName 4 = .ok (.iconst 3, 1) := dk_6 (dk_at dksX0_stackName_0 4 rfl rfl)
theorem dX0_stackName_5 : decode cX0_stackName 5 = .ok (.if_icmp .ne 31, 3) := dk_160 0 31 (dk_at dksX0_stackName_0 5 rfl rfl)
theorem dX0_stackName_8 : decode cX0_stackName 8 = .ok (.aload_n 0, 1) := dk_42 (dk_at dksX0_stackName_0 8 rfl rfl)
theorem dX0_stackName_9 : decode cX0_stackName 9 = .ok (.getfield 24, 3) := dk_180 0 24 (dk_at dksX0_stackName_0 9 rfl rfl)
theorem dX0_stackName_12 : decode cX0_stackName 12 = .ok (.aload_n 0, 1) := dk_42 (dk_at dksX0_stackName_0 12 rfl rfl)
theorem dX0_stackName_13 : decode cX0_stackName 13 = .ok (.getfield 14, 3) := dk_180 0 14 (dk_at dksX0_stackName_0 13 rfl rfl)
theorem dX0_stackName_16 : decode cX0_stackName 16 = .ok (.baload, 1) := dk_51 (dk_at dksX0_stackName_0 16 rfl rfl)
theorem dX0_stackName_17 : decode cX0_stackName 17 = .ok (.bipush 83, 2) := dk_16 83 (dk_at dksX0_stackName_0 17 rfl rfl)
theorem dX0_stackName_19 : decode cX0_stackName 19 = .ok (.if_icmp .lt 17, 3) := dk_161 0 17 (dk_at dksX0_stackName_0 19 rfl rfl)
theorem dX0_stackName_22 : decode cX0_stackName 22 = .ok (.aload_n 0, 1) := dk_42 (dk_at dksX0_stackName_0 22 rfl rfl)
theorem dX0_stackName_23 : decode cX0_stackName 23 = .ok (.getfield 24, 3) := dk_180 0 24 (dk_at dksX0_stackName_1 0 rfl rfl)
theorem dX0_stackName_26 : decode cX0_stackName 26 = .ok (.aload_n 0, 1) := dk_42 (dk_at dksX0_stackName_1 3 rfl rfl)
theorem dX0_stackName_27 : decode cX0_stackName 27 = .ok (.getfield 14, 3) := dk_180 0 14 (dk_at dksX0_stackName_1 4 rfl rfl)
theorem dX0_stackName_30 : decode cX0_stackName 30 = .ok (.baload, 1) := dk_51 (dk_at dksX0_stackName_1 7 rfl rfl)
theorem dX0_stackName_31 : decode cX0_stackName 31 = .ok (.bipush 86, 2) := dk_16 86 (dk_at dksX0_stackName_1 8 rfl rfl)
theorem dX0_stackName_33 : decode cX0_stackName 33 = .ok (.if_icmp .le 8, 3) := dk_164 0 8 (dk_at dksX0_stackName_1 10 rfl rfl)
theorem dX0_stackName_36 : decode cX0_stackName 36 = .ok (.aload_n 0, 1) := dk_42 (dk_at dksX0_stackName_1 13 rfl rfl)
theorem dX0_stackName_37 : decode cX0_stackName 37 = .ok (.invokevirtual 61, 3) := dk_182 0 61 (dk_at dksX0_stackName_1 14 rfl rfl)
theorem dX0_stackName_40 : decode cX0_stackName 40 = .ok (.athrow, 1) := dk_191 (dk_at dksX0_stackName_1 17 rfl rfl)
theorem dX0_stackName_41 : decode cX0_stackName 41 = .ok (.aload_n 0, 1) := dk_42 (dk_at dksX0_stackName_1 18 rfl rfl)
theorem dX0_stackName_42 : decode cX0_stackName 42 = .ok (.getfield 24, 3) := dk_180 0 24 (dk_at dksX0_stackName_1 19 rfl rfl)
theorem dX0_stackName_45 : decode cX0_stackName 45 = .ok (.aload_n 0, 1) := dk_42 (dk_at dksX0_stackName_1 22 rfl rfl)
theorem dX0_stackName_46 : decode cX0_stackName 46 = .ok (.getfield 14, 3) := dk_180 0 14 (dk_at dksX0_stackName_2 0 rfl rfl)
theorem dX0_stackName_49 : decode cX0_stackName 49 = .ok (.baload, 1) := dk_51 (dk_at dksX0_stackName_2 3 rfl rfl)
theorem dX0_stackName_50 : decode cX0_stackName 50 = .ok (.bipush 83, 2) := dk_16 83 (dk_at dksX0_stackName_2 4 rfl rfl)
theorem dX0_stackName_52 : decode cX0_stackName 52 = .ok (.isub, 1) := dk_100 (dk_at dksX0_stackName_2 6 rfl rfl)
theorem dX0_stackName_53 : decode cX0_stackName 53 = .ok (.istore_n 1, 1) := dk_60 (dk_at dksX0_stackName_2 7 rfl rfl)
theorem dX0_stackName_54 : decode cX0_stackName 54 = .ok (.aload_n 0, 1) := dk_42 (dk_at dksX0_stackName_2 8 rfl rfl)
theorem dX0_stackName_55 : decode cX0_stackName 55 = .ok (.invokevirtual 65, 3) := dk_182 0 65 (dk_at dksX0_stackName_2 9 rfl rfl)
theorem dX0_stackName_58 : decode cX0_stackName 58 = .ok (.iload_n 1, 1) := dk_27 (dk_at dksX0_stackName_2 12 rfl rfl)
theorem dX0_stackName_59 : decode cX0_stackName 59 = .ok (.ireturn, 1) := dk_172 (dk_at dksX0_stackName_2 13 rfl rfl)
abbrev cX0_making : ByteArray := prog_1_method_33_code
def yX0_making : MethodName := ⟨RX0, "making", "(I)LThereAndBack$Step;"⟩
def dkwX0_making_6 : List UInt8 := [176]
abbrev dktX0_making_6 : List UInt8 := dkwX0_making_6 ++ []
def dkwX0_making_5 : List UInt8 := [16, 26, 29, 96, 182, 1, 6, 4, 182, 0, 210, 187, 1, 29, 89, 29, 21, 4, 25, 5, 28, 183, 1, 31]
abbrev dktX0_making_5 : List UInt8 := dkwX0_making_5 ++ dktX0_making_6
def dkwX0_making_4 : List UInt8 := [156, 0, 8, 42, 182, 0, 61, 191, 42, 182, 0, 65, 42, 3, 182, 0, 125, 58, 5, 42, 27, 25, 5]
abbrev dktX0_making_4 : List UInt8 := dkwX0_making_4 ++ dktX0_making_5
def dkwX0_making_3 : List UInt8 := [167, 0, 18, 42, 19, 1, 27, 182, 0, 69, 153, 0, 7, 7, 167, 0, 4, 2, 54, 4, 21, 4]
abbrev dktX0_making_3 : List UInt8 := dkwX0_making_3 ++ dktX0_making_4
def dkwX0_making_2 : List UInt8 := [19, 1, 23, 182, 0, 69, 153, 0, 7, 5, 167, 0, 32, 42, 19, 1, 25, 182, 0, 69, 153, 0, 7, 6]
abbrev dktX0_making_2 : List UInt8 := dkwX0_making_2 ++ dktX0_making_3
def dkwX0_making_1 : List UInt8 := [153, 0, 7, 3, 167, 0, 60, 42, 19, 1, 21, 182, 0, 69, 153, 0, 7, 4, 167, 0, 46, 42]
abbrev dktX0_making_1 : List UInt8 := dkwX0_making_1 ++ dktX0_making_2
def dkwX0_making_0 : List UInt8 := [42, 18, 189, 182, 0, 69, 61, 42, 182, 0, 65, 42, 182, 0, 107, 62, 42, 19, 1, 19, 182, 0, 69]
abbrev dktX0_making_0 : List UInt8 := dkwX0_making_0 ++ dktX0_making_1
theorem dksX0_making_0 : cX0_making.data.toList.drop 0 = dktX0_making_0 := by decide +kernel
theorem dksX0_making_1 : cX0_making.data.toList.drop 23 = dktX0_making_1 := dk_seg dksX0_making_0 23 rfl rfl
theorem dksX0_making_2 : cX0_making.data.toList.drop 45 = dktX0_making_2 := dk_seg dksX0_making_1 22 rfl rfl
theorem dksX0_making_3 : cX0_making.data.toList.drop 69 = dktX0_making_3 := dk_seg dksX0_making_2 24 rfl rfl
theorem dksX0_making_4 : cX0_making.data.toList.drop 91 = dktX0_making_4 := dk_seg dksX0_making_3 22 rfl rfl
theorem dksX0_making_5 : cX0_making.data.toList.drop 114 = dktX0_making_5 := dk_seg dksX0_making_4 23 rfl rfl
theorem dksX0_making_6 : cX0_making.data.toList.drop 138 = dktX0_making_6 := dk_seg dksX0_making_5 24 rfl rfl
theorem dX0_making_0 : decode cX0_making 0 = .ok (.aload_n 0, 1) := dk_42 (dk_at dksX0_making_0 0 rfl rfl)
theorem dX0_making_1 : decode cX0_making 1 = .ok (.ldc 189, 2) := dk_18 189 (dk_at dksX0_making_0 1 rfl rfl)
theorem dX0_making_3 : decode cX0_making 3 = .ok (.invokevirtual 69, 3) := dk_182 0 69 (dk_at dksX0_making_0 3 rfl rfl)
theorem dX0_making_6 : decode cX0_making 6 = .ok (.istore_n 2, 1) := dk_61 (dk_at dksX0_making_0 6 rfl rfl)
theorem dX0_making_7 : decode cX0_making 7 = .ok (.aload_n 0, 1) := dk_42 (dk_at dksX0_making_0 7 rfl rfl)
theorem dX0_making_8 : decode cX0_making 8 = .ok (.invokevirtual 65, 3) := dk_182 0 65 (dk_at dksX0_making_0 8 rfl rfl)
theorem dX0_making_11 : decode cX0_making 11 = .ok (.aload_n 0, 1) := dk_42 (dk_at dksX0_making_0 11 rfl rfl)
theorem dX0_making_12 : decode cX0_making 12 = .ok (.invokevirtual 107, 3) := dk_182 0 107 (dk_at dksX0_making_0 12 rfl rfl)
theorem dX0_making_15 : decode cX0_making 15 = .ok (.istore_n 3, 1) := dk_62 (dk_at dksX0_making_0 15 rfl rfl)
theorem dX0_making_16 : decode cX0_making 16 = .ok (.aload_n 0, 1) := dk_42 (dk_at dksX0_making_0 16 rfl rfl)
theorem dX0_making_17 : decode cX0_making 17 = .ok (.ldc_w 275, 3) := dk_19 1 19 (dk_at dksX0_making_0 17 rfl rfl)
theorem dX0_making_20 : decode cX0_making 20 = .ok (.invokevirtual 69, 3) := dk_182 0 69 (dk_at dksX0_making_0 20 rfl rfl)
theorem dX0_making_23 : decode cX0_making 23 = .ok (.ifCond .eq 7, 3) := dk_153 0 7 (dk_at dksX0_making_1 0 rfl rfl)
theorem dX0_making_26 : decode cX0_making 26 = .ok (.iconst 0, 1) := dk_3 (dk_at dksX0_making_1 3 rfl rfl)
theorem dX0_making_27 : decode cX0_making 27 = .ok (.goto 60, 3) := dk_167 0 60 (dk_at dksX0_making_1 4 rfl rfl)
theorem dX0_making_30 : decode cX0_making 30 = .ok (.aload_n 0, 1) := dk_42 (dk_at dksX0_making_1 7 rfl rfl)
theorem dX0_making_31 : decode cX0_making 31 = .ok (.ldc_w 277, 3) := dk_19 1 21 (dk_at dksX0_making_1 8 rfl rfl)
theorem dX0_making_34 : decode cX0_making 34 = .ok (.invokevirtual 69, 3) := dk_182 0 69 (dk_at dksX0_making_1 11 rfl rfl)
theorem dX0_making_37 : decode cX0_making 37 = .ok (.ifCond .eq 7, 3) := dk_153 0 7 (dk_at dksX0_making_1 14 rfl rfl)
theorem dX0_making_40 : decode cX0_making 40 = .ok (.iconst 1, 1) := dk_4 (dk_at dksX0_making_1 17 rfl rfl)
theorem dX0_making_41 : decode cX0_making 41 = .ok (.goto 46, 3) := dk_167 0 46 (dk_at dksX0_making_1 18 rfl rfl)
theorem dX0_making_44 : decode cX0_making 44 = .ok (.aload_n 0, 1) := dk_42 (dk_at dksX0_making_1 21 rfl rfl)
theorem dX0_making_45 : decode cX0_making 45 = .ok (.ldc_w 279, 3) := dk_19 1 23 (dk_at dksX0_making_2 0 rfl rfl)
theorem dX0_making_48 : decode cX0_making 48 = .ok (.invokevirtual 69, 3) := dk_182 0 69 (dk_at dksX0_making_2 3 rfl rfl)
theorem dX0_making_51 : decode cX0_making 51 = .ok (.ifCond .eq 7, 3) := dk_153 0 7 (dk_at dksX0_making_2 6 rfl rfl)
theorem dX0_making_54 : decode cX0_making 54 = .ok (.iconst 2, 1) := dk_5 (dk_at dksX0_making_2 9 rfl rfl)
theorem dX0_making_55 : decode cX0_making 55 = .ok (.goto 32, 3) := dk_167 0 32 (dk_at dksX0_making_2 10 rfl rfl)
theorem dX0_making_58 : decode cX0_making 58 = .ok (.aload_n 0, 1) := dk_42 (dk_at dksX0_making_2 13 rfl rfl)
theorem dX0_making_59 : decode cX0_making 59 = .ok (.ldc_w 281, 3) := dk_19 1 25 (dk_at dksX0_making_2 14 rfl rfl)
theorem dX0_making_62 : decode cX0_making 62 = .ok (.invokevirtual 69, 3) := dk_182 0 69 (dk_at dksX0_making_2 17 rfl rfl)
theorem dX0_making_65 : decode cX0_making 65 = .ok (.ifCond .eq 7, 3) := dk_153 0 7 (dk_at dksX0_making_2 20 rfl rfl)
theorem dX0_making_68 : decode cX0_making 68 = .ok (.iconst 3, 1) := dk_6 (dk_at dksX0_making_2 23 rfl rfl)
theorem dX0_making_69 : decode cX0_making 69 = .ok (.goto 18, 3) := dk_167 0 18 (dk_at dksX0_making_3 0 rfl rfl)
theorem dX0_making_72 : decode cX0_making 72 = .ok (.aload_n 0, 1) := dk_42 (dk_at dksX0_making_3 3 rfl rfl)
theorem dX0_making_73 : decode cX0_making 73 = .ok (.ldc_w 283, 3) := dk_19 1 27 (dk_at dksX0_making_3 4 rfl rfl)
theorem dX0_making_76 : decode cX0_making 76 = .ok (.invokevirtual 69, 3) := dk_182 0 69 (dk_at dksX0_making_3 7 rfl rfl)
theorem dX0_making_79 : decode cX0_making 79 = .ok (.ifCond .eq 7, 3) := dk_153 0 7 (dk_at dksX0_making_3 10 rfl rfl)
theorem dX0_making_82 : decode cX0_making 82 = .ok (.iconst 4, 1) := dk_7 (dk_at dksX0_making_3 13 rfl rfl)
theorem dX0_making_83 : decode cX0_making 83 = .ok (.goto 4, 3) := dk_167 0 4 (dk_at dksX0_making_3 14 rfl rfl)
theorem dX0_making_86 : decode cX0_making 86 = .ok (.iconst (-1), 1) := dk_2 (dk_at dksX0_making_3 17 rfl rfl)
theorem dX0_making_87 : decode cX0_making 87 = .ok (.istore 4, 2) := dk_54 4 (dk_at dksX0_making_3 18 rfl rfl)
theorem dX0_making_89 : decode cX0_making 89 = .ok (.iload 4, 2) := dk_21 4 (dk_at dksX0_making_3 20 rfl rfl)
theorem dX0_making_91 : decode cX0_making 91 = .ok (.ifCond .ge 8, 3) := dk_156 0 8 (dk_at dksX0_making_4 0 rfl rfl)
theorem dX0_making_94 : decode cX0_making 94 = .ok (.aload_n 0, 1) := dk_42 (dk_at dksX0_making_4 3 rfl rfl)
theorem dX0_making_95 : decode cX0_making 95 = .ok (.invokevirtual 61, 3) := dk_182 0 61 (dk_at dksX0_making_4 4 rfl rfl)
theorem dX0_making_98 : decode cX0_making 98 = .ok (.athrow, 1) := dk_191 (dk_at dksX0_making_4 7 rfl rfl)
theorem dX0_making_99 : decode cX0_making 99 = .ok (.aload_n 0, 1) := dk_42 (dk_at dksX0_making_4 8 rfl rfl)
theorem dX0_making_100 : decode cX0_making 100 = .ok (.invokevirtual 65, 3) := dk_182 0 65 (dk_at dksX0_making_4 9 rfl rfl)
theorem dX0_making_103 : decode cX0_making 103 = .ok (.aload_n 0, 1) := dk_42 (dk_at dksX0_making_4 12 rfl rfl)
theorem dX0_making_104 : decode cX0_making 104 = .ok (.iconst 0, 1) := dk_3 (dk_at dksX0_making_4 13 rfl rfl)
theorem dX0_making_105 : decode cX0_making 105 = .ok (.invokevirtual 125, 3) := dk_182 0 125 (dk_at dksX0_making_4 14 rfl rfl)
theorem dX0_making_108 : decode cX0_making 108 = .ok (.astore 5, 2) := dk_58 5 (dk_at dksX0_making_4 17 rfl rfl)
theorem dX0_making_110 : decode cX0_making 110 = .ok (.aload_n 0, 1) := dk_42 (dk_at dksX0_making_4 19 rfl rfl)
theorem dX0_making_111 : decode cX0_making 111 = .ok (.iload_n 1, 1) := dk_27 (dk_at dksX0_making_4 20 rfl rfl)
theorem dX0_making_112 : decode cX0_making 112 = .ok (.aload 5, 2) := dk_25 5 (dk_at dksX0_making_4 21 rfl rfl)
theorem dX0_making_114 : decode cX0_making 114 = .ok (.bipush 26, 2) := dk_16 26 (dk_at dksX0_making_5 0 rfl rfl)
theorem dX0_making_116 : decode cX0_making 116 = .ok (.iload_n 3, 1) := dk_29 (dk_at dksX0_making_5 2 rfl rfl)
theorem dX0_making_117 : decode cX0_making 117 = .ok (.iadd, 1) := dk_96 (dk_at dksX0_making_5 3 rfl rfl)
theorem dX0_making_118 : decode cX0_making 118 = .ok (.invokevirtual 262, 3) := dk_182 1 6 (dk_at dksX0_making_5 4 rfl rfl)
theorem dX0_making_121 : decode cX0_making 121 = .ok (.iconst 1, 1) := dk_4 (dk_at dksX0_making_5 7 rfl rfl)
theorem dX0_making_122 : decode cX0_making 122 = .ok (.invokevirtual 210, 3) := dk_182 0 210 (dk_at dksX0_making_5 8 rfl rfl)
theorem dX0_making_125 : decode cX0_making 125 = .ok (.new 285, 3) := dk_187 1 29 (dk_at dksX0_making_5 11 rfl rfl)
theorem dX0_making_128 : decode cX0_making 128 = .ok (.dup, 1) := dk_89 (dk_at dksX0_making_5 14 rfl rfl)
theorem dX0_making_129 : decode cX0_making 129 = .ok (.iload_n 3, 1) := dk_29 (dk_at dksX0_making_5 15 rfl rfl)
theorem dX0_making_130 : decode cX0_making 130 = .ok (.iload 4, 2) := dk_21 4 (dk_at dksX0_making_5 16 rfl rfl)
theorem dX0_making_132 : decode cX0_making 132 = .ok (.aload 5, 2) := dk_25 5 (dk_at dksX0_making_5 18 rfl rfl)
theorem dX0_making_134 : decode cX0_making 134 = .ok (.iload_n 2, 1) := dk_28 (dk_at dksX0_making_5 20 rfl rfl)
theorem dX0_making_135 : decode cX0_making 135 = .ok (.invokespecial 287, 3) := dk_183 1 31 (dk_at dksX0_making_5 21 rfl rfl)
theorem dX0_making_138 : decode cX0_making 138 = .ok (.areturn, 1) := dk_176 (dk_at dksX0_making_6 0 rfl rfl)
abbrev cX0_calling : ByteArray := prog_1_method_34_code
def yX0_calling : MethodName := ⟨RX0, "calling", "(I)LThereAndBack$Step;"⟩
def dkwX0_calling_2 : List UInt8 := [42, 182, 0, 65, 42, 27, 3, 4, 182, 0, 210, 187, 1, 34, 89, 29, 28, 183, 1, 36, 176]
abbrev dktX0_calling_2 : List UInt8 := dkwX0_calling_2 ++ []
def dkwX0_calling_1 : List UInt8 := [42, 180, 0, 45, 16, 10, 161, 0, 13, 42, 8, 42, 180, 0, 14, 182, 0, 17, 191, 42, 180, 0, 45, 62]
abbrev dktX0_calling_1 : List UInt8 := dkwX0_calling_1 ++ dktX0_calling_2
def dkwX0_calling_0 : List UInt8 := [42, 18, 193, 182, 0, 69, 61, 42, 182, 0, 65, 42, 180, 0, 35, 5, 159, 0, 8, 42, 182, 0, 61, 191]
abbrev dktX0_calling_0 : List UInt8 := dkwX0_calling_0 ++ dktX0_calling_1
theorem dksX0_calling_0 : cX0_calling.data.toList.drop 0 = dktX0_calling_0 := by decide +kernel
theorem dksX0_calling_1 : cX0_calling.data.toList.drop 24 = dktX0_calling_1 := dk_seg dksX0_calling_0 24 rfl rfl
theorem dksX0_calling_2 : cX0_calling.data.toList.drop 48 = dktX0_calling_2 := dk_seg dksX0_calling_1 24 rfl rfl
theorem dX0_calling_0 : decode cX0_calling 0 = .ok (.aload_n 0, 1) := dk_42 (dk_at dksX0_calling_0 0 rfl rfl)
theorem dX0_calling_1 : decode cX0_calling 1 = .ok (.ldc 193, 2) := dk_18 193 (dk_at dksX0_calling_0 1 rfl rfl)
theorem dX0_calling_3 : decode cX0_calling 3 = .ok (.invokevirtual 69, 3) := dk_182 0 69 (dk_at dksX0_calling_0 3 rfl rfl)
theorem dX0_calling_6 : decode cX0_calling 6 = .ok (.istore_n 2, 1) := dk_61 (dk_at dksX0_calling_0 6 rfl rfl)
theorem dX0_calling_7 : decode cX0_calling 7 = .ok (.aload_n 0, 1) := dk_42 (dk_at dksX0_calling_0 7 rfl rfl)
theorem dX0_calling_8 : decode cX0_calling 8 = .ok (.invokevirtual 65, 3) := dk_182 0 65 (dk_at dksX0_calling_0 8 rfl rfl)
theorem dX0_calling_11 : decode cX0_calling 11 = .ok (.aload_n 0, 1) := dk_42 (dk_at dksX0_calling_0 11 rfl rfl)
theorem dX0_calling_12 : decode cX0_calling 12 = .ok (.getfield 35, 3) := dk_180 0 35 (dk_at dksX0_calling_0 12 rfl rfl)
theorem dX0_calling_15 : decode cX0_calling 15 = .ok (.iconst 2, 1) := dk_5 (dk_at dksX0_calling_0 15 rfl rfl)
theorem dX0_calling_16 : decode cX0_calling 16 = .ok (.if_icmp .eq 8, 3) := dk_159 0 8 (dk_at dksX0_calling_0 16 rfl rfl)
theorem dX0_calling_19 : decode cX0_calling 19 = .ok (.aload_n 0, 1) := dk_42 (dk_at dksX0_calling_0 19 rfl rfl)
theorem dX0_calling_20 : decode cX0_calling 20 = .ok (.invokevirtual 61, 3) := dk_182 0 61 (dk_at dksX0_calling_0 20 rfl rfl)
theorem dX0_calling_23 : decode cX0_calling 23 = .ok (.athrow, 1) := dk_191 (dk_at dksX0_calling_0 23 rfl rfl)
theorem dX0_calling_24 : decode cX0_calling 24 = .ok (.aload_n 0, 1) := dk_42 (dk_at dksX0_calling_1 0 rfl rfl)
theorem dX0_calling_25 : decode cX0_calling 25 = .ok (.getfield 45, 3) := dk_180 0 45 (dk_at dksX0_calling_1 1 rfl rfl)
theorem dX0_calling_28 : decode cX0_calling 28 = .ok (.bipush 10, 2) := dk_16 10 (dk_at dksX0_calling_1 4 rfl rfl)
theorem dX0_calling_30 : decode cX0_calling 30 = .ok (.if_icmp .lt 13, 3) := dk_161 0 13 (dk_at dksX0_calling_1 6 rfl rfl)
theorem dX0_calling_33 : decode cX0_calling 33 = .ok (.aload_n 0, 1) := dk_42 (dk_at dksX0_calling_1 9 rfl rfl)
theorem dX0_calling_34 : decode cX0_calling 34 = .ok (.iconst 5, 1) := dk_8 (dk_at dksX0_calling_1 10 rfl rfl)
theorem dX0_calling_35 : decode cX0_calling 35 = .ok (.aload_n 0, 1) := dk_42 (dk_at dksX0_calling_1 11 rfl rfl)
theorem dX0_calling_36 : decode cX0_calling 36 = .ok (.getfield 14, 3) := dk_180 0 14 (dk_at dksX0_calling_1 12 rfl rfl)
theorem dX0_calling_39 : decode cX0_calling 39 = .ok (.invokevirtual 17, 3) := dk_182 0 17 (dk_at dksX0_calling_1 15 rfl rfl)
theorem dX0_calling_42 : decode cX0_calling 42 = .ok (.athrow, 1) := dk_191 (dk_at dksX0_calling_1 18 rfl rfl)
theorem dX0_calling_43 : decode cX0_calling 43 = .ok (.aload_n 0, 1) := dk_42 (dk_at dksX0_calling_1 19 rfl rfl)
theorem dX0_calling_44 : decode cX0_calling 44 = .ok (.getfield 45, 3) := dk_180 0 45 (dk_at dksX0_calling_1 20 rfl rfl)
theorem dX0_calling_47 : decode cX0_calling 47 = .ok (.istore_n 3, 1) := dk_62 (dk_at dksX0_calling_1 23 rfl rfl)
theorem dX0_calling_48 : decode cX0_calling 48 = .ok (.aload_n 0, 1) := dk_42 (dk_at dksX0_calling_2 0 rfl rfl)
theorem dX0_calling_49 : decode cX0_calling 49 = .ok (.invokevirtual 65, 3) := dk_182 0 65 (dk_at dksX0_calling_2 1 rfl rfl)
theorem dX0_calling_52 : decode cX0_calling 52 = .ok (.aload_n 0, 1) := dk_42 (dk_at dksX0_calling_2 4 rfl rfl)
theorem dX0_calling_53 : decode cX0_calling 53 = .ok (.iload_n 1, 1) := dk_27 (dk_at dksX0_calling_2 5 rfl rfl)
theorem dX0_calling_54 : decode cX0_calling 54 = .ok (.iconst 0, 1) := dk_3 (dk_at dksX0_calling_2 6 rfl rfl)
theorem dX0_calling_55 : decode cX0_calling 55 = .ok (.iconst 1, 1) := dk_4 (dk_at dksX0_calling_2 7 rfl rfl)
theorem dX0_calling_56 : decode cX0_calling 56 = .ok (.invokevirtual 210, 3) := dk_182 0 210 (dk_at dksX0_calling_2 8 rfl rfl)
theorem dX0_calling_59 : decode cX0_calling 59 = .ok (.new 290, 3) := dk_187 1 34 (dk_at dksX0_calling_2 11 rfl rfl)
theorem dX0_calling_62 : decode cX0_calling 62 = .ok (.dup, 1) := dk_89 (dk_at dksX0_calling_2 14 rfl rfl)
theorem dX0_calling_63 : decode cX0_calling 63 = .ok (.iload_n 3, 1) := dk_29 (dk_at dksX0_calling_2 15 rfl rfl)
theorem dX0_calling_64 : decode cX0_calling 64 = .ok (.iload_n 2, 1) := dk_28 (dk_at dksX0_calling_2 16 rfl rfl)
theorem dX0_calling_65 : decode cX0_calling 65 = .ok (.invokespecial 292, 3) := dk_183 1 36 (dk_at dksX0_calling_2 17 rfl rfl)
theorem dX0_calling_68 : decode cX0_calling 68 = .ok (.areturn, 1) := dk_176 (dk_at dksX0_calling_2 20 rfl rfl)
abbrev cX0_block : ByteArray := prog_1_method_27_code
def yX0_block : MethodName := ⟨RX0, "block", "(I)LThereAndBack$Part;"⟩
def dkwX0_block_2 : List UInt8 := [182, 0, 131, 44, 176]
abbrev dktX0_block_2 : List UInt8 := dkwX0_block_2 ++ []
def dkwX0_block_1 : List UInt8 := [180, 0, 14, 182, 0, 17, 191, 42, 182, 0, 65, 42, 27, 4, 96, 182, 0, 148, 77, 42, 16, 125]
abbrev dktX0_block_1 : List UInt8 := dkwX0_block_1 ++ dktX0_block_2
def dkwX0_block_0 : List UInt8 := [42, 16, 123, 182, 0, 58, 154, 0, 8, 42, 182, 0, 61, 191, 27, 8, 160, 0, 13, 42, 5, 42]
abbrev dktX0_block_0 : List UInt8 := dkwX0_block_0 ++ dktX0_block_1
theorem dksX0_block_0 : cX0_block.data.toList.drop 0 = dktX0_block_0 := by decide +kernel
theorem dksX0_block_1 : cX0_block.data.toList.drop 22 = dktX0_block_1 := dk_seg dksX0_block_0 22 rfl rfl
theorem dksX0_block_2 : cX0_block.data.toList.drop 44 = dktX0_block_2 := dk_seg dksX0_block_1 22 rfl rfl
theorem dX0_block_0 : decode cX0_block 0 = .ok (.aload_n 0, 1) := dk_42 (dk_at dksX0_block_0 0 rfl rfl)
theorem dX0_block_1 : decode cX0_block 1 = .ok (.bipush 123, 2) := dk_16 123 (dk_at dksX0_block_0 1 rfl rfl)
theorem dX0_block_3 : decode cX0_block 3 = .ok (.invokevirtual 58, 3) := dk_182 0 58 (dk_at dksX0_block_0 3 rfl rfl)
theorem dX0_block_6 : decode cX0_block 6 = .ok (.ifCond .ne 8, 3) := dk_154 0 8 (dk_at dksX0_block_0 6 rfl rfl)
theorem dX0_block_9 : decode cX0_block 9 = .ok (.aload_n 0, 1) := dk_42 (dk_at dksX0_block_0 9 rfl rfl)
theorem dX0_block_10 : decode cX0_block 10 = .ok (.invokevirtual 61, 3) := dk_182 0 61 (dk_at dksX0_block_0 10 rfl rfl)
theorem dX0_block_13 : decode cX0_block 13 = .ok (.athrow, 1) := dk_191 (dk_at dksX0_block_0 13 rfl rfl)
theorem dX0_block_14 : decode cX0_block 14 = .ok (.iload_n 1, 1) := dk_27 (dk_at dksX0_block_0 14 rfl rfl)
theorem dX0_block_15 : decode cX0_block 15 = .ok (.iconst 5, 1) := dk_8 (dk_at dksX0_block_0 15 rfl rfl)
theorem dX0_block_16 : decode cX0_block 16 = .ok (.if_icmp .ne 13, 3) := dk_160 0 13 (dk_at dksX0_block_0 16 rfl rfl)
theorem dX0_block_19 : decode cX0_block 19 = .ok (.aload_n 0, 1) := dk_42 (dk_at dksX0_block_0 19 rfl rfl)
theorem dX0_block_20 : decode cX0_block 20 = .ok (.iconst 2, 1) := dk_5 (dk_at dksX0_block_0 20 rfl rfl)
theorem dX0_block_21 : decode cX0_block 21 = .ok (.aload_n 0, 1) := dk_42 (dk_at dksX0_block_0 21 rfl rfl)
theorem dX0_block_22 : decode cX0_block 22 = .ok (.getfield 14, 3) := dk_180 0 14 (dk_at dksX0_block_1 0 rfl rfl)
theorem dX0_block_25 : decode cX0_block 25 = .ok (.invokevirtual 17, 3) := dk_182 0 17 (dk_at dksX0_block_1 3 rfl rfl)
theorem dX0_block_28 : decode cX0_block 28 = .ok (.athrow, 1) := dk_191 (dk_at dksX0_block_1 6 rfl rfl)
theorem dX0_block_29 : decode cX0_block 29 = .ok (.aload_n 0, 1) := dk_42 (dk_at dksX0_block_1 7 rfl rfl)
theorem dX0_block_30 : decode cX0_block 30 = .ok (.invokevirtual 65, 3) := dk_182 0 65 (dk_at dksX0_block_1 8 rfl rfl)
theorem dX0_block_33 : decode cX0_block 33 = .ok (.aload_n 0, 1) := dk_42 (dk_at dksX0_block_1 11 rfl rfl)
theorem dX0_block_34 : decode cX0_block 34 = .ok (.iload_n 1, 1) := dk_27 (dk_at dksX0_block_1 12 rfl rfl)
theorem dX0_block_35 : decode cX0_block 35 = .ok (.iconst 1, 1) := dk_4 (dk_at dksX0_block_1 13 rfl rfl)
theorem dX0_block_36 : decode cX0_block 36 = .ok (.iadd, 1) := dk_96 (dk_at dksX0_block_1 14 rfl rfl)
theorem dX0_block_37 : decode cX0_block 37 = .ok (.invokevirtual 148, 3) := dk_182 0 148 (dk_at dksX0_block_1 15 rfl rfl)
theorem dX0_block_40 : decode cX0_block 40 = .ok (.astore_n 2, 1) := dk_77 (dk_at dksX0_block_1 18 rfl rfl)
theorem dX0_block_41 : decode cX0_block 41 = .ok (.aload_n 0, 1) := dk_42 (dk_at dksX0_block_1 19 rfl rfl)
theorem dX0_block_42 : decode cX0_block 42 = .ok (.bipush 125, 2) := dk_16 125 (dk_at dksX0_block_1 20 rfl rfl)
theorem dX0_block_44 : decode cX0_block 44 = .ok (.invokevirtual 131, 3) := dk_182 0 131 (dk_at dksX0_block_2 0 rfl rfl)
theorem dX0_block_47 : decode cX0_block 47 = .ok (.aload_n 2, 1) := dk_44 (dk_at dksX0_block_2 3 rfl rfl)
theorem dX0_block_48 : decode cX0_block 48 = .ok (.areturn, 1) := dk_176 (dk_at dksX0_block_2 4 rfl rfl)
abbrev cX0_word : ByteArray := prog_1_method_16_code
def yX0_word : MethodName := ⟨RX0, "word", "(Ljava/lang/String;)V"⟩
def dkwX0_word_0 : List UInt8 := [42, 43, 182, 0, 69, 154, 0, 8, 42, 182, 0, 61, 191, 42, 182, 0, 65, 177]
abbrev dktX0_word_0 : List UInt8 := dkwX0_word_0 ++ []
theorem dksX0_word_0 : cX0_word.data.toList.drop 0 = dktX0_word_0 := by decide +kernel
theorem dX0_word_0 : decode cX0_word 0 = .ok (.aload_n 0, 1) := dk_42 (dk_at dksX0_word_0 0 rfl rfl)
theorem dX0_word_1 : decode cX0_word 1 = .ok (.aload_n 1, 1) := dk_43 (dk_at dksX0_word_0 1 rfl rfl)
theorem dX0_word_2 : decode cX0_word 2 = .ok (.invokevirtual 69, 3) := dk_182 0 69 (dk_at dksX0_word_0 2 rfl rfl)
theorem dX0_word_5 : decode cX0_word 5 = .ok (.ifCond .ne 8, 3) := dk_154 0 8 (dk_at dksX0_word_0 5 rfl rfl)
theorem dX0_word_8 : decode cX0_word 8 = .ok (.aload_n 0, 1) := dk_42 (dk_at dksX0_word_0 8 rfl rfl)
theorem dX0_word_9 : decode cX0_word 9 = .ok (.invokevirtual 61, 3) := dk_182 0 61 (dk_at dksX0_word_0 9 rfl rfl)
theorem dX0_word_12 : decode cX0_word 12 = .ok (.athrow, 1) := dk_191 (dk_at dksX0_word_0 12 rfl rfl)
theorem dX0_word_13 : decode cX0_word 13 = .ok (.aload_n 0, 1) := dk_42 (dk_at dksX0_word_0 13 rfl rfl)
theorem dX0_word_14 : decode cX0_word 14 = .ok (.invokevirtual 65, 3) := dk_182 0 65 (dk_at dksX0_word_0 14 rfl rfl)
theorem dX0_word_17 : decode cX0_word 17 = .ok (.return_, 1) := dk_177 (dk_at dksX0_word_0 17 rfl rfl)
abbrev cX0_testing : ByteArray := prog_1_method_31_code
def yX0_testing : MethodName := ⟨RX0, "testing", "(II)LThereAndBack$Step;"⟩
def dkwX0_testing_3 : List UInt8 := [89, 25, 4, 25, 5, 25, 6, 183, 1, 3, 176]
abbrev dktX0_testing_3 : List UInt8 := dkwX0_testing_3 ++ []
def dkwX0_testing_2 : List UInt8 := [176, 42, 18, 228, 182, 0, 230, 42, 28, 182, 0, 225, 58, 6, 42, 27, 3, 6, 182, 0, 210, 187, 1, 1]
abbrev dktX0_testing_2 : List UInt8 := dkwX0_testing_2 ++ dktX0_testing_3
def dkwX0_testing_1 : List UInt8 := [58, 5, 29, 153, 0, 22, 42, 27, 3, 5, 182, 0, 210, 187, 0, 252, 89, 25, 4, 25, 5, 183, 0, 254]
abbrev dktX0_testing_1 : List UInt8 := dkwX0_testing_1 ++ dktX0_testing_2
def dkwX0_testing_0 : List UInt8 := [42, 18, 161, 182, 0, 69, 62, 42, 182, 0, 65, 42, 3, 182, 0, 125, 58, 4, 42, 28, 182, 0, 225]
abbrev dktX0_testing_0 : List UInt8 := dkwX0_testing_0 ++ dktX0_testing_1
theorem dksX0_testing_0 : cX0_testing.data.toList.drop 0 = dktX0_testing_0 := by decide +kernel
theorem dksX0_testing_1 : cX0_testing.data.toList.drop 23 = dktX0_testing_1 := dk_seg dksX0_testing_0 23 rfl rfl
theorem dksX0_testing_2 : cX0_testing.data.toList.drop 47 = dktX0_testing_2 := dk_seg dksX0_testing_1 24 rfl rfl
theorem dksX0_testing_3 : cX0_testing.data.toList.drop 71 = dktX0_testing_3 := dk_seg dksX0_testing_2 24 rfl rfl
theorem dX0_testing_0 : decode cX0_testing 0 = .ok (.aload_n 0, 1) := dk_42 (dk_at dksX0_testing_0 0 rfl rfl)
theorem dX0_testing_1 : decode cX0_testing 1 = .ok (.ldc 161, 2) := dk_18 161 (dk_at dksX0_testing_0 1 rfl rfl)
theorem dX0_testing_3 : decode cX0_testing 3 = .ok (.invokevirtual 69, 3) := dk_182 0 69 (dk_at dksX0_testing_0 3 rfl rfl)
theorem dX0_testing_6 : decode cX0_testing 6 = .ok (.istore_n 3, 1) := dk_62 (dk_at dksX0_testing_0 6 rfl rfl)
theorem dX0_testing_7 : decode cX0_testing 7 = .ok (.aload_n 0, 1) := dk_42 (dk_at dksX0_testing_0 7 rfl rfl)
theorem dX0_testing_8 : decode cX0_testing 8 = .ok (.invokevirtual 65, 3) := dk_182 0 65 (dk_at dksX0_testing_0 8 rfl rfl)
theorem dX0_testing_11 : decode cX0_testing 11 = .ok (.aload_n 0, 1) := dk_42 (dk_at dksX0_testing_0 11 rfl rfl)
theorem dX0_testing_12 : decode cX0_testing 12 = .ok (.iconst 0, 1) := dk_3 (dk_at dksX0_testing_0 12 rfl rfl)
theorem dX0_testing_13 : decode cX0_testing 13 = .ok (.invokevirtual 125, 3) := dk_182 0 125 (dk_at dksX0_testing_0 13 rfl rfl)
theorem dX0_testing_16 : decode cX0_testing 16 = .ok (.astore 4, 2) := dk_58 4 (dk_at dksX0_testing_0 16 rfl rfl)
theorem dX0_testing_18 : decode cX0_testing 18 = .ok (.aload_n 0, 1) := dk_42 (dk_at dksX0_testing_0 18 rfl rfl)
theorem dX0_testing_19 : decode cX0_testing 19 = .ok (.iload_n 2, 1) := dk_28 (dk_at dksX0_testing_0 19 rfl rfl)
theorem dX0_testing_20 : decode cX0_testing 20 = .ok (.invokevirtual 225, 3) := dk_182 0 225 (dk_at dksX0_testing_0 20 rfl rfl)
theorem dX0_testing_23 : decode cX0_testing 23 = .ok (.astore 5, 2) := dk_58 5 (dk_at dksX0_testing_1 0 rfl rfl)
theorem dX0_testing_25 : decode cX0_testing 25 = .ok (.iload_n 3, 1) := dk_29 (dk_at dksX0_testing_1 2 rfl rfl)
theorem dX0_testing_26 : decode cX0_testing 26 = .ok (.ifCond .eq 22, 3) := dk_153 0 22 (dk_at dksX0_testing_1 3 rfl rfl)
theorem dX0_testing_29 : decode cX0_testing 29 = .ok (.aload_n 0, 1) := dk_42 (dk_at dksX0_testing_1 6 rfl rfl)
theorem dX0_testing_30 : decode cX0_testing 30 = .ok (.iload_n 1, 1) := dk_27 (dk_at dksX0_testing_1 7 rfl rfl)
theorem dX0_testing_31 : decode cX0_testing 31 = .ok (.iconst 0, 1) := dk_3 (dk_at dksX0_testing_1 8 rfl rfl)
theorem dX0_testing_32 : decode cX0_testing 32 = .ok (.iconst 2, 1) := dk_5 (dk_at dksX0_testing_1 9 rfl rfl)
theorem dX0_testing_33 : decode cX0_testing 33 = .ok (.invokevirtual 210, 3) := dk_182 0 210 (dk_at dksX0_testing_1 10 rfl rfl)
theorem dX0_testing_36 : decode cX0_testing 36 = .ok (.new 252, 3) := dk_187 0 252 (dk_at dksX0_testing_1 13 rfl rfl)
theorem dX0_testing_39 : decode cX0_testing 39 = .ok (.dup, 1) := dk_89 (dk_at dksX0_testing_1 16 rfl rfl)
theorem dX0_testing_40 : decode cX0_testing 40 = .ok (.aload 4, 2) := dk_25 4 (dk_at dksX0_testing_1 17 rfl rfl)
theorem dX0_testing_42 : decode cX0_testing 42 = .ok (.aload 5, 2) := dk_25 5 (dk_at dksX0_testing_1 19 rfl rfl)
theorem dX0_testing_44 : decode cX0_testing 44 = .ok (.invokespecial 254, 3) := dk_183 0 254 (dk_at dksX0_testing_1 21 rfl rfl)
theorem dX0_testing_47 : decode cX0_testing 47 = .ok (.areturn, 1) := dk_176 (dk_at dksX0_testing_2 0 rfl rfl)
theorem dX0_testing_48 : decode cX0_testing 48 = .ok (.aload_n 0, 1) := dk_42 (dk_at dksX0_testing_2 1 rfl rfl)
theorem dX0_testing_49 : decode cX0_testing 49 = .ok (.ldc 228, 2) := dk_18 228 (dk_at dksX0_testing_2 2 rfl rfl)
theorem dX0_testing_51 : decode cX0_testing 51 = .ok (.invokevirtual 230, 3) := dk_182 0 230 (dk_at dksX0_testing_2 4 rfl rfl)
theorem dX0_testing_54 : decode cX0_testing 54 = .ok (.aload_n 0, 1) := dk_42 (dk_at dksX0_testing_2 7 rfl rfl)
theorem dX0_testing_55 : decode cX0_testing 55 = .ok (.iload_n 2, 1) := dk_28 (dk_at dksX0_testing_2 8 rfl rfl)
theorem dX0_testing_56 : decode cX0_testing 56 = .ok (.invokevirtual 225, 3) := dk_182 0 225 (dk_at dksX0_testing_2 9 rfl rfl)
theorem dX0_testing_59 : decode cX0_testing 59 = .ok (.astore 6, 2) := dk_58 6 (dk_at dksX0_testing_2 12 rfl rfl)
theorem dX0_testing_61 : decode cX0_testing 61 = .ok (.aload_n 0, 1) := dk_42 (dk_at dksX0_testing_2 14 rfl rfl)
theorem dX0_testing_62 : decode cX0_testing 62 = .ok (.iload_n 1, 1) := dk_27 (dk_at dksX0_testing_2 15 rfl rfl)
theorem dX0_testing_63 : decode cX0_testing 63 = .ok (.iconst 0, 1) := dk_3 (dk_at dksX0_testing_2 16 rfl rfl)
theorem dX0_testing_64 : decode cX0_testing 64 = .ok (.iconst 3, 1) := dk_6 (dk_at dksX0_testing_2 17 rfl rfl)
theorem dX0_testing_65 : decode cX0_testing 65 = .ok (.invokevirtual 210, 3) := dk_182 0 210 (dk_at dksX0_testing_2 18 rfl rfl)
theorem dX0_testing_68 : decode cX0_testing 68 = .ok (.new 257, 3) := dk_187 1 1 (dk_at dksX0_testing_2 21 rfl rfl)
theorem dX0_testing_71 : decode cX0_testing 71 = .ok (.dup, 1) := dk_89 (dk_at dksX0_testing_3 0 rfl rfl)
theorem dX0_testing_72 : decode cX0_testing 72 = .ok (.aload 4, 2) := dk_25 4 (dk_at dksX0_testing_3 1 rfl rfl)
theorem dX0_testing_74 : decode cX0_testing 74 = .ok (.aload 5, 2) := dk_25 5 (dk_at dksX0_testing_3 3 rfl rfl)
theorem dX0_testing_76 : decode cX0_testing 76 = .ok (.aload 6, 2) := dk_25 6 (dk_at dksX0_testing_3 5 rfl rfl)
theorem dX0_testing_78 : decode cX0_testing 78 = .ok (.invokespecial 259, 3) := dk_183 1 3 (dk_at dksX0_testing_3 7 rfl rfl)
theorem dX0_testing_81 : decode cX0_testing 81 = .ok (.areturn, 1) := dk_176 (dk_at dksX0_testing_3 10 rfl rfl)
abbrev cX0_keep : ByteArray := prog_1_method_47_code
def yX0_keep : MethodName := ⟨RX0, "keep", "(LThereAndBack$Part;I)I"⟩
def dkwX0_keep_1 : List UInt8 := [181, 1, 119, 43, 199, 0, 7, 3, 167, 0, 7, 43, 182, 1, 194, 172]
abbrev dktX0_keep_1 : List UInt8 := dkwX0_keep_1 ++ []
def dkwX0_keep_0 : List UInt8 := [42, 180, 1, 92, 28, 43, 199, 0, 7, 1, 167, 0, 11, 187, 1, 90, 89, 43, 183, 1, 191, 83, 42, 2]
abbrev dktX0_keep_0 : List UInt8 := dkwX0_keep_0 ++ dktX0_keep_1
theorem dksX0_keep_0 : cX0_keep.data.toList.drop 0 = dktX0_keep_0 := by decide +kernel
theorem dksX0_keep_1 : cX0_keep.data.toList.drop 24 = dktX0_keep_1 := dk_seg dksX0_keep_0 24 rfl rfl
theorem dX0_keep_0 : decode cX0_keep 0 = .ok (.aload_n 0, 1) := dk_42 (dk_at dksX0_keep_0 0 rfl rfl)
theorem dX0_keep_1 : decode cX0_keep 1 = .ok (.getfield 348, 3) := dk_180 1 92 (dk_at dksX0_keep_0 1 rfl rfl)
theorem dX0_keep_4 : decode cX0_keep 4 = .ok (.iload_n 2, 1) := dk_28 (dk_at dksX0_keep_0 4 rfl rfl)
theorem dX0_keep_5 : decode cX0_keep 5 = .ok (.aload_n 1, 1) := dk_43 (dk_at dksX0_keep_0 5 rfl rfl)
theorem dX0_keep_6 : decode cX0_keep 6 = .ok (.ifnonnull 7, 3) := dk_199 0 7 (dk_at dksX0_keep_0 6 rfl rfl)
theorem dX0_keep_9 : decode cX0_keep 9 = .ok (.aconst_null, 1) := dk_1 (dk_at dksX0_keep_0 9 rfl rfl)
theorem dX0_keep_10 : decode cX0_keep 10 = .ok (.goto 11, 3) := dk_167 0 11 (dk_at dksX0_keep_0 10 rfl rfl)
theorem dX0_keep_13 : decode cX0_keep 13 = .ok (.new 346, 3) := dk_187 1 90 (dk_at dksX0_keep_0 13 rfl rfl)
theorem dX0_keep_16 : decode cX0_keep 16 = .ok (.dup, 1) := dk_89 (dk_at dksX0_keep_0 16 rfl rfl)
theorem dX0_keep_17 : decode cX0_keep 17 = .ok (.aload_n 1, 1) := dk_43 (dk_at dksX0_keep_0 17 rfl rfl)
theorem dX0_keep_18 : decode cX0_keep 18 = .ok (.invokespecial 447, 3) := dk_183 1 191 (dk_at dksX0_keep_0 18 rfl rfl)
theorem dX0_keep_21 : decode cX0_keep 21 = .ok (.aastore, 1) := dk_83 (dk_at dksX0_keep_0 21 rfl rfl)
theorem dX0_keep_22 : decode cX0_keep 22 = .ok (.aload_n 0, 1) := dk_42 (dk_at dksX0_keep_0 22 rfl rfl)
theorem dX0_keep_23 : decode cX0_keep 23 = .ok (.iconst (-1), 1) := dk_2 (dk_at dksX0_keep_0 23 rfl rfl)
theorem dX0_keep_24 : decode cX0_keep 24 = .ok (.putfield 375, 3) := dk_181 1 119 (dk_at dksX0_keep_1 0 rfl rfl)
theorem dX0_keep_27 : decode cX0_keep 27 = .ok (.aload_n 1, 1) := dk_43 (dk_at dksX0_keep_1 3 rfl rfl)
theorem dX0_keep_28 : decode cX0_keep 28 = .ok (.ifnonnull 7, 3) := dk_199 0 7 (dk_at dksX0_keep_1 4 rfl rfl)
theorem dX0_keep_31 : decode cX0_keep 31 = .ok (.iconst 0, 1) := dk_3 (dk_at dksX0_keep_1 7 rfl rfl)
theorem dX0_keep_32 : decode cX0_keep 32 = .ok (.goto 7, 3) := dk_167 0 7 (dk_at dksX0_keep_1 8 rfl rfl)
theorem dX0_keep_35 : decode cX0_keep 35 = .ok (.aload_n 1, 1) := dk_43 (dk_at dksX0_keep_1 11 rfl rfl)
theorem dX0_keep_36 : decode cX0_keep 36 = .ok (.invokevirtual 450, 3) := dk_182 1 194 (dk_at dksX0_keep_1 12 rfl rfl)
theorem dX0_keep_39 : decode cX0_keep 39 = .ok (.ireturn, 1) := dk_172 (dk_at dksX0_keep_1 15 rfl rfl)
abbrev cX0_fault : ByteArray := prog_1_method_50_code
def yX0_fault : MethodName := ⟨RX0, "fault", "(I)I"⟩
def dkwX0_fault_1 : List UInt8 := [172]
abbrev dktX0_fault_1 : List UInt8 := dkwX0_fault_1 ++ []
def dkwX0_fault_0 : List UInt8 := [27, 154, 0, 10, 42, 180, 0, 1, 167, 0, 16, 27, 4, 160, 0, 10, 42, 180, 0, 7, 167, 0, 4, 2]
abbrev dktX0_fault_0 : List UInt8 := dkwX0_fault_0 ++ dktX0_fault_1
theorem dksX0_fault_0 : cX0_fault.data.toList.drop 0 = dktX0_fault_0 := by decide +kernel
theorem dksX0_fault_1 : cX0_fault.data.toList.drop 24 = dktX0_fault_1 := dk_seg dksX0_fault_0 24 rfl rfl
theorem dX0_fault_0 : decode cX0_fault 0 = .ok (.iload_n 1, 1) := dk_27 (dk_at dksX0_fault_0 0 rfl rfl)
theorem dX0_fault_1 : decode cX0_fault 1 = .ok (.ifCond .ne 10, 3) := dk_154 0 10 (dk_at dksX0_fault_0 1 rfl rfl)
theorem dX0_fault_4 : decode cX0_fault 4 = .ok (.aload_n 0, 1) := dk_42 (dk_at dksX0_fault_0 4 rfl rfl)
theorem dX0_fault_5 : decode cX0_fault 5 = .ok (.getfield 1, 3) := dk_180 0 1 (dk_at dksX0_fault_0 5 rfl rfl)
theorem dX0_fault_8 : decode cX0_fault 8 = .ok (.goto 16, 3) := dk_167 0 16 (dk_at dksX0_fault_0 8 rfl rfl)
theorem dX0_fault_11 : decode cX0_fault 11 = .ok (.iload_n 1, 1) := dk_27 (dk_at dksX0_fault_0 11 rfl rfl)
theorem dX0_fault_12 : decode cX0_fault 12 = .ok (.iconst 1, 1) := dk_4 (dk_at dksX0_fault_0 12 rfl rfl)
theorem dX0_fault_13 : decode cX0_fault 13 = .ok (.if_icmp .ne 10, 3) := dk_160 0 10 (dk_at dksX0_fault_0 13 rfl rfl)
theorem dX0_fault_16 : decode cX0_fault 16 = .ok (.aload_n 0, 1) := dk_42 (dk_at dksX0_fault_0 16 rfl rfl)
theorem dX0_fault_17 : decode cX0_fault 17 = .ok (.getfield 7, 3) := dk_180 0 7 (dk_at dksX0_fault_0 17 rfl rfl)
theorem dX0_fault_20 : decode cX0_fault 20 = .ok (.goto 4, 3) := dk_167 0 4 (dk_at dksX0_fault_0 20 rfl rfl)
theorem dX0_fault_23 : decode cX0_fault 23 = .ok (.iconst (-1), 1) := dk_2 (dk_at dksX0_fault_0 23 rfl rfl)
theorem dX0_fault_24 : decode cX0_fault 24 = .ok (.ireturn, 1) := dk_172 (dk_at dksX0_fault_1 0 rfl rfl)
abbrev cX0_drop : ByteArray := prog_1_method_51_code
def yX0_drop : MethodName := ⟨RX0, "drop", "(I)I"⟩
def dkwX0_drop_1 : List UInt8 := [62, 42, 1, 27, 182, 1, 205, 87, 29, 172]
abbrev dktX0_drop_1 : List UInt8 := dkwX0_drop_1 ++ []
def dkwX0_drop_0 : List UInt8 := [42, 27, 182, 1, 209, 61, 28, 156, 0, 5, 28, 172, 42, 180, 1, 92, 27, 50, 180, 1, 212, 182, 1, 194]
abbrev dktX0_drop_0 : List UInt8 := dkwX0_drop_0 ++ dktX0_drop_1
theorem dksX0_drop_0 : cX0_drop.data.toList.drop 0 = dktX0_drop_0 := by decide +kernel
theorem dksX0_drop_1 : cX0_drop.data.toList.drop 24 = dktX0_drop_1 := dk_seg dksX0_drop_0 24 rfl rfl
theorem dX0_drop_0 : decode cX0_drop 0 = .ok (.aload_n 0, 1) := dk_42 (dk_at dksX0_drop_0 0 rfl rfl)
theorem dX0_drop_1 : decode cX0_drop 1 = .ok (.iload_n 1, 1) := dk_27 (dk_at dksX0_drop_0 1 rfl rfl)
theorem dX0_drop_2 : decode cX0_drop 2 = .ok (.invokevirtual 465, 3) := dk_182 1 209 (dk_at dksX0_drop_0 2 rfl rfl)
theorem dX0_drop_5 : decode cX0_drop 5 = .ok (.istore_n 2, 1) := dk_61 (dk_at dksX0_drop_0 5 rfl rfl)
theorem dX0_drop_6 : decode cX0_drop 6 = .ok (.iload_n 2, 1) := dk_28 (dk_at dksX0_drop_0 6 rfl rfl)
theorem dX0_drop_7 : decode cX0_drop 7 = .ok (.ifCond .ge 5, 3) := dk_156 0 5 (dk_at dksX0_drop_0 7 rfl rfl)
theorem dX0_drop_10 : decode cX0_drop 10 = .ok (.iload_n 2, 1) := dk_28 (dk_at dksX0_drop_0 10 rfl rfl)
theorem dX0_drop_11 : decode cX0_drop 11 = .ok (.ireturn, 1) := dk_172 (dk_at dksX0_drop_0 11 rfl rfl)
theorem dX0_drop_12 : decode cX0_drop 12 = .ok (.aload_n 0, 1) := dk_42 (dk_at dksX0_drop_0 12 rfl rfl)
theorem dX0_drop_13 : decode cX0_drop 13 = .ok (.getfield 348, 3) := dk_180 1 92 (dk_at dksX0_drop_0 13 rfl rfl)
theorem dX0_drop_16 : decode cX0_drop 16 = .ok (.iload_n 1, 1) := dk_27 (dk_at dksX0_drop_0 16 rfl rfl)
theorem dX0_drop_17 : decode cX0_drop 17 = .ok (.aaload, 1) := dk_50 (dk_at dksX0_drop_0 17 rfl rfl)
theorem dX0_drop_18 : decode cX0_drop 18 = .ok (.getfield 468, 3) := dk_180 1 212 (dk_at dksX0_drop_0 18 rfl rfl)
theorem dX0_drop_21 : decode cX0_drop 21 = .ok (.invokevirtual 450, 3) := dk_182 1 194 (dk_at dksX0_drop_0 21 rfl rfl)
theorem dX0_drop_24 : decode cX0_drop 24 = .ok (.istore_n 3, 1) := dk_62 (dk_at dksX0_drop_1 0 rfl rfl)
theorem dX0_drop_25 : decode cX0_drop 25 = .ok (.aload_n 0, 1) := dk_42 (dk_at dksX0_drop_1 1 rfl rfl)
theorem dX0_drop_26 : decode cX0_drop 26 = .ok (.aconst_null, 1) := dk_1 (dk_at dksX0_drop_1 2 rfl rfl)
theorem dX0_drop_27 : decode cX0_drop 27 = .ok (.iload_n 1, 1) := dk_27 (dk_at dksX0_drop_1 3 rfl rfl)
theorem dX0_drop_28 : decode cX0_drop 28 = .ok (.invokevirtual 461, 3) := dk_182 1 205 (dk_at dksX0_drop_1 4 rfl rfl)
theorem dX0_drop_31 : decode cX0_drop 31 = .ok (.pop, 1) := dk_87 (dk_at dksX0_drop_1 7 rfl rfl)
theorem dX0_drop_32 : decode cX0_drop 32 = .ok (.iload_n 3, 1) := dk_29 (dk_at dksX0_drop_1 8 rfl rfl)
theorem dX0_drop_33 : decode cX0_drop 33 = .ok (.ireturn, 1) := dk_172 (dk_at dksX0_drop_1 9 rfl rfl)
abbrev cX0_lacks : ByteArray := prog_1_method_46_code
def yX0_lacks : MethodName := ⟨RX0, "lacks", "(I)I"⟩
def dkwX0_lacks_1 : List UInt8 := [167, 0, 4, 3, 172]
abbrev dktX0_lacks_1 : List UInt8 := dkwX0_lacks_1 ++ []
def dkwX0_lacks_0 : List UInt8 := [27, 184, 1, 188, 154, 0, 7, 2, 167, 0, 18, 42, 180, 1, 92, 27, 50, 199, 0, 8, 16, 254]
abbrev dktX0_lacks_0 : List UInt8 := dkwX0_lacks_0 ++ dktX0_lacks_1
theorem dksX0_lacks_0 : cX0_lacks.data.toList.drop 0 = dktX0_lacks_0 := by decide +kernel
theorem dksX0_lacks_1 : cX0_lacks.data.toList.drop 22 = dktX0_lacks_1 := dk_seg dksX0_lacks_0 22 rfl rfl
theorem dX0_lacks_0 : decode cX0_lacks 0 = .ok (.iload_n 1, 1) := dk_27 (dk_at dksX0_lacks_0 0 rfl rfl)
theorem dX0_lacks_1 : decode cX0_lacks 1 = .ok (.invokestatic 444, 3) := dk_184 1 188 (dk_at dksX0_lacks_0 1 rfl rfl)
theorem dX0_lacks_4 : decode cX0_lacks 4 = .ok (.ifCond .ne 7, 3) := dk_154 0 7 (dk_at dksX0_lacks_0 4 rfl rfl)
theorem dX0_lacks_7 : decode cX0_lacks 7 = .ok (.iconst (-1), 1) := dk_2 (dk_at dksX0_lacks_0 7 rfl rfl)
theorem dX0_lacks_8 : decode cX0_lacks 8 = .ok (.goto 18, 3) := dk_167 0 18 (dk_at dksX0_lacks_0 8 rfl rfl)
theorem dX0_lacks_11 : decode cX0_lacks 11 = .ok (.aload_n 0, 1) := dk_42 (dk_at dksX0_lacks_0 11 rfl rfl)
theorem dX0_lacks_12 : decode cX0_lacks 12 = .ok (.getfield 348, 3) := dk_180 1 92 (dk_at dksX0_lacks_0 12 rfl rfl)
theorem dX0_lacks_15 : decode cX0_lacks 15 = .ok (.iload_n 1, 1) := dk_27 (dk_at dksX0_lacks_0 15 rfl rfl)
theorem dX0_lacks_16 : decode cX0_lacks 16 = .ok (.aaload, 1) := dk_50 (dk_at dksX0_lacks_0 16 rfl rfl)
theorem dX0_lacks_17 : decode cX0_lacks 17 = .ok (.ifnonnull 8, 3) := dk_199 0 8 (dk_at dksX0_lacks_0 17 rfl rfl)
theorem dX0_lacks_20 : decode cX0_lacks 20 = .ok (.bipush (-2), 2) := dk_16 254 (dk_at dksX0_lacks_0 20 rfl rfl)
theorem dX0_lacks_22 : decode cX0_lacks 22 = .ok (.goto 4, 3) := dk_167 0 4 (dk_at dksX0_lacks_1 0 rfl rfl)
theorem dX0_lacks_25 : decode cX0_lacks 25 = .ok (.iconst 0, 1) := dk_3 (dk_at dksX0_lacks_1 3 rfl rfl)
theorem dX0_lacks_26 : decode cX0_lacks 26 = .ok (.ireturn, 1) := dk_172 (dk_at dksX0_lacks_1 4 rfl rfl)
abbrev cX0_told : ByteArray := prog_1_method_52_code
def yX0_told : MethodName := ⟨RX0, "told", "(II)I"⟩
def dkwX0_told_5 : List UInt8 := [182, 1, 225, 172]
abbrev dktX0_told_5 : List UInt8 := dkwX0_told_5 ++ []
def dkwX0_told_4 : List UInt8 := [182, 1, 219, 153, 0, 7, 4, 167, 0, 4, 3, 172, 45, 180, 1, 212, 182, 1, 222, 172, 45, 180, 1, 212]
abbrev dktX0_told_4 : List UInt8 := dkwX0_told_4 ++ dktX0_told_5
def dkwX0_told_3 : List UInt8 := [45, 180, 1, 212, 182, 1, 194, 172, 45, 180, 1, 212, 180, 0, 168, 185, 1, 218, 1, 0, 172, 45]
abbrev dktX0_told_3 : List UInt8 := dkwX0_told_3 ++ dktX0_told_4
def dkwX0_told_2 : List UInt8 := [170, 0, 0, 0, 0, 0, 0, 74, 0, 0, 0, 0, 0, 0, 0, 3, 0, 0, 0, 32, 0, 0, 0, 40, 0, 0, 0, 53, 0, 0, 0, 66]
abbrev dktX0_told_2 : List UInt8 := dkwX0_told_2 ++ dktX0_told_3
def dkwX0_told_1 : List UInt8 := [180, 1, 92, 27, 50, 78, 45, 199, 0, 6, 16, 254, 172, 28]
abbrev dktX0_told_1 : List UInt8 := dkwX0_told_1 ++ dktX0_told_2
def dkwX0_told_0 : List UInt8 := [27, 184, 1, 188, 153, 0, 15, 28, 133, 9, 20, 1, 216, 184, 1, 168, 154, 0, 5, 2, 172, 42]
abbrev dktX0_told_0 : List UInt8 := dkwX0_told_0 ++ dktX0_told_1
theorem dksX0_told_0 : cX0_told.data.toList.drop 0 = dktX0_told_0 := by decide +kernel
theorem dksX0_told_1 : cX0_told.data.toList.drop 22 = dktX0_told_1 := dk_seg dksX0_told_0 22 rfl rfl
theorem dksX0_told_2 : cX0_told.data.toList.drop 36 = dktX0_told_2 := dk_seg dksX0_told_1 14 rfl rfl
theorem dksX0_told_3 : cX0_told.data.toList.drop 68 = dktX0_told_3 := dk_seg dksX0_told_2 32 rfl rfl
theorem dksX0_told_4 : cX0_told.data.toList.drop 90 = dktX0_told_4 := dk_seg dksX0_told_3 22 rfl rfl
theorem dksX0_told_5 : cX0_told.data.toList.drop 114 = dktX0_told_5 := dk_seg dksX0_told_4 24 rfl rfl
theorem dX0_told_0 : decode cX0_told 0 = .ok (.iload_n 1, 1) := dk_27 (dk_at dksX0_told_0 0 rfl rfl)
theorem dX0_told_1 : decode cX0_told 1 = .ok (.invokestatic 444, 3) := dk_184 1 188 (dk_at dksX0_told_0 1 rfl rfl)
theorem dX0_told_4 : decode cX0_told 4 = .ok (.ifCond .eq 15, 3) := dk_153 0 15 (dk_at dksX0_told_0 4 rfl rfl)
theorem dX0_told_7 : decode cX0_told 7 = .ok (.iload_n 2, 1) := dk_28 (dk_at dksX0_told_0 7 rfl rfl)
theorem dX0_told_8 : decode cX0_told 8 = .ok (.i2l, 1) := dk_133 (dk_at dksX0_told_0 8 rfl rfl)
theorem dX0_told_9 : decode cX0_told 9 = .ok (.lconst 0, 1) := dk_9 (dk_at dksX0_told_0 9 rfl rfl)
theorem dX0_told_10 : decode cX0_told 10 = .ok (.ldc2_w 472, 3) := dk_20 1 216 (dk_at dksX0_told_0 10 rfl rfl)
theorem dX0_told_13 : decode cX0_told 13 = .ok (.invokestatic 424, 3) := dk_184 1 168 (dk_at dksX0_told_0 13 rfl rfl)
theorem dX0_told_16 : decode cX0_told 16 = .ok (.ifCond .ne 5, 3) := dk_154 0 5 (dk_at dksX0_told_0 16 rfl rfl)
theorem dX0_told_19 : decode cX0_told 19 = .ok (.iconst (-1), 1) := dk_2 (dk_at dksX0_told_0 19 rfl rfl)
theorem dX0_told_20 : decode cX0_told 20 = .ok (.ireturn, 1) := dk_172 (dk_at dksX0_told_0 20 rfl rfl)
theorem dX0_told_21 : decode cX0_told 21 = .ok (.aload_n 0, 1) := dk_42 (dk_at dksX0_told_0 21 rfl rfl)
theorem dX0_told_22 : decode cX0_told 22 = .ok (.getfield 348, 3) := dk_180 1 92 (dk_at dksX0_told_1 0 rfl rfl)
theorem dX0_told_25 : decode cX0_told 25 = .ok (.iload_n 1, 1) := dk_27 (dk_at dksX0_told_1 3 rfl rfl)
theorem dX0_told_26 : decode cX0_told 26 = .ok (.aaload, 1) := dk_50 (dk_at dksX0_told_1 4 rfl rfl)
theorem dX0_told_27 : decode cX0_told 27 = .ok (.astore_n 3, 1) := dk_78 (dk_at dksX0_told_1 5 rfl rfl)
theorem dX0_told_28 : decode cX0_told 28 = .ok (.aload_n 3, 1) := dk_45 (dk_at dksX0_told_1 6 rfl rfl)
theorem dX0_told_29 : decode cX0_told 29 = .ok (.ifnonnull 6, 3) := dk_199 0 6 (dk_at dksX0_told_1 7 rfl rfl)
theorem dX0_told_32 : decode cX0_told 32 = .ok (.bipush (-2), 2) := dk_16 254 (dk_at dksX0_told_1 10 rfl rfl)
theorem dX0_told_34 : decode cX0_told 34 = .ok (.ireturn, 1) := dk_172 (dk_at dksX0_told_1 12 rfl rfl)
theorem dX0_told_35 : decode cX0_told 35 = .ok (.iload_n 2, 1) := dk_28 (dk_at dksX0_told_1 13 rfl rfl)
theorem dX0_told_36 : decode cX0_told 36 = .ok (.tableswitch 74 0 3 #[32, 40, 53, 66], 32) := by decide +kernel
theorem dX0_told_68 : decode cX0_told 68 = .ok (.aload_n 3, 1) := dk_45 (dk_at dksX0_told_3 0 rfl rfl)
theorem dX0_told_69 : decode cX0_told 69 = .ok (.getfield 468, 3) := dk_180 1 212 (dk_at dksX0_told_3 1 rfl rfl)
theorem dX0_told_72 : decode cX0_told 72 = .ok (.invokevirtual 450, 3) := dk_182 1 194 (dk_at dksX0_told_3 4 rfl rfl)
theorem dX0_told_75 : decode cX0_told 75 = .ok (.ireturn, 1) := dk_172 (dk_at dksX0_told_3 7 rfl rfl)
theorem dX0_told_76 : decode cX0_told 76 = .ok (.aload_n 3, 1) := dk_45 (dk_at dksX0_told_3 8 rfl rfl)
theorem dX0_told_77 : decode cX0_told 77 = .ok (.getfield 468, 3) := dk_180 1 212 (dk_at dksX0_told_3 9 rfl rfl)
theorem dX0_told_80 : decode cX0_told 80 = .ok (.getfield 168, 3) := dk_180 0 168 (dk_at dksX0_told_3 12 rfl rfl)
theorem dX0_told_83 : decode cX0_told 83 = .ok (.invokeinterface 474 1, 5) := by decide +kernel
theorem dX0_told_88 : decode cX0_told 88 = .ok (.ireturn, 1) := dk_172 (dk_at dksX0_told_3 20 rfl rfl)
theorem dX0_told_89 : decode cX0_told 89 = .ok (.aload_n 3, 1) := dk_45 (dk_at dksX0_told_3 21 rfl rfl)
theorem dX0_told_90 : decode cX0_told 90 = .ok (.invokevirtual 475, 3) := dk_182 1 219 (dk_at dksX0_told_4 0 rfl rfl)
theorem dX0_told_93 : decode cX0_told 93 = .ok (.ifCond .eq 7, 3) := dk_153 0 7 (dk_at dksX0_told_4 3 rfl rfl)
theorem dX0_told_96 : decode cX0_told 96 = .ok (.iconst 1, 1) := dk_4 (dk_at dksX0_told_4 6 rfl rfl)
theorem dX0_told_97 : decode cX0_told 97 = .ok (.goto 4, 3) := dk_167 0 4 (dk_at dksX0_told_4 7 rfl rfl)
theorem dX0_told_100 : decode cX0_told 100 = .ok (.iconst 0, 1) := dk_3 (dk_at dksX0_told_4 10 rfl rfl)
theorem dX0_told_101 : decode cX0_told 101 = .ok (.ireturn, 1) := dk_172 (dk_at dksX0_told_4 11 rfl rfl)
theorem dX0_told_102 : decode cX0_told 102 = .ok (.aload_n 3, 1) := dk_45 (dk_at dksX0_told_4 12 rfl rfl)
theorem dX0_told_103 : decode cX0_told 103 = .ok (.getfield 468, 3) := dk_180 1 212 (dk_at dksX0_told_4 13 rfl rfl)
theorem dX0_told_106 : decode cX0_told 106 = .ok (.invokevirtual 478, 3) := dk_182 1 222 (dk_at dksX0_told_4 16 rfl rfl)
theorem dX0_told_109 : decode cX0_told 109 = .ok (.ireturn, 1) := dk_172 (dk_at dksX0_told_4 19 rfl rfl)
theorem dX0_told_110 : decode cX0_told 110 = .ok (.aload_n 3, 1) := dk_45 (dk_at dksX0_told_4 20 rfl rfl)
theorem dX0_told_111 : decode cX0_told 111 = .ok (.getfield 468, 3) := dk_180 1 212 (dk_at dksX0_told_4 21 rfl rfl)
theorem dX0_told_114 : decode cX0_told 114 = .ok (.invokevirtual 481, 3) := dk_182 1 225 (dk_at dksX0_told_5 0 rfl rfl)
theorem dX0_told_117 : decode cX0_told 117 = .ok (.ireturn, 1) := dk_172 (dk_at dksX0_told_5 3 rfl rfl)
abbrev cX0_print : ByteArray := prog_1_method_62_code
def yX0_print : MethodName := ⟨RX0, "print", "(I)I"⟩
def dkwX0_print_2 : List UInt8 := [172]
abbrev dktX0_print_2 : List UInt8 := dkwX0_print_2 ++ []
def dkwX0_print_1 : List UInt8 := [181, 1, 252, 42, 180, 1, 137, 3, 42, 180, 1, 134, 3, 42, 180, 1, 252, 184, 1, 255, 42, 180, 1, 252]
abbrev dktX0_print_1 : List UInt8 := dkwX0_print_1 ++ dktX0_print_2
def dkwX0_print_0 : List UInt8 := [42, 27, 182, 1, 209, 61, 28, 156, 0, 5, 28, 172, 42, 42, 42, 180, 1, 92, 27, 50, 182, 1, 248]
abbrev dktX0_print_0 : List UInt8 := dkwX0_print_0 ++ dktX0_print_1
theorem dksX0_print_0 : cX0_print.data.toList.drop 0 = dktX0_print_0 := by decide +kernel
theorem dksX0_print_1 : cX0_print.data.toList.drop 23 = dktX0_print_1 := dk_seg dksX0_print_0 23 rfl rfl
theorem dksX0_print_2 : cX0_print.data.toList.drop 47 = dktX0_print_2 := dk_seg dksX0_print_1 24 rfl rfl
theorem dX0_print_0 : decode cX0_print 0 = .ok (.aload_n 0, 1) := dk_42 (dk_at dksX0_print_0 0 rfl rfl)
theorem dX0_print_1 : decode cX0_print 1 = .ok (.iload_n 1, 1) := dk_27 (dk_at dksX0_print_0 1 rfl rfl)
theorem dX0_print_2 : decode cX0_print 2 = .ok (.invokevirtual 465, 3) := dk_182 1 209 (dk_at dksX0_print_0 2 rfl rfl)
theorem dX0_print_5 : decode cX0_print 5 = .ok (.istore_n 2, 1) := dk_61 (dk_at dksX0_print_0 5 rfl rfl)
theorem dX0_print_6 : decode cX0_print 6 = .ok (.iload_n 2, 1) := dk_28 (dk_at dksX0_print_0 6 rfl rfl)
theorem dX0_print_7 : decode cX0_print 7 = .ok (.ifCond .ge 5, 3) := dk_156 0 5 (dk_at dksX0_print_0 7 rfl rfl)
theorem dX0_print_10 : decode cX0_print 10 = .ok (.iload_n 2, 1) := dk_28 (dk_at dksX0_print_0 10 rfl rfl)
theorem dX0_print_11 : decode cX0_print 11 = .ok (.ireturn, 1) := dk_172 (dk_at dksX0_print_0 11 rfl rfl)
theorem dX0_print_12 : decode cX0_print 12 = .ok (.aload_n 0, 1) := dk_42 (dk_at dksX0_print_0 12 rfl rfl)
theorem dX0_print_13 : decode cX0_print 13 = .ok (.aload_n 0, 1) := dk_42 (dk_at dksX0_print_0 13 rfl rfl)
theorem dX0_print_14 : decode cX0_print 14 = .ok (.aload_n 0, 1) := dk_42 (dk_at dksX0_print_0 14 rfl rfl)
theorem dX0_print_15 : decode cX0_print 15 = .ok (.getfield 348, 3) := dk_180 1 92 (dk_at dksX0_print_0 15 rfl rfl)
theorem dX0_print_18 : decode cX0_print 18 = .ok (.iload_n 1, 1) := dk_27 (dk_at dksX0_print_0 18 rfl rfl)
theorem dX0_print_19 : decode cX0_print 19 = .ok (.aaload, 1) := dk_50 (dk_at dksX0_print_0 19 rfl rfl)
theorem dX0_print_20 : decode cX0_print 20 = .ok (.invokevirtual 504, 3) := dk_182 1 248 (dk_at dksX0_print_0 20 rfl rfl)
theorem dX0_print_23 : decode cX0_print 23 = .ok (.putfield 508, 3) := dk_181 1 252 (dk_at dksX0_print_1 0 rfl rfl)
theorem dX0_print_26 : decode cX0_print 26 = .ok (.aload_n 0, 1) := dk_42 (dk_at dksX0_print_1 3 rfl rfl)
theorem dX0_print_27 : decode cX0_print 27 = .ok (.getfield 393, 3) := dk_180 1 137 (dk_at dksX0_print_1 4 rfl rfl)
theorem dX0_print_30 : decode cX0_print 30 = .ok (.iconst 0, 1) := dk_3 (dk_at dksX0_print_1 7 rfl rfl)
theorem dX0_print_31 : decode cX0_print 31 = .ok (.aload_n 0, 1) := dk_42 (dk_at dksX0_print_1 8 rfl rfl)
theorem dX0_print_32 : decode cX0_print 32 = .ok (.getfield 390, 3) := dk_180 1 134 (dk_at dksX0_print_1 9 rfl rfl)
theorem dX0_print_35 : decode cX0_print 35 = .ok (.iconst 0, 1) := dk_3 (dk_at dksX0_print_1 12 rfl rfl)
theorem dX0_print_36 : decode cX0_print 36 = .ok (.aload_n 0, 1) := dk_42 (dk_at dksX0_print_1 13 rfl rfl)
theorem dX0_print_37 : decode cX0_print 37 = .ok (.getfield 508, 3) := dk_180 1 252 (dk_at dksX0_print_1 14 rfl rfl)
theorem dX0_print_40 : decode cX0_print 40 = .ok (.invokestatic 511, 3) := dk_184 1 255 (dk_at dksX0_print_1 17 rfl rfl)
theorem dX0_print_43 : decode cX0_print 43 = .ok (.aload_n 0, 1) := dk_42 (dk_at dksX0_print_1 20 rfl rfl)
theorem dX0_print_44 : decode cX0_print 44 = .ok (.getfield 508, 3) := dk_180 1 252 (dk_at dksX0_print_1 21 rfl rfl)
theorem dX0_print_47 : decode cX0_print 47 = .ok (.ireturn, 1) := dk_172 (dk_at dksX0_print_2 0 rfl rfl)
abbrev cX0_printSpare : ByteArray := prog_1_method_61_code
def yX0_printSpare : MethodName := ⟨RX0, "printSpare", "(LThereAndBack$Routine;)I"⟩
def dkwX0_printSpare_0 : List UInt8 := [42, 3, 181, 1, 228, 42, 4, 181, 1, 231, 43, 180, 1, 212, 42, 182, 1, 244, 42, 180, 1, 228, 172]
abbrev dktX0_printSpare_0 : List UInt8 := dkwX0_printSpare_0 ++ []
theorem dksX0_printSpare_0 : cX0_printSpare.data.toList.drop 0 = dktX0_printSpare_0 := by decide +kernel
theorem dX0_printSpare_0 : decode cX0_printSpare 0 = .ok (.aload_n 0, 1) := dk_42 (dk_at dksX0_printSpare_0 0 rfl rfl)
theorem dX0_printSpare_1 : decode cX0_printSpare 1 = .ok (.iconst 0, 1) := dk_3 (dk_at dksX0_printSpare_0 1 rfl rfl)
theorem dX0_printSpare_2 : decode cX0_printSpare 2 = .ok (.putfield 484, 3) := dk_181 1 228 (dk_at dksX0_printSpare_0 2 rfl rfl)
theorem dX0_printSpare_5 : decode cX0_printSpare 5 = .ok (.aload_n 0, 1) := dk_42 (dk_at dksX0_printSpare_0 5 rfl rfl)
theorem dX0_printSpare_6 : decode cX0_printSpare 6 = .ok (.iconst 1, 1) := dk_4 (dk_at dksX0_printSpare_0 6 rfl rfl)
theorem dX0_printSpare_7 : decode cX0_printSpare 7 = .ok (.putfield 487, 3) := dk_181 1 231 (dk_at dksX0_printSpare_0 7 rfl rfl)
theorem dX0_printSpare_10 : decode cX0_printSpare 10 = .ok (.aload_n 1, 1) := dk_43 (dk_at dksX0_printSpare_0 10 rfl rfl)
theorem dX0_printSpare_11 : decode cX0_printSpare 11 = .ok (.getfield 468, 3) := dk_180 1 212 (dk_at dksX0_printSpare_0 11 rfl rfl)
theorem dX0_printSpare_14 : decode cX0_printSpare 14 = .ok (.aload_n 0, 1) := dk_42 (dk_at dksX0_printSpare_0 14 rfl rfl)
theorem dX0_printSpare_15 : decode cX0_printSpare 15 = .ok (.invokevirtual 500, 3) := dk_182 1 244 (dk_at dksX0_printSpare_0 15 rfl rfl)
theorem dX0_printSpare_18 : decode cX0_printSpare 18 = .ok (.aload_n 0, 1) := dk_42 (dk_at dksX0_printSpare_0 18 rfl rfl)
theorem dX0_printSpare_19 : decode cX0_printSpare 19 = .ok (.getfield 484, 3) := dk_180 1 228 (dk_at dksX0_printSpare_0 19 rfl rfl)
theorem dX0_printSpare_22 : decode cX0_printSpare 22 = .ok (.ireturn, 1) := dk_172 (dk_at dksX0_printSpare_0 22 rfl rfl)
abbrev cX0_printWord : ByteArray := prog_1_method_56_code
def yX0_printWord : MethodName := ⟨RX0, "printWord", "(Ljava/lang/String;)V"⟩
def dkwX0_printWord_1 : List UInt8 := [132, 2, 1, 167, 255, 236, 177]
abbrev dktX0_printWord_1 : List UInt8 := dkwX0_printWord_1 ++ []
def dkwX0_printWord_0 : List UInt8 := [42, 182, 1, 238, 3, 61, 28, 43, 182, 0, 48, 162, 0, 18, 42, 43, 28, 182, 0, 54, 182, 1, 235]
abbrev dktX0_printWord_0 : List UInt8 := dkwX0_printWord_0 ++ dktX0_printWord_1
theorem dksX0_printWord_0 : cX0_printWord.data.toList.drop 0 = dktX0_printWord_0 := by decide +kernel
theorem dksX0_printWord_1 : cX0_printWord.data.toList.drop 23 = dktX0_printWord_1 := dk_seg dksX0_printWord_0 23 rfl rfl
theorem dX0_printWord_0 : decode cX0_printWord 0 = .ok (.aload_n 0, 1) := dk_42 (dk_at dksX0_printWord_0 0 rfl rfl)
theorem dX0_printWord_1 : decode cX0_printWord 1 = .ok (.invokevirtual 494, 3) := dk_182 1 238 (dk_at dksX0_printWord_0 1 rfl rfl)
theorem dX0_printWord_4 : decode cX0_printWord 4 = .ok (.iconst 0, 1) := dk_3 (dk_at dksX0_printWord_0 4 rfl rfl)
theorem dX0_printWord_5 : decode cX0_printWord 5 = .ok (.istore_n 2, 1) := dk_61 (dk_at dksX0_printWord_0 5 rfl rfl)
theorem dX0_printWord_6 : decode cX0_printWord 6 = .ok (.iload_n 2, 1) := dk_28 (dk_at dksX0_printWord_0 6 rfl rfl)
theorem dX0_printWord_7 : decode cX0_printWord 7 = .ok (.aload_n 1, 1) := dk_43 (dk_at dksX0_printWord_0 7 rfl rfl)
theorem dX0_printWord_8 : decode cX0_printWord 8 = .ok (.invokevirtual 48, 3) := dk_182 0 48 (dk_at dksX0_printWord_0 8 rfl rfl)
theorem dX0_printWord_11 : decode cX0_printWord 11 = .ok (.if_icmp .ge 18, 3) := dk_162 0 18 (dk_at dksX0_printWord_0 11 rfl rfl)
theorem dX0_printWord_14 : decode cX0_printWord 14 = .ok (.aload_n 0, 1) := dk_42 (dk_at dksX0_printWord_0 14 rfl rfl)
theorem dX0_printWord_15 : decode cX0_printWord 15 = .ok (.aload_n 1, 1) := dk_43 (dk_at dksX0_printWord_0 15 rfl rfl)
theorem dX0_printWord_16 : decode cX0_printWord 16 = .ok (.iload_n 2, 1) := dk_28 (dk_at dksX0_printWord_0 16 rfl rfl)
theorem dX0_printWord_17 : decode cX0_printWord 17 = .ok (.invokevirtual 54, 3) := dk_182 0 54 (dk_at dksX0_printWord_0 17 rfl rfl)
theorem dX0_printWord_20 : decode cX0_printWord 20 = .ok (.invokevirtual 491, 3) := dk_182 1 235 (dk_at dksX0_printWord_0 20 rfl rfl)
theorem dX0_printWord_23 : decode cX0_printWord 23 = .ok (.iinc 2 1, 3) := dk_132 2 1 (dk_at dksX0_printWord_1 0 rfl rfl)
theorem dX0_printWord_26 : decode cX0_printWord 26 = .ok (.goto (-20), 3) := dk_167 255 236 (dk_at dksX0_printWord_1 3 rfl rfl)
theorem dX0_printWord_29 : decode cX0_printWord 29 = .ok (.return_, 1) := dk_177 (dk_at dksX0_printWord_1 6 rfl rfl)
abbrev cX0_blank : ByteArray := prog_1_method_54_code
def yX0_blank : MethodName := ⟨RX0, "blank", "()V"⟩
def dkwX0_blank_0 : List UInt8 := [42, 180, 1, 231, 154, 0, 9, 42, 16, 32, 182, 1, 235, 42, 3, 181, 1, 231, 177]
abbrev dktX0_blank_0 : List UInt8 := dkwX0_blank_0 ++ []
theorem dksX0_blank_0 : cX0_blank.data.toList.drop 0 = dktX0_blank_0 := by decide +kernel
theorem dX0_blank_0 : decode cX0_blank 0 = .ok (.aload_n 0, 1) := dk_42 (dk_at dksX0_blank_0 0 rfl rfl)
theorem dX0_blank_1 : decode cX0_blank 1 = .ok (.getfield 487, 3) := dk_180 1 231 (dk_at dksX0_blank_0 1 rfl rfl)
theorem dX0_blank_4 : decode cX0_blank 4 = .ok (.ifCond .ne 9, 3) := dk_154 0 9 (dk_at dksX0_blank_0 4 rfl rfl)
theorem dX0_blank_7 : decode cX0_blank 7 = .ok (.aload_n 0, 1) := dk_42 (dk_at dksX0_blank_0 7 rfl rfl)
theorem dX0_blank_8 : decode cX0_blank 8 = .ok (.bipush 32, 2) := dk_16 32 (dk_at dksX0_blank_0 8 rfl rfl)
theorem dX0_blank_10 : decode cX0_blank 10 = .ok (.invokevirtual 491, 3) := dk_182 1 235 (dk_at dksX0_blank_0 10 rfl rfl)
theorem dX0_blank_13 : decode cX0_blank 13 = .ok (.aload_n 0, 1) := dk_42 (dk_at dksX0_blank_0 13 rfl rfl)
theorem dX0_blank_14 : decode cX0_blank 14 = .ok (.iconst 0, 1) := dk_3 (dk_at dksX0_blank_0 14 rfl rfl)
theorem dX0_blank_15 : decode cX0_blank 15 = .ok (.putfield 487, 3) := dk_181 1 231 (dk_at dksX0_blank_0 15 rfl rfl)
theorem dX0_blank_18 : decode cX0_blank 18 = .ok (.return_, 1) := dk_177 (dk_at dksX0_blank_0 18 rfl rfl)
abbrev cX0_emit : ByteArray := prog_1_method_53_code
def yX0_emit : MethodName := ⟨RX0, "emit", "(I)V"⟩
def dkwX0_emit_1 : List UInt8 := [180, 1, 228, 4, 96, 181, 1, 228, 177]
abbrev dktX0_emit_1 : List UInt8 := dkwX0_emit_1 ++ []
def dkwX0_emit_0 : List UInt8 := [42, 180, 1, 228, 17, 23, 112, 162, 0, 24, 42, 180, 1, 137, 42, 180, 1, 228, 27, 145, 84, 42, 89]
abbrev dktX0_emit_0 : List UInt8 := dkwX0_emit_0 ++ dktX0_emit_1
theorem dksX0_emit_0 : cX0_emit.data.toList.drop 0 = dktX0_emit_0 := by decide +kernel
theorem dksX0_emit_1 : cX0_emit.data.toList.drop 23 = dktX0_emit_1 := dk_seg dksX0_emit_0 23 rfl rfl
theorem dX0_emit_0 : decode cX0_emit 0 = .ok (.aload_n 0, 1) := dk_42 (dk_at dksX0_emit_0 0 rfl rfl)
theorem dX0_emit_1 : decode cX0_emit 1 = .ok (.getfield 484, 3) := dk_180 1 228 (dk_at dksX0_emit_0 1 rfl rfl)
theorem dX0_emit_4 : decode cX0_emit 4 = .ok (.sipush 6000, 3) := dk_17 23 112 (dk_at dksX0_emit_0 4 rfl rfl)
theorem dX0_emit_7 : decode cX0_emit 7 = .ok (.if_icmp .ge 24, 3) := dk_162 0 24 (dk_at dksX0_emit_0 7 rfl rfl)
theorem dX0_emit_10 : decode cX0_emit 10 = .ok (.aload_n 0, 1) := dk_42 (dk_at dksX0_emit_0 10 rfl rfl)
theorem dX0_emit_11 : decode cX0_emit 11 = .ok (.getfield 393, 3) := dk_180 1 137 (dk_at dksX0_emit_0 11 rfl rfl)
theorem dX0_emit_14 : decode cX0_emit 14 = .ok (.aload_n 0, 1) := dk_42 (dk_at dksX0_emit_0 14 rfl rfl)
theorem dX0_emit_15 : decode cX0_emit 15 = .ok (.getfield 484, 3) := dk_180 1 228 (dk_at dksX0_emit_0 15 rfl rfl)
theorem dX0_emit_18 : decode cX0_emit 18 = .ok (.iload_n 1, 1) := dk_27 (dk_at dksX0_emit_0 18 rfl rfl)
theorem dX0_emit_19 : decode cX0_emit 19 = .ok (.i2b, 1) := dk_145 (dk_at dksX0_emit_0 19 rfl rfl)
theorem dX0_emit_20 : decode cX0_emit 20 = .ok (.bastore, 1) := dk_84 (dk_at dksX0_emit_0 20 rfl rfl)
theorem dX0_emit_21 : decode cX0_emit 21 = .ok (.aload_n 0, 1) := dk_42 (dk_at dksX0_emit_0 21 rfl rfl)
theorem dX0_emit_22 : decode cX0_emit 22 = .ok (.dup, 1) := dk_89 (dk_at dksX0_emit_0 22 rfl rfl)
theorem dX0_emit_23 : decode cX0_emit 23 = .ok (.getfield 484, 3) := dk_180 1 228 (dk_at dksX0_emit_1 0 rfl rfl)
theorem dX0_emit_26 : decode cX0_emit 26 = .ok (.iconst 1, 1) := dk_4 (dk_at dksX0_emit_1 3 rfl rfl)
theorem dX0_emit_27 : decode cX0_emit 27 = .ok (.iadd, 1) := dk_96 (dk_at dksX0_emit_1 4 rfl rfl)
theorem dX0_emit_28 : decode cX0_emit 28 = .ok (.putfield 484, 3) := dk_181 1 228 (dk_at dksX0_emit_1 5 rfl rfl)
theorem dX0_emit_31 : decode cX0_emit 31 = .ok (.return_, 1) := dk_177 (dk_at dksX0_emit_1 8 rfl rfl)
abbrev cX0_printSign : ByteArray := prog_1_method_55_code
def yX0_printSign : MethodName := ⟨RX0, "printSign", "(I)V"⟩
def dkwX0_printSign_0 : List UInt8 := [42, 182, 1, 238, 42, 27, 182, 1, 235, 177]
abbrev dktX0_printSign_0 : List UInt8 := dkwX0_printSign_0 ++ []
theorem dksX0_printSign_0 : cX0_printSign.data.toList.drop 0 = dktX0_printSign_0 := by decide +kernel
theorem dX0_printSign_0 : decode cX0_printSign 0 = .ok (.aload_n 0, 1) := dk_42 (dk_at dksX0_printSign_0 0 rfl rfl)
theorem dX0_printSign_1 : decode cX0_printSign 1 = .ok (.invokevirtual 494, 3) := dk_182 1 238 (dk_at dksX0_printSign_0 1 rfl rfl)
theorem dX0_printSign_4 : decode cX0_printSign 4 = .ok (.aload_n 0, 1) := dk_42 (dk_at dksX0_printSign_0 4 rfl rfl)
theorem dX0_printSign_5 : decode cX0_printSign 5 = .ok (.iload_n 1, 1) := dk_27 (dk_at dksX0_printSign_0 5 rfl rfl)
theorem dX0_printSign_6 : decode cX0_printSign 6 = .ok (.invokevirtual 491, 3) := dk_182 1 235 (dk_at dksX0_printSign_0 6 rfl rfl)
theorem dX0_printSign_9 : decode cX0_printSign 9 = .ok (.return_, 1) := dk_177 (dk_at dksX0_printSign_0 9 rfl rfl)
abbrev cX0_printOpen : ByteArray := prog_1_method_58_code
def yX0_printOpen : MethodName := ⟨RX0, "printOpen", "(I)V"⟩
def dkwX0_printOpen_0 : List UInt8 := [42, 27, 182, 1, 241, 42, 4, 181, 1, 231, 177]
abbrev dktX0_printOpen_0 : List UInt8 := dkwX0_printOpen_0 ++ []
theorem dksX0_printOpen_0 : cX0_printOpen.data.toList.drop 0 = dktX0_printOpen_0 := by decide +kernel
theorem dX0_printOpen_0 : decode cX0_printOpen 0 = .ok (.aload_n 0, 1) := dk_42 (dk_at dksX0_printOpen_0 0 rfl rfl)
theorem dX0_printOpen_1 : decode cX0_printOpen 1 = .ok (.iload_n 1, 1) := dk_27 (dk_at dksX0_printOpen_0 1 rfl rfl)
theorem dX0_printOpen_2 : decode cX0_printOpen 2 = .ok (.invokevirtual 497, 3) := dk_182 1 241 (dk_at dksX0_printOpen_0 2 rfl rfl)
theorem dX0_printOpen_5 : decode cX0_printOpen 5 = .ok (.aload_n 0, 1) := dk_42 (dk_at dksX0_printOpen_0 5 rfl rfl)
theorem dX0_printOpen_6 : decode cX0_printOpen 6 = .ok (.iconst 1, 1) := dk_4 (dk_at dksX0_printOpen_0 6 rfl rfl)
theorem dX0_printOpen_7 : decode cX0_printOpen 7 = .ok (.putfield 487, 3) := dk_181 1 231 (dk_at dksX0_printOpen_0 7 rfl rfl)
theorem dX0_printOpen_10 : decode cX0_printOpen 10 = .ok (.return_, 1) := dk_177 (dk_at dksX0_printOpen_0 10 rfl rfl)
abbrev cX0_printJoined : ByteArray := prog_1_method_60_code
def yX0_printJoined : MethodName := ⟨RX0, "printJoined", "(I)V"⟩
def dkwX0_printJoined_0 : List UInt8 := [42, 27, 182, 1, 235, 42, 4, 181, 1, 231, 177]
abbrev dktX0_printJoined_0 : List UInt8 := dkwX0_printJoined_0 ++ []
theorem dksX0_printJoined_0 : cX0_printJoined.data.toList.drop 0 = dktX0_printJoined_0 := by decide +kernel
theorem dX0_printJoined_0 : decode cX0_printJoined 0 = .ok (.aload_n 0, 1) := dk_42 (dk_at dksX0_printJoined_0 0 rfl rfl)
theorem dX0_printJoined_1 : decode cX0_printJoined 1 = .ok (.iload_n 1, 1) := dk_27 (dk_at dksX0_printJoined_0 1 rfl rfl)
theorem dX0_printJoined_2 : decode cX0_printJoined 2 = .ok (.invokevirtual 491, 3) := dk_182 1 235 (dk_at dksX0_printJoined_0 2 rfl rfl)
theorem dX0_printJoined_5 : decode cX0_printJoined 5 = .ok (.aload_n 0, 1) := dk_42 (dk_at dksX0_printJoined_0 5 rfl rfl)
theorem dX0_printJoined_6 : decode cX0_printJoined 6 = .ok (.iconst 1, 1) := dk_4 (dk_at dksX0_printJoined_0 6 rfl rfl)
theorem dX0_printJoined_7 : decode cX0_printJoined 7 = .ok (.putfield 487, 3) := dk_181 1 231 (dk_at dksX0_printJoined_0 7 rfl rfl)
theorem dX0_printJoined_10 : decode cX0_printJoined 10 = .ok (.return_, 1) := dk_177 (dk_at dksX0_printJoined_0 10 rfl rfl)
abbrev cX0_printNumber : ByteArray := prog_1_method_57_code
def yX0_printNumber : MethodName := ⟨RX0, "printNumber", "(I)V"⟩
def dkwX0_printNumber_2 : List UInt8 := [167, 255, 234, 177]
abbrev dktX0_printNumber_2 : List UInt8 := dkwX0_printNumber_2 ++ []
def dkwX0_printNumber_1 : List UInt8 := [29, 158, 0, 24, 42, 16, 48, 27, 29, 108, 16, 10, 112, 96, 182, 1, 235, 29, 16, 10, 108, 62]
abbrev dktX0_printNumber_1 : List UInt8 := dkwX0_printNumber_1 ++ dktX0_printNumber_2
def dkwX0_printNumber_0 : List UInt8 := [42, 182, 1, 238, 4, 61, 27, 28, 108, 16, 9, 164, 0, 11, 28, 16, 10, 104, 61, 167, 255, 243, 28, 62]
abbrev dktX0_printNumber_0 : List UInt8 := dkwX0_printNumber_0 ++ dktX0_printNumber_1
theorem dksX0_printNumber_0 : cX0_printNumber.data.toList.drop 0 = dktX0_printNumber_0 := by decide +kernel
theorem dksX0_printNumber_1 : cX0_printNumber.data.toList.drop 24 = dktX0_printNumber_1 := dk_seg dksX0_printNumber_0 24 rfl rfl
theorem dksX0_printNumber_2 : cX0_printNumber.data.toList.drop 46 = dktX0_printNumber_2 := dk_seg dksX0_printNumber_1 22 rfl rfl
theorem dX0_printNumber_0 : decode cX0_printNumber 0 = .ok (.aload_n 0, 1) := dk_42 (dk_at dksX0_printNumber_0 0 rfl rfl)
theorem dX0_printNumber_1 : decode cX0_printNumber 1 = .ok (.invokevirtual 494, 3) := dk_182 1 238 (dk_at dksX0_printNumber_0 1 rfl rfl)
theorem dX0_printNumber_4 : decode cX0_printNumber 4 = .ok (.iconst 1, 1) := dk_4 (dk_at dksX0_printNumber_0 4 rfl rfl)
theorem dX0_printNumber_5 : decode cX0_printNumber 5 = .ok (.istore_n 2, 1) := dk_61 (dk_at dksX0_printNumber_0 5 rfl rfl)
theorem dX0_printNumber_6 : decode cX0_printNumber 6 = .ok (.iload_n 1, 1) := dk_27 (dk_at dksX0_printNumber_0 6 rfl rfl)
theorem dX0_printNumber_7 : decode cX0_printNumber 7 = .ok (.iload_n 2, 1) := dk_28 (dk_at dksX0_printNumber_0 7 rfl rfl)
theorem dX0_printNumber_8 : decode cX0_printNumber 8 = .ok (.idiv, 1) := dk_108 (dk_at dksX0_printNumber_0 8 rfl rfl)
theorem dX0_printNumber_9 : decode cX0_printNumber 9 = .ok (.bipush 9, 2) := dk_16 9 (dk_at dksX0_printNumber_0 9 rfl rfl)
theorem dX0_printNumber_11 : decode cX0_printNumber 11 = .ok (.if_icmp .le 11, 3) := dk_164 0 11 (dk_at dksX0_printNumber_0 11 rfl rfl)
theorem dX0_printNumber_14 : decode cX0_printNumber 14 = .ok (.iload_n 2, 1) := dk_28 (dk_at dksX0_printNumber_0 14 rfl rfl)
theorem dX0_printNumber_15 : decode cX0_printNumber 15 = .ok (.bipush 10, 2) := dk_16 10 (dk_at dksX0_printNumber_0 15 rfl rfl)
theorem dX0_printNumber_17 : decode cX0_printNumber 17 = .ok (.imul, 1) := dk_104 (dk_at dksX0_printNumber_0 17 rfl rfl)
theorem dX0_printNumber_18 : decode cX0_printNumber 18 = .ok (.istore_n 2, 1) := dk_61 (dk_at dksX0_printNumber_0 18 rfl rfl)
theorem dX0_printNumber_19 : decode cX0_printNumber 19 = .ok (.goto (-13), 3) := dk_167 255 243 (dk_at dksX0_printNumber_0 19 rfl rfl)
theorem dX0_printNumber_22 : decode cX0_printNumber 22 = .ok (.iload_n 2, 1) := dk_28 (dk_at dksX0_printNumber_0 22 rfl rfl)
theorem dX0_printNumber_23 : decode cX0_printNumber 23 = .ok (.istore_n 3, 1) := dk_62 (dk_at dksX0_printNumber_0 23 rfl rfl)
theorem dX0_printNumber_24 : decode cX0_printNumber 24 = .ok (.iload_n 3, 1) := dk_29 (dk_at dksX0_printNumber_1 0 rfl rfl)
theorem dX0_printNumber_25 : decode cX0_printNumber 25 = .ok (.ifCond .le 24, 3) := dk_158 0 24 (dk_at dksX0_printNumber_1 1 rfl rfl)
theorem dX0_printNumber_28 : decode cX0_printNumber 28 = .ok (.aload_n 0, 1) := dk_42 (dk_at dksX0_printNumber_1 4 rfl rfl)
theorem dX0_printNumber_29 : decode cX0_printNumber 29 = .ok (.bipush 48, 2) := dk_16 48 (dk_at dksX0_printNumber_1 5 rfl rfl)
theorem dX0_printNumber_31 : decode cX0_printNumber 31 = .ok (.iload_n 1, 1) := dk_27 (dk_at dksX0_printNumber_1 7 rfl rfl)
theorem dX0_printNumber_32 : decode cX0_printNumber 32 = .ok (.iload_n 3, 1) := dk_29 (dk_at dksX0_printNumber_1 8 rfl rfl)
theorem dX0_printNumber_33 : decode cX0_printNumber 33 = .ok (.idiv, 1) := dk_108 (dk_at dksX0_printNumber_1 9 rfl rfl)
theorem dX0_printNumber_34 : decode cX0_printNumber 34 = .ok (.bipush 10, 2) := dk_16 10 (dk_at dksX0_printNumber_1 10 rfl rfl)
theorem dX0_printNumber_36 : decode cX0_printNumber 36 = .ok (.irem, 1) := dk_112 (dk_at dksX0_printNumber_1 12 rfl rfl)
theorem dX0_printNumber_37 : decode cX0_printNumber 37 = .ok (.iadd, 1) := dk_96 (dk_at dksX0_printNumber_1 13 rfl rfl)
theorem dX0_printNumber_38 : decode cX0_printNumber 38 = .ok (.invokevirtual 491, 3) := dk_182 1 235 (dk_at dksX0_printNumber_1 14 rfl rfl)
theorem dX0_printNumber_41 : decode cX0_printNumber 41 = .ok (.iload_n 3, 1) := dk_29 (dk_at dksX0_printNumber_1 17 rfl rfl)
theorem dX0_printNumber_42 : decode cX0_printNumber 42 = .ok (.bipush 10, 2) := dk_16 10 (dk_at dksX0_printNumber_1 18 rfl rfl)
theorem dX0_printNumber_44 : decode cX0_printNumber 44 = .ok (.idiv, 1) := dk_108 (dk_at dksX0_printNumber_1 20 rfl rfl)
theorem dX0_printNumber_45 : decode cX0_printNumber 45 = .ok (.istore_n 3, 1) := dk_62 (dk_at dksX0_printNumber_1 21 rfl rfl)
theorem dX0_printNumber_46 : decode cX0_printNumber 46 = .ok (.goto (-22), 3) := dk_167 255 234 (dk_at dksX0_printNumber_2 0 rfl rfl)
theorem dX0_printNumber_49 : decode cX0_printNumber 49 = .ok (.return_, 1) := dk_177 (dk_at dksX0_printNumber_2 3 rfl rfl)
abbrev cX0_printBehind : ByteArray := prog_1_method_59_code
def yX0_printBehind : MethodName := ⟨RX0, "printBehind", "(I)V"⟩
def dkwX0_printBehind_0 : List UInt8 := [42, 27, 182, 1, 235, 42, 3, 181, 1, 231, 177]
abbrev dktX0_printBehind_0 : List UInt8 := dkwX0_printBehind_0 ++ []
theorem dksX0_printBehind_0 : cX0_printBehind.data.toList.drop 0 = dktX0_printBehind_0 := by decide +kernel
theorem dX0_printBehind_0 : decode cX0_printBehind 0 = .ok (.aload_n 0, 1) := dk_42 (dk_at dksX0_printBehind_0 0 rfl rfl)
theorem dX0_printBehind_1 : decode cX0_printBehind 1 = .ok (.iload_n 1, 1) := dk_27 (dk_at dksX0_printBehind_0 1 rfl rfl)
theorem dX0_printBehind_2 : decode cX0_printBehind 2 = .ok (.invokevirtual 491, 3) := dk_182 1 235 (dk_at dksX0_printBehind_0 2 rfl rfl)
theorem dX0_printBehind_5 : decode cX0_printBehind 5 = .ok (.aload_n 0, 1) := dk_42 (dk_at dksX0_printBehind_0 5 rfl rfl)
theorem dX0_printBehind_6 : decode cX0_printBehind 6 = .ok (.iconst 0, 1) := dk_3 (dk_at dksX0_printBehind_0 6 rfl rfl)
theorem dX0_printBehind_7 : decode cX0_printBehind 7 = .ok (.putfield 487, 3) := dk_181 1 231 (dk_at dksX0_printBehind_0 7 rfl rfl)
theorem dX0_printBehind_10 : decode cX0_printBehind 10 = .ok (.return_, 1) := dk_177 (dk_at dksX0_printBehind_0 10 rfl rfl)
abbrev cX0_out : ByteArray := prog_1_method_63_code
def yX0_out : MethodName := ⟨RX0, "out", "(I)I"⟩
def dkwX0_out_1 : List UInt8 := [167, 0, 4, 2, 172]
abbrev dktX0_out_1 : List UInt8 := dkwX0_out_1 ++ []
def dkwX0_out_0 : List UInt8 := [27, 133, 9, 42, 180, 1, 252, 4, 100, 133, 184, 1, 168, 153, 0, 12, 42, 180, 1, 134, 27, 51]
abbrev dktX0_out_0 : List UInt8 := dkwX0_out_0 ++ dktX0_out_1
theorem dksX0_out_0 : cX0_out.data.toList.drop 0 = dktX0_out_0 := by decide +kernel
theorem dksX0_out_1 : cX0_out.data.toList.drop 22 = dktX0_out_1 := dk_seg dksX0_out_0 22 rfl rfl
theorem dX0_out_0 : decode cX0_out 0 = .ok (.iload_n 1, 1) := dk_27 (dk_at dksX0_out_0 0 rfl rfl)
theorem dX0_out_1 : decode cX0_out 1 = .ok (.i2l, 1) := dk_133 (dk_at dksX0_out_0 1 rfl rfl)
theorem dX0_out_2 : decode cX0_out 2 = .ok (.lconst 0, 1) := dk_9 (dk_at dksX0_out_0 2 rfl rfl)
theorem dX0_out_3 : decode cX0_out 3 = .ok (.aload_n 0, 1) := dk_42 (dk_at dksX0_out_0 3 rfl rfl)
theorem dX0_out_4 : decode cX0_out 4 = .ok (.getfield 508, 3) := dk_180 1 252 (dk_at dksX0_out_0 4 rfl rfl)
theorem dX0_out_7 : decode cX0_out 7 = .ok (.iconst 1, 1) := dk_4 (dk_at dksX0_out_0 7 rfl rfl)
theorem dX0_out_8 : decode cX0_out 8 = .ok (.isub, 1) := dk_100 (dk_at dksX0_out_0 8 rfl rfl)
theorem dX0_out_9 : decode cX0_out 9 = .ok (.i2l, 1) := dk_133 (dk_at dksX0_out_0 9 rfl rfl)
theorem dX0_out_10 : decode cX0_out 10 = .ok (.invokestatic 424, 3) := dk_184 1 168 (dk_at dksX0_out_0 10 rfl rfl)
theorem dX0_out_13 : decode cX0_out 13 = .ok (.ifCond .eq 12, 3) := dk_153 0 12 (dk_at dksX0_out_0 13 rfl rfl)
theorem dX0_out_16 : decode cX0_out 16 = .ok (.aload_n 0, 1) := dk_42 (dk_at dksX0_out_0 16 rfl rfl)
theorem dX0_out_17 : decode cX0_out 17 = .ok (.getfield 390, 3) := dk_180 1 134 (dk_at dksX0_out_0 17 rfl rfl)
theorem dX0_out_20 : decode cX0_out 20 = .ok (.iload_n 1, 1) := dk_27 (dk_at dksX0_out_0 20 rfl rfl)
theorem dX0_out_21 : decode cX0_out 21 = .ok (.baload, 1) := dk_51 (dk_at dksX0_out_0 21 rfl rfl)
theorem dX0_out_22 : decode cX0_out 22 = .ok (.goto 4, 3) := dk_167 0 4 (dk_at dksX0_out_1 0 rfl rfl)
theorem dX0_out_25 : decode cX0_out 25 = .ok (.iconst (-1), 1) := dk_2 (dk_at dksX0_out_1 3 rfl rfl)
theorem dX0_out_26 : decode cX0_out 26 = .ok (.ireturn, 1) := dk_172 (dk_at dksX0_out_1 4 rfl rfl)
abbrev cX0_take : ByteArray := prog_1_method_64_code
def yX0_take : MethodName := ⟨RX0, "take", "()I"⟩
def dkwX0_take_1 : List UInt8 := [180, 1, 252, 184, 1, 255, 42, 42, 180, 1, 252, 181, 0, 21, 42, 180, 0, 21, 172]
abbrev dktX0_take_1 : List UInt8 := dkwX0_take_1 ++ []
def dkwX0_take_0 : List UInt8 := [42, 180, 1, 252, 17, 2, 88, 164, 0, 6, 16, 253, 172, 42, 180, 1, 134, 3, 42, 180, 0, 24, 3, 42]
abbrev dktX0_take_0 : List UInt8 := dkwX0_take_0 ++ dktX0_take_1
theorem dksX0_take_0 : cX0_take.data.toList.drop 0 = dktX0_take_0 := by decide +kernel
theorem dksX0_take_1 : cX0_take.data.toList.drop 24 = dktX0_take_1 := dk_seg dksX0_take_0 24 rfl rfl
theorem dX0_take_0 : decode cX0_take 0 = .ok (.aload_n 0, 1) := dk_42 (dk_at dksX0_take_0 0 rfl rfl)
theorem dX0_take_1 : decode cX0_take 1 = .ok (.getfield 508, 3) := dk_180 1 252 (dk_at dksX0_take_0 1 rfl rfl)
theorem dX0_take_4 : decode cX0_take 4 = .ok (.sipush 600, 3) := dk_17 2 88 (dk_at dksX0_take_0 4 rfl rfl)
theorem dX0_take_7 : decode cX0_take 7 = .ok (.if_icmp .le 6, 3) := dk_164 0 6 (dk_at dksX0_take_0 7 rfl rfl)
theorem dX0_take_10 : decode cX0_take 10 = .ok (.bipush (-3), 2) := dk_16 253 (dk_at dksX0_take_0 10 rfl rfl)
theorem dX0_take_12 : decode cX0_take 12 = .ok (.ireturn, 1) := dk_172 (dk_at dksX0_take_0 12 rfl rfl)
theorem dX0_take_13 : decode cX0_take 13 = .ok (.aload_n 0, 1) := dk_42 (dk_at dksX0_take_0 13 rfl rfl)
theorem dX0_take_14 : decode cX0_take 14 = .ok (.getfield 390, 3) := dk_180 1 134 (dk_at dksX0_take_0 14 rfl rfl)
theorem dX0_take_17 : decode cX0_take 17 = .ok (.iconst 0, 1) := dk_3 (dk_at dksX0_take_0 17 rfl rfl)
theorem dX0_take_18 : decode cX0_take 18 = .ok (.aload_n 0, 1) := dk_42 (dk_at dksX0_take_0 18 rfl rfl)
theorem dX0_take_19 : decode cX0_take 19 = .ok (.getfield 24, 3) := dk_180 0 24 (dk_at dksX0_take_0 19 rfl rfl)
theorem dX0_take_22 : decode cX0_take 22 = .ok (.iconst 0, 1) := dk_3 (dk_at dksX0_take_0 22 rfl rfl)
theorem dX0_take_23 : decode cX0_take 23 = .ok (.aload_n 0, 1) := dk_42 (dk_at dksX0_take_0 23 rfl rfl)
theorem dX0_take_24 : decode cX0_take 24 = .ok (.getfield 508, 3) := dk_180 1 252 (dk_at dksX0_take_1 0 rfl rfl)
theorem dX0_take_27 : decode cX0_take 27 = .ok (.invokestatic 511, 3) := dk_184 1 255 (dk_at dksX0_take_1 3 rfl rfl)
theorem dX0_take_30 : decode cX0_take 30 = .ok (.aload_n 0, 1) := dk_42 (dk_at dksX0_take_1 6 rfl rfl)
theorem dX0_take_31 : decode cX0_take 31 = .ok (.aload_n 0, 1) := dk_42 (dk_at dksX0_take_1 7 rfl rfl)
theorem dX0_take_32 : decode cX0_take 32 = .ok (.getfield 508, 3) := dk_180 1 252 (dk_at dksX0_take_1 8 rfl rfl)
theorem dX0_take_35 : decode cX0_take 35 = .ok (.putfield 21, 3) := dk_181 0 21 (dk_at dksX0_take_1 11 rfl rfl)
theorem dX0_take_38 : decode cX0_take 38 = .ok (.aload_n 0, 1) := dk_42 (dk_at dksX0_take_1 14 rfl rfl)
theorem dX0_take_39 : decode cX0_take 39 = .ok (.getfield 21, 3) := dk_180 0 21 (dk_at dksX0_take_1 15 rfl rfl)
theorem dX0_take_42 : decode cX0_take 42 = .ok (.ireturn, 1) := dk_172 (dk_at dksX0_take_1 18 rfl rfl)
abbrev cX0_same : ByteArray := prog_1_method_65_code
def yX0_same : MethodName := ⟨RX0, "same", "(II)I"⟩
def dkwX0_same_5 : List UInt8 := [4, 167, 0, 4, 3, 54, 5, 132, 6, 1, 167, 255, 217, 21, 5, 153, 0, 7, 4, 167, 0, 4, 3, 172]
abbrev dktX0_same_5 : List UInt8 := dkwX0_same_5 ++ []
def dkwX0_same_4 : List UInt8 := [21, 6, 21, 4, 162, 0, 33, 42, 180, 1, 137, 21, 6, 51, 42, 180, 1, 140, 21, 6, 51, 160, 0, 7]
abbrev dktX0_same_4 : List UInt8 := dkwX0_same_4 ++ dktX0_same_5
def dkwX0_same_3 : List UInt8 := [182, 1, 248, 21, 4, 160, 0, 7, 4, 167, 0, 4, 3, 54, 5, 3, 54, 6, 21, 5, 153, 0, 40]
abbrev dktX0_same_3 : List UInt8 := dkwX0_same_3 ++ dktX0_same_4
def dkwX0_same_2 : List UInt8 := [54, 4, 42, 180, 1, 137, 3, 42, 180, 1, 140, 3, 21, 4, 184, 1, 255, 42, 42, 180, 1, 92, 28, 50]
abbrev dktX0_same_2 : List UInt8 := dkwX0_same_2 ++ dktX0_same_3
def dkwX0_same_1 : List UInt8 := [182, 1, 209, 167, 0, 4, 29, 62, 29, 156, 0, 5, 29, 172, 42, 42, 180, 1, 92, 27, 50, 182, 1, 248]
abbrev dktX0_same_1 : List UInt8 := dkwX0_same_1 ++ dktX0_same_2
def dkwX0_same_0 : List UInt8 := [28, 184, 1, 188, 154, 0, 7, 2, 167, 0, 8, 42, 27, 182, 1, 209, 62, 29, 154, 0, 11, 42, 28]
abbrev dktX0_same_0 : List UInt8 := dkwX0_same_0 ++ dktX0_same_1
theorem dksX0_same_0 : cX0_same.data.toList.drop 0 = dktX0_same_0 := by decide +kernel
theorem dksX0_same_1 : cX0_same.data.toList.drop 23 = dktX0_same_1 := dk_seg dksX0_same_0 23 rfl rfl
theorem dksX0_same_2 : cX0_same.data.toList.drop 47 = dktX0_same_2 := dk_seg dksX0_same_1 24 rfl rfl
theorem dksX0_same_3 : cX0_same.data.toList.drop 71 = dktX0_same_3 := dk_seg dksX0_same_2 24 rfl rfl
theorem dksX0_same_4 : cX0_same.data.toList.drop 94 = dktX0_same_4 := dk_seg dksX0_same_3 23 rfl rfl
theorem dksX0_same_5 : cX0_same.data.toList.drop 118 = dktX0_same_5 := dk_seg dksX0_same_4 24 rfl rfl
theorem dX0_same_0 : decode cX0_same 0 = .ok (.iload_n 2, 1) := dk_28 (dk_at dksX0_same_0 0 rfl rfl)
theorem dX0_same_1 : decode cX0_same 1 = .ok (.invokestatic 444, 3) := dk_184 1 188 (dk_at dksX0_same_0 1 rfl rfl)
theorem dX0_same_4 : decode cX0_same 4 = .ok (.ifCond .ne 7, 3) := dk_154 0 7 (dk_at dksX0_same_0 4 rfl rfl)
theorem dX0_same_7 : decode cX0_same 7 = .ok (.iconst (-1), 1) := dk_2 (dk_at dksX0_same_0 7 rfl rfl)
theorem dX0_same_8 : decode cX0_same 8 = .ok (.goto 8, 3) := dk_167 0 8 (dk_at dksX0_same_0 8 rfl rfl)
theorem dX0_same_11 : decode cX0_same 11 = .ok (.aload_n 0, 1) := dk_42 (dk_at dksX0_same_0 11 rfl rfl)
theorem dX0_same_12 : decode cX0_same 12 = .ok (.iload_n 1, 1) := dk_27 (dk_at dksX0_same_0 12 rfl rfl)
theorem dX0_same_13 : decode cX0_same 13 = .ok (.invokevirtual 465, 3) := dk_182 1 209 (dk_at dksX0_same_0 13 rfl rfl)
theorem dX0_same_16 : decode cX0_same 16 = .ok (.istore_n 3, 1) := dk_62 (dk_at dksX0_same_0 16 rfl rfl)
theorem dX0_same_17 : decode cX0_same 17 = .ok (.iload_n 3, 1) := dk_29 (dk_at dksX0_same_0 17 rfl rfl)
theorem dX0_same_18 : decode cX0_same 18 = .ok (.ifCond .ne 11, 3) := dk_154 0 11 (dk_at dksX0_same_0 18 rfl rfl)
theorem dX0_same_21 : decode cX0_same 21 = .ok (.aload_n 0, 1) := dk_42 (dk_at dksX0_same_0 21 rfl rfl)
theorem dX0_same_22 : decode cX0_same 22 = .ok (.iload_n 2, 1) := dk_28 (dk_at dksX0_same_0 22 rfl rfl)
theorem dX0_same_23 : decode cX0_same 23 = .ok (.invokevirtual 465, 3) := dk_182 1 209 (dk_at dksX0_same_1 0 rfl rfl)
theorem dX0_same_26 : decode cX0_same 26 = .ok (.goto 4, 3) := dk_167 0 4 (dk_at dksX0_same_1 3 rfl rfl)
theorem dX0_same_29 : decode cX0_same 29 = .ok (.iload_n 3, 1) := dk_29 (dk_at dksX0_same_1 6 rfl rfl)
theorem dX0_same_30 : decode cX0_same 30 = .ok (.istore_n 3, 1) := dk_62 (dk_at dksX0_same_1 7 rfl rfl)
theorem dX0_same_31 : decode cX0_same 31 = .ok (.iload_n 3, 1) := dk_29 (dk_at dksX0_same_1 8 rfl rfl)
theorem dX0_same_32 : decode cX0_same 32 = .ok (.ifCond .ge 5, 3) := dk_156 0 5 (dk_at dksX0_same_1 9 rfl rfl)
theorem dX0_same_35 : decode cX0_same 35 = .ok (.iload_n 3, 1) := dk_29 (dk_at dksX0_same_1 12 rfl rfl)
theorem dX0_same_36 : decode cX0_same 36 = .ok (.ireturn, 1) := dk_172 (dk_at dksX0_same_1 13 rfl rfl)
theorem dX0_same_37 : decode cX0_same 37 = .ok (.aload_n 0, 1) := dk_42 (dk_at dksX0_same_1 14 rfl rfl)
theorem dX0_same_38 : decode cX0_same 38 = .ok (.aload_n 0, 1) := dk_42 (dk_at dksX0_same_1 15 rfl rfl)
theorem dX0_same_39 : decode cX0_same 39 = .ok (.getfield 348, 3) := dk_180 1 92 (dk_at dksX0_same_1 16 rfl rfl)
theorem dX0_same_42 : decode cX0_same 42 = .ok (.iload_n 1, 1) := dk_27 (dk_at dksX0_same_1 19 rfl rfl)
theorem dX0_same_43 : decode cX0_same 43 = .ok (.aaload, 1) := dk_50 (dk_at dksX0_same_1 20 rfl rfl)
theorem dX0_same_44 : decode cX0_same 44 = .ok (.invokevirtual 504, 3) := dk_182 1 248 (dk_at dksX0_same_1 21 rfl rfl)
theorem dX0_same_47 : decode cX0_same 47 = .ok (.istore 4, 2) := dk_54 4 (dk_at dksX0_same_2 0 rfl rfl)
theorem dX0_same_49 : decode cX0_same 49 = .ok (.aload_n 0, 1) := dk_42 (dk_at dksX0_same_2 2 rfl rfl)
theorem dX0_same_50 : decode cX0_same 50 = .ok (.getfield 393, 3) := dk_180 1 137 (dk_at dksX0_same_2 3 rfl rfl)
theorem dX0_same_53 : decode cX0_same 53 = .ok (.iconst 0, 1) := dk_3 (dk_at dksX0_same_2 6 rfl rfl)
theorem dX0_same_54 : decode cX0_same 54 = .ok (.aload_n 0, 1) := dk_42 (dk_at dksX0_same_2 7 rfl rfl)
theorem dX0_same_55 : decode cX0_same 55 = .ok (.getfield 396, 3) := dk_180 1 140 (dk_at dksX0_same_2 8 rfl rfl)
theorem dX0_same_58 : decode cX0_same 58 = .ok (.iconst 0, 1) := dk_3 (dk_at dksX0_same_2 11 rfl rfl)
theorem dX0_same_59 : decode cX0_same 59 = .ok (.iload 4, 2) := dk_21 4 (dk_at dksX0_same_2 12 rfl rfl)
theorem dX0_same_61 : decode cX0_same 61 = .ok (.invokestatic 511, 3) := dk_184 1 255 (dk_at dksX0_same_2 14 rfl rfl)
theorem dX0_same_64 : decode cX0_same 64 = .ok (.aload_n 0, 1) := dk_42 (dk_at dksX0_same_2 17 rfl rfl)
theorem dX0_same_65 : decode cX0_same 65 = .ok (.aload_n 0, 1) := dk_42 (dk_at dksX0_same_2 18 rfl rfl)
theorem dX0_same_66 : decode cX0_same 66 = .ok (.getfield 348, 3) := dk_180 1 92 (dk_at dksX0_same_2 19 rfl rfl)
theorem dX0_same_69 : decode cX0_same 69 = .ok (.iload_n 2, 1) := dk_28 (dk_at dksX0_same_2 22 rfl rfl)
theorem dX0_same_70 : decode cX0_same 70 = .ok (.aaload, 1) := dk_50 (dk_at dksX0_same_2 23 rfl rfl)
theorem dX0_same_71 : decode cX0_same 71 = .ok (.invokevirtual 504, 3) := dk_182 1 248 (dk_at dksX0_same_3 0 rfl rfl)
theorem dX0_same_74 : decode cX0_same 74 = .ok (.iload 4, 2) := dk_21 4 (dk_at dksX0_same_3 3 rfl rfl)
theorem dX0_same_76 : decode cX0_same 76 = .ok (.if_icmp .ne 7, 3) := dk_160 0 7 (dk_at dksX0_same_3 5 rfl rfl)
theorem dX0_same_79 : decode cX0_same 79 = .ok (.iconst 1, 1) := dk_4 (dk_at dksX0_same_3 8 rfl rfl)
theorem dX0_same_80 : decode cX0_same 80 = .ok (.goto 4, 3) := dk_167 0 4 (dk_at dksX0_same_3 9 rfl rfl)
theorem dX0_same_83 : decode cX0_same 83 = .ok (.iconst 0, 1) := dk_3 (dk_at dksX0_same_3 12 rfl rfl)
theorem dX0_same_84 : decode cX0_same 84 = .ok (.istore 5, 2) := dk_54 5 (dk_at dksX0_same_3 13 rfl rfl)
theorem dX0_same_86 : decode cX0_same 86 = .ok (.iconst 0, 1) := dk_3 (dk_at dksX0_same_3 15 rfl rfl)
theorem dX0_same_87 : decode cX0_same 87 = .ok (.istore 6, 2) := dk_54 6 (dk_at dksX0_same_3 16 rfl rfl)
theorem dX0_same_89 : decode cX0_same 89 = .ok (.iload 5, 2) := dk_21 5 (dk_at dksX0_same_3 18 rfl rfl)
theorem dX0_same_91 : decode cX0_same 91 = .ok (.ifCond .eq 40, 3) := dk_153 0 40 (dk_at dksX0_same_3 20 rfl rfl)
theorem dX0_same_94 : decode cX0_same 94 = .ok (.iload 6, 2) := dk_21 6 (dk_at dksX0_same_4 0 rfl rfl)
theorem dX0_same_96 : decode cX0_same 96 = .ok (.iload 4, 2) := dk_21 4 (dk_at dksX0_same_4 2 rfl rfl)
theorem dX0_same_98 : decode cX0_same 98 = .ok (.if_icmp .ge 33, 3) := dk_162 0 33 (dk_at dksX0_same_4 4 rfl rfl)
theorem dX0_same_101 : decode cX0_same 101 = .ok (.aload_n 0, 1) := dk_42 (dk_at dksX0_same_4 7 rfl rfl)
theorem dX0_same_102 : decode cX0_same 102 = .ok (.getfield 393, 3) := dk_180 1 137 (dk_at dksX0_same_4 8 rfl rfl)
theorem dX0_same_105 : decode cX0_same 105 = .ok (.iload 6, 2) := dk_21 6 (dk_at dksX0_same_4 11 rfl rfl)
theorem dX0_same_107 : decode cX0_same 107 = .ok (.baload, 1) := dk_51 (dk_at dksX0_same_4 13 rfl rfl)
theorem dX0_same_108 : decode cX0_same 108 = .ok (.aload_n 0, 1) := dk_42 (dk_at dksX0_same_4 14 rfl rfl)
theorem dX0_same_109 : decode cX0_same 109 = .ok (.getfield 396, 3) := dk_180 1 140 (dk_at dksX0_same_4 15 rfl rfl)
theorem dX0_same_112 : decode cX0_same 112 = .ok (.iload 6, 2) := dk_21 6 (dk_at dksX0_same_4 18 rfl rfl)
theorem dX0_same_114 : decode cX0_same 114 = .ok (.baload, 1) := dk_51 (dk_at dksX0_same_4 20 rfl rfl)
theorem dX0_same_115 : decode cX0_same 115 = .ok (.if_icmp .ne 7, 3) := dk_160 0 7 (dk_at dksX0_same_4 21 rfl rfl)
theorem dX0_same_118 : decode cX0_same 118 = .ok (.iconst 1, 1) := dk_4 (dk_at dksX0_same_5 0 rfl rfl)
theorem dX0_same_119 : decode cX0_same 119 = .ok (.goto 4, 3) := dk_167 0 4 (dk_at dksX0_same_5 1 rfl rfl)
theorem dX0_same_122 : decode cX0_same 122 = .ok (.iconst 0, 1) := dk_3 (dk_at dksX0_same_5 4 rfl rfl)
theorem dX0_same_123 : decode cX0_same 123 = .ok (.istore 5, 2) := dk_54 5 (dk_at dksX0_same_5 5 rfl rfl)
theorem dX0_same_125 : decode cX0_same 125 = .ok (.iinc 6 1, 3) := dk_132 6 1 (dk_at dksX0_same_5 7 rfl rfl)
theorem dX0_same_128 : decode cX0_same 128 = .ok (.goto (-39), 3) := dk_167 255 217 (dk_at dksX0_same_5 10 rfl rfl)
theorem dX0_same_131 : decode cX0_same 131 = .ok (.iload 5, 2) := dk_21 5 (dk_at dksX0_same_5 13 rfl rfl)
theorem dX0_same_133 : decode cX0_same 133 = .ok (.ifCond .eq 7, 3) := dk_153 0 7 (dk_at dksX0_same_5 15 rfl rfl)
theorem dX0_same_136 : decode cX0_same 136 = .ok (.iconst 1, 1) := dk_4 (dk_at dksX0_same_5 18 rfl rfl)
theorem dX0_same_137 : decode cX0_same 137 = .ok (.goto 4, 3) := dk_167 0 4 (dk_at dksX0_same_5 19 rfl rfl)
theorem dX0_same_140 : decode cX0_same 140 = .ok (.iconst 0, 1) := dk_3 (dk_at dksX0_same_5 22 rfl rfl)
theorem dX0_same_141 : decode cX0_same 141 = .ok (.ireturn, 1) := dk_172 (dk_at dksX0_same_5 23 rfl rfl)
abbrev cX0_mirror : ByteArray := prog_1_method_66_code
def yX0_mirror : MethodName := ⟨RX0, "mirror", "(II)I"⟩
def dkwX0_mirror_2 : List UInt8 := [180, 1, 212, 182, 2, 5, 28, 182, 1, 205, 172]
abbrev dktX0_mirror_2 : List UInt8 := dkwX0_mirror_2 ++ []
def dkwX0_mirror_1 : List UInt8 := [180, 1, 92, 27, 50, 58, 4, 25, 4, 182, 1, 219, 153, 0, 8, 16, 254, 167, 0, 16, 42, 25, 4]
abbrev dktX0_mirror_1 : List UInt8 := dkwX0_mirror_1 ++ dktX0_mirror_2
def dkwX0_mirror_0 : List UInt8 := [28, 184, 1, 188, 154, 0, 7, 2, 167, 0, 8, 42, 27, 182, 1, 209, 62, 29, 156, 0, 5, 29, 172, 42]
abbrev dktX0_mirror_0 : List UInt8 := dkwX0_mirror_0 ++ dktX0_mirror_1
theorem dksX0_mirror_0 : cX0_mirror.data.toList.drop 0 = dktX0_mirror_0 := by decide +kernel
theorem dksX0_mirror_1 : cX0_mirror.data.toList.drop 24 = dktX0_mirror_1 := dk_seg dksX0_mirror_0 24 rfl rfl
theorem dksX0_mirror_2 : cX0_mirror.data.toList.drop 47 = dktX0_mirror_2 := dk_seg dksX0_mirror_1 23 rfl rfl
theorem dX0_mirror_0 : decode cX0_mirror 0 = .ok (.iload_n 2, 1) := dk_28 (dk_at dksX0_mirror_0 0 rfl rfl)
theorem dX0_mirror_1 : decode cX0_mirror 1 = .ok (.invokestatic 444, 3) := dk_184 1 188 (dk_at dksX0_mirror_0 1 rfl rfl)
theorem dX0_mirror_4 : decode cX0_mirror 4 = .ok (.ifCond .ne 7, 3) := dk_154 0 7 (dk_at dksX0_mirror_0 4 rfl rfl)
theorem dX0_mirror_7 : decode cX0_mirror 7 = .ok (.iconst (-1), 1) := dk_2 (dk_at dksX0_mirror_0 7 rfl rfl)
theorem dX0_mirror_8 : decode cX0_mirror 8 = .ok (.goto 8, 3) := dk_167 0 8 (dk_at dksX0_mirror_0 8 rfl rfl)
theorem dX0_mirror_11 : decode cX0_mirror 11 = .ok (.aload_n 0, 1) := dk_42 (dk_at dksX0_mirror_0 11 rfl rfl)
theorem dX0_mirror_12 : decode cX0_mirror 12 = .ok (.iload_n 1, 1) := dk_27 (dk_at dksX0_mirror_0 12 rfl rfl)
theorem dX0_mirror_13 : decode cX0_mirror 13 = .ok (.invokevirtual 465, 3) := dk_182 1 209 (dk_at dksX0_mirror_0 13 rfl rfl)
theorem dX0_mirror_16 : decode cX0_mirror 16 = .ok (.istore_n 3, 1) := dk_62 (dk_at dksX0_mirror_0 16 rfl rfl)
theorem dX0_mirror_17 : decode cX0_mirror 17 = .ok (.iload_n 3, 1) := dk_29 (dk_at dksX0_mirror_0 17 rfl rfl)
theorem dX0_mirror_18 : decode cX0_mirror 18 = .ok (.ifCond .ge 5, 3) := dk_156 0 5 (dk_at dksX0_mirror_0 18 rfl rfl)
theorem dX0_mirror_21 : decode cX0_mirror 21 = .ok (.iload_n 3, 1) := dk_29 (dk_at dksX0_mirror_0 21 rfl rfl)
theorem dX0_mirror_22 : decode cX0_mirror 22 = .ok (.ireturn, 1) := dk_172 (dk_at dksX0_mirror_0 22 rfl rfl)
theorem dX0_mirror_23 : decode cX0_mirror 23 = .ok (.aload_n 0, 1) := dk_42 (dk_at dksX0_mirror_0 23 rfl rfl)
theorem dX0_mirror_24 : decode cX0_mirror 24 = .ok (.getfield 348, 3) := dk_180 1 92 (dk_at dksX0_mirror_1 0 rfl rfl)
theorem dX0_mirror_27 : decode cX0_mirror 27 = .ok (.iload_n 1, 1) := dk_27 (dk_at dksX0_mirror_1 3 rfl rfl)
theorem dX0_mirror_28 : decode cX0_mirror 28 = .ok (.aaload, 1) := dk_50 (dk_at dksX0_mirror_1 4 rfl rfl)
theorem dX0_mirror_29 : decode cX0_mirror 29 = .ok (.astore 4, 2) := dk_58 4 (dk_at dksX0_mirror_1 5 rfl rfl)
theorem dX0_mirror_31 : decode cX0_mirror 31 = .ok (.aload 4, 2) := dk_25 4 (dk_at dksX0_mirror_1 7 rfl rfl)
theorem dX0_mirror_33 : decode cX0_mirror 33 = .ok (.invokevirtual 475, 3) := dk_182 1 219 (dk_at dksX0_mirror_1 9 rfl rfl)
theorem dX0_mirror_36 : decode cX0_mirror 36 = .ok (.ifCond .eq 8, 3) := dk_153 0 8 (dk_at dksX0_mirror_1 12 rfl rfl)
theorem dX0_mirror_39 : decode cX0_mirror 39 = .ok (.bipush (-2), 2) := dk_16 254 (dk_at dksX0_mirror_1 15 rfl rfl)
theorem dX0_mirror_41 : decode cX0_mirror 41 = .ok (.goto 16, 3) := dk_167 0 16 (dk_at dksX0_mirror_1 17 rfl rfl)
theorem dX0_mirror_44 : decode cX0_mirror 44 = .ok (.aload_n 0, 1) := dk_42 (dk_at dksX0_mirror_1 20 rfl rfl)
theorem dX0_mirror_45 : decode cX0_mirror 45 = .ok (.aload 4, 2) := dk_25 4 (dk_at dksX0_mirror_1 21 rfl rfl)
theorem dX0_mirror_47 : decode cX0_mirror 47 = .ok (.getfield 468, 3) := dk_180 1 212 (dk_at dksX0_mirror_2 0 rfl rfl)
theorem dX0_mirror_50 : decode cX0_mirror 50 = .ok (.invokevirtual 517, 3) := dk_182 2 5 (dk_at dksX0_mirror_2 3 rfl rfl)
theorem dX0_mirror_53 : decode cX0_mirror 53 = .ok (.iload_n 2, 1) := dk_28 (dk_at dksX0_mirror_2 6 rfl rfl)
theorem dX0_mirror_54 : decode cX0_mirror 54 = .ok (.invokevirtual 461, 3) := dk_182 1 205 (dk_at dksX0_mirror_2 7 rfl rfl)
theorem dX0_mirror_57 : decode cX0_mirror 57 = .ok (.ireturn, 1) := dk_172 (dk_at dksX0_mirror_2 10 rfl rfl)
abbrev cX0_turn : ByteArray := prog_1_method_67_code
def yX0_turn : MethodName := ⟨RX0, "turn", "(II)I"⟩
def dkwX0_turn_3 : List UInt8 := [182, 1, 194, 16, 40, 164, 0, 8, 16, 253, 167, 0, 10, 42, 25, 5, 28, 182, 1, 205, 172]
abbrev dktX0_turn_3 : List UInt8 := dkwX0_turn_3 ++ []
def dkwX0_turn_2 : List UInt8 := [16, 20, 122, 153, 0, 6, 16, 254, 172, 25, 4, 180, 1, 212, 3, 182, 2, 9, 58, 5, 25, 5]
abbrev dktX0_turn_2 : List UInt8 := dkwX0_turn_2 ++ dktX0_turn_3
def dkwX0_turn_1 : List UInt8 := [180, 1, 92, 27, 50, 58, 4, 25, 4, 182, 1, 219, 153, 0, 17, 25, 4, 180, 1, 212, 182, 1, 225]
abbrev dktX0_turn_1 : List UInt8 := dkwX0_turn_1 ++ dktX0_turn_2
def dkwX0_turn_0 : List UInt8 := [28, 184, 1, 188, 154, 0, 7, 2, 167, 0, 8, 42, 27, 182, 1, 209, 62, 29, 156, 0, 5, 29, 172, 42]
abbrev dktX0_turn_0 : List UInt8 := dkwX0_turn_0 ++ dktX0_turn_1
theorem dksX0_turn_0 : cX0_turn.data.toList.drop 0 = dktX0_turn_0 := by decide +kernel
theorem dksX0_turn_1 : cX0_turn.data.toList.drop 24 = dktX0_turn_1 := dk_seg dksX0_turn_0 24 rfl rfl
theorem dksX0_turn_2 : cX0_turn.data.toList.drop 47 = dktX0_turn_2 := dk_seg dksX0_turn_1 23 rfl rfl
theorem dksX0_turn_3 : cX0_turn.data.toList.drop 69 = dktX0_turn_3 := dk_seg dksX0_turn_2 22 rfl rfl
theorem dX0_turn_0 : decode cX0_turn 0 = .ok (.iload_n 2, 1) := dk_28 (dk_at dksX0_turn_0 0 rfl rfl)
theorem dX0_turn_1 : decode cX0_turn 1 = .ok (.invokestatic 444, 3) := dk_184 1 188 (dk_at dksX0_turn_0 1 rfl rfl)
theorem dX0_turn_4 : decode cX0_turn 4 = .ok (.ifCond .ne 7, 3) := dk_154 0 7 (dk_at dksX0_turn_0 4 rfl rfl)
theorem dX0_turn_7 : decode cX0_turn 7 = .ok (.iconst (-1), 1) := dk_2 (dk_at dksX0_turn_0 7 rfl rfl)
theorem dX0_turn_8 : decode cX0_turn 8 = .ok (.goto 8, 3) := dk_167 0 8 (dk_at dksX0_turn_0 8 rfl rfl)
theorem dX0_turn_11 : decode cX0_turn 11 = .ok (.aload_n 0, 1) := dk_42 (dk_at dksX0_turn_0 11 rfl rfl)
theorem dX0_turn_12 : decode cX0_turn 12 = .ok (.iload_n 1, 1) := dk_27 (dk_at dksX0_turn_0 12 rfl rfl)
theorem dX0_turn_13 : decode cX0_turn 13 = .ok (.invokevirtual 465, 3) := dk_182 1 209 (dk_at dksX0_turn_0 13 rfl rfl)
theorem dX0_turn_16 : decode cX0_turn 16 = .ok (.istore_n 3, 1) := dk_62 (dk_at dksX0_turn_0 16 rfl rfl)
theorem dX0_turn_17 : decode cX0_turn 17 = .ok (.iload_n 3, 1) := dk_29 (dk_at dksX0_turn_0 17 rfl rfl)
theorem dX0_turn_18 : decode cX0_turn 18 = .ok (.ifCond .ge 5, 3) := dk_156 0 5 (dk_at dksX0_turn_0 18 rfl rfl)
theorem dX0_turn_21 : decode cX0_turn 21 = .ok (.iload_n 3, 1) := dk_29 (dk_at dksX0_turn_0 21 rfl rfl)
theorem dX0_turn_22 : decode cX0_turn 22 = .ok (.ireturn, 1) := dk_172 (dk_at dksX0_turn_0 22 rfl rfl)
theorem dX0_turn_23 : decode cX0_turn 23 = .ok (.aload_n 0, 1) := dk_42 (dk_at dksX0_turn_0 23 rfl rfl)
theorem dX0_turn_24 : decode cX0_turn 24 = .ok (.getfield 348, 3) := dk_180 1 92 (dk_at dksX0_turn_1 0 rfl rfl)
theorem dX0_turn_27 : decode cX0_turn 27 = .ok (.iload_n 1, 1) := dk_27 (dk_at dksX0_turn_1 3 rfl rfl)
theorem dX0_turn_28 : decode cX0_turn 28 = .ok (.aaload, 1) := dk_50 (dk_at dksX0_turn_1 4 rfl rfl)
theorem dX0_turn_29 : decode cX0_turn 29 = .ok (.astore 4, 2) := dk_58 4 (dk_at dksX0_turn_1 5 rfl rfl)
theorem dX0_turn_31 : decode cX0_turn 31 = .ok (.aload 4, 2) := dk_25 4 (dk_at dksX0_turn_1 7 rfl rfl)
theorem dX0_turn_33 : decode cX0_turn 33 = .ok (.invokevirtual 475, 3) := dk_182 1 219 (dk_at dksX0_turn_1 9 rfl rfl)
theorem dX0_turn_36 : decode cX0_turn 36 = .ok (.ifCond .eq 17, 3) := dk_153 0 17 (dk_at dksX0_turn_1 12 rfl rfl)
theorem dX0_turn_39 : decode cX0_turn 39 = .ok (.aload 4, 2) := dk_25 4 (dk_at dksX0_turn_1 15 rfl rfl)
theorem dX0_turn_41 : decode cX0_turn 41 = .ok (.getfield 468, 3) := dk_180 1 212 (dk_at dksX0_turn_1 17 rfl rfl)
theorem dX0_turn_44 : decode cX0_turn 44 = .ok (.invokevirtual 481, 3) := dk_182 1 225 (dk_at dksX0_turn_1 20 rfl rfl)
theorem dX0_turn_47 : decode cX0_turn 47 = .ok (.bipush 20, 2) := dk_16 20 (dk_at dksX0_turn_2 0 rfl rfl)
theorem dX0_turn_49 : decode cX0_turn 49 = .ok (.ishr, 1) := dk_122 (dk_at dksX0_turn_2 2 rfl rfl)
theorem dX0_turn_50 : decode cX0_turn 50 = .ok (.ifCond .eq 6, 3) := dk_153 0 6 (dk_at dksX0_turn_2 3 rfl rfl)
theorem dX0_turn_53 : decode cX0_turn 53 = .ok (.bipush (-2), 2) := dk_16 254 (dk_at dksX0_turn_2 6 rfl rfl)
theorem dX0_turn_55 : decode cX0_turn 55 = .ok (.ireturn, 1) := dk_172 (dk_at dksX0_turn_2 8 rfl rfl)
theorem dX0_turn_56 : decode cX0_turn 56 = .ok (.aload 4, 2) := dk_25 4 (dk_at dksX0_turn_2 9 rfl rfl)
theorem dX0_turn_58 : decode cX0_turn 58 = .ok (.getfield 468, 3) := dk_180 1 212 (dk_at dksX0_turn_2 11 rfl rfl)
theorem dX0_turn_61 : decode cX0_turn 61 = .ok (.iconst 0, 1) := dk_3 (dk_at dksX0_turn_2 14 rfl rfl)
theorem dX0_turn_62 : decode cX0_turn 62 = .ok (.invokevirtual 521, 3) := dk_182 2 9 (dk_at dksX0_turn_2 15 rfl rfl)
theorem dX0_turn_65 : decode cX0_turn 65 = .ok (.astore 5, 2) := dk_58 5 (dk_at dksX0_turn_2 18 rfl rfl)
theorem dX0_turn_67 : decode cX0_turn 67 = .ok (.aload 5, 2) := dk_25 5 (dk_at dksX0_turn_2 20 rfl rfl)
theorem dX0_turn_69 : decode cX0_turn 69 = .ok (.invokevirtual 450, 3) := dk_182 1 194 (dk_at dksX0_turn_3 0 rfl rfl)
theorem dX0_turn_72 : decode cX0_turn 72 = .ok (.bipush 40, 2) := dk_16 40 (dk_at dksX0_turn_3 3 rfl rfl)
theorem dX0_turn_74 : decode cX0_turn 74 = .ok (.if_icmp .le 8, 3) := dk_164 0 8 (dk_at dksX0_turn_3 5 rfl rfl)
theorem dX0_turn_77 : decode cX0_turn 77 = .ok (.bipush (-3), 2) := dk_16 253 (dk_at dksX0_turn_3 8 rfl rfl)
theorem dX0_turn_79 : decode cX0_turn 79 = .ok (.goto 10, 3) := dk_167 0 10 (dk_at dksX0_turn_3 10 rfl rfl)
theorem dX0_turn_82 : decode cX0_turn 82 = .ok (.aload_n 0, 1) := dk_42 (dk_at dksX0_turn_3 13 rfl rfl)
theorem dX0_turn_83 : decode cX0_turn 83 = .ok (.aload 5, 2) := dk_25 5 (dk_at dksX0_turn_3 14 rfl rfl)
theorem dX0_turn_85 : decode cX0_turn 85 = .ok (.iload_n 2, 1) := dk_28 (dk_at dksX0_turn_3 16 rfl rfl)
theorem dX0_turn_86 : decode cX0_turn 86 = .ok (.invokevirtual 461, 3) := dk_182 1 205 (dk_at dksX0_turn_3 17 rfl rfl)
theorem dX0_turn_89 : decode cX0_turn 89 = .ok (.ireturn, 1) := dk_172 (dk_at dksX0_turn_3 20 rfl rfl)
abbrev cX0_walk : ByteArray := prog_1_method_68_code
def yX0_walk : MethodName := ⟨RX0, "walk", "(II)I"⟩
def dkwX0_walk_4 : List UInt8 := [180, 1, 180, 172]
abbrev dktX0_walk_4 : List UInt8 := dkwX0_walk_4 ++ []
def dkwX0_walk_3 : List UInt8 := [180, 2, 17, 16, 16, 160, 0, 8, 16, 253, 167, 0, 11, 16, 236, 25, 4, 180, 2, 17, 100, 172, 42]
abbrev dktX0_walk_3 : List UInt8 := dkwX0_walk_3 ++ dktX0_walk_4
def dkwX0_walk_2 : List UInt8 := [181, 1, 180, 42, 28, 181, 1, 183, 45, 180, 1, 212, 42, 182, 2, 14, 167, 0, 29, 58, 4, 25, 4]
abbrev dktX0_walk_2 : List UInt8 := dkwX0_walk_2 ++ dktX0_walk_3
def dkwX0_walk_1 : List UInt8 := [180, 1, 92, 27, 50, 78, 45, 198, 0, 10, 45, 182, 1, 219, 154, 0, 6, 16, 254, 172, 42, 3]
abbrev dktX0_walk_1 : List UInt8 := dkwX0_walk_1 ++ dktX0_walk_2
def dkwX0_walk_0 : List UInt8 := [27, 184, 1, 188, 153, 0, 15, 28, 133, 9, 20, 2, 12, 184, 1, 168, 154, 0, 5, 2, 172, 42]
abbrev dktX0_walk_0 : List UInt8 := dkwX0_walk_0 ++ dktX0_walk_1
theorem dksX0_walk_0 : cX0_walk.data.toList.drop 0 = dktX0_walk_0 := by decide +kernel
theorem dksX0_walk_1 : cX0_walk.data.toList.drop 22 = dktX0_walk_1 := dk_seg dksX0_walk_0 22 rfl rfl
theorem dksX0_walk_2 : cX0_walk.data.toList.drop 44 = dktX0_walk_2 := dk_seg dksX0_walk_1 22 rfl rfl
theorem dksX0_walk_3 : cX0_walk.data.toList.drop 67 = dktX0_walk_3 := dk_seg dksX0_walk_2 23 rfl rfl
theorem dksX0_walk_4 : cX0_walk.data.toList.drop 90 = dktX0_walk_4 := dk_seg dksX0_walk_3 23 rfl rfl
theorem dX0_walk_0 : decode cX0_walk 0 = .ok (.iload_n 1, 1) := dk_27 (dk_at dksX0_walk_0 0 rfl rfl)
theorem dX0_walk_1 : decode cX0_walk 1 = .ok (.invokestatic 444, 3) := dk_184 1 188 (dk_at dksX0_walk_0 1 rfl rfl)
theorem dX0_walk_4 : decode cX0_walk 4 = .ok (.ifCond .eq 15, 3) := dk_153 0 15 (dk_at dksX0_walk_0 4 rfl rfl)
theorem dX0_walk_7 : decode cX0_walk 7 = .ok (.iload_n 2, 1) := dk_28 (dk_at dksX0_walk_0 7 rfl rfl)
theorem dX0_walk_8 : decode cX0_walk 8 = .ok (.i2l, 1) := dk_133 (dk_at dksX0_walk_0 8 rfl rfl)
theorem dX0_walk_9 : decode cX0_walk 9 = .ok (.lconst 0, 1) := dk_9 (dk_at dksX0_walk_0 9 rfl rfl)
theorem dX0_walk_10 : decode cX0_walk 10 = .ok (.ldc2_w 524, 3) := dk_20 2 12 (dk_at dksX0_walk_0 10 rfl rfl)
theorem dX0_walk_13 : decode cX0_walk 13 = .ok (.invokestatic 424, 3) := dk_184 1 168 (dk_at dksX0_walk_0 13 rfl rfl)
theorem dX0_walk_16 : decode cX0_walk 16 = .ok (.ifCond .ne 5, 3) := dk_154 0 5 (dk_at dksX0_walk_0 16 rfl rfl)
theorem dX0_walk_19 : decode cX0_walk 19 = .ok (.iconst (-1), 1) := dk_2 (dk_at dksX0_walk_0 19 rfl rfl)
theorem dX0_walk_20 : decode cX0_walk 20 = .ok (.ireturn, 1) := dk_172 (dk_at dksX0_walk_0 20 rfl rfl)
theorem dX0_walk_21 : decode cX0_walk 21 = .ok (.aload_n 0, 1) := dk_42 (dk_at dksX0_walk_0 21 rfl rfl)
theorem dX0_walk_22 : decode cX0_walk 22 = .ok (.getfield 348, 3) := dk_180 1 92 (dk_at dksX0_walk_1 0 rfl rfl)
theorem dX0_walk_25 : decode cX0_walk 25 = .ok (.iload_n 1, 1) := dk_27 (dk_at dksX0_walk_1 3 rfl rfl)
theorem dX0_walk_26 : decode cX0_walk 26 = .ok (.aaload, 1) := dk_50 (dk_at dksX0_walk_1 4 rfl rfl)
theorem dX0_walk_27 : decode cX0_walk 27 = .ok (.astore_n 3, 1) := dk_78 (dk_at dksX0_walk_1 5 rfl rfl)
theorem dX0_walk_28 : decode cX0_walk 28 = .ok (.aload_n 3, 1) := dk_45 (dk_at dksX0_walk_1 6 rfl rfl)
theorem dX0_walk_29 : decode cX0_walk 29 = .ok (.ifnull 10, 3) := dk_198 0 10 (dk_at dksX0_walk_1 7 rfl rfl)
theorem dX0_walk_32 : decode cX0_walk 32 = .ok (.aload_n 3, 1) := dk_45 (dk_at dksX0_walk_1 10 rfl rfl)
theorem dX0_walk_33 : decode cX0_walk 33 = .ok (.invokevirtual 475, 3) := dk_182 1 219 (dk_at dksX0_walk_1 11 rfl rfl)
theorem dX0_walk_36 : decode cX0_walk 36 = .ok (.ifCond .ne 6, 3) := dk_154 0 6 (dk_at dksX0_walk_1 14 rfl rfl)
theorem dX0_walk_39 : decode cX0_walk 39 = .ok (.bipush (-2), 2) := dk_16 254 (dk_at dksX0_walk_1 17 rfl rfl)
theorem dX0_walk_41 : decode cX0_walk 41 = .ok (.ireturn, 1) := dk_172 (dk_at dksX0_walk_1 19 rfl rfl)
theorem dX0_walk_42 : decode cX0_walk 42 = .ok (.aload_n 0, 1) := dk_42 (dk_at dksX0_walk_1 20 rfl rfl)
theorem dX0_walk_43 : decode cX0_walk 43 = .ok (.iconst 0, 1) := dk_3 (dk_at dksX0_walk_1 21 rfl rfl)
theorem dX0_walk_44 : decode cX0_walk 44 = .ok (.putfield 436, 3) := dk_181 1 180 (dk_at dksX0_walk_2 0 rfl rfl)
theorem dX0_walk_47 : decode cX0_walk 47 = .ok (.aload_n 0, 1) := dk_42 (dk_at dksX0_walk_2 3 rfl rfl)
theorem dX0_walk_48 : decode cX0_walk 48 = .ok (.iload_n 2, 1) := dk_28 (dk_at dksX0_walk_2 4 rfl rfl)
theorem dX0_walk_49 : decode cX0_walk 49 = .ok (.putfield 439, 3) := dk_181 1 183 (dk_at dksX0_walk_2 5 rfl rfl)
theorem dX0_walk_52 : decode cX0_walk 52 = .ok (.aload_n 3, 1) := dk_45 (dk_at dksX0_walk_2 8 rfl rfl)
theorem dX0_walk_53 : decode cX0_walk 53 = .ok (.getfield 468, 3) := dk_180 1 212 (dk_at dksX0_walk_2 9 rfl rfl)
theorem dX0_walk_56 : decode cX0_walk 56 = .ok (.aload_n 0, 1) := dk_42 (dk_at dksX0_walk_2 12 rfl rfl)
theorem dX0_walk_57 : decode cX0_walk 57 = .ok (.invokevirtual 526, 3) := dk_182 2 14 (dk_at dksX0_walk_2 13 rfl rfl)
theorem dX0_walk_60 : decode cX0_walk 60 = .ok (.goto 29, 3) := dk_167 0 29 (dk_at dksX0_walk_2 16 rfl rfl)
theorem dX0_walk_63 : decode cX0_walk 63 = .ok (.astore 4, 2) := dk_58 4 (dk_at dksX0_walk_2 19 rfl rfl)
theorem dX0_walk_65 : decode cX0_walk 65 = .ok (.aload 4, 2) := dk_25 4 (dk_at dksX0_walk_2 21 rfl rfl)
theorem dX0_walk_67 : decode cX0_walk 67 = .ok (.getfield 529, 3) := dk_180 2 17 (dk_at dksX0_walk_3 0 rfl rfl)
theorem dX0_walk_70 : decode cX0_walk 70 = .ok (.bipush 16, 2) := dk_16 16 (dk_at dksX0_walk_3 3 rfl rfl)
theorem dX0_walk_72 : decode cX0_walk 72 = .ok (.if_icmp .ne 8, 3) := dk_160 0 8 (dk_at dksX0_walk_3 5 rfl rfl)
theorem dX0_walk_75 : decode cX0_walk 75 = .ok (.bipush (-3), 2) := dk_16 253 (dk_at dksX0_walk_3 8 rfl rfl)
theorem dX0_walk_77 : decode cX0_walk 77 = .ok (.goto 11, 3) := dk_167 0 11 (dk_at dksX0_walk_3 10 rfl rfl)
theorem dX0_walk_80 : decode cX0_walk 80 = .ok (.bipush (-20), 2) := dk_16 236 (dk_at dksX0_walk_3 13 rfl rfl)
theorem dX0_walk_82 : decode cX0_walk 82 = .ok (.aload 4, 2) := dk_25 4 (dk_at dksX0_walk_3 15 rfl rfl)
theorem dX0_walk_84 : decode cX0_walk 84 = .ok (.getfield 529, 3) := dk_180 2 17 (dk_at dksX0_walk_3 17 rfl rfl)
theorem dX0_walk_87 : decode cX0_walk 87 = .ok (.isub, 1) := dk_100 (dk_at dksX0_walk_3 20 rfl rfl)
theorem dX0_walk_88 : decode cX0_walk 88 = .ok (.ireturn, 1) := dk_172 (dk_at dksX0_walk_3 21 rfl rfl)
theorem dX0_walk_89 : decode cX0_walk 89 = .ok (.aload_n 0, 1) := dk_42 (dk_at dksX0_walk_3 22 rfl rfl)
theorem dX0_walk_90 : decode cX0_walk 90 = .ok (.getfield 436, 3) := dk_180 1 180 (dk_at dksX0_walk_4 0 rfl rfl)
theorem dX0_walk_93 : decode cX0_walk 93 = .ok (.ireturn, 1) := dk_172 (dk_at dksX0_walk_4 3 rfl rfl)
abbrev cX0_move : ByteArray := prog_1_method_44_code
def yX0_move : MethodName := ⟨RX0, "move", "()V"⟩
def dkwX0_move_1 : List UInt8 := [4, 96, 181, 1, 180, 177]
abbrev dktX0_move_1 : List UInt8 := dkwX0_move_1 ++ []
def dkwX0_move_0 : List UInt8 := [42, 180, 1, 180, 42, 180, 1, 183, 160, 0, 11, 42, 180, 1, 86, 16, 16, 50, 191, 42, 89, 180, 1, 180]
abbrev dktX0_move_0 : List UInt8 := dkwX0_move_0 ++ dktX0_move_1
theorem dksX0_move_0 : cX0_move.data.toList.drop 0 = dktX0_move_0 := by decide +kernel
theorem dksX0_move_1 : cX0_move.data.toList.drop 24 = dktX0_move_1 := dk_seg dksX0_move_0 24 rfl rfl
theorem dX0_move_0 : decode cX0_move 0 = .ok (.aload_n 0, 1) := dk_42 (dk_at dksX0_move_0 0 rfl rfl)
theorem dX0_move_1 : decode cX0_move 1 = .ok (.getfield 436, 3) := dk_180 1 180 (dk_at dksX0_move_0 1 rfl rfl)
theorem dX0_move_4 : decode cX0_move 4 = .ok (.aload_n 0, 1) := dk_42 (dk_at dksX0_move_0 4 rfl rfl)
theorem dX0_move_5 : decode cX0_move 5 = .ok (.getfield 439, 3) := dk_180 1 183 (dk_at dksX0_move_0 5 rfl rfl)
theorem dX0_move_8 : decode cX0_move 8 = .ok (.if_icmp .ne 11, 3) := dk_160 0 11 (dk_at dksX0_move_0 8 rfl rfl)
theorem dX0_move_11 : decode cX0_move 11 = .ok (.aload_n 0, 1) := dk_42 (dk_at dksX0_move_0 11 rfl rfl)
theorem dX0_move_12 : decode cX0_move 12 = .ok (.getfield 342, 3) := dk_180 1 86 (dk_at dksX0_move_0 12 rfl rfl)
theorem dX0_move_15 : decode cX0_move 15 = .ok (.bipush 16, 2) := dk_16 16 (dk_at dksX0_move_0 15 rfl rfl)
theorem dX0_move_17 : decode cX0_move 17 = .ok (.aaload, 1) := dk_50 (dk_at dksX0_move_0 17 rfl rfl)
theorem dX0_move_18 : decode cX0_move 18 = .ok (.athrow, 1) := dk_191 (dk_at dksX0_move_0 18 rfl rfl)
theorem dX0_move_19 : decode cX0_move 19 = .ok (.aload_n 0, 1) := dk_42 (dk_at dksX0_move_0 19 rfl rfl)
theorem dX0_move_20 : decode cX0_move 20 = .ok (.dup, 1) := dk_89 (dk_at dksX0_move_0 20 rfl rfl)
theorem dX0_move_21 : decode cX0_move 21 = .ok (.getfield 436, 3) := dk_180 1 180 (dk_at dksX0_move_0 21 rfl rfl)
theorem dX0_move_24 : decode cX0_move 24 = .ok (.iconst 1, 1) := dk_4 (dk_at dksX0_move_1 0 rfl rfl)
theorem dX0_move_25 : decode cX0_move 25 = .ok (.iadd, 1) := dk_96 (dk_at dksX0_move_1 1 rfl rfl)
theorem dX0_move_26 : decode cX0_move 26 = .ok (.putfield 436, 3) := dk_181 1 180 (dk_at dksX0_move_1 2 rfl rfl)
theorem dX0_move_29 : decode cX0_move 29 = .ok (.return_, 1) := dk_177 (dk_at dksX0_move_1 5 rfl rfl)
abbrev cX0_readName : ByteArray := prog_1_method_40_code
def yX0_readName : MethodName := ⟨RX0, "readName", "(LThereAndBack$Name;)J"⟩
def dkwX0_readName_2 : List UInt8 := [173]
abbrev dktX0_readName_2 : List UInt8 := dkwX0_readName_2 ++ []
def dkwX0_readName_1 : List UInt8 := [180, 1, 131, 160, 0, 11, 42, 180, 1, 86, 16, 6, 50, 191, 42, 180, 1, 100, 43, 180, 1, 160, 46, 133]
abbrev dktX0_readName_1 : List UInt8 := dkwX0_readName_1 ++ dktX0_readName_2
def dkwX0_readName_0 : List UInt8 := [42, 180, 1, 96, 43, 180, 1, 160, 51, 154, 0, 10, 42, 180, 1, 86, 4, 50, 191, 43, 180, 1, 160, 42]
abbrev dktX0_readName_0 : List UInt8 := dkwX0_readName_0 ++ dktX0_readName_1
theorem dksX0_readName_0 : cX0_readName.data.toList.drop 0 = dktX0_readName_0 := by decide +kernel
theorem dksX0_readName_1 : cX0_readName.data.toList.drop 24 = dktX0_readName_1 := dk_seg dksX0_readName_0 24 rfl rfl
theorem dksX0_readName_2 : cX0_readName.data.toList.drop 48 = dktX0_readName_2 := dk_seg dksX0_readName_1 24 rfl rfl
theorem dX0_readName_0 : decode cX0_readName 0 = .ok (.aload_n 0, 1) := dk_42 (dk_at dksX0_readName_0 0 rfl rfl)
theorem dX0_readName_1 : decode cX0_readName 1 = .ok (.getfield 352, 3) := dk_180 1 96 (dk_at dksX0_readName_0 1 rfl rfl)
theorem dX0_readName_4 : decode cX0_readName 4 = .ok (.aload_n 1, 1) := dk_43 (dk_at dksX0_readName_0 4 rfl rfl)
theorem dX0_readName_5 : decode cX0_readName 5 = .ok (.getfield 416, 3) := dk_180 1 160 (dk_at dksX0_readName_0 5 rfl rfl)
theorem dX0_readName_8 : decode cX0_readName 8 = .ok (.baload, 1) := dk_51 (dk_at dksX0_readName_0 8 rfl rfl)
theorem dX0_readName_9 : decode cX0_readName 9 = .ok (.ifCond .ne 10, 3) := dk_154 0 10 (dk_at dksX0_readName_0 9 rfl rfl)
theorem dX0_readName_12 : decode cX0_readName 12 = .ok (.aload_n 0, 1) := dk_42 (dk_at dksX0_readName_0 12 rfl rfl)
theorem dX0_readName_13 : decode cX0_readName 13 = .ok (.getfield 342, 3) := dk_180 1 86 (dk_at dksX0_readName_0 13 rfl rfl)
theorem dX0_readName_16 : decode cX0_readName 16 = .ok (.iconst 1, 1) := dk_4 (dk_at dksX0_readName_0 16 rfl rfl)
theorem dX0_readName_17 : decode cX0_readName 17 = .ok (.aaload, 1) := dk_50 (dk_at dksX0_readName_0 17 rfl rfl)
theorem dX0_readName_18 : decode cX0_readName 18 = .ok (.athrow, 1) := dk_191 (dk_at dksX0_readName_0 18 rfl rfl)
theorem dX0_readName_19 : decode cX0_readName 19 = .ok (.aload_n 1, 1) := dk_43 (dk_at dksX0_readName_0 19 rfl rfl)
theorem dX0_readName_20 : decode cX0_readName 20 = .ok (.getfield 416, 3) := dk_180 1 160 (dk_at dksX0_readName_0 20 rfl rfl)
theorem dX0_readName_23 : decode cX0_readName 23 = .ok (.aload_n 0, 1) := dk_42 (dk_at dksX0_readName_0 23 rfl rfl)
theorem dX0_readName_24 : decode cX0_readName 24 = .ok (.getfield 387, 3) := dk_180 1 131 (dk_at dksX0_readName_1 0 rfl rfl)
theorem dX0_readName_27 : decode cX0_readName 27 = .ok (.if_icmp .ne 11, 3) := dk_160 0 11 (dk_at dksX0_readName_1 3 rfl rfl)
theorem dX0_readName_30 : decode cX0_readName 30 = .ok (.aload_n 0, 1) := dk_42 (dk_at dksX0_readName_1 6 rfl rfl)
theorem dX0_readName_31 : decode cX0_readName 31 = .ok (.getfield 342, 3) := dk_180 1 86 (dk_at dksX0_readName_1 7 rfl rfl)
theorem dX0_readName_34 : decode cX0_readName 34 = .ok (.bipush 6, 2) := dk_16 6 (dk_at dksX0_readName_1 10 rfl rfl)
theorem dX0_readName_36 : decode cX0_readName 36 = .ok (.aaload, 1) := dk_50 (dk_at dksX0_readName_1 12 rfl rfl)
theorem dX0_readName_37 : decode cX0_readName 37 = .ok (.athrow, 1) := dk_191 (dk_at dksX0_readName_1 13 rfl rfl)
theorem dX0_readName_38 : decode cX0_readName 38 = .ok (.aload_n 0, 1) := dk_42 (dk_at dksX0_readName_1 14 rfl rfl)
theorem dX0_readName_39 : decode cX0_readName 39 = .ok (.getfield 356, 3) := dk_180 1 100 (dk_at dksX0_readName_1 15 rfl rfl)
theorem dX0_readName_42 : decode cX0_readName 42 = .ok (.aload_n 1, 1) := dk_43 (dk_at dksX0_readName_1 18 rfl rfl)
theorem dX0_readName_43 : decode cX0_readName 43 = .ok (.getfield 416, 3) := dk_180 1 160 (dk_at dksX0_readName_1 19 rfl rfl)
theorem dX0_readName_46 : decode cX0_readName 46 = .ok (.iaload, 1) := dk_46 (dk_at dksX0_readName_1 22 rfl rfl)
theorem dX0_readName_47 : decode cX0_readName 47 = .ok (.i2l, 1) := dk_133 (dk_at dksX0_readName_1 23 rfl rfl)
theorem dX0_readName_48 : decode cX0_readName 48 = .ok (.lreturn, 1) := dk_173 (dk_at dksX0_readName_2 0 rfl rfl)
abbrev cX0_rowOf : ByteArray := prog_1_method_41_code
def yX0_rowOf : MethodName := ⟨RX0, "rowOf", "(I)LThereAndBack$Holder;"⟩
def dkwX0_rowOf_1 : List UInt8 := [50, 176]
abbrev dktX0_rowOf_1 : List UInt8 := dkwX0_rowOf_1 ++ []
def dkwX0_rowOf_0 : List UInt8 := [42, 180, 1, 106, 27, 50, 180, 1, 151, 199, 0, 10, 42, 180, 1, 86, 5, 50, 191, 42, 180, 1, 106, 27]
abbrev dktX0_rowOf_0 : List UInt8 := dkwX0_rowOf_0 ++ dktX0_rowOf_1
theorem dksX0_rowOf_0 : cX0_rowOf.data.toList.drop 0 = dktX0_rowOf_0 := by decide +kernel
theorem dksX0_rowOf_1 : cX0_rowOf.data.toList.drop 24 = dktX0_rowOf_1 := dk_seg dksX0_rowOf_0 24 rfl rfl
theorem dX0_rowOf_0 : decode cX0_rowOf 0 = .ok (.aload_n 0, 1) := dk_42 (dk_at dksX0_rowOf_0 0 rfl rfl)
theorem dX0_rowOf_1 : decode cX0_rowOf 1 = .ok (.getfield 362, 3) := dk_180 1 106 (dk_at dksX0_rowOf_0 1 rfl rfl)
theorem dX0_rowOf_4 : decode cX0_rowOf 4 = .ok (.iload_n 1, 1) := dk_27 (dk_at dksX0_rowOf_0 4 rfl rfl)
theorem dX0_rowOf_5 : decode cX0_rowOf 5 = .ok (.aaload, 1) := dk_50 (dk_at dksX0_rowOf_0 5 rfl rfl)
theorem dX0_rowOf_6 : decode cX0_rowOf 6 = .ok (.getfield 407, 3) := dk_180 1 151 (dk_at dksX0_rowOf_0 6 rfl rfl)
theorem dX0_rowOf_9 : decode cX0_rowOf 9 = .ok (.ifnonnull 10, 3) := dk_199 0 10 (dk_at dksX0_rowOf_0 9 rfl rfl)
theorem dX0_rowOf_12 : decode cX0_rowOf 12 = .ok (.aload_n 0, 1) := dk_42 (dk_at dksX0_rowOf_0 12 rfl rfl)
theorem dX0_rowOf_13 : decode cX0_rowOf 13 = .ok (.getfield 342, 3) := dk_180 1 86 (dk_at dksX0_rowOf_0 13 rfl rfl)
theorem dX0_rowOf_16 : decode cX0_rowOf 16 = .ok (.iconst 2, 1) := dk_5 (dk_at dksX0_rowOf_0 16 rfl rfl)
theorem dX0_rowOf_17 : decode cX0_rowOf 17 = .ok (.aaload, 1) := dk_50 (dk_at dksX0_rowOf_0 17 rfl rfl)
theorem dX0_rowOf_18 : decode cX0_rowOf 18 = .ok (.athrow, 1) := dk_191 (dk_at dksX0_rowOf_0 18 rfl rfl)
theorem dX0_rowOf_19 : decode cX0_rowOf 19 = .ok (.aload_n 0, 1) := dk_42 (dk_at dksX0_rowOf_0 19 rfl rfl)
theorem dX0_rowOf_20 : decode cX0_rowOf 20 = .ok (.getfield 362, 3) := dk_180 1 106 (dk_at dksX0_rowOf_0 20 rfl rfl)
theorem dX0_rowOf_23 : decode cX0_rowOf 23 = .ok (.iload_n 1, 1) := dk_27 (dk_at dksX0_rowOf_0 23 rfl rfl)
theorem dX0_rowOf_24 : decode cX0_rowOf 24 = .ok (.aaload, 1) := dk_50 (dk_at dksX0_rowOf_1 0 rfl rfl)
theorem dX0_rowOf_25 : decode cX0_rowOf 25 = .ok (.areturn, 1) := dk_176 (dk_at dksX0_rowOf_1 1 rfl rfl)
abbrev cX0_readItem : ByteArray := prog_1_method_43_code
def yX0_readItem : MethodName := ⟨RX0, "readItem", "(IJ)J"⟩
def dkwX0_readItem_2 : List UInt8 := [21, 4, 182, 1, 176, 173]
abbrev dktX0_readItem_2 : List UInt8 := dkwX0_readItem_2 ++ []
def dkwX0_readItem_1 : List UInt8 := [21, 4, 42, 180, 1, 157, 160, 0, 11, 42, 180, 1, 86, 16, 6, 50, 191, 42, 180, 1, 106, 27, 50]
abbrev dktX0_readItem_1 : List UInt8 := dkwX0_readItem_1 ++ dktX0_readItem_2
def dkwX0_readItem_0 : List UInt8 := [42, 27, 32, 182, 1, 172, 54, 4, 42, 180, 1, 106, 27, 50, 180, 1, 151, 42, 180, 1, 154, 166, 0, 20]
abbrev dktX0_readItem_0 : List UInt8 := dkwX0_readItem_0 ++ dktX0_readItem_1
theorem dksX0_readItem_0 : cX0_readItem.data.toList.drop 0 = dktX0_readItem_0 := by decide +kernel
theorem dksX0_readItem_1 : cX0_readItem.data.toList.drop 24 = dktX0_readItem_1 := dk_seg dksX0_readItem_0 24 rfl rfl
theorem dksX0_readItem_2 : cX0_readItem.data.toList.drop 47 = dktX0_readItem_2 := dk_seg dksX0_readItem_1 23 rfl rfl
theorem dX0_readItem_0 : decode cX0_readItem 0 = .ok (.aload_n 0, 1) := dk_42 (dk_at dksX0_readItem_0 0 rfl rfl)
theorem dX0_readItem_1 : decode cX0_readItem 1 = .ok (.iload_n 1, 1) := dk_27 (dk_at dksX0_readItem_0 1 rfl rfl)
theorem dX0_readItem_2 : decode cX0_readItem 2 = .ok (.lload_n 2, 1) := dk_32 (dk_at dksX0_readItem_0 2 rfl rfl)
theorem dX0_readItem_3 : decode cX0_readItem 3 = .ok (.invokevirtual 428, 3) := dk_182 1 172 (dk_at dksX0_readItem_0 3 rfl rfl)
theorem dX0_readItem_6 : decode cX0_readItem 6 = .ok (.istore 4, 2) := dk_54 4 (dk_at dksX0_readItem_0 6 rfl rfl)
theorem dX0_readItem_8 : decode cX0_readItem 8 = .ok (.aload_n 0, 1) := dk_42 (dk_at dksX0_readItem_0 8 rfl rfl)
theorem dX0_readItem_9 : decode cX0_readItem 9 = .ok (.getfield 362, 3) := dk_180 1 106 (dk_at dksX0_readItem_0 9 rfl rfl)
theorem dX0_readItem_12 : decode cX0_readItem 12 = .ok (.iload_n 1, 1) := dk_27 (dk_at dksX0_readItem_0 12 rfl rfl)
theorem dX0_readItem_13 : decode cX0_readItem 13 = .ok (.aaload, 1) := dk_50 (dk_at dksX0_readItem_0 13 rfl rfl)
theorem dX0_readItem_14 : decode cX0_readItem 14 = .ok (.getfield 407, 3) := dk_180 1 151 (dk_at dksX0_readItem_0 14 rfl rfl)
theorem dX0_readItem_17 : decode cX0_readItem 17 = .ok (.aload_n 0, 1) := dk_42 (dk_at dksX0_readItem_0 17 rfl rfl)
theorem dX0_readItem_18 : decode cX0_readItem 18 = .ok (.getfield 410, 3) := dk_180 1 154 (dk_at dksX0_readItem_0 18 rfl rfl)
theorem dX0_readItem_21 : decode cX0_readItem 21 = .ok (.if_acmp .ne 20, 3) := dk_166 0 20 (dk_at dksX0_readItem_0 21 rfl rfl)
theorem dX0_readItem_24 : decode cX0_readItem 24 = .ok (.iload 4, 2) := dk_21 4 (dk_at dksX0_readItem_1 0 rfl rfl)
theorem dX0_readItem_26 : decode cX0_readItem 26 = .ok (.aload_n 0, 1) := dk_42 (dk_at dksX0_readItem_1 2 rfl rfl)
theorem dX0_readItem_27 : decode cX0_readItem 27 = .ok (.getfield 413, 3) := dk_180 1 157 (dk_at dksX0_readItem_1 3 rfl rfl)
theorem dX0_readItem_30 : decode cX0_readItem 30 = .ok (.if_icmp .ne 11, 3) := dk_160 0 11 (dk_at dksX0_readItem_1 6 rfl rfl)
theorem dX0_readItem_33 : decode cX0_readItem 33 = .ok (.aload_n 0, 1) := dk_42 (dk_at dksX0_readItem_1 9 rfl rfl)
theorem dX0_readItem_34 : decode cX0_readItem 34 = .ok (.getfield 342, 3) := dk_180 1 86 (dk_at dksX0_readItem_1 10 rfl rfl)
theorem dX0_readItem_37 : decode cX0_readItem 37 = .ok (.bipush 6, 2) := dk_16 6 (dk_at dksX0_readItem_1 13 rfl rfl)
theorem dX0_readItem_39 : decode cX0_readItem 39 = .ok (.aaload, 1) := dk_50 (dk_at dksX0_readItem_1 15 rfl rfl)
theorem dX0_readItem_40 : decode cX0_readItem 40 = .ok (.athrow, 1) := dk_191 (dk_at dksX0_readItem_1 16 rfl rfl)
theorem dX0_readItem_41 : decode cX0_readItem 41 = .ok (.aload_n 0, 1) := dk_42 (dk_at dksX0_readItem_1 17 rfl rfl)
theorem dX0_readItem_42 : decode cX0_readItem 42 = .ok (.getfield 362, 3) := dk_180 1 106 (dk_at dksX0_readItem_1 18 rfl rfl)
theorem dX0_readItem_45 : decode cX0_readItem 45 = .ok (.iload_n 1, 1) := dk_27 (dk_at dksX0_readItem_1 21 rfl rfl)
theorem dX0_readItem_46 : decode cX0_readItem 46 = .ok (.aaload, 1) := dk_50 (dk_at dksX0_readItem_1 22 rfl rfl)
theorem dX0_readItem_47 : decode cX0_readItem 47 = .ok (.iload 4, 2) := dk_21 4 (dk_at dksX0_readItem_2 0 rfl rfl)
theorem dX0_readItem_49 : decode cX0_readItem 49 = .ok (.invokevirtual 432, 3) := dk_182 1 176 (dk_at dksX0_readItem_2 2 rfl rfl)
theorem dX0_readItem_52 : decode cX0_readItem 52 = .ok (.lreturn, 1) := dk_173 (dk_at dksX0_readItem_2 5 rfl rfl)
abbrev cX0_placeOf : ByteArray := prog_1_method_42_code
def yX0_placeOf : MethodName := ⟨RX0, "placeOf", "(IJ)I"⟩
def dkwX0_placeOf_1 : List UInt8 := [50, 191, 32, 136, 172]
abbrev dktX0_placeOf_1 : List UInt8 := dkwX0_placeOf_1 ++ []
def dkwX0_placeOf_0 : List UInt8 := [32, 9, 42, 27, 182, 1, 161, 182, 1, 165, 4, 100, 133, 184, 1, 168, 154, 0, 10, 42, 180, 1, 86, 6]
abbrev dktX0_placeOf_0 : List UInt8 := dkwX0_placeOf_0 ++ dktX0_placeOf_1
theorem dksX0_placeOf_0 : cX0_placeOf.data.toList.drop 0 = dktX0_placeOf_0 := by decide +kernel
theorem dksX0_placeOf_1 : cX0_placeOf.data.toList.drop 24 = dktX0_placeOf_1 := dk_seg dksX0_placeOf_0 24 rfl rfl
theorem dX0_placeOf_0 : decode cX0_placeOf 0 = .ok (.lload_n 2, 1) := dk_32 (dk_at dksX0_placeOf_0 0 rfl rfl)
theorem dX0_placeOf_1 : decode cX0_placeOf 1 = .ok (.lconst 0, 1) := dk_9 (dk_at dksX0_placeOf_0 1 rfl rfl)
theorem dX0_placeOf_2 : decode cX0_placeOf 2 = .ok (.aload_n 0, 1) := dk_42 (dk_at dksX0_placeOf_0 2 rfl rfl)
theorem dX0_placeOf_3 : decode cX0_placeOf 3 = .ok (.iload_n 1, 1) := dk_27 (dk_at dksX0_placeOf_0 3 rfl rfl)
theorem dX0_placeOf_4 : decode cX0_placeOf 4 = .ok (.invokevirtual 417, 3) := dk_182 1 161 (dk_at dksX0_placeOf_0 4 rfl rfl)
theorem dX0_placeOf_7 : decode cX0_placeOf 7 = .ok (.invokevirtual 421, 3) := dk_182 1 165 (dk_at dksX0_placeOf_0 7 rfl rfl)
theorem dX0_placeOf_10 : decode cX0_placeOf 10 = .ok (.iconst 1, 1) := dk_4 (dk_at dksX0_placeOf_0 10 rfl rfl)
theorem dX0_placeOf_11 : decode cX0_placeOf 11 = .ok (.isub, 1) := dk_100 (dk_at dksX0_placeOf_0 11 rfl rfl)
theorem dX0_placeOf_12 : decode cX0_placeOf 12 = .ok (.i2l, 1) := dk_133 (dk_at dksX0_placeOf_0 12 rfl rfl)
theorem dX0_placeOf_13 : decode cX0_placeOf 13 = .ok (.invokestatic 424, 3) := dk_184 1 168 (dk_at dksX0_placeOf_0 13 rfl rfl)
theorem dX0_placeOf_16 : decode cX0_placeOf 16 = .ok (.ifCond .ne 10, 3) := dk_154 0 10 (dk_at dksX0_placeOf_0 16 rfl rfl)
theorem dX0_placeOf_19 : decode cX0_placeOf 19 = .ok (.aload_n 0, 1) := dk_42 (dk_at dksX0_placeOf_0 19 rfl rfl)
theorem dX0_placeOf_20 : decode cX0_placeOf 20 = .ok (.getfield 342, 3) := dk_180 1 86 (dk_at dksX0_placeOf_0 20 rfl rfl)
theorem dX0_placeOf_23 : decode cX0_placeOf 23 = .ok (.iconst 3, 1) := dk_6 (dk_at dksX0_placeOf_0 23 rfl rfl)
theorem dX0_placeOf_24 : decode cX0_placeOf 24 = .ok (.aaload, 1) := dk_50 (dk_at dksX0_placeOf_1 0 rfl rfl)
theorem dX0_placeOf_25 : decode cX0_placeOf 25 = .ok (.athrow, 1) := dk_191 (dk_at dksX0_placeOf_1 1 rfl rfl)
theorem dX0_placeOf_26 : decode cX0_placeOf 26 = .ok (.lload_n 2, 1) := dk_32 (dk_at dksX0_placeOf_1 2 rfl rfl)
theorem dX0_placeOf_27 : decode cX0_placeOf 27 = .ok (.l2i, 1) := dk_136 (dk_at dksX0_placeOf_1 3 rfl rfl)
theorem dX0_placeOf_28 : decode cX0_placeOf 28 = .ok (.ireturn, 1) := dk_172 (dk_at dksX0_placeOf_1 4 rfl rfl)
abbrev cX0_wipe : ByteArray := prog_1_method_69_code
def yX0_wipe : MethodName := ⟨RX0, "wipe", "()I"⟩
def dkwX0_wipe_4 : List UInt8 := [3, 79, 132, 2, 1, 167, 255, 241, 42, 2, 181, 1, 119, 27, 172]
abbrev dktX0_wipe_4 : List UInt8 := dkwX0_wipe_4 ++ []
def dkwX0_wipe_3 : List UInt8 := [28, 50, 1, 181, 1, 151, 132, 2, 1, 167, 255, 217, 3, 61, 28, 7, 162, 0, 16, 42, 180, 1, 113, 28]
abbrev dktX0_wipe_3 : List UInt8 := dkwX0_wipe_3 ++ dktX0_wipe_4
def dkwX0_wipe_2 : List UInt8 := [27, 42, 180, 1, 106, 28, 50, 180, 1, 151, 199, 0, 7, 3, 167, 0, 4, 4, 96, 60, 42, 180, 1, 106]
abbrev dktX0_wipe_2 : List UInt8 := dkwX0_wipe_2 ++ dktX0_wipe_3
def dkwX0_wipe_1 : List UInt8 := [3, 96, 60, 42, 180, 1, 96, 28, 3, 84, 132, 2, 1, 167, 255, 223, 3, 61, 28, 16, 6, 162, 0, 39]
abbrev dktX0_wipe_1 : List UInt8 := dkwX0_wipe_1 ++ dktX0_wipe_2
def dkwX0_wipe_0 : List UInt8 := [3, 60, 3, 61, 28, 16, 26, 162, 0, 33, 27, 42, 180, 1, 96, 28, 51, 153, 0, 7, 4, 167, 0, 4]
abbrev dktX0_wipe_0 : List UInt8 := dkwX0_wipe_0 ++ dktX0_wipe_1
theorem dksX0_wipe_0 : cX0_wipe.data.toList.drop 0 = dktX0_wipe_0 := by decide +kernel
theorem dksX0_wipe_1 : cX0_wipe.data.toList.drop 24 = dktX0_wipe_1 := dk_seg dksX0_wipe_0 24 rfl rfl
theorem dksX0_wipe_2 : cX0_wipe.data.toList.drop 48 = dktX0_wipe_2 := dk_seg dksX0_wipe_1 24 rfl rfl
theorem dksX0_wipe_3 : cX0_wipe.data.toList.drop 72 = dktX0_wipe_3 := dk_seg dksX0_wipe_2 24 rfl rfl
theorem dksX0_wipe_4 : cX0_wipe.data.toList.drop 96 = dktX0_wipe_4 := dk_seg dksX0_wipe_3 24 rfl rfl
theorem dX0_wipe_0 : decode cX0_wipe 0 = .ok (.iconst 0, 1) := dk_3 (dk_at dksX0_wipe_0 0 rfl rfl)
theorem dX0_wipe_1 : decode cX0_wipe 1 = .ok (.istore_n 1, 1) := dk_60 (dk_at dksX0_wipe_0 1 rfl rfl)
theorem dX0_wipe_2 : decode cX0_wipe 2 = .ok (.iconst 0, 1) := dk_3 (dk_at dksX0_wipe_0 2 rfl rfl)
theorem dX0_wipe_3 : decode cX0_wipe 3 = .ok (.istore_n 2, 1) := dk_61 (dk_at dksX0_wipe_0 3 rfl rfl)
theorem dX0_wipe_4 : decode cX0_wipe 4 = .ok (.iload_n 2, 1) := dk_28 (dk_at dksX0_wipe_0 4 rfl rfl)
theorem dX0_wipe_5 : decode cX0_wipe 5 = .ok (.bipush 26, 2) := dk_16 26 (dk_at dksX0_wipe_0 5 rfl rfl)
theorem dX0_wipe_7 : decode cX0_wipe 7 = .ok (.if_icmp .ge 33, 3) := dk_162 0 33 (dk_at dksX0_wipe_0 7 rfl rfl)
theorem dX0_wipe_10 : decode cX0_wipe 10 = .ok (.iload_n 1, 1) := dk_27 (dk_at dksX0_wipe_0 10 rfl rfl)
theorem dX0_wipe_11 : decode cX0_wipe 11 = .ok (.aload_n 0, 1) := dk_42 (dk_at dksX0_wipe_0 11 rfl rfl)
theorem dX0_wipe_12 : decode cX0_wipe 12 = .ok (.getfield 352, 3) := dk_180 1 96 (dk_at dksX0_wipe_0 12 rfl rfl)
theorem dX0_wipe_15 : decode cX0_wipe 15 = .ok (.iload_n 2, 1) := dk_28 (dk_at dksX0_wipe_0 15 rfl rfl)
theorem dX0_wipe_16 : decode cX0_wipe 16 = .ok (.baload, 1) := dk_51 (dk_at dksX0_wipe_0 16 rfl rfl)
theorem dX0_wipe_17 : decode cX0_wipe 17 = .ok (.ifCond .eq 7, 3) := dk_153 0 7 (dk_at dksX0_wipe_0 17 rfl rfl)
theorem dX0_wipe_20 : decode cX0_wipe 20 = .ok (.iconst 1, 1) := dk_4 (dk_at dksX0_wipe_0 20 rfl rfl)
theorem dX0_wipe_21 : decode cX0_wipe 21 = .ok (.goto 4, 3) := dk_167 0 4 (dk_at dksX0_wipe_0 21 rfl rfl)
theorem dX0_wipe_24 : decode cX0_wipe 24 = .ok (.iconst 0, 1) := dk_3 (dk_at dksX0_wipe_1 0 rfl rfl)
theorem dX0_wipe_25 : decode cX0_wipe 25 = .ok (.iadd, 1) := dk_96 (dk_at dksX0_wipe_1 1 rfl rfl)
theorem dX0_wipe_26 : decode cX0_wipe 26 = .ok (.istore_n 1, 1) := dk_60 (dk_at dksX0_wipe_1 2 rfl rfl)
theorem dX0_wipe_27 : decode cX0_wipe 27 = .ok (.aload_n 0, 1) := dk_42 (dk_at dksX0_wipe_1 3 rfl rfl)
theorem dX0_wipe_28 : decode cX0_wipe 28 = .ok (.getfield 352, 3) := dk_180 1 96 (dk_at dksX0_wipe_1 4 rfl rfl)
theorem dX0_wipe_31 : decode cX0_wipe 31 = .ok (.iload_n 2, 1) := dk_28 (dk_at dksX0_wipe_1 7 rfl rfl)
theorem dX0_wipe_32 : decode cX0_wipe 32 = .ok (.iconst 0, 1) := dk_3 (dk_at dksX0_wipe_1 8 rfl rfl)
theorem dX0_wipe_33 : decode cX0_wipe 33 = .ok (.bastore, 1) := dk_84 (dk_at dksX0_wipe_1 9 rfl rfl)
theorem dX0_wipe_34 : decode cX0_wipe 34 = .ok (.iinc 2 1, 3) := dk_132 2 1 (dk_at dksX0_wipe_1 10 rfl rfl)
theorem dX0_wipe_37 : decode cX0_wipe 37 = .ok (.goto (-33), 3) := dk_167 255 223 (dk_at dksX0_wipe_1 13 rfl rfl)
theorem dX0_wipe_40 : decode cX0_wipe 40 = .ok (.iconst 0, 1) := dk_3 (dk_at dksX0_wipe_1 16 rfl rfl)
theorem dX0_wipe_41 : decode cX0_wipe 41 = .ok (.istore_n 2, 1) := dk_61 (dk_at dksX0_wipe_1 17 rfl rfl)
theorem dX0_wipe_42 : decode cX0_wipe 42 = .ok (.iload_n 2, 1) := dk_28 (dk_at dksX0_wipe_1 18 rfl rfl)
theorem dX0_wipe_43 : decode cX0_wipe 43 = .ok (.bipush 6, 2) := dk_16 6 (dk_at dksX0_wipe_1 19 rfl rfl)
theorem dX0_wipe_45 : decode cX0_wipe 45 = .ok (.if_icmp .ge 39, 3) := dk_162 0 39 (dk_at dksX0_wipe_1 21 rfl rfl)
theorem dX0_wipe_48 : decode cX0_wipe 48 = .ok (.iload_n 1, 1) := dk_27 (dk_at dksX0_wipe_2 0 rfl rfl)
theorem dX0_wipe_49 : decode cX0_wipe 49 = .ok (.aload_n 0, 1) := dk_42 (dk_at dksX0_wipe_2 1 rfl rfl)
theorem dX0_wipe_50 : decode cX0_wipe 50 = .ok (.getfield 362, 3) := dk_180 1 106 (dk_at dksX0_wipe_2 2 rfl rfl)
theorem dX0_wipe_53 : decode cX0_wipe 53 = .ok (.iload_n 2, 1) := dk_28 (dk_at dksX0_wipe_2 5 rfl rfl)
theorem dX0_wipe_54 : decode cX0_wipe 54 = .ok (.aaload, 1) := dk_50 (dk_at dksX0_wipe_2 6 rfl rfl)
theorem dX0_wipe_55 : decode cX0_wipe 55 = .ok (.getfield 407, 3) := dk_180 1 151 (dk_at dksX0_wipe_2 7 rfl rfl)
theorem dX0_wipe_58 : decode cX0_wipe 58 = .ok (.ifnonnull 7, 3) := dk_199 0 7 (dk_at dksX0_wipe_2 10 rfl rfl)
theorem dX0_wipe_61 : decode cX0_wipe 61 = .ok (.iconst 0, 1) := dk_3 (dk_at dksX0_wipe_2 13 rfl rfl)
theorem dX0_wipe_62 : decode cX0_wipe 62 = .ok (.goto 4, 3) := dk_167 0 4 (dk_at dksX0_wipe_2 14 rfl rfl)
theorem dX0_wipe_65 : decode cX0_wipe 65 = .ok (.iconst 1, 1) := dk_4 (dk_at dksX0_wipe_2 17 rfl rfl)
theorem dX0_wipe_66 : decode cX0_wipe 66 = .ok (.iadd, 1) := dk_96 (dk_at dksX0_wipe_2 18 rfl rfl)
theorem dX0_wipe_67 : decode cX0_wipe 67 = .ok (.istore_n 1, 1) := dk_60 (dk_at dksX0_wipe_2 19 rfl rfl)
theorem dX0_wipe_68 : decode cX0_wipe 68 = .ok (.aload_n 0, 1) := dk_42 (dk_at dksX0_wipe_2 20 rfl rfl)
theorem dX0_wipe_69 : decode cX0_wipe 69 = .ok (.getfield 362, 3) := dk_180 1 106 (dk_at dksX0_wipe_2 21 rfl rfl)
theorem dX0_wipe_72 : decode cX0_wipe 72 = .ok (.iload_n 2, 1) := dk_28 (dk_at dksX0_wipe_3 0 rfl rfl)
theorem dX0_wipe_73 : decode cX0_wipe 73 = .ok (.aaload, 1) := dk_50 (dk_at dksX0_wipe_3 1 rfl rfl)
theorem dX0_wipe_74 : decode cX0_wipe 74 = .ok (.aconst_null, 1) := dk_1 (dk_at dksX0_wipe_3 2 rfl rfl)
theorem dX0_wipe_75 : decode cX0_wipe 75 = .ok (.putfield 407, 3) := dk_181 1 151 (dk_at dksX0_wipe_3 3 rfl rfl)
theorem dX0_wipe_78 : decode cX0_wipe 78 = .ok (.iinc 2 1, 3) := dk_132 2 1 (dk_at dksX0_wipe_3 6 rfl rfl)
theorem dX0_wipe_81 : decode cX0_wipe 81 = .ok (.goto (-39), 3) := dk_167 255 217 (dk_at dksX0_wipe_3 9 rfl rfl)
theorem dX0_wipe_84 : decode cX0_wipe 84 = .ok (.iconst 0, 1) := dk_3 (dk_at dksX0_wipe_3 12 rfl rfl)
theorem dX0_wipe_85 : decode cX0_wipe 85 = .ok (.istore_n 2, 1) := dk_61 (dk_at dksX0_wipe_3 13 rfl rfl)
theorem dX0_wipe_86 : decode cX0_wipe 86 = .ok (.iload_n 2, 1) := dk_28 (dk_at dksX0_wipe_3 14 rfl rfl)
theorem dX0_wipe_87 : decode cX0_wipe 87 = .ok (.iconst 4, 1) := dk_7 (dk_at dksX0_wipe_3 15 rfl rfl)
theorem dX0_wipe_88 : decode cX0_wipe 88 = .ok (.if_icmp .ge 16, 3) := dk_162 0 16 (dk_at dksX0_wipe_3 16 rfl rfl)
theorem dX0_wipe_91 : decode cX0_wipe 91 = .ok (.aload_n 0, 1) := dk_42 (dk_at dksX0_wipe_3 19 rfl rfl)
theorem dX0_wipe_92 : decode cX0_wipe 92 = .ok (.getfield 369, 3) := dk_180 1 113 (dk_at dksX0_wipe_3 20 rfl rfl)
theorem dX0_wipe_95 : decode cX0_wipe 95 = .ok (.iload_n 2, 1) := dk_28 (dk_at dksX0_wipe_3 23 rfl rfl)
theorem dX0_wipe_96 : decode cX0_wipe 96 = .ok (.iconst 0, 1) := dk_3 (dk_at dksX0_wipe_4 0 rfl rfl)
theorem dX0_wipe_97 : decode cX0_wipe 97 = .ok (.iastore, 1) := dk_79 (dk_at dksX0_wipe_4 1 rfl rfl)
theorem dX0_wipe_98 : decode cX0_wipe 98 = .ok (.iinc 2 1, 3) := dk_132 2 1 (dk_at dksX0_wipe_4 2 rfl rfl)
theorem dX0_wipe_101 : decode cX0_wipe 101 = .ok (.goto (-15), 3) := dk_167 255 241 (dk_at dksX0_wipe_4 5 rfl rfl)
theorem dX0_wipe_104 : decode cX0_wipe 104 = .ok (.aload_n 0, 1) := dk_42 (dk_at dksX0_wipe_4 8 rfl rfl)
theorem dX0_wipe_105 : decode cX0_wipe 105 = .ok (.iconst (-1), 1) := dk_2 (dk_at dksX0_wipe_4 9 rfl rfl)
theorem dX0_wipe_106 : decode cX0_wipe 106 = .ok (.putfield 375, 3) := dk_181 1 119 (dk_at dksX0_wipe_4 10 rfl rfl)
theorem dX0_wipe_109 : decode cX0_wipe 109 = .ok (.iload_n 1, 1) := dk_27 (dk_at dksX0_wipe_4 13 rfl rfl)
theorem dX0_wipe_110 : decode cX0_wipe 110 = .ok (.ireturn, 1) := dk_172 (dk_at dksX0_wipe_4 14 rfl rfl)
abbrev cX0_give : ByteArray := prog_1_method_71_code
def yX0_give : MethodName := ⟨RX0, "give", "(II)I"⟩
def dkwX0_give_1 : List UInt8 := [42, 180, 1, 96, 27, 4, 84, 42, 180, 1, 100, 27, 28, 79, 29, 172]
abbrev dktX0_give_1 : List UInt8 := dkwX0_give_1 ++ []
def dkwX0_give_0 : List UInt8 := [27, 184, 2, 22, 154, 0, 5, 2, 172, 42, 180, 1, 96, 27, 51, 153, 0, 7, 4, 167, 0, 4, 3, 62]
abbrev dktX0_give_0 : List UInt8 := dkwX0_give_0 ++ dktX0_give_1
theorem dksX0_give_0 : cX0_give.data.toList.drop 0 = dktX0_give_0 := by decide +kernel
theorem dksX0_give_1 : cX0_give.data.toList.drop 24 = dktX0_give_1 := dk_seg dksX0_give_0 24 rfl rfl
theorem dX0_give_0 : decode cX0_give 0 = .ok (.iload_n 1, 1) := dk_27 (dk_at dksX0_give_0 0 rfl rfl)
theorem dX0_give_1 : decode cX0_give 1 = .ok (.invokestatic 534, 3) := dk_184 2 22 (dk_at dksX0_give_0 1 rfl rfl)
theorem dX0_give_4 : decode cX0_give 4 = .ok (.ifCond .ne 5, 3) := dk_154 0 5 (dk_at dksX0_give_0 4 rfl rfl)
theorem dX0_give_7 : decode cX0_give 7 = .ok (.iconst (-1), 1) := dk_2 (dk_at dksX0_give_0 7 rfl rfl)
theorem dX0_give_8 : decode cX0_give 8 = .ok (.ireturn, 1) := dk_172 (dk_at dksX0_give_0 8 rfl rfl)
theorem dX0_give_9 : decode cX0_give 9 = .ok (.aload_n 0, 1) := dk_42 (dk_at dksX0_give_0 9 rfl rfl)
theorem dX0_give_10 : decode cX0_give 10 = .ok (.getfield 352, 3) := dk_180 1 96 (dk_at dksX0_give_0 10 rfl rfl)
theorem dX0_give_13 : decode cX0_give 13 = .ok (.iload_n 1, 1) := dk_27 (dk_at dksX0_give_0 13 rfl rfl)
theorem dX0_give_14 : decode cX0_give 14 = .ok (.baload, 1) := dk_51 (dk_at dksX0_give_0 14 rfl rfl)
theorem dX0_give_15 : decode cX0_give 15 = .ok (.ifCond .eq 7, 3) := dk_153 0 7 (dk_at dksX0_give_0 15 rfl rfl)
theorem dX0_give_18 : decode cX0_give 18 = .ok (.iconst 1, 1) := dk_4 (dk_at dksX0_give_0 18 rfl rfl)
theorem dX0_give_19 : decode cX0_give 19 = .ok (.goto 4, 3) := dk_167 0 4 (dk_at dksX0_give_0 19 rfl rfl)
theorem dX0_give_22 : decode cX0_give 22 = .ok (.iconst 0, 1) := dk_3 (dk_at dksX0_give_0 22 rfl rfl)
theorem dX0_give_23 : decode cX0_give 23 = .ok (.istore_n 3, 1) := dk_62 (dk_at dksX0_give_0 23 rfl rfl)
theorem dX0_give_24 : decode cX0_give 24 = .ok (.aload_n 0, 1) := dk_42 (dk_at dksX0_give_1 0 rfl rfl)
theorem dX0_give_25 : decode cX0_give 25 = .ok (.getfield 352, 3) := dk_180 1 96 (dk_at dksX0_give_1 1 rfl rfl)
theorem dX0_give_28 : decode cX0_give 28 = .ok (.iload_n 1, 1) := dk_27 (dk_at dksX0_give_1 4 rfl rfl)
theorem dX0_give_29 : decode cX0_give 29 = .ok (.iconst 1, 1) := dk_4 (dk_at dksX0_give_1 5 rfl rfl)
theorem dX0_give_30 : decode cX0_give 30 = .ok (.bastore, 1) := dk_84 (dk_at dksX0_give_1 6 rfl rfl)
theorem dX0_give_31 : decode cX0_give 31 = .ok (.aload_n 0, 1) := dk_42 (dk_at dksX0_give_1 7 rfl rfl)
theorem dX0_give_32 : decode cX0_give 32 = .ok (.getfield 356, 3) := dk_180 1 100 (dk_at dksX0_give_1 8 rfl rfl)
theorem dX0_give_35 : decode cX0_give 35 = .ok (.iload_n 1, 1) := dk_27 (dk_at dksX0_give_1 11 rfl rfl)
theorem dX0_give_36 : decode cX0_give 36 = .ok (.iload_n 2, 1) := dk_28 (dk_at dksX0_give_1 12 rfl rfl)
theorem dX0_give_37 : decode cX0_give 37 = .ok (.iastore, 1) := dk_79 (dk_at dksX0_give_1 13 rfl rfl)
theorem dX0_give_38 : decode cX0_give 38 = .ok (.iload_n 3, 1) := dk_29 (dk_at dksX0_give_1 14 rfl rfl)
theorem dX0_give_39 : decode cX0_give 39 = .ok (.ireturn, 1) := dk_172 (dk_at dksX0_give_1 15 rfl rfl)
abbrev cX0_isName : ByteArray := prog_1_method_70_code
def yX0_isName : MethodName := ⟨RX0, "isName", "(I)Z"⟩
def dkwX0_isName_0 : List UInt8 := [26, 133, 9, 20, 2, 20, 184, 1, 168, 172]
abbrev dktX0_isName_0 : List UInt8 := dkwX0_isName_0 ++ []
theorem dksX0_isName_0 : cX0_isName.data.toList.drop 0 = dktX0_isName_0 := by decide +kernel
theorem dX0_isName_0 : decode cX0_isName 0 = .ok (.iload_n 0, 1) := dk_26 (dk_at dksX0_isName_0 0 rfl rfl)
theorem dX0_isName_1 : decode cX0_isName 1 = .ok (.i2l, 1) := dk_133 (dk_at dksX0_isName_0 1 rfl rfl)
theorem dX0_isName_2 : decode cX0_isName 2 = .ok (.lconst 0, 1) := dk_9 (dk_at dksX0_isName_0 2 rfl rfl)
theorem dX0_isName_3 : decode cX0_isName 3 = .ok (.ldc2_w 532, 3) := dk_20 2 20 (dk_at dksX0_isName_0 3 rfl rfl)
theorem dX0_isName_6 : decode cX0_isName 6 = .ok (.invokestatic 424, 3) := dk_184 1 168 (dk_at dksX0_isName_0 6 rfl rfl)
theorem dX0_isName_9 : decode cX0_isName 9 = .ok (.ireturn, 1) := dk_172 (dk_at dksX0_isName_0 9 rfl rfl)
abbrev cX0_has : ByteArray := prog_1_method_72_code
def yX0_has : MethodName := ⟨RX0, "has", "(I)I"⟩
def dkwX0_has_1 : List UInt8 := [3, 172]
abbrev dktX0_has_1 : List UInt8 := dkwX0_has_1 ++ []
def dkwX0_has_0 : List UInt8 := [27, 184, 2, 22, 154, 0, 7, 2, 167, 0, 17, 42, 180, 1, 96, 27, 51, 153, 0, 7, 4, 167, 0, 4]
abbrev dktX0_has_0 : List UInt8 := dkwX0_has_0 ++ dktX0_has_1
theorem dksX0_has_0 : cX0_has.data.toList.drop 0 = dktX0_has_0 := by decide +kernel
theorem dksX0_has_1 : cX0_has.data.toList.drop 24 = dktX0_has_1 := dk_seg dksX0_has_0 24 rfl rfl
theorem dX0_has_0 : decode cX0_has 0 = .ok (.iload_n 1, 1) := dk_27 (dk_at dksX0_has_0 0 rfl rfl)
theorem dX0_has_1 : decode cX0_has 1 = .ok (.invokestatic 534, 3) := dk_184 2 22 (dk_at dksX0_has_0 1 rfl rfl)
theorem dX0_has_4 : decode cX0_has 4 = .ok (.ifCond .ne 7, 3) := dk_154 0 7 (dk_at dksX0_has_0 4 rfl rfl)
theorem dX0_has_7 : decode cX0_has 7 = .ok (.iconst (-1), 1) := dk_2 (dk_at dksX0_has_0 7 rfl rfl)
theorem dX0_has_8 : decode cX0_has 8 = .ok (.goto 17, 3) := dk_167 0 17 (dk_at dksX0_has_0 8 rfl rfl)
theorem dX0_has_11 : decode cX0_has 11 = .ok (.aload_n 0, 1) := dk_42 (dk_at dksX0_has_0 11 rfl rfl)
theorem dX0_has_12 : decode cX0_has 12 = .ok (.getfield 352, 3) := dk_180 1 96 (dk_at dksX0_has_0 12 rfl rfl)
theorem dX0_has_15 : decode cX0_has 15 = .ok (.iload_n 1, 1) := dk_27 (dk_at dksX0_has_0 15 rfl rfl)
theorem dX0_has_16 : decode cX0_has 16 = .ok (.baload, 1) := dk_51 (dk_at dksX0_has_0 16 rfl rfl)
theorem dX0_has_17 : decode cX0_has 17 = .ok (.ifCond .eq 7, 3) := dk_153 0 7 (dk_at dksX0_has_0 17 rfl rfl)
theorem dX0_has_20 : decode cX0_has 20 = .ok (.iconst 1, 1) := dk_4 (dk_at dksX0_has_0 20 rfl rfl)
theorem dX0_has_21 : decode cX0_has 21 = .ok (.goto 4, 3) := dk_167 0 4 (dk_at dksX0_has_0 21 rfl rfl)
theorem dX0_has_24 : decode cX0_has 24 = .ok (.iconst 0, 1) := dk_3 (dk_at dksX0_has_1 0 rfl rfl)
theorem dX0_has_25 : decode cX0_has 25 = .ok (.ireturn, 1) := dk_172 (dk_at dksX0_has_1 1 rfl rfl)
abbrev cX0_value : ByteArray := prog_1_method_73_code
def yX0_value : MethodName := ⟨RX0, "value", "(I)I"⟩
def dkwX0_value_1 : List UInt8 := [167, 0, 4, 3, 172]
abbrev dktX0_value_1 : List UInt8 := dkwX0_value_1 ++ []
def dkwX0_value_0 : List UInt8 := [27, 184, 2, 22, 153, 0, 21, 42, 180, 1, 96, 27, 51, 153, 0, 12, 42, 180, 1, 100, 27, 46]
abbrev dktX0_value_0 : List UInt8 := dkwX0_value_0 ++ dktX0_value_1
theorem dksX0_value_0 : cX0_value.data.toList.drop 0 = dktX0_value_0 := by decide +kernel
theorem dksX0_value_1 : cX0_value.data.toList.drop 22 = dktX0_value_1 := dk_seg dksX0_value_0 22 rfl rfl
theorem dX0_value_0 : decode cX0_value 0 = .ok (.iload_n 1, 1) := dk_27 (dk_at dksX0_value_0 0 rfl rfl)
theorem dX0_value_1 : decode cX0_value 1 = .ok (.invokestatic 534, 3) := dk_184 2 22 (dk_at dksX0_value_0 1 rfl rfl)
theorem dX0_value_4 : decode cX0_value 4 = .ok (.ifCond .eq 21, 3) := dk_153 0 21 (dk_at dksX0_value_0 4 rfl rfl)
theorem dX0_value_7 : decode cX0_value 7 = .ok (.aload_n 0, 1) := dk_42 (dk_at dksX0_value_0 7 rfl rfl)
theorem dX0_value_8 : decode cX0_value 8 = .ok (.getfield 352, 3) := dk_180 1 96 (dk_at dksX0_value_0 8 rfl rfl)
theorem dX0_value_11 : decode cX0_value 11 = .ok (.iload_n 1, 1) := dk_27 (dk_at dksX0_value_0 11 rfl rfl)
theorem dX0_value_12 : decode cX0_value 12 = .ok (.baload, 1) := dk_51 (dk_at dksX0_value_0 12 rfl rfl)
theorem dX0_value_13 : decode cX0_value 13 = .ok (.ifCond .eq 12, 3) := dk_153 0 12 (dk_at dksX0_value_0 13 rfl rfl)
theorem dX0_value_16 : decode cX0_value 16 = .ok (.aload_n 0, 1) := dk_42 (dk_at dksX0_value_0 16 rfl rfl)
theorem dX0_value_17 : decode cX0_value 17 = .ok (.getfield 356, 3) := dk_180 1 100 (dk_at dksX0_value_0 17 rfl rfl)
theorem dX0_value_20 : decode cX0_value 20 = .ok (.iload_n 1, 1) := dk_27 (dk_at dksX0_value_0 20 rfl rfl)
theorem dX0_value_21 : decode cX0_value 21 = .ok (.iaload, 1) := dk_46 (dk_at dksX0_value_0 21 rfl rfl)
theorem dX0_value_22 : decode cX0_value 22 = .ok (.goto 4, 3) := dk_167 0 4 (dk_at dksX0_value_1 0 rfl rfl)
theorem dX0_value_25 : decode cX0_value 25 = .ok (.iconst 0, 1) := dk_3 (dk_at dksX0_value_1 3 rfl rfl)
theorem dX0_value_26 : decode cX0_value 26 = .ok (.ireturn, 1) := dk_172 (dk_at dksX0_value_1 4 rfl rfl)
abbrev cX0_row : ByteArray := prog_1_method_75_code
def yX0_row : MethodName := ⟨RX0, "row", "(II)I"⟩
def dkwX0_row_2 : List UInt8 := [182, 2, 29, 167, 0, 12, 42, 180, 1, 106, 27, 50, 182, 1, 165, 172]
abbrev dktX0_row_2 : List UInt8 := dkwX0_row_2 ++ []
def dkwX0_row_1 : List UInt8 := [50, 180, 1, 151, 199, 0, 8, 16, 254, 167, 0, 28, 28, 154, 0, 15, 42, 180, 1, 106, 27, 50]
abbrev dktX0_row_1 : List UInt8 := dkwX0_row_1 ++ dktX0_row_2
def dkwX0_row_0 : List UInt8 := [27, 184, 2, 26, 153, 0, 13, 28, 133, 9, 10, 184, 1, 168, 154, 0, 5, 2, 172, 42, 180, 1, 106, 27]
abbrev dktX0_row_0 : List UInt8 := dkwX0_row_0 ++ dktX0_row_1
theorem dksX0_row_0 : cX0_row.data.toList.drop 0 = dktX0_row_0 := by decide +kernel
theorem dksX0_row_1 : cX0_row.data.toList.drop 24 = dktX0_row_1 := dk_seg dksX0_row_0 24 rfl rfl
theorem dksX0_row_2 : cX0_row.data.toList.drop 46 = dktX0_row_2 := dk_seg dksX0_row_1 22 rfl rfl
theorem dX0_row_0 : decode cX0_row 0 = .ok (.iload_n 1, 1) := dk_27 (dk_at dksX0_row_0 0 rfl rfl)
theorem dX0_row_1 : decode cX0_row 1 = .ok (.invokestatic 538, 3) := dk_184 2 26 (dk_at dksX0_row_0 1 rfl rfl)
theorem dX0_row_4 : decode cX0_row 4 = .ok (.ifCond .eq 13, 3) := dk_153 0 13 (dk_at dksX0_row_0 4 rfl rfl)
theorem dX0_row_7 : decode cX0_row 7 = .ok (.iload_n 2, 1) := dk_28 (dk_at dksX0_row_0 7 rfl rfl)
theorem dX0_row_8 : decode cX0_row 8 = .ok (.i2l, 1) := dk_133 (dk_at dksX0_row_0 8 rfl rfl)
theorem dX0_row_9 : decode cX0_row 9 = .ok (.lconst 0, 1) := dk_9 (dk_at dksX0_row_0 9 rfl rfl)
theorem dX0_row_10 : decode cX0_row 10 = .ok (.lconst 1, 1) := dk_10 (dk_at dksX0_row_0 10 rfl rfl)
theorem dX0_row_11 : decode cX0_row 11 = .ok (.invokestatic 424, 3) := dk_184 1 168 (dk_at dksX0_row_0 11 rfl rfl)
theorem dX0_row_14 : decode cX0_row 14 = .ok (.ifCond .ne 5, 3) := dk_154 0 5 (dk_at dksX0_row_0 14 rfl rfl)
theorem dX0_row_17 : decode cX0_row 17 = .ok (.iconst (-1), 1) := dk_2 (dk_at dksX0_row_0 17 rfl rfl)
theorem dX0_row_18 : decode cX0_row 18 = .ok (.ireturn, 1) := dk_172 (dk_at dksX0_row_0 18 rfl rfl)
theorem dX0_row_19 : decode cX0_row 19 = .ok (.aload_n 0, 1) := dk_42 (dk_at dksX0_row_0 19 rfl rfl)
theorem dX0_row_20 : decode cX0_row 20 = .ok (.getfield 362, 3) := dk_180 1 106 (dk_at dksX0_row_0 20 rfl rfl)
theorem dX0_row_23 : decode cX0_row 23 = .ok (.iload_n 1, 1) := dk_27 (dk_at dksX0_row_0 23 rfl rfl)
theorem dX0_row_24 : decode cX0_row 24 = .ok (.aaload, 1) := dk_50 (dk_at dksX0_row_1 0 rfl rfl)
theorem dX0_row_25 : decode cX0_row 25 = .ok (.getfield 407, 3) := dk_180 1 151 (dk_at dksX0_row_1 1 rfl rfl)
theorem dX0_row_28 : decode cX0_row 28 = .ok (.ifnonnull 8, 3) := dk_199 0 8 (dk_at dksX0_row_1 4 rfl rfl)
theorem dX0_row_31 : decode cX0_row 31 = .ok (.bipush (-2), 2) := dk_16 254 (dk_at dksX0_row_1 7 rfl rfl)
theorem dX0_row_33 : decode cX0_row 33 = .ok (.goto 28, 3) := dk_167 0 28 (dk_at dksX0_row_1 9 rfl rfl)
theorem dX0_row_36 : decode cX0_row 36 = .ok (.iload_n 2, 1) := dk_28 (dk_at dksX0_row_1 12 rfl rfl)
theorem dX0_row_37 : decode cX0_row 37 = .ok (.ifCond .ne 15, 3) := dk_154 0 15 (dk_at dksX0_row_1 13 rfl rfl)
theorem dX0_row_40 : decode cX0_row 40 = .ok (.aload_n 0, 1) := dk_42 (dk_at dksX0_row_1 16 rfl rfl)
theorem dX0_row_41 : decode cX0_row 41 = .ok (.getfield 362, 3) := dk_180 1 106 (dk_at dksX0_row_1 17 rfl rfl)
theorem dX0_row_44 : decode cX0_row 44 = .ok (.iload_n 1, 1) := dk_27 (dk_at dksX0_row_1 20 rfl rfl)
theorem dX0_row_45 : decode cX0_row 45 = .ok (.aaload, 1) := dk_50 (dk_at dksX0_row_1 21 rfl rfl)
theorem dX0_row_46 : decode cX0_row 46 = .ok (.invokevirtual 541, 3) := dk_182 2 29 (dk_at dksX0_row_2 0 rfl rfl)
theorem dX0_row_49 : decode cX0_row 49 = .ok (.goto 12, 3) := dk_167 0 12 (dk_at dksX0_row_2 3 rfl rfl)
theorem dX0_row_52 : decode cX0_row 52 = .ok (.aload_n 0, 1) := dk_42 (dk_at dksX0_row_2 6 rfl rfl)
theorem dX0_row_53 : decode cX0_row 53 = .ok (.getfield 362, 3) := dk_180 1 106 (dk_at dksX0_row_2 7 rfl rfl)
theorem dX0_row_56 : decode cX0_row 56 = .ok (.iload_n 1, 1) := dk_27 (dk_at dksX0_row_2 10 rfl rfl)
theorem dX0_row_57 : decode cX0_row 57 = .ok (.aaload, 1) := dk_50 (dk_at dksX0_row_2 11 rfl rfl)
theorem dX0_row_58 : decode cX0_row 58 = .ok (.invokevirtual 421, 3) := dk_182 1 165 (dk_at dksX0_row_2 12 rfl rfl)
theorem dX0_row_61 : decode cX0_row 61 = .ok (.ireturn, 1) := dk_172 (dk_at dksX0_row_2 15 rfl rfl)
abbrev cX0_isRow : ByteArray := prog_1_method_74_code
def yX0_isRow : MethodName := ⟨RX0, "isRow", "(I)Z"⟩
def dkwX0_isRow_0 : List UInt8 := [26, 133, 9, 20, 2, 24, 184, 1, 168, 172]
abbrev dktX0_isRow_0 : List UInt8 := dkwX0_isRow_0 ++ []
theorem dksX0_isRow_0 : cX0_isRow.data.toList.drop 0 = dktX0_isRow_0 := by decide +kernel
theorem dX0_isRow_0 : decode cX0_isRow 0 = .ok (.iload_n 0, 1) := dk_26 (dk_at dksX0_isRow_0 0 rfl rfl)
theorem dX0_isRow_1 : decode cX0_isRow 1 = .ok (.i2l, 1) := dk_133 (dk_at dksX0_isRow_0 1 rfl rfl)
theorem dX0_isRow_2 : decode cX0_isRow 2 = .ok (.lconst 0, 1) := dk_9 (dk_at dksX0_isRow_0 2 rfl rfl)
theorem dX0_isRow_3 : decode cX0_isRow 3 = .ok (.ldc2_w 536, 3) := dk_20 2 24 (dk_at dksX0_isRow_0 3 rfl rfl)
theorem dX0_isRow_6 : decode cX0_isRow 6 = .ok (.invokestatic 424, 3) := dk_184 1 168 (dk_at dksX0_isRow_0 6 rfl rfl)
theorem dX0_isRow_9 : decode cX0_isRow 9 = .ok (.ireturn, 1) := dk_172 (dk_at dksX0_isRow_0 9 rfl rfl)
abbrev cX0_item : ByteArray := prog_1_method_76_code
def yX0_item : MethodName := ⟨RX0, "item", "(II)J"⟩
def dkwX0_item_2 : List UInt8 := [182, 1, 176, 167, 0, 4, 9, 173]
abbrev dktX0_item_2 : List UInt8 := dkwX0_item_2 ++ []
def dkwX0_item_1 : List UInt8 := [180, 1, 106, 27, 50, 182, 1, 165, 4, 100, 133, 184, 1, 168, 153, 0, 16, 42, 180, 1, 106, 27, 50, 28]
abbrev dktX0_item_1 : List UInt8 := dkwX0_item_1 ++ dktX0_item_2
def dkwX0_item_0 : List UInt8 := [27, 184, 2, 26, 153, 0, 49, 42, 180, 1, 106, 27, 50, 180, 1, 151, 198, 0, 37, 28, 133, 9, 42]
abbrev dktX0_item_0 : List UInt8 := dkwX0_item_0 ++ dktX0_item_1
theorem dksX0_item_0 : cX0_item.data.toList.drop 0 = dktX0_item_0 := by decide +kernel
theorem dksX0_item_1 : cX0_item.data.toList.drop 23 = dktX0_item_1 := dk_seg dksX0_item_0 23 rfl rfl
theorem dksX0_item_2 : cX0_item.data.toList.drop 47 = dktX0_item_2 := dk_seg dksX0_item_1 24 rfl rfl
theorem dX0_item_0 : decode cX0_item 0 = .ok (.iload_n 1, 1) := dk_27 (dk_at dksX0_item_0 0 rfl rfl)
theorem dX0_item_1 : decode cX0_item 1 = .ok (.invokestatic 538, 3) := dk_184 2 26 (dk_at dksX0_item_0 1 rfl rfl)
theorem dX0_item_4 : decode cX0_item 4 = .ok (.ifCond .eq 49, 3) := dk_153 0 49 (dk_at dksX0_item_0 4 rfl rfl)
theorem dX0_item_7 : decode cX0_item 7 = .ok (.aload_n 0, 1) := dk_42 (dk_at dksX0_item_0 7 rfl rfl)
theorem dX0_item_8 : decode cX0_item 8 = .ok (.getfield 362, 3) := dk_180 1 106 (dk_at dksX0_item_0 8 rfl rfl)
theorem dX0_item_11 : decode cX0_item 11 = .ok (.iload_n 1, 1) := dk_27 (dk_at dksX0_item_0 11 rfl rfl)
theorem dX0_item_12 : decode cX0_item 12 = .ok (.aaload, 1) := dk_50 (dk_at dksX0_item_0 12 rfl rfl)
theorem dX0_item_13 : decode cX0_item 13 = .ok (.getfield 407, 3) := dk_180 1 151 (dk_at dksX0_item_0 13 rfl rfl)
theorem dX0_item_16 : decode cX0_item 16 = .ok (.ifnull 37, 3) := dk_198 0 37 (dk_at dksX0_item_0 16 rfl rfl)
theorem dX0_item_19 : decode cX0_item 19 = .ok (.iload_n 2, 1) := dk_28 (dk_at dksX0_item_0 19 rfl rfl)
theorem dX0_item_20 : decode cX0_item 20 = .ok (.i2l, 1) := dk_133 (dk_at dksX0_item_0 20 rfl rfl)
theorem dX0_item_21 : decode cX0_item 21 = .ok (.lconst 0, 1) := dk_9 (dk_at dksX0_item_0 21 rfl rfl)
theorem dX0_item_22 : decode cX0_item 22 = .ok (.aload_n 0, 1) := dk_42 (dk_at dksX0_item_0 22 rfl rfl)
theorem dX0_item_23 : decode cX0_item 23 = .ok (.getfield 362, 3) := dk_180 1 106 (dk_at dksX0_item_1 0 rfl rfl)
theorem dX0_item_26 : decode cX0_item 26 = .ok (.iload_n 1, 1) := dk_27 (dk_at dksX0_item_1 3 rfl rfl)
theorem dX0_item_27 : decode cX0_item 27 = .ok (.aaload, 1) := dk_50 (dk_at dksX0_item_1 4 rfl rfl)
theorem dX0_item_28 : decode cX0_item 28 = .ok (.invokevirtual 421, 3) := dk_182 1 165 (dk_at dksX0_item_1 5 rfl rfl)
theorem dX0_item_31 : decode cX0_item 31 = .ok (.iconst 1, 1) := dk_4 (dk_at dksX0_item_1 8 rfl rfl)
theorem dX0_item_32 : decode cX0_item 32 = .ok (.isub, 1) := dk_100 (dk_at dksX0_item_1 9 rfl rfl)
theorem dX0_item_33 : decode cX0_item 33 = .ok (.i2l, 1) := dk_133 (dk_at dksX0_item_1 10 rfl rfl)
theorem dX0_item_34 : decode cX0_item 34 = .ok (.invokestatic 424, 3) := dk_184 1 168 (dk_at dksX0_item_1 11 rfl rfl)
theorem dX0_item_37 : decode cX0_item 37 = .ok (.ifCond .eq 16, 3) := dk_153 0 16 (dk_at dksX0_item_1 14 rfl rfl)
theorem dX0_item_40 : decode cX0_item 40 = .ok (.aload_n 0, 1) := dk_42 (dk_at dksX0_item_1 17 rfl rfl)
theorem dX0_item_41 : decode cX0_item 41 = .ok (.getfield 362, 3) := dk_180 1 106 (dk_at dksX0_item_1 18 rfl rfl)
theorem dX0_item_44 : decode cX0_item 44 = .ok (.iload_n 1, 1) := dk_27 (dk_at dksX0_item_1 21 rfl rfl)
theorem dX0_item_45 : decode cX0_item 45 = .ok (.aaload, 1) := dk_50 (dk_at dksX0_item_1 22 rfl rfl)
theorem dX0_item_46 : decode cX0_item 46 = .ok (.iload_n 2, 1) := dk_28 (dk_at dksX0_item_1 23 rfl rfl)
theorem dX0_item_47 : decode cX0_item 47 = .ok (.invokevirtual 432, 3) := dk_182 1 176 (dk_at dksX0_item_2 0 rfl rfl)
theorem dX0_item_50 : decode cX0_item 50 = .ok (.goto 4, 3) := dk_167 0 4 (dk_at dksX0_item_2 3 rfl rfl)
theorem dX0_item_53 : decode cX0_item 53 = .ok (.lconst 0, 1) := dk_9 (dk_at dksX0_item_2 6 rfl rfl)
theorem dX0_item_54 : decode cX0_item 54 = .ok (.lreturn, 1) := dk_173 (dk_at dksX0_item_2 7 rfl rfl)
abbrev cX0_height : ByteArray := prog_1_method_77_code
def yX0_height : MethodName := ⟨RX0, "height", "(I)I"⟩
def dkwX0_height_0 : List UInt8 := [27, 133, 9, 20, 2, 32, 184, 1, 168, 153, 0, 12, 42, 180, 1, 113, 27, 46, 167, 0, 4, 2, 172]
abbrev dktX0_height_0 : List UInt8 := dkwX0_height_0 ++ []
theorem dksX0_height_0 : cX0_height.data.toList.drop 0 = dktX0_height_0 := by decide +kernel
theorem dX0_height_0 : decode cX0_height 0 = .ok (.iload_n 1, 1) := dk_27 (dk_at dksX0_height_0 0 rfl rfl)
theorem dX0_height_1 : decode cX0_height 1 = .ok (.i2l, 1) := dk_133 (dk_at dksX0_height_0 1 rfl rfl)
theorem dX0_height_2 : decode cX0_height 2 = .ok (.lconst 0, 1) := dk_9 (dk_at dksX0_height_0 2 rfl rfl)
theorem dX0_height_3 : decode cX0_height 3 = .ok (.ldc2_w 544, 3) := dk_20 2 32 (dk_at dksX0_height_0 3 rfl rfl)
theorem dX0_height_6 : decode cX0_height 6 = .ok (.invokestatic 424, 3) := dk_184 1 168 (dk_at dksX0_height_0 6 rfl rfl)
theorem dX0_height_9 : decode cX0_height 9 = .ok (.ifCond .eq 12, 3) := dk_153 0 12 (dk_at dksX0_height_0 9 rfl rfl)
theorem dX0_height_12 : decode cX0_height 12 = .ok (.aload_n 0, 1) := dk_42 (dk_at dksX0_height_0 12 rfl rfl)
theorem dX0_height_13 : decode cX0_height 13 = .ok (.getfield 369, 3) := dk_180 1 113 (dk_at dksX0_height_0 13 rfl rfl)
theorem dX0_height_16 : decode cX0_height 16 = .ok (.iload_n 1, 1) := dk_27 (dk_at dksX0_height_0 16 rfl rfl)
theorem dX0_height_17 : decode cX0_height 17 = .ok (.iaload, 1) := dk_46 (dk_at dksX0_height_0 17 rfl rfl)
theorem dX0_height_18 : decode cX0_height 18 = .ok (.goto 4, 3) := dk_167 0 4 (dk_at dksX0_height_0 18 rfl rfl)
theorem dX0_height_21 : decode cX0_height 21 = .ok (.iconst (-1), 1) := dk_2 (dk_at dksX0_height_0 21 rfl rfl)
theorem dX0_height_22 : decode cX0_height 22 = .ok (.ireturn, 1) := dk_172 (dk_at dksX0_height_0 22 rfl rfl)
abbrev cX0_piled : ByteArray := prog_1_method_78_code
def yX0_piled : MethodName := ⟨RX0, "piled", "(II)I"⟩
def dkwX0_piled_1 : List UInt8 := [184, 1, 168, 153, 0, 17, 42, 180, 1, 110, 16, 30, 27, 104, 28, 96, 46, 167, 0, 4, 3, 172]
abbrev dktX0_piled_1 : List UInt8 := dkwX0_piled_1 ++ []
def dkwX0_piled_0 : List UInt8 := [27, 133, 9, 20, 2, 32, 184, 1, 168, 153, 0, 35, 28, 133, 9, 42, 180, 1, 113, 27, 46, 4, 100, 133]
abbrev dktX0_piled_0 : List UInt8 := dkwX0_piled_0 ++ dktX0_piled_1
theorem dksX0_piled_0 : cX0_piled.data.toList.drop 0 = dktX0_piled_0 := by decide +kernel
theorem dksX0_piled_1 : cX0_piled.data.toList.drop 24 = dktX0_piled_1 := dk_seg dksX0_piled_0 24 rfl rfl
theorem dX0_piled_0 : decode cX0_piled 0 = .ok (.iload_n 1, 1) := dk_27 (dk_at dksX0_piled_0 0 rfl rfl)
theorem dX0_piled_1 : decode cX0_piled 1 = .ok (.i2l, 1) := dk_133 (dk_at dksX0_piled_0 1 rfl rfl)
theorem dX0_piled_2 : decode cX0_piled 2 = .ok (.lconst 0, 1) := dk_9 (dk_at dksX0_piled_0 2 rfl rfl)
theorem dX0_piled_3 : decode cX0_piled 3 = .ok (.ldc2_w 544, 3) := dk_20 2 32 (dk_at dksX0_piled_0 3 rfl rfl)
theorem dX0_piled_6 : decode cX0_piled 6 = .ok (.invokestatic 424, 3) := dk_184 1 168 (dk_at dksX0_piled_0 6 rfl rfl)
theorem dX0_piled_9 : decode cX0_piled 9 = .ok (.ifCond .eq 35, 3) := dk_153 0 35 (dk_at dksX0_piled_0 9 rfl rfl)
theorem dX0_piled_12 : decode cX0_piled 12 = .ok (.iload_n 2, 1) := dk_28 (dk_at dksX0_piled_0 12 rfl rfl)
theorem dX0_piled_13 : decode cX0_piled 13 = .ok (.i2l, 1) := dk_133 (dk_at dksX0_piled_0 13 rfl rfl)
theorem dX0_piled_14 : decode cX0_piled 14 = .ok (.lconst 0, 1) := dk_9 (dk_at dksX0_piled_0 14 rfl rfl)
theorem dX0_piled_15 : decode cX0_piled 15 = .ok (.aload_n 0, 1) := dk_42 (dk_at dksX0_piled_0 15 rfl rfl)
theorem dX0_piled_16 : decode cX0_piled 16 = .ok (.getfield 369, 3) := dk_180 1 113 (dk_at dksX0_piled_0 16 rfl rfl)
theorem dX0_piled_19 : decode cX0_piled 19 = .ok (.iload_n 1, 1) := dk_27 (dk_at dksX0_piled_0 19 rfl rfl)
theorem dX0_piled_20 : decode cX0_piled 20 = .ok (.iaload, 1) := dk_46 (dk_at dksX0_piled_0 20 rfl rfl)
theorem dX0_piled_21 : decode cX0_piled 21 = .ok (.iconst 1, 1) := dk_4 (dk_at dksX0_piled_0 21 rfl rfl)
theorem dX0_piled_22 : decode cX0_piled 22 = .ok (.isub, 1) := dk_100 (dk_at dksX0_piled_0 22 rfl rfl)
theorem dX0_piled_23 : decode cX0_piled 23 = .ok (.i2l, 1) := dk_133 (dk_at dksX0_piled_0 23 rfl rfl)
theorem dX0_piled_24 : decode cX0_piled 24 = .ok (.invokestatic 424, 3) := dk_184 1 168 (dk_at dksX0_piled_1 0 rfl rfl)
theorem dX0_piled_27 : decode cX0_piled 27 = .ok (.ifCond .eq 17, 3) := dk_153 0 17 (dk_at dksX0_piled_1 3 rfl rfl)
theorem dX0_piled_30 : decode cX0_piled 30 = .ok (.aload_n 0, 1) := dk_42 (dk_at dksX0_piled_1 6 rfl rfl)
theorem dX0_piled_31 : decode cX0_piled 31 = .ok (.getfield 366, 3) := dk_180 1 110 (dk_at dksX0_piled_1 7 rfl rfl)
theorem dX0_piled_34 : decode cX0_piled 34 = .ok (.bipush 30, 2) := dk_16 30 (dk_at dksX0_piled_1 10 rfl rfl)
theorem dX0_piled_36 : decode cX0_piled 36 = .ok (.iload_n 1, 1) := dk_27 (dk_at dksX0_piled_1 12 rfl rfl)
theorem dX0_piled_37 : decode cX0_piled 37 = .ok (.imul, 1) := dk_104 (dk_at dksX0_piled_1 13 rfl rfl)
theorem dX0_piled_38 : decode cX0_piled 38 = .ok (.iload_n 2, 1) := dk_28 (dk_at dksX0_piled_1 14 rfl rfl)
theorem dX0_piled_39 : decode cX0_piled 39 = .ok (.iadd, 1) := dk_96 (dk_at dksX0_piled_1 15 rfl rfl)
theorem dX0_piled_40 : decode cX0_piled 40 = .ok (.iaload, 1) := dk_46 (dk_at dksX0_piled_1 16 rfl rfl)
theorem dX0_piled_41 : decode cX0_piled 41 = .ok (.goto 4, 3) := dk_167 0 4 (dk_at dksX0_piled_1 17 rfl rfl)
theorem dX0_piled_44 : decode cX0_piled 44 = .ok (.iconst 0, 1) := dk_3 (dk_at dksX0_piled_1 20 rfl rfl)
theorem dX0_piled_45 : decode cX0_piled 45 = .ok (.ireturn, 1) := dk_172 (dk_at dksX0_piled_1 21 rfl rfl)
abbrev cX0_begin : ByteArray := prog_1_method_79_code
def yX0_begin : MethodName := ⟨RX0, "begin", "(IZ)I"⟩
def dkwX0_begin_3 : List UInt8 := [181, 2, 39, 42, 3, 181, 2, 42, 42, 3, 181, 2, 44, 25, 4, 180, 2, 34, 185, 1, 218, 1, 0, 172]
abbrev dktX0_begin_3 : List UInt8 := dkwX0_begin_3 ++ []
def dkwX0_begin_2 : List UInt8 := [185, 1, 218, 1, 0, 167, 0, 4, 3, 181, 2, 36, 42, 28, 153, 0, 7, 2, 167, 0, 4, 4]
abbrev dktX0_begin_2 : List UInt8 := dkwX0_begin_2 ++ dktX0_begin_3
def dkwX0_begin_1 : List UInt8 := [182, 1, 219, 153, 0, 6, 16, 254, 172, 42, 27, 181, 1, 119, 42, 28, 153, 0, 16, 25, 4, 180, 2, 34]
abbrev dktX0_begin_1 : List UInt8 := dkwX0_begin_1 ++ dktX0_begin_2
def dkwX0_begin_0 : List UInt8 := [42, 27, 182, 1, 209, 62, 29, 156, 0, 5, 29, 172, 42, 180, 1, 92, 27, 50, 58, 4, 25, 4]
abbrev dktX0_begin_0 : List UInt8 := dkwX0_begin_0 ++ dktX0_begin_1
theorem dksX0_begin_0 : cX0_begin.data.toList.drop 0 = dktX0_begin_0 := by decide +kernel
theorem dksX0_begin_1 : cX0_begin.data.toList.drop 22 = dktX0_begin_1 := dk_seg dksX0_begin_0 22 rfl rfl
theorem dksX0_begin_2 : cX0_begin.data.toList.drop 46 = dktX0_begin_2 := dk_seg dksX0_begin_1 24 rfl rfl
theorem dksX0_begin_3 : cX0_begin.data.toList.drop 68 = dktX0_begin_3 := dk_seg dksX0_begin_2 22 rfl rfl
theorem dX0_begin_0 : decode cX0_begin 0 = .ok (.aload_n 0, 1) := dk_42 (dk_at dksX0_begin_0 0 rfl rfl)
theorem dX0_begin_1 : decode cX0_begin 1 = .ok (.iload_n 1, 1) := dk_27 (dk_at dksX0_begin_0 1 rfl rfl)
theorem dX0_begin_2 : decode cX0_begin 2 = .ok (.invokevirtual 465, 3) := dk_182 1 209 (dk_at dksX0_begin_0 2 rfl rfl)
theorem dX0_begin_5 : decode cX0_begin 5 = .ok (.istore_n 3, 1) := dk_62 (dk_at dksX0_begin_0 5 rfl rfl)
theorem dX0_begin_6 : decode cX0_begin 6 = .ok (.iload_n 3, 1) := dk_29 (dk_at dksX0_begin_0 6 rfl rfl)
theorem dX0_begin_7 : decode cX0_begin 7 = .ok (.ifCond .ge 5, 3) := dk_156 0 5 (dk_at dksX0_begin_0 7 rfl rfl)
theorem dX0_begin_10 : decode cX0_begin 10 = .ok (.iload_n 3, 1) := dk_29 (dk_at dksX0_begin_0 10 rfl rfl)
theorem dX0_begin_11 : decode cX0_begin 11 = .ok (.ireturn, 1) := dk_172 (dk_at dksX0_begin_0 11 rfl rfl)
theorem dX0_begin_12 : decode cX0_begin 12 = .ok (.aload_n 0, 1) := dk_42 (dk_at dksX0_begin_0 12 rfl rfl)
theorem dX0_begin_13 : decode cX0_begin 13 = .ok (.getfield 348, 3) := dk_180 1 92 (dk_at dksX0_begin_0 13 rfl rfl)
theorem dX0_begin_16 : decode cX0_begin 16 = .ok (.iload_n 1, 1) := dk_27 (dk_at dksX0_begin_0 16 rfl rfl)
theorem dX0_begin_17 : decode cX0_begin 17 = .ok (.aaload, 1) := dk_50 (dk_at dksX0_begin_0 17 rfl rfl)
theorem dX0_begin_18 : decode cX0_begin 18 = .ok (.astore 4, 2) := dk_58 4 (dk_at dksX0_begin_0 18 rfl rfl)
theorem dX0_begin_20 : decode cX0_begin 20 = .ok (.aload 4, 2) := dk_25 4 (dk_at dksX0_begin_0 20 rfl rfl)
theorem dX0_begin_22 : decode cX0_begin 22 = .ok (.invokevirtual 475, 3) := dk_182 1 219 (dk_at dksX0_begin_1 0 rfl rfl)
theorem dX0_begin_25 : decode cX0_begin 25 = .ok (.ifCond .eq 6, 3) := dk_153 0 6 (dk_at dksX0_begin_1 3 rfl rfl)
theorem dX0_begin_28 : decode cX0_begin 28 = .ok (.bipush (-2), 2) := dk_16 254 (dk_at dksX0_begin_1 6 rfl rfl)
theorem dX0_begin_30 : decode cX0_begin 30 = .ok (.ireturn, 1) := dk_172 (dk_at dksX0_begin_1 8 rfl rfl)
theorem dX0_begin_31 : decode cX0_begin 31 = .ok (.aload_n 0, 1) := dk_42 (dk_at dksX0_begin_1 9 rfl rfl)
theorem dX0_begin_32 : decode cX0_begin 32 = .ok (.iload_n 1, 1) := dk_27 (dk_at dksX0_begin_1 10 rfl rfl)
theorem dX0_begin_33 : decode cX0_begin 33 = .ok (.putfield 375, 3) := dk_181 1 119 (dk_at dksX0_begin_1 11 rfl rfl)
theorem dX0_begin_36 : decode cX0_begin 36 = .ok (.aload_n 0, 1) := dk_42 (dk_at dksX0_begin_1 14 rfl rfl)
theorem dX0_begin_37 : decode cX0_begin 37 = .ok (.iload_n 2, 1) := dk_28 (dk_at dksX0_begin_1 15 rfl rfl)
theorem dX0_begin_38 : decode cX0_begin 38 = .ok (.ifCond .eq 16, 3) := dk_153 0 16 (dk_at dksX0_begin_1 16 rfl rfl)
theorem dX0_begin_41 : decode cX0_begin 41 = .ok (.aload 4, 2) := dk_25 4 (dk_at dksX0_begin_1 19 rfl rfl)
theorem dX0_begin_43 : decode cX0_begin 43 = .ok (.getfield 546, 3) := dk_180 2 34 (dk_at dksX0_begin_1 21 rfl rfl)
theorem dX0_begin_46 : decode cX0_begin 46 = .ok (.invokeinterface 474 1, 5) := by decide +kernel
theorem dX0_begin_51 : decode cX0_begin 51 = .ok (.goto 4, 3) := dk_167 0 4 (dk_at dksX0_begin_2 5 rfl rfl)
theorem dX0_begin_54 : decode cX0_begin 54 = .ok (.iconst 0, 1) := dk_3 (dk_at dksX0_begin_2 8 rfl rfl)
theorem dX0_begin_55 : decode cX0_begin 55 = .ok (.putfield 548, 3) := dk_181 2 36 (dk_at dksX0_begin_2 9 rfl rfl)
theorem dX0_begin_58 : decode cX0_begin 58 = .ok (.aload_n 0, 1) := dk_42 (dk_at dksX0_begin_2 12 rfl rfl)
theorem dX0_begin_59 : decode cX0_begin 59 = .ok (.iload_n 2, 1) := dk_28 (dk_at dksX0_begin_2 13 rfl rfl)
theorem dX0_begin_60 : decode cX0_begin 60 = .ok (.ifCond .eq 7, 3) := dk_153 0 7 (dk_at dksX0_begin_2 14 rfl rfl)
theorem dX0_begin_63 : decode cX0_begin 63 = .ok (.iconst (-1), 1) := dk_2 (dk_at dksX0_begin_2 17 rfl rfl)
theorem dX0_begin_64 : decode cX0_begin 64 = .ok (.goto 4, 3) := dk_167 0 4 (dk_at dksX0_begin_2 18 rfl rfl)
theorem dX0_begin_67 : decode cX0_begin 67 = .ok (.iconst 1, 1) := dk_4 (dk_at dksX0_begin_2 21 rfl rfl)
theorem dX0_begin_68 : decode cX0_begin 68 = .ok (.putfield 551, 3) := dk_181 2 39 (dk_at dksX0_begin_3 0 rfl rfl)
theorem dX0_begin_71 : decode cX0_begin 71 = .ok (.aload_n 0, 1) := dk_42 (dk_at dksX0_begin_3 3 rfl rfl)
theorem dX0_begin_72 : decode cX0_begin 72 = .ok (.iconst 0, 1) := dk_3 (dk_at dksX0_begin_3 4 rfl rfl)
theorem dX0_begin_73 : decode cX0_begin 73 = .ok (.putfield 554, 3) := dk_181 2 42 (dk_at dksX0_begin_3 5 rfl rfl)
theorem dX0_begin_76 : decode cX0_begin 76 = .ok (.aload_n 0, 1) := dk_42 (dk_at dksX0_begin_3 8 rfl rfl)
theorem dX0_begin_77 : decode cX0_begin 77 = .ok (.iconst 0, 1) := dk_3 (dk_at dksX0_begin_3 9 rfl rfl)
theorem dX0_begin_78 : decode cX0_begin 78 = .ok (.putfield 556, 3) := dk_181 2 44 (dk_at dksX0_begin_3 10 rfl rfl)
theorem dX0_begin_81 : decode cX0_begin 81 = .ok (.aload 4, 2) := dk_25 4 (dk_at dksX0_begin_3 13 rfl rfl)
theorem dX0_begin_83 : decode cX0_begin 83 = .ok (.getfield 546, 3) := dk_180 2 34 (dk_at dksX0_begin_3 15 rfl rfl)
theorem dX0_begin_86 : decode cX0_begin 86 = .ok (.invokeinterface 474 1, 5) := by decide +kernel
theorem dX0_begin_91 : decode cX0_begin 91 = .ok (.ireturn, 1) := dk_172 (dk_at dksX0_begin_3 23 rfl rfl)
abbrev cX0_go : ByteArray := prog_1_method_83_code
def yX0_go : MethodName := ⟨RX0, "go", "(Z)I"⟩
def dkwX0_go_1 : List UInt8 := [16, 236, 42, 180, 2, 68, 100, 172]
abbrev dktX0_go_1 : List UInt8 := dkwX0_go_1 ++ []
def dkwX0_go_0 : List UInt8 := [42, 180, 1, 119, 156, 0, 6, 16, 254, 172, 42, 4, 27, 182, 2, 75, 4, 160, 0, 7, 4, 167, 0, 10]
abbrev dktX0_go_0 : List UInt8 := dkwX0_go_0 ++ dktX0_go_1
theorem dksX0_go_0 : cX0_go.data.toList.drop 0 = dktX0_go_0 := by decide +kernel
theorem dksX0_go_1 : cX0_go.data.toList.drop 24 = dktX0_go_1 := dk_seg dksX0_go_0 24 rfl rfl
theorem dX0_go_0 : decode cX0_go 0 = .ok (.aload_n 0, 1) := dk_42 (dk_at dksX0_go_0 0 rfl rfl)
theorem dX0_go_1 : decode cX0_go 1 = .ok (.getfield 375, 3) := dk_180 1 119 (dk_at dksX0_go_0 1 rfl rfl)
theorem dX0_go_4 : decode cX0_go 4 = .ok (.ifCond .ge 6, 3) := dk_156 0 6 (dk_at dksX0_go_0 4 rfl rfl)
theorem dX0_go_7 : decode cX0_go 7 = .ok (.bipush (-2), 2) := dk_16 254 (dk_at dksX0_go_0 7 rfl rfl)
theorem dX0_go_9 : decode cX0_go 9 = .ok (.ireturn, 1) := dk_172 (dk_at dksX0_go_0 9 rfl rfl)
theorem dX0_go_10 : decode cX0_go 10 = .ok (.aload_n 0, 1) := dk_42 (dk_at dksX0_go_0 10 rfl rfl)
theorem dX0_go_11 : decode cX0_go 11 = .ok (.iconst 1, 1) := dk_4 (dk_at dksX0_go_0 11 rfl rfl)
theorem dX0_go_12 : decode cX0_go 12 = .ok (.iload_n 1, 1) := dk_27 (dk_at dksX0_go_0 12 rfl rfl)
theorem dX0_go_13 : decode cX0_go 13 = .ok (.invokevirtual 587, 3) := dk_182 2 75 (dk_at dksX0_go_0 13 rfl rfl)
theorem dX0_go_16 : decode cX0_go 16 = .ok (.iconst 1, 1) := dk_4 (dk_at dksX0_go_0 16 rfl rfl)
theorem dX0_go_17 : decode cX0_go 17 = .ok (.if_icmp .ne 7, 3) := dk_160 0 7 (dk_at dksX0_go_0 17 rfl rfl)
theorem dX0_go_20 : decode cX0_go 20 = .ok (.iconst 1, 1) := dk_4 (dk_at dksX0_go_0 20 rfl rfl)
theorem dX0_go_21 : decode cX0_go 21 = .ok (.goto 10, 3) := dk_167 0 10 (dk_at dksX0_go_0 21 rfl rfl)
theorem dX0_go_24 : decode cX0_go 24 = .ok (.bipush (-20), 2) := dk_16 236 (dk_at dksX0_go_1 0 rfl rfl)
theorem dX0_go_26 : decode cX0_go 26 = .ok (.aload_n 0, 1) := dk_42 (dk_at dksX0_go_1 2 rfl rfl)
theorem dX0_go_27 : decode cX0_go 27 = .ok (.getfield 580, 3) := dk_180 2 68 (dk_at dksX0_go_1 3 rfl rfl)
theorem dX0_go_30 : decode cX0_go 30 = .ok (.isub, 1) := dk_100 (dk_at dksX0_go_1 6 rfl rfl)
theorem dX0_go_31 : decode cX0_go 31 = .ok (.ireturn, 1) := dk_172 (dk_at dksX0_go_1 7 rfl rfl)
abbrev cX0_goMany : ByteArray := prog_1_method_82_code
def yX0_goMany : MethodName := ⟨RX0, "goMany", "(IZ)I"⟩
def dkwX0_goMany_1 : List UInt8 := [167, 255, 240, 29, 172]
abbrev dktX0_goMany_1 : List UInt8 := dkwX0_goMany_1 ++ []
def dkwX0_goMany_0 : List UInt8 := [42, 3, 181, 2, 68, 3, 62, 29, 27, 162, 0, 17, 42, 28, 182, 2, 71, 153, 0, 9, 132, 3, 1]
abbrev dktX0_goMany_0 : List UInt8 := dkwX0_goMany_0 ++ dktX0_goMany_1
theorem dksX0_goMany_0 : cX0_goMany.data.toList.drop 0 = dktX0_goMany_0 := by decide +kernel
theorem dksX0_goMany_1 : cX0_goMany.data.toList.drop 23 = dktX0_goMany_1 := dk_seg dksX0_goMany_0 23 rfl rfl
theorem dX0_goMany_0 : decode cX0_goMany 0 = .ok (.aload_n 0, 1) := dk_42 (dk_at dksX0_goMany_0 0 rfl rfl)
theorem dX0_goMany_1 : decode cX0_goMany 1 = .ok (.iconst 0, 1) := dk_3 (dk_at dksX0_goMany_0 1 rfl rfl)
theorem dX0_goMany_2 : decode cX0_goMany 2 = .ok (.putfield 580, 3) := dk_181 2 68 (dk_at dksX0_goMany_0 2 rfl rfl)
theorem dX0_goMany_5 : decode cX0_goMany 5 = .ok (.iconst 0, 1) := dk_3 (dk_at dksX0_goMany_0 5 rfl rfl)
theorem dX0_goMany_6 : decode cX0_goMany 6 = .ok (.istore_n 3, 1) := dk_62 (dk_at dksX0_goMany_0 6 rfl rfl)
theorem dX0_goMany_7 : decode cX0_goMany 7 = .ok (.iload_n 3, 1) := dk_29 (dk_at dksX0_goMany_0 7 rfl rfl)
theorem dX0_goMany_8 : decode cX0_goMany 8 = .ok (.iload_n 1, 1) := dk_27 (dk_at dksX0_goMany_0 8 rfl rfl)
theorem dX0_goMany_9 : decode cX0_goMany 9 = .ok (.if_icmp .ge 17, 3) := dk_162 0 17 (dk_at dksX0_goMany_0 9 rfl rfl)
theorem dX0_goMany_12 : decode cX0_goMany 12 = .ok (.aload_n 0, 1) := dk_42 (dk_at dksX0_goMany_0 12 rfl rfl)
theorem dX0_goMany_13 : decode cX0_goMany 13 = .ok (.iload_n 2, 1) := dk_28 (dk_at dksX0_goMany_0 13 rfl rfl)
theorem dX0_goMany_14 : decode cX0_goMany 14 = .ok (.invokevirtual 583, 3) := dk_182 2 71 (dk_at dksX0_goMany_0 14 rfl rfl)
theorem dX0_goMany_17 : decode cX0_goMany 17 = .ok (.ifCond .eq 9, 3) := dk_153 0 9 (dk_at dksX0_goMany_0 17 rfl rfl)
theorem dX0_goMany_20 : decode cX0_goMany 20 = .ok (.iinc 3 1, 3) := dk_132 3 1 (dk_at dksX0_goMany_0 20 rfl rfl)
theorem dX0_goMany_23 : decode cX0_goMany 23 = .ok (.goto (-16), 3) := dk_167 255 240 (dk_at dksX0_goMany_1 0 rfl rfl)
theorem dX0_goMany_26 : decode cX0_goMany 26 = .ok (.iload_n 3, 1) := dk_29 (dk_at dksX0_goMany_1 3 rfl rfl)
theorem dX0_goMany_27 : decode cX0_goMany 27 = .ok (.ireturn, 1) := dk_172 (dk_at dksX0_goMany_1 4 rfl rfl)
abbrev cX0_goes : ByteArray := prog_1_method_81_code
def yX0_goes : MethodName := ⟨RX0, "goes", "(Z)Z"⟩
def dkwX0_goes_2 : List UInt8 := [180, 2, 42, 27, 153, 0, 7, 2, 167, 0, 4, 4, 96, 181, 2, 42, 4, 172]
abbrev dktX0_goes_2 : List UInt8 := dkwX0_goes_2 ++ []
def dkwX0_goes_1 : List UInt8 := [182, 2, 64, 167, 0, 18, 77, 42, 182, 1, 145, 42, 44, 180, 2, 17, 181, 2, 68, 3, 172, 42, 89]
abbrev dktX0_goes_1 : List UInt8 := dkwX0_goes_1 ++ dktX0_goes_2
def dkwX0_goes_0 : List UInt8 := [42, 42, 180, 2, 39, 158, 0, 7, 4, 167, 0, 4, 3, 27, 159, 0, 7, 4, 167, 0, 4, 3]
abbrev dktX0_goes_0 : List UInt8 := dkwX0_goes_0 ++ dktX0_goes_1
theorem dksX0_goes_0 : cX0_goes.data.toList.drop 0 = dktX0_goes_0 := by decide +kernel
theorem dksX0_goes_1 : cX0_goes.data.toList.drop 22 = dktX0_goes_1 := dk_seg dksX0_goes_0 22 rfl rfl
theorem dksX0_goes_2 : cX0_goes.data.toList.drop 45 = dktX0_goes_2 := dk_seg dksX0_goes_1 23 rfl rfl
theorem dX0_goes_0 : decode cX0_goes 0 = .ok (.aload_n 0, 1) := dk_42 (dk_at dksX0_goes_0 0 rfl rfl)
theorem dX0_goes_1 : decode cX0_goes 1 = .ok (.aload_n 0, 1) := dk_42 (dk_at dksX0_goes_0 1 rfl rfl)
theorem dX0_goes_2 : decode cX0_goes 2 = .ok (.getfield 551, 3) := dk_180 2 39 (dk_at dksX0_goes_0 2 rfl rfl)
theorem dX0_goes_5 : decode cX0_goes 5 = .ok (.ifCond .le 7, 3) := dk_158 0 7 (dk_at dksX0_goes_0 5 rfl rfl)
theorem dX0_goes_8 : decode cX0_goes 8 = .ok (.iconst 1, 1) := dk_4 (dk_at dksX0_goes_0 8 rfl rfl)
theorem dX0_goes_9 : decode cX0_goes 9 = .ok (.goto 4, 3) := dk_167 0 4 (dk_at dksX0_goes_0 9 rfl rfl)
theorem dX0_goes_12 : decode cX0_goes 12 = .ok (.iconst 0, 1) := dk_3 (dk_at dksX0_goes_0 12 rfl rfl)
theorem dX0_goes_13 : decode cX0_goes 13 = .ok (.iload_n 1, 1) := dk_27 (dk_at dksX0_goes_0 13 rfl rfl)
theorem dX0_goes_14 : decode cX0_goes 14 = .ok (.if_icmp .eq 7, 3) := dk_159 0 7 (dk_at dksX0_goes_0 14 rfl rfl)
theorem dX0_goes_17 : decode cX0_goes 17 = .ok (.iconst 1, 1) := dk_4 (dk_at dksX0_goes_0 17 rfl rfl)
theorem dX0_goes_18 : decode cX0_goes 18 = .ok (.goto 4, 3) := dk_167 0 4 (dk_at dksX0_goes_0 18 rfl rfl)
theorem dX0_goes_21 : decode cX0_goes 21 = .ok (.iconst 0, 1) := dk_3 (dk_at dksX0_goes_0 21 rfl rfl)
theorem dX0_goes_22 : decode cX0_goes 22 = .ok (.invokevirtual 576, 3) := dk_182 2 64 (dk_at dksX0_goes_1 0 rfl rfl)
theorem dX0_goes_25 : decode cX0_goes 25 = .ok (.goto 18, 3) := dk_167 0 18 (dk_at dksX0_goes_1 3 rfl rfl)
theorem dX0_goes_28 : decode cX0_goes 28 = .ok (.astore_n 2, 1) := dk_77 (dk_at dksX0_goes_1 6 rfl rfl)
theorem dX0_goes_29 : decode cX0_goes 29 = .ok (.aload_n 0, 1) := dk_42 (dk_at dksX0_goes_1 7 rfl rfl)
theorem dX0_goes_30 : decode cX0_goes 30 = .ok (.invokevirtual 401, 3) := dk_182 1 145 (dk_at dksX0_goes_1 8 rfl rfl)
theorem dX0_goes_33 : decode cX0_goes 33 = .ok (.aload_n 0, 1) := dk_42 (dk_at dksX0_goes_1 11 rfl rfl)
theorem dX0_goes_34 : decode cX0_goes 34 = .ok (.aload_n 2, 1) := dk_44 (dk_at dksX0_goes_1 12 rfl rfl)
theorem dX0_goes_35 : decode cX0_goes 35 = .ok (.getfield 529, 3) := dk_180 2 17 (dk_at dksX0_goes_1 13 rfl rfl)
theorem dX0_goes_38 : decode cX0_goes 38 = .ok (.putfield 580, 3) := dk_181 2 68 (dk_at dksX0_goes_1 16 rfl rfl)
theorem dX0_goes_41 : decode cX0_goes 41 = .ok (.iconst 0, 1) := dk_3 (dk_at dksX0_goes_1 19 rfl rfl)
theorem dX0_goes_42 : decode cX0_goes 42 = .ok (.ireturn, 1) := dk_172 (dk_at dksX0_goes_1 20 rfl rfl)
theorem dX0_goes_43 : decode cX0_goes 43 = .ok (.aload_n 0, 1) := dk_42 (dk_at dksX0_goes_1 21 rfl rfl)
theorem dX0_goes_44 : decode cX0_goes 44 = .ok (.dup, 1) := dk_89 (dk_at dksX0_goes_1 22 rfl rfl)
theorem dX0_goes_45 : decode cX0_goes 45 = .ok (.getfield 554, 3) := dk_180 2 42 (dk_at dksX0_goes_2 0 rfl rfl)
theorem dX0_goes_48 : decode cX0_goes 48 = .ok (.iload_n 1, 1) := dk_27 (dk_at dksX0_goes_2 3 rfl rfl)
theorem dX0_goes_49 : decode cX0_goes 49 = .ok (.ifCond .eq 7, 3) := dk_153 0 7 (dk_at dksX0_goes_2 4 rfl rfl)
theorem dX0_goes_52 : decode cX0_goes 52 = .ok (.iconst (-1), 1) := dk_2 (dk_at dksX0_goes_2 7 rfl rfl)
theorem dX0_goes_53 : decode cX0_goes 53 = .ok (.goto 4, 3) := dk_167 0 4 (dk_at dksX0_goes_2 8 rfl rfl)
theorem dX0_goes_56 : decode cX0_goes 56 = .ok (.iconst 1, 1) := dk_4 (dk_at dksX0_goes_2 11 rfl rfl)
theorem dX0_goes_57 : decode cX0_goes 57 = .ok (.iadd, 1) := dk_96 (dk_at dksX0_goes_2 12 rfl rfl)
theorem dX0_goes_58 : decode cX0_goes 58 = .ok (.putfield 554, 3) := dk_181 2 42 (dk_at dksX0_goes_2 13 rfl rfl)
theorem dX0_goes_61 : decode cX0_goes 61 = .ok (.iconst 1, 1) := dk_4 (dk_at dksX0_goes_2 16 rfl rfl)
theorem dX0_goes_62 : decode cX0_goes 62 = .ok (.ireturn, 1) := dk_172 (dk_at dksX0_goes_2 17 rfl rfl)
abbrev cX0_goOnce : ByteArray := prog_1_method_80_code
def yX0_goOnce : MethodName := ⟨RX0, "goOnce", "(Z)V"⟩
def dkwX0_goOnce_8 : List UInt8 := [167, 0, 12, 42, 180, 1, 125, 42, 180, 2, 44, 46, 181, 2, 36, 177]
abbrev dktX0_goOnce_8 : List UInt8 := dkwX0_goOnce_8 ++ []
def dkwX0_goOnce_7 : List UInt8 := [180, 2, 44, 46, 181, 2, 39, 42, 27, 29, 160, 0, 17, 42, 180, 1, 125, 42, 180, 2, 44, 46, 4, 96]
abbrev dktX0_goOnce_7 : List UInt8 := dkwX0_goOnce_7 ++ dktX0_goOnce_8
def dkwX0_goOnce_6 : List UInt8 := [180, 2, 61, 62, 42, 42, 180, 1, 122, 42, 180, 2, 44, 46, 181, 1, 119, 42, 42, 180, 1, 128, 42]
abbrev dktX0_goOnce_6 : List UInt8 := dkwX0_goOnce_6 ++ dktX0_goOnce_7
def dkwX0_goOnce_5 : List UInt8 := [50, 180, 2, 34, 42, 180, 1, 125, 42, 180, 2, 44, 46, 185, 2, 47, 2, 0, 192, 2, 56, 180, 2, 58]
abbrev dktX0_goOnce_5 : List UInt8 := dkwX0_goOnce_5 ++ dktX0_goOnce_6
def dkwX0_goOnce_4 : List UInt8 := [191, 42, 89, 180, 2, 44, 4, 100, 181, 2, 44, 42, 180, 1, 92, 42, 180, 1, 122, 42, 180, 2, 44, 46]
abbrev dktX0_goOnce_4 : List UInt8 := dkwX0_goOnce_4 ++ dktX0_goOnce_5
def dkwX0_goOnce_3 : List UInt8 := [42, 29, 27, 182, 2, 52, 181, 2, 36, 177, 42, 180, 2, 44, 154, 0, 11, 42, 180, 1, 86, 16, 12, 50]
abbrev dktX0_goOnce_3 : List UInt8 := dkwX0_goOnce_3 ++ dktX0_goOnce_4
def dkwX0_goOnce_2 : List UInt8 := [180, 2, 36, 167, 0, 9, 42, 180, 2, 36, 4, 100, 62, 42, 44, 29, 185, 2, 47, 2, 0, 192, 2, 50]
abbrev dktX0_goOnce_2 : List UInt8 := dkwX0_goOnce_2 ++ dktX0_goOnce_3
def dkwX0_goOnce_1 : List UInt8 := [185, 1, 218, 1, 0, 162, 0, 52, 167, 0, 10, 42, 180, 2, 36, 158, 0, 42, 27, 153, 0, 10, 42]
abbrev dktX0_goOnce_1 : List UInt8 := dkwX0_goOnce_1 ++ dktX0_goOnce_2
def dkwX0_goOnce_0 : List UInt8 := [42, 180, 1, 92, 42, 180, 1, 119, 50, 180, 2, 34, 77, 27, 153, 0, 19, 42, 180, 2, 36, 44]
abbrev dktX0_goOnce_0 : List UInt8 := dkwX0_goOnce_0 ++ dktX0_goOnce_1
theorem dksX0_goOnce_0 : cX0_goOnce.data.toList.drop 0 = dktX0_goOnce_0 := by decide +kernel
theorem dksX0_goOnce_1 : cX0_goOnce.data.toList.drop 22 = dktX0_goOnce_1 := dk_seg dksX0_goOnce_0 22 rfl rfl
theorem dksX0_goOnce_2 : cX0_goOnce.data.toList.drop 45 = dktX0_goOnce_2 := dk_seg dksX0_goOnce_1 23 rfl rfl
theorem dksX0_goOnce_3 : cX0_goOnce.data.toList.drop 69 = dktX0_goOnce_3 := dk_seg dksX0_goOnce_2 24 rfl rfl
theorem dksX0_goOnce_4 : cX0_goOnce.data.toList.drop 93 = dktX0_goOnce_4 := dk_seg dksX0_goOnce_3 24 rfl rfl
theorem dksX0_goOnce_5 : cX0_goOnce.data.toList.drop 117 = dktX0_goOnce_5 := dk_seg dksX0_goOnce_4 24 rfl rfl
theorem dksX0_goOnce_6 : cX0_goOnce.data.toList.drop 141 = dktX0_goOnce_6 := dk_seg dksX0_goOnce_5 24 rfl rfl
theorem dksX0_goOnce_7 : cX0_goOnce.data.toList.drop 164 = dktX0_goOnce_7 := dk_seg dksX0_goOnce_6 23 rfl rfl
theorem dksX0_goOnce_8 : cX0_goOnce.data.toList.drop 188 = dktX0_goOnce_8 := dk_seg dksX0_goOnce_7 24 rfl rfl
theorem dX0_goOnce_0 : decode cX0_goOnce 0 = .ok (.aload_n 0, 1) := dk_42 (dk_at dksX0_goOnce_0 0 rfl rfl)
theorem dX0_goOnce_1 : decode cX0_goOnce 1 = .ok (.getfield 348, 3) := dk_180 1 92 (dk_at dksX0_goOnce_0 1 rfl rfl)
theorem dX0_goOnce_4 : decode cX0_goOnce 4 = .ok (.aload_n 0, 1) := dk_42 (dk_at dksX0_goOnce_0 4 rfl rfl)
theorem dX0_goOnce_5 : decode cX0_goOnce 5 = .ok (.getfield 375, 3) := dk_180 1 119 (dk_at dksX0_goOnce_0 5 rfl rfl)
theorem dX0_goOnce_8 : decode cX0_goOnce 8 = .ok (.aaload, 1) := dk_50 (dk_at dksX0_goOnce_0 8 rfl rfl)
theorem dX0_goOnce_9 : decode cX0_goOnce 9 = .ok (.getfield 546, 3) := dk_180 2 34 (dk_at dksX0_goOnce_0 9 rfl rfl)
theorem dX0_goOnce_12 : decode cX0_goOnce 12 = .ok (.astore_n 2, 1) := dk_77 (dk_at dksX0_goOnce_0 12 rfl rfl)
theorem dX0_goOnce_13 : decode cX0_goOnce 13 = .ok (.iload_n 1, 1) := dk_27 (dk_at dksX0_goOnce_0 13 rfl rfl)
theorem dX0_goOnce_14 : decode cX0_goOnce 14 = .ok (.ifCond .eq 19, 3) := dk_153 0 19 (dk_at dksX0_goOnce_0 14 rfl rfl)
theorem dX0_goOnce_17 : decode cX0_goOnce 17 = .ok (.aload_n 0, 1) := dk_42 (dk_at dksX0_goOnce_0 17 rfl rfl)
theorem dX0_goOnce_18 : decode cX0_goOnce 18 = .ok (.getfield 548, 3) := dk_180 2 36 (dk_at dksX0_goOnce_0 18 rfl rfl)
theorem dX0_goOnce_21 : decode cX0_goOnce 21 = .ok (.aload_n 2, 1) := dk_44 (dk_at dksX0_goOnce_0 21 rfl rfl)
theorem dX0_goOnce_22 : decode cX0_goOnce 22 = .ok (.invokeinterface 474 1, 5) := by decide +kernel
theorem dX0_goOnce_27 : decode cX0_goOnce 27 = .ok (.if_icmp .ge 52, 3) := dk_162 0 52 (dk_at dksX0_goOnce_1 5 rfl rfl)
theorem dX0_goOnce_30 : decode cX0_goOnce 30 = .ok (.goto 10, 3) := dk_167 0 10 (dk_at dksX0_goOnce_1 8 rfl rfl)
theorem dX0_goOnce_33 : decode cX0_goOnce 33 = .ok (.aload_n 0, 1) := dk_42 (dk_at dksX0_goOnce_1 11 rfl rfl)
theorem dX0_goOnce_34 : decode cX0_goOnce 34 = .ok (.getfield 548, 3) := dk_180 2 36 (dk_at dksX0_goOnce_1 12 rfl rfl)
theorem dX0_goOnce_37 : decode cX0_goOnce 37 = .ok (.ifCond .le 42, 3) := dk_158 0 42 (dk_at dksX0_goOnce_1 15 rfl rfl)
theorem dX0_goOnce_40 : decode cX0_goOnce 40 = .ok (.iload_n 1, 1) := dk_27 (dk_at dksX0_goOnce_1 18 rfl rfl)
theorem dX0_goOnce_41 : decode cX0_goOnce 41 = .ok (.ifCond .eq 10, 3) := dk_153 0 10 (dk_at dksX0_goOnce_1 19 rfl rfl)
theorem dX0_goOnce_44 : decode cX0_goOnce 44 = .ok (.aload_n 0, 1) := dk_42 (dk_at dksX0_goOnce_1 22 rfl rfl)
theorem dX0_goOnce_45 : decode cX0_goOnce 45 = .ok (.getfield 548, 3) := dk_180 2 36 (dk_at dksX0_goOnce_2 0 rfl rfl)
theorem dX0_goOnce_48 : decode cX0_goOnce 48 = .ok (.goto 9, 3) := dk_167 0 9 (dk_at dksX0_goOnce_2 3 rfl rfl)
theorem dX0_goOnce_51 : decode cX0_goOnce 51 = .ok (.aload_n 0, 1) := dk_42 (dk_at dksX0_goOnce_2 6 rfl rfl)
theorem dX0_goOnce_52 : decode cX0_goOnce 52 = .ok (.getfield 548, 3) := dk_180 2 36 (dk_at dksX0_goOnce_2 7 rfl rfl)
theorem dX0_goOnce_55 : decode cX0_goOnce 55 = .ok (.iconst 1, 1) := dk_4 (dk_at dksX0_goOnce_2 10 rfl rfl)
theorem dX0_goOnce_56 : decode cX0_goOnce 56 = .ok (.isub, 1) := dk_100 (dk_at dksX0_goOnce_2 11 rfl rfl)
theorem dX0_goOnce_57 : decode cX0_goOnce 57 = .ok (.istore_n 3, 1) := dk_62 (dk_at dksX0_goOnce_2 12 rfl rfl)
theorem dX0_goOnce_58 : decode cX0_goOnce 58 = .ok (.aload_n 0, 1) := dk_42 (dk_at dksX0_goOnce_2 13 rfl rfl)
theorem dX0_goOnce_59 : decode cX0_goOnce 59 = .ok (.aload_n 2, 1) := dk_44 (dk_at dksX0_goOnce_2 14 rfl rfl)
theorem dX0_goOnce_60 : decode cX0_goOnce 60 = .ok (.iload_n 3, 1) := dk_29 (dk_at dksX0_goOnce_2 15 rfl rfl)
theorem dX0_goOnce_61 : decode cX0_goOnce 61 = .ok (.invokeinterface 559 2, 5) := by decide +kernel
theorem dX0_goOnce_66 : decode cX0_goOnce 66 = .ok (.checkcast 562, 3) := dk_192 2 50 (dk_at dksX0_goOnce_2 21 rfl rfl)
theorem dX0_goOnce_69 : decode cX0_goOnce 69 = .ok (.aload_n 0, 1) := dk_42 (dk_at dksX0_goOnce_3 0 rfl rfl)
theorem dX0_goOnce_70 : decode cX0_goOnce 70 = .ok (.iload_n 3, 1) := dk_29 (dk_at dksX0_goOnce_3 1 rfl rfl)
theorem dX0_goOnce_71 : decode cX0_goOnce 71 = .ok (.iload_n 1, 1) := dk_27 (dk_at dksX0_goOnce_3 2 rfl rfl)
theorem dX0_goOnce_72 : decode cX0_goOnce 72 = .ok (.invokevirtual 564, 3) := dk_182 2 52 (dk_at dksX0_goOnce_3 3 rfl rfl)
theorem dX0_goOnce_75 : decode cX0_goOnce 75 = .ok (.putfield 548, 3) := dk_181 2 36 (dk_at dksX0_goOnce_3 6 rfl rfl)
theorem dX0_goOnce_78 : decode cX0_goOnce 78 = .ok (.return_, 1) := dk_177 (dk_at dksX0_goOnce_3 9 rfl rfl)
theorem dX0_goOnce_79 : decode cX0_goOnce 79 = .ok (.aload_n 0, 1) := dk_42 (dk_at dksX0_goOnce_3 10 rfl rfl)
theorem dX0_goOnce_80 : decode cX0_goOnce 80 = .ok (.getfield 556, 3) := dk_180 2 44 (dk_at dksX0_goOnce_3 11 rfl rfl)
theorem dX0_goOnce_83 : decode cX0_goOnce 83 = .ok (.ifCond .ne 11, 3) := dk_154 0 11 (dk_at dksX0_goOnce_3 14 rfl rfl)
theorem dX0_goOnce_86 : decode cX0_goOnce 86 = .ok (.aload_n 0, 1) := dk_42 (dk_at dksX0_goOnce_3 17 rfl rfl)
theorem dX0_goOnce_87 : decode cX0_goOnce 87 = .ok (.getfield 342, 3) := dk_180 1 86 (dk_at dksX0_goOnce_3 18 rfl rfl)
theorem dX0_goOnce_90 : decode cX0_goOnce 90 = .ok (.bipush 12, 2) := dk_16 12 (dk_at dksX0_goOnce_3 21 rfl rfl)
theorem dX0_goOnce_92 : decode cX0_goOnce 92 = .ok (.aaload, 1) := dk_50 (dk_at dksX0_goOnce_3 23 rfl rfl)
theorem dX0_goOnce_93 : decode cX0_goOnce 93 = .ok (.athrow, 1) := dk_191 (dk_at dksX0_goOnce_4 0 rfl rfl)
theorem dX0_goOnce_94 : decode cX0_goOnce 94 = .ok (.aload_n 0, 1) := dk_42 (dk_at dksX0_goOnce_4 1 rfl rfl)
theorem dX0_goOnce_95 : decode cX0_goOnce 95 = .ok (.dup, 1) := dk_89 (dk_at dksX0_goOnce_4 2 rfl rfl)
theorem dX0_goOnce_96 : decode cX0_goOnce 96 = .ok (.getfield 556, 3) := dk_180 2 44 (dk_at dksX0_goOnce_4 3 rfl rfl)
theorem dX0_goOnce_99 : decode cX0_goOnce 99 = .ok (.iconst 1, 1) := dk_4 (dk_at dksX0_goOnce_4 6 rfl rfl)
theorem dX0_goOnce_100 : decode cX0_goOnce 100 = .ok (.isub, 1) := dk_100 (dk_at dksX0_goOnce_4 7 rfl rfl)
theorem dX0_goOnce_101 : decode cX0_goOnce 101 = .ok (.putfield 556, 3) := dk_181 2 44 (dk_at dksX0_goOnce_4 8 rfl rfl)
theorem dX0_goOnce_104 : decode cX0_goOnce 104 = .ok (.aload_n 0, 1) := dk_42 (dk_at dksX0_goOnce_4 11 rfl rfl)
theorem dX0_goOnce_105 : decode cX0_goOnce 105 = .ok (.getfield 348, 3) := dk_180 1 92 (dk_at dksX0_goOnce_4 12 rfl rfl)
theorem dX0_goOnce_108 : decode cX0_goOnce 108 = .ok (.aload_n 0, 1) := dk_42 (dk_at dksX0_goOnce_4 15 rfl rfl)
theorem dX0_goOnce_109 : decode cX0_goOnce 109 = .ok (.getfield 378, 3) := dk_180 1 122 (dk_at dksX0_goOnce_4 16 rfl rfl)
theorem dX0_goOnce_112 : decode cX0_goOnce 112 = .ok (.aload_n 0, 1) := dk_42 (dk_at dksX0_goOnce_4 19 rfl rfl)
theorem dX0_goOnce_113 : decode cX0_goOnce 113 = .ok (.getfield 556, 3) := dk_180 2 44 (dk_at dksX0_goOnce_4 20 rfl rfl)
theorem dX0_goOnce_116 : decode cX0_goOnce 116 = .ok (.iaload, 1) := dk_46 (dk_at dksX0_goOnce_4 23 rfl rfl)
theorem dX0_goOnce_117 : decode cX0_goOnce 117 = .ok (.aaload, 1) := dk_50 (dk_at dksX0_goOnce_5 0 rfl rfl)
theorem dX0_goOnce_118 : decode cX0_goOnce 118 = .ok (.getfield 546, 3) := dk_180 2 34 (dk_at dksX0_goOnce_5 1 rfl rfl)
theorem dX0_goOnce_121 : decode cX0_goOnce 121 = .ok (.aload_n 0, 1) := dk_42 (dk_at dksX0_goOnce_5 4 rfl rfl)
theorem dX0_goOnce_122 : decode cX0_goOnce 122 = .ok (.getfield 381, 3) := dk_180 1 125 (dk_at dksX0_goOnce_5 5 rfl rfl)
theorem dX0_goOnce_125 : decode cX0_goOnce 125 = .ok (.aload_n 0, 1) := dk_42 (dk_at dksX0_goOnce_5 8 rfl rfl)
theorem dX0_goOnce_126 : decode cX0_goOnce 126 = .ok (.getfield 556, 3) := dk_180 2 44 (dk_at dksX0_goOnce_5 9 rfl rfl)
theorem dX0_goOnce_129 : decode cX0_goOnce 129 = .ok (.iaload, 1) := dk_46 (dk_at dksX0_goOnce_5 12 rfl rfl)
theorem dX0_goOnce_130 : decode cX0_goOnce 130 = .ok (.invokeinterface 559 2, 5) := by decide +kernel
theorem dX0_goOnce_135 : decode cX0_goOnce 135 = .ok (.checkcast 568, 3) := dk_192 2 56 (dk_at dksX0_goOnce_5 18 rfl rfl)
theorem dX0_goOnce_138 : decode cX0_goOnce 138 = .ok (.getfield 570, 3) := dk_180 2 58 (dk_at dksX0_goOnce_5 21 rfl rfl)
theorem dX0_goOnce_141 : decode cX0_goOnce 141 = .ok (.getfield 573, 3) := dk_180 2 61 (dk_at dksX0_goOnce_6 0 rfl rfl)
theorem dX0_goOnce_144 : decode cX0_goOnce 144 = .ok (.istore_n 3, 1) := dk_62 (dk_at dksX0_goOnce_6 3 rfl rfl)
theorem dX0_goOnce_145 : decode cX0_goOnce 145 = .ok (.aload_n 0, 1) := dk_42 (dk_at dksX0_goOnce_6 4 rfl rfl)
theorem dX0_goOnce_146 : decode cX0_goOnce 146 = .ok (.aload_n 0, 1) := dk_42 (dk_at dksX0_goOnce_6 5 rfl rfl)
theorem dX0_goOnce_147 : decode cX0_goOnce 147 = .ok (.getfield 378, 3) := dk_180 1 122 (dk_at dksX0_goOnce_6 6 rfl rfl)
theorem dX0_goOnce_150 : decode cX0_goOnce 150 = .ok (.aload_n 0, 1) := dk_42 (dk_at dksX0_goOnce_6 9 rfl rfl)
theorem dX0_goOnce_151 : decode cX0_goOnce 151 = .ok (.getfield 556, 3) := dk_180 2 44 (dk_at dksX0_goOnce_6 10 rfl rfl)
theorem dX0_goOnce_154 : decode cX0_goOnce 154 = .ok (.iaload, 1) := dk_46 (dk_at dksX0_goOnce_6 13 rfl rfl)
theorem dX0_goOnce_155 : decode cX0_goOnce 155 = .ok (.putfield 375, 3) := dk_181 1 119 (dk_at dksX0_goOnce_6 14 rfl rfl)
theorem dX0_goOnce_158 : decode cX0_goOnce 158 = .ok (.aload_n 0, 1) := dk_42 (dk_at dksX0_goOnce_6 17 rfl rfl)
theorem dX0_goOnce_159 : decode cX0_goOnce 159 = .ok (.aload_n 0, 1) := dk_42 (dk_at dksX0_goOnce_6 18 rfl rfl)
theorem dX0_goOnce_160 : decode cX0_goOnce 160 = .ok (.getfield 384, 3) := dk_180 1 128 (dk_at dksX0_goOnce_6 19 rfl rfl)
theorem dX0_goOnce_163 : decode cX0_goOnce 163 = .ok (.aload_n 0, 1) := dk_42 (dk_at dksX0_goOnce_6 22 rfl rfl)
theorem dX0_goOnce_164 : decode cX0_goOnce 164 = .ok (.getfield 556, 3) := dk_180 2 44 (dk_at dksX0_goOnce_7 0 rfl rfl)
theorem dX0_goOnce_167 : decode cX0_goOnce 167 = .ok (.iaload, 1) := dk_46 (dk_at dksX0_goOnce_7 3 rfl rfl)
theorem dX0_goOnce_168 : decode cX0_goOnce 168 = .ok (.putfield 551, 3) := dk_181 2 39 (dk_at dksX0_goOnce_7 4 rfl rfl)
theorem dX0_goOnce_171 : decode cX0_goOnce 171 = .ok (.aload_n 0, 1) := dk_42 (dk_at dksX0_goOnce_7 7 rfl rfl)
theorem dX0_goOnce_172 : decode cX0_goOnce 172 = .ok (.iload_n 1, 1) := dk_27 (dk_at dksX0_goOnce_7 8 rfl rfl)
theorem dX0_goOnce_173 : decode cX0_goOnce 173 = .ok (.iload_n 3, 1) := dk_29 (dk_at dksX0_goOnce_7 9 rfl rfl)
theorem dX0_goOnce_174 : decode cX0_goOnce 174 = .ok (.if_icmp .ne 17, 3) := dk_160 0 17 (dk_at dksX0_goOnce_7 10 rfl rfl)
theorem dX0_goOnce_177 : decode cX0_goOnce 177 = .ok (.aload_n 0, 1) := dk_42 (dk_at dksX0_goOnce_7 13 rfl rfl)
theorem dX0_goOnce_178 : decode cX0_goOnce 178 = .ok (.getfield 381, 3) := dk_180 1 125 (dk_at dksX0_goOnce_7 14 rfl rfl)
theorem dX0_goOnce_181 : decode cX0_goOnce 181 = .ok (.aload_n 0, 1) := dk_42 (dk_at dksX0_goOnce_7 17 rfl rfl)
theorem dX0_goOnce_182 : decode cX0_goOnce 182 = .ok (.getfield 556, 3) := dk_180 2 44 (dk_at dksX0_goOnce_7 18 rfl rfl)
theorem dX0_goOnce_185 : decode cX0_goOnce 185 = .ok (.iaload, 1) := dk_46 (dk_at dksX0_goOnce_7 21 rfl rfl)
theorem dX0_goOnce_186 : decode cX0_goOnce 186 = .ok (.iconst 1, 1) := dk_4 (dk_at dksX0_goOnce_7 22 rfl rfl)
theorem dX0_goOnce_187 : decode cX0_goOnce 187 = .ok (.iadd, 1) := dk_96 (dk_at dksX0_goOnce_7 23 rfl rfl)
theorem dX0_goOnce_188 : decode cX0_goOnce 188 = .ok (.goto 12, 3) := dk_167 0 12 (dk_at dksX0_goOnce_8 0 rfl rfl)
theorem dX0_goOnce_191 : decode cX0_goOnce 191 = .ok (.aload_n 0, 1) := dk_42 (dk_at dksX0_goOnce_8 3 rfl rfl)
theorem dX0_goOnce_192 : decode cX0_goOnce 192 = .ok (.getfield 381, 3) := dk_180 1 125 (dk_at dksX0_goOnce_8 4 rfl rfl)
theorem dX0_goOnce_195 : decode cX0_goOnce 195 = .ok (.aload_n 0, 1) := dk_42 (dk_at dksX0_goOnce_8 7 rfl rfl)
theorem dX0_goOnce_196 : decode cX0_goOnce 196 = .ok (.getfield 556, 3) := dk_180 2 44 (dk_at dksX0_goOnce_8 8 rfl rfl)
theorem dX0_goOnce_199 : decode cX0_goOnce 199 = .ok (.iaload, 1) := dk_46 (dk_at dksX0_goOnce_8 11 rfl rfl)
theorem dX0_goOnce_200 : decode cX0_goOnce 200 = .ok (.putfield 548, 3) := dk_181 2 36 (dk_at dksX0_goOnce_8 12 rfl rfl)
theorem dX0_goOnce_203 : decode cX0_goOnce 203 = .ok (.return_, 1) := dk_177 (dk_at dksX0_goOnce_8 15 rfl rfl)
abbrev cX0_bar : ByteArray := prog_1_method_38_code
def yX0_bar : MethodName := ⟨RX0, "bar", "(LThereAndBack$Place;I)V"⟩
def dkwX0_bar_1 : List UInt8 := [180, 1, 106, 43, 180, 1, 148, 50, 180, 1, 151, 181, 1, 154, 42, 28, 181, 1, 157, 177]
abbrev dktX0_bar_1 : List UInt8 := dkwX0_bar_1 ++ []
def dkwX0_bar_0 : List UInt8 := [42, 182, 1, 145, 43, 182, 1, 68, 153, 0, 14, 42, 43, 180, 1, 71, 181, 1, 131, 167, 0, 24, 42, 42]
abbrev dktX0_bar_0 : List UInt8 := dkwX0_bar_0 ++ dktX0_bar_1
theorem dksX0_bar_0 : cX0_bar.data.toList.drop 0 = dktX0_bar_0 := by decide +kernel
theorem dksX0_bar_1 : cX0_bar.data.toList.drop 24 = dktX0_bar_1 := dk_seg dksX0_bar_0 24 rfl rfl
theorem dX0_bar_0 : decode cX0_bar 0 = .ok (.aload_n 0, 1) := dk_42 (dk_at dksX0_bar_0 0 rfl rfl)
theorem dX0_bar_1 : decode cX0_bar 1 = .ok (.invokevirtual 401, 3) := dk_182 1 145 (dk_at dksX0_bar_0 1 rfl rfl)
theorem dX0_bar_4 : decode cX0_bar 4 = .ok (.aload_n 1, 1) := dk_43 (dk_at dksX0_bar_0 4 rfl rfl)
theorem dX0_bar_5 : decode cX0_bar 5 = .ok (.invokevirtual 324, 3) := dk_182 1 68 (dk_at dksX0_bar_0 5 rfl rfl)
theorem dX0_bar_8 : decode cX0_bar 8 = .ok (.ifCond .eq 14, 3) := dk_153 0 14 (dk_at dksX0_bar_0 8 rfl rfl)
theorem dX0_bar_11 : decode cX0_bar 11 = .ok (.aload_n 0, 1) := dk_42 (dk_at dksX0_bar_0 11 rfl rfl)
theorem dX0_bar_12 : decode cX0_bar 12 = .ok (.aload_n 1, 1) := dk_43 (dk_at dksX0_bar_0 12 rfl rfl)
theorem dX0_bar_13 : decode cX0_bar 13 = .ok (.getfield 327, 3) := dk_180 1 71 (dk_at dksX0_bar_0 13 rfl rfl)
theorem dX0_bar_16 : decode cX0_bar 16 = .ok (.putfield 387, 3) := dk_181 1 131 (dk_at dksX0_bar_0 16 rfl rfl)
theorem dX0_bar_19 : decode cX0_bar 19 = .ok (.goto 24, 3) := dk_167 0 24 (dk_at dksX0_bar_0 19 rfl rfl)
theorem dX0_bar_22 : decode cX0_bar 22 = .ok (.aload_n 0, 1) := dk_42 (dk_at dksX0_bar_0 22 rfl rfl)
theorem dX0_bar_23 : decode cX0_bar 23 = .ok (.aload_n 0, 1) := dk_42 (dk_at dksX0_bar_0 23 rfl rfl)
theorem dX0_bar_24 : decode cX0_bar 24 = .ok (.getfield 362, 3) := dk_180 1 106 (dk_at dksX0_bar_1 0 rfl rfl)
theorem dX0_bar_27 : decode cX0_bar 27 = .ok (.aload_n 1, 1) := dk_43 (dk_at dksX0_bar_1 3 rfl rfl)
theorem dX0_bar_28 : decode cX0_bar 28 = .ok (.getfield 404, 3) := dk_180 1 148 (dk_at dksX0_bar_1 4 rfl rfl)
theorem dX0_bar_31 : decode cX0_bar 31 = .ok (.aaload, 1) := dk_50 (dk_at dksX0_bar_1 7 rfl rfl)
theorem dX0_bar_32 : decode cX0_bar 32 = .ok (.getfield 407, 3) := dk_180 1 151 (dk_at dksX0_bar_1 8 rfl rfl)
theorem dX0_bar_35 : decode cX0_bar 35 = .ok (.putfield 410, 3) := dk_181 1 154 (dk_at dksX0_bar_1 11 rfl rfl)
theorem dX0_bar_38 : decode cX0_bar 38 = .ok (.aload_n 0, 1) := dk_42 (dk_at dksX0_bar_1 14 rfl rfl)
theorem dX0_bar_39 : decode cX0_bar 39 = .ok (.iload_n 2, 1) := dk_28 (dk_at dksX0_bar_1 15 rfl rfl)
theorem dX0_bar_40 : decode cX0_bar 40 = .ok (.putfield 413, 3) := dk_181 1 157 (dk_at dksX0_bar_1 16 rfl rfl)
theorem dX0_bar_43 : decode cX0_bar 43 = .ok (.return_, 1) := dk_177 (dk_at dksX0_bar_1 19 rfl rfl)
abbrev cX0_free : ByteArray := prog_1_method_39_code
def yX0_free : MethodName := ⟨RX0, "free", "()V"⟩
def dkwX0_free_0 : List UInt8 := [42, 2, 181, 1, 131, 42, 1, 181, 1, 154, 177]
abbrev dktX0_free_0 : List UInt8 := dkwX0_free_0 ++ []
theorem dksX0_free_0 : cX0_free.data.toList.drop 0 = dktX0_free_0 := by decide +kernel
theorem dX0_free_0 : decode cX0_free 0 = .ok (.aload_n 0, 1) := dk_42 (dk_at dksX0_free_0 0 rfl rfl)
theorem dX0_free_1 : decode cX0_free 1 = .ok (.iconst (-1), 1) := dk_2 (dk_at dksX0_free_0 1 rfl rfl)
theorem dX0_free_2 : decode cX0_free 2 = .ok (.putfield 387, 3) := dk_181 1 131 (dk_at dksX0_free_0 2 rfl rfl)
theorem dX0_free_5 : decode cX0_free 5 = .ok (.aload_n 0, 1) := dk_42 (dk_at dksX0_free_0 5 rfl rfl)
theorem dX0_free_6 : decode cX0_free 6 = .ok (.aconst_null, 1) := dk_1 (dk_at dksX0_free_0 6 rfl rfl)
theorem dX0_free_7 : decode cX0_free 7 = .ok (.putfield 410, 3) := dk_181 1 154 (dk_at dksX0_free_0 7 rfl rfl)
theorem dX0_free_10 : decode cX0_free 10 = .ok (.return_, 1) := dk_177 (dk_at dksX0_free_0 10 rfl rfl)
abbrev cX0_bitsOf : ByteArray := prog_1_method_2_code
def yX0_bitsOf : MethodName := ⟨RX0, "bitsOf", "(I)I"⟩
def dkwX0_bitsOf_1 : List UInt8 := [16, 8, 167, 0, 5, 16, 16, 172]
abbrev dktX0_bitsOf_1 : List UInt8 := dkwX0_bitsOf_1 ++ []
def dkwX0_bitsOf_0 : List UInt8 := [26, 154, 0, 8, 16, 32, 167, 0, 25, 26, 4, 160, 0, 8, 16, 64, 167, 0, 15, 26, 6, 160, 0, 8]
abbrev dktX0_bitsOf_0 : List UInt8 := dkwX0_bitsOf_0 ++ dktX0_bitsOf_1
theorem dksX0_bitsOf_0 : cX0_bitsOf.data.toList.drop 0 = dktX0_bitsOf_0 := by decide +kernel
theorem dksX0_bitsOf_1 : cX0_bitsOf.data.toList.drop 24 = dktX0_bitsOf_1 := dk_seg dksX0_bitsOf_0 24 rfl rfl
theorem dX0_bitsOf_0 : decode cX0_bitsOf 0 = .ok (.iload_n 0, 1) := dk_26 (dk_at dksX0_bitsOf_0 0 rfl rfl)
theorem dX0_bitsOf_1 : decode cX0_bitsOf 1 = .ok (.ifCond .ne 8, 3) := dk_154 0 8 (dk_at dksX0_bitsOf_0 1 rfl rfl)
theorem dX0_bitsOf_4 : decode cX0_bitsOf 4 = .ok (.bipush 32, 2) := dk_16 32 (dk_at dksX0_bitsOf_0 4 rfl rfl)
theorem dX0_bitsOf_6 : decode cX0_bitsOf 6 = .ok (.goto 25, 3) := dk_167 0 25 (dk_at dksX0_bitsOf_0 6 rfl rfl)
theorem dX0_bitsOf_9 : decode cX0_bitsOf 9 = .ok (.iload_n 0, 1) := dk_26 (dk_at dksX0_bitsOf_0 9 rfl rfl)
theorem dX0_bitsOf_10 : decode cX0_bitsOf 10 = .ok (.iconst 1, 1) := dk_4 (dk_at dksX0_bitsOf_0 10 rfl rfl)
theorem dX0_bitsOf_11 : decode cX0_bitsOf 11 = .ok (.if_icmp .ne 8, 3) := dk_160 0 8 (dk_at dksX0_bitsOf_0 11 rfl rfl)
theorem dX0_bitsOf_14 : decode cX0_bitsOf 14 = .ok (.bipush 64, 2) := dk_16 64 (dk_at dksX0_bitsOf_0 14 rfl rfl)
theorem dX0_bitsOf_16 : decode cX0_bitsOf 16 = .ok (.goto 15, 3) := dk_167 0 15 (dk_at dksX0_bitsOf_0 16 rfl rfl)
theorem dX0_bitsOf_19 : decode cX0_bitsOf 19 = .ok (.iload_n 0, 1) := dk_26 (dk_at dksX0_bitsOf_0 19 rfl rfl)
theorem dX0_bitsOf_20 : decode cX0_bitsOf 20 = .ok (.iconst 3, 1) := dk_6 (dk_at dksX0_bitsOf_0 20 rfl rfl)
theorem dX0_bitsOf_21 : decode cX0_bitsOf 21 = .ok (.if_icmp .ne 8, 3) := dk_160 0 8 (dk_at dksX0_bitsOf_0 21 rfl rfl)
theorem dX0_bitsOf_24 : decode cX0_bitsOf 24 = .ok (.bipush 8, 2) := dk_16 8 (dk_at dksX0_bitsOf_1 0 rfl rfl)
theorem dX0_bitsOf_26 : decode cX0_bitsOf 26 = .ok (.goto 5, 3) := dk_167 0 5 (dk_at dksX0_bitsOf_1 2 rfl rfl)
theorem dX0_bitsOf_29 : decode cX0_bitsOf 29 = .ok (.bipush 16, 2) := dk_16 16 (dk_at dksX0_bitsOf_1 5 rfl rfl)
theorem dX0_bitsOf_31 : decode cX0_bitsOf 31 = .ok (.ireturn, 1) := dk_172 (dk_at dksX0_bitsOf_1 7 rfl rfl)
abbrev cX0_turned : ByteArray := prog_1_method_3_code
def yX0_turned : MethodName := ⟨RX0, "turned", "(JIJ)J"⟩
def dkwX0_turned_2 : List UInt8 := [55, 6, 22, 6, 21, 5, 121, 22, 6, 28, 21, 5, 100, 125, 129, 173]
abbrev dktX0_turned_2 : List UInt8 := dkwX0_turned_2 ++ []
def dkwX0_turned_1 : List UInt8 := [30, 167, 0, 15, 30, 21, 5, 121, 30, 16, 64, 21, 5, 100, 125, 129, 173, 30, 10, 28, 121, 10, 101, 127]
abbrev dktX0_turned_1 : List UInt8 := dkwX0_turned_1 ++ dktX0_turned_2
def dkwX0_turned_0 : List UInt8 := [33, 28, 133, 113, 28, 133, 97, 28, 133, 113, 136, 54, 5, 28, 16, 64, 160, 0, 25, 21, 5, 154, 0, 7]
abbrev dktX0_turned_0 : List UInt8 := dkwX0_turned_0 ++ dktX0_turned_1
theorem dksX0_turned_0 : cX0_turned.data.toList.drop 0 = dktX0_turned_0 := by decide +kernel
theorem dksX0_turned_1 : cX0_turned.data.toList.drop 24 = dktX0_turned_1 := dk_seg dksX0_turned_0 24 rfl rfl
theorem dksX0_turned_2 : cX0_turned.data.toList.drop 48 = dktX0_turned_2 := dk_seg dksX0_turned_1 24 rfl rfl
theorem dX0_turned_0 : decode cX0_turned 0 = .ok (.lload_n 3, 1) := dk_33 (dk_at dksX0_turned_0 0 rfl rfl)
theorem dX0_turned_1 : decode cX0_turned 1 = .ok (.iload_n 2, 1) := dk_28 (dk_at dksX0_turned_0 1 rfl rfl)
theorem dX0_turned_2 : decode cX0_turned 2 = .ok (.i2l, 1) := dk_133 (dk_at dksX0_turned_0 2 rfl rfl)
theorem dX0_turned_3 : decode cX0_turned 3 = .ok (.lrem, 1) := dk_113 (dk_at dksX0_turned_0 3 rfl rfl)
theorem dX0_turned_4 : decode cX0_turned 4 = .ok (.iload_n 2, 1) := dk_28 (dk_at dksX0_turned_0 4 rfl rfl)
theorem dX0_turned_5 : decode cX0_turned 5 = .ok (.i2l, 1) := dk_133 (dk_at dksX0_turned_0 5 rfl rfl)
theorem dX0_turned_6 : decode cX0_turned 6 = .ok (.ladd, 1) := dk_97 (dk_at dksX0_turned_0 6 rfl rfl)
theorem dX0_turned_7 : decode cX0_turned 7 = .ok (.iload_n 2, 1) := dk_28 (dk_at dksX0_turned_0 7 rfl rfl)
theorem dX0_turned_8 : decode cX0_turned 8 = .ok (.i2l, 1) := dk_133 (dk_at dksX0_turned_0 8 rfl rfl)
theorem dX0_turned_9 : decode cX0_turned 9 = .ok (.lrem, 1) := dk_113 (dk_at dksX0_turned_0 9 rfl rfl)
theorem dX0_turned_10 : decode cX0_turned 10 = .ok (.l2i, 1) := dk_136 (dk_at dksX0_turned_0 10 rfl rfl)
theorem dX0_turned_11 : decode cX0_turned 11 = .ok (.istore 5, 2) := dk_54 5 (dk_at dksX0_turned_0 11 rfl rfl)
theorem dX0_turned_13 : decode cX0_turned 13 = .ok (.iload_n 2, 1) := dk_28 (dk_at dksX0_turned_0 13 rfl rfl)
theorem dX0_turned_14 : decode cX0_turned 14 = .ok (.bipush 64, 2) := dk_16 64 (dk_at dksX0_turned_0 14 rfl rfl)
theorem dX0_turned_16 : decode cX0_turned 16 = .ok (.if_icmp .ne 25, 3) := dk_160 0 25 (dk_at dksX0_turned_0 16 rfl rfl)
theorem dX0_turned_19 : decode cX0_turned 19 = .ok (.iload 5, 2) := dk_21 5 (dk_at dksX0_turned_0 19 rfl rfl)
theorem dX0_turned_21 : decode cX0_turned 21 = .ok (.ifCond .ne 7, 3) := dk_154 0 7 (dk_at dksX0_turned_0 21 rfl rfl)
theorem dX0_turned_24 : decode cX0_turned 24 = .ok (.lload_n 0, 1) := dk_30 (dk_at dksX0_turned_1 0 rfl rfl)
theorem dX0_turned_25 : decode cX0_turned 25 = .ok (.goto 15, 3) := dk_167 0 15 (dk_at dksX0_turned_1 1 rfl rfl)
theorem dX0_turned_28 : decode cX0_turned 28 = .ok (.lload_n 0, 1) := dk_30 (dk_at dksX0_turned_1 4 rfl rfl)
theorem dX0_turned_29 : decode cX0_turned 29 = .ok (.iload 5, 2) := dk_21 5 (dk_at dksX0_turned_1 5 rfl rfl)
theorem dX0_turned_31 : decode cX0_turned 31 = .ok (.lshl, 1) := dk_121 (dk_at dksX0_turned_1 7 rfl rfl)
theorem dX0_turned_32 : decode cX0_turned 32 = .ok (.lload_n 0, 1) := dk_30 (dk_at dksX0_turned_1 8 rfl rfl)
theorem dX0_turned_33 : decode cX0_turned 33 = .ok (.bipush 64, 2) := dk_16 64 (dk_at dksX0_turned_1 9 rfl rfl)
theorem dX0_turned_35 : decode cX0_turned 35 = .ok (.iload 5, 2) := dk_21 5 (dk_at dksX0_turned_1 11 rfl rfl)
theorem dX0_turned_37 : decode cX0_turned 37 = .ok (.isub, 1) := dk_100 (dk_at dksX0_turned_1 13 rfl rfl)
theorem dX0_turned_38 : decode cX0_turned 38 = .ok (.lushr, 1) := dk_125 (dk_at dksX0_turned_1 14 rfl rfl)
theorem dX0_turned_39 : decode cX0_turned 39 = .ok (.lor, 1) := dk_129 (dk_at dksX0_turned_1 15 rfl rfl)
theorem dX0_turned_40 : decode cX0_turned 40 = .ok (.lreturn, 1) := dk_173 (dk_at dksX0_turned_1 16 rfl rfl)
theorem dX0_turned_41 : decode cX0_turned 41 = .ok (.lload_n 0, 1) := dk_30 (dk_at dksX0_turned_1 17 rfl rfl)
theorem dX0_turned_42 : decode cX0_turned 42 = .ok (.lconst 1, 1) := dk_10 (dk_at dksX0_turned_1 18 rfl rfl)
theorem dX0_turned_43 : decode cX0_turned 43 = .ok (.iload_n 2, 1) := dk_28 (dk_at dksX0_turned_1 19 rfl rfl)
theorem dX0_turned_44 : decode cX0_turned 44 = .ok (.lshl, 1) := dk_121 (dk_at dksX0_turned_1 20 rfl rfl)
theorem dX0_turned_45 : decode cX0_turned 45 = .ok (.lconst 1, 1) := dk_10 (dk_at dksX0_turned_1 21 rfl rfl)
theorem dX0_turned_46 : decode cX0_turned 46 = .ok (.lsub, 1) := dk_101 (dk_at dksX0_turned_1 22 rfl rfl)
theorem dX0_turned_47 : decode cX0_turned 47 = .ok (.land, 1) := dk_127 (dk_at dksX0_turned_1 23 rfl rfl)
theorem dX0_turned_48 : decode cX0_turned 48 = .ok (.lstore 6, 2) := dk_55 6 (dk_at dksX0_turned_2 0 rfl rfl)
theorem dX0_turned_50 : decode cX0_turned 50 = .ok (.lload 6, 2) := dk_22 6 (dk_at dksX0_turned_2 2 rfl rfl)
theorem dX0_turned_52 : decode cX0_turned 52 = .ok (.iload 5, 2) := dk_21 5 (dk_at dksX0_turned_2 4 rfl rfl)
theorem dX0_turned_54 : decode cX0_turned 54 = .ok (.lshl, 1) := dk_121 (dk_at dksX0_turned_2 6 rfl rfl)
theorem dX0_turned_55 : decode cX0_turned 55 = .ok (.lload 6, 2) := dk_22 6 (dk_at dksX0_turned_2 7 rfl rfl)
theorem dX0_turned_57 : decode cX0_turned 57 = .ok (.iload_n 2, 1) := dk_28 (dk_at dksX0_turned_2 9 rfl rfl)
theorem dX0_turned_58 : decode cX0_turned 58 = .ok (.iload 5, 2) := dk_21 5 (dk_at dksX0_turned_2 10 rfl rfl)
theorem dX0_turned_60 : decode cX0_turned 60 = .ok (.isub, 1) := dk_100 (dk_at dksX0_turned_2 12 rfl rfl)
theorem dX0_turned_61 : decode cX0_turned 61 = .ok (.lushr, 1) := dk_125 (dk_at dksX0_turned_2 13 rfl rfl)
theorem dX0_turned_62 : decode cX0_turned 62 = .ok (.lor, 1) := dk_129 (dk_at dksX0_turned_2 14 rfl rfl)
theorem dX0_turned_63 : decode cX0_turned 63 = .ok (.lreturn, 1) := dk_173 (dk_at dksX0_turned_2 15 rfl rfl)
abbrev cX0_run : ByteArray := prog_1_method_84_code
def yX0_run : MethodName := ⟨RX0, "run", "(I)I"⟩
def dkwX0_run_1 : List UInt8 := [16, 254, 167, 0, 20, 42, 27, 184, 2, 83, 27, 156, 0, 7, 4, 167, 0, 4, 3, 182, 2, 75, 172]
abbrev dktX0_run_1 : List UInt8 := dkwX0_run_1 ++ []
def dkwX0_run_0 : List UInt8 := [27, 133, 20, 2, 79, 20, 2, 81, 184, 1, 168, 154, 0, 5, 2, 172, 42, 180, 1, 119, 156, 0, 8]
abbrev dktX0_run_0 : List UInt8 := dkwX0_run_0 ++ dktX0_run_1
theorem dksX0_run_0 : cX0_run.data.toList.drop 0 = dktX0_run_0 := by decide +kernel
theorem dksX0_run_1 : cX0_run.data.toList.drop 23 = dktX0_run_1 := dk_seg dksX0_run_0 23 rfl rfl
theorem dX0_run_0 : decode cX0_run 0 = .ok (.iload_n 1, 1) := dk_27 (dk_at dksX0_run_0 0 rfl rfl)
theorem dX0_run_1 : decode cX0_run 1 = .ok (.i2l, 1) := dk_133 (dk_at dksX0_run_0 1 rfl rfl)
theorem dX0_run_2 : decode cX0_run 2 = .ok (.ldc2_w 591, 3) := dk_20 2 79 (dk_at dksX0_run_0 2 rfl rfl)
theorem dX0_run_5 : decode cX0_run 5 = .ok (.ldc2_w 593, 3) := dk_20 2 81 (dk_at dksX0_run_0 5 rfl rfl)
theorem dX0_run_8 : decode cX0_run 8 = .ok (.invokestatic 424, 3) := dk_184 1 168 (dk_at dksX0_run_0 8 rfl rfl)
theorem dX0_run_11 : decode cX0_run 11 = .ok (.ifCond .ne 5, 3) := dk_154 0 5 (dk_at dksX0_run_0 11 rfl rfl)
theorem dX0_run_14 : decode cX0_run 14 = .ok (.iconst (-1), 1) := dk_2 (dk_at dksX0_run_0 14 rfl rfl)
theorem dX0_run_15 : decode cX0_run 15 = .ok (.ireturn, 1) := dk_172 (dk_at dksX0_run_0 15 rfl rfl)
theorem dX0_run_16 : decode cX0_run 16 = .ok (.aload_n 0, 1) := dk_42 (dk_at dksX0_run_0 16 rfl rfl)
theorem dX0_run_17 : decode cX0_run 17 = .ok (.getfield 375, 3) := dk_180 1 119 (dk_at dksX0_run_0 17 rfl rfl)
theorem dX0_run_20 : decode cX0_run 20 = .ok (.ifCond .ge 8, 3) := dk_156 0 8 (dk_at dksX0_run_0 20 rfl rfl)
theorem dX0_run_23 : decode cX0_run 23 = .ok (.bipush (-2), 2) := dk_16 254 (dk_at dksX0_run_1 0 rfl rfl)
theorem dX0_run_25 : decode cX0_run 25 = .ok (.goto 20, 3) := dk_167 0 20 (dk_at dksX0_run_1 2 rfl rfl)
theorem dX0_run_28 : decode cX0_run 28 = .ok (.aload_n 0, 1) := dk_42 (dk_at dksX0_run_1 5 rfl rfl)
theorem dX0_run_29 : decode cX0_run 29 = .ok (.iload_n 1, 1) := dk_27 (dk_at dksX0_run_1 6 rfl rfl)
theorem dX0_run_30 : decode cX0_run 30 = .ok (.invokestatic 595, 3) := dk_184 2 83 (dk_at dksX0_run_1 7 rfl rfl)
theorem dX0_run_33 : decode cX0_run 33 = .ok (.iload_n 1, 1) := dk_27 (dk_at dksX0_run_1 10 rfl rfl)
theorem dX0_run_34 : decode cX0_run 34 = .ok (.ifCond .ge 7, 3) := dk_156 0 7 (dk_at dksX0_run_1 11 rfl rfl)
theorem dX0_run_37 : decode cX0_run 37 = .ok (.iconst 1, 1) := dk_4 (dk_at dksX0_run_1 14 rfl rfl)
theorem dX0_run_38 : decode cX0_run 38 = .ok (.goto 4, 3) := dk_167 0 4 (dk_at dksX0_run_1 15 rfl rfl)
theorem dX0_run_41 : decode cX0_run 41 = .ok (.iconst 0, 1) := dk_3 (dk_at dksX0_run_1 18 rfl rfl)
theorem dX0_run_42 : decode cX0_run 42 = .ok (.invokevirtual 587, 3) := dk_182 2 75 (dk_at dksX0_run_1 19 rfl rfl)
theorem dX0_run_45 : decode cX0_run 45 = .ok (.ireturn, 1) := dk_172 (dk_at dksX0_run_1 22 rfl rfl)
abbrev cX0_goTo : ByteArray := prog_1_method_85_code
def yX0_goTo : MethodName := ⟨RX0, "goTo", "(I)I"⟩
def dkwX0_goTo_2 : List UInt8 := [156, 0, 7, 4, 167, 0, 4, 3, 182, 2, 75, 172]
abbrev dktX0_goTo_2 : List UInt8 := dkwX0_goTo_2 ++ []
def dkwX0_goTo_1 : List UInt8 := [20, 2, 81, 184, 1, 168, 154, 0, 7, 2, 167, 0, 23, 42, 32, 184, 2, 88, 136, 32, 9, 148]
abbrev dktX0_goTo_1 : List UInt8 := dkwX0_goTo_1 ++ dktX0_goTo_2
def dkwX0_goTo_0 : List UInt8 := [42, 180, 1, 119, 156, 0, 6, 16, 254, 172, 27, 133, 42, 180, 2, 42, 133, 101, 65, 32, 20, 2, 79]
abbrev dktX0_goTo_0 : List UInt8 := dkwX0_goTo_0 ++ dktX0_goTo_1
theorem dksX0_goTo_0 : cX0_goTo.data.toList.drop 0 = dktX0_goTo_0 := by decide +kernel
theorem dksX0_goTo_1 : cX0_goTo.data.toList.drop 23 = dktX0_goTo_1 := dk_seg dksX0_goTo_0 23 rfl rfl
theorem dksX0_goTo_2 : cX0_goTo.data.toList.drop 45 = dktX0_goTo_2 := dk_seg dksX0_goTo_1 22 rfl rfl
theorem dX0_goTo_0 : decode cX0_goTo 0 = .ok (.aload_n 0, 1) := dk_42 (dk_at dksX0_goTo_0 0 rfl rfl)
theorem dX0_goTo_1 : decode cX0_goTo 1 = .ok (.getfield 375, 3) := dk_180 1 119 (dk_at dksX0_goTo_0 1 rfl rfl)
theorem dX0_goTo_4 : decode cX0_goTo 4 = .ok (.ifCond .ge 6, 3) := dk_156 0 6 (dk_at dksX0_goTo_0 4 rfl rfl)
theorem dX0_goTo_7 : decode cX0_goTo 7 = .ok (.bipush (-2), 2) := dk_16 254 (dk_at dksX0_goTo_0 7 rfl rfl)
theorem dX0_goTo_9 : decode cX0_goTo 9 = .ok (.ireturn, 1) := dk_172 (dk_at dksX0_goTo_0 9 rfl rfl)
theorem dX0_goTo_10 : decode cX0_goTo 10 = .ok (.iload_n 1, 1) := dk_27 (dk_at dksX0_goTo_0 10 rfl rfl)
theorem dX0_goTo_11 : decode cX0_goTo 11 = .ok (.i2l, 1) := dk_133 (dk_at dksX0_goTo_0 11 rfl rfl)
theorem dX0_goTo_12 : decode cX0_goTo 12 = .ok (.aload_n 0, 1) := dk_42 (dk_at dksX0_goTo_0 12 rfl rfl)
theorem dX0_goTo_13 : decode cX0_goTo 13 = .ok (.getfield 554, 3) := dk_180 2 42 (dk_at dksX0_goTo_0 13 rfl rfl)
theorem dX0_goTo_16 : decode cX0_goTo 16 = .ok (.i2l, 1) := dk_133 (dk_at dksX0_goTo_0 16 rfl rfl)
theorem dX0_goTo_17 : decode cX0_goTo 17 = .ok (.lsub, 1) := dk_101 (dk_at dksX0_goTo_0 17 rfl rfl)
theorem dX0_goTo_18 : decode cX0_goTo 18 = .ok (.lstore_n 2, 1) := dk_65 (dk_at dksX0_goTo_0 18 rfl rfl)
theorem dX0_goTo_19 : decode cX0_goTo 19 = .ok (.lload_n 2, 1) := dk_32 (dk_at dksX0_goTo_0 19 rfl rfl)
theorem dX0_goTo_20 : decode cX0_goTo 20 = .ok (.ldc2_w 591, 3) := dk_20 2 79 (dk_at dksX0_goTo_0 20 rfl rfl)
theorem dX0_goTo_23 : decode cX0_goTo 23 = .ok (.ldc2_w 593, 3) := dk_20 2 81 (dk_at dksX0_goTo_1 0 rfl rfl)
theorem dX0_goTo_26 : decode cX0_goTo 26 = .ok (.invokestatic 424, 3) := dk_184 1 168 (dk_at dksX0_goTo_1 3 rfl rfl)
theorem dX0_goTo_29 : decode cX0_goTo 29 = .ok (.ifCond .ne 7, 3) := dk_154 0 7 (dk_at dksX0_goTo_1 6 rfl rfl)
theorem dX0_goTo_32 : decode cX0_goTo 32 = .ok (.iconst (-1), 1) := dk_2 (dk_at dksX0_goTo_1 9 rfl rfl)
theorem dX0_goTo_33 : decode cX0_goTo 33 = .ok (.goto 23, 3) := dk_167 0 23 (dk_at dksX0_goTo_1 10 rfl rfl)
theorem dX0_goTo_36 : decode cX0_goTo 36 = .ok (.aload_n 0, 1) := dk_42 (dk_at dksX0_goTo_1 13 rfl rfl)
theorem dX0_goTo_37 : decode cX0_goTo 37 = .ok (.lload_n 2, 1) := dk_32 (dk_at dksX0_goTo_1 14 rfl rfl)
theorem dX0_goTo_38 : decode cX0_goTo 38 = .ok (.invokestatic 600, 3) := dk_184 2 88 (dk_at dksX0_goTo_1 15 rfl rfl)
theorem dX0_goTo_41 : decode cX0_goTo 41 = .ok (.l2i, 1) := dk_136 (dk_at dksX0_goTo_1 18 rfl rfl)
theorem dX0_goTo_42 : decode cX0_goTo 42 = .ok (.lload_n 2, 1) := dk_32 (dk_at dksX0_goTo_1 19 rfl rfl)
theorem dX0_goTo_43 : decode cX0_goTo 43 = .ok (.lconst 0, 1) := dk_9 (dk_at dksX0_goTo_1 20 rfl rfl)
theorem dX0_goTo_44 : decode cX0_goTo 44 = .ok (.lcmp, 1) := dk_148 (dk_at dksX0_goTo_1 21 rfl rfl)
theorem dX0_goTo_45 : decode cX0_goTo 45 = .ok (.ifCond .ge 7, 3) := dk_156 0 7 (dk_at dksX0_goTo_2 0 rfl rfl)
theorem dX0_goTo_48 : decode cX0_goTo 48 = .ok (.iconst 1, 1) := dk_4 (dk_at dksX0_goTo_2 3 rfl rfl)
theorem dX0_goTo_49 : decode cX0_goTo 49 = .ok (.goto 4, 3) := dk_167 0 4 (dk_at dksX0_goTo_2 4 rfl rfl)
theorem dX0_goTo_52 : decode cX0_goTo 52 = .ok (.iconst 0, 1) := dk_3 (dk_at dksX0_goTo_2 7 rfl rfl)
theorem dX0_goTo_53 : decode cX0_goTo 53 = .ok (.invokevirtual 587, 3) := dk_182 2 75 (dk_at dksX0_goTo_2 8 rfl rfl)
theorem dX0_goTo_56 : decode cX0_goTo 56 = .ok (.ireturn, 1) := dk_172 (dk_at dksX0_goTo_2 11 rfl rfl)
abbrev cX0_at : ByteArray := prog_1_method_86_code
def yX0_at : MethodName := ⟨RX0, "at", "(I)I"⟩
def dkwX0_at_4 : List UInt8 := [172]
abbrev dktX0_at_4 : List UInt8 := dkwX0_at_4 ++ []
def dkwX0_at_3 : List UInt8 := [42, 180, 1, 119, 172, 42, 180, 2, 36, 172, 42, 180, 2, 39, 172, 42, 180, 2, 44, 172, 42, 180, 2, 42]
abbrev dktX0_at_3 : List UInt8 := dkwX0_at_3 ++ dktX0_at_4
def dkwX0_at_2 : List UInt8 := [170, 0, 0, 0, 49, 0, 0, 0, 0, 0, 0, 0, 3, 0, 0, 0, 29, 0, 0, 0, 34, 0, 0, 0, 39, 0, 0, 0, 44]
abbrev dktX0_at_2 : List UInt8 := dkwX0_at_2 ++ dktX0_at_3
def dkwX0_at_1 : List UInt8 := [42, 180, 1, 119, 156, 0, 6, 16, 254, 172, 27]
abbrev dktX0_at_1 : List UInt8 := dkwX0_at_1 ++ dktX0_at_2
def dkwX0_at_0 : List UInt8 := [27, 133, 9, 20, 2, 24, 184, 1, 168, 154, 0, 5, 2, 172, 27, 8, 160, 0, 8, 42, 180, 2, 68, 172]
abbrev dktX0_at_0 : List UInt8 := dkwX0_at_0 ++ dktX0_at_1
theorem dksX0_at_0 : cX0_at.data.toList.drop 0 = dktX0_at_0 := by decide +kernel
theorem dksX0_at_1 : cX0_at.data.toList.drop 24 = dktX0_at_1 := dk_seg dksX0_at_0 24 rfl rfl
theorem dksX0_at_2 : cX0_at.data.toList.drop 35 = dktX0_at_2 := dk_seg dksX0_at_1 11 rfl rfl
theorem dksX0_at_3 : cX0_at.data.toList.drop 64 = dktX0_at_3 := dk_seg dksX0_at_2 29 rfl rfl
theorem dksX0_at_4 : cX0_at.data.toList.drop 88 = dktX0_at_4 := dk_seg dksX0_at_3 24 rfl rfl
theorem dX0_at_0 : decode cX0_at 0 = .ok (.iload_n 1, 1) := dk_27 (dk_at dksX0_at_0 0 rfl rfl)
theorem dX0_at_1 : decode cX0_at 1 = .ok (.i2l, 1) := dk_133 (dk_at dksX0_at_0 1 rfl rfl)
theorem dX0_at_2 : decode cX0_at 2 = .ok (.lconst 0, 1) := dk_9 (dk_at dksX0_at_0 2 rfl rfl)
theorem dX0_at_3 : decode cX0_at 3 = .ok (.ldc2_w 536, 3) := dk_20 2 24 (dk_at dksX0_at_0 3 rfl rfl)
theorem dX0_at_6 : decode cX0_at 6 = .ok (.invokestatic 424, 3) := dk_184 1 168 (dk_at dksX0_at_0 6 rfl rfl)
theorem dX0_at_9 : decode cX0_at 9 = .ok (.ifCond .ne 5, 3) := dk_154 0 5 (dk_at dksX0_at_0 9 rfl rfl)
theorem dX0_at_12 : decode cX0_at 12 = .ok (.iconst (-1), 1) := dk_2 (dk_at dksX0_at_0 12 rfl rfl)
theorem dX0_at_13 : decode cX0_at 13 = .ok (.ireturn, 1) := dk_172 (dk_at dksX0_at_0 13 rfl rfl)
theorem dX0_at_14 : decode cX0_at 14 = .ok (.iload_n 1, 1) := dk_27 (dk_at dksX0_at_0 14 rfl rfl)
theorem dX0_at_15 : decode cX0_at 15 = .ok (.iconst 5, 1) := dk_8 (dk_at dksX0_at_0 15 rfl rfl)
theorem dX0_at_16 : decode cX0_at 16 = .ok (.if_icmp .ne 8, 3) := dk_160 0 8 (dk_at dksX0_at_0 16 rfl rfl)
theorem dX0_at_19 : decode cX0_at 19 = .ok (.aload_n 0, 1) := dk_42 (dk_at dksX0_at_0 19 rfl rfl)
theorem dX0_at_20 : decode cX0_at 20 = .ok (.getfield 580, 3) := dk_180 2 68 (dk_at dksX0_at_0 20 rfl rfl)
theorem dX0_at_23 : decode cX0_at 23 = .ok (.ireturn, 1) := dk_172 (dk_at dksX0_at_0 23 rfl rfl)
theorem dX0_at_24 : decode cX0_at 24 = .ok (.aload_n 0, 1) := dk_42 (dk_at dksX0_at_1 0 rfl rfl)
theorem dX0_at_25 : decode cX0_at 25 = .ok (.getfield 375, 3) := dk_180 1 119 (dk_at dksX0_at_1 1 rfl rfl)
theorem dX0_at_28 : decode cX0_at 28 = .ok (.ifCond .ge 6, 3) := dk_156 0 6 (dk_at dksX0_at_1 4 rfl rfl)
theorem dX0_at_31 : decode cX0_at 31 = .ok (.bipush (-2), 2) := dk_16 254 (dk_at dksX0_at_1 7 rfl rfl)
theorem dX0_at_33 : decode cX0_at 33 = .ok (.ireturn, 1) := dk_172 (dk_at dksX0_at_1 9 rfl rfl)
theorem dX0_at_34 : decode cX0_at 34 = .ok (.iload_n 1, 1) := dk_27 (dk_at dksX0_at_1 10 rfl rfl)
theorem dX0_at_35 : decode cX0_at 35 = .ok (.tableswitch 49 0 3 #[29, 34, 39, 44], 29) := by decide +kernel
theorem dX0_at_64 : decode cX0_at 64 = .ok (.aload_n 0, 1) := dk_42 (dk_at dksX0_at_3 0 rfl rfl)
theorem dX0_at_65 : decode cX0_at 65 = .ok (.getfield 375, 3) := dk_180 1 119 (dk_at dksX0_at_3 1 rfl rfl)
theorem dX0_at_68 : decode cX0_at 68 = .ok (.ireturn, 1) := dk_172 (dk_at dksX0_at_3 4 rfl rfl)
theorem dX0_at_69 : decode cX0_at 69 = .ok (.aload_n 0, 1) := dk_42 (dk_at dksX0_at_3 5 rfl rfl)
theorem dX0_at_70 : decode cX0_at 70 = .ok (.getfield 548, 3) := dk_180 2 36 (dk_at dksX0_at_3 6 rfl rfl)
theorem dX0_at_73 : decode cX0_at 73 = .ok (.ireturn, 1) := dk_172 (dk_at dksX0_at_3 9 rfl rfl)
theorem dX0_at_74 : decode cX0_at 74 = .ok (.aload_n 0, 1) := dk_42 (dk_at dksX0_at_3 10 rfl rfl)
theorem dX0_at_75 : decode cX0_at 75 = .ok (.getfield 551, 3) := dk_180 2 39 (dk_at dksX0_at_3 11 rfl rfl)
theorem dX0_at_78 : decode cX0_at 78 = .ok (.ireturn, 1) := dk_172 (dk_at dksX0_at_3 14 rfl rfl)
theorem dX0_at_79 : decode cX0_at 79 = .ok (.aload_n 0, 1) := dk_42 (dk_at dksX0_at_3 15 rfl rfl)
theorem dX0_at_80 : decode cX0_at 80 = .ok (.getfield 556, 3) := dk_180 2 44 (dk_at dksX0_at_3 16 rfl rfl)
theorem dX0_at_83 : decode cX0_at 83 = .ok (.ireturn, 1) := dk_172 (dk_at dksX0_at_3 19 rfl rfl)
theorem dX0_at_84 : decode cX0_at 84 = .ok (.aload_n 0, 1) := dk_42 (dk_at dksX0_at_3 20 rfl rfl)
theorem dX0_at_85 : decode cX0_at 85 = .ok (.getfield 554, 3) := dk_180 2 42 (dk_at dksX0_at_3 21 rfl rfl)
theorem dX0_at_88 : decode cX0_at 88 = .ok (.ireturn, 1) := dk_172 (dk_at dksX0_at_4 0 rfl rfl)
abbrev cX0_frame : ByteArray := prog_1_method_87_code
def yX0_frame : MethodName := ⟨RX0, "frame", "(II)I"⟩
def dkwX0_frame_2 : List UInt8 := [180, 1, 122, 27, 46, 167, 0, 9, 42, 180, 1, 125, 27, 46, 172]
abbrev dktX0_frame_2 : List UInt8 := dkwX0_frame_2 ++ []
def dkwX0_frame_1 : List UInt8 := [153, 0, 13, 28, 133, 9, 10, 184, 1, 168, 154, 0, 7, 2, 167, 0, 22, 28, 154, 0, 12, 42]
abbrev dktX0_frame_1 : List UInt8 := dkwX0_frame_1 ++ dktX0_frame_2
def dkwX0_frame_0 : List UInt8 := [42, 180, 1, 119, 156, 0, 6, 16, 254, 172, 27, 133, 9, 42, 180, 2, 44, 4, 100, 133, 184, 1, 168]
abbrev dktX0_frame_0 : List UInt8 := dkwX0_frame_0 ++ dktX0_frame_1
theorem dksX0_frame_0 : cX0_frame.data.toList.drop 0 = dktX0_frame_0 := by decide +kernel
theorem dksX0_frame_1 : cX0_frame.data.toList.drop 23 = dktX0_frame_1 := dk_seg dksX0_frame_0 23 rfl rfl
theorem dksX0_frame_2 : cX0_frame.data.toList.drop 45 = dktX0_frame_2 := dk_seg dksX0_frame_1 22 rfl rfl
theorem dX0_frame_0 : decode cX0_frame 0 = .ok (.aload_n 0, 1) := dk_42 (dk_at dksX0_frame_0 0 rfl rfl)
theorem dX0_frame_1 : decode cX0_frame 1 = .ok (.getfield 375, 3) := dk_180 1 119 (dk_at dksX0_frame_0 1 rfl rfl)
theorem dX0_frame_4 : decode cX0_frame 4 = .ok (.ifCond .ge 6, 3) := dk_156 0 6 (dk_at dksX0_frame_0 4 rfl rfl)
theorem dX0_frame_7 : decode cX0_frame 7 = .ok (.bipush (-2), 2) := dk_16 254 (dk_at dksX0_frame_0 7 rfl rfl)
theorem dX0_frame_9 : decode cX0_frame 9 = .ok (.ireturn, 1) := dk_172 (dk_at dksX0_frame_0 9 rfl rfl)
theorem dX0_frame_10 : decode cX0_frame 10 = .ok (.iload_n 1, 1) := dk_27 (dk_at dksX0_frame_0 10 rfl rfl)
theorem dX0_frame_11 : decode cX0_frame 11 = .ok (.i2l, 1) := dk_133 (dk_at dksX0_frame_0 11 rfl rfl)
theorem dX0_frame_12 : decode cX0_frame 12 = .ok (.lconst 0, 1) := dk_9 (dk_at dksX0_frame_0 12 rfl rfl)
theorem dX0_frame_13 : decode cX0_frame 13 = .ok (.aload_n 0, 1) := dk_42 (dk_at dksX0_frame_0 13 rfl rfl)
theorem dX0_frame_14 : decode cX0_frame 14 = .ok (.getfield 556, 3) := dk_180 2 44 (dk_at dksX0_frame_0 14 rfl rfl)
theorem dX0_frame_17 : decode cX0_frame 17 = .ok (.iconst 1, 1) := dk_4 (dk_at dksX0_frame_0 17 rfl rfl)
theorem dX0_frame_18 : decode cX0_frame 18 = .ok (.isub, 1) := dk_100 (dk_at dksX0_frame_0 18 rfl rfl)
theorem dX0_frame_19 : decode cX0_frame 19 = .ok (.i2l, 1) := dk_133 (dk_at dksX0_frame_0 19 rfl rfl)
theorem dX0_frame_20 : decode cX0_frame 20 = .ok (.invokestatic 424, 3) := dk_184 1 168 (dk_at dksX0_frame_0 20 rfl rfl)
theorem dX0_frame_23 : decode cX0_frame 23 = .ok (.ifCond .eq 13, 3) := dk_153 0 13 (dk_at dksX0_frame_1 0 rfl rfl)
theorem dX0_frame_26 : decode cX0_frame 26 = .ok (.iload_n 2, 1) := dk_28 (dk_at dksX0_frame_1 3 rfl rfl)
theorem dX0_frame_27 : decode cX0_frame 27 = .ok (.i2l, 1) := dk_133 (dk_at dksX0_frame_1 4 rfl rfl)
theorem dX0_frame_28 : decode cX0_frame 28 = .ok (.lconst 0, 1) := dk_9 (dk_at dksX0_frame_1 5 rfl rfl)
theorem dX0_frame_29 : decode cX0_frame 29 = .ok (.lconst 1, 1) := dk_10 (dk_at dksX0_frame_1 6 rfl rfl)
theorem dX0_frame_30 : decode cX0_frame 30 = .ok (.invokestatic 424, 3) := dk_184 1 168 (dk_at dksX0_frame_1 7 rfl rfl)
theorem dX0_frame_33 : decode cX0_frame 33 = .ok (.ifCond .ne 7, 3) := dk_154 0 7 (dk_at dksX0_frame_1 10 rfl rfl)
theorem dX0_frame_36 : decode cX0_frame 36 = .ok (.iconst (-1), 1) := dk_2 (dk_at dksX0_frame_1 13 rfl rfl)
theorem dX0_frame_37 : decode cX0_frame 37 = .ok (.goto 22, 3) := dk_167 0 22 (dk_at dksX0_frame_1 14 rfl rfl)
theorem dX0_frame_40 : decode cX0_frame 40 = .ok (.iload_n 2, 1) := dk_28 (dk_at dksX0_frame_1 17 rfl rfl)
theorem dX0_frame_41 : decode cX0_frame 41 = .ok (.ifCond .ne 12, 3) := dk_154 0 12 (dk_at dksX0_frame_1 18 rfl rfl)
theorem dX0_frame_44 : decode cX0_frame 44 = .ok (.aload_n 0, 1) := dk_42 (dk_at dksX0_frame_1 21 rfl rfl)
theorem dX0_frame_45 : decode cX0_frame 45 = .ok (.getfield 378, 3) := dk_180 1 122 (dk_at dksX0_frame_2 0 rfl rfl)
theorem dX0_frame_48 : decode cX0_frame 48 = .ok (.iload_n 1, 1) := dk_27 (dk_at dksX0_frame_2 3 rfl rfl)
theorem dX0_frame_49 : decode cX0_frame 49 = .ok (.iaload, 1) := dk_46 (dk_at dksX0_frame_2 4 rfl rfl)
theorem dX0_frame_50 : decode cX0_frame 50 = .ok (.goto 9, 3) := dk_167 0 9 (dk_at dksX0_frame_2 5 rfl rfl)
theorem dX0_frame_53 : decode cX0_frame 53 = .ok (.aload_n 0, 1) := dk_42 (dk_at dksX0_frame_2 8 rfl rfl)
theorem dX0_frame_54 : decode cX0_frame 54 = .ok (.getfield 381, 3) := dk_180 1 125 (dk_at dksX0_frame_2 9 rfl rfl)
theorem dX0_frame_57 : decode cX0_frame 57 = .ok (.iload_n 1, 1) := dk_27 (dk_at dksX0_frame_2 12 rfl rfl)
theorem dX0_frame_58 : decode cX0_frame 58 = .ok (.iaload, 1) := dk_46 (dk_at dksX0_frame_2 13 rfl rfl)
theorem dX0_frame_59 : decode cX0_frame 59 = .ok (.ireturn, 1) := dk_172 (dk_at dksX0_frame_2 14 rfl rfl)
abbrev cX0_digest : ByteArray := prog_1_method_88_code
def yX0_digest : MethodName := ⟨RX0, "digest", "()J"⟩
def dkwX0_digest_14 : List UInt8 := [97, 64, 132, 3, 1, 167, 255, 219, 31, 173]
abbrev dktX0_digest_14 : List UInt8 := dkwX0_digest_14 ++ []
def dkwX0_digest_13 : List UInt8 := [20, 2, 91, 20, 2, 91, 31, 105, 42, 180, 1, 122, 29, 46, 133, 97, 105, 42, 180, 1, 125, 29, 46, 133]
abbrev dktX0_digest_13 : List UInt8 := dkwX0_digest_13 ++ dktX0_digest_14
def dkwX0_digest_12 : List UInt8 := [180, 2, 39, 133, 97, 105, 42, 180, 2, 44, 133, 97, 64, 3, 62, 29, 42, 180, 2, 44, 162, 0, 35]
abbrev dktX0_digest_12 : List UInt8 := dkwX0_digest_12 ++ dktX0_digest_13
def dkwX0_digest_11 : List UInt8 := [20, 2, 91, 20, 2, 91, 31, 105, 42, 180, 1, 119, 133, 97, 105, 42, 180, 2, 36, 133, 97, 105, 42]
abbrev dktX0_digest_11 : List UInt8 := dkwX0_digest_11 ++ dktX0_digest_12
def dkwX0_digest_10 : List UInt8 := [180, 1, 119, 156, 0, 13, 20, 2, 91, 31, 105, 20, 2, 93, 97, 173, 20, 2, 91, 20, 2, 91]
abbrev dktX0_digest_10 : List UInt8 := dkwX0_digest_10 ++ dktX0_digest_11
def dkwX0_digest_9 : List UInt8 := [16, 30, 29, 104, 21, 4, 96, 46, 133, 97, 64, 132, 4, 1, 167, 255, 222, 132, 3, 1, 167, 255, 194, 42]
abbrev dktX0_digest_9 : List UInt8 := dkwX0_digest_9 ++ dktX0_digest_10
def dkwX0_digest_8 : List UInt8 := [3, 54, 4, 21, 4, 42, 180, 1, 113, 29, 46, 162, 0, 29, 20, 2, 91, 31, 105, 42, 180, 1, 110]
abbrev dktX0_digest_8 : List UInt8 := dkwX0_digest_8 ++ dktX0_digest_9
def dkwX0_digest_7 : List UInt8 := [167, 255, 147, 3, 62, 29, 7, 162, 0, 63, 20, 2, 91, 31, 105, 42, 180, 1, 113, 29, 46, 133, 97, 64]
abbrev dktX0_digest_7 : List UInt8 := dkwX0_digest_7 ++ dktX0_digest_8
def dkwX0_digest_6 : List UInt8 := [42, 180, 1, 106, 29, 50, 21, 4, 182, 1, 176, 97, 64, 132, 4, 1, 167, 255, 221, 132, 3, 1]
abbrev dktX0_digest_6 : List UInt8 := dkwX0_digest_6 ++ dktX0_digest_7
def dkwX0_digest_5 : List UInt8 := [97, 64, 3, 54, 4, 21, 4, 42, 180, 1, 106, 29, 50, 182, 1, 165, 162, 0, 27, 20, 2, 91, 31, 105]
abbrev dktX0_digest_5 : List UInt8 := dkwX0_digest_5 ++ dktX0_digest_6
def dkwX0_digest_4 : List UInt8 := [97, 105, 42, 180, 1, 106, 29, 50, 182, 2, 29, 133, 97, 105, 42, 180, 1, 106, 29, 50, 182, 1, 165, 133]
abbrev dktX0_digest_4 : List UInt8 := dkwX0_digest_4 ++ dktX0_digest_5
def dkwX0_digest_3 : List UInt8 := [199, 0, 12, 20, 2, 91, 31, 105, 64, 167, 0, 82, 20, 2, 91, 20, 2, 91, 20, 2, 91, 31, 105, 10]
abbrev dktX0_digest_3 : List UInt8 := dkwX0_digest_3 ++ dktX0_digest_4
def dkwX0_digest_2 : List UInt8 := [64, 132, 3, 1, 167, 255, 210, 3, 62, 29, 16, 6, 162, 0, 109, 42, 180, 1, 106, 29, 50, 180, 1, 151]
abbrev dktX0_digest_2 : List UInt8 := dkwX0_digest_2 ++ dktX0_digest_3
def dkwX0_digest_1 : List UInt8 := [20, 2, 91, 31, 105, 10, 97, 105, 42, 180, 1, 100, 29, 46, 133, 97, 167, 0, 8, 20, 2, 91, 31, 105]
abbrev dktX0_digest_1 : List UInt8 := dkwX0_digest_1 ++ dktX0_digest_2
def dkwX0_digest_0 : List UInt8 := [10, 64, 3, 62, 29, 16, 26, 162, 0, 46, 42, 180, 1, 96, 29, 51, 153, 0, 25, 20, 2, 91]
abbrev dktX0_digest_0 : List UInt8 := dkwX0_digest_0 ++ dktX0_digest_1
theorem dksX0_digest_0 : cX0_digest.data.toList.drop 0 = dktX0_digest_0 := by decide +kernel
theorem dksX0_digest_1 : cX0_digest.data.toList.drop 22 = dktX0_digest_1 := dk_seg dksX0_digest_0 22 rfl rfl
theorem dksX0_digest_2 : cX0_digest.data.toList.drop 46 = dktX0_digest_2 := dk_seg dksX0_digest_1 24 rfl rfl
theorem dksX0_digest_3 : cX0_digest.data.toList.drop 70 = dktX0_digest_3 := dk_seg dksX0_digest_2 24 rfl rfl
theorem dksX0_digest_4 : cX0_digest.data.toList.drop 94 = dktX0_digest_4 := dk_seg dksX0_digest_3 24 rfl rfl
theorem dksX0_digest_5 : cX0_digest.data.toList.drop 118 = dktX0_digest_5 := dk_seg dksX0_digest_4 24 rfl rfl
theorem dksX0_digest_6 : cX0_digest.data.toList.drop 142 = dktX0_digest_6 := dk_seg dksX0_digest_5 24 rfl rfl
theorem dksX0_digest_7 : cX0_digest.data.toList.drop 164 = dktX0_digest_7 := dk_seg dksX0_digest_6 22 rfl rfl
theorem dksX0_digest_8 : cX0_digest.data.toList.drop 188 = dktX0_digest_8 := dk_seg dksX0_digest_7 24 rfl rfl
theorem dksX0_digest_9 : cX0_digest.data.toList.drop 211 = dktX0_digest_9 := dk_seg dksX0_digest_8 23 rfl rfl
theorem dksX0_digest_10 : cX0_digest.data.toList.drop 235 = dktX0_digest_10 := dk_seg dksX0_digest_9 24 rfl rfl
theorem dksX0_digest_11 : cX0_digest.data.toList.drop 257 = dktX0_digest_11 := dk_seg dksX0_digest_10 22 rfl rfl
theorem dksX0_digest_12 : cX0_digest.data.toList.drop 280 = dktX0_digest_12 := dk_seg dksX0_digest_11 23 rfl rfl
theorem dksX0_digest_13 : cX0_digest.data.toList.drop 303 = dktX0_digest_13 := dk_seg dksX0_digest_12 23 rfl rfl
theorem dksX0_digest_14 : cX0_digest.data.toList.drop 327 = dktX0_digest_14 := dk_seg dksX0_digest_13 24 rfl rfl
theorem dX0_digest_0 : decode cX0_digest 0 = .ok (.lconst 1, 1) := dk_10 (dk_at dksX0_digest_0 0 rfl rfl)
theorem dX0_digest_1 : decode cX0_digest 1 = .ok (.lstore_n 1, 1) := dk_64 (dk_at dksX0_digest_0 1 rfl rfl)
theorem dX0_digest_2 : decode cX0_digest 2 = .ok (.iconst 0, 1) := dk_3 (dk_at dksX0_digest_0 2 rfl rfl)
theorem dX0_digest_3 : decode cX0_digest 3 = .ok (.istore_n 3, 1) := dk_62 (dk_at dksX0_digest_0 3 rfl rfl)
theorem dX0_digest_4 : decode cX0_digest 4 = .ok (.iload_n 3, 1) := dk_29 (dk_at dksX0_digest_0 4 rfl rfl)
theorem dX0_digest_5 : decode cX0_digest 5 = .ok (.bipush 26, 2) := dk_16 26 (dk_at dksX0_digest_0 5 rfl rfl)
theorem dX0_digest_7 : decode cX0_digest 7 = .ok (.if_icmp .ge 46, 3) := dk_162 0 46 (dk_at dksX0_digest_0 7 rfl rfl)
theorem dX0_digest_10 : decode cX0_digest 10 = .ok (.aload_n 0, 1) := dk_42 (dk_at dksX0_digest_0 10 rfl rfl)
theorem dX0_digest_11 : decode cX0_digest 11 = .ok (.getfield 352, 3) := dk_180 1 96 (dk_at dksX0_digest_0 11 rfl rfl)
theorem dX0_digest_14 : decode cX0_digest 14 = .ok (.iload_n 3, 1) := dk_29 (dk_at dksX0_digest_0 14 rfl rfl)
theorem dX0_digest_15 : decode cX0_digest 15 = .ok (.baload, 1) := dk_51 (dk_at dksX0_digest_0 15 rfl rfl)
theorem dX0_digest_16 : decode cX0_digest 16 = .ok (.ifCond .eq 25, 3) := dk_153 0 25 (dk_at dksX0_digest_0 16 rfl rfl)
theorem dX0_digest_19 : decode cX0_digest 19 = .ok (.ldc2_w 603, 3) := dk_20 2 91 (dk_at dksX0_digest_0 19 rfl rfl)
theorem dX0_digest_22 : decode cX0_digest 22 = .ok (.ldc2_w 603, 3) := dk_20 2 91 (dk_at dksX0_digest_1 0 rfl rfl)
theorem dX0_digest_25 : decode cX0_digest 25 = .ok (.lload_n 1, 1) := dk_31 (dk_at dksX0_digest_1 3 rfl rfl)
theorem dX0_digest_26 : decode cX0_digest 26 = .ok (.lmul, 1) := dk_105 (dk_at dksX0_digest_1 4 rfl rfl)
theorem dX0_digest_27 : decode cX0_digest 27 = .ok (.lconst 1, 1) := dk_10 (dk_at dksX0_digest_1 5 rfl rfl)
theorem dX0_digest_28 : decode cX0_digest 28 = .ok (.ladd, 1) := dk_97 (dk_at dksX0_digest_1 6 rfl rfl)
theorem dX0_digest_29 : decode cX0_digest 29 = .ok (.lmul, 1) := dk_105 (dk_at dksX0_digest_1 7 rfl rfl)
theorem dX0_digest_30 : decode cX0_digest 30 = .ok (.aload_n 0, 1) := dk_42 (dk_at dksX0_digest_1 8 rfl rfl)
theorem dX0_digest_31 : decode cX0_digest 31 = .ok (.getfield 356, 3) := dk_180 1 100 (dk_at dksX0_digest_1 9 rfl rfl)
theorem dX0_digest_34 : decode cX0_digest 34 = .ok (.iload_n 3, 1) := dk_29 (dk_at dksX0_digest_1 12 rfl rfl)
theorem dX0_digest_35 : decode cX0_digest 35 = .ok (.iaload, 1) := dk_46 (dk_at dksX0_digest_1 13 rfl rfl)
theorem dX0_digest_36 : decode cX0_digest 36 = .ok (.i2l, 1) := dk_133 (dk_at dksX0_digest_1 14 rfl rfl)
theorem dX0_digest_37 : decode cX0_digest 37 = .ok (.ladd, 1) := dk_97 (dk_at dksX0_digest_1 15 rfl rfl)
theorem dX0_digest_38 : decode cX0_digest 38 = .ok (.goto 8, 3) := dk_167 0 8 (dk_at dksX0_digest_1 16 rfl rfl)
theorem dX0_digest_41 : decode cX0_digest 41 = .ok (.ldc2_w 603, 3) := dk_20 2 91 (dk_at dksX0_digest_1 19 rfl rfl)
theorem dX0_digest_44 : decode cX0_digest 44 = .ok (.lload_n 1, 1) := dk_31 (dk_at dksX0_digest_1 22 rfl rfl)
theorem dX0_digest_45 : decode cX0_digest 45 = .ok (.lmul, 1) := dk_105 (dk_at dksX0_digest_1 23 rfl rfl)
theorem dX0_digest_46 : decode cX0_digest 46 = .ok (.lstore_n 1, 1) := dk_64 (dk_at dksX0_digest_2 0 rfl rfl)
theorem dX0_digest_47 : decode cX0_digest 47 = .ok (.iinc 3 1, 3) := dk_132 3 1 (dk_at dksX0_digest_2 1 rfl rfl)
theorem dX0_digest_50 : decode cX0_digest 50 = .ok (.goto (-46), 3) := dk_167 255 210 (dk_at dksX0_digest_2 4 rfl rfl)
theorem dX0_digest_53 : decode cX0_digest 53 = .ok (.iconst 0, 1) := dk_3 (dk_at dksX0_digest_2 7 rfl rfl)
theorem dX0_digest_54 : decode cX0_digest 54 = .ok (.istore_n 3, 1) := dk_62 (dk_at dksX0_digest_2 8 rfl rfl)
theorem dX0_digest_55 : decode cX0_digest 55 = .ok (.iload_n 3, 1) := dk_29 (dk_at dksX0_digest_2 9 rfl rfl)
theorem dX0_digest_56 : decode cX0_digest 56 = .ok (.bipush 6, 2) := dk_16 6 (dk_at dksX0_digest_2 10 rfl rfl)
theorem dX0_digest_58 : decode cX0_digest 58 = .ok (.if_icmp .ge 109, 3) := dk_162 0 109 (dk_at dksX0_digest_2 12 rfl rfl)
theorem dX0_digest_61 : decode cX0_digest 61 = .ok (.aload_n 0, 1) := dk_42 (dk_at dksX0_digest_2 15 rfl rfl)
theorem dX0_digest_62 : decode cX0_digest 62 = .ok (.getfield 362, 3) := dk_180 1 106 (dk_at dksX0_digest_2 16 rfl rfl)
theorem dX0_digest_65 : decode cX0_digest 65 = .ok (.iload_n 3, 1) := dk_29 (dk_at dksX0_digest_2 19 rfl rfl)
theorem dX0_digest_66 : decode cX0_digest 66 = .ok (.aaload, 1) := dk_50 (dk_at dksX0_digest_2 20 rfl rfl)
theorem dX0_digest_67 : decode cX0_digest 67 = .ok (.getfield 407, 3) := dk_180 1 151 (dk_at dksX0_digest_2 21 rfl rfl)
theorem dX0_digest_70 : decode cX0_digest 70 = .ok (.ifnonnull 12, 3) := dk_199 0 12 (dk_at dksX0_digest_3 0 rfl rfl)
theorem dX0_digest_73 : decode cX0_digest 73 = .ok (.ldc2_w 603, 3) := dk_20 2 91 (dk_at dksX0_digest_3 3 rfl rfl)
theorem dX0_digest_76 : decode cX0_digest 76 = .ok (.lload_n 1, 1) := dk_31 (dk_at dksX0_digest_3 6 rfl rfl)
theorem dX0_digest_77 : decode cX0_digest 77 = .ok (.lmul, 1) := dk_105 (dk_at dksX0_digest_3 7 rfl rfl)
theorem dX0_digest_78 : decode cX0_digest 78 = .ok (.lstore_n 1, 1) := dk_64 (dk_at dksX0_digest_3 8 rfl rfl)
theorem dX0_digest_79 : decode cX0_digest 79 = .ok (.goto 82, 3) := dk_167 0 82 (dk_at dksX0_digest_3 9 rfl rfl)
theorem dX0_digest_82 : decode cX0_digest 82 = .ok (.ldc2_w 603, 3) := dk_20 2 91 (dk_at dksX0_digest_3 12 rfl rfl)
theorem dX0_digest_85 : decode cX0_digest 85 = .ok (.ldc2_w 603, 3) := dk_20 2 91 (dk_at dksX0_digest_3 15 rfl rfl)
theorem dX0_digest_88 : decode cX0_digest 88 = .ok (.ldc2_w 603, 3) := dk_20 2 91 (dk_at dksX0_digest_3 18 rfl rfl)
theorem dX0_digest_91 : decode cX0_digest 91 = .ok (.lload_n 1, 1) := dk_31 (dk_at dksX0_digest_3 21 rfl rfl)
theorem dX0_digest_92 : decode cX0_digest 92 = .ok (.lmul, 1) := dk_105 (dk_at dksX0_digest_3 22 rfl rfl)
theorem dX0_digest_93 : decode cX0_digest 93 = .ok (.lconst 1, 1) := dk_10 (dk_at dksX0_digest_3 23 rfl rfl)
theorem dX0_digest_94 : decode cX0_digest 94 = .ok (.ladd, 1) := dk_97 (dk_at dksX0_digest_4 0 rfl rfl)
theorem dX0_digest_95 : decode cX0_digest 95 = .ok (.lmul, 1) := dk_105 (dk_at dksX0_digest_4 1 rfl rfl)
theorem dX0_digest_96 : decode cX0_digest 96 = .ok (.aload_n 0, 1) := dk_42 (dk_at dksX0_digest_4 2 rfl rfl)
theorem dX0_digest_97 : decode cX0_digest 97 = .ok (.getfield 362, 3) := dk_180 1 106 (dk_at dksX0_digest_4 3 rfl rfl)
theorem dX0_digest_100 : decode cX0_digest 100 = .ok (.iload_n 3, 1) := dk_29 (dk_at dksX0_digest_4 6 rfl rfl)
theorem dX0_digest_101 : decode cX0_digest 101 = .ok (.aaload, 1) := dk_50 (dk_at dksX0_digest_4 7 rfl rfl)
theorem dX0_digest_102 : decode cX0_digest 102 = .ok (.invokevirtual 541, 3) := dk_182 2 29 (dk_at dksX0_digest_4 8 rfl rfl)
theorem dX0_digest_105 : decode cX0_digest 105 = .ok (.i2l, 1) := dk_133 (dk_at dksX0_digest_4 11 rfl rfl)
theorem dX0_digest_106 : decode cX0_digest 106 = .ok (.ladd, 1) := dk_97 (dk_at dksX0_digest_4 12 rfl rfl)
theorem dX0_digest_107 : decode cX0_digest 107 = .ok (.lmul, 1) := dk_105 (dk_at dksX0_digest_4 13 rfl rfl)
theorem dX0_digest_108 : decode cX0_digest 108 = .ok (.aload_n 0, 1) := dk_42 (dk_at dksX0_digest_4 14 rfl rfl)
theorem dX0_digest_109 : decode cX0_digest 109 = .ok (.getfield 362, 3) := dk_180 1 106 (dk_at dksX0_digest_4 15 rfl rfl)
theorem dX0_digest_112 : decode cX0_digest 112 = .ok (.iload_n 3, 1) := dk_29 (dk_at dksX0_digest_4 18 rfl rfl)
theorem dX0_digest_113 : decode cX0_digest 113 = .ok (.aaload, 1) := dk_50 (dk_at dksX0_digest_4 19 rfl rfl)
theorem dX0_digest_114 : decode cX0_digest 114 = .ok (.invokevirtual 421, 3) := dk_182 1 165 (dk_at dksX0_digest_4 20 rfl rfl)
theorem dX0_digest_117 : decode cX0_digest 117 = .ok (.i2l, 1) := dk_133 (dk_at dksX0_digest_4 23 rfl rfl)
theorem dX0_digest_118 : decode cX0_digest 118 = .ok (.ladd, 1) := dk_97 (dk_at dksX0_digest_5 0 rfl rfl)
theorem dX0_digest_119 : decode cX0_digest 119 = .ok (.lstore_n 1, 1) := dk_64 (dk_at dksX0_digest_5 1 rfl rfl)
theorem dX0_digest_120 : decode cX0_digest 120 = .ok (.iconst 0, 1) := dk_3 (dk_at dksX0_digest_5 2 rfl rfl)
theorem dX0_digest_121 : decode cX0_digest 121 = .ok (.istore 4, 2) := dk_54 4 (dk_at dksX0_digest_5 3 rfl rfl)
theorem dX0_digest_123 : decode cX0_digest 123 = .ok (.iload 4, 2) := dk_21 4 (dk_at dksX0_digest_5 5 rfl rfl)
theorem dX0_digest_125 : decode cX0_digest 125 = .ok (.aload_n 0, 1) := dk_42 (dk_at dksX0_digest_5 7 rfl rfl)
theorem dX0_digest_126 : decode cX0_digest 126 = .ok (.getfield 362, 3) := dk_180 1 106 (dk_at dksX0_digest_5 8 rfl rfl)
theorem dX0_digest_129 : decode cX0_digest 129 = .ok (.iload_n 3, 1) := dk_29 (dk_at dksX0_digest_5 11 rfl rfl)
theorem dX0_digest_130 : decode cX0_digest 130 = .ok (.aaload, 1) := dk_50 (dk_at dksX0_digest_5 12 rfl rfl)
theorem dX0_digest_131 : decode cX0_digest 131 = .ok (.invokevirtual 421, 3) := dk_182 1 165 (dk_at dksX0_digest_5 13 rfl rfl)
theorem dX0_digest_134 : decode cX0_digest 134 = .ok (.if_icmp .ge 27, 3) := dk_162 0 27 (dk_at dksX0_digest_5 16 rfl rfl)
theorem dX0_digest_137 : decode cX0_digest 137 = .ok (.ldc2_w 603, 3) := dk_20 2 91 (dk_at dksX0_digest_5 19 rfl rfl)
theorem dX0_digest_140 : decode cX0_digest 140 = .ok (.lload_n 1, 1) := dk_31 (dk_at dksX0_digest_5 22 rfl rfl)
theorem dX0_digest_141 : decode cX0_digest 141 = .ok (.lmul, 1) := dk_105 (dk_at dksX0_digest_5 23 rfl rfl)
theorem dX0_digest_142 : decode cX0_digest 142 = .ok (.aload_n 0, 1) := dk_42 (dk_at dksX0_digest_6 0 rfl rfl)
theorem dX0_digest_143 : decode cX0_digest 143 = .ok (.getfield 362, 3) := dk_180 1 106 (dk_at dksX0_digest_6 1 rfl rfl)
theorem dX0_digest_146 : decode cX0_digest 146 = .ok (.iload_n 3, 1) := dk_29 (dk_at dksX0_digest_6 4 rfl rfl)
theorem dX0_digest_147 : decode cX0_digest 147 = .ok (.aaload, 1) := dk_50 (dk_at dksX0_digest_6 5 rfl rfl)
theorem dX0_digest_148 : decode cX0_digest 148 = .ok (.iload 4, 2) := dk_21 4 (dk_at dksX0_digest_6 6 rfl rfl)
theorem dX0_digest_150 : decode cX0_digest 150 = .ok (.invokevirtual 432, 3) := dk_182 1 176 (dk_at dksX0_digest_6 8 rfl rfl)
theorem dX0_digest_153 : decode cX0_digest 153 = .ok (.ladd, 1) := dk_97 (dk_at dksX0_digest_6 11 rfl rfl)
theorem dX0_digest_154 : decode cX0_digest 154 = .ok (.lstore_n 1, 1) := dk_64 (dk_at dksX0_digest_6 12 rfl rfl)
theorem dX0_digest_155 : decode cX0_digest 155 = .ok (.iinc 4 1, 3) := dk_132 4 1 (dk_at dksX0_digest_6 13 rfl rfl)
theorem dX0_digest_158 : decode cX0_digest 158 = .ok (.goto (-35), 3) := dk_167 255 221 (dk_at dksX0_digest_6 16 rfl rfl)
theorem dX0_digest_161 : decode cX0_digest 161 = .ok (.iinc 3 1, 3) := dk_132 3 1 (dk_at dksX0_digest_6 19 rfl rfl)
theorem dX0_digest_164 : decode cX0_digest 164 = .ok (.goto (-109), 3) := dk_167 255 147 (dk_at dksX0_digest_7 0 rfl rfl)
theorem dX0_digest_167 : decode cX0_digest 167 = .ok (.iconst 0, 1) := dk_3 (dk_at dksX0_digest_7 3 rfl rfl)
theorem dX0_digest_168 : decode cX0_digest 168 = .ok (.istore_n 3, 1) := dk_62 (dk_at dksX0_digest_7 4 rfl rfl)
theorem dX0_digest_169 : decode cX0_digest 169 = .ok (.iload_n 3, 1) := dk_29 (dk_at dksX0_digest_7 5 rfl rfl)
theorem dX0_digest_170 : decode cX0_digest 170 = .ok (.iconst 4, 1) := dk_7 (dk_at dksX0_digest_7 6 rfl rfl)
theorem dX0_digest_171 : decode cX0_digest 171 = .ok (.if_icmp .ge 63, 3) := dk_162 0 63 (dk_at dksX0_digest_7 7 rfl rfl)
theorem dX0_digest_174 : decode cX0_digest 174 = .ok (.ldc2_w 603, 3) := dk_20 2 91 (dk_at dksX0_digest_7 10 rfl rfl)
theorem dX0_digest_177 : decode cX0_digest 177 = .ok (.lload_n 1, 1) := dk_31 (dk_at dksX0_digest_7 13 rfl rfl)
theorem dX0_digest_178 : decode cX0_digest 178 = .ok (.lmul, 1) := dk_105 (dk_at dksX0_digest_7 14 rfl rfl)
theorem dX0_digest_179 : decode cX0_digest 179 = .ok (.aload_n 0, 1) := dk_42 (dk_at dksX0_digest_7 15 rfl rfl)
theorem dX0_digest_180 : decode cX0_digest 180 = .ok (.getfield 369, 3) := dk_180 1 113 (dk_at dksX0_digest_7 16 rfl rfl)
theorem dX0_digest_183 : decode cX0_digest 183 = .ok (.iload_n 3, 1) := dk_29 (dk_at dksX0_digest_7 19 rfl rfl)
theorem dX0_digest_184 : decode cX0_digest 184 = .ok (.iaload, 1) := dk_46 (dk_at dksX0_digest_7 20 rfl rfl)
theorem dX0_digest_185 : decode cX0_digest 185 = .ok (.i2l, 1) := dk_133 (dk_at dksX0_digest_7 21 rfl rfl)
theorem dX0_digest_186 : decode cX0_digest 186 = .ok (.ladd, 1) := dk_97 (dk_at dksX0_digest_7 22 rfl rfl)
theorem dX0_digest_187 : decode cX0_digest 187 = .ok (.lstore_n 1, 1) := dk_64 (dk_at dksX0_digest_7 23 rfl rfl)
theorem dX0_digest_188 : decode cX0_digest 188 = .ok (.iconst 0, 1) := dk_3 (dk_at dksX0_digest_8 0 rfl rfl)
theorem dX0_digest_189 : decode cX0_digest 189 = .ok (.istore 4, 2) := dk_54 4 (dk_at dksX0_digest_8 1 rfl rfl)
theorem dX0_digest_191 : decode cX0_digest 191 = .ok (.iload 4, 2) := dk_21 4 (dk_at dksX0_digest_8 3 rfl rfl)
theorem dX0_digest_193 : decode cX0_digest 193 = .ok (.aload_n 0, 1) := dk_42 (dk_at dksX0_digest_8 5 rfl rfl)
theorem dX0_digest_194 : decode cX0_digest 194 = .ok (.getfield 369, 3) := dk_180 1 113 (dk_at dksX0_digest_8 6 rfl rfl)
theorem dX0_digest_197 : decode cX0_digest 197 = .ok (.iload_n 3, 1) := dk_29 (dk_at dksX0_digest_8 9 rfl rfl)
theorem dX0_digest_198 : decode cX0_digest 198 = .ok (.iaload, 1) := dk_46 (dk_at dksX0_digest_8 10 rfl rfl)
theorem dX0_digest_199 : decode cX0_digest 199 = .ok (.if_icmp .ge 29, 3) := dk_162 0 29 (dk_at dksX0_digest_8 11 rfl rfl)
theorem dX0_digest_202 : decode cX0_digest 202 = .ok (.ldc2_w 603, 3) := dk_20 2 91 (dk_at dksX0_digest_8 14 rfl rfl)
theorem dX0_digest_205 : decode cX0_digest 205 = .ok (.lload_n 1, 1) := dk_31 (dk_at dksX0_digest_8 17 rfl rfl)
theorem dX0_digest_206 : decode cX0_digest 206 = .ok (.lmul, 1) := dk_105 (dk_at dksX0_digest_8 18 rfl rfl)
theorem dX0_digest_207 : decode cX0_digest 207 = .ok (.aload_n 0, 1) := dk_42 (dk_at dksX0_digest_8 19 rfl rfl)
theorem dX0_digest_208 : decode cX0_digest 208 = .ok (.getfield 366, 3) := dk_180 1 110 (dk_at dksX0_digest_8 20 rfl rfl)
theorem dX0_digest_211 : decode cX0_digest 211 = .ok (.bipush 30, 2) := dk_16 30 (dk_at dksX0_digest_9 0 rfl rfl)
theorem dX0_digest_213 : decode cX0_digest 213 = .ok (.iload_n 3, 1) := dk_29 (dk_at dksX0_digest_9 2 rfl rfl)
theorem dX0_digest_214 : decode cX0_digest 214 = .ok (.imul, 1) := dk_104 (dk_at dksX0_digest_9 3 rfl rfl)
theorem dX0_digest_215 : decode cX0_digest 215 = .ok (.iload 4, 2) := dk_21 4 (dk_at dksX0_digest_9 4 rfl rfl)
theorem dX0_digest_217 : decode cX0_digest 217 = .ok (.iadd, 1) := dk_96 (dk_at dksX0_digest_9 6 rfl rfl)
theorem dX0_digest_218 : decode cX0_digest 218 = .ok (.iaload, 1) := dk_46 (dk_at dksX0_digest_9 7 rfl rfl)
theorem dX0_digest_219 : decode cX0_digest 219 = .ok (.i2l, 1) := dk_133 (dk_at dksX0_digest_9 8 rfl rfl)
theorem dX0_digest_220 : decode cX0_digest 220 = .ok (.ladd, 1) := dk_97 (dk_at dksX0_digest_9 9 rfl rfl)
theorem dX0_digest_221 : decode cX0_digest 221 = .ok (.lstore_n 1, 1) := dk_64 (dk_at dksX0_digest_9 10 rfl rfl)
theorem dX0_digest_222 : decode cX0_digest 222 = .ok (.iinc 4 1, 3) := dk_132 4 1 (dk_at dksX0_digest_9 11 rfl rfl)
theorem dX0_digest_225 : decode cX0_digest 225 = .ok (.goto (-34), 3) := dk_167 255 222 (dk_at dksX0_digest_9 14 rfl rfl)
theorem dX0_digest_228 : decode cX0_digest 228 = .ok (.iinc 3 1, 3) := dk_132 3 1 (dk_at dksX0_digest_9 17 rfl rfl)
theorem dX0_digest_231 : decode cX0_digest 231 = .ok (.goto (-62), 3) := dk_167 255 194 (dk_at dksX0_digest_9 20 rfl rfl)
theorem dX0_digest_234 : decode cX0_digest 234 = .ok (.aload_n 0, 1) := dk_42 (dk_at dksX0_digest_9 23 rfl rfl)
theorem dX0_digest_235 : decode cX0_digest 235 = .ok (.getfield 375, 3) := dk_180 1 119 (dk_at dksX0_digest_10 0 rfl rfl)
theorem dX0_digest_238 : decode cX0_digest 238 = .ok (.ifCond .ge 13, 3) := dk_156 0 13 (dk_at dksX0_digest_10 3 rfl rfl)
theorem dX0_digest_241 : decode cX0_digest 241 = .ok (.ldc2_w 603, 3) := dk_20 2 91 (dk_at dksX0_digest_10 6 rfl rfl)
theorem dX0_digest_244 : decode cX0_digest 244 = .ok (.lload_n 1, 1) := dk_31 (dk_at dksX0_digest_10 9 rfl rfl)
theorem dX0_digest_245 : decode cX0_digest 245 = .ok (.lmul, 1) := dk_105 (dk_at dksX0_digest_10 10 rfl rfl)
theorem dX0_digest_246 : decode cX0_digest 246 = .ok (.ldc2_w 605, 3) := dk_20 2 93 (dk_at dksX0_digest_10 11 rfl rfl)
theorem dX0_digest_249 : decode cX0_digest 249 = .ok (.ladd, 1) := dk_97 (dk_at dksX0_digest_10 14 rfl rfl)
theorem dX0_digest_250 : decode cX0_digest 250 = .ok (.lreturn, 1) := dk_173 (dk_at dksX0_digest_10 15 rfl rfl)
theorem dX0_digest_251 : decode cX0_digest 251 = .ok (.ldc2_w 603, 3) := dk_20 2 91 (dk_at dksX0_digest_10 16 rfl rfl)
theorem dX0_digest_254 : decode cX0_digest 254 = .ok (.ldc2_w 603, 3) := dk_20 2 91 (dk_at dksX0_digest_10 19 rfl rfl)
theorem dX0_digest_257 : decode cX0_digest 257 = .ok (.ldc2_w 603, 3) := dk_20 2 91 (dk_at dksX0_digest_11 0 rfl rfl)
theorem dX0_digest_260 : decode cX0_digest 260 = .ok (.ldc2_w 603, 3) := dk_20 2 91 (dk_at dksX0_digest_11 3 rfl rfl)
theorem dX0_digest_263 : decode cX0_digest 263 = .ok (.lload_n 1, 1) := dk_31 (dk_at dksX0_digest_11 6 rfl rfl)
theorem dX0_digest_264 : decode cX0_digest 264 = .ok (.lmul, 1) := dk_105 (dk_at dksX0_digest_11 7 rfl rfl)
theorem dX0_digest_265 : decode cX0_digest 265 = .ok (.aload_n 0, 1) := dk_42 (dk_at dksX0_digest_11 8 rfl rfl)
theorem dX0_digest_266 : decode cX0_digest 266 = .ok (.getfield 375, 3) := dk_180 1 119 (dk_at dksX0_digest_11 9 rfl rfl)
theorem dX0_digest_269 : decode cX0_digest 269 = .ok (.i2l, 1) := dk_133 (dk_at dksX0_digest_11 12 rfl rfl)
theorem dX0_digest_270 : decode cX0_digest 270 = .ok (.ladd, 1) := dk_97 (dk_at dksX0_digest_11 13 rfl rfl)
theorem dX0_digest_271 : decode cX0_digest 271 = .ok (.lmul, 1) := dk_105 (dk_at dksX0_digest_11 14 rfl rfl)
theorem dX0_digest_272 : decode cX0_digest 272 = .ok (.aload_n 0, 1) := dk_42 (dk_at dksX0_digest_11 15 rfl rfl)
theorem dX0_digest_273 : decode cX0_digest 273 = .ok (.getfield 548, 3) := dk_180 2 36 (dk_at dksX0_digest_11 16 rfl rfl)
theorem dX0_digest_276 : decode cX0_digest 276 = .ok (.i2l, 1) := dk_133 (dk_at dksX0_digest_11 19 rfl rfl)
theorem dX0_digest_277 : decode cX0_digest 277 = .ok (.ladd, 1) := dk_97 (dk_at dksX0_digest_11 20 rfl rfl)
theorem dX0_digest_278 : decode cX0_digest 278 = .ok (.lmul, 1) := dk_105 (dk_at dksX0_digest_11 21 rfl rfl)
theorem dX0_digest_279 : decode cX0_digest 279 = .ok (.aload_n 0, 1) := dk_42 (dk_at dksX0_digest_11 22 rfl rfl)
theorem dX0_digest_280 : decode cX0_digest 280 = .ok (.getfield 551, 3) := dk_180 2 39 (dk_at dksX0_digest_12 0 rfl rfl)
theorem dX0_digest_283 : decode cX0_digest 283 = .ok (.i2l, 1) := dk_133 (dk_at dksX0_digest_12 3 rfl rfl)
theorem dX0_digest_284 : decode cX0_digest 284 = .ok (.ladd, 1) := dk_97 (dk_at dksX0_digest_12 4 rfl rfl)
theorem dX0_digest_285 : decode cX0_digest 285 = .ok (.lmul, 1) := dk_105 (dk_at dksX0_digest_12 5 rfl rfl)
theorem dX0_digest_286 : decode cX0_digest 286 = .ok (.aload_n 0, 1) := dk_42 (dk_at dksX0_digest_12 6 rfl rfl)
theorem dX0_digest_287 : decode cX0_digest 287 = .ok (.getfield 556, 3) := dk_180 2 44 (dk_at dksX0_digest_12 7 rfl rfl)
theorem dX0_digest_290 : decode cX0_digest 290 = .ok (.i2l, 1) := dk_133 (dk_at dksX0_digest_12 10 rfl rfl)
theorem dX0_digest_291 : decode cX0_digest 291 = .ok (.ladd, 1) := dk_97 (dk_at dksX0_digest_12 11 rfl rfl)
theorem dX0_digest_292 : decode cX0_digest 292 = .ok (.lstore_n 1, 1) := dk_64 (dk_at dksX0_digest_12 12 rfl rfl)
theorem dX0_digest_293 : decode cX0_digest 293 = .ok (.iconst 0, 1) := dk_3 (dk_at dksX0_digest_12 13 rfl rfl)
theorem dX0_digest_294 : decode cX0_digest 294 = .ok (.istore_n 3, 1) := dk_62 (dk_at dksX0_digest_12 14 rfl rfl)
theorem dX0_digest_295 : decode cX0_digest 295 = .ok (.iload_n 3, 1) := dk_29 (dk_at dksX0_digest_12 15 rfl rfl)
theorem dX0_digest_296 : decode cX0_digest 296 = .ok (.aload_n 0, 1) := dk_42 (dk_at dksX0_digest_12 16 rfl rfl)
theorem dX0_digest_297 : decode cX0_digest 297 = .ok (.getfield 556, 3) := dk_180 2 44 (dk_at dksX0_digest_12 17 rfl rfl)
theorem dX0_digest_300 : decode cX0_digest 300 = .ok (.if_icmp .ge 35, 3) := dk_162 0 35 (dk_at dksX0_digest_12 20 rfl rfl)
theorem dX0_digest_303 : decode cX0_digest 303 = .ok (.ldc2_w 603, 3) := dk_20 2 91 (dk_at dksX0_digest_13 0 rfl rfl)
theorem dX0_digest_306 : decode cX0_digest 306 = .ok (.ldc2_w 603, 3) := dk_20 2 91 (dk_at dksX0_digest_13 3 rfl rfl)
theorem dX0_digest_309 : decode cX0_digest 309 = .ok (.lload_n 1, 1) := dk_31 (dk_at dksX0_digest_13 6 rfl rfl)
theorem dX0_digest_310 : decode cX0_digest 310 = .ok (.lmul, 1) := dk_105 (dk_at dksX0_digest_13 7 rfl rfl)
theorem dX0_digest_311 : decode cX0_digest 311 = .ok (.aload_n 0, 1) := dk_42 (dk_at dksX0_digest_13 8 rfl rfl)
theorem dX0_digest_312 : decode cX0_digest 312 = .ok (.getfield 378, 3) := dk_180 1 122 (dk_at dksX0_digest_13 9 rfl rfl)
theorem dX0_digest_315 : decode cX0_digest 315 = .ok (.iload_n 3, 1) := dk_29 (dk_at dksX0_digest_13 12 rfl rfl)
theorem dX0_digest_316 : decode cX0_digest 316 = .ok (.iaload, 1) := dk_46 (dk_at dksX0_digest_13 13 rfl rfl)
theorem dX0_digest_317 : decode cX0_digest 317 = .ok (.i2l, 1) := dk_133 (dk_at dksX0_digest_13 14 rfl rfl)
theorem dX0_digest_318 : decode cX0_digest 318 = .ok (.ladd, 1) := dk_97 (dk_at dksX0_digest_13 15 rfl rfl)
theorem dX0_digest_319 : decode cX0_digest 319 = .ok (.lmul, 1) := dk_105 (dk_at dksX0_digest_13 16 rfl rfl)
theorem dX0_digest_320 : decode cX0_digest 320 = .ok (.aload_n 0, 1) := dk_42 (dk_at dksX0_digest_13 17 rfl rfl)
theorem dX0_digest_321 : decode cX0_digest 321 = .ok (.getfield 381, 3) := dk_180 1 125 (dk_at dksX0_digest_13 18 rfl rfl)
theorem dX0_digest_324 : decode cX0_digest 324 = .ok (.iload_n 3, 1) := dk_29 (dk_at dksX0_digest_13 21 rfl rfl)
theorem dX0_digest_325 : decode cX0_digest 325 = .ok (.iaload, 1) := dk_46 (dk_at dksX0_digest_13 22 rfl rfl)
theorem dX0_digest_326 : decode cX0_digest 326 = .ok (.i2l, 1) := dk_133 (dk_at dksX0_digest_13 23 rfl rfl)
theorem dX0_digest_327 : decode cX0_digest 327 = .ok (.ladd, 1) := dk_97 (dk_at dksX0_digest_14 0 rfl rfl)
theorem dX0_digest_328 : decode cX0_digest 328 = .ok (.lstore_n 1, 1) := dk_64 (dk_at dksX0_digest_14 1 rfl rfl)
theorem dX0_digest_329 : decode cX0_digest 329 = .ok (.iinc 3 1, 3) := dk_132 3 1 (dk_at dksX0_digest_14 2 rfl rfl)
theorem dX0_digest_332 : decode cX0_digest 332 = .ok (.goto (-37), 3) := dk_167 255 219 (dk_at dksX0_digest_14 5 rfl rfl)
theorem dX0_digest_335 : decode cX0_digest 335 = .ok (.lload_n 1, 1) := dk_31 (dk_at dksX0_digest_14 8 rfl rfl)
theorem dX0_digest_336 : decode cX0_digest 336 = .ok (.lreturn, 1) := dk_173 (dk_at dksX0_digest_14 9 rfl rfl)
abbrev cX0_lay : ByteArray := prog_1_method_90_code
def yX0_lay : MethodName := ⟨RX0, "lay", "(III)I"⟩
def dkwX0_lay_2 : List UInt8 := [29, 172]
abbrev dktX0_lay_2 : List UInt8 := dkwX0_lay_2 ++ []
def dkwX0_lay_1 : List UInt8 := [164, 0, 5, 2, 172, 42, 180, 1, 116, 27, 50, 28, 29, 182, 2, 98, 167, 0, 8, 58, 4, 16, 241, 172]
abbrev dktX0_lay_1 : List UInt8 := dkwX0_lay_1 ++ dktX0_lay_2
def dkwX0_lay_0 : List UInt8 := [27, 184, 2, 95, 153, 0, 21, 28, 133, 9, 20, 1, 216, 184, 1, 168, 153, 0, 9, 29, 16, 12]
abbrev dktX0_lay_0 : List UInt8 := dkwX0_lay_0 ++ dktX0_lay_1
theorem dksX0_lay_0 : cX0_lay.data.toList.drop 0 = dktX0_lay_0 := by decide +kernel
theorem dksX0_lay_1 : cX0_lay.data.toList.drop 22 = dktX0_lay_1 := dk_seg dksX0_lay_0 22 rfl rfl
theorem dksX0_lay_2 : cX0_lay.data.toList.drop 46 = dktX0_lay_2 := dk_seg dksX0_lay_1 24 rfl rfl
theorem dX0_lay_0 : decode cX0_lay 0 = .ok (.iload_n 1, 1) := dk_27 (dk_at dksX0_lay_0 0 rfl rfl)
theorem dX0_lay_1 : decode cX0_lay 1 = .ok (.invokestatic 607, 3) := dk_184 2 95 (dk_at dksX0_lay_0 1 rfl rfl)
theorem dX0_lay_4 : decode cX0_lay 4 = .ok (.ifCond .eq 21, 3) := dk_153 0 21 (dk_at dksX0_lay_0 4 rfl rfl)
theorem dX0_lay_7 : decode cX0_lay 7 = .ok (.iload_n 2, 1) := dk_28 (dk_at dksX0_lay_0 7 rfl rfl)
theorem dX0_lay_8 : decode cX0_lay 8 = .ok (.i2l, 1) := dk_133 (dk_at dksX0_lay_0 8 rfl rfl)
theorem dX0_lay_9 : decode cX0_lay 9 = .ok (.lconst 0, 1) := dk_9 (dk_at dksX0_lay_0 9 rfl rfl)
theorem dX0_lay_10 : decode cX0_lay 10 = .ok (.ldc2_w 472, 3) := dk_20 1 216 (dk_at dksX0_lay_0 10 rfl rfl)
theorem dX0_lay_13 : decode cX0_lay 13 = .ok (.invokestatic 424, 3) := dk_184 1 168 (dk_at dksX0_lay_0 13 rfl rfl)
theorem dX0_lay_16 : decode cX0_lay 16 = .ok (.ifCond .eq 9, 3) := dk_153 0 9 (dk_at dksX0_lay_0 16 rfl rfl)
theorem dX0_lay_19 : decode cX0_lay 19 = .ok (.iload_n 3, 1) := dk_29 (dk_at dksX0_lay_0 19 rfl rfl)
theorem dX0_lay_20 : decode cX0_lay 20 = .ok (.bipush 12, 2) := dk_16 12 (dk_at dksX0_lay_0 20 rfl rfl)
theorem dX0_lay_22 : decode cX0_lay 22 = .ok (.if_icmp .le 5, 3) := dk_164 0 5 (dk_at dksX0_lay_1 0 rfl rfl)
theorem dX0_lay_25 : decode cX0_lay 25 = .ok (.iconst (-1), 1) := dk_2 (dk_at dksX0_lay_1 3 rfl rfl)
theorem dX0_lay_26 : decode cX0_lay 26 = .ok (.ireturn, 1) := dk_172 (dk_at dksX0_lay_1 4 rfl rfl)
theorem dX0_lay_27 : decode cX0_lay 27 = .ok (.aload_n 0, 1) := dk_42 (dk_at dksX0_lay_1 5 rfl rfl)
theorem dX0_lay_28 : decode cX0_lay 28 = .ok (.getfield 372, 3) := dk_180 1 116 (dk_at dksX0_lay_1 6 rfl rfl)
theorem dX0_lay_31 : decode cX0_lay 31 = .ok (.iload_n 1, 1) := dk_27 (dk_at dksX0_lay_1 9 rfl rfl)
theorem dX0_lay_32 : decode cX0_lay 32 = .ok (.aaload, 1) := dk_50 (dk_at dksX0_lay_1 10 rfl rfl)
theorem dX0_lay_33 : decode cX0_lay 33 = .ok (.iload_n 2, 1) := dk_28 (dk_at dksX0_lay_1 11 rfl rfl)
theorem dX0_lay_34 : decode cX0_lay 34 = .ok (.iload_n 3, 1) := dk_29 (dk_at dksX0_lay_1 12 rfl rfl)
theorem dX0_lay_35 : decode cX0_lay 35 = .ok (.invokevirtual 610, 3) := dk_182 2 98 (dk_at dksX0_lay_1 13 rfl rfl)
theorem dX0_lay_38 : decode cX0_lay 38 = .ok (.goto 8, 3) := dk_167 0 8 (dk_at dksX0_lay_1 16 rfl rfl)
theorem dX0_lay_41 : decode cX0_lay 41 = .ok (.astore 4, 2) := dk_58 4 (dk_at dksX0_lay_1 19 rfl rfl)
theorem dX0_lay_43 : decode cX0_lay 43 = .ok (.bipush (-15), 2) := dk_16 241 (dk_at dksX0_lay_1 21 rfl rfl)
theorem dX0_lay_45 : decode cX0_lay 45 = .ok (.ireturn, 1) := dk_172 (dk_at dksX0_lay_1 23 rfl rfl)
theorem dX0_lay_46 : decode cX0_lay 46 = .ok (.iload_n 3, 1) := dk_29 (dk_at dksX0_lay_2 0 rfl rfl)
theorem dX0_lay_47 : decode cX0_lay 47 = .ok (.ireturn, 1) := dk_172 (dk_at dksX0_lay_2 1 rfl rfl)
abbrev cX0_isPlace : ByteArray := prog_1_method_89_code
def yX0_isPlace : MethodName := ⟨RX0, "isPlace", "(I)Z"⟩
def dkwX0_isPlace_0 : List UInt8 := [26, 133, 9, 20, 2, 93, 184, 1, 168, 172]
abbrev dktX0_isPlace_0 : List UInt8 := dkwX0_isPlace_0 ++ []
theorem dksX0_isPlace_0 : cX0_isPlace.data.toList.drop 0 = dktX0_isPlace_0 := by decide +kernel
theorem dX0_isPlace_0 : decode cX0_isPlace 0 = .ok (.iload_n 0, 1) := dk_26 (dk_at dksX0_isPlace_0 0 rfl rfl)
theorem dX0_isPlace_1 : decode cX0_isPlace 1 = .ok (.i2l, 1) := dk_133 (dk_at dksX0_isPlace_0 1 rfl rfl)
theorem dX0_isPlace_2 : decode cX0_isPlace 2 = .ok (.lconst 0, 1) := dk_9 (dk_at dksX0_isPlace_0 2 rfl rfl)
theorem dX0_isPlace_3 : decode cX0_isPlace 3 = .ok (.ldc2_w 605, 3) := dk_20 2 93 (dk_at dksX0_isPlace_0 3 rfl rfl)
theorem dX0_isPlace_6 : decode cX0_isPlace 6 = .ok (.invokestatic 424, 3) := dk_184 1 168 (dk_at dksX0_isPlace_0 6 rfl rfl)
theorem dX0_isPlace_9 : decode cX0_isPlace 9 = .ok (.ireturn, 1) := dk_172 (dk_at dksX0_isPlace_0 9 rfl rfl)
abbrev cX0_lift : ByteArray := prog_1_method_91_code
def yX0_lift : MethodName := ⟨RX0, "lift", "(II)I"⟩
def dkwX0_lift_2 : List UInt8 := [167, 0, 4, 4, 172]
abbrev dktX0_lift_2 : List UInt8 := dkwX0_lift_2 ++ []
def dkwX0_lift_1 : List UInt8 := [180, 1, 106, 27, 50, 180, 1, 151, 181, 1, 151, 42, 180, 1, 116, 28, 50, 180, 1, 151, 199, 0, 7, 3]
abbrev dktX0_lift_1 : List UInt8 := dkwX0_lift_1 ++ dktX0_lift_2
def dkwX0_lift_0 : List UInt8 := [27, 184, 2, 26, 153, 0, 10, 28, 184, 2, 95, 154, 0, 5, 2, 172, 42, 180, 1, 116, 28, 50, 42]
abbrev dktX0_lift_0 : List UInt8 := dkwX0_lift_0 ++ dktX0_lift_1
theorem dksX0_lift_0 : cX0_lift.data.toList.drop 0 = dktX0_lift_0 := by decide +kernel
theorem dksX0_lift_1 : cX0_lift.data.toList.drop 23 = dktX0_lift_1 := dk_seg dksX0_lift_0 23 rfl rfl
theorem dksX0_lift_2 : cX0_lift.data.toList.drop 47 = dktX0_lift_2 := dk_seg dksX0_lift_1 24 rfl rfl
theorem dX0_lift_0 : decode cX0_lift 0 = .ok (.iload_n 1, 1) := dk_27 (dk_at dksX0_lift_0 0 rfl rfl)
theorem dX0_lift_1 : decode cX0_lift 1 = .ok (.invokestatic 538, 3) := dk_184 2 26 (dk_at dksX0_lift_0 1 rfl rfl)
theorem dX0_lift_4 : decode cX0_lift 4 = .ok (.ifCond .eq 10, 3) := dk_153 0 10 (dk_at dksX0_lift_0 4 rfl rfl)
theorem dX0_lift_7 : decode cX0_lift 7 = .ok (.iload_n 2, 1) := dk_28 (dk_at dksX0_lift_0 7 rfl rfl)
theorem dX0_lift_8 : decode cX0_lift 8 = .ok (.invokestatic 607, 3) := dk_184 2 95 (dk_at dksX0_lift_0 8 rfl rfl)
theorem dX0_lift_11 : decode cX0_lift 11 = .ok (.ifCond .ne 5, 3) := dk_154 0 5 (dk_at dksX0_lift_0 11 rfl rfl)
theorem dX0_lift_14 : decode cX0_lift 14 = .ok (.iconst (-1), 1) := dk_2 (dk_at dksX0_lift_0 14 rfl rfl)
theorem dX0_lift_15 : decode cX0_lift 15 = .ok (.ireturn, 1) := dk_172 (dk_at dksX0_lift_0 15 rfl rfl)
theorem dX0_lift_16 : decode cX0_lift 16 = .ok (.aload_n 0, 1) := dk_42 (dk_at dksX0_lift_0 16 rfl rfl)
theorem dX0_lift_17 : decode cX0_lift 17 = .ok (.getfield 372, 3) := dk_180 1 116 (dk_at dksX0_lift_0 17 rfl rfl)
theorem dX0_lift_20 : decode cX0_lift 20 = .ok (.iload_n 2, 1) := dk_28 (dk_at dksX0_lift_0 20 rfl rfl)
theorem dX0_lift_21 : decode cX0_lift 21 = .ok (.aaload, 1) := dk_50 (dk_at dksX0_lift_0 21 rfl rfl)
theorem dX0_lift_22 : decode cX0_lift 22 = .ok (.aload_n 0, 1) := dk_42 (dk_at dksX0_lift_0 22 rfl rfl)
theorem dX0_lift_23 : decode cX0_lift 23 = .ok (.getfield 362, 3) := dk_180 1 106 (dk_at dksX0_lift_1 0 rfl rfl)
theorem dX0_lift_26 : decode cX0_lift 26 = .ok (.iload_n 1, 1) := dk_27 (dk_at dksX0_lift_1 3 rfl rfl)
theorem dX0_lift_27 : decode cX0_lift 27 = .ok (.aaload, 1) := dk_50 (dk_at dksX0_lift_1 4 rfl rfl)
theorem dX0_lift_28 : decode cX0_lift 28 = .ok (.getfield 407, 3) := dk_180 1 151 (dk_at dksX0_lift_1 5 rfl rfl)
theorem dX0_lift_31 : decode cX0_lift 31 = .ok (.putfield 407, 3) := dk_181 1 151 (dk_at dksX0_lift_1 8 rfl rfl)
theorem dX0_lift_34 : decode cX0_lift 34 = .ok (.aload_n 0, 1) := dk_42 (dk_at dksX0_lift_1 11 rfl rfl)
theorem dX0_lift_35 : decode cX0_lift 35 = .ok (.getfield 372, 3) := dk_180 1 116 (dk_at dksX0_lift_1 12 rfl rfl)
theorem dX0_lift_38 : decode cX0_lift 38 = .ok (.iload_n 2, 1) := dk_28 (dk_at dksX0_lift_1 15 rfl rfl)
theorem dX0_lift_39 : decode cX0_lift 39 = .ok (.aaload, 1) := dk_50 (dk_at dksX0_lift_1 16 rfl rfl)
theorem dX0_lift_40 : decode cX0_lift 40 = .ok (.getfield 407, 3) := dk_180 1 151 (dk_at dksX0_lift_1 17 rfl rfl)
theorem dX0_lift_43 : decode cX0_lift 43 = .ok (.ifnonnull 7, 3) := dk_199 0 7 (dk_at dksX0_lift_1 20 rfl rfl)
theorem dX0_lift_46 : decode cX0_lift 46 = .ok (.iconst 0, 1) := dk_3 (dk_at dksX0_lift_1 23 rfl rfl)
theorem dX0_lift_47 : decode cX0_lift 47 = .ok (.goto 4, 3) := dk_167 0 4 (dk_at dksX0_lift_2 0 rfl rfl)
theorem dX0_lift_50 : decode cX0_lift 50 = .ok (.iconst 1, 1) := dk_4 (dk_at dksX0_lift_2 3 rfl rfl)
theorem dX0_lift_51 : decode cX0_lift 51 = .ok (.ireturn, 1) := dk_172 (dk_at dksX0_lift_2 4 rfl rfl)
abbrev cX0_put : ByteArray := prog_1_method_92_code
def yX0_put : MethodName := ⟨RX0, "put", "(II)I"⟩
def dkwX0_put_2 : List UInt8 := [181, 1, 151, 42, 180, 1, 106, 28, 50, 182, 1, 165, 172]
abbrev dktX0_put_2 : List UInt8 := dkwX0_put_2 ++ []
def dkwX0_put_1 : List UInt8 := [180, 1, 151, 199, 0, 6, 16, 245, 172, 42, 180, 1, 106, 28, 50, 42, 180, 1, 116, 27, 50, 180, 1, 151]
abbrev dktX0_put_1 : List UInt8 := dkwX0_put_1 ++ dktX0_put_2
def dkwX0_put_0 : List UInt8 := [27, 184, 2, 95, 153, 0, 10, 28, 184, 2, 26, 154, 0, 5, 2, 172, 42, 180, 1, 116, 27, 50]
abbrev dktX0_put_0 : List UInt8 := dkwX0_put_0 ++ dktX0_put_1
theorem dksX0_put_0 : cX0_put.data.toList.drop 0 = dktX0_put_0 := by decide +kernel
theorem dksX0_put_1 : cX0_put.data.toList.drop 22 = dktX0_put_1 := dk_seg dksX0_put_0 22 rfl rfl
theorem dksX0_put_2 : cX0_put.data.toList.drop 46 = dktX0_put_2 := dk_seg dksX0_put_1 24 rfl rfl
theorem dX0_put_0 : decode cX0_put 0 = .ok (.iload_n 1, 1) := dk_27 (dk_at dksX0_put_0 0 rfl rfl)
theorem dX0_put_1 : decode cX0_put 1 = .ok (.invokestatic 607, 3) := dk_184 2 95 (dk_at dksX0_put_0 1 rfl rfl)
theorem dX0_put_4 : decode cX0_put 4 = .ok (.ifCond .eq 10, 3) := dk_153 0 10 (dk_at dksX0_put_0 4 rfl rfl)
theorem dX0_put_7 : decode cX0_put 7 = .ok (.iload_n 2, 1) := dk_28 (dk_at dksX0_put_0 7 rfl rfl)
theorem dX0_put_8 : decode cX0_put 8 = .ok (.invokestatic 538, 3) := dk_184 2 26 (dk_at dksX0_put_0 8 rfl rfl)
theorem dX0_put_11 : decode cX0_put 11 = .ok (.ifCond .ne 5, 3) := dk_154 0 5 (dk_at dksX0_put_0 11 rfl rfl)
theorem dX0_put_14 : decode cX0_put 14 = .ok (.iconst (-1), 1) := dk_2 (dk_at dksX0_put_0 14 rfl rfl)
theorem dX0_put_15 : decode cX0_put 15 = .ok (.ireturn, 1) := dk_172 (dk_at dksX0_put_0 15 rfl rfl)
theorem dX0_put_16 : decode cX0_put 16 = .ok (.aload_n 0, 1) := dk_42 (dk_at dksX0_put_0 16 rfl rfl)
theorem dX0_put_17 : decode cX0_put 17 = .ok (.getfield 372, 3) := dk_180 1 116 (dk_at dksX0_put_0 17 rfl rfl)
theorem dX0_put_20 : decode cX0_put 20 = .ok (.iload_n 1, 1) := dk_27 (dk_at dksX0_put_0 20 rfl rfl)
theorem dX0_put_21 : decode cX0_put 21 = .ok (.aaload, 1) := dk_50 (dk_at dksX0_put_0 21 rfl rfl)
theorem dX0_put_22 : decode cX0_put 22 = .ok (.getfield 407, 3) := dk_180 1 151 (dk_at dksX0_put_1 0 rfl rfl)
theorem dX0_put_25 : decode cX0_put 25 = .ok (.ifnonnull 6, 3) := dk_199 0 6 (dk_at dksX0_put_1 3 rfl rfl)
theorem dX0_put_28 : decode cX0_put 28 = .ok (.bipush (-11), 2) := dk_16 245 (dk_at dksX0_put_1 6 rfl rfl)
theorem dX0_put_30 : decode cX0_put 30 = .ok (.ireturn, 1) := dk_172 (dk_at dksX0_put_1 8 rfl rfl)
theorem dX0_put_31 : decode cX0_put 31 = .ok (.aload_n 0, 1) := dk_42 (dk_at dksX0_put_1 9 rfl rfl)
theorem dX0_put_32 : decode cX0_put 32 = .ok (.getfield 362, 3) := dk_180 1 106 (dk_at dksX0_put_1 10 rfl rfl)
theorem dX0_put_35 : decode cX0_put 35 = .ok (.iload_n 2, 1) := dk_28 (dk_at dksX0_put_1 13 rfl rfl)
theorem dX0_put_36 : decode cX0_put 36 = .ok (.aaload, 1) := dk_50 (dk_at dksX0_put_1 14 rfl rfl)
theorem dX0_put_37 : decode cX0_put 37 = .ok (.aload_n 0, 1) := dk_42 (dk_at dksX0_put_1 15 rfl rfl)
theorem dX0_put_38 : decode cX0_put 38 = .ok (.getfield 372, 3) := dk_180 1 116 (dk_at dksX0_put_1 16 rfl rfl)
theorem dX0_put_41 : decode cX0_put 41 = .ok (.iload_n 1, 1) := dk_27 (dk_at dksX0_put_1 19 rfl rfl)
theorem dX0_put_42 : decode cX0_put 42 = .ok (.aaload, 1) := dk_50 (dk_at dksX0_put_1 20 rfl rfl)
theorem dX0_put_43 : decode cX0_put 43 = .ok (.getfield 407, 3) := dk_180 1 151 (dk_at dksX0_put_1 21 rfl rfl)
theorem dX0_put_46 : decode cX0_put 46 = .ok (.putfield 407, 3) := dk_181 1 151 (dk_at dksX0_put_2 0 rfl rfl)
theorem dX0_put_49 : decode cX0_put 49 = .ok (.aload_n 0, 1) := dk_42 (dk_at dksX0_put_2 3 rfl rfl)
theorem dX0_put_50 : decode cX0_put 50 = .ok (.getfield 362, 3) := dk_180 1 106 (dk_at dksX0_put_2 4 rfl rfl)
theorem dX0_put_53 : decode cX0_put 53 = .ok (.iload_n 2, 1) := dk_28 (dk_at dksX0_put_2 7 rfl rfl)
theorem dX0_put_54 : decode cX0_put 54 = .ok (.aaload, 1) := dk_50 (dk_at dksX0_put_2 8 rfl rfl)
theorem dX0_put_55 : decode cX0_put 55 = .ok (.invokevirtual 421, 3) := dk_182 1 165 (dk_at dksX0_put_2 9 rfl rfl)
theorem dX0_put_58 : decode cX0_put 58 = .ok (.ireturn, 1) := dk_172 (dk_at dksX0_put_2 12 rfl rfl)
abbrev cX0_set : ByteArray := prog_1_method_95_code
def yX0_set : MethodName := ⟨RX0, "set", "(IIIJ)I"⟩
def dkwX0_set_2 : List UInt8 := [58, 6, 16, 244, 172, 58, 6, 16, 243, 172, 4, 172]
abbrev dktX0_set_2 : List UInt8 := dkwX0_set_2 ++ []
def dkwX0_set_1 : List UInt8 := [180, 1, 116, 27, 50, 180, 1, 151, 28, 29, 22, 4, 184, 2, 112, 167, 0, 18, 58, 6, 16, 245, 172]
abbrev dktX0_set_1 : List UInt8 := dkwX0_set_1 ++ dktX0_set_2
def dkwX0_set_0 : List UInt8 := [27, 184, 2, 95, 153, 0, 15, 28, 133, 9, 20, 1, 216, 184, 1, 168, 154, 0, 5, 2, 172, 42]
abbrev dktX0_set_0 : List UInt8 := dkwX0_set_0 ++ dktX0_set_1
theorem dksX0_set_0 : cX0_set.data.toList.drop 0 = dktX0_set_0 := by decide +kernel
theorem dksX0_set_1 : cX0_set.data.toList.drop 22 = dktX0_set_1 := dk_seg dksX0_set_0 22 rfl rfl
theorem dksX0_set_2 : cX0_set.data.toList.drop 45 = dktX0_set_2 := dk_seg dksX0_set_1 23 rfl rfl
theorem dX0_set_0 : decode cX0_set 0 = .ok (.iload_n 1, 1) := dk_27 (dk_at dksX0_set_0 0 rfl rfl)
theorem dX0_set_1 : decode cX0_set 1 = .ok (.invokestatic 607, 3) := dk_184 2 95 (dk_at dksX0_set_0 1 rfl rfl)
theorem dX0_set_4 : decode cX0_set 4 = .ok (.ifCond .eq 15, 3) := dk_153 0 15 (dk_at dksX0_set_0 4 rfl rfl)
theorem dX0_set_7 : decode cX0_set 7 = .ok (.iload_n 2, 1) := dk_28 (dk_at dksX0_set_0 7 rfl rfl)
theorem dX0_set_8 : decode cX0_set 8 = .ok (.i2l, 1) := dk_133 (dk_at dksX0_set_0 8 rfl rfl)
theorem dX0_set_9 : decode cX0_set 9 = .ok (.lconst 0, 1) := dk_9 (dk_at dksX0_set_0 9 rfl rfl)
theorem dX0_set_10 : decode cX0_set 10 = .ok (.ldc2_w 472, 3) := dk_20 1 216 (dk_at dksX0_set_0 10 rfl rfl)
theorem dX0_set_13 : decode cX0_set 13 = .ok (.invokestatic 424, 3) := dk_184 1 168 (dk_at dksX0_set_0 13 rfl rfl)
theorem dX0_set_16 : decode cX0_set 16 = .ok (.ifCond .ne 5, 3) := dk_154 0 5 (dk_at dksX0_set_0 16 rfl rfl)
theorem dX0_set_19 : decode cX0_set 19 = .ok (.iconst (-1), 1) := dk_2 (dk_at dksX0_set_0 19 rfl rfl)
theorem dX0_set_20 : decode cX0_set 20 = .ok (.ireturn, 1) := dk_172 (dk_at dksX0_set_0 20 rfl rfl)
theorem dX0_set_21 : decode cX0_set 21 = .ok (.aload_n 0, 1) := dk_42 (dk_at dksX0_set_0 21 rfl rfl)
theorem dX0_set_22 : decode cX0_set 22 = .ok (.getfield 372, 3) := dk_180 1 116 (dk_at dksX0_set_1 0 rfl rfl)
theorem dX0_set_25 : decode cX0_set 25 = .ok (.iload_n 1, 1) := dk_27 (dk_at dksX0_set_1 3 rfl rfl)
theorem dX0_set_26 : decode cX0_set 26 = .ok (.aaload, 1) := dk_50 (dk_at dksX0_set_1 4 rfl rfl)
theorem dX0_set_27 : decode cX0_set 27 = .ok (.getfield 407, 3) := dk_180 1 151 (dk_at dksX0_set_1 5 rfl rfl)
theorem dX0_set_30 : decode cX0_set 30 = .ok (.iload_n 2, 1) := dk_28 (dk_at dksX0_set_1 8 rfl rfl)
theorem dX0_set_31 : decode cX0_set 31 = .ok (.iload_n 3, 1) := dk_29 (dk_at dksX0_set_1 9 rfl rfl)
theorem dX0_set_32 : decode cX0_set 32 = .ok (.lload 4, 2) := dk_22 4 (dk_at dksX0_set_1 10 rfl rfl)
theorem dX0_set_34 : decode cX0_set 34 = .ok (.invokestatic 624, 3) := dk_184 2 112 (dk_at dksX0_set_1 12 rfl rfl)
theorem dX0_set_37 : decode cX0_set 37 = .ok (.goto 18, 3) := dk_167 0 18 (dk_at dksX0_set_1 15 rfl rfl)
theorem dX0_set_40 : decode cX0_set 40 = .ok (.astore 6, 2) := dk_58 6 (dk_at dksX0_set_1 18 rfl rfl)
theorem dX0_set_42 : decode cX0_set 42 = .ok (.bipush (-11), 2) := dk_16 245 (dk_at dksX0_set_1 20 rfl rfl)
theorem dX0_set_44 : decode cX0_set 44 = .ok (.ireturn, 1) := dk_172 (dk_at dksX0_set_1 22 rfl rfl)
theorem dX0_set_45 : decode cX0_set 45 = .ok (.astore 6, 2) := dk_58 6 (dk_at dksX0_set_2 0 rfl rfl)
theorem dX0_set_47 : decode cX0_set 47 = .ok (.bipush (-12), 2) := dk_16 244 (dk_at dksX0_set_2 2 rfl rfl)
theorem dX0_set_49 : decode cX0_set 49 = .ok (.ireturn, 1) := dk_172 (dk_at dksX0_set_2 4 rfl rfl)
theorem dX0_set_50 : decode cX0_set 50 = .ok (.astore 6, 2) := dk_58 6 (dk_at dksX0_set_2 5 rfl rfl)
theorem dX0_set_52 : decode cX0_set 52 = .ok (.bipush (-13), 2) := dk_16 243 (dk_at dksX0_set_2 7 rfl rfl)
theorem dX0_set_54 : decode cX0_set 54 = .ok (.ireturn, 1) := dk_172 (dk_at dksX0_set_2 9 rfl rfl)
theorem dX0_set_55 : decode cX0_set 55 = .ok (.iconst 1, 1) := dk_4 (dk_at dksX0_set_2 10 rfl rfl)
theorem dX0_set_56 : decode cX0_set 56 = .ok (.ireturn, 1) := dk_172 (dk_at dksX0_set_2 11 rfl rfl)
abbrev cX0_store : ByteArray := prog_1_method_94_code
def yX0_store : MethodName := ⟨RX0, "store", "(Ljava/lang/Object;IIJ)V"⟩
def dkwX0_store_4 : List UInt8 := [192, 2, 110, 28, 33, 136, 146, 85, 177]
abbrev dktX0_store_4 : List UInt8 := dkwX0_store_4 ++ []
def dkwX0_store_3 : List UInt8 := [192, 2, 107, 28, 33, 136, 147, 86, 167, 0, 24, 42, 192, 2, 109, 28, 33, 136, 145, 84, 167, 0, 12, 42]
abbrev dktX0_store_3 : List UInt8 := dkwX0_store_3 ++ dktX0_store_4
def dkwX0_store_2 : List UInt8 := [42, 192, 2, 104, 28, 33, 136, 79, 167, 0, 46, 42, 192, 2, 105, 28, 33, 80, 167, 0, 36, 42]
abbrev dktX0_store_2 : List UInt8 := dkwX0_store_2 ++ dktX0_store_3
def dkwX0_store_1 : List UInt8 := [170, 0, 0, 0, 0, 0, 76, 0, 0, 0, 0, 0, 0, 0, 3, 0, 0, 0, 31, 0, 0, 0, 42, 0, 0, 0, 52, 0, 0, 0, 64]
abbrev dktX0_store_1 : List UInt8 := dkwX0_store_1 ++ dktX0_store_2
def dkwX0_store_0 : List UInt8 := [27]
abbrev dktX0_store_0 : List UInt8 := dkwX0_store_0 ++ dktX0_store_1
theorem dksX0_store_0 : cX0_store.data.toList.drop 0 = dktX0_store_0 := by decide +kernel
theorem dksX0_store_1 : cX0_store.data.toList.drop 1 = dktX0_store_1 := dk_seg dksX0_store_0 1 rfl rfl
theorem dksX0_store_2 : cX0_store.data.toList.drop 32 = dktX0_store_2 := dk_seg dksX0_store_1 31 rfl rfl
theorem dksX0_store_3 : cX0_store.data.toList.drop 54 = dktX0_store_3 := dk_seg dksX0_store_2 22 rfl rfl
theorem dksX0_store_4 : cX0_store.data.toList.drop 78 = dktX0_store_4 := dk_seg dksX0_store_3 24 rfl rfl
theorem dX0_store_0 : decode cX0_store 0 = .ok (.iload_n 1, 1) := dk_27 (dk_at dksX0_store_0 0 rfl rfl)
theorem dX0_store_1 : decode cX0_store 1 = .ok (.tableswitch 76 0 3 #[31, 42, 52, 64], 31) := by decide +kernel
theorem dX0_store_32 : decode cX0_store 32 = .ok (.aload_n 0, 1) := dk_42 (dk_at dksX0_store_2 0 rfl rfl)
theorem dX0_store_33 : decode cX0_store 33 = .ok (.checkcast 616, 3) := dk_192 2 104 (dk_at dksX0_store_2 1 rfl rfl)
theorem dX0_store_36 : decode cX0_store 36 = .ok (.iload_n 2, 1) := dk_28 (dk_at dksX0_store_2 4 rfl rfl)
theorem dX0_store_37 : decode cX0_store 37 = .ok (.lload_n 3, 1) := dk_33 (dk_at dksX0_store_2 5 rfl rfl)
theorem dX0_store_38 : decode cX0_store 38 = .ok (.l2i, 1) := dk_136 (dk_at dksX0_store_2 6 rfl rfl)
theorem dX0_store_39 : decode cX0_store 39 = .ok (.iastore, 1) := dk_79 (dk_at dksX0_store_2 7 rfl rfl)
theorem dX0_store_40 : decode cX0_store 40 = .ok (.goto 46, 3) := dk_167 0 46 (dk_at dksX0_store_2 8 rfl rfl)
theorem dX0_store_43 : decode cX0_store 43 = .ok (.aload_n 0, 1) := dk_42 (dk_at dksX0_store_2 11 rfl rfl)
theorem dX0_store_44 : decode cX0_store 44 = .ok (.checkcast 617, 3) := dk_192 2 105 (dk_at dksX0_store_2 12 rfl rfl)
theorem dX0_store_47 : decode cX0_store 47 = .ok (.iload_n 2, 1) := dk_28 (dk_at dksX0_store_2 15 rfl rfl)
theorem dX0_store_48 : decode cX0_store 48 = .ok (.lload_n 3, 1) := dk_33 (dk_at dksX0_store_2 16 rfl rfl)
theorem dX0_store_49 : decode cX0_store 49 = .ok (.lastore, 1) := dk_80 (dk_at dksX0_store_2 17 rfl rfl)
theorem dX0_store_50 : decode cX0_store 50 = .ok (.goto 36, 3) := dk_167 0 36 (dk_at dksX0_store_2 18 rfl rfl)
theorem dX0_store_53 : decode cX0_store 53 = .ok (.aload_n 0, 1) := dk_42 (dk_at dksX0_store_2 21 rfl rfl)
theorem dX0_store_54 : decode cX0_store 54 = .ok (.checkcast 619, 3) := dk_192 2 107 (dk_at dksX0_store_3 0 rfl rfl)
theorem dX0_store_57 : decode cX0_store 57 = .ok (.iload_n 2, 1) := dk_28 (dk_at dksX0_store_3 3 rfl rfl)
theorem dX0_store_58 : decode cX0_store 58 = .ok (.lload_n 3, 1) := dk_33 (dk_at dksX0_store_3 4 rfl rfl)
theorem dX0_store_59 : decode cX0_store 59 = .ok (.l2i, 1) := dk_136 (dk_at dksX0_store_3 5 rfl rfl)
theorem dX0_store_60 : decode cX0_store 60 = .ok (.i2s, 1) := dk_147 (dk_at dksX0_store_3 6 rfl rfl)
theorem dX0_store_61 : decode cX0_store 61 = .ok (.sastore, 1) := dk_86 (dk_at dksX0_store_3 7 rfl rfl)
theorem dX0_store_62 : decode cX0_store 62 = .ok (.goto 24, 3) := dk_167 0 24 (dk_at dksX0_store_3 8 rfl rfl)
theorem dX0_store_65 : decode cX0_store 65 = .ok (.aload_n 0, 1) := dk_42 (dk_at dksX0_store_3 11 rfl rfl)
theorem dX0_store_66 : decode cX0_store 66 = .ok (.checkcast 621, 3) := dk_192 2 109 (dk_at dksX0_store_3 12 rfl rfl)
theorem dX0_store_69 : decode cX0_store 69 = .ok (.iload_n 2, 1) := dk_28 (dk_at dksX0_store_3 15 rfl rfl)
theorem dX0_store_70 : decode cX0_store 70 = .ok (.lload_n 3, 1) := dk_33 (dk_at dksX0_store_3 16 rfl rfl)
theorem dX0_store_71 : decode cX0_store 71 = .ok (.l2i, 1) := dk_136 (dk_at dksX0_store_3 17 rfl rfl)
theorem dX0_store_72 : decode cX0_store 72 = .ok (.i2b, 1) := dk_145 (dk_at dksX0_store_3 18 rfl rfl)
theorem dX0_store_73 : decode cX0_store 73 = .ok (.bastore, 1) := dk_84 (dk_at dksX0_store_3 19 rfl rfl)
theorem dX0_store_74 : decode cX0_store 74 = .ok (.goto 12, 3) := dk_167 0 12 (dk_at dksX0_store_3 20 rfl rfl)
theorem dX0_store_77 : decode cX0_store 77 = .ok (.aload_n 0, 1) := dk_42 (dk_at dksX0_store_3 23 rfl rfl)
theorem dX0_store_78 : decode cX0_store 78 = .ok (.checkcast 622, 3) := dk_192 2 110 (dk_at dksX0_store_4 0 rfl rfl)
theorem dX0_store_81 : decode cX0_store 81 = .ok (.iload_n 2, 1) := dk_28 (dk_at dksX0_store_4 3 rfl rfl)
theorem dX0_store_82 : decode cX0_store 82 = .ok (.lload_n 3, 1) := dk_33 (dk_at dksX0_store_4 4 rfl rfl)
theorem dX0_store_83 : decode cX0_store 83 = .ok (.l2i, 1) := dk_136 (dk_at dksX0_store_4 5 rfl rfl)
theorem dX0_store_84 : decode cX0_store 84 = .ok (.i2c, 1) := dk_146 (dk_at dksX0_store_4 6 rfl rfl)
theorem dX0_store_85 : decode cX0_store 85 = .ok (.castore, 1) := dk_85 (dk_at dksX0_store_4 7 rfl rfl)
theorem dX0_store_86 : decode cX0_store 86 = .ok (.return_, 1) := dk_177 (dk_at dksX0_store_4 8 rfl rfl)
abbrev cX0_get : ByteArray := prog_1_method_96_code
def yX0_get : MethodName := ⟨RX0, "get", "(III)J"⟩
def dkwX0_get_3 : List UInt8 := [16, 243, 181, 2, 122, 9, 173]
abbrev dktX0_get_3 : List UInt8 := dkwX0_get_3 ++ []
def dkwX0_get_2 : List UInt8 := [42, 16, 245, 181, 2, 122, 167, 0, 22, 58, 4, 42, 16, 244, 181, 2, 122, 167, 0, 11, 58, 4, 42]
abbrev dktX0_get_2 : List UInt8 := dkwX0_get_2 ++ dktX0_get_3
def dkwX0_get_1 : List UInt8 := [9, 173, 42, 3, 181, 2, 122, 42, 180, 1, 116, 27, 50, 180, 1, 151, 28, 29, 184, 2, 125, 173, 58, 4]
abbrev dktX0_get_1 : List UInt8 := dkwX0_get_1 ++ dktX0_get_2
def dkwX0_get_0 : List UInt8 := [42, 2, 181, 2, 122, 27, 184, 2, 95, 153, 0, 15, 28, 133, 9, 20, 1, 216, 184, 1, 168, 154, 0, 5]
abbrev dktX0_get_0 : List UInt8 := dkwX0_get_0 ++ dktX0_get_1
theorem dksX0_get_0 : cX0_get.data.toList.drop 0 = dktX0_get_0 := by decide +kernel
theorem dksX0_get_1 : cX0_get.data.toList.drop 24 = dktX0_get_1 := dk_seg dksX0_get_0 24 rfl rfl
theorem dksX0_get_2 : cX0_get.data.toList.drop 48 = dktX0_get_2 := dk_seg dksX0_get_1 24 rfl rfl
theorem dksX0_get_3 : cX0_get.data.toList.drop 71 = dktX0_get_3 := dk_seg dksX0_get_2 23 rfl rfl
theorem dX0_get_0 : decode cX0_get 0 = .ok (.aload_n 0, 1) := dk_42 (dk_at dksX0_get_0 0 rfl rfl)
theorem dX0_get_1 : decode cX0_get 1 = .ok (.iconst (-1), 1) := dk_2 (dk_at dksX0_get_0 1 rfl rfl)
theorem dX0_get_2 : decode cX0_get 2 = .ok (.putfield 634, 3) := dk_181 2 122 (dk_at dksX0_get_0 2 rfl rfl)
theorem dX0_get_5 : decode cX0_get 5 = .ok (.iload_n 1, 1) := dk_27 (dk_at dksX0_get_0 5 rfl rfl)
theorem dX0_get_6 : decode cX0_get 6 = .ok (.invokestatic 607, 3) := dk_184 2 95 (dk_at dksX0_get_0 6 rfl rfl)
theorem dX0_get_9 : decode cX0_get 9 = .ok (.ifCond .eq 15, 3) := dk_153 0 15 (dk_at dksX0_get_0 9 rfl rfl)
theorem dX0_get_12 : decode cX0_get 12 = .ok (.iload_n 2, 1) := dk_28 (dk_at dksX0_get_0 12 rfl rfl)
theorem dX0_get_13 : decode cX0_get 13 = .ok (.i2l, 1) := dk_133 (dk_at dksX0_get_0 13 rfl rfl)
theorem dX0_get_14 : decode cX0_get 14 = .ok (.lconst 0, 1) := dk_9 (dk_at dksX0_get_0 14 rfl rfl)
theorem dX0_get_15 : decode cX0_get 15 = .ok (.ldc2_w 472, 3) := dk_20 1 216 (dk_at dksX0_get_0 15 rfl rfl)
theorem dX0_get_18 : decode cX0_get 18 = .ok (.invokestatic 424, 3) := dk_184 1 168 (dk_at dksX0_get_0 18 rfl rfl)
theorem dX0_get_21 : decode cX0_get 21 = .ok (.ifCond .ne 5, 3) := dk_154 0 5 (dk_at dksX0_get_0 21 rfl rfl)
theorem dX0_get_24 : decode cX0_get 24 = .ok (.lconst 0, 1) := dk_9 (dk_at dksX0_get_1 0 rfl rfl)
theorem dX0_get_25 : decode cX0_get 25 = .ok (.lreturn, 1) := dk_173 (dk_at dksX0_get_1 1 rfl rfl)
theorem dX0_get_26 : decode cX0_get 26 = .ok (.aload_n 0, 1) := dk_42 (dk_at dksX0_get_1 2 rfl rfl)
theorem dX0_get_27 : decode cX0_get 27 = .ok (.iconst 0, 1) := dk_3 (dk_at dksX0_get_1 3 rfl rfl)
theorem dX0_get_28 : decode cX0_get 28 = .ok (.putfield 634, 3) := dk_181 2 122 (dk_at dksX0_get_1 4 rfl rfl)
theorem dX0_get_31 : decode cX0_get 31 = .ok (.aload_n 0, 1) := dk_42 (dk_at dksX0_get_1 7 rfl rfl)
theorem dX0_get_32 : decode cX0_get 32 = .ok (.getfield 372, 3) := dk_180 1 116 (dk_at dksX0_get_1 8 rfl rfl)
theorem dX0_get_35 : decode cX0_get 35 = .ok (.iload_n 1, 1) := dk_27 (dk_at dksX0_get_1 11 rfl rfl)
theorem dX0_get_36 : decode cX0_get 36 = .ok (.aaload, 1) := dk_50 (dk_at dksX0_get_1 12 rfl rfl)
theorem dX0_get_37 : decode cX0_get 37 = .ok (.getfield 407, 3) := dk_180 1 151 (dk_at dksX0_get_1 13 rfl rfl)
theorem dX0_get_40 : decode cX0_get 40 = .ok (.iload_n 2, 1) := dk_28 (dk_at dksX0_get_1 16 rfl rfl)
theorem dX0_get_41 : decode cX0_get 41 = .ok (.iload_n 3, 1) := dk_29 (dk_at dksX0_get_1 17 rfl rfl)
theorem dX0_get_42 : decode cX0_get 42 = .ok (.invokestatic 637, 3) := dk_184 2 125 (dk_at dksX0_get_1 18 rfl rfl)
theorem dX0_get_45 : decode cX0_get 45 = .ok (.lreturn, 1) := dk_173 (dk_at dksX0_get_1 21 rfl rfl)
theorem dX0_get_46 : decode cX0_get 46 = .ok (.astore 4, 2) := dk_58 4 (dk_at dksX0_get_1 22 rfl rfl)
theorem dX0_get_48 : decode cX0_get 48 = .ok (.aload_n 0, 1) := dk_42 (dk_at dksX0_get_2 0 rfl rfl)
theorem dX0_get_49 : decode cX0_get 49 = .ok (.bipush (-11), 2) := dk_16 245 (dk_at dksX0_get_2 1 rfl rfl)
theorem dX0_get_51 : decode cX0_get 51 = .ok (.putfield 634, 3) := dk_181 2 122 (dk_at dksX0_get_2 3 rfl rfl)
theorem dX0_get_54 : decode cX0_get 54 = .ok (.goto 22, 3) := dk_167 0 22 (dk_at dksX0_get_2 6 rfl rfl)
theorem dX0_get_57 : decode cX0_get 57 = .ok (.astore 4, 2) := dk_58 4 (dk_at dksX0_get_2 9 rfl rfl)
theorem dX0_get_59 : decode cX0_get 59 = .ok (.aload_n 0, 1) := dk_42 (dk_at dksX0_get_2 11 rfl rfl)
theorem dX0_get_60 : decode cX0_get 60 = .ok (.bipush (-12), 2) := dk_16 244 (dk_at dksX0_get_2 12 rfl rfl)
theorem dX0_get_62 : decode cX0_get 62 = .ok (.putfield 634, 3) := dk_181 2 122 (dk_at dksX0_get_2 14 rfl rfl)
theorem dX0_get_65 : decode cX0_get 65 = .ok (.goto 11, 3) := dk_167 0 11 (dk_at dksX0_get_2 17 rfl rfl)
theorem dX0_get_68 : decode cX0_get 68 = .ok (.astore 4, 2) := dk_58 4 (dk_at dksX0_get_2 20 rfl rfl)
theorem dX0_get_70 : decode cX0_get 70 = .ok (.aload_n 0, 1) := dk_42 (dk_at dksX0_get_2 22 rfl rfl)
theorem dX0_get_71 : decode cX0_get 71 = .ok (.bipush (-13), 2) := dk_16 243 (dk_at dksX0_get_3 0 rfl rfl)
theorem dX0_get_73 : decode cX0_get 73 = .ok (.putfield 634, 3) := dk_181 2 122 (dk_at dksX0_get_3 2 rfl rfl)
theorem dX0_get_76 : decode cX0_get 76 = .ok (.lconst 0, 1) := dk_9 (dk_at dksX0_get_3 5 rfl rfl)
theorem dX0_get_77 : decode cX0_get 77 = .ok (.lreturn, 1) := dk_173 (dk_at dksX0_get_3 6 rfl rfl)
abbrev cX0_taken : ByteArray := prog_1_method_93_code
def yX0_taken : MethodName := ⟨RX0, "taken", "(Ljava/lang/Object;II)J"⟩
def dkwX0_taken_3 : List UInt8 := [192, 2, 109, 28, 51, 133, 173, 42, 192, 2, 110, 28, 52, 133, 173]
abbrev dktX0_taken_3 : List UInt8 := dkwX0_taken_3 ++ []
def dkwX0_taken_2 : List UInt8 := [42, 192, 2, 104, 28, 46, 133, 173, 42, 192, 2, 105, 28, 47, 173, 42, 192, 2, 107, 28, 53, 133, 173, 42]
abbrev dktX0_taken_2 : List UInt8 := dkwX0_taken_2 ++ dktX0_taken_3
def dkwX0_taken_1 : List UInt8 := [170, 0, 0, 0, 0, 0, 62, 0, 0, 0, 0, 0, 0, 0, 3, 0, 0, 0, 31, 0, 0, 0, 39, 0, 0, 0, 46, 0, 0, 0, 54]
abbrev dktX0_taken_1 : List UInt8 := dkwX0_taken_1 ++ dktX0_taken_2
def dkwX0_taken_0 : List UInt8 := [27]
abbrev dktX0_taken_0 : List UInt8 := dkwX0_taken_0 ++ dktX0_taken_1
theorem dksX0_taken_0 : cX0_taken.data.toList.drop 0 = dktX0_taken_0 := by decide +kernel
theorem dksX0_taken_1 : cX0_taken.data.toList.drop 1 = dktX0_taken_1 := dk_seg dksX0_taken_0 1 rfl rfl
theorem dksX0_taken_2 : cX0_taken.data.toList.drop 32 = dktX0_taken_2 := dk_seg dksX0_taken_1 31 rfl rfl
theorem dksX0_taken_3 : cX0_taken.data.toList.drop 56 = dktX0_taken_3 := dk_seg dksX0_taken_2 24 rfl rfl
theorem dX0_taken_0 : decode cX0_taken 0 = .ok (.iload_n 1, 1) := dk_27 (dk_at dksX0_taken_0 0 rfl rfl)
theorem dX0_taken_1 : decode cX0_taken 1 = .ok (.tableswitch 62 0 3 #[31, 39, 46, 54], 31) := by decide +kernel
theorem dX0_taken_32 : decode cX0_taken 32 = .ok (.aload_n 0, 1) := dk_42 (dk_at dksX0_taken_2 0 rfl rfl)
theorem dX0_taken_33 : decode cX0_taken 33 = .ok (.checkcast 616, 3) := dk_192 2 104 (dk_at dksX0_taken_2 1 rfl rfl)
theorem dX0_taken_36 : decode cX0_taken 36 = .ok (.iload_n 2, 1) := dk_28 (dk_at dksX0_taken_2 4 rfl rfl)
theorem dX0_taken_37 : decode cX0_taken 37 = .ok (.iaload, 1) := dk_46 (dk_at dksX0_taken_2 5 rfl rfl)
theorem dX0_taken_38 : decode cX0_taken 38 = .ok (.i2l, 1) := dk_133 (dk_at dksX0_taken_2 6 rfl rfl)
theorem dX0_taken_39 : decode cX0_taken 39 = .ok (.lreturn, 1) := dk_173 (dk_at dksX0_taken_2 7 rfl rfl)
theorem dX0_taken_40 : decode cX0_taken 40 = .ok (.aload_n 0, 1) := dk_42 (dk_at dksX0_taken_2 8 rfl rfl)
theorem dX0_taken_41 : decode cX0_taken 41 = .ok (.checkcast 617, 3) := dk_192 2 105 (dk_at dksX0_taken_2 9 rfl rfl)
theorem dX0_taken_44 : decode cX0_taken 44 = .ok (.iload_n 2, 1) := dk_28 (dk_at dksX0_taken_2 12 rfl rfl)
theorem dX0_taken_45 : decode cX0_taken 45 = .ok (.laload, 1) := dk_47 (dk_at dksX0_taken_2 13 rfl rfl)
theorem dX0_taken_46 : decode cX0_taken 46 = .ok (.lreturn, 1) := dk_173 (dk_at dksX0_taken_2 14 rfl rfl)
theorem dX0_taken_47 : decode cX0_taken 47 = .ok (.aload_n 0, 1) := dk_42 (dk_at dksX0_taken_2 15 rfl rfl)
theorem dX0_taken_48 : decode cX0_taken 48 = .ok (.checkcast 619, 3) := dk_192 2 107 (dk_at dksX0_taken_2 16 rfl rfl)
theorem dX0_taken_51 : decode cX0_taken 51 = .ok (.iload_n 2, 1) := dk_28 (dk_at dksX0_taken_2 19 rfl rfl)
theorem dX0_taken_52 : decode cX0_taken 52 = .ok (.saload, 1) := dk_53 (dk_at dksX0_taken_2 20 rfl rfl)
theorem dX0_taken_53 : decode cX0_taken 53 = .ok (.i2l, 1) := dk_133 (dk_at dksX0_taken_2 21 rfl rfl)
theorem dX0_taken_54 : decode cX0_taken 54 = .ok (.lreturn, 1) := dk_173 (dk_at dksX0_taken_2 22 rfl rfl)
theorem dX0_taken_55 : decode cX0_taken 55 = .ok (.aload_n 0, 1) := dk_42 (dk_at dksX0_taken_2 23 rfl rfl)
theorem dX0_taken_56 : decode cX0_taken 56 = .ok (.checkcast 621, 3) := dk_192 2 109 (dk_at dksX0_taken_3 0 rfl rfl)
theorem dX0_taken_59 : decode cX0_taken 59 = .ok (.iload_n 2, 1) := dk_28 (dk_at dksX0_taken_3 3 rfl rfl)
theorem dX0_taken_60 : decode cX0_taken 60 = .ok (.baload, 1) := dk_51 (dk_at dksX0_taken_3 4 rfl rfl)
theorem dX0_taken_61 : decode cX0_taken 61 = .ok (.i2l, 1) := dk_133 (dk_at dksX0_taken_3 5 rfl rfl)
theorem dX0_taken_62 : decode cX0_taken 62 = .ok (.lreturn, 1) := dk_173 (dk_at dksX0_taken_3 6 rfl rfl)
theorem dX0_taken_63 : decode cX0_taken 63 = .ok (.aload_n 0, 1) := dk_42 (dk_at dksX0_taken_3 7 rfl rfl)
theorem dX0_taken_64 : decode cX0_taken 64 = .ok (.checkcast 622, 3) := dk_192 2 110 (dk_at dksX0_taken_3 8 rfl rfl)
theorem dX0_taken_67 : decode cX0_taken 67 = .ok (.iload_n 2, 1) := dk_28 (dk_at dksX0_taken_3 11 rfl rfl)
theorem dX0_taken_68 : decode cX0_taken 68 = .ok (.caload, 1) := dk_52 (dk_at dksX0_taken_3 12 rfl rfl)
theorem dX0_taken_69 : decode cX0_taken 69 = .ok (.i2l, 1) := dk_133 (dk_at dksX0_taken_3 13 rfl rfl)
theorem dX0_taken_70 : decode cX0_taken 70 = .ok (.lreturn, 1) := dk_173 (dk_at dksX0_taken_3 14 rfl rfl)
abbrev cX0_failed : ByteArray := prog_1_method_97_code
def yX0_failed : MethodName := ⟨RX0, "failed", "()I"⟩
theorem dX0_failed_0 : decode cX0_failed 0 = .ok (.aload_n 0, 1) := by decide +kernel
theorem dX0_failed_1 : decode cX0_failed 1 = .ok (.getfield 634, 3) := by decide +kernel
theorem dX0_failed_4 : decode cX0_failed 4 = .ok (.ireturn, 1) := by decide +kernel
abbrev cX0_copy : ByteArray := prog_1_method_98_code
def yX0_copy : MethodName := ⟨RX0, "copy", "(IIIII)I"⟩
def dkwX0_copy_3 : List UInt8 := [28, 25, 7, 180, 1, 151, 21, 4, 21, 5, 184, 1, 255, 167, 0, 8, 58, 8, 16, 243, 172, 21, 5, 172]
abbrev dktX0_copy_3 : List UInt8 := dkwX0_copy_3 ++ []
def dkwX0_copy_2 : List UInt8 := [16, 245, 172, 25, 6, 182, 2, 29, 25, 7, 182, 2, 29, 159, 0, 6, 16, 242, 172, 25, 6, 180, 1, 151]
abbrev dktX0_copy_2 : List UInt8 := dkwX0_copy_2 ++ dktX0_copy_3
def dkwX0_copy_1 : List UInt8 := [42, 180, 1, 116, 29, 50, 58, 7, 25, 6, 180, 1, 151, 198, 0, 11, 25, 7, 180, 1, 151, 199, 0, 6]
abbrev dktX0_copy_1 : List UInt8 := dkwX0_copy_1 ++ dktX0_copy_2
def dkwX0_copy_0 : List UInt8 := [27, 184, 2, 95, 153, 0, 10, 29, 184, 2, 95, 154, 0, 5, 2, 172, 42, 180, 1, 116, 27, 50, 58, 6]
abbrev dktX0_copy_0 : List UInt8 := dkwX0_copy_0 ++ dktX0_copy_1
theorem dksX0_copy_0 : cX0_copy.data.toList.drop 0 = dktX0_copy_0 := by decide +kernel
theorem dksX0_copy_1 : cX0_copy.data.toList.drop 24 = dktX0_copy_1 := dk_seg dksX0_copy_0 24 rfl rfl
theorem dksX0_copy_2 : cX0_copy.data.toList.drop 48 = dktX0_copy_2 := dk_seg dksX0_copy_1 24 rfl rfl
theorem dksX0_copy_3 : cX0_copy.data.toList.drop 72 = dktX0_copy_3 := dk_seg dksX0_copy_2 24 rfl rfl
theorem dX0_copy_0 : decode cX0_copy 0 = .ok (.iload_n 1, 1) := dk_27 (dk_at dksX0_copy_0 0 rfl rfl)
theorem dX0_copy_1 : decode cX0_copy 1 = .ok (.invokestatic 607, 3) := dk_184 2 95 (dk_at dksX0_copy_0 1 rfl rfl)
theorem dX0_copy_4 : decode cX0_copy 4 = .ok (.ifCond .eq 10, 3) := dk_153 0 10 (dk_at dksX0_copy_0 4 rfl rfl)
theorem dX0_copy_7 : decode cX0_copy 7 = .ok (.iload_n 3, 1) := dk_29 (dk_at dksX0_copy_0 7 rfl rfl)
theorem dX0_copy_8 : decode cX0_copy 8 = .ok (.invokestatic 607, 3) := dk_184 2 95 (dk_at dksX0_copy_0 8 rfl rfl)
theorem dX0_copy_11 : decode cX0_copy 11 = .ok (.ifCond .ne 5, 3) := dk_154 0 5 (dk_at dksX0_copy_0 11 rfl rfl)
theorem dX0_copy_14 : decode cX0_copy 14 = .ok (.iconst (-1), 1) := dk_2 (dk_at dksX0_copy_0 14 rfl rfl)
theorem dX0_copy_15 : decode cX0_copy 15 = .ok (.ireturn, 1) := dk_172 (dk_at dksX0_copy_0 15 rfl rfl)
theorem dX0_copy_16 : decode cX0_copy 16 = .ok (.aload_n 0, 1) := dk_42 (dk_at dksX0_copy_0 16 rfl rfl)
theorem dX0_copy_17 : decode cX0_copy 17 = .ok (.getfield 372, 3) := dk_180 1 116 (dk_at dksX0_copy_0 17 rfl rfl)
theorem dX0_copy_20 : decode cX0_copy 20 = .ok (.iload_n 1, 1) := dk_27 (dk_at dksX0_copy_0 20 rfl rfl)
theorem dX0_copy_21 : decode cX0_copy 21 = .ok (.aaload, 1) := dk_50 (dk_at dksX0_copy_0 21 rfl rfl)
theorem dX0_copy_22 : decode cX0_copy 22 = .ok (.astore 6, 2) := dk_58 6 (dk_at dksX0_copy_0 22 rfl rfl)
theorem dX0_copy_24 : decode cX0_copy 24 = .ok (.aload_n 0, 1) := dk_42 (dk_at dksX0_copy_1 0 rfl rfl)
theorem dX0_copy_25 : decode cX0_copy 25 = .ok (.getfield 372, 3) := dk_180 1 116 (dk_at dksX0_copy_1 1 rfl rfl)
theorem dX0_copy_28 : decode cX0_copy 28 = .ok (.iload_n 3, 1) := dk_29 (dk_at dksX0_copy_1 4 rfl rfl)
theorem dX0_copy_29 : decode cX0_copy 29 = .ok (.aaload, 1) := dk_50 (dk_at dksX0_copy_1 5 rfl rfl)
theorem dX0_copy_30 : decode cX0_copy 30 = .ok (.astore 7, 2) := dk_58 7 (dk_at dksX0_copy_1 6 rfl rfl)
theorem dX0_copy_32 : decode cX0_copy 32 = .ok (.aload 6, 2) := dk_25 6 (dk_at dksX0_copy_1 8 rfl rfl)
theorem dX0_copy_34 : decode cX0_copy 34 = .ok (.getfield 407, 3) := dk_180 1 151 (dk_at dksX0_copy_1 10 rfl rfl)
theorem dX0_copy_37 : decode cX0_copy 37 = .ok (.ifnull 11, 3) := dk_198 0 11 (dk_at dksX0_copy_1 13 rfl rfl)
theorem dX0_copy_40 : decode cX0_copy 40 = .ok (.aload 7, 2) := dk_25 7 (dk_at dksX0_copy_1 16 rfl rfl)
theorem dX0_copy_42 : decode cX0_copy 42 = .ok (.getfield 407, 3) := dk_180 1 151 (dk_at dksX0_copy_1 18 rfl rfl)
theorem dX0_copy_45 : decode cX0_copy 45 = .ok (.ifnonnull 6, 3) := dk_199 0 6 (dk_at dksX0_copy_1 21 rfl rfl)
theorem dX0_copy_48 : decode cX0_copy 48 = .ok (.bipush (-11), 2) := dk_16 245 (dk_at dksX0_copy_2 0 rfl rfl)
theorem dX0_copy_50 : decode cX0_copy 50 = .ok (.ireturn, 1) := dk_172 (dk_at dksX0_copy_2 2 rfl rfl)
theorem dX0_copy_51 : decode cX0_copy 51 = .ok (.aload 6, 2) := dk_25 6 (dk_at dksX0_copy_2 3 rfl rfl)
theorem dX0_copy_53 : decode cX0_copy 53 = .ok (.invokevirtual 541, 3) := dk_182 2 29 (dk_at dksX0_copy_2 5 rfl rfl)
theorem dX0_copy_56 : decode cX0_copy 56 = .ok (.aload 7, 2) := dk_25 7 (dk_at dksX0_copy_2 8 rfl rfl)
theorem dX0_copy_58 : decode cX0_copy 58 = .ok (.invokevirtual 541, 3) := dk_182 2 29 (dk_at dksX0_copy_2 10 rfl rfl)
theorem dX0_copy_61 : decode cX0_copy 61 = .ok (.if_icmp .eq 6, 3) := dk_159 0 6 (dk_at dksX0_copy_2 13 rfl rfl)
theorem dX0_copy_64 : decode cX0_copy 64 = .ok (.bipush (-14), 2) := dk_16 242 (dk_at dksX0_copy_2 16 rfl rfl)
theorem dX0_copy_66 : decode cX0_copy 66 = .ok (.ireturn, 1) := dk_172 (dk_at dksX0_copy_2 18 rfl rfl)
theorem dX0_copy_67 : decode cX0_copy 67 = .ok (.aload 6, 2) := dk_25 6 (dk_at dksX0_copy_2 19 rfl rfl)
theorem dX0_copy_69 : decode cX0_copy 69 = .ok (.getfield 407, 3) := dk_180 1 151 (dk_at dksX0_copy_2 21 rfl rfl)
theorem dX0_copy_72 : decode cX0_copy 72 = .ok (.iload_n 2, 1) := dk_28 (dk_at dksX0_copy_3 0 rfl rfl)
theorem dX0_copy_73 : decode cX0_copy 73 = .ok (.aload 7, 2) := dk_25 7 (dk_at dksX0_copy_3 1 rfl rfl)
theorem dX0_copy_75 : decode cX0_copy 75 = .ok (.getfield 407, 3) := dk_180 1 151 (dk_at dksX0_copy_3 3 rfl rfl)
theorem dX0_copy_78 : decode cX0_copy 78 = .ok (.iload 4, 2) := dk_21 4 (dk_at dksX0_copy_3 6 rfl rfl)
theorem dX0_copy_80 : decode cX0_copy 80 = .ok (.iload 5, 2) := dk_21 5 (dk_at dksX0_copy_3 8 rfl rfl)
theorem dX0_copy_82 : decode cX0_copy 82 = .ok (.invokestatic 511, 3) := dk_184 1 255 (dk_at dksX0_copy_3 10 rfl rfl)
theorem dX0_copy_85 : decode cX0_copy 85 = .ok (.goto 8, 3) := dk_167 0 8 (dk_at dksX0_copy_3 13 rfl rfl)
theorem dX0_copy_88 : decode cX0_copy 88 = .ok (.astore 8, 2) := dk_58 8 (dk_at dksX0_copy_3 16 rfl rfl)
theorem dX0_copy_90 : decode cX0_copy 90 = .ok (.bipush (-13), 2) := dk_16 243 (dk_at dksX0_copy_3 18 rfl rfl)
theorem dX0_copy_92 : decode cX0_copy 92 = .ok (.ireturn, 1) := dk_172 (dk_at dksX0_copy_3 20 rfl rfl)
theorem dX0_copy_93 : decode cX0_copy 93 = .ok (.iload 5, 2) := dk_21 5 (dk_at dksX0_copy_3 21 rfl rfl)
theorem dX0_copy_95 : decode cX0_copy 95 = .ok (.ireturn, 1) := dk_172 (dk_at dksX0_copy_3 23 rfl rfl)
abbrev cX0_alike : ByteArray := prog_1_method_99_code
def yX0_alike : MethodName := ⟨RX0, "alike", "(II)I"⟩
def dkwX0_alike_1 : List UInt8 := [180, 1, 151, 42, 180, 1, 116, 28, 50, 180, 1, 151, 166, 0, 7, 4, 167, 0, 4, 3, 172]
abbrev dktX0_alike_1 : List UInt8 := dkwX0_alike_1 ++ []
def dkwX0_alike_0 : List UInt8 := [27, 184, 2, 95, 153, 0, 10, 28, 184, 2, 95, 154, 0, 7, 2, 167, 0, 29, 42, 180, 1, 116, 27, 50]
abbrev dktX0_alike_0 : List UInt8 := dkwX0_alike_0 ++ dktX0_alike_1
theorem dksX0_alike_0 : cX0_alike.data.toList.drop 0 = dktX0_alike_0 := by decide +kernel
theorem dksX0_alike_1 : cX0_alike.data.toList.drop 24 = dktX0_alike_1 := dk_seg dksX0_alike_0 24 rfl rfl
theorem dX0_alike_0 : decode cX0_alike 0 = .ok (.iload_n 1, 1) := dk_27 (dk_at dksX0_alike_0 0 rfl rfl)
theorem dX0_alike_1 : decode cX0_alike 1 = .ok (.invokestatic 607, 3) := dk_184 2 95 (dk_at dksX0_alike_0 1 rfl rfl)
theorem dX0_alike_4 : decode cX0_alike 4 = .ok (.ifCond .eq 10, 3) := dk_153 0 10 (dk_at dksX0_alike_0 4 rfl rfl)
theorem dX0_alike_7 : decode cX0_alike 7 = .ok (.iload_n 2, 1) := dk_28 (dk_at dksX0_alike_0 7 rfl rfl)
theorem dX0_alike_8 : decode cX0_alike 8 = .ok (.invokestatic 607, 3) := dk_184 2 95 (dk_at dksX0_alike_0 8 rfl rfl)
theorem dX0_alike_11 : decode cX0_alike 11 = .ok (.ifCond .ne 7, 3) := dk_154 0 7 (dk_at dksX0_alike_0 11 rfl rfl)
theorem dX0_alike_14 : decode cX0_alike 14 = .ok (.iconst (-1), 1) := dk_2 (dk_at dksX0_alike_0 14 rfl rfl)
theorem dX0_alike_15 : decode cX0_alike 15 = .ok (.goto 29, 3) := dk_167 0 29 (dk_at dksX0_alike_0 15 rfl rfl)
theorem dX0_alike_18 : decode cX0_alike 18 = .ok (.aload_n 0, 1) := dk_42 (dk_at dksX0_alike_0 18 rfl rfl)
theorem dX0_alike_19 : decode cX0_alike 19 = .ok (.getfield 372, 3) := dk_180 1 116 (dk_at dksX0_alike_0 19 rfl rfl)
theorem dX0_alike_22 : decode cX0_alike 22 = .ok (.iload_n 1, 1) := dk_27 (dk_at dksX0_alike_0 22 rfl rfl)
theorem dX0_alike_23 : decode cX0_alike 23 = .ok (.aaload, 1) := dk_50 (dk_at dksX0_alike_0 23 rfl rfl)
theorem dX0_alike_24 : decode cX0_alike 24 = .ok (.getfield 407, 3) := dk_180 1 151 (dk_at dksX0_alike_1 0 rfl rfl)
theorem dX0_alike_27 : decode cX0_alike 27 = .ok (.aload_n 0, 1) := dk_42 (dk_at dksX0_alike_1 3 rfl rfl)
theorem dX0_alike_28 : decode cX0_alike 28 = .ok (.getfield 372, 3) := dk_180 1 116 (dk_at dksX0_alike_1 4 rfl rfl)
theorem dX0_alike_31 : decode cX0_alike 31 = .ok (.iload_n 2, 1) := dk_28 (dk_at dksX0_alike_1 7 rfl rfl)
theorem dX0_alike_32 : decode cX0_alike 32 = .ok (.aaload, 1) := dk_50 (dk_at dksX0_alike_1 8 rfl rfl)
theorem dX0_alike_33 : decode cX0_alike 33 = .ok (.getfield 407, 3) := dk_180 1 151 (dk_at dksX0_alike_1 9 rfl rfl)
theorem dX0_alike_36 : decode cX0_alike 36 = .ok (.if_acmp .ne 7, 3) := dk_166 0 7 (dk_at dksX0_alike_1 12 rfl rfl)
theorem dX0_alike_39 : decode cX0_alike 39 = .ok (.iconst 1, 1) := dk_4 (dk_at dksX0_alike_1 15 rfl rfl)
theorem dX0_alike_40 : decode cX0_alike 40 = .ok (.goto 4, 3) := dk_167 0 4 (dk_at dksX0_alike_1 16 rfl rfl)
theorem dX0_alike_43 : decode cX0_alike 43 = .ok (.iconst 0, 1) := dk_3 (dk_at dksX0_alike_1 19 rfl rfl)
theorem dX0_alike_44 : decode cX0_alike 44 = .ok (.ireturn, 1) := dk_172 (dk_at dksX0_alike_1 20 rfl rfl)
theorem q145 : (Jvm.Cond.initialized "ThereAndBack") ∈ lw_all := lw_g (lw_at lw_m1 1 rfl) rfl
theorem q204 : (Jvm.Cond.instantiable "ThereAndBack" (40 : Nat)) ∈ lw_all := lw_g (lw_at lw_m1 60 rfl) rfl
theorem q206 : (Jvm.Cond.instanceMethod ({ cls := "ThereAndBack", name := "<init>", desc := "()V" } : Jvm.MethodName)) ∈ lw_all := lw_g (lw_at lw_m1 62 rfl) rfl
theorem q207 : (Jvm.Cond.code ({ cls := "ThereAndBack", name := "<init>", desc := "()V" } : Jvm.MethodName) prog_1_method_37_code (2 : Nat) (Option.none : Option Jvm.ClassFile.FieldType)) ∈ lw_all := lw_g (lw_at lw_m1 63 rfl) rfl
theorem q208 : (Jvm.Cond.methodLink "ThereAndBack" (334 : Nat) ({ cls := "java/lang/Object", name := "<init>", desc := "()V" } : Jvm.MethodName)) ∈ lw_all := lw_g (lw_at lw_m1 64 rfl) rfl
theorem q211 : (Jvm.Cond.classLink "ThereAndBack" (337 : Nat) "ThereAndBack$Wrong") ∈ lw_all := lw_g (lw_at lw_m1 67 rfl) rfl
theorem q266 : (Jvm.Cond.methodLink "ThereAndBack" (339 : Nat) ({ cls := "ThereAndBack$Wrong", name := "<init>", desc := "()V" } : Jvm.MethodName)) ∈ lw_all := lw_g (lw_at lw_m1 122 rfl) rfl
theorem q289 : (Jvm.Cond.classLink "ThereAndBack" (340 : Nat) "ThereAndBack$Refused") ∈ lw_all := lw_g (lw_at lw_m1 145 rfl) rfl
theorem q291 : (Jvm.Cond.classLink "ThereAndBack" (346 : Nat) "ThereAndBack$Routine") ∈ lw_all := lw_g (lw_at lw_m1 147 rfl) rfl
theorem q293 : (Jvm.Cond.classLink "ThereAndBack" (360 : Nat) "ThereAndBack$Holder") ∈ lw_all := lw_g (lw_at lw_m1 149 rfl) rfl
theorem q303 : (Jvm.Cond.methodLink "ThereAndBack" (399 : Nat) ({ cls := "ThereAndBack$Refused", name := "<init>", desc := "(I)V" } : Jvm.MethodName)) ∈ lw_all := lw_g (lw_at lw_m1 159 rfl) rfl
theorem q308 : (Jvm.Cond.fieldLinkNest "ThereAndBack" (529 : Nat) "ThereAndBack$Refused" "why" "I" "ThereAndBack") ∈ lw_tbl := lw_at lw_m1 164 rfl
theorem q316 : (Jvm.Cond.methodLinkNest "ThereAndBack" (400 : Nat) ({ cls := "ThereAndBack$Holder", name := "<init>", desc := "()V" } : Jvm.MethodName) "ThereAndBack") ∈ lw_tbl := lw_at lw_m1 172 rfl
theorem q323 : (Jvm.Cond.fieldLinkNest "ThereAndBack" (407 : Nat) "ThereAndBack$Holder" "row" "Ljava/lang/Object;" "ThereAndBack") ∈ lw_tbl := lw_at lw_m1 179 rfl
theorem q327 : (Jvm.Cond.fieldLink "ThereAndBack" (24 : Nat) "ThereAndBack" "tape" "[B") ∈ lw_all := lw_g (lw_at lw_m1 183 rfl) rfl
theorem q328 : (Jvm.Cond.fieldLink "ThereAndBack" (21 : Nat) "ThereAndBack" "taped" "I") ∈ lw_all := lw_g (lw_at lw_m1 184 rfl) rfl
theorem q329 : (Jvm.Cond.fieldLink "ThereAndBack" (28 : Nat) "ThereAndBack" "at" "I") ∈ lw_all := lw_g (lw_at lw_m1 185 rfl) rfl
theorem q330 : (Jvm.Cond.fieldLink "ThereAndBack" (14 : Nat) "ThereAndBack" "begins" "I") ∈ lw_all := lw_g (lw_at lw_m1 186 rfl) rfl
theorem q331 : (Jvm.Cond.fieldLink "ThereAndBack" (35 : Nat) "ThereAndBack" "sort" "I") ∈ lw_all := lw_g (lw_at lw_m1 187 rfl) rfl
theorem q332 : (Jvm.Cond.fieldLink "ThereAndBack" (45 : Nat) "ThereAndBack" "number" "I") ∈ lw_all := lw_g (lw_at lw_m1 188 rfl) rfl
theorem q333 : (Jvm.Cond.fieldLink "ThereAndBack" (1 : Nat) "ThereAndBack" "faulty" "I") ∈ lw_all := lw_g (lw_at lw_m1 189 rfl) rfl
theorem q334 : (Jvm.Cond.fieldLink "ThereAndBack" (7 : Nat) "ThereAndBack" "faultPlace" "I") ∈ lw_all := lw_g (lw_at lw_m1 190 rfl) rfl
theorem q335 : (Jvm.Cond.fieldLink "ThereAndBack" (10 : Nat) "ThereAndBack" "wrong" "LThereAndBack$Wrong;") ∈ lw_all := lw_g (lw_at lw_m1 191 rfl) rfl
theorem q336 : (Jvm.Cond.fieldLink "ThereAndBack" (145 : Nat) "ThereAndBack" "codes" "I") ∈ lw_all := lw_g (lw_at lw_m1 192 rfl) rfl
theorem q337 : (Jvm.Cond.fieldLink "ThereAndBack" (165 : Nat) "ThereAndBack" "ordinary" "I") ∈ lw_all := lw_g (lw_at lw_m1 193 rfl) rfl
theorem q346 : (Jvm.Cond.fieldLink "ThereAndBack" (342 : Nat) "ThereAndBack" "refusals" "[LThereAndBack$Refused;") ∈ lw_all := lw_g (lw_at lw_m1 202 rfl) rfl
theorem q348 : (Jvm.Cond.fieldLink "ThereAndBack" (348 : Nat) "ThereAndBack" "routines" "[LThereAndBack$Routine;") ∈ lw_all := lw_g (lw_at lw_m1 204 rfl) rfl
theorem q353 : (Jvm.Cond.fieldLink "ThereAndBack" (352 : Nat) "ThereAndBack" "isThere" "[Z") ∈ lw_all := lw_g (lw_at lw_m1 209 rfl) rfl
theorem q358 : (Jvm.Cond.fieldLink "ThereAndBack" (356 : Nat) "ThereAndBack" "values" "[I") ∈ lw_all := lw_g (lw_at lw_m1 214 rfl) rfl
theorem q362 : (Jvm.Cond.fieldLink "ThereAndBack" (362 : Nat) "ThereAndBack" "rows" "[LThereAndBack$Holder;") ∈ lw_all := lw_g (lw_at lw_m1 218 rfl) rfl
theorem q364 : (Jvm.Cond.fieldLink "ThereAndBack" (366 : Nat) "ThereAndBack" "piles" "[I") ∈ lw_all := lw_g (lw_at lw_m1 220 rfl) rfl
theorem q366 : (Jvm.Cond.fieldLink "ThereAndBack" (369 : Nat) "ThereAndBack" "heights" "[I") ∈ lw_all := lw_g (lw_at lw_m1 222 rfl) rfl
theorem q367 : (Jvm.Cond.fieldLink "ThereAndBack" (372 : Nat) "ThereAndBack" "bench" "[LThereAndBack$Holder;") ∈ lw_all := lw_g (lw_at lw_m1 223 rfl) rfl
theorem q369 : (Jvm.Cond.fieldLink "ThereAndBack" (375 : Nat) "ThereAndBack" "runs" "I") ∈ lw_all := lw_g (lw_at lw_m1 225 rfl) rfl
theorem q370 : (Jvm.Cond.fieldLink "ThereAndBack" (548 : Nat) "ThereAndBack" "place" "I") ∈ lw_all := lw_g (lw_at lw_m1 226 rfl) rfl
theorem q372 : (Jvm.Cond.fieldLink "ThereAndBack" (551 : Nat) "ThereAndBack" "way" "I") ∈ lw_all := lw_g (lw_at lw_m1 228 rfl) rfl
theorem q373 : (Jvm.Cond.fieldLink "ThereAndBack" (554 : Nat) "ThereAndBack" "steps" "I") ∈ lw_all := lw_g (lw_at lw_m1 229 rfl) rfl
theorem q374 : (Jvm.Cond.fieldLink "ThereAndBack" (580 : Nat) "ThereAndBack" "refused" "I") ∈ lw_all := lw_g (lw_at lw_m1 230 rfl) rfl
theorem q376 : (Jvm.Cond.fieldLink "ThereAndBack" (556 : Nat) "ThereAndBack" "frames" "I") ∈ lw_all := lw_g (lw_at lw_m1 232 rfl) rfl
theorem q378 : (Jvm.Cond.fieldLink "ThereAndBack" (378 : Nat) "ThereAndBack" "frameRoutine" "[I") ∈ lw_all := lw_g (lw_at lw_m1 234 rfl) rfl
theorem q380 : (Jvm.Cond.fieldLink "ThereAndBack" (381 : Nat) "ThereAndBack" "frameCode" "[I") ∈ lw_all := lw_g (lw_at lw_m1 236 rfl) rfl
theorem q382 : (Jvm.Cond.fieldLink "ThereAndBack" (384 : Nat) "ThereAndBack" "frameWay" "[I") ∈ lw_all := lw_g (lw_at lw_m1 238 rfl) rfl
theorem q383 : (Jvm.Cond.fieldLink "ThereAndBack" (387 : Nat) "ThereAndBack" "barredName" "I") ∈ lw_all := lw_g (lw_at lw_m1 239 rfl) rfl
theorem q384 : (Jvm.Cond.fieldLink "ThereAndBack" (410 : Nat) "ThereAndBack" "barredRow" "Ljava/lang/Object;") ∈ lw_all := lw_g (lw_at lw_m2 0 rfl) rfl
theorem q385 : (Jvm.Cond.fieldLink "ThereAndBack" (413 : Nat) "ThereAndBack" "barredItem" "I") ∈ lw_all := lw_g (lw_at lw_m2 1 rfl) rfl
theorem q386 : (Jvm.Cond.fieldLink "ThereAndBack" (436 : Nat) "ThereAndBack" "moves" "I") ∈ lw_all := lw_g (lw_at lw_m2 2 rfl) rfl
theorem q387 : (Jvm.Cond.fieldLink "ThereAndBack" (439 : Nat) "ThereAndBack" "mostMoves" "I") ∈ lw_all := lw_g (lw_at lw_m2 3 rfl) rfl
theorem q388 : (Jvm.Cond.fieldLink "ThereAndBack" (390 : Nat) "ThereAndBack" "out" "[B") ∈ lw_all := lw_g (lw_at lw_m2 4 rfl) rfl
theorem q389 : (Jvm.Cond.fieldLink "ThereAndBack" (393 : Nat) "ThereAndBack" "spare" "[B") ∈ lw_all := lw_g (lw_at lw_m2 5 rfl) rfl
theorem q390 : (Jvm.Cond.fieldLink "ThereAndBack" (484 : Nat) "ThereAndBack" "printed" "I") ∈ lw_all := lw_g (lw_at lw_m2 6 rfl) rfl
theorem q391 : (Jvm.Cond.fieldLink "ThereAndBack" (487 : Nat) "ThereAndBack" "joined" "Z") ∈ lw_all := lw_g (lw_at lw_m2 7 rfl) rfl
theorem q392 : (Jvm.Cond.fieldLink "ThereAndBack" (508 : Nat) "ThereAndBack" "outSize" "I") ∈ lw_all := lw_g (lw_at lw_m2 8 rfl) rfl
theorem q393 : (Jvm.Cond.fieldLink "ThereAndBack" (396 : Nat) "ThereAndBack" "other" "[B") ∈ lw_all := lw_g (lw_at lw_m2 9 rfl) rfl
theorem q394 : (Jvm.Cond.fieldLink "ThereAndBack" (634 : Nat) "ThereAndBack" "failed" "I") ∈ lw_all := lw_g (lw_at lw_m2 10 rfl) rfl
theorem q395 : (Jvm.Cond.laysFinal "ThereAndBack" "ThereAndBack" "tape" "[B") ∈ lw_all := lw_g (lw_at lw_m2 11 rfl) rfl
theorem q396 : (Jvm.Cond.soleField "ThereAndBack" "tape") ∈ lw_all := lw_g (lw_at lw_m2 12 rfl) rfl
theorem q397 : (Jvm.Cond.lays "ThereAndBack" "ThereAndBack" "taped" "I") ∈ lw_all := lw_g (lw_at lw_m2 13 rfl) rfl
theorem q398 : (Jvm.Cond.soleField "ThereAndBack" "taped") ∈ lw_all := lw_g (lw_at lw_m2 14 rfl) rfl
theorem q399 : (Jvm.Cond.lays "ThereAndBack" "ThereAndBack" "at" "I") ∈ lw_all := lw_g (lw_at lw_m2 15 rfl) rfl
theorem q400 : (Jvm.Cond.soleField "ThereAndBack" "at") ∈ lw_all := lw_g (lw_at lw_m2 16 rfl) rfl
theorem q401 : (Jvm.Cond.lays "ThereAndBack" "ThereAndBack" "begins" "I") ∈ lw_all := lw_g (lw_at lw_m2 17 rfl) rfl
theorem q402 : (Jvm.Cond.soleField "ThereAndBack" "begins") ∈ lw_all := lw_g (lw_at lw_m2 18 rfl) rfl
theorem q403 : (Jvm.Cond.lays "ThereAndBack" "ThereAndBack" "sort" "I") ∈ lw_all := lw_g (lw_at lw_m2 19 rfl) rfl
theorem q404 : (Jvm.Cond.soleField "ThereAndBack" "sort") ∈ lw_all := lw_g (lw_at lw_m2 20 rfl) rfl
theorem q405 : (Jvm.Cond.lays "ThereAndBack" "ThereAndBack" "number" "I") ∈ lw_all := lw_g (lw_at lw_m2 21 rfl) rfl
theorem q406 : (Jvm.Cond.soleField "ThereAndBack" "number") ∈ lw_all := lw_g (lw_at lw_m2 22 rfl) rfl
theorem q407 : (Jvm.Cond.lays "ThereAndBack" "ThereAndBack" "faulty" "I") ∈ lw_all := lw_g (lw_at lw_m2 23 rfl) rfl
theorem q408 : (Jvm.Cond.soleField "ThereAndBack" "faulty") ∈ lw_all := lw_g (lw_at lw_m2 24 rfl) rfl
theorem q409 : (Jvm.Cond.lays "ThereAndBack" "ThereAndBack" "faultPlace" "I") ∈ lw_all := lw_g (lw_at lw_m2 25 rfl) rfl
theorem q410 : (Jvm.Cond.soleField "ThereAndBack" "faultPlace") ∈ lw_all := lw_g (lw_at lw_m2 26 rfl) rfl
theorem q411 : (Jvm.Cond.laysFinal "ThereAndBack" "ThereAndBack" "wrong" "LThereAndBack$Wrong;") ∈ lw_all := lw_g (lw_at lw_m2 27 rfl) rfl
theorem q412 : (Jvm.Cond.soleField "ThereAndBack" "wrong") ∈ lw_all := lw_g (lw_at lw_m2 28 rfl) rfl
theorem q413 : (Jvm.Cond.lays "ThereAndBack" "ThereAndBack" "codes" "I") ∈ lw_all := lw_g (lw_at lw_m2 29 rfl) rfl
theorem q414 : (Jvm.Cond.soleField "ThereAndBack" "codes") ∈ lw_all := lw_g (lw_at lw_m2 30 rfl) rfl
theorem q415 : (Jvm.Cond.lays "ThereAndBack" "ThereAndBack" "ordinary" "I") ∈ lw_all := lw_g (lw_at lw_m2 31 rfl) rfl
theorem q416 : (Jvm.Cond.soleField "ThereAndBack" "ordinary") ∈ lw_all := lw_g (lw_at lw_m2 32 rfl) rfl
theorem q417 : (Jvm.Cond.laysFinal "ThereAndBack" "ThereAndBack" "refusals" "[LThereAndBack$Refused;") ∈ lw_all := lw_g (lw_at lw_m2 33 rfl) rfl
theorem q418 : (Jvm.Cond.soleField "ThereAndBack" "refusals") ∈ lw_all := lw_g (lw_at lw_m2 34 rfl) rfl
theorem q419 : (Jvm.Cond.laysFinal "ThereAndBack" "ThereAndBack" "routines" "[LThereAndBack$Routine;") ∈ lw_all := lw_g (lw_at lw_m2 35 rfl) rfl
theorem q420 : (Jvm.Cond.soleField "ThereAndBack" "routines") ∈ lw_all := lw_g (lw_at lw_m2 36 rfl) rfl
theorem q421 : (Jvm.Cond.laysFinal "ThereAndBack" "ThereAndBack" "isThere" "[Z") ∈ lw_all := lw_g (lw_at lw_m2 37 rfl) rfl
theorem q422 : (Jvm.Cond.soleField "ThereAndBack" "isThere") ∈ lw_all := lw_g (lw_at lw_m2 38 rfl) rfl
theorem q423 : (Jvm.Cond.laysFinal "ThereAndBack" "ThereAndBack" "values" "[I") ∈ lw_all := lw_g (lw_at lw_m2 39 rfl) rfl
theorem q424 : (Jvm.Cond.soleField "ThereAndBack" "values") ∈ lw_all := lw_g (lw_at lw_m2 40 rfl) rfl
theorem q425 : (Jvm.Cond.laysFinal "ThereAndBack" "ThereAndBack" "rows" "[LThereAndBack$Holder;") ∈ lw_all := lw_g (lw_at lw_m2 41 rfl) rfl
theorem q426 : (Jvm.Cond.soleField "ThereAndBack" "rows") ∈ lw_all := lw_g (lw_at lw_m2 42 rfl) rfl
theorem q427 : (Jvm.Cond.laysFinal "ThereAndBack" "ThereAndBack" "piles" "[I") ∈ lw_all := lw_g (lw_at lw_m2 43 rfl) rfl
theorem q428 : (Jvm.Cond.soleField "ThereAndBack" "piles") ∈ lw_all := lw_g (lw_at lw_m2 44 rfl) rfl
theorem q429 : (Jvm.Cond.laysFinal "ThereAndBack" "ThereAndBack" "heights" "[I") ∈ lw_all := lw_g (lw_at lw_m2 45 rfl) rfl
theorem q430 : (Jvm.Cond.soleField "ThereAndBack" "heights") ∈ lw_all := lw_g (lw_at lw_m2 46 rfl) rfl
theorem q431 : (Jvm.Cond.laysFinal "ThereAndBack" "ThereAndBack" "bench" "[LThereAndBack$Holder;") ∈ lw_all := lw_g (lw_at lw_m2 47 rfl) rfl
theorem q432 : (Jvm.Cond.soleField "ThereAndBack" "bench") ∈ lw_all := lw_g (lw_at lw_m2 48 rfl) rfl
theorem q433 : (Jvm.Cond.lays "ThereAndBack" "ThereAndBack" "runs" "I") ∈ lw_all := lw_g (lw_at lw_m2 49 rfl) rfl
theorem q434 : (Jvm.Cond.soleField "ThereAndBack" "runs") ∈ lw_all := lw_g (lw_at lw_m2 50 rfl) rfl
theorem q435 : (Jvm.Cond.lays "ThereAndBack" "ThereAndBack" "place" "I") ∈ lw_all := lw_g (lw_at lw_m2 51 rfl) rfl
theorem q436 : (Jvm.Cond.soleField "ThereAndBack" "place") ∈ lw_all := lw_g (lw_at lw_m2 52 rfl) rfl
theorem q437 : (Jvm.Cond.lays "ThereAndBack" "ThereAndBack" "way" "I") ∈ lw_all := lw_g (lw_at lw_m2 53 rfl) rfl
theorem q438 : (Jvm.Cond.soleField "ThereAndBack" "way") ∈ lw_all := lw_g (lw_at lw_m2 54 rfl) rfl
theorem q439 : (Jvm.Cond.lays "ThereAndBack" "ThereAndBack" "steps" "I") ∈ lw_all := lw_g (lw_at lw_m2 55 rfl) rfl
theorem q440 : (Jvm.Cond.soleField "ThereAndBack" "steps") ∈ lw_all := lw_g (lw_at lw_m2 56 rfl) rfl
theorem q441 : (Jvm.Cond.lays "ThereAndBack" "ThereAndBack" "refused" "I") ∈ lw_all := lw_g (lw_at lw_m2 57 rfl) rfl
theorem q442 : (Jvm.Cond.soleField "ThereAndBack" "refused") ∈ lw_all := lw_g (lw_at lw_m2 58 rfl) rfl
theorem q443 : (Jvm.Cond.lays "ThereAndBack" "ThereAndBack" "frames" "I") ∈ lw_all := lw_g (lw_at lw_m2 59 rfl) rfl
theorem q444 : (Jvm.Cond.soleField "ThereAndBack" "frames") ∈ lw_all := lw_g (lw_at lw_m2 60 rfl) rfl
theorem q445 : (Jvm.Cond.laysFinal "ThereAndBack" "ThereAndBack" "frameRoutine" "[I") ∈ lw_all := lw_g (lw_at lw_m2 61 rfl) rfl
theorem q446 : (Jvm.Cond.soleField "ThereAndBack" "frameRoutine") ∈ lw_all := lw_g (lw_at lw_m2 62 rfl) rfl
theorem q447 : (Jvm.Cond.laysFinal "ThereAndBack" "ThereAndBack" "frameCode" "[I") ∈ lw_all := lw_g (lw_at lw_m2 63 rfl) rfl
theorem q448 : (Jvm.Cond.soleField "ThereAndBack" "frameCode") ∈ lw_all := lw_g (lw_at lw_m2 64 rfl) rfl
theorem q449 : (Jvm.Cond.laysFinal "ThereAndBack" "ThereAndBack" "frameWay" "[I") ∈ lw_all := lw_g (lw_at lw_m2 65 rfl) rfl
theorem q450 : (Jvm.Cond.soleField "ThereAndBack" "frameWay") ∈ lw_all := lw_g (lw_at lw_m2 66 rfl) rfl
theorem q451 : (Jvm.Cond.lays "ThereAndBack" "ThereAndBack" "barredName" "I") ∈ lw_all := lw_g (lw_at lw_m2 67 rfl) rfl
theorem q452 : (Jvm.Cond.soleField "ThereAndBack" "barredName") ∈ lw_all := lw_g (lw_at lw_m2 68 rfl) rfl
theorem q453 : (Jvm.Cond.lays "ThereAndBack" "ThereAndBack" "barredRow" "Ljava/lang/Object;") ∈ lw_all := lw_g (lw_at lw_m2 69 rfl) rfl
theorem q454 : (Jvm.Cond.soleField "ThereAndBack" "barredRow") ∈ lw_all := lw_g (lw_at lw_m2 70 rfl) rfl
theorem q455 : (Jvm.Cond.lays "ThereAndBack" "ThereAndBack" "barredItem" "I") ∈ lw_all := lw_g (lw_at lw_m2 71 rfl) rfl
theorem q456 : (Jvm.Cond.soleField "ThereAndBack" "barredItem") ∈ lw_all := lw_g (lw_at lw_m2 72 rfl) rfl
theorem q457 : (Jvm.Cond.lays "ThereAndBack" "ThereAndBack" "moves" "I") ∈ lw_all := lw_g (lw_at lw_m2 73 rfl) rfl
theorem q458 : (Jvm.Cond.soleField "ThereAndBack" "moves") ∈ lw_all := lw_g (lw_at lw_m2 74 rfl) rfl
theorem q459 : (Jvm.Cond.lays "ThereAndBack" "ThereAndBack" "mostMoves" "I") ∈ lw_all := lw_g (lw_at lw_m2 75 rfl) rfl
theorem q460 : (Jvm.Cond.soleField "ThereAndBack" "mostMoves") ∈ lw_all := lw_g (lw_at lw_m2 76 rfl) rfl
theorem q461 : (Jvm.Cond.laysFinal "ThereAndBack" "ThereAndBack" "out" "[B") ∈ lw_all := lw_g (lw_at lw_m2 77 rfl) rfl
theorem q462 : (Jvm.Cond.soleField "ThereAndBack" "out") ∈ lw_all := lw_g (lw_at lw_m2 78 rfl) rfl
theorem q463 : (Jvm.Cond.laysFinal "ThereAndBack" "ThereAndBack" "spare" "[B") ∈ lw_all := lw_g (lw_at lw_m2 79 rfl) rfl
theorem q464 : (Jvm.Cond.soleField "ThereAndBack" "spare") ∈ lw_all := lw_g (lw_at lw_m2 80 rfl) rfl
theorem q465 : (Jvm.Cond.lays "ThereAndBack" "ThereAndBack" "printed" "I") ∈ lw_all := lw_g (lw_at lw_m2 81 rfl) rfl
theorem q466 : (Jvm.Cond.soleField "ThereAndBack" "printed") ∈ lw_all := lw_g (lw_at lw_m2 82 rfl) rfl
theorem q467 : (Jvm.Cond.lays "ThereAndBack" "ThereAndBack" "joined" "Z") ∈ lw_all := lw_g (lw_at lw_m2 83 rfl) rfl
theorem q468 : (Jvm.Cond.soleField "ThereAndBack" "joined") ∈ lw_all := lw_g (lw_at lw_m2 84 rfl) rfl
theorem q469 : (Jvm.Cond.lays "ThereAndBack" "ThereAndBack" "outSize" "I") ∈ lw_all := lw_g (lw_at lw_m2 85 rfl) rfl
theorem q470 : (Jvm.Cond.soleField "ThereAndBack" "outSize") ∈ lw_all := lw_g (lw_at lw_m2 86 rfl) rfl
theorem q471 : (Jvm.Cond.laysFinal "ThereAndBack" "ThereAndBack" "other" "[B") ∈ lw_all := lw_g (lw_at lw_m2 87 rfl) rfl
theorem q472 : (Jvm.Cond.soleField "ThereAndBack" "other") ∈ lw_all := lw_g (lw_at lw_m2 88 rfl) rfl
theorem q473 : (Jvm.Cond.lays "ThereAndBack" "ThereAndBack" "failed" "I") ∈ lw_all := lw_g (lw_at lw_m2 89 rfl) rfl
theorem q474 : (Jvm.Cond.soleField "ThereAndBack" "failed") ∈ lw_all := lw_g (lw_at lw_m2 90 rfl) rfl
theorem q475 : (Jvm.Cond.superclass "ThereAndBack" "java/lang/Object") ∈ lw_all := lw_g (lw_at lw_m2 91 rfl) rfl
theorem q477 : (Jvm.Cond.instanceMethod ({ cls := "ThereAndBack", name := "type", desc := "(JI)I" } : Jvm.MethodName)) ∈ lw_all := lw_g (lw_at lw_m2 93 rfl) rfl
theorem q478 : (Jvm.Cond.selects "ThereAndBack" ({ cls := "ThereAndBack", name := "type", desc := "(JI)I" } : Jvm.MethodName) ({ cls := "ThereAndBack", name := "type", desc := "(JI)I" } : Jvm.MethodName)) ∈ lw_all := lw_g (lw_at lw_m2 94 rfl) rfl
theorem q479 : (Jvm.Cond.code ({ cls := "ThereAndBack", name := "type", desc := "(JI)I" } : Jvm.MethodName) prog_1_method_48_code (5 : Nat) (Option.some Jvm.ClassFile.FieldType.int)) ∈ lw_all := lw_g (lw_at lw_m2 95 rfl) rfl
theorem q480 : (Jvm.Cond.constantLong "ThereAndBack" (453 : Nat) (8 : Int64)) ∈ lw_all := lw_g (lw_at lw_m2 96 rfl) rfl
theorem q481 : (Jvm.Cond.methodLink "ThereAndBack" (424 : Nat) ({ cls := "ThereAndBack", name := "isIn", desc := "(JJJ)Z" } : Jvm.MethodName)) ∈ lw_all := lw_g (lw_at lw_m2 97 rfl) rfl
theorem q482 : (Jvm.Cond.static ({ cls := "ThereAndBack", name := "isIn", desc := "(JJJ)Z" } : Jvm.MethodName)) ∈ lw_all := lw_g (lw_at lw_m2 98 rfl) rfl
theorem q483 : (Jvm.Cond.code ({ cls := "ThereAndBack", name := "isIn", desc := "(JJJ)Z" } : Jvm.MethodName) prog_1_method_1_code (6 : Nat) (Option.some Jvm.ClassFile.FieldType.boolean)) ∈ lw_all := lw_g (lw_at lw_m2 99 rfl) rfl
theorem q484 : (Jvm.Cond.constantLong "ThereAndBack" (455 : Nat) (255 : Int64)) ∈ lw_all := lw_g (lw_at lw_m2 100 rfl) rfl
theorem q485 : (Jvm.Cond.constantLong "ThereAndBack" (457 : Nat) (32 : Int64)) ∈ lw_all := lw_g (lw_at lw_m2 101 rfl) rfl
theorem q486 : (Jvm.Cond.constantLong "ThereAndBack" (459 : Nat) (126 : Int64)) ∈ lw_all := lw_g (lw_at lw_m2 102 rfl) rfl
theorem q488 : (Jvm.Cond.instanceMethod ({ cls := "ThereAndBack", name := "read", desc := "(I)I" } : Jvm.MethodName)) ∈ lw_all := lw_g (lw_at lw_m2 104 rfl) rfl
theorem q489 : (Jvm.Cond.selects "ThereAndBack" ({ cls := "ThereAndBack", name := "read", desc := "(I)I" } : Jvm.MethodName) ({ cls := "ThereAndBack", name := "read", desc := "(I)I" } : Jvm.MethodName)) ∈ lw_all := lw_g (lw_at lw_m2 105 rfl) rfl
theorem q490 : (Jvm.Cond.codeWith ({ cls := "ThereAndBack", name := "read", desc := "(I)I" } : Jvm.MethodName) prog_1_method_49_code (4 : Nat) (Option.some Jvm.ClassFile.FieldType.int) [((36 : Nat), (58 : Nat), (61 : Nat), (337 : Nat))]) ∈ lw_all := lw_g (lw_at lw_m2 106 rfl) rfl
theorem q491 : (Jvm.Cond.methodLink "ThereAndBack" (444 : Nat) ({ cls := "ThereAndBack", name := "isRoutine", desc := "(I)Z" } : Jvm.MethodName)) ∈ lw_all := lw_g (lw_at lw_m2 107 rfl) rfl
theorem q492 : (Jvm.Cond.static ({ cls := "ThereAndBack", name := "isRoutine", desc := "(I)Z" } : Jvm.MethodName)) ∈ lw_all := lw_g (lw_at lw_m2 108 rfl) rfl
theorem q493 : (Jvm.Cond.code ({ cls := "ThereAndBack", name := "isRoutine", desc := "(I)Z" } : Jvm.MethodName) prog_1_method_45_code (1 : Nat) (Option.some Jvm.ClassFile.FieldType.boolean)) ∈ lw_all := lw_g (lw_at lw_m2 109 rfl) rfl
theorem q494 : (Jvm.Cond.constantLong "ThereAndBack" (442 : Nat) (9 : Int64)) ∈ lw_all := lw_g (lw_at lw_m2 110 rfl) rfl
theorem q495 : (Jvm.Cond.methodLink "ThereAndBack" (65 : Nat) ({ cls := "ThereAndBack", name := "next", desc := "()V" } : Jvm.MethodName)) ∈ lw_all := lw_g (lw_at lw_m2 111 rfl) rfl
theorem q496 : (Jvm.Cond.privateMethod ({ cls := "ThereAndBack", name := "next", desc := "()V" } : Jvm.MethodName)) ∈ lw_tbl := lw_at lw_m2 112 rfl
theorem q497 : (Jvm.Cond.instanceMethod ({ cls := "ThereAndBack", name := "next", desc := "()V" } : Jvm.MethodName)) ∈ lw_all := lw_g (lw_at lw_m2 113 rfl) rfl
theorem q498 : (Jvm.Cond.code ({ cls := "ThereAndBack", name := "next", desc := "()V" } : Jvm.MethodName) prog_1_method_9_code (4 : Nat) (Option.none : Option Jvm.ClassFile.FieldType)) ∈ lw_all := lw_g (lw_at lw_m2 114 rfl) rfl
theorem q499 : (Jvm.Cond.methodLink "ThereAndBack" (31 : Nat) ({ cls := "ThereAndBack", name := "byteAt", desc := "(I)I" } : Jvm.MethodName)) ∈ lw_all := lw_g (lw_at lw_m2 115 rfl) rfl
theorem q500 : (Jvm.Cond.privateMethod ({ cls := "ThereAndBack", name := "byteAt", desc := "(I)I" } : Jvm.MethodName)) ∈ lw_tbl := lw_at lw_m2 116 rfl
theorem q501 : (Jvm.Cond.instanceMethod ({ cls := "ThereAndBack", name := "byteAt", desc := "(I)I" } : Jvm.MethodName)) ∈ lw_all := lw_g (lw_at lw_m2 117 rfl) rfl
theorem q502 : (Jvm.Cond.code ({ cls := "ThereAndBack", name := "byteAt", desc := "(I)I" } : Jvm.MethodName) prog_1_method_6_code (2 : Nat) (Option.some Jvm.ClassFile.FieldType.int)) ∈ lw_all := lw_g (lw_at lw_m2 118 rfl) rfl
theorem q503 : (Jvm.Cond.methodLink "ThereAndBack" (38 : Nat) ({ cls := "ThereAndBack", name := "isSmall", desc := "(I)Z" } : Jvm.MethodName)) ∈ lw_all := lw_g (lw_at lw_m2 119 rfl) rfl
theorem q504 : (Jvm.Cond.static ({ cls := "ThereAndBack", name := "isSmall", desc := "(I)Z" } : Jvm.MethodName)) ∈ lw_all := lw_g (lw_at lw_m2 120 rfl) rfl
theorem q505 : (Jvm.Cond.code ({ cls := "ThereAndBack", name := "isSmall", desc := "(I)Z" } : Jvm.MethodName) prog_1_method_7_code (1 : Nat) (Option.some Jvm.ClassFile.FieldType.boolean)) ∈ lw_all := lw_g (lw_at lw_m2 121 rfl) rfl
theorem q506 : (Jvm.Cond.methodLink "ThereAndBack" (42 : Nat) ({ cls := "ThereAndBack", name := "isDigit", desc := "(I)Z" } : Jvm.MethodName)) ∈ lw_all := lw_g (lw_at lw_m2 122 rfl) rfl
theorem q507 : (Jvm.Cond.static ({ cls := "ThereAndBack", name := "isDigit", desc := "(I)Z" } : Jvm.MethodName)) ∈ lw_all := lw_g (lw_at lw_m2 123 rfl) rfl
theorem q508 : (Jvm.Cond.code ({ cls := "ThereAndBack", name := "isDigit", desc := "(I)Z" } : Jvm.MethodName) prog_1_method_8_code (1 : Nat) (Option.some Jvm.ClassFile.FieldType.boolean)) ∈ lw_all := lw_g (lw_at lw_m2 124 rfl) rfl
theorem q509 : (Jvm.Cond.methodLink "ThereAndBack" (148 : Nat) ({ cls := "ThereAndBack", name := "steps", desc := "(I)LThereAndBack$Part;" } : Jvm.MethodName)) ∈ lw_all := lw_g (lw_at lw_m2 125 rfl) rfl
theorem q510 : (Jvm.Cond.privateMethod ({ cls := "ThereAndBack", name := "steps", desc := "(I)LThereAndBack$Part;" } : Jvm.MethodName)) ∈ lw_tbl := lw_at lw_m2 126 rfl
theorem q511 : (Jvm.Cond.instanceMethod ({ cls := "ThereAndBack", name := "steps", desc := "(I)LThereAndBack$Part;" } : Jvm.MethodName)) ∈ lw_all := lw_g (lw_at lw_m2 127 rfl) rfl
theorem q512 : (Jvm.Cond.code ({ cls := "ThereAndBack", name := "steps", desc := "(I)LThereAndBack$Part;" } : Jvm.MethodName) prog_1_method_28_code (4 : Nat) (Option.some (Jvm.ClassFile.FieldType.object "ThereAndBack$Part"))) ∈ lw_all := lw_g (lw_at lw_m2 128 rfl) rfl
theorem q513 : (Jvm.Cond.classLink "ThereAndBack" (152 : Nat) "ThereAndBack$Part") ∈ lw_all := lw_g (lw_at lw_m2 129 rfl) rfl
theorem q515 : (Jvm.Cond.methodLinkNest "ThereAndBack" (154 : Nat) ({ cls := "ThereAndBack$Part", name := "<init>", desc := "()V" } : Jvm.MethodName) "ThereAndBack") ∈ lw_tbl := lw_at lw_m2 131 rfl
theorem q548 : (Jvm.Cond.fieldLinkNest "ThereAndBack" (168 : Nat) "ThereAndBack$Part" "steps" "Ljava/util/List;" "ThereAndBack") ∈ lw_tbl := lw_at lw_m2 164 rfl
theorem q552 : (Jvm.Cond.methodLink "ThereAndBack" (73 : Nat) ({ cls := "ThereAndBack", name := "isNameToken", desc := "()Z" } : Jvm.MethodName)) ∈ lw_all := lw_g (lw_at lw_m2 168 rfl) rfl
theorem q553 : (Jvm.Cond.privateMethod ({ cls := "ThereAndBack", name := "isNameToken", desc := "()Z" } : Jvm.MethodName)) ∈ lw_tbl := lw_at lw_m2 169 rfl
theorem q554 : (Jvm.Cond.instanceMethod ({ cls := "ThereAndBack", name := "isNameToken", desc := "()Z" } : Jvm.MethodName)) ∈ lw_all := lw_g (lw_at lw_m2 170 rfl) rfl
theorem q555 : (Jvm.Cond.code ({ cls := "ThereAndBack", name := "isNameToken", desc := "()Z" } : Jvm.MethodName) prog_1_method_13_code (1 : Nat) (Option.some Jvm.ClassFile.FieldType.boolean)) ∈ lw_all := lw_g (lw_at lw_m2 171 rfl) rfl
theorem q556 : (Jvm.Cond.methodLink "ThereAndBack" (77 : Nat) ({ cls := "ThereAndBack", name := "isRowToken", desc := "()Z" } : Jvm.MethodName)) ∈ lw_all := lw_g (lw_at lw_m2 172 rfl) rfl
theorem q557 : (Jvm.Cond.privateMethod ({ cls := "ThereAndBack", name := "isRowToken", desc := "()Z" } : Jvm.MethodName)) ∈ lw_tbl := lw_at lw_m2 173 rfl
theorem q558 : (Jvm.Cond.instanceMethod ({ cls := "ThereAndBack", name := "isRowToken", desc := "()Z" } : Jvm.MethodName)) ∈ lw_all := lw_g (lw_at lw_m2 174 rfl) rfl
theorem q559 : (Jvm.Cond.code ({ cls := "ThereAndBack", name := "isRowToken", desc := "()Z" } : Jvm.MethodName) prog_1_method_14_code (1 : Nat) (Option.some Jvm.ClassFile.FieldType.boolean)) ∈ lw_all := lw_g (lw_at lw_m2 175 rfl) rfl
theorem q560 : (Jvm.Cond.methodLink "ThereAndBack" (156 : Nat) ({ cls := "ThereAndBack", name := "isKey", desc := "()Z" } : Jvm.MethodName)) ∈ lw_all := lw_g (lw_at lw_m2 176 rfl) rfl
theorem q561 : (Jvm.Cond.privateMethod ({ cls := "ThereAndBack", name := "isKey", desc := "()Z" } : Jvm.MethodName)) ∈ lw_tbl := lw_at lw_m2 177 rfl
theorem q562 : (Jvm.Cond.instanceMethod ({ cls := "ThereAndBack", name := "isKey", desc := "()Z" } : Jvm.MethodName)) ∈ lw_all := lw_g (lw_at lw_m2 178 rfl) rfl
theorem q563 : (Jvm.Cond.code ({ cls := "ThereAndBack", name := "isKey", desc := "()Z" } : Jvm.MethodName) prog_1_method_29_code (1 : Nat) (Option.some Jvm.ClassFile.FieldType.boolean)) ∈ lw_all := lw_g (lw_at lw_m2 179 rfl) rfl
theorem q564 : (Jvm.Cond.stringRef "ThereAndBack" (181 : Nat) "let") ∈ lw_tbl := lw_at lw_m2 180 rfl
theorem q565 : (Jvm.Cond.methodLink "ThereAndBack" (69 : Nat) ({ cls := "ThereAndBack", name := "isWord", desc := "(Ljava/lang/String;)Z" } : Jvm.MethodName)) ∈ lw_all := lw_g (lw_at lw_m2 181 rfl) rfl
theorem q566 : (Jvm.Cond.privateMethod ({ cls := "ThereAndBack", name := "isWord", desc := "(Ljava/lang/String;)Z" } : Jvm.MethodName)) ∈ lw_tbl := lw_at lw_m2 182 rfl
theorem q567 : (Jvm.Cond.instanceMethod ({ cls := "ThereAndBack", name := "isWord", desc := "(Ljava/lang/String;)Z" } : Jvm.MethodName)) ∈ lw_all := lw_g (lw_at lw_m2 183 rfl) rfl
theorem q568 : (Jvm.Cond.code ({ cls := "ThereAndBack", name := "isWord", desc := "(Ljava/lang/String;)Z" } : Jvm.MethodName) prog_1_method_11_code (4 : Nat) (Option.some Jvm.ClassFile.FieldType.boolean)) ∈ lw_all := lw_g (lw_at lw_m2 184 rfl) rfl
theorem q569 : (Jvm.Cond.methodLink "ThereAndBack" (48 : Nat) ({ cls := "java/lang/String", name := "length", desc := "()I" } : Jvm.MethodName)) ∈ lw_all := lw_g (lw_at lw_m2 185 rfl) rfl
theorem q579 : (Jvm.Cond.methodLink "ThereAndBack" (54 : Nat) ({ cls := "java/lang/String", name := "charAt", desc := "(I)C" } : Jvm.MethodName)) ∈ lw_all := lw_g (lw_at lw_m2 195 rfl) rfl
theorem q617 : (Jvm.Cond.stringRef "ThereAndBack" (183 : Nat) "unlet") ∈ lw_tbl := lw_at lw_m2 233 rfl
theorem q618 : (Jvm.Cond.stringRef "ThereAndBack" (185 : Nat) "push") ∈ lw_tbl := lw_at lw_m2 234 rfl
theorem q619 : (Jvm.Cond.stringRef "ThereAndBack" (187 : Nat) "pop") ∈ lw_tbl := lw_at lw_m2 235 rfl
theorem q620 : (Jvm.Cond.stringRef "ThereAndBack" (189 : Nat) "new") ∈ lw_tbl := lw_at lw_m2 236 rfl
theorem q621 : (Jvm.Cond.stringRef "ThereAndBack" (191 : Nat) "end") ∈ lw_tbl := lw_at lw_m2 237 rfl
theorem q622 : (Jvm.Cond.stringRef "ThereAndBack" (193 : Nat) "call") ∈ lw_tbl := lw_at lw_m2 238 rfl
theorem q623 : (Jvm.Cond.stringRef "ThereAndBack" (195 : Nat) "uncall") ∈ lw_tbl := lw_at lw_m2 239 rfl
theorem q624 : (Jvm.Cond.stringRef "ThereAndBack" (197 : Nat) "if") ∈ lw_tbl := lw_at lw_m3 0 rfl
theorem q625 : (Jvm.Cond.stringRef "ThereAndBack" (199 : Nat) "from") ∈ lw_tbl := lw_at lw_m3 1 rfl
theorem q626 : (Jvm.Cond.stringRef "ThereAndBack" (159 : Nat) "set") ∈ lw_tbl := lw_at lw_m3 2 rfl
theorem q627 : (Jvm.Cond.stringRef "ThereAndBack" (161 : Nat) "while") ∈ lw_tbl := lw_at lw_m3 3 rfl
theorem q628 : (Jvm.Cond.stringRef "ThereAndBack" (163 : Nat) "when") ∈ lw_tbl := lw_at lw_m3 4 rfl
theorem q629 : (Jvm.Cond.methodLink "ThereAndBack" (17 : Nat) ({ cls := "ThereAndBack", name := "wrongAt", desc := "(II)LThereAndBack$Wrong;" } : Jvm.MethodName)) ∈ lw_all := lw_g (lw_at lw_m3 5 rfl) rfl
theorem q630 : (Jvm.Cond.privateMethod ({ cls := "ThereAndBack", name := "wrongAt", desc := "(II)LThereAndBack$Wrong;" } : Jvm.MethodName)) ∈ lw_tbl := lw_at lw_m3 6 rfl
theorem q631 : (Jvm.Cond.instanceMethod ({ cls := "ThereAndBack", name := "wrongAt", desc := "(II)LThereAndBack$Wrong;" } : Jvm.MethodName)) ∈ lw_all := lw_g (lw_at lw_m3 7 rfl) rfl
theorem q632 : (Jvm.Cond.code ({ cls := "ThereAndBack", name := "wrongAt", desc := "(II)LThereAndBack$Wrong;" } : Jvm.MethodName) prog_1_method_4_code (3 : Nat) (Option.some (Jvm.ClassFile.FieldType.object "ThereAndBack$Wrong"))) ∈ lw_all := lw_g (lw_at lw_m3 8 rfl) rfl
theorem q633 : (Jvm.Cond.methodLink "ThereAndBack" (171 : Nat) ({ cls := "ThereAndBack", name := "step", desc := "(I)LThereAndBack$Step;" } : Jvm.MethodName)) ∈ lw_all := lw_g (lw_at lw_m3 9 rfl) rfl
theorem q634 : (Jvm.Cond.privateMethod ({ cls := "ThereAndBack", name := "step", desc := "(I)LThereAndBack$Step;" } : Jvm.MethodName)) ∈ lw_tbl := lw_at lw_m3 10 rfl
theorem q635 : (Jvm.Cond.instanceMethod ({ cls := "ThereAndBack", name := "step", desc := "(I)LThereAndBack$Step;" } : Jvm.MethodName)) ∈ lw_all := lw_g (lw_at lw_m3 11 rfl) rfl
theorem q636 : (Jvm.Cond.code ({ cls := "ThereAndBack", name := "step", desc := "(I)LThereAndBack$Step;" } : Jvm.MethodName) prog_1_method_30_code (7 : Nat) (Option.some (Jvm.ClassFile.FieldType.object "ThereAndBack$Step"))) ∈ lw_all := lw_g (lw_at lw_m3 12 rfl) rfl
theorem q637 : (Jvm.Cond.methodLink "ThereAndBack" (201 : Nat) ({ cls := "ThereAndBack", name := "changing", desc := "(I)LThereAndBack$Step;" } : Jvm.MethodName)) ∈ lw_all := lw_g (lw_at lw_m3 13 rfl) rfl
theorem q638 : (Jvm.Cond.privateMethod ({ cls := "ThereAndBack", name := "changing", desc := "(I)LThereAndBack$Step;" } : Jvm.MethodName)) ∈ lw_tbl := lw_at lw_m3 14 rfl
theorem q639 : (Jvm.Cond.instanceMethod ({ cls := "ThereAndBack", name := "changing", desc := "(I)LThereAndBack$Step;" } : Jvm.MethodName)) ∈ lw_all := lw_g (lw_at lw_m3 15 rfl) rfl
theorem q640 : (Jvm.Cond.code ({ cls := "ThereAndBack", name := "changing", desc := "(I)LThereAndBack$Step;" } : Jvm.MethodName) prog_1_method_36_code (5 : Nat) (Option.some (Jvm.ClassFile.FieldType.object "ThereAndBack$Step"))) ∈ lw_all := lw_g (lw_at lw_m3 16 rfl) rfl
theorem q641 : (Jvm.Cond.methodLink "ThereAndBack" (300 : Nat) ({ cls := "ThereAndBack", name := "target", desc := "()LThereAndBack$Place;" } : Jvm.MethodName)) ∈ lw_all := lw_g (lw_at lw_m3 17 rfl) rfl
theorem q642 : (Jvm.Cond.privateMethod ({ cls := "ThereAndBack", name := "target", desc := "()LThereAndBack$Place;" } : Jvm.MethodName)) ∈ lw_tbl := lw_at lw_m3 18 rfl
theorem q643 : (Jvm.Cond.instanceMethod ({ cls := "ThereAndBack", name := "target", desc := "()LThereAndBack$Place;" } : Jvm.MethodName)) ∈ lw_all := lw_g (lw_at lw_m3 19 rfl) rfl
theorem q644 : (Jvm.Cond.code ({ cls := "ThereAndBack", name := "target", desc := "()LThereAndBack$Place;" } : Jvm.MethodName) prog_1_method_35_code (3 : Nat) (Option.some (Jvm.ClassFile.FieldType.object "ThereAndBack$Place"))) ∈ lw_all := lw_g (lw_at lw_m3 20 rfl) rfl
theorem q645 : (Jvm.Cond.classLink "ThereAndBack" (295 : Nat) "ThereAndBack$Place") ∈ lw_all := lw_g (lw_at lw_m3 21 rfl) rfl
theorem q647 : (Jvm.Cond.methodLink "ThereAndBack" (103 : Nat) ({ cls := "ThereAndBack", name := "name", desc := "()I" } : Jvm.MethodName)) ∈ lw_all := lw_g (lw_at lw_m3 23 rfl) rfl
theorem q648 : (Jvm.Cond.privateMethod ({ cls := "ThereAndBack", name := "name", desc := "()I" } : Jvm.MethodName)) ∈ lw_tbl := lw_at lw_m3 24 rfl
theorem q649 : (Jvm.Cond.instanceMethod ({ cls := "ThereAndBack", name := "name", desc := "()I" } : Jvm.MethodName)) ∈ lw_all := lw_g (lw_at lw_m3 25 rfl) rfl
theorem q650 : (Jvm.Cond.code ({ cls := "ThereAndBack", name := "name", desc := "()I" } : Jvm.MethodName) prog_1_method_17_code (2 : Nat) (Option.some Jvm.ClassFile.FieldType.int)) ∈ lw_all := lw_g (lw_at lw_m3 26 rfl) rfl
theorem q651 : (Jvm.Cond.methodLink "ThereAndBack" (61 : Nat) ({ cls := "ThereAndBack", name := "cannot", desc := "()LThereAndBack$Wrong;" } : Jvm.MethodName)) ∈ lw_all := lw_g (lw_at lw_m3 27 rfl) rfl
theorem q652 : (Jvm.Cond.privateMethod ({ cls := "ThereAndBack", name := "cannot", desc := "()LThereAndBack$Wrong;" } : Jvm.MethodName)) ∈ lw_tbl := lw_at lw_m3 28 rfl
theorem q653 : (Jvm.Cond.instanceMethod ({ cls := "ThereAndBack", name := "cannot", desc := "()LThereAndBack$Wrong;" } : Jvm.MethodName)) ∈ lw_all := lw_g (lw_at lw_m3 29 rfl) rfl
theorem q654 : (Jvm.Cond.code ({ cls := "ThereAndBack", name := "cannot", desc := "()LThereAndBack$Wrong;" } : Jvm.MethodName) prog_1_method_5_code (1 : Nat) (Option.some (Jvm.ClassFile.FieldType.object "ThereAndBack$Wrong"))) ∈ lw_all := lw_g (lw_at lw_m3 30 rfl) rfl
theorem q655 : (Jvm.Cond.methodLink "ThereAndBack" (297 : Nat) ({ cls := "ThereAndBack$Place", name := "<init>", desc := "(IILThereAndBack$Expr;)V" } : Jvm.MethodName)) ∈ lw_all := lw_g (lw_at lw_m3 31 rfl) rfl
theorem q661 : (Jvm.Cond.fieldLinkNest "ThereAndBack" (327 : Nat) "ThereAndBack$Place" "name" "I" "ThereAndBack") ∈ lw_tbl := lw_at lw_m3 37 rfl
theorem q664 : (Jvm.Cond.fieldLinkNest "ThereAndBack" (404 : Nat) "ThereAndBack$Place" "row" "I" "ThereAndBack") ∈ lw_tbl := lw_at lw_m3 40 rfl
theorem q675 : (Jvm.Cond.methodLink "ThereAndBack" (107 : Nat) ({ cls := "ThereAndBack", name := "rowName", desc := "()I" } : Jvm.MethodName)) ∈ lw_all := lw_g (lw_at lw_m3 51 rfl) rfl
theorem q676 : (Jvm.Cond.privateMethod ({ cls := "ThereAndBack", name := "rowName", desc := "()I" } : Jvm.MethodName)) ∈ lw_tbl := lw_at lw_m3 52 rfl
theorem q677 : (Jvm.Cond.instanceMethod ({ cls := "ThereAndBack", name := "rowName", desc := "()I" } : Jvm.MethodName)) ∈ lw_all := lw_g (lw_at lw_m3 53 rfl) rfl
theorem q678 : (Jvm.Cond.code ({ cls := "ThereAndBack", name := "rowName", desc := "()I" } : Jvm.MethodName) prog_1_method_18_code (2 : Nat) (Option.some Jvm.ClassFile.FieldType.int)) ∈ lw_all := lw_g (lw_at lw_m3 54 rfl) rfl
theorem q679 : (Jvm.Cond.methodLink "ThereAndBack" (131 : Nat) ({ cls := "ThereAndBack", name := "sign", desc := "(I)V" } : Jvm.MethodName)) ∈ lw_all := lw_g (lw_at lw_m3 55 rfl) rfl
theorem q680 : (Jvm.Cond.privateMethod ({ cls := "ThereAndBack", name := "sign", desc := "(I)V" } : Jvm.MethodName)) ∈ lw_tbl := lw_at lw_m3 56 rfl
theorem q681 : (Jvm.Cond.instanceMethod ({ cls := "ThereAndBack", name := "sign", desc := "(I)V" } : Jvm.MethodName)) ∈ lw_all := lw_g (lw_at lw_m3 57 rfl) rfl
theorem q682 : (Jvm.Cond.code ({ cls := "ThereAndBack", name := "sign", desc := "(I)V" } : Jvm.MethodName) prog_1_method_15_code (2 : Nat) (Option.none : Option Jvm.ClassFile.FieldType)) ∈ lw_all := lw_g (lw_at lw_m3 58 rfl) rfl
theorem q683 : (Jvm.Cond.methodLink "ThereAndBack" (58 : Nat) ({ cls := "ThereAndBack", name := "isSign", desc := "(I)Z" } : Jvm.MethodName)) ∈ lw_all := lw_g (lw_at lw_m3 59 rfl) rfl
theorem q684 : (Jvm.Cond.privateMethod ({ cls := "ThereAndBack", name := "isSign", desc := "(I)Z" } : Jvm.MethodName)) ∈ lw_tbl := lw_at lw_m3 60 rfl
theorem q685 : (Jvm.Cond.instanceMethod ({ cls := "ThereAndBack", name := "isSign", desc := "(I)Z" } : Jvm.MethodName)) ∈ lw_all := lw_g (lw_at lw_m3 61 rfl) rfl
theorem q686 : (Jvm.Cond.code ({ cls := "ThereAndBack", name := "isSign", desc := "(I)Z" } : Jvm.MethodName) prog_1_method_10_code (2 : Nat) (Option.some Jvm.ClassFile.FieldType.boolean)) ∈ lw_all := lw_g (lw_at lw_m3 62 rfl) rfl
theorem q687 : (Jvm.Cond.methodLink "ThereAndBack" (125 : Nat) ({ cls := "ThereAndBack", name := "expr", desc := "(I)LThereAndBack$Expr;" } : Jvm.MethodName)) ∈ lw_all := lw_g (lw_at lw_m3 63 rfl) rfl
theorem q688 : (Jvm.Cond.privateMethod ({ cls := "ThereAndBack", name := "expr", desc := "(I)LThereAndBack$Expr;" } : Jvm.MethodName)) ∈ lw_tbl := lw_at lw_m3 64 rfl
theorem q689 : (Jvm.Cond.instanceMethod ({ cls := "ThereAndBack", name := "expr", desc := "(I)LThereAndBack$Expr;" } : Jvm.MethodName)) ∈ lw_all := lw_g (lw_at lw_m3 65 rfl) rfl
theorem q690 : (Jvm.Cond.code ({ cls := "ThereAndBack", name := "expr", desc := "(I)LThereAndBack$Expr;" } : Jvm.MethodName) prog_1_method_21_code (4 : Nat) (Option.some (Jvm.ClassFile.FieldType.object "ThereAndBack$Expr"))) ∈ lw_all := lw_g (lw_at lw_m3 66 rfl) rfl
theorem q691 : (Jvm.Cond.methodLink "ThereAndBack" (80 : Nat) ({ cls := "ThereAndBack", name := "product", desc := "(I)LThereAndBack$Expr;" } : Jvm.MethodName)) ∈ lw_all := lw_g (lw_at lw_m3 67 rfl) rfl
theorem q692 : (Jvm.Cond.privateMethod ({ cls := "ThereAndBack", name := "product", desc := "(I)LThereAndBack$Expr;" } : Jvm.MethodName)) ∈ lw_tbl := lw_at lw_m3 68 rfl
theorem q693 : (Jvm.Cond.instanceMethod ({ cls := "ThereAndBack", name := "product", desc := "(I)LThereAndBack$Expr;" } : Jvm.MethodName)) ∈ lw_all := lw_g (lw_at lw_m3 69 rfl) rfl
theorem q694 : (Jvm.Cond.code ({ cls := "ThereAndBack", name := "product", desc := "(I)LThereAndBack$Expr;" } : Jvm.MethodName) prog_1_method_22_code (4 : Nat) (Option.some (Jvm.ClassFile.FieldType.object "ThereAndBack$Expr"))) ∈ lw_all := lw_g (lw_at lw_m3 70 rfl) rfl
theorem q695 : (Jvm.Cond.methodLink "ThereAndBack" (90 : Nat) ({ cls := "ThereAndBack", name := "factor", desc := "(I)LThereAndBack$Expr;" } : Jvm.MethodName)) ∈ lw_all := lw_g (lw_at lw_m3 71 rfl) rfl
theorem q696 : (Jvm.Cond.privateMethod ({ cls := "ThereAndBack", name := "factor", desc := "(I)LThereAndBack$Expr;" } : Jvm.MethodName)) ∈ lw_tbl := lw_at lw_m3 72 rfl
theorem q697 : (Jvm.Cond.instanceMethod ({ cls := "ThereAndBack", name := "factor", desc := "(I)LThereAndBack$Expr;" } : Jvm.MethodName)) ∈ lw_all := lw_g (lw_at lw_m3 73 rfl) rfl
theorem q698 : (Jvm.Cond.code ({ cls := "ThereAndBack", name := "factor", desc := "(I)LThereAndBack$Expr;" } : Jvm.MethodName) prog_1_method_23_code (4 : Nat) (Option.some (Jvm.ClassFile.FieldType.object "ThereAndBack$Expr"))) ∈ lw_all := lw_g (lw_at lw_m3 74 rfl) rfl
theorem q699 : (Jvm.Cond.classLink "ThereAndBack" (96 : Nat) "ThereAndBack$Num") ∈ lw_all := lw_g (lw_at lw_m3 75 rfl) rfl
theorem q701 : (Jvm.Cond.methodLink "ThereAndBack" (98 : Nat) ({ cls := "ThereAndBack$Num", name := "<init>", desc := "(I)V" } : Jvm.MethodName)) ∈ lw_all := lw_g (lw_at lw_m3 77 rfl) rfl
theorem q712 : (Jvm.Cond.classLink "ThereAndBack" (101 : Nat) "ThereAndBack$Name") ∈ lw_all := lw_g (lw_at lw_m3 88 rfl) rfl
theorem q714 : (Jvm.Cond.methodLink "ThereAndBack" (106 : Nat) ({ cls := "ThereAndBack$Name", name := "<init>", desc := "(I)V" } : Jvm.MethodName)) ∈ lw_all := lw_g (lw_at lw_m3 90 rfl) rfl
theorem q720 : (Jvm.Cond.fieldLinkNest "ThereAndBack" (416 : Nat) "ThereAndBack$Name" "name" "I" "ThereAndBack") ∈ lw_tbl := lw_at lw_m3 96 rfl
theorem q724 : (Jvm.Cond.methodLink "ThereAndBack" (110 : Nat) ({ cls := "ThereAndBack", name := "itemOf", desc := "(II)LThereAndBack$Expr;" } : Jvm.MethodName)) ∈ lw_all := lw_g (lw_at lw_m3 100 rfl) rfl
theorem q725 : (Jvm.Cond.privateMethod ({ cls := "ThereAndBack", name := "itemOf", desc := "(II)LThereAndBack$Expr;" } : Jvm.MethodName)) ∈ lw_tbl := lw_at lw_m3 101 rfl
theorem q726 : (Jvm.Cond.instanceMethod ({ cls := "ThereAndBack", name := "itemOf", desc := "(II)LThereAndBack$Expr;" } : Jvm.MethodName)) ∈ lw_all := lw_g (lw_at lw_m3 102 rfl) rfl
theorem q727 : (Jvm.Cond.code ({ cls := "ThereAndBack", name := "itemOf", desc := "(II)LThereAndBack$Expr;" } : Jvm.MethodName) prog_1_method_25_code (3 : Nat) (Option.some (Jvm.ClassFile.FieldType.object "ThereAndBack$Expr"))) ∈ lw_all := lw_g (lw_at lw_m3 103 rfl) rfl
theorem q728 : (Jvm.Cond.classLink "ThereAndBack" (137 : Nat) "ThereAndBack$Item") ∈ lw_all := lw_g (lw_at lw_m3 104 rfl) rfl
theorem q730 : (Jvm.Cond.methodLink "ThereAndBack" (139 : Nat) ({ cls := "ThereAndBack", name := "index", desc := "(I)LThereAndBack$Expr;" } : Jvm.MethodName)) ∈ lw_all := lw_g (lw_at lw_m3 106 rfl) rfl
theorem q731 : (Jvm.Cond.privateMethod ({ cls := "ThereAndBack", name := "index", desc := "(I)LThereAndBack$Expr;" } : Jvm.MethodName)) ∈ lw_tbl := lw_at lw_m3 107 rfl
theorem q732 : (Jvm.Cond.instanceMethod ({ cls := "ThereAndBack", name := "index", desc := "(I)LThereAndBack$Expr;" } : Jvm.MethodName)) ∈ lw_all := lw_g (lw_at lw_m3 108 rfl) rfl
theorem q733 : (Jvm.Cond.code ({ cls := "ThereAndBack", name := "index", desc := "(I)LThereAndBack$Expr;" } : Jvm.MethodName) prog_1_method_24_code (3 : Nat) (Option.some (Jvm.ClassFile.FieldType.object "ThereAndBack$Expr"))) ∈ lw_all := lw_g (lw_at lw_m3 109 rfl) rfl
theorem q734 : (Jvm.Cond.methodLink "ThereAndBack" (117 : Nat) ({ cls := "ThereAndBack", name := "deep", desc := "(I)V" } : Jvm.MethodName)) ∈ lw_all := lw_g (lw_at lw_m3 110 rfl) rfl
theorem q735 : (Jvm.Cond.privateMethod ({ cls := "ThereAndBack", name := "deep", desc := "(I)V" } : Jvm.MethodName)) ∈ lw_tbl := lw_at lw_m3 111 rfl
theorem q736 : (Jvm.Cond.instanceMethod ({ cls := "ThereAndBack", name := "deep", desc := "(I)V" } : Jvm.MethodName)) ∈ lw_all := lw_g (lw_at lw_m3 112 rfl) rfl
theorem q737 : (Jvm.Cond.code ({ cls := "ThereAndBack", name := "deep", desc := "(I)V" } : Jvm.MethodName) prog_1_method_20_code (2 : Nat) (Option.none : Option Jvm.ClassFile.FieldType)) ∈ lw_all := lw_g (lw_at lw_m3 113 rfl) rfl
theorem q738 : (Jvm.Cond.methodLink "ThereAndBack" (142 : Nat) ({ cls := "ThereAndBack$Item", name := "<init>", desc := "(ILThereAndBack$Expr;)V" } : Jvm.MethodName)) ∈ lw_all := lw_g (lw_at lw_m3 114 rfl) rfl
theorem q749 : (Jvm.Cond.classLink "ThereAndBack" (114 : Nat) "ThereAndBack$Size") ∈ lw_all := lw_g (lw_at lw_m3 125 rfl) rfl
theorem q751 : (Jvm.Cond.methodLink "ThereAndBack" (116 : Nat) ({ cls := "ThereAndBack$Size", name := "<init>", desc := "(I)V" } : Jvm.MethodName)) ∈ lw_all := lw_g (lw_at lw_m3 127 rfl) rfl
theorem q759 : (Jvm.Cond.classLink "ThereAndBack" (120 : Nat) "ThereAndBack$Minus") ∈ lw_all := lw_g (lw_at lw_m3 135 rfl) rfl
theorem q761 : (Jvm.Cond.methodLink "ThereAndBack" (122 : Nat) ({ cls := "ThereAndBack$Minus", name := "<init>", desc := "(LThereAndBack$Expr;)V" } : Jvm.MethodName)) ∈ lw_all := lw_g (lw_at lw_m3 137 rfl) rfl
theorem q769 : (Jvm.Cond.classLink "ThereAndBack" (128 : Nat) "ThereAndBack$Compare") ∈ lw_all := lw_g (lw_at lw_m3 145 rfl) rfl
theorem q771 : (Jvm.Cond.methodLink "ThereAndBack" (130 : Nat) ({ cls := "ThereAndBack$Compare", name := "<init>", desc := "(LThereAndBack$Expr;ILThereAndBack$Expr;)V" } : Jvm.MethodName)) ∈ lw_all := lw_g (lw_at lw_m3 147 rfl) rfl
theorem q799 : (Jvm.Cond.classLink "ThereAndBack" (134 : Nat) "ThereAndBack$Paren") ∈ lw_all := lw_g (lw_at lw_m3 175 rfl) rfl
theorem q801 : (Jvm.Cond.methodLink "ThereAndBack" (136 : Nat) ({ cls := "ThereAndBack$Paren", name := "<init>", desc := "(LThereAndBack$Expr;)V" } : Jvm.MethodName)) ∈ lw_all := lw_g (lw_at lw_m3 177 rfl) rfl
theorem q809 : (Jvm.Cond.classLink "ThereAndBack" (93 : Nat) "ThereAndBack$Product") ∈ lw_all := lw_g (lw_at lw_m3 185 rfl) rfl
theorem q811 : (Jvm.Cond.methodLink "ThereAndBack" (95 : Nat) ({ cls := "ThereAndBack$Product", name := "<init>", desc := "(LThereAndBack$Expr;ILThereAndBack$Expr;)V" } : Jvm.MethodName)) ∈ lw_all := lw_g (lw_at lw_m3 187 rfl) rfl
theorem q819 : (Jvm.Cond.classLink "ThereAndBack" (84 : Nat) "ThereAndBack$Sum") ∈ lw_all := lw_g (lw_at lw_m3 195 rfl) rfl
theorem q821 : (Jvm.Cond.methodLink "ThereAndBack" (86 : Nat) ({ cls := "ThereAndBack$Sum", name := "<init>", desc := "(LThereAndBack$Expr;ILThereAndBack$Expr;)V" } : Jvm.MethodName)) ∈ lw_all := lw_g (lw_at lw_m3 197 rfl) rfl
theorem q829 : (Jvm.Cond.stringRef "ThereAndBack" (304 : Nat) "+=") ∈ lw_tbl := lw_at lw_m3 205 rfl
theorem q830 : (Jvm.Cond.methodLink "ThereAndBack" (306 : Nat) ({ cls := "ThereAndBack", name := "isPair", desc := "(Ljava/lang/String;)Z" } : Jvm.MethodName)) ∈ lw_all := lw_g (lw_at lw_m3 206 rfl) rfl
theorem q831 : (Jvm.Cond.privateMethod ({ cls := "ThereAndBack", name := "isPair", desc := "(Ljava/lang/String;)Z" } : Jvm.MethodName)) ∈ lw_tbl := lw_at lw_m3 207 rfl
theorem q832 : (Jvm.Cond.instanceMethod ({ cls := "ThereAndBack", name := "isPair", desc := "(Ljava/lang/String;)Z" } : Jvm.MethodName)) ∈ lw_all := lw_g (lw_at lw_m3 208 rfl) rfl
theorem q833 : (Jvm.Cond.code ({ cls := "ThereAndBack", name := "isPair", desc := "(Ljava/lang/String;)Z" } : Jvm.MethodName) prog_1_method_12_code (2 : Nat) (Option.some Jvm.ClassFile.FieldType.boolean)) ∈ lw_all := lw_g (lw_at lw_m3 209 rfl) rfl
theorem q834 : (Jvm.Cond.stringRef "ThereAndBack" (309 : Nat) "-=") ∈ lw_tbl := lw_at lw_m3 210 rfl
theorem q835 : (Jvm.Cond.stringRef "ThereAndBack" (311 : Nat) "^=") ∈ lw_tbl := lw_at lw_m3 211 rfl
theorem q836 : (Jvm.Cond.stringRef "ThereAndBack" (313 : Nat) "<<") ∈ lw_tbl := lw_at lw_m3 212 rfl
theorem q837 : (Jvm.Cond.stringRef "ThereAndBack" (315 : Nat) ">>") ∈ lw_tbl := lw_at lw_m3 213 rfl
theorem q838 : (Jvm.Cond.stringRef "ThereAndBack" (317 : Nat) "<>") ∈ lw_tbl := lw_at lw_m3 214 rfl
theorem q839 : (Jvm.Cond.methodLink "ThereAndBack" (210 : Nat) ({ cls := "ThereAndBack", name := "close", desc := "(IZI)V" } : Jvm.MethodName)) ∈ lw_all := lw_g (lw_at lw_m3 215 rfl) rfl
theorem q840 : (Jvm.Cond.privateMethod ({ cls := "ThereAndBack", name := "close", desc := "(IZI)V" } : Jvm.MethodName)) ∈ lw_tbl := lw_at lw_m3 216 rfl
theorem q841 : (Jvm.Cond.instanceMethod ({ cls := "ThereAndBack", name := "close", desc := "(IZI)V" } : Jvm.MethodName)) ∈ lw_all := lw_g (lw_at lw_m3 217 rfl) rfl
theorem q842 : (Jvm.Cond.code ({ cls := "ThereAndBack", name := "close", desc := "(IZI)V" } : Jvm.MethodName) prog_1_method_26_code (4 : Nat) (Option.none : Option Jvm.ClassFile.FieldType)) ∈ lw_all := lw_g (lw_at lw_m3 218 rfl) rfl
theorem q843 : (Jvm.Cond.classLink "ThereAndBack" (319 : Nat) "ThereAndBack$Swap") ∈ lw_all := lw_g (lw_at lw_m3 219 rfl) rfl
theorem q845 : (Jvm.Cond.methodLink "ThereAndBack" (321 : Nat) ({ cls := "ThereAndBack$Swap", name := "<init>", desc := "(LThereAndBack$Place;LThereAndBack$Place;)V" } : Jvm.MethodName)) ∈ lw_all := lw_g (lw_at lw_m3 221 rfl) rfl
theorem q862 : (Jvm.Cond.methodLink "ThereAndBack" (324 : Nat) ({ cls := "ThereAndBack$Place", name := "isName", desc := "()Z" } : Jvm.MethodName)) ∈ lw_all := lw_g (lw_at lw_m3 238 rfl) rfl
theorem q866 : (Jvm.Cond.methodLink "ThereAndBack" (262 : Nat) ({ cls := "ThereAndBack$Expr", name := "has", desc := "(I)Z" } : Jvm.MethodName)) ∈ lw_all := lw_g (lw_at lw_m4 2 rfl) rfl
theorem q896 : (Jvm.Cond.classLink "ThereAndBack" (329 : Nat) "ThereAndBack$Change") ∈ lw_all := lw_g (lw_at lw_m4 32 rfl) rfl
theorem q898 : (Jvm.Cond.methodLink "ThereAndBack" (331 : Nat) ({ cls := "ThereAndBack$Change", name := "<init>", desc := "(LThereAndBack$Place;ILThereAndBack$Expr;)V" } : Jvm.MethodName)) ∈ lw_all := lw_g (lw_at lw_m4 34 rfl) rfl
theorem q912 : (Jvm.Cond.methodLink "ThereAndBack" (204 : Nat) ({ cls := "ThereAndBack", name := "naming", desc := "(I)LThereAndBack$Step;" } : Jvm.MethodName)) ∈ lw_all := lw_g (lw_at lw_m4 48 rfl) rfl
theorem q913 : (Jvm.Cond.privateMethod ({ cls := "ThereAndBack", name := "naming", desc := "(I)LThereAndBack$Step;" } : Jvm.MethodName)) ∈ lw_tbl := lw_at lw_m4 49 rfl
theorem q914 : (Jvm.Cond.instanceMethod ({ cls := "ThereAndBack", name := "naming", desc := "(I)LThereAndBack$Step;" } : Jvm.MethodName)) ∈ lw_all := lw_g (lw_at lw_m4 50 rfl) rfl
theorem q915 : (Jvm.Cond.code ({ cls := "ThereAndBack", name := "naming", desc := "(I)LThereAndBack$Step;" } : Jvm.MethodName) prog_1_method_32_code (6 : Nat) (Option.some (Jvm.ClassFile.FieldType.object "ThereAndBack$Step"))) ∈ lw_all := lw_g (lw_at lw_m4 51 rfl) rfl
theorem q916 : (Jvm.Cond.classLink "ThereAndBack" (267 : Nat) "ThereAndBack$Assign") ∈ lw_all := lw_g (lw_at lw_m4 52 rfl) rfl
theorem q918 : (Jvm.Cond.methodLink "ThereAndBack" (269 : Nat) ({ cls := "ThereAndBack$Assign", name := "<init>", desc := "(ILThereAndBack$Expr;)V" } : Jvm.MethodName)) ∈ lw_all := lw_g (lw_at lw_m4 54 rfl) rfl
theorem q932 : (Jvm.Cond.classLink "ThereAndBack" (270 : Nat) "ThereAndBack$Let") ∈ lw_all := lw_g (lw_at lw_m4 68 rfl) rfl
theorem q934 : (Jvm.Cond.methodLink "ThereAndBack" (272 : Nat) ({ cls := "ThereAndBack$Let", name := "<init>", desc := "(ILThereAndBack$Expr;Z)V" } : Jvm.MethodName)) ∈ lw_all := lw_g (lw_at lw_m4 70 rfl) rfl
theorem q948 : (Jvm.Cond.methodLink "ThereAndBack" (207 : Nat) ({ cls := "ThereAndBack", name := "stackName", desc := "()I" } : Jvm.MethodName)) ∈ lw_all := lw_g (lw_at lw_m4 84 rfl) rfl
theorem q949 : (Jvm.Cond.privateMethod ({ cls := "ThereAndBack", name := "stackName", desc := "()I" } : Jvm.MethodName)) ∈ lw_tbl := lw_at lw_m4 85 rfl
theorem q950 : (Jvm.Cond.instanceMethod ({ cls := "ThereAndBack", name := "stackName", desc := "()I" } : Jvm.MethodName)) ∈ lw_all := lw_g (lw_at lw_m4 86 rfl) rfl
theorem q951 : (Jvm.Cond.code ({ cls := "ThereAndBack", name := "stackName", desc := "()I" } : Jvm.MethodName) prog_1_method_19_code (2 : Nat) (Option.some Jvm.ClassFile.FieldType.int)) ∈ lw_all := lw_g (lw_at lw_m4 87 rfl) rfl
theorem q952 : (Jvm.Cond.classLink "ThereAndBack" (214 : Nat) "ThereAndBack$Push") ∈ lw_all := lw_g (lw_at lw_m4 88 rfl) rfl
theorem q954 : (Jvm.Cond.methodLink "ThereAndBack" (216 : Nat) ({ cls := "ThereAndBack$Push", name := "<init>", desc := "(IIZ)V" } : Jvm.MethodName)) ∈ lw_all := lw_g (lw_at lw_m4 90 rfl) rfl
theorem q968 : (Jvm.Cond.methodLink "ThereAndBack" (219 : Nat) ({ cls := "ThereAndBack", name := "making", desc := "(I)LThereAndBack$Step;" } : Jvm.MethodName)) ∈ lw_all := lw_g (lw_at lw_m4 104 rfl) rfl
theorem q969 : (Jvm.Cond.privateMethod ({ cls := "ThereAndBack", name := "making", desc := "(I)LThereAndBack$Step;" } : Jvm.MethodName)) ∈ lw_tbl := lw_at lw_m4 105 rfl
theorem q970 : (Jvm.Cond.instanceMethod ({ cls := "ThereAndBack", name := "making", desc := "(I)LThereAndBack$Step;" } : Jvm.MethodName)) ∈ lw_all := lw_g (lw_at lw_m4 106 rfl) rfl
theorem q971 : (Jvm.Cond.code ({ cls := "ThereAndBack", name := "making", desc := "(I)LThereAndBack$Step;" } : Jvm.MethodName) prog_1_method_33_code (6 : Nat) (Option.some (Jvm.ClassFile.FieldType.object "ThereAndBack$Step"))) ∈ lw_all := lw_g (lw_at lw_m4 107 rfl) rfl
theorem q972 : (Jvm.Cond.stringRef "ThereAndBack" (275 : Nat) "int") ∈ lw_tbl := lw_at lw_m4 108 rfl
theorem q973 : (Jvm.Cond.stringRef "ThereAndBack" (277 : Nat) "long") ∈ lw_tbl := lw_at lw_m4 109 rfl
theorem q974 : (Jvm.Cond.stringRef "ThereAndBack" (279 : Nat) "short") ∈ lw_tbl := lw_at lw_m4 110 rfl
theorem q975 : (Jvm.Cond.stringRef "ThereAndBack" (281 : Nat) "byte") ∈ lw_tbl := lw_at lw_m4 111 rfl
theorem q976 : (Jvm.Cond.stringRef "ThereAndBack" (283 : Nat) "char") ∈ lw_tbl := lw_at lw_m4 112 rfl
theorem q977 : (Jvm.Cond.classLink "ThereAndBack" (285 : Nat) "ThereAndBack$New") ∈ lw_all := lw_g (lw_at lw_m4 113 rfl) rfl
theorem q979 : (Jvm.Cond.methodLink "ThereAndBack" (287 : Nat) ({ cls := "ThereAndBack$New", name := "<init>", desc := "(IILThereAndBack$Expr;Z)V" } : Jvm.MethodName)) ∈ lw_all := lw_g (lw_at lw_m4 115 rfl) rfl
theorem q996 : (Jvm.Cond.methodLink "ThereAndBack" (222 : Nat) ({ cls := "ThereAndBack", name := "calling", desc := "(I)LThereAndBack$Step;" } : Jvm.MethodName)) ∈ lw_all := lw_g (lw_at lw_m4 132 rfl) rfl
theorem q997 : (Jvm.Cond.privateMethod ({ cls := "ThereAndBack", name := "calling", desc := "(I)LThereAndBack$Step;" } : Jvm.MethodName)) ∈ lw_tbl := lw_at lw_m4 133 rfl
theorem q998 : (Jvm.Cond.instanceMethod ({ cls := "ThereAndBack", name := "calling", desc := "(I)LThereAndBack$Step;" } : Jvm.MethodName)) ∈ lw_all := lw_g (lw_at lw_m4 134 rfl) rfl
theorem q999 : (Jvm.Cond.code ({ cls := "ThereAndBack", name := "calling", desc := "(I)LThereAndBack$Step;" } : Jvm.MethodName) prog_1_method_34_code (4 : Nat) (Option.some (Jvm.ClassFile.FieldType.object "ThereAndBack$Step"))) ∈ lw_all := lw_g (lw_at lw_m4 135 rfl) rfl
theorem q1000 : (Jvm.Cond.classLink "ThereAndBack" (290 : Nat) "ThereAndBack$Call") ∈ lw_all := lw_g (lw_at lw_m4 136 rfl) rfl
theorem q1002 : (Jvm.Cond.methodLink "ThereAndBack" (292 : Nat) ({ cls := "ThereAndBack$Call", name := "<init>", desc := "(IZ)V" } : Jvm.MethodName)) ∈ lw_all := lw_g (lw_at lw_m4 138 rfl) rfl
theorem q1010 : (Jvm.Cond.fieldLinkNest "ThereAndBack" (573 : Nat) "ThereAndBack$Call" "calls" "Z" "ThereAndBack") ∈ lw_tbl := lw_at lw_m4 146 rfl
theorem q1016 : (Jvm.Cond.methodLink "ThereAndBack" (225 : Nat) ({ cls := "ThereAndBack", name := "block", desc := "(I)LThereAndBack$Part;" } : Jvm.MethodName)) ∈ lw_all := lw_g (lw_at lw_m4 152 rfl) rfl
theorem q1017 : (Jvm.Cond.privateMethod ({ cls := "ThereAndBack", name := "block", desc := "(I)LThereAndBack$Part;" } : Jvm.MethodName)) ∈ lw_tbl := lw_at lw_m4 153 rfl
theorem q1018 : (Jvm.Cond.instanceMethod ({ cls := "ThereAndBack", name := "block", desc := "(I)LThereAndBack$Part;" } : Jvm.MethodName)) ∈ lw_all := lw_g (lw_at lw_m4 154 rfl) rfl
theorem q1019 : (Jvm.Cond.code ({ cls := "ThereAndBack", name := "block", desc := "(I)LThereAndBack$Part;" } : Jvm.MethodName) prog_1_method_27_code (3 : Nat) (Option.some (Jvm.ClassFile.FieldType.object "ThereAndBack$Part"))) ∈ lw_all := lw_g (lw_at lw_m4 155 rfl) rfl
theorem q1020 : (Jvm.Cond.stringRef "ThereAndBack" (228 : Nat) "else") ∈ lw_tbl := lw_at lw_m4 156 rfl
theorem q1021 : (Jvm.Cond.methodLink "ThereAndBack" (230 : Nat) ({ cls := "ThereAndBack", name := "word", desc := "(Ljava/lang/String;)V" } : Jvm.MethodName)) ∈ lw_all := lw_g (lw_at lw_m4 157 rfl) rfl
theorem q1022 : (Jvm.Cond.privateMethod ({ cls := "ThereAndBack", name := "word", desc := "(Ljava/lang/String;)V" } : Jvm.MethodName)) ∈ lw_tbl := lw_at lw_m4 158 rfl
theorem q1023 : (Jvm.Cond.instanceMethod ({ cls := "ThereAndBack", name := "word", desc := "(Ljava/lang/String;)V" } : Jvm.MethodName)) ∈ lw_all := lw_g (lw_at lw_m4 159 rfl) rfl
theorem q1024 : (Jvm.Cond.code ({ cls := "ThereAndBack", name := "word", desc := "(Ljava/lang/String;)V" } : Jvm.MethodName) prog_1_method_16_code (2 : Nat) (Option.none : Option Jvm.ClassFile.FieldType)) ∈ lw_all := lw_g (lw_at lw_m4 160 rfl) rfl
theorem q1025 : (Jvm.Cond.stringRef "ThereAndBack" (234 : Nat) "fi") ∈ lw_tbl := lw_at lw_m4 161 rfl
theorem q1026 : (Jvm.Cond.classLink "ThereAndBack" (236 : Nat) "ThereAndBack$If") ∈ lw_all := lw_g (lw_at lw_m4 162 rfl) rfl
theorem q1028 : (Jvm.Cond.methodLink "ThereAndBack" (238 : Nat) ({ cls := "ThereAndBack$If", name := "<init>", desc := "(LThereAndBack$Expr;LThereAndBack$Part;LThereAndBack$Part;LThereAndBack$Expr;)V" } : Jvm.MethodName)) ∈ lw_all := lw_g (lw_at lw_m4 164 rfl) rfl
theorem q1068 : (Jvm.Cond.stringRef "ThereAndBack" (241 : Nat) "loop") ∈ lw_tbl := lw_at lw_m4 204 rfl
theorem q1069 : (Jvm.Cond.stringRef "ThereAndBack" (243 : Nat) "until") ∈ lw_tbl := lw_at lw_m4 205 rfl
theorem q1070 : (Jvm.Cond.classLink "ThereAndBack" (245 : Nat) "ThereAndBack$From") ∈ lw_all := lw_g (lw_at lw_m4 206 rfl) rfl
theorem q1072 : (Jvm.Cond.methodLink "ThereAndBack" (247 : Nat) ({ cls := "ThereAndBack$From", name := "<init>", desc := "(LThereAndBack$Expr;LThereAndBack$Part;LThereAndBack$Part;LThereAndBack$Expr;)V" } : Jvm.MethodName)) ∈ lw_all := lw_g (lw_at lw_m4 208 rfl) rfl
theorem q1081 : (Jvm.Cond.methodLink "ThereAndBack" (248 : Nat) ({ cls := "ThereAndBack", name := "testing", desc := "(II)LThereAndBack$Step;" } : Jvm.MethodName)) ∈ lw_all := lw_g (lw_at lw_m4 217 rfl) rfl
theorem q1082 : (Jvm.Cond.privateMethod ({ cls := "ThereAndBack", name := "testing", desc := "(II)LThereAndBack$Step;" } : Jvm.MethodName)) ∈ lw_tbl := lw_at lw_m4 218 rfl
theorem q1083 : (Jvm.Cond.instanceMethod ({ cls := "ThereAndBack", name := "testing", desc := "(II)LThereAndBack$Step;" } : Jvm.MethodName)) ∈ lw_all := lw_g (lw_at lw_m4 219 rfl) rfl
theorem q1084 : (Jvm.Cond.code ({ cls := "ThereAndBack", name := "testing", desc := "(II)LThereAndBack$Step;" } : Jvm.MethodName) prog_1_method_31_code (7 : Nat) (Option.some (Jvm.ClassFile.FieldType.object "ThereAndBack$Step"))) ∈ lw_all := lw_g (lw_at lw_m4 220 rfl) rfl
theorem q1085 : (Jvm.Cond.classLink "ThereAndBack" (252 : Nat) "ThereAndBack$While") ∈ lw_all := lw_g (lw_at lw_m4 221 rfl) rfl
theorem q1087 : (Jvm.Cond.methodLink "ThereAndBack" (254 : Nat) ({ cls := "ThereAndBack$While", name := "<init>", desc := "(LThereAndBack$Expr;LThereAndBack$Part;)V" } : Jvm.MethodName)) ∈ lw_all := lw_g (lw_at lw_m4 223 rfl) rfl
theorem q1098 : (Jvm.Cond.classLink "ThereAndBack" (257 : Nat) "ThereAndBack$When") ∈ lw_all := lw_g (lw_at lw_m4 234 rfl) rfl
theorem q1100 : (Jvm.Cond.methodLink "ThereAndBack" (259 : Nat) ({ cls := "ThereAndBack$When", name := "<init>", desc := "(LThereAndBack$Expr;LThereAndBack$Part;LThereAndBack$Part;)V" } : Jvm.MethodName)) ∈ lw_all := lw_g (lw_at lw_m4 236 rfl) rfl
theorem q1114 : (Jvm.Cond.interfaceEntry "ThereAndBack" (175 : Nat)) ∈ lw_tbl := lw_at lw_m5 10 rfl
theorem q1115 : (Jvm.Cond.methodLink "ThereAndBack" (175 : Nat) ({ cls := "java/util/List", name := "add", desc := "(Ljava/lang/Object;)Z" } : Jvm.MethodName)) ∈ lw_all := lw_g (lw_at lw_m5 11 rfl) rfl
theorem q1152 : (Jvm.Cond.selects "ThereAndBack" ({ cls := "java/lang/Object", name := "getClass", desc := "()Ljava/lang/Class;" } : Jvm.MethodName) ({ cls := "java/lang/Object", name := "getClass", desc := "()Ljava/lang/Class;" } : Jvm.MethodName)) ∈ lw_all := lw_g (lw_at lw_m5 48 rfl) rfl
theorem q1203 : (Jvm.Cond.methodLink "ThereAndBack" (461 : Nat) ({ cls := "ThereAndBack", name := "keep", desc := "(LThereAndBack$Part;I)I" } : Jvm.MethodName)) ∈ lw_all := lw_g (lw_at lw_m5 99 rfl) rfl
theorem q1204 : (Jvm.Cond.privateMethod ({ cls := "ThereAndBack", name := "keep", desc := "(LThereAndBack$Part;I)I" } : Jvm.MethodName)) ∈ lw_tbl := lw_at lw_m5 100 rfl
theorem q1205 : (Jvm.Cond.instanceMethod ({ cls := "ThereAndBack", name := "keep", desc := "(LThereAndBack$Part;I)I" } : Jvm.MethodName)) ∈ lw_all := lw_g (lw_at lw_m5 101 rfl) rfl
theorem q1206 : (Jvm.Cond.code ({ cls := "ThereAndBack", name := "keep", desc := "(LThereAndBack$Part;I)I" } : Jvm.MethodName) prog_1_method_47_code (3 : Nat) (Option.some Jvm.ClassFile.FieldType.int)) ∈ lw_all := lw_g (lw_at lw_m5 102 rfl) rfl
theorem q1208 : (Jvm.Cond.methodLink "ThereAndBack" (447 : Nat) ({ cls := "ThereAndBack$Routine", name := "<init>", desc := "(LThereAndBack$Part;)V" } : Jvm.MethodName)) ∈ lw_all := lw_g (lw_at lw_m5 104 rfl) rfl
theorem q1264 : (Jvm.Cond.fieldLinkNest "ThereAndBack" (570 : Nat) "ThereAndBack$Enter" "step" "LThereAndBack$Call;" "ThereAndBack") ∈ lw_tbl := lw_at lw_m5 160 rfl
theorem q1335 : (Jvm.Cond.fieldLinkNest "ThereAndBack" (468 : Nat) "ThereAndBack$Routine" "part" "LThereAndBack$Part;" "ThereAndBack") ∈ lw_tbl := lw_at lw_m5 231 rfl
theorem q1338 : (Jvm.Cond.fieldLinkNest "ThereAndBack" (546 : Nat) "ThereAndBack$Routine" "code" "Ljava/util/List;" "ThereAndBack") ∈ lw_tbl := lw_at lw_m5 234 rfl
theorem q1344 : (Jvm.Cond.methodLink "ThereAndBack" (450 : Nat) ({ cls := "ThereAndBack$Part", name := "code", desc := "()I" } : Jvm.MethodName)) ∈ lw_all := lw_g (lw_at lw_m6 0 rfl) rfl
theorem q1373 : (Jvm.Cond.instanceMethod ({ cls := "ThereAndBack", name := "fault", desc := "(I)I" } : Jvm.MethodName)) ∈ lw_all := lw_g (lw_at lw_m6 29 rfl) rfl
theorem q1374 : (Jvm.Cond.selects "ThereAndBack" ({ cls := "ThereAndBack", name := "fault", desc := "(I)I" } : Jvm.MethodName) ({ cls := "ThereAndBack", name := "fault", desc := "(I)I" } : Jvm.MethodName)) ∈ lw_all := lw_g (lw_at lw_m6 30 rfl) rfl
theorem q1375 : (Jvm.Cond.code ({ cls := "ThereAndBack", name := "fault", desc := "(I)I" } : Jvm.MethodName) prog_1_method_50_code (2 : Nat) (Option.some Jvm.ClassFile.FieldType.int)) ∈ lw_all := lw_g (lw_at lw_m6 31 rfl) rfl
theorem q1377 : (Jvm.Cond.instanceMethod ({ cls := "ThereAndBack", name := "drop", desc := "(I)I" } : Jvm.MethodName)) ∈ lw_all := lw_g (lw_at lw_m6 33 rfl) rfl
theorem q1378 : (Jvm.Cond.selects "ThereAndBack" ({ cls := "ThereAndBack", name := "drop", desc := "(I)I" } : Jvm.MethodName) ({ cls := "ThereAndBack", name := "drop", desc := "(I)I" } : Jvm.MethodName)) ∈ lw_all := lw_g (lw_at lw_m6 34 rfl) rfl
theorem q1379 : (Jvm.Cond.code ({ cls := "ThereAndBack", name := "drop", desc := "(I)I" } : Jvm.MethodName) prog_1_method_51_code (4 : Nat) (Option.some Jvm.ClassFile.FieldType.int)) ∈ lw_all := lw_g (lw_at lw_m6 35 rfl) rfl
theorem q1380 : (Jvm.Cond.methodLink "ThereAndBack" (465 : Nat) ({ cls := "ThereAndBack", name := "lacks", desc := "(I)I" } : Jvm.MethodName)) ∈ lw_all := lw_g (lw_at lw_m6 36 rfl) rfl
theorem q1381 : (Jvm.Cond.privateMethod ({ cls := "ThereAndBack", name := "lacks", desc := "(I)I" } : Jvm.MethodName)) ∈ lw_tbl := lw_at lw_m6 37 rfl
theorem q1382 : (Jvm.Cond.instanceMethod ({ cls := "ThereAndBack", name := "lacks", desc := "(I)I" } : Jvm.MethodName)) ∈ lw_all := lw_g (lw_at lw_m6 38 rfl) rfl
theorem q1383 : (Jvm.Cond.code ({ cls := "ThereAndBack", name := "lacks", desc := "(I)I" } : Jvm.MethodName) prog_1_method_46_code (2 : Nat) (Option.some Jvm.ClassFile.FieldType.int)) ∈ lw_all := lw_g (lw_at lw_m6 39 rfl) rfl
theorem q1385 : (Jvm.Cond.instanceMethod ({ cls := "ThereAndBack", name := "told", desc := "(II)I" } : Jvm.MethodName)) ∈ lw_all := lw_g (lw_at lw_m6 41 rfl) rfl
theorem q1386 : (Jvm.Cond.selects "ThereAndBack" ({ cls := "ThereAndBack", name := "told", desc := "(II)I" } : Jvm.MethodName) ({ cls := "ThereAndBack", name := "told", desc := "(II)I" } : Jvm.MethodName)) ∈ lw_all := lw_g (lw_at lw_m6 42 rfl) rfl
theorem q1387 : (Jvm.Cond.code ({ cls := "ThereAndBack", name := "told", desc := "(II)I" } : Jvm.MethodName) prog_1_method_52_code (4 : Nat) (Option.some Jvm.ClassFile.FieldType.int)) ∈ lw_all := lw_g (lw_at lw_m6 43 rfl) rfl
theorem q1388 : (Jvm.Cond.constantLong "ThereAndBack" (472 : Nat) (4 : Int64)) ∈ lw_all := lw_g (lw_at lw_m6 44 rfl) rfl
theorem q1389 : (Jvm.Cond.interfaceEntry "ThereAndBack" (474 : Nat)) ∈ lw_tbl := lw_at lw_m6 45 rfl
theorem q1390 : (Jvm.Cond.methodLink "ThereAndBack" (474 : Nat) ({ cls := "java/util/List", name := "size", desc := "()I" } : Jvm.MethodName)) ∈ lw_all := lw_g (lw_at lw_m6 46 rfl) rfl
theorem q1391 : (Jvm.Cond.methodLink "ThereAndBack" (475 : Nat) ({ cls := "ThereAndBack$Routine", name := "isOrdinary", desc := "()Z" } : Jvm.MethodName)) ∈ lw_all := lw_g (lw_at lw_m6 47 rfl) rfl
theorem q1424 : (Jvm.Cond.methodLink "ThereAndBack" (478 : Nat) ({ cls := "ThereAndBack$Part", name := "braces", desc := "()I" } : Jvm.MethodName)) ∈ lw_all := lw_g (lw_at lw_m6 80 rfl) rfl
theorem q1455 : (Jvm.Cond.methodLink "ThereAndBack" (481 : Nat) ({ cls := "ThereAndBack$Part", name := "names", desc := "()I" } : Jvm.MethodName)) ∈ lw_all := lw_g (lw_at lw_m6 111 rfl) rfl
theorem q1524 : (Jvm.Cond.instanceMethod ({ cls := "ThereAndBack", name := "print", desc := "(I)I" } : Jvm.MethodName)) ∈ lw_all := lw_g (lw_at lw_m6 180 rfl) rfl
theorem q1525 : (Jvm.Cond.selects "ThereAndBack" ({ cls := "ThereAndBack", name := "print", desc := "(I)I" } : Jvm.MethodName) ({ cls := "ThereAndBack", name := "print", desc := "(I)I" } : Jvm.MethodName)) ∈ lw_all := lw_g (lw_at lw_m6 181 rfl) rfl
theorem q1526 : (Jvm.Cond.code ({ cls := "ThereAndBack", name := "print", desc := "(I)I" } : Jvm.MethodName) prog_1_method_62_code (3 : Nat) (Option.some Jvm.ClassFile.FieldType.int)) ∈ lw_all := lw_g (lw_at lw_m6 182 rfl) rfl
theorem q1527 : (Jvm.Cond.methodLink "ThereAndBack" (504 : Nat) ({ cls := "ThereAndBack", name := "printSpare", desc := "(LThereAndBack$Routine;)I" } : Jvm.MethodName)) ∈ lw_all := lw_g (lw_at lw_m6 183 rfl) rfl
theorem q1528 : (Jvm.Cond.privateMethod ({ cls := "ThereAndBack", name := "printSpare", desc := "(LThereAndBack$Routine;)I" } : Jvm.MethodName)) ∈ lw_tbl := lw_at lw_m6 184 rfl
theorem q1529 : (Jvm.Cond.instanceMethod ({ cls := "ThereAndBack", name := "printSpare", desc := "(LThereAndBack$Routine;)I" } : Jvm.MethodName)) ∈ lw_all := lw_g (lw_at lw_m6 185 rfl) rfl
theorem q1530 : (Jvm.Cond.code ({ cls := "ThereAndBack", name := "printSpare", desc := "(LThereAndBack$Routine;)I" } : Jvm.MethodName) prog_1_method_61_code (2 : Nat) (Option.some Jvm.ClassFile.FieldType.int)) ∈ lw_all := lw_g (lw_at lw_m6 186 rfl) rfl
theorem q1531 : (Jvm.Cond.methodLink "ThereAndBack" (500 : Nat) ({ cls := "ThereAndBack$Part", name := "print", desc := "(LThereAndBack;)V" } : Jvm.MethodName)) ∈ lw_all := lw_g (lw_at lw_m6 187 rfl) rfl
theorem q1543 : (Jvm.Cond.privateMethod ({ cls := "ThereAndBack", name := "printWord", desc := "(Ljava/lang/String;)V" } : Jvm.MethodName)) ∈ lw_tbl := lw_at lw_m6 199 rfl
theorem q1544 : (Jvm.Cond.instanceMethod ({ cls := "ThereAndBack", name := "printWord", desc := "(Ljava/lang/String;)V" } : Jvm.MethodName)) ∈ lw_all := lw_g (lw_at lw_m6 200 rfl) rfl
theorem q1545 : (Jvm.Cond.code ({ cls := "ThereAndBack", name := "printWord", desc := "(Ljava/lang/String;)V" } : Jvm.MethodName) prog_1_method_56_code (3 : Nat) (Option.none : Option Jvm.ClassFile.FieldType)) ∈ lw_all := lw_g (lw_at lw_m6 201 rfl) rfl
theorem q1546 : (Jvm.Cond.methodLink "ThereAndBack" (494 : Nat) ({ cls := "ThereAndBack", name := "blank", desc := "()V" } : Jvm.MethodName)) ∈ lw_all := lw_g (lw_at lw_m6 202 rfl) rfl
theorem q1547 : (Jvm.Cond.privateMethod ({ cls := "ThereAndBack", name := "blank", desc := "()V" } : Jvm.MethodName)) ∈ lw_tbl := lw_at lw_m6 203 rfl
theorem q1548 : (Jvm.Cond.instanceMethod ({ cls := "ThereAndBack", name := "blank", desc := "()V" } : Jvm.MethodName)) ∈ lw_all := lw_g (lw_at lw_m6 204 rfl) rfl
theorem q1549 : (Jvm.Cond.code ({ cls := "ThereAndBack", name := "blank", desc := "()V" } : Jvm.MethodName) prog_1_method_54_code (1 : Nat) (Option.none : Option Jvm.ClassFile.FieldType)) ∈ lw_all := lw_g (lw_at lw_m6 205 rfl) rfl
theorem q1550 : (Jvm.Cond.methodLink "ThereAndBack" (491 : Nat) ({ cls := "ThereAndBack", name := "emit", desc := "(I)V" } : Jvm.MethodName)) ∈ lw_all := lw_g (lw_at lw_m6 206 rfl) rfl
theorem q1551 : (Jvm.Cond.privateMethod ({ cls := "ThereAndBack", name := "emit", desc := "(I)V" } : Jvm.MethodName)) ∈ lw_tbl := lw_at lw_m6 207 rfl
theorem q1552 : (Jvm.Cond.instanceMethod ({ cls := "ThereAndBack", name := "emit", desc := "(I)V" } : Jvm.MethodName)) ∈ lw_all := lw_g (lw_at lw_m6 208 rfl) rfl
theorem q1553 : (Jvm.Cond.code ({ cls := "ThereAndBack", name := "emit", desc := "(I)V" } : Jvm.MethodName) prog_1_method_53_code (2 : Nat) (Option.none : Option Jvm.ClassFile.FieldType)) ∈ lw_all := lw_g (lw_at lw_m6 209 rfl) rfl
theorem q1555 : (Jvm.Cond.privateMethod ({ cls := "ThereAndBack", name := "printSign", desc := "(I)V" } : Jvm.MethodName)) ∈ lw_tbl := lw_at lw_m6 211 rfl
theorem q1556 : (Jvm.Cond.instanceMethod ({ cls := "ThereAndBack", name := "printSign", desc := "(I)V" } : Jvm.MethodName)) ∈ lw_all := lw_g (lw_at lw_m6 212 rfl) rfl
theorem q1557 : (Jvm.Cond.code ({ cls := "ThereAndBack", name := "printSign", desc := "(I)V" } : Jvm.MethodName) prog_1_method_55_code (2 : Nat) (Option.none : Option Jvm.ClassFile.FieldType)) ∈ lw_all := lw_g (lw_at lw_m6 213 rfl) rfl
theorem q1565 : (Jvm.Cond.privateMethod ({ cls := "ThereAndBack", name := "printOpen", desc := "(I)V" } : Jvm.MethodName)) ∈ lw_tbl := lw_at lw_m6 221 rfl
theorem q1566 : (Jvm.Cond.instanceMethod ({ cls := "ThereAndBack", name := "printOpen", desc := "(I)V" } : Jvm.MethodName)) ∈ lw_all := lw_g (lw_at lw_m6 222 rfl) rfl
theorem q1567 : (Jvm.Cond.code ({ cls := "ThereAndBack", name := "printOpen", desc := "(I)V" } : Jvm.MethodName) prog_1_method_58_code (2 : Nat) (Option.none : Option Jvm.ClassFile.FieldType)) ∈ lw_all := lw_g (lw_at lw_m6 223 rfl) rfl
theorem q1568 : (Jvm.Cond.methodLink "ThereAndBack" (497 : Nat) ({ cls := "ThereAndBack", name := "printSign", desc := "(I)V" } : Jvm.MethodName)) ∈ lw_all := lw_g (lw_at lw_m6 224 rfl) rfl
theorem q1577 : (Jvm.Cond.privateMethod ({ cls := "ThereAndBack", name := "printJoined", desc := "(I)V" } : Jvm.MethodName)) ∈ lw_tbl := lw_at lw_m6 233 rfl
theorem q1578 : (Jvm.Cond.instanceMethod ({ cls := "ThereAndBack", name := "printJoined", desc := "(I)V" } : Jvm.MethodName)) ∈ lw_all := lw_g (lw_at lw_m6 234 rfl) rfl
theorem q1579 : (Jvm.Cond.code ({ cls := "ThereAndBack", name := "printJoined", desc := "(I)V" } : Jvm.MethodName) prog_1_method_60_code (2 : Nat) (Option.none : Option Jvm.ClassFile.FieldType)) ∈ lw_all := lw_g (lw_at lw_m6 235 rfl) rfl
theorem q1591 : (Jvm.Cond.privateMethod ({ cls := "ThereAndBack", name := "printNumber", desc := "(I)V" } : Jvm.MethodName)) ∈ lw_tbl := lw_at lw_m7 7 rfl
theorem q1592 : (Jvm.Cond.instanceMethod ({ cls := "ThereAndBack", name := "printNumber", desc := "(I)V" } : Jvm.MethodName)) ∈ lw_all := lw_g (lw_at lw_m7 8 rfl) rfl
theorem q1593 : (Jvm.Cond.code ({ cls := "ThereAndBack", name := "printNumber", desc := "(I)V" } : Jvm.MethodName) prog_1_method_57_code (4 : Nat) (Option.none : Option Jvm.ClassFile.FieldType)) ∈ lw_all := lw_g (lw_at lw_m7 9 rfl) rfl
theorem q1603 : (Jvm.Cond.privateMethod ({ cls := "ThereAndBack", name := "printBehind", desc := "(I)V" } : Jvm.MethodName)) ∈ lw_tbl := lw_at lw_m7 19 rfl
theorem q1604 : (Jvm.Cond.instanceMethod ({ cls := "ThereAndBack", name := "printBehind", desc := "(I)V" } : Jvm.MethodName)) ∈ lw_all := lw_g (lw_at lw_m7 20 rfl) rfl
theorem q1605 : (Jvm.Cond.code ({ cls := "ThereAndBack", name := "printBehind", desc := "(I)V" } : Jvm.MethodName) prog_1_method_59_code (2 : Nat) (Option.none : Option Jvm.ClassFile.FieldType)) ∈ lw_all := lw_g (lw_at lw_m7 21 rfl) rfl
theorem q1730 : (Jvm.Cond.methodLink "ThereAndBack" (511 : Nat) ({ cls := "java/lang/System", name := "arraycopy", desc := "(Ljava/lang/Object;ILjava/lang/Object;II)V" } : Jvm.MethodName)) ∈ lw_all := lw_g (lw_at lw_m7 146 rfl) rfl
theorem q1732 : (Jvm.Cond.instanceMethod ({ cls := "ThereAndBack", name := "out", desc := "(I)I" } : Jvm.MethodName)) ∈ lw_all := lw_g (lw_at lw_m7 148 rfl) rfl
theorem q1733 : (Jvm.Cond.selects "ThereAndBack" ({ cls := "ThereAndBack", name := "out", desc := "(I)I" } : Jvm.MethodName) ({ cls := "ThereAndBack", name := "out", desc := "(I)I" } : Jvm.MethodName)) ∈ lw_all := lw_g (lw_at lw_m7 149 rfl) rfl
theorem q1734 : (Jvm.Cond.code ({ cls := "ThereAndBack", name := "out", desc := "(I)I" } : Jvm.MethodName) prog_1_method_63_code (2 : Nat) (Option.some Jvm.ClassFile.FieldType.int)) ∈ lw_all := lw_g (lw_at lw_m7 150 rfl) rfl
theorem q1736 : (Jvm.Cond.instanceMethod ({ cls := "ThereAndBack", name := "take", desc := "()I" } : Jvm.MethodName)) ∈ lw_all := lw_g (lw_at lw_m7 152 rfl) rfl
theorem q1737 : (Jvm.Cond.selects "ThereAndBack" ({ cls := "ThereAndBack", name := "take", desc := "()I" } : Jvm.MethodName) ({ cls := "ThereAndBack", name := "take", desc := "()I" } : Jvm.MethodName)) ∈ lw_all := lw_g (lw_at lw_m7 153 rfl) rfl
theorem q1738 : (Jvm.Cond.code ({ cls := "ThereAndBack", name := "take", desc := "()I" } : Jvm.MethodName) prog_1_method_64_code (1 : Nat) (Option.some Jvm.ClassFile.FieldType.int)) ∈ lw_all := lw_g (lw_at lw_m7 154 rfl) rfl
theorem q1740 : (Jvm.Cond.instanceMethod ({ cls := "ThereAndBack", name := "same", desc := "(II)I" } : Jvm.MethodName)) ∈ lw_all := lw_g (lw_at lw_m7 156 rfl) rfl
theorem q1741 : (Jvm.Cond.selects "ThereAndBack" ({ cls := "ThereAndBack", name := "same", desc := "(II)I" } : Jvm.MethodName) ({ cls := "ThereAndBack", name := "same", desc := "(II)I" } : Jvm.MethodName)) ∈ lw_all := lw_g (lw_at lw_m7 157 rfl) rfl
theorem q1742 : (Jvm.Cond.code ({ cls := "ThereAndBack", name := "same", desc := "(II)I" } : Jvm.MethodName) prog_1_method_65_code (7 : Nat) (Option.some Jvm.ClassFile.FieldType.int)) ∈ lw_all := lw_g (lw_at lw_m7 158 rfl) rfl
theorem q1744 : (Jvm.Cond.instanceMethod ({ cls := "ThereAndBack", name := "mirror", desc := "(II)I" } : Jvm.MethodName)) ∈ lw_all := lw_g (lw_at lw_m7 160 rfl) rfl
theorem q1745 : (Jvm.Cond.selects "ThereAndBack" ({ cls := "ThereAndBack", name := "mirror", desc := "(II)I" } : Jvm.MethodName) ({ cls := "ThereAndBack", name := "mirror", desc := "(II)I" } : Jvm.MethodName)) ∈ lw_all := lw_g (lw_at lw_m7 161 rfl) rfl
theorem q1746 : (Jvm.Cond.code ({ cls := "ThereAndBack", name := "mirror", desc := "(II)I" } : Jvm.MethodName) prog_1_method_66_code (5 : Nat) (Option.some Jvm.ClassFile.FieldType.int)) ∈ lw_all := lw_g (lw_at lw_m7 162 rfl) rfl
theorem q1747 : (Jvm.Cond.methodLink "ThereAndBack" (517 : Nat) ({ cls := "ThereAndBack$Part", name := "mirror", desc := "()LThereAndBack$Part;" } : Jvm.MethodName)) ∈ lw_all := lw_g (lw_at lw_m7 163 rfl) rfl
theorem q1807 : (Jvm.Cond.instanceMethod ({ cls := "ThereAndBack", name := "turn", desc := "(II)I" } : Jvm.MethodName)) ∈ lw_all := lw_g (lw_at lw_m7 223 rfl) rfl
theorem q1808 : (Jvm.Cond.selects "ThereAndBack" ({ cls := "ThereAndBack", name := "turn", desc := "(II)I" } : Jvm.MethodName) ({ cls := "ThereAndBack", name := "turn", desc := "(II)I" } : Jvm.MethodName)) ∈ lw_all := lw_g (lw_at lw_m7 224 rfl) rfl
theorem q1809 : (Jvm.Cond.code ({ cls := "ThereAndBack", name := "turn", desc := "(II)I" } : Jvm.MethodName) prog_1_method_67_code (6 : Nat) (Option.some Jvm.ClassFile.FieldType.int)) ∈ lw_all := lw_g (lw_at lw_m7 225 rfl) rfl
theorem q1810 : (Jvm.Cond.methodLink "ThereAndBack" (521 : Nat) ({ cls := "ThereAndBack$Part", name := "turned", desc := "(I)LThereAndBack$Part;" } : Jvm.MethodName)) ∈ lw_all := lw_g (lw_at lw_m7 226 rfl) rfl
theorem q1909 : (Jvm.Cond.instanceMethod ({ cls := "ThereAndBack", name := "walk", desc := "(II)I" } : Jvm.MethodName)) ∈ lw_all := lw_g (lw_at lw_m8 85 rfl) rfl
theorem q1910 : (Jvm.Cond.selects "ThereAndBack" ({ cls := "ThereAndBack", name := "walk", desc := "(II)I" } : Jvm.MethodName) ({ cls := "ThereAndBack", name := "walk", desc := "(II)I" } : Jvm.MethodName)) ∈ lw_all := lw_g (lw_at lw_m8 86 rfl) rfl
theorem q1911 : (Jvm.Cond.codeWith ({ cls := "ThereAndBack", name := "walk", desc := "(II)I" } : Jvm.MethodName) prog_1_method_68_code (5 : Nat) (Option.some Jvm.ClassFile.FieldType.int) [((52 : Nat), (60 : Nat), (63 : Nat), (340 : Nat))]) ∈ lw_all := lw_g (lw_at lw_m8 87 rfl) rfl
theorem q1912 : (Jvm.Cond.constantLong "ThereAndBack" (524 : Nat) (400 : Int64)) ∈ lw_all := lw_g (lw_at lw_m8 88 rfl) rfl
theorem q1913 : (Jvm.Cond.methodLink "ThereAndBack" (526 : Nat) ({ cls := "ThereAndBack$Part", name := "walk", desc := "(LThereAndBack;)V" } : Jvm.MethodName)) ∈ lw_all := lw_g (lw_at lw_m8 89 rfl) rfl
theorem q1924 : (Jvm.Cond.privateMethod ({ cls := "ThereAndBack", name := "move", desc := "()V" } : Jvm.MethodName)) ∈ lw_tbl := lw_at lw_m8 100 rfl
theorem q1925 : (Jvm.Cond.instanceMethod ({ cls := "ThereAndBack", name := "move", desc := "()V" } : Jvm.MethodName)) ∈ lw_all := lw_g (lw_at lw_m8 101 rfl) rfl
theorem q1926 : (Jvm.Cond.code ({ cls := "ThereAndBack", name := "move", desc := "()V" } : Jvm.MethodName) prog_1_method_44_code (1 : Nat) (Option.none : Option Jvm.ClassFile.FieldType)) ∈ lw_all := lw_g (lw_at lw_m8 102 rfl) rfl
theorem q1943 : (Jvm.Cond.privateMethod ({ cls := "ThereAndBack", name := "readName", desc := "(LThereAndBack$Name;)J" } : Jvm.MethodName)) ∈ lw_tbl := lw_at lw_m8 119 rfl
theorem q1944 : (Jvm.Cond.instanceMethod ({ cls := "ThereAndBack", name := "readName", desc := "(LThereAndBack$Name;)J" } : Jvm.MethodName)) ∈ lw_all := lw_g (lw_at lw_m8 120 rfl) rfl
theorem q1945 : (Jvm.Cond.code ({ cls := "ThereAndBack", name := "readName", desc := "(LThereAndBack$Name;)J" } : Jvm.MethodName) prog_1_method_40_code (2 : Nat) (Option.some Jvm.ClassFile.FieldType.long)) ∈ lw_all := lw_g (lw_at lw_m8 121 rfl) rfl
theorem q1954 : (Jvm.Cond.privateMethod ({ cls := "ThereAndBack", name := "rowOf", desc := "(I)LThereAndBack$Holder;" } : Jvm.MethodName)) ∈ lw_tbl := lw_at lw_m8 130 rfl
theorem q1955 : (Jvm.Cond.instanceMethod ({ cls := "ThereAndBack", name := "rowOf", desc := "(I)LThereAndBack$Holder;" } : Jvm.MethodName)) ∈ lw_all := lw_g (lw_at lw_m8 131 rfl) rfl
theorem q1956 : (Jvm.Cond.code ({ cls := "ThereAndBack", name := "rowOf", desc := "(I)LThereAndBack$Holder;" } : Jvm.MethodName) prog_1_method_41_code (2 : Nat) (Option.some (Jvm.ClassFile.FieldType.object "ThereAndBack$Holder"))) ∈ lw_all := lw_g (lw_at lw_m8 132 rfl) rfl
theorem q1967 : (Jvm.Cond.privateMethod ({ cls := "ThereAndBack", name := "readItem", desc := "(IJ)J" } : Jvm.MethodName)) ∈ lw_tbl := lw_at lw_m8 143 rfl
theorem q1968 : (Jvm.Cond.instanceMethod ({ cls := "ThereAndBack", name := "readItem", desc := "(IJ)J" } : Jvm.MethodName)) ∈ lw_all := lw_g (lw_at lw_m8 144 rfl) rfl
theorem q1969 : (Jvm.Cond.code ({ cls := "ThereAndBack", name := "readItem", desc := "(IJ)J" } : Jvm.MethodName) prog_1_method_43_code (5 : Nat) (Option.some Jvm.ClassFile.FieldType.long)) ∈ lw_all := lw_g (lw_at lw_m8 145 rfl) rfl
theorem q1970 : (Jvm.Cond.methodLink "ThereAndBack" (428 : Nat) ({ cls := "ThereAndBack", name := "placeOf", desc := "(IJ)I" } : Jvm.MethodName)) ∈ lw_all := lw_g (lw_at lw_m8 146 rfl) rfl
theorem q1971 : (Jvm.Cond.privateMethod ({ cls := "ThereAndBack", name := "placeOf", desc := "(IJ)I" } : Jvm.MethodName)) ∈ lw_tbl := lw_at lw_m8 147 rfl
theorem q1972 : (Jvm.Cond.instanceMethod ({ cls := "ThereAndBack", name := "placeOf", desc := "(IJ)I" } : Jvm.MethodName)) ∈ lw_all := lw_g (lw_at lw_m8 148 rfl) rfl
theorem q1973 : (Jvm.Cond.code ({ cls := "ThereAndBack", name := "placeOf", desc := "(IJ)I" } : Jvm.MethodName) prog_1_method_42_code (4 : Nat) (Option.some Jvm.ClassFile.FieldType.int)) ∈ lw_all := lw_g (lw_at lw_m8 149 rfl) rfl
theorem q1974 : (Jvm.Cond.methodLink "ThereAndBack" (417 : Nat) ({ cls := "ThereAndBack", name := "rowOf", desc := "(I)LThereAndBack$Holder;" } : Jvm.MethodName)) ∈ lw_all := lw_g (lw_at lw_m8 150 rfl) rfl
theorem q1975 : (Jvm.Cond.methodLink "ThereAndBack" (421 : Nat) ({ cls := "ThereAndBack$Holder", name := "size", desc := "()I" } : Jvm.MethodName)) ∈ lw_all := lw_g (lw_at lw_m8 151 rfl) rfl
theorem q1976 : (Jvm.Cond.methodLink "ThereAndBack" (432 : Nat) ({ cls := "ThereAndBack$Holder", name := "get", desc := "(I)J" } : Jvm.MethodName)) ∈ lw_all := lw_g (lw_at lw_m8 152 rfl) rfl
theorem q2022 : (Jvm.Cond.instanceMethod ({ cls := "ThereAndBack", name := "wipe", desc := "()I" } : Jvm.MethodName)) ∈ lw_all := lw_g (lw_at lw_m8 198 rfl) rfl
theorem q2023 : (Jvm.Cond.selects "ThereAndBack" ({ cls := "ThereAndBack", name := "wipe", desc := "()I" } : Jvm.MethodName) ({ cls := "ThereAndBack", name := "wipe", desc := "()I" } : Jvm.MethodName)) ∈ lw_all := lw_g (lw_at lw_m8 199 rfl) rfl
theorem q2024 : (Jvm.Cond.code ({ cls := "ThereAndBack", name := "wipe", desc := "()I" } : Jvm.MethodName) prog_1_method_69_code (3 : Nat) (Option.some Jvm.ClassFile.FieldType.int)) ∈ lw_all := lw_g (lw_at lw_m8 200 rfl) rfl
theorem q2026 : (Jvm.Cond.instanceMethod ({ cls := "ThereAndBack", name := "give", desc := "(II)I" } : Jvm.MethodName)) ∈ lw_all := lw_g (lw_at lw_m8 202 rfl) rfl
theorem q2027 : (Jvm.Cond.selects "ThereAndBack" ({ cls := "ThereAndBack", name := "give", desc := "(II)I" } : Jvm.MethodName) ({ cls := "ThereAndBack", name := "give", desc := "(II)I" } : Jvm.MethodName)) ∈ lw_all := lw_g (lw_at lw_m8 203 rfl) rfl
theorem q2028 : (Jvm.Cond.code ({ cls := "ThereAndBack", name := "give", desc := "(II)I" } : Jvm.MethodName) prog_1_method_71_code (4 : Nat) (Option.some Jvm.ClassFile.FieldType.int)) ∈ lw_all := lw_g (lw_at lw_m8 204 rfl) rfl
theorem q2029 : (Jvm.Cond.methodLink "ThereAndBack" (534 : Nat) ({ cls := "ThereAndBack", name := "isName", desc := "(I)Z" } : Jvm.MethodName)) ∈ lw_all := lw_g (lw_at lw_m8 205 rfl) rfl
theorem q2030 : (Jvm.Cond.static ({ cls := "ThereAndBack", name := "isName", desc := "(I)Z" } : Jvm.MethodName)) ∈ lw_all := lw_g (lw_at lw_m8 206 rfl) rfl
theorem q2031 : (Jvm.Cond.code ({ cls := "ThereAndBack", name := "isName", desc := "(I)Z" } : Jvm.MethodName) prog_1_method_70_code (1 : Nat) (Option.some Jvm.ClassFile.FieldType.boolean)) ∈ lw_all := lw_g (lw_at lw_m8 207 rfl) rfl
theorem q2032 : (Jvm.Cond.constantLong "ThereAndBack" (532 : Nat) (25 : Int64)) ∈ lw_all := lw_g (lw_at lw_m8 208 rfl) rfl
theorem q2034 : (Jvm.Cond.instanceMethod ({ cls := "ThereAndBack", name := "has", desc := "(I)I" } : Jvm.MethodName)) ∈ lw_all := lw_g (lw_at lw_m8 210 rfl) rfl
theorem q2035 : (Jvm.Cond.selects "ThereAndBack" ({ cls := "ThereAndBack", name := "has", desc := "(I)I" } : Jvm.MethodName) ({ cls := "ThereAndBack", name := "has", desc := "(I)I" } : Jvm.MethodName)) ∈ lw_all := lw_g (lw_at lw_m8 211 rfl) rfl
theorem q2036 : (Jvm.Cond.code ({ cls := "ThereAndBack", name := "has", desc := "(I)I" } : Jvm.MethodName) prog_1_method_72_code (2 : Nat) (Option.some Jvm.ClassFile.FieldType.int)) ∈ lw_all := lw_g (lw_at lw_m8 212 rfl) rfl
theorem q2038 : (Jvm.Cond.instanceMethod ({ cls := "ThereAndBack", name := "value", desc := "(I)I" } : Jvm.MethodName)) ∈ lw_all := lw_g (lw_at lw_m8 214 rfl) rfl
theorem q2039 : (Jvm.Cond.selects "ThereAndBack" ({ cls := "ThereAndBack", name := "value", desc := "(I)I" } : Jvm.MethodName) ({ cls := "ThereAndBack", name := "value", desc := "(I)I" } : Jvm.MethodName)) ∈ lw_all := lw_g (lw_at lw_m8 215 rfl) rfl
theorem q2040 : (Jvm.Cond.code ({ cls := "ThereAndBack", name := "value", desc := "(I)I" } : Jvm.MethodName) prog_1_method_73_code (2 : Nat) (Option.some Jvm.ClassFile.FieldType.int)) ∈ lw_all := lw_g (lw_at lw_m8 216 rfl) rfl
theorem q2042 : (Jvm.Cond.instanceMethod ({ cls := "ThereAndBack", name := "row", desc := "(II)I" } : Jvm.MethodName)) ∈ lw_all := lw_g (lw_at lw_m8 218 rfl) rfl
theorem q2043 : (Jvm.Cond.selects "ThereAndBack" ({ cls := "ThereAndBack", name := "row", desc := "(II)I" } : Jvm.MethodName) ({ cls := "ThereAndBack", name := "row", desc := "(II)I" } : Jvm.MethodName)) ∈ lw_all := lw_g (lw_at lw_m8 219 rfl) rfl
theorem q2044 : (Jvm.Cond.code ({ cls := "ThereAndBack", name := "row", desc := "(II)I" } : Jvm.MethodName) prog_1_method_75_code (3 : Nat) (Option.some Jvm.ClassFile.FieldType.int)) ∈ lw_all := lw_g (lw_at lw_m8 220 rfl) rfl
theorem q2045 : (Jvm.Cond.methodLink "ThereAndBack" (538 : Nat) ({ cls := "ThereAndBack", name := "isRow", desc := "(I)Z" } : Jvm.MethodName)) ∈ lw_all := lw_g (lw_at lw_m8 221 rfl) rfl
theorem q2046 : (Jvm.Cond.static ({ cls := "ThereAndBack", name := "isRow", desc := "(I)Z" } : Jvm.MethodName)) ∈ lw_all := lw_g (lw_at lw_m8 222 rfl) rfl
theorem q2047 : (Jvm.Cond.code ({ cls := "ThereAndBack", name := "isRow", desc := "(I)Z" } : Jvm.MethodName) prog_1_method_74_code (1 : Nat) (Option.some Jvm.ClassFile.FieldType.boolean)) ∈ lw_all := lw_g (lw_at lw_m8 223 rfl) rfl
theorem q2048 : (Jvm.Cond.constantLong "ThereAndBack" (536 : Nat) (5 : Int64)) ∈ lw_all := lw_g (lw_at lw_m8 224 rfl) rfl
theorem q2049 : (Jvm.Cond.methodLink "ThereAndBack" (541 : Nat) ({ cls := "ThereAndBack$Holder", name := "kind", desc := "()I" } : Jvm.MethodName)) ∈ lw_all := lw_g (lw_at lw_m8 225 rfl) rfl
theorem q2054 : (Jvm.Cond.instanceMethod ({ cls := "ThereAndBack", name := "item", desc := "(II)J" } : Jvm.MethodName)) ∈ lw_all := lw_g (lw_at lw_m8 230 rfl) rfl
theorem q2055 : (Jvm.Cond.selects "ThereAndBack" ({ cls := "ThereAndBack", name := "item", desc := "(II)J" } : Jvm.MethodName) ({ cls := "ThereAndBack", name := "item", desc := "(II)J" } : Jvm.MethodName)) ∈ lw_all := lw_g (lw_at lw_m8 231 rfl) rfl
theorem q2056 : (Jvm.Cond.code ({ cls := "ThereAndBack", name := "item", desc := "(II)J" } : Jvm.MethodName) prog_1_method_76_code (3 : Nat) (Option.some Jvm.ClassFile.FieldType.long)) ∈ lw_all := lw_g (lw_at lw_m8 232 rfl) rfl
theorem q2058 : (Jvm.Cond.instanceMethod ({ cls := "ThereAndBack", name := "height", desc := "(I)I" } : Jvm.MethodName)) ∈ lw_all := lw_g (lw_at lw_m8 234 rfl) rfl
theorem q2059 : (Jvm.Cond.selects "ThereAndBack" ({ cls := "ThereAndBack", name := "height", desc := "(I)I" } : Jvm.MethodName) ({ cls := "ThereAndBack", name := "height", desc := "(I)I" } : Jvm.MethodName)) ∈ lw_all := lw_g (lw_at lw_m8 235 rfl) rfl
theorem q2060 : (Jvm.Cond.code ({ cls := "ThereAndBack", name := "height", desc := "(I)I" } : Jvm.MethodName) prog_1_method_77_code (2 : Nat) (Option.some Jvm.ClassFile.FieldType.int)) ∈ lw_all := lw_g (lw_at lw_m8 236 rfl) rfl
theorem q2061 : (Jvm.Cond.constantLong "ThereAndBack" (544 : Nat) (3 : Int64)) ∈ lw_all := lw_g (lw_at lw_m8 237 rfl) rfl
theorem q2063 : (Jvm.Cond.instanceMethod ({ cls := "ThereAndBack", name := "piled", desc := "(II)I" } : Jvm.MethodName)) ∈ lw_all := lw_g (lw_at lw_m8 239 rfl) rfl
theorem q2064 : (Jvm.Cond.selects "ThereAndBack" ({ cls := "ThereAndBack", name := "piled", desc := "(II)I" } : Jvm.MethodName) ({ cls := "ThereAndBack", name := "piled", desc := "(II)I" } : Jvm.MethodName)) ∈ lw_all := lw_g (lw_at lw_m9 0 rfl) rfl
theorem q2065 : (Jvm.Cond.code ({ cls := "ThereAndBack", name := "piled", desc := "(II)I" } : Jvm.MethodName) prog_1_method_78_code (3 : Nat) (Option.some Jvm.ClassFile.FieldType.int)) ∈ lw_all := lw_g (lw_at lw_m9 1 rfl) rfl
theorem q2067 : (Jvm.Cond.instanceMethod ({ cls := "ThereAndBack", name := "begin", desc := "(IZ)I" } : Jvm.MethodName)) ∈ lw_all := lw_g (lw_at lw_m9 3 rfl) rfl
theorem q2068 : (Jvm.Cond.selects "ThereAndBack" ({ cls := "ThereAndBack", name := "begin", desc := "(IZ)I" } : Jvm.MethodName) ({ cls := "ThereAndBack", name := "begin", desc := "(IZ)I" } : Jvm.MethodName)) ∈ lw_all := lw_g (lw_at lw_m9 4 rfl) rfl
theorem q2069 : (Jvm.Cond.code ({ cls := "ThereAndBack", name := "begin", desc := "(IZ)I" } : Jvm.MethodName) prog_1_method_79_code (5 : Nat) (Option.some Jvm.ClassFile.FieldType.int)) ∈ lw_all := lw_g (lw_at lw_m9 5 rfl) rfl
theorem q2071 : (Jvm.Cond.instanceMethod ({ cls := "ThereAndBack", name := "go", desc := "(Z)I" } : Jvm.MethodName)) ∈ lw_all := lw_g (lw_at lw_m9 7 rfl) rfl
theorem q2072 : (Jvm.Cond.selects "ThereAndBack" ({ cls := "ThereAndBack", name := "go", desc := "(Z)I" } : Jvm.MethodName) ({ cls := "ThereAndBack", name := "go", desc := "(Z)I" } : Jvm.MethodName)) ∈ lw_all := lw_g (lw_at lw_m9 8 rfl) rfl
theorem q2073 : (Jvm.Cond.code ({ cls := "ThereAndBack", name := "go", desc := "(Z)I" } : Jvm.MethodName) prog_1_method_83_code (2 : Nat) (Option.some Jvm.ClassFile.FieldType.int)) ∈ lw_all := lw_g (lw_at lw_m9 9 rfl) rfl
theorem q2074 : (Jvm.Cond.methodLink "ThereAndBack" (587 : Nat) ({ cls := "ThereAndBack", name := "goMany", desc := "(IZ)I" } : Jvm.MethodName)) ∈ lw_all := lw_g (lw_at lw_m9 10 rfl) rfl
theorem q2075 : (Jvm.Cond.privateMethod ({ cls := "ThereAndBack", name := "goMany", desc := "(IZ)I" } : Jvm.MethodName)) ∈ lw_tbl := lw_at lw_m9 11 rfl
theorem q2076 : (Jvm.Cond.instanceMethod ({ cls := "ThereAndBack", name := "goMany", desc := "(IZ)I" } : Jvm.MethodName)) ∈ lw_all := lw_g (lw_at lw_m9 12 rfl) rfl
theorem q2077 : (Jvm.Cond.code ({ cls := "ThereAndBack", name := "goMany", desc := "(IZ)I" } : Jvm.MethodName) prog_1_method_82_code (4 : Nat) (Option.some Jvm.ClassFile.FieldType.int)) ∈ lw_all := lw_g (lw_at lw_m9 13 rfl) rfl
theorem q2078 : (Jvm.Cond.methodLink "ThereAndBack" (583 : Nat) ({ cls := "ThereAndBack", name := "goes", desc := "(Z)Z" } : Jvm.MethodName)) ∈ lw_all := lw_g (lw_at lw_m9 14 rfl) rfl
theorem q2079 : (Jvm.Cond.privateMethod ({ cls := "ThereAndBack", name := "goes", desc := "(Z)Z" } : Jvm.MethodName)) ∈ lw_tbl := lw_at lw_m9 15 rfl
theorem q2080 : (Jvm.Cond.instanceMethod ({ cls := "ThereAndBack", name := "goes", desc := "(Z)Z" } : Jvm.MethodName)) ∈ lw_all := lw_g (lw_at lw_m9 16 rfl) rfl
theorem q2081 : (Jvm.Cond.codeWith ({ cls := "ThereAndBack", name := "goes", desc := "(Z)Z" } : Jvm.MethodName) prog_1_method_81_code (3 : Nat) (Option.some Jvm.ClassFile.FieldType.boolean) [((0 : Nat), (25 : Nat), (28 : Nat), (340 : Nat))]) ∈ lw_all := lw_g (lw_at lw_m9 17 rfl) rfl
theorem q2082 : (Jvm.Cond.methodLink "ThereAndBack" (576 : Nat) ({ cls := "ThereAndBack", name := "goOnce", desc := "(Z)V" } : Jvm.MethodName)) ∈ lw_all := lw_g (lw_at lw_m9 18 rfl) rfl
theorem q2083 : (Jvm.Cond.privateMethod ({ cls := "ThereAndBack", name := "goOnce", desc := "(Z)V" } : Jvm.MethodName)) ∈ lw_tbl := lw_at lw_m9 19 rfl
theorem q2084 : (Jvm.Cond.instanceMethod ({ cls := "ThereAndBack", name := "goOnce", desc := "(Z)V" } : Jvm.MethodName)) ∈ lw_all := lw_g (lw_at lw_m9 20 rfl) rfl
theorem q2085 : (Jvm.Cond.code ({ cls := "ThereAndBack", name := "goOnce", desc := "(Z)V" } : Jvm.MethodName) prog_1_method_80_code (4 : Nat) (Option.none : Option Jvm.ClassFile.FieldType)) ∈ lw_all := lw_g (lw_at lw_m9 21 rfl) rfl
theorem q2086 : (Jvm.Cond.interfaceEntry "ThereAndBack" (559 : Nat)) ∈ lw_tbl := lw_at lw_m9 22 rfl
theorem q2087 : (Jvm.Cond.methodLink "ThereAndBack" (559 : Nat) ({ cls := "java/util/List", name := "get", desc := "(I)Ljava/lang/Object;" } : Jvm.MethodName)) ∈ lw_all := lw_g (lw_at lw_m9 23 rfl) rfl
theorem q2088 : (Jvm.Cond.classLink "ThereAndBack" (562 : Nat) "ThereAndBack$Instruction") ∈ lw_all := lw_g (lw_at lw_m9 24 rfl) rfl
theorem q2089 : (Jvm.Cond.methodLink "ThereAndBack" (564 : Nat) ({ cls := "ThereAndBack$Instruction", name := "go", desc := "(LThereAndBack;IZ)I" } : Jvm.MethodName)) ∈ lw_all := lw_g (lw_at lw_m9 25 rfl) rfl
theorem q2134 : (Jvm.Cond.privateMethod ({ cls := "ThereAndBack", name := "bar", desc := "(LThereAndBack$Place;I)V" } : Jvm.MethodName)) ∈ lw_tbl := lw_at lw_m9 70 rfl
theorem q2135 : (Jvm.Cond.instanceMethod ({ cls := "ThereAndBack", name := "bar", desc := "(LThereAndBack$Place;I)V" } : Jvm.MethodName)) ∈ lw_all := lw_g (lw_at lw_m9 71 rfl) rfl
theorem q2136 : (Jvm.Cond.code ({ cls := "ThereAndBack", name := "bar", desc := "(LThereAndBack$Place;I)V" } : Jvm.MethodName) prog_1_method_38_code (3 : Nat) (Option.none : Option Jvm.ClassFile.FieldType)) ∈ lw_all := lw_g (lw_at lw_m9 72 rfl) rfl
theorem q2137 : (Jvm.Cond.methodLink "ThereAndBack" (401 : Nat) ({ cls := "ThereAndBack", name := "free", desc := "()V" } : Jvm.MethodName)) ∈ lw_all := lw_g (lw_at lw_m9 73 rfl) rfl
theorem q2138 : (Jvm.Cond.privateMethod ({ cls := "ThereAndBack", name := "free", desc := "()V" } : Jvm.MethodName)) ∈ lw_tbl := lw_at lw_m9 74 rfl
theorem q2139 : (Jvm.Cond.instanceMethod ({ cls := "ThereAndBack", name := "free", desc := "()V" } : Jvm.MethodName)) ∈ lw_all := lw_g (lw_at lw_m9 75 rfl) rfl
theorem q2140 : (Jvm.Cond.code ({ cls := "ThereAndBack", name := "free", desc := "()V" } : Jvm.MethodName) prog_1_method_39_code (1 : Nat) (Option.none : Option Jvm.ClassFile.FieldType)) ∈ lw_all := lw_g (lw_at lw_m9 76 rfl) rfl
theorem q2158 : (Jvm.Cond.static ({ cls := "ThereAndBack", name := "bitsOf", desc := "(I)I" } : Jvm.MethodName)) ∈ lw_all := lw_g (lw_at lw_m9 94 rfl) rfl
theorem q2159 : (Jvm.Cond.code ({ cls := "ThereAndBack", name := "bitsOf", desc := "(I)I" } : Jvm.MethodName) prog_1_method_2_code (1 : Nat) (Option.some Jvm.ClassFile.FieldType.int)) ∈ lw_all := lw_g (lw_at lw_m9 95 rfl) rfl
theorem q2169 : (Jvm.Cond.static ({ cls := "ThereAndBack", name := "turned", desc := "(JIJ)J" } : Jvm.MethodName)) ∈ lw_all := lw_g (lw_at lw_m9 105 rfl) rfl
theorem q2170 : (Jvm.Cond.code ({ cls := "ThereAndBack", name := "turned", desc := "(JIJ)J" } : Jvm.MethodName) prog_1_method_3_code (8 : Nat) (Option.some Jvm.ClassFile.FieldType.long)) ∈ lw_all := lw_g (lw_at lw_m9 106 rfl) rfl
theorem q2242 : (Jvm.Cond.classLink "ThereAndBack" (568 : Nat) "ThereAndBack$Enter") ∈ lw_all := lw_g (lw_at lw_m9 178 rfl) rfl
theorem q2247 : (Jvm.Cond.instanceMethod ({ cls := "ThereAndBack", name := "run", desc := "(I)I" } : Jvm.MethodName)) ∈ lw_all := lw_g (lw_at lw_m9 183 rfl) rfl
theorem q2248 : (Jvm.Cond.selects "ThereAndBack" ({ cls := "ThereAndBack", name := "run", desc := "(I)I" } : Jvm.MethodName) ({ cls := "ThereAndBack", name := "run", desc := "(I)I" } : Jvm.MethodName)) ∈ lw_all := lw_g (lw_at lw_m9 184 rfl) rfl
theorem q2249 : (Jvm.Cond.code ({ cls := "ThereAndBack", name := "run", desc := "(I)I" } : Jvm.MethodName) prog_1_method_84_code (2 : Nat) (Option.some Jvm.ClassFile.FieldType.int)) ∈ lw_all := lw_g (lw_at lw_m9 185 rfl) rfl
theorem q2250 : (Jvm.Cond.constantLong "ThereAndBack" (591 : Nat) (-300 : Int64)) ∈ lw_all := lw_g (lw_at lw_m9 186 rfl) rfl
theorem q2251 : (Jvm.Cond.constantLong "ThereAndBack" (593 : Nat) (300 : Int64)) ∈ lw_all := lw_g (lw_at lw_m9 187 rfl) rfl
theorem q2252 : (Jvm.Cond.methodLink "ThereAndBack" (595 : Nat) ({ cls := "java/lang/Math", name := "abs", desc := "(I)I" } : Jvm.MethodName)) ∈ lw_all := lw_g (lw_at lw_m9 188 rfl) rfl
theorem q2256 : (Jvm.Cond.instanceMethod ({ cls := "ThereAndBack", name := "goTo", desc := "(I)I" } : Jvm.MethodName)) ∈ lw_all := lw_g (lw_at lw_m9 192 rfl) rfl
theorem q2257 : (Jvm.Cond.selects "ThereAndBack" ({ cls := "ThereAndBack", name := "goTo", desc := "(I)I" } : Jvm.MethodName) ({ cls := "ThereAndBack", name := "goTo", desc := "(I)I" } : Jvm.MethodName)) ∈ lw_all := lw_g (lw_at lw_m9 193 rfl) rfl
theorem q2258 : (Jvm.Cond.code ({ cls := "ThereAndBack", name := "goTo", desc := "(I)I" } : Jvm.MethodName) prog_1_method_85_code (4 : Nat) (Option.some Jvm.ClassFile.FieldType.int)) ∈ lw_all := lw_g (lw_at lw_m9 194 rfl) rfl
theorem q2259 : (Jvm.Cond.methodLink "ThereAndBack" (600 : Nat) ({ cls := "java/lang/Math", name := "abs", desc := "(J)J" } : Jvm.MethodName)) ∈ lw_all := lw_g (lw_at lw_m9 195 rfl) rfl
theorem q2263 : (Jvm.Cond.instanceMethod ({ cls := "ThereAndBack", name := "at", desc := "(I)I" } : Jvm.MethodName)) ∈ lw_all := lw_g (lw_at lw_m9 199 rfl) rfl
theorem q2264 : (Jvm.Cond.selects "ThereAndBack" ({ cls := "ThereAndBack", name := "at", desc := "(I)I" } : Jvm.MethodName) ({ cls := "ThereAndBack", name := "at", desc := "(I)I" } : Jvm.MethodName)) ∈ lw_all := lw_g (lw_at lw_m9 200 rfl) rfl
theorem q2265 : (Jvm.Cond.code ({ cls := "ThereAndBack", name := "at", desc := "(I)I" } : Jvm.MethodName) prog_1_method_86_code (2 : Nat) (Option.some Jvm.ClassFile.FieldType.int)) ∈ lw_all := lw_g (lw_at lw_m9 201 rfl) rfl
theorem q2267 : (Jvm.Cond.instanceMethod ({ cls := "ThereAndBack", name := "frame", desc := "(II)I" } : Jvm.MethodName)) ∈ lw_all := lw_g (lw_at lw_m9 203 rfl) rfl
theorem q2268 : (Jvm.Cond.selects "ThereAndBack" ({ cls := "ThereAndBack", name := "frame", desc := "(II)I" } : Jvm.MethodName) ({ cls := "ThereAndBack", name := "frame", desc := "(II)I" } : Jvm.MethodName)) ∈ lw_all := lw_g (lw_at lw_m9 204 rfl) rfl
theorem q2269 : (Jvm.Cond.code ({ cls := "ThereAndBack", name := "frame", desc := "(II)I" } : Jvm.MethodName) prog_1_method_87_code (3 : Nat) (Option.some Jvm.ClassFile.FieldType.int)) ∈ lw_all := lw_g (lw_at lw_m9 205 rfl) rfl
theorem q2271 : (Jvm.Cond.instanceMethod ({ cls := "ThereAndBack", name := "digest", desc := "()J" } : Jvm.MethodName)) ∈ lw_all := lw_g (lw_at lw_m9 207 rfl) rfl
theorem q2272 : (Jvm.Cond.selects "ThereAndBack" ({ cls := "ThereAndBack", name := "digest", desc := "()J" } : Jvm.MethodName) ({ cls := "ThereAndBack", name := "digest", desc := "()J" } : Jvm.MethodName)) ∈ lw_all := lw_g (lw_at lw_m9 208 rfl) rfl
theorem q2273 : (Jvm.Cond.code ({ cls := "ThereAndBack", name := "digest", desc := "()J" } : Jvm.MethodName) prog_1_method_88_code (5 : Nat) (Option.some Jvm.ClassFile.FieldType.long)) ∈ lw_all := lw_g (lw_at lw_m9 209 rfl) rfl
theorem q2274 : (Jvm.Cond.constantLong "ThereAndBack" (603 : Nat) (31 : Int64)) ∈ lw_all := lw_g (lw_at lw_m9 210 rfl) rfl
theorem q2275 : (Jvm.Cond.constantLong "ThereAndBack" (605 : Nat) (7 : Int64)) ∈ lw_all := lw_g (lw_at lw_m9 211 rfl) rfl
theorem q2277 : (Jvm.Cond.instanceMethod ({ cls := "ThereAndBack", name := "lay", desc := "(III)I" } : Jvm.MethodName)) ∈ lw_all := lw_g (lw_at lw_m9 213 rfl) rfl
theorem q2278 : (Jvm.Cond.selects "ThereAndBack" ({ cls := "ThereAndBack", name := "lay", desc := "(III)I" } : Jvm.MethodName) ({ cls := "ThereAndBack", name := "lay", desc := "(III)I" } : Jvm.MethodName)) ∈ lw_all := lw_g (lw_at lw_m9 214 rfl) rfl
theorem q2279 : (Jvm.Cond.codeWith ({ cls := "ThereAndBack", name := "lay", desc := "(III)I" } : Jvm.MethodName) prog_1_method_90_code (5 : Nat) (Option.some Jvm.ClassFile.FieldType.int) [((27 : Nat), (38 : Nat), (41 : Nat), (614 : Nat))]) ∈ lw_all := lw_g (lw_at lw_m9 215 rfl) rfl
theorem q2280 : (Jvm.Cond.classLink "ThereAndBack" (614 : Nat) "java/lang/NegativeArraySizeException") ∈ lw_all := lw_g (lw_at lw_m9 216 rfl) rfl
theorem q2309 : (Jvm.Cond.methodLink "ThereAndBack" (607 : Nat) ({ cls := "ThereAndBack", name := "isPlace", desc := "(I)Z" } : Jvm.MethodName)) ∈ lw_all := lw_g (lw_at lw_m10 5 rfl) rfl
theorem q2310 : (Jvm.Cond.static ({ cls := "ThereAndBack", name := "isPlace", desc := "(I)Z" } : Jvm.MethodName)) ∈ lw_all := lw_g (lw_at lw_m10 6 rfl) rfl
theorem q2311 : (Jvm.Cond.code ({ cls := "ThereAndBack", name := "isPlace", desc := "(I)Z" } : Jvm.MethodName) prog_1_method_89_code (1 : Nat) (Option.some Jvm.ClassFile.FieldType.boolean)) ∈ lw_all := lw_g (lw_at lw_m10 7 rfl) rfl
theorem q2312 : (Jvm.Cond.methodLink "ThereAndBack" (610 : Nat) ({ cls := "ThereAndBack$Holder", name := "make", desc := "(II)V" } : Jvm.MethodName)) ∈ lw_all := lw_g (lw_at lw_m10 8 rfl) rfl
theorem q2314 : (Jvm.Cond.instanceMethod ({ cls := "ThereAndBack", name := "lift", desc := "(II)I" } : Jvm.MethodName)) ∈ lw_all := lw_g (lw_at lw_m10 10 rfl) rfl
theorem q2315 : (Jvm.Cond.selects "ThereAndBack" ({ cls := "ThereAndBack", name := "lift", desc := "(II)I" } : Jvm.MethodName) ({ cls := "ThereAndBack", name := "lift", desc := "(II)I" } : Jvm.MethodName)) ∈ lw_all := lw_g (lw_at lw_m10 11 rfl) rfl
theorem q2316 : (Jvm.Cond.code ({ cls := "ThereAndBack", name := "lift", desc := "(II)I" } : Jvm.MethodName) prog_1_method_91_code (3 : Nat) (Option.some Jvm.ClassFile.FieldType.int)) ∈ lw_all := lw_g (lw_at lw_m10 12 rfl) rfl
theorem q2318 : (Jvm.Cond.instanceMethod ({ cls := "ThereAndBack", name := "put", desc := "(II)I" } : Jvm.MethodName)) ∈ lw_all := lw_g (lw_at lw_m10 14 rfl) rfl
theorem q2319 : (Jvm.Cond.selects "ThereAndBack" ({ cls := "ThereAndBack", name := "put", desc := "(II)I" } : Jvm.MethodName) ({ cls := "ThereAndBack", name := "put", desc := "(II)I" } : Jvm.MethodName)) ∈ lw_all := lw_g (lw_at lw_m10 15 rfl) rfl
theorem q2320 : (Jvm.Cond.code ({ cls := "ThereAndBack", name := "put", desc := "(II)I" } : Jvm.MethodName) prog_1_method_92_code (3 : Nat) (Option.some Jvm.ClassFile.FieldType.int)) ∈ lw_all := lw_g (lw_at lw_m10 16 rfl) rfl
theorem q2322 : (Jvm.Cond.instanceMethod ({ cls := "ThereAndBack", name := "set", desc := "(IIIJ)I" } : Jvm.MethodName)) ∈ lw_all := lw_g (lw_at lw_m10 18 rfl) rfl
theorem q2323 : (Jvm.Cond.selects "ThereAndBack" ({ cls := "ThereAndBack", name := "set", desc := "(IIIJ)I" } : Jvm.MethodName) ({ cls := "ThereAndBack", name := "set", desc := "(IIIJ)I" } : Jvm.MethodName)) ∈ lw_all := lw_g (lw_at lw_m10 19 rfl) rfl
theorem q2324 : (Jvm.Cond.codeWith ({ cls := "ThereAndBack", name := "set", desc := "(IIIJ)I" } : Jvm.MethodName) prog_1_method_95_code (7 : Nat) (Option.some Jvm.ClassFile.FieldType.int) [((21 : Nat), (37 : Nat), (40 : Nat), (628 : Nat)), ((21 : Nat), (37 : Nat), (45 : Nat), (630 : Nat)), ((21 : Nat), (37 : Nat), (50 : Nat), (632 : Nat))]) ∈ lw_all := lw_g (lw_at lw_m10 20 rfl) rfl
theorem q2325 : (Jvm.Cond.classLink "ThereAndBack" (628 : Nat) "java/lang/NullPointerException") ∈ lw_all := lw_g (lw_at lw_m10 21 rfl) rfl
theorem q2350 : (Jvm.Cond.classLink "ThereAndBack" (630 : Nat) "java/lang/ClassCastException") ∈ lw_all := lw_g (lw_at lw_m10 46 rfl) rfl
theorem q2364 : (Jvm.Cond.classLink "ThereAndBack" (632 : Nat) "java/lang/ArrayIndexOutOfBoundsException") ∈ lw_all := lw_g (lw_at lw_m10 60 rfl) rfl
theorem q2383 : (Jvm.Cond.methodLink "ThereAndBack" (624 : Nat) ({ cls := "ThereAndBack", name := "store", desc := "(Ljava/lang/Object;IIJ)V" } : Jvm.MethodName)) ∈ lw_all := lw_g (lw_at lw_m10 79 rfl) rfl
theorem q2384 : (Jvm.Cond.static ({ cls := "ThereAndBack", name := "store", desc := "(Ljava/lang/Object;IIJ)V" } : Jvm.MethodName)) ∈ lw_all := lw_g (lw_at lw_m10 80 rfl) rfl
theorem q2385 : (Jvm.Cond.code ({ cls := "ThereAndBack", name := "store", desc := "(Ljava/lang/Object;IIJ)V" } : Jvm.MethodName) prog_1_method_94_code (5 : Nat) (Option.none : Option Jvm.ClassFile.FieldType)) ∈ lw_all := lw_g (lw_at lw_m10 81 rfl) rfl
theorem q2386 : (Jvm.Cond.classLink "ThereAndBack" (616 : Nat) "[I") ∈ lw_all := lw_g (lw_at lw_m10 82 rfl) rfl
theorem q2387 : (Jvm.Cond.classLink "ThereAndBack" (617 : Nat) "[J") ∈ lw_all := lw_g (lw_at lw_m10 83 rfl) rfl
theorem q2388 : (Jvm.Cond.classLink "ThereAndBack" (619 : Nat) "[S") ∈ lw_all := lw_g (lw_at lw_m10 84 rfl) rfl
theorem q2389 : (Jvm.Cond.classLink "ThereAndBack" (621 : Nat) "[B") ∈ lw_all := lw_g (lw_at lw_m10 85 rfl) rfl
theorem q2390 : (Jvm.Cond.classLink "ThereAndBack" (622 : Nat) "[C") ∈ lw_all := lw_g (lw_at lw_m10 86 rfl) rfl
theorem q2392 : (Jvm.Cond.instanceMethod ({ cls := "ThereAndBack", name := "get", desc := "(III)J" } : Jvm.MethodName)) ∈ lw_all := lw_g (lw_at lw_m10 88 rfl) rfl
theorem q2393 : (Jvm.Cond.selects "ThereAndBack" ({ cls := "ThereAndBack", name := "get", desc := "(III)J" } : Jvm.MethodName) ({ cls := "ThereAndBack", name := "get", desc := "(III)J" } : Jvm.MethodName)) ∈ lw_all := lw_g (lw_at lw_m10 89 rfl) rfl
theorem q2394 : (Jvm.Cond.codeWith ({ cls := "ThereAndBack", name := "get", desc := "(III)J" } : Jvm.MethodName) prog_1_method_96_code (5 : Nat) (Option.some Jvm.ClassFile.FieldType.long) [((31 : Nat), (45 : Nat), (46 : Nat), (628 : Nat)), ((31 : Nat), (45 : Nat), (57 : Nat), (630 : Nat)), ((31 : Nat), (45 : Nat), (68 : Nat), (632 : Nat))]) ∈ lw_all := lw_g (lw_at lw_m10 90 rfl) rfl
theorem q2395 : (Jvm.Cond.methodLink "ThereAndBack" (637 : Nat) ({ cls := "ThereAndBack", name := "taken", desc := "(Ljava/lang/Object;II)J" } : Jvm.MethodName)) ∈ lw_all := lw_g (lw_at lw_m10 91 rfl) rfl
theorem q2396 : (Jvm.Cond.static ({ cls := "ThereAndBack", name := "taken", desc := "(Ljava/lang/Object;II)J" } : Jvm.MethodName)) ∈ lw_all := lw_g (lw_at lw_m10 92 rfl) rfl
theorem q2397 : (Jvm.Cond.code ({ cls := "ThereAndBack", name := "taken", desc := "(Ljava/lang/Object;II)J" } : Jvm.MethodName) prog_1_method_93_code (3 : Nat) (Option.some Jvm.ClassFile.FieldType.long)) ∈ lw_all := lw_g (lw_at lw_m10 93 rfl) rfl
theorem q2399 : (Jvm.Cond.instanceMethod ({ cls := "ThereAndBack", name := "failed", desc := "()I" } : Jvm.MethodName)) ∈ lw_all := lw_g (lw_at lw_m10 95 rfl) rfl
theorem q2400 : (Jvm.Cond.selects "ThereAndBack" ({ cls := "ThereAndBack", name := "failed", desc := "()I" } : Jvm.MethodName) ({ cls := "ThereAndBack", name := "failed", desc := "()I" } : Jvm.MethodName)) ∈ lw_all := lw_g (lw_at lw_m10 96 rfl) rfl
theorem q2401 : (Jvm.Cond.code ({ cls := "ThereAndBack", name := "failed", desc := "()I" } : Jvm.MethodName) prog_1_method_97_code (1 : Nat) (Option.some Jvm.ClassFile.FieldType.int)) ∈ lw_all := lw_g (lw_at lw_m10 97 rfl) rfl
theorem q2403 : (Jvm.Cond.instanceMethod ({ cls := "ThereAndBack", name := "copy", desc := "(IIIII)I" } : Jvm.MethodName)) ∈ lw_all := lw_g (lw_at lw_m10 99 rfl) rfl
theorem q2404 : (Jvm.Cond.selects "ThereAndBack" ({ cls := "ThereAndBack", name := "copy", desc := "(IIIII)I" } : Jvm.MethodName) ({ cls := "ThereAndBack", name := "copy", desc := "(IIIII)I" } : Jvm.MethodName)) ∈ lw_all := lw_g (lw_at lw_m10 100 rfl) rfl
theorem q2405 : (Jvm.Cond.codeWith ({ cls := "ThereAndBack", name := "copy", desc := "(IIIII)I" } : Jvm.MethodName) prog_1_method_98_code (9 : Nat) (Option.some Jvm.ClassFile.FieldType.int) [((67 : Nat), (85 : Nat), (88 : Nat), (641 : Nat))]) ∈ lw_all := lw_g (lw_at lw_m10 101 rfl) rfl
theorem q2406 : (Jvm.Cond.classLink "ThereAndBack" (641 : Nat) "java/lang/IndexOutOfBoundsException") ∈ lw_all := lw_g (lw_at lw_m10 102 rfl) rfl
theorem q2408 : (Jvm.Cond.instanceMethod ({ cls := "ThereAndBack", name := "alike", desc := "(II)I" } : Jvm.MethodName)) ∈ lw_all := lw_g (lw_at lw_m10 104 rfl) rfl
theorem q2409 : (Jvm.Cond.selects "ThereAndBack" ({ cls := "ThereAndBack", name := "alike", desc := "(II)I" } : Jvm.MethodName) ({ cls := "ThereAndBack", name := "alike", desc := "(II)I" } : Jvm.MethodName)) ∈ lw_all := lw_g (lw_at lw_m10 105 rfl) rfl
theorem q2410 : (Jvm.Cond.code ({ cls := "ThereAndBack", name := "alike", desc := "(II)I" } : Jvm.MethodName) prog_1_method_99_code (3 : Nat) (Option.some Jvm.ClassFile.FieldType.int)) ∈ lw_all := lw_g (lw_at lw_m10 106 rfl) rfl
theorem q3131 : (Jvm.Cond.castable "ThereAndBack" "java/lang/Object") ∈ lw_tbl := lw_at lw_m13 107 rfl
theorem in_X0 : ∀ w ∈ wsX00, w ∈ lw_all := lw_in wsX00 [395, 397, 399, 401, 403, 405, 407, 409, 411, 413, 415, 417, 419, 421, 423, 425, 427, 429, 431, 433, 435, 437, 439, 441, 443, 445, 447, 449, 451, 453, 455, 457, 459, 461, 463, 465, 467, 469, 471, 473] (by decide +kernel) (by decide +kernel)
