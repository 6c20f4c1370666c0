/-! ThereAndBack$Wrong -/
set_option maxRecDepth 100000
def RX1 : String := "ThereAndBack$Wrong"
def TX1 : u_T := fun k => match k with
  | 0 => ("java/lang/Throwable", "cause", "Ljava/lang/Throwable;", false)
  | 1 => ("java/lang/Throwable", "stackTrace", "[Ljava/lang/StackTraceElement;", false)
  | 2 => ("java/lang/Throwable", "suppressedExceptions", "Ljava/util/List;", false)
  | 3 => ("java/lang/Throwable", "detailMessage", "Ljava/lang/String;", false)
  | 4 => ("java/lang/Throwable", "backtrace", "Ljava/lang/Object;", false)
  | _ => ("java/lang/Throwable", "depth", "I", false)
def tyX1 : Nat → FieldType := fun k => match k with
  | 0 => .object "java/lang/Throwable"
  | 1 => .array (.object "java/lang/StackTraceElement")
  | 2 => .object "java/util/List"
  | 3 => .object "java/lang/String"
  | 4 => .object "java/lang/Object"
  | _ => .int
abbrev wsX10 : List Cond := u_ws RX1 TX1 6
theorem nmX1 : ∀ a, a < 6 → ∀ b, b < 6 → a ≠ b → (TX1 a).2.1 ≠ (TX1 b).2.1 := by decide +kernel
theorem tyX1_ok : ∀ k, k < 6 → parseFieldDescriptor (TX1 k).2.2.1 = some (tyX1 k) := by decide +kernel
abbrev cX1_init : ByteArray := prog_37_method_1_code
def yX1_init : MethodName := ⟨RX1, "<init>", "()V"⟩
def dkwX1_init_0 : List UInt8 := [42, 1, 1, 3, 3, 183, 0, 1, 177]
abbrev dktX1_init_0 : List UInt8 := dkwX1_init_0 ++ []
theorem dksX1_init_0 : cX1_init.data.toList.drop 0 = dktX1_init_0 := by decide +kernel
theorem dX1_init_0 : decode cX1_init 0 = .ok (.aload_n 0, 1) := dk_42 (dk_at dksX1_init_0 0 rfl rfl)
theorem dX1_init_1 : decode cX1_init 1 = .ok (.aconst_null, 1) := dk_1 (dk_at dksX1_init_0 1 rfl rfl)
theorem dX1_init_2 : decode cX1_init 2 = .ok (.aconst_null, 1) := dk_1 (dk_at dksX1_init_0 2 rfl rfl)
theorem dX1_init_3 : decode cX1_init 3 = .ok (.iconst 0, 1) := dk_3 (dk_at dksX1_init_0 3 rfl rfl)
theorem dX1_init_4 : decode cX1_init 4 = .ok (.iconst 0, 1) := dk_3 (dk_at dksX1_init_0 4 rfl rfl)
theorem dX1_init_5 : decode cX1_init 5 = .ok (.invokespecial 1, 3) := dk_183 0 1 (dk_at dksX1_init_0 5 rfl rfl)
theorem dX1_init_8 : decode cX1_init 8 = .ok (.return_, 1) := dk_177 (dk_at dksX1_init_0 8 rfl rfl)
theorem q148 : (Jvm.Cond.initialized "ThereAndBack$Wrong") ∈ lw_all := lw_g (lw_at lw_m1 4 rfl) rfl
theorem q212 : (Jvm.Cond.instantiable "ThereAndBack$Wrong" (6 : Nat)) ∈ lw_all := lw_g (lw_at lw_m1 68 rfl) rfl
theorem q213 : (Jvm.Cond.castable "ThereAndBack$Wrong" "ThereAndBack$Wrong") ∈ lw_tbl := lw_at lw_m1 69 rfl
theorem q218 : (Jvm.Cond.selects "ThereAndBack$Wrong" ({ cls := "java/lang/Throwable", name := "fillInStackTrace", desc := "(I)Ljava/lang/Throwable;" } : Jvm.MethodName) ({ cls := "java/lang/Throwable", name := "fillInStackTrace", desc := "(I)Ljava/lang/Throwable;" } : Jvm.MethodName)) ∈ lw_all := lw_g (lw_at lw_m1 74 rfl) rfl
theorem q219 : (Jvm.Cond.selects "ThereAndBack$Wrong" ({ cls := "java/lang/Throwable", name := "fillInStackTrace", desc := "()Ljava/lang/Throwable;" } : Jvm.MethodName) ({ cls := "java/lang/Throwable", name := "fillInStackTrace", desc := "()Ljava/lang/Throwable;" } : Jvm.MethodName)) ∈ lw_all := lw_g (lw_at lw_m1 75 rfl) rfl
theorem q220 : (Jvm.Cond.lays "ThereAndBack$Wrong" "java/lang/Throwable" "cause" "Ljava/lang/Throwable;") ∈ lw_all := lw_g (lw_at lw_m1 76 rfl) rfl
theorem q222 : (Jvm.Cond.lays "ThereAndBack$Wrong" "java/lang/Throwable" "stackTrace" "[Ljava/lang/StackTraceElement;") ∈ lw_all := lw_g (lw_at lw_m1 78 rfl) rfl
theorem q224 : (Jvm.Cond.lays "ThereAndBack$Wrong" "java/lang/Throwable" "suppressedExceptions" "Ljava/util/List;") ∈ lw_all := lw_g (lw_at lw_m1 80 rfl) rfl
theorem q226 : (Jvm.Cond.lays "ThereAndBack$Wrong" "java/lang/Throwable" "detailMessage" "Ljava/lang/String;") ∈ lw_all := lw_g (lw_at lw_m1 82 rfl) rfl
theorem q228 : (Jvm.Cond.lays "ThereAndBack$Wrong" "java/lang/Throwable" "backtrace" "Ljava/lang/Object;") ∈ lw_all := lw_g (lw_at lw_m1 84 rfl) rfl
theorem q267 : (Jvm.Cond.instanceMethod ({ cls := "ThereAndBack$Wrong", name := "<init>", desc := "()V" } : Jvm.MethodName)) ∈ lw_all := lw_g (lw_at lw_m1 123 rfl) rfl
theorem q268 : (Jvm.Cond.code ({ cls := "ThereAndBack$Wrong", name := "<init>", desc := "()V" } : Jvm.MethodName) prog_37_method_1_code (1 : Nat) (Option.none : Option Jvm.ClassFile.FieldType)) ∈ lw_all := lw_g (lw_at lw_m1 124 rfl) rfl
theorem q269 : (Jvm.Cond.methodLink "ThereAndBack$Wrong" (1 : Nat) ({ cls := "java/lang/Exception", name := "<init>", desc := "(Ljava/lang/String;Ljava/lang/Throwable;ZZ)V" } : Jvm.MethodName)) ∈ lw_all := lw_g (lw_at lw_m1 125 rfl) rfl
theorem q284 : (Jvm.Cond.lays "ThereAndBack$Wrong" "java/lang/Throwable" "depth" "I") ∈ lw_all := lw_g (lw_at lw_m1 140 rfl) rfl
theorem q287 : (Jvm.Cond.superclass "ThereAndBack$Wrong" "java/lang/Exception") ∈ lw_all := lw_g (lw_at lw_m1 143 rfl) rfl
theorem q1181 : (Jvm.Cond.selects "ThereAndBack$Wrong" ({ cls := "java/lang/Object", name := "getClass", desc := "()Ljava/lang/Class;" } : Jvm.MethodName) ({ cls := "java/lang/Object", name := "getClass", desc := "()Ljava/lang/Class;" } : Jvm.MethodName)) ∈ lw_all := lw_g (lw_at lw_m5 77 rfl) rfl
theorem q3132 : (Jvm.Cond.castable "ThereAndBack$Wrong" "java/lang/Object") ∈ lw_tbl := lw_at lw_m13 108 rfl
theorem in_X1 : ∀ w ∈ wsX10, w ∈ lw_all := lw_in wsX10 [220, 222, 224, 226, 228, 284] (by decide +kernel) (by decide +kernel)
/-! ThereAndBack$Refused -/
set_option maxRecDepth 100000
def RX2 : String := "ThereAndBack$Refused"
def TX2 : u_T := fun k => match k with
  | 0 => ("java/lang/Throwable", "cause", "Ljava/lang/Throwable;", false)
  | 1 => ("java/lang/Throwable", "stackTrace", "[Ljava/lang/StackTraceElement;", false)
  | 2 => ("java/lang/Throwable", "suppressedExceptions", "Ljava/util/List;", false)
  | 3 => ("java/lang/Throwable", "detailMessage", "Ljava/lang/String;", false)
  | 4 => ("java/lang/Throwable", "backtrace", "Ljava/lang/Object;", false)
  | 5 => ("java/lang/Throwable", "depth", "I", false)
  | _ => ("ThereAndBack$Refused", "why", "I", true)
def tyX2 : Nat → FieldType := fun k => match k with
  | 0 => .object "java/lang/Throwable"
  | 1 => .array (.object "java/lang/StackTraceElement")
  | 2 => .object "java/util/List"
  | 3 => .object "java/lang/String"
  | 4 => .object "java/lang/Object"
  | 5 => .int
  | _ => .int
abbrev wsX20 : List Cond := u_ws RX2 TX2 7
theorem nmX2 : ∀ a, a < 7 → ∀ b, b < 7 → a ≠ b → (TX2 a).2.1 ≠ (TX2 b).2.1 := by decide +kernel
theorem tyX2_ok : ∀ k, k < 7 → parseFieldDescriptor (TX2 k).2.2.1 = some (tyX2 k) := by decide +kernel
abbrev cX2_init : ByteArray := prog_27_method_1_code
def yX2_init : MethodName := ⟨RX2, "<init>", "(I)V"⟩
def dkwX2_init_0 : List UInt8 := [42, 1, 1, 3, 3, 183, 0, 1, 42, 27, 181, 0, 7, 177]
abbrev dktX2_init_0 : List UInt8 := dkwX2_init_0 ++ []
theorem dksX2_init_0 : cX2_init.data.toList.drop 0 = dktX2_init_0 := by decide +kernel
theorem dX2_init_0 : decode cX2_init 0 = .ok (.aload_n 0, 1) := dk_42 (dk_at dksX2_init_0 0 rfl rfl)
theorem dX2_init_1 : decode cX2_init 1 = .ok (.aconst_null, 1) := dk_1 (dk_at dksX2_init_0 1 rfl rfl)
theorem dX2_init_2 : decode cX2_init 2 = .ok (.aconst_null, 1) := dk_1 (dk_at dksX2_init_0 2 rfl rfl)
theorem dX2_init_3 : decode cX2_init 3 = .ok (.iconst 0, 1) := dk_3 (dk_at dksX2_init_0 3 rfl rfl)
theorem dX2_init_4 : decode cX2_init 4 = .ok (.iconst 0, 1) := dk_3 (dk_at dksX2_init_0 4 rfl rfl)
theorem dX2_init_5 : decode cX2_init 5 = .ok (.invokespecial 1, 3) := dk_183 0 1 (dk_at dksX2_init_0 5 rfl rfl)
theorem dX2_init_8 : decode cX2_init 8 = .ok (.aload_n 0, 1) := dk_42 (dk_at dksX2_init_0 8 rfl rfl)
theorem dX2_init_9 : decode cX2_init 9 = .ok (.iload_n 1, 1) := dk_27 (dk_at dksX2_init_0 9 rfl rfl)
theorem dX2_init_10 : decode cX2_init 10 = .ok (.putfield 7, 3) := dk_181 0 7 (dk_at dksX2_init_0 10 rfl rfl)
theorem dX2_init_13 : decode cX2_init 13 = .ok (.return_, 1) := dk_177 (dk_at dksX2_init_0 13 rfl rfl)
theorem q149 : (Jvm.Cond.initialized "ThereAndBack$Refused") ∈ lw_all := lw_g (lw_at lw_m1 5 rfl) rfl
theorem q242 : (Jvm.Cond.selects "ThereAndBack$Refused" ({ cls := "java/lang/Throwable", name := "fillInStackTrace", desc := "()Ljava/lang/Throwable;" } : Jvm.MethodName) ({ cls := "java/lang/Throwable", name := "fillInStackTrace", desc := "()Ljava/lang/Throwable;" } : Jvm.MethodName)) ∈ lw_all := lw_g (lw_at lw_m1 98 rfl) rfl
theorem q295 : (Jvm.Cond.instantiable "ThereAndBack$Refused" (7 : Nat)) ∈ lw_all := lw_g (lw_at lw_m1 151 rfl) rfl
theorem q296 : (Jvm.Cond.castable "ThereAndBack$Refused" "ThereAndBack$Refused") ∈ lw_tbl := lw_at lw_m1 152 rfl
theorem q297 : (Jvm.Cond.selects "ThereAndBack$Refused" ({ cls := "java/lang/Throwable", name := "fillInStackTrace", desc := "(I)Ljava/lang/Throwable;" } : Jvm.MethodName) ({ cls := "java/lang/Throwable", name := "fillInStackTrace", desc := "(I)Ljava/lang/Throwable;" } : Jvm.MethodName)) ∈ lw_all := lw_g (lw_at lw_m1 153 rfl) rfl
theorem q298 : (Jvm.Cond.lays "ThereAndBack$Refused" "java/lang/Throwable" "cause" "Ljava/lang/Throwable;") ∈ lw_all := lw_g (lw_at lw_m1 154 rfl) rfl
theorem q299 : (Jvm.Cond.lays "ThereAndBack$Refused" "java/lang/Throwable" "stackTrace" "[Ljava/lang/StackTraceElement;") ∈ lw_all := lw_g (lw_at lw_m1 155 rfl) rfl
theorem q300 : (Jvm.Cond.lays "ThereAndBack$Refused" "java/lang/Throwable" "suppressedExceptions" "Ljava/util/List;") ∈ lw_all := lw_g (lw_at lw_m1 156 rfl) rfl
theorem q301 : (Jvm.Cond.lays "ThereAndBack$Refused" "java/lang/Throwable" "detailMessage" "Ljava/lang/String;") ∈ lw_all := lw_g (lw_at lw_m1 157 rfl) rfl
theorem q302 : (Jvm.Cond.lays "ThereAndBack$Refused" "java/lang/Throwable" "backtrace" "Ljava/lang/Object;") ∈ lw_all := lw_g (lw_at lw_m1 158 rfl) rfl
theorem q304 : (Jvm.Cond.instanceMethod ({ cls := "ThereAndBack$Refused", name := "<init>", desc := "(I)V" } : Jvm.MethodName)) ∈ lw_all := lw_g (lw_at lw_m1 160 rfl) rfl
theorem q305 : (Jvm.Cond.code ({ cls := "ThereAndBack$Refused", name := "<init>", desc := "(I)V" } : Jvm.MethodName) prog_27_method_1_code (2 : Nat) (Option.none : Option Jvm.ClassFile.FieldType)) ∈ lw_all := lw_g (lw_at lw_m1 161 rfl) rfl
theorem q306 : (Jvm.Cond.methodLink "ThereAndBack$Refused" (1 : Nat) ({ cls := "java/lang/Exception", name := "<init>", desc := "(Ljava/lang/String;Ljava/lang/Throwable;ZZ)V" } : Jvm.MethodName)) ∈ lw_all := lw_g (lw_at lw_m1 162 rfl) rfl
theorem q307 : (Jvm.Cond.fieldLink "ThereAndBack$Refused" (7 : Nat) "ThereAndBack$Refused" "why" "I") ∈ lw_all := lw_g (lw_at lw_m1 163 rfl) rfl
theorem q309 : (Jvm.Cond.laysFinal "ThereAndBack$Refused" "ThereAndBack$Refused" "why" "I") ∈ lw_all := lw_g (lw_at lw_m1 165 rfl) rfl
theorem q310 : (Jvm.Cond.soleField "ThereAndBack$Refused" "why") ∈ lw_all := lw_g (lw_at lw_m1 166 rfl) rfl
theorem q311 : (Jvm.Cond.lays "ThereAndBack$Refused" "java/lang/Throwable" "depth" "I") ∈ lw_all := lw_g (lw_at lw_m1 167 rfl) rfl
theorem q312 : (Jvm.Cond.superclass "ThereAndBack$Refused" "java/lang/Exception") ∈ lw_all := lw_g (lw_at lw_m1 168 rfl) rfl
theorem q1174 : (Jvm.Cond.selects "ThereAndBack$Refused" ({ cls := "java/lang/Object", name := "getClass", desc := "()Ljava/lang/Class;" } : Jvm.MethodName) ({ cls := "java/lang/Object", name := "getClass", desc := "()Ljava/lang/Class;" } : Jvm.MethodName)) ∈ lw_all := lw_g (lw_at lw_m5 70 rfl) rfl
theorem q3128 : (Jvm.Cond.castable "ThereAndBack$Refused" "java/lang/Object") ∈ lw_tbl := lw_at lw_m13 104 rfl
theorem in_X2 : ∀ w ∈ wsX20, w ∈ lw_all := lw_in wsX20 [298, 299, 300, 301, 302, 311, 309] (by decide +kernel) (by decide +kernel)
/-! ThereAndBack$Holder -/
set_option maxRecDepth 100000
def RX3 : String := "ThereAndBack$Holder"
def TX3 : u_T := fun k => match k with
  | _ => ("ThereAndBack$Holder", "row", "Ljava/lang/Object;", false)
def tyX3 : Nat → FieldType := fun k => match k with
  | _ => .object "java/lang/Object"
abbrev wsX30 : List Cond := u_ws RX3 TX3 1
theorem nmX3 : ∀ a, a < 1 → ∀ b, b < 1 → a ≠ b → (TX3 a).2.1 ≠ (TX3 b).2.1 := by decide +kernel
theorem tyX3_ok : ∀ k, k < 1 → parseFieldDescriptor (TX3 k).2.2.1 = some (tyX3 k) := by decide +kernel
abbrev cX3_init : ByteArray := prog_11_method_1_code
def yX3_init : MethodName := ⟨RX3, "<init>", "()V"⟩
theorem dX3_init_0 : decode cX3_init 0 = .ok (.aload_n 0, 1) := by decide +kernel
theorem dX3_init_1 : decode cX3_init 1 = .ok (.invokespecial 1, 3) := by decide +kernel
theorem dX3_init_4 : decode cX3_init 4 = .ok (.return_, 1) := by decide +kernel
abbrev cX3_size : ByteArray := prog_11_method_3_code
def yX3_size : MethodName := ⟨RX3, "size", "()I"⟩
def dkwX3_size_3 : List UInt8 := [153, 0, 11, 44, 192, 0, 19, 76, 43, 190, 172, 42, 180, 0, 7, 192, 0, 21, 190, 172]
abbrev dktX3_size_3 : List UInt8 := dkwX3_size_3 ++ []
def dkwX3_size_2 : List UInt8 := [193, 0, 17, 153, 0, 11, 44, 192, 0, 17, 76, 43, 190, 172, 42, 180, 0, 7, 77, 44, 193, 0, 19]
abbrev dktX3_size_2 : List UInt8 := dkwX3_size_2 ++ dktX3_size_3
def dkwX3_size_1 : List UInt8 := [77, 44, 193, 0, 15, 153, 0, 11, 44, 192, 0, 15, 76, 43, 190, 172, 42, 180, 0, 7, 77, 44]
abbrev dktX3_size_1 : List UInt8 := dkwX3_size_1 ++ dktX3_size_2
def dkwX3_size_0 : List UInt8 := [42, 180, 0, 7, 77, 44, 193, 0, 13, 153, 0, 11, 44, 192, 0, 13, 76, 43, 190, 172, 42, 180, 0, 7]
abbrev dktX3_size_0 : List UInt8 := dkwX3_size_0 ++ dktX3_size_1
theorem dksX3_size_0 : cX3_size.data.toList.drop 0 = dktX3_size_0 := by decide +kernel
theorem dksX3_size_1 : cX3_size.data.toList.drop 24 = dktX3_size_1 := dk_seg dksX3_size_0 24 rfl rfl
theorem dksX3_size_2 : cX3_size.data.toList.drop 46 = dktX3_size_2 := dk_seg dksX3_size_1 22 rfl rfl
theorem dksX3_size_3 : cX3_size.data.toList.drop 69 = dktX3_size_3 := dk_seg dksX3_size_2 23 rfl rfl
theorem dX3_size_0 : decode cX3_size 0 = .ok (.aload_n 0, 1) := dk_42 (dk_at dksX3_size_0 0 rfl rfl)
theorem dX3_size_1 : decode cX3_size 1 = .ok (.getfield 7, 3) := dk_180 0 7 (dk_at dksX3_size_0 1 rfl rfl)
theorem dX3_size_4 : decode cX3_size 4 = .ok (.astore_n 2, 1) := dk_77 (dk_at dksX3_size_0 4 rfl rfl)
theorem dX3_size_5 : decode cX3_size 5 = .ok (.aload_n 2, 1) := dk_44 (dk_at dksX3_size_0 5 rfl rfl)
theorem dX3_size_6 : decode cX3_size 6 = .ok (.instanceof 13, 3) := dk_193 0 13 (dk_at dksX3_size_0 6 rfl rfl)
theorem dX3_size_9 : decode cX3_size 9 = .ok (.ifCond .eq 11, 3) := dk_153 0 11 (dk_at dksX3_size_0 9 rfl rfl)
theorem dX3_size_12 : decode cX3_size 12 = .ok (.aload_n 2, 1) := dk_44 (dk_at dksX3_size_0 12 rfl rfl)
theorem dX3_size_13 : decode cX3_size 13 = .ok (.checkcast 13, 3) := dk_192 0 13 (dk_at dksX3_size_0 13 rfl rfl)
theorem dX3_size_16 : decode cX3_size 16 = .ok (.astore_n 1, 1) := dk_76 (dk_at dksX3_size_0 16 rfl rfl)
theorem dX3_size_17 : decode cX3_size 17 = .ok (.aload_n 1, 1) := dk_43 (dk_at dksX3_size_0 17 rfl rfl)
theorem dX3_size_18 : decode cX3_size 18 = .ok (.arraylength, 1) := dk_190 (dk_at dksX3_size_0 18 rfl rfl)
theorem dX3_size_19 : decode cX3_size 19 = .ok (.ireturn, 1) := dk_172 (dk_at dksX3_size_0 19 rfl rfl)
theorem dX3_size_20 : decode cX3_size 20 = .ok (.aload_n 0, 1) := dk_42 (dk_at dksX3_size_0 20 rfl rfl)
theorem dX3_size_21 : decode cX3_size 21 = .ok (.getfield 7, 3) := dk_180 0 7 (dk_at dksX3_size_0 21 rfl rfl)
theorem dX3_size_24 : decode cX3_size 24 = .ok (.astore_n 2, 1) := dk_77 (dk_at dksX3_size_1 0 rfl rfl)
theorem dX3_size_25 : decode cX3_size 25 = .ok (.aload_n 2, 1) := dk_44 (dk_at dksX3_size_1 1 rfl rfl)
theorem dX3_size_26 : decode cX3_size 26 = .ok (.instanceof 15, 3) := dk_193 0 15 (dk_at dksX3_size_1 2 rfl rfl)
theorem dX3_size_29 : decode cX3_size 29 = .ok (.ifCond .eq 11, 3) := dk_153 0 11 (dk_at dksX3_size_1 5 rfl rfl)
theorem dX3_size_32 : decode cX3_size 32 = .ok (.aload_n 2, 1) := dk_44 (dk_at dksX3_size_1 8 rfl rfl)
theorem dX3_size_33 : decode cX3_size 33 = .ok (.checkcast 15, 3) := dk_192 0 15 (dk_at dksX3_size_1 9 rfl rfl)
theorem dX3_size_36 : decode cX3_size 36 = .ok (.astore_n 1, 1) := dk_76 (dk_at dksX3_size_1 12 rfl rfl)
theorem dX3_size_37 : decode cX3_size 37 = .ok (.aload_n 1, 1) := dk_43 (dk_at dksX3_size_1 13 rfl rfl)
theorem dX3_size_38 : decode cX3_size 38 = .ok (.arraylength, 1) := dk_190 (dk_at dksX3_size_1 14 rfl rfl)
theorem dX3_size_39 : decode cX3_size 39 = .ok (.ireturn, 1) := dk_172 (dk_at dksX3_size_1 15 rfl rfl)
theorem dX3_size_40 : decode cX3_size 40 = .ok (.aload_n 0, 1) := dk_42 (dk_at dksX3_size_1 16 rfl rfl)
theorem dX3_size_41 : decode cX3_size 41 = .ok (.getfield 7, 3) := dk_180 0 7 (dk_at dksX3_size_1 17 rfl rfl)
theorem dX3_size_44 : decode cX3_size 44 = .ok (.astore_n 2, 1) := dk_77 (dk_at dksX3_size_1 20 rfl rfl)
theorem dX3_size_45 : decode cX3_size 45 = .ok (.aload_n 2, 1) := dk_44 (dk_at dksX3_size_1 21 rfl rfl)
theorem dX3_size_46 : decode cX3_size 46 = .ok (.instanceof 17, 3) := dk_193 0 17 (dk_at dksX3_size_2 0 rfl rfl)
theorem dX3_size_49 : decode cX3_size 49 = .ok (.ifCond .eq 11, 3) := dk_153 0 11 (dk_at dksX3_size_2 3 rfl rfl)
theorem dX3_size_52 : decode cX3_size 52 = .ok (.aload_n 2, 1) := dk_44 (dk_at dksX3_size_2 6 rfl rfl)
theorem dX3_size_53 : decode cX3_size 53 = .ok (.checkcast 17, 3) := dk_192 0 17 (dk_at dksX3_size_2 7 rfl rfl)
theorem dX3_size_56 : decode cX3_size 56 = .ok (.astore_n 1, 1) := dk_76 (dk_at dksX3_size_2 10 rfl rfl)
theorem dX3_size_57 : decode cX3_size 57 = .ok (.aload_n 1, 1) := dk_43 (dk_at dksX3_size_2 11 rfl rfl)
theorem dX3_size_58 : decode cX3_size 58 = .ok (.arraylength, 1) := dk_190 (dk_at dksX3_size_2 12 rfl rfl)
theorem dX3_size_59 : decode cX3_size 59 = .ok (.ireturn, 1) := dk_172 (dk_at dksX3_size_2 13 rfl rfl)
theorem dX3_size_60 : decode cX3_size 60 = .ok (.aload_n 0, 1) := dk_42 (dk_at dksX3_size_2 14 rfl rfl)
theorem dX3_size_61 : decode cX3_size 61 = .ok (.getfield 7, 3) := dk_180 0 7 (dk_at dksX3_size_2 15 rfl rfl)
theorem dX3_size_64 : decode cX3_size 64 = .ok (.astore_n 2, 1) := dk_77 (dk_at dksX3_size_2 18 rfl rfl)
theorem dX3_size_65 : decode cX3_size 65 = .ok (.aload_n 2, 1) := dk_44 (dk_at dksX3_size_2 19 rfl rfl)
theorem dX3_size_66 : decode cX3_size 66 = .ok (.instanceof 19, 3) := dk_193 0 19 (dk_at dksX3_size_2 20 rfl rfl)
theorem dX3_size_69 : decode cX3_size 69 = .ok (.ifCond .eq 11, 3) := dk_153 0 11 (dk_at dksX3_size_3 0 rfl rfl)
theorem dX3_size_72 : decode cX3_size 72 = .ok (.aload_n 2, 1) := dk_44 (dk_at dksX3_size_3 3 rfl rfl)
theorem dX3_size_73 : decode cX3_size 73 = .ok (.checkcast 19, 3) := dk_192 0 19 (dk_at dksX3_size_3 4 rfl rfl)
theorem dX3_size_76 : decode cX3_size 76 = .ok (.astore_n 1, 1) := dk_76 (dk_at dksX3_size_3 7 rfl rfl)
theorem dX3_size_77 : decode cX3_size 77 = .ok (.aload_n 1, 1) := dk_43 (dk_at dksX3_size_3 8 rfl rfl)
theorem dX3_size_78 : decode cX3_size 78 = .ok (.arraylength, 1) := dk_190 (dk_at dksX3_size_3 9 rfl rfl)
theorem dX3_size_79 : decode cX3_size 79 = .ok (.ireturn, 1) := dk_172 (dk_at dksX3_size_3 10 rfl rfl)
theorem dX3_size_80 : decode cX3_size 80 = .ok (.aload_n 0, 1) := dk_42 (dk_at dksX3_size_3 11 rfl rfl)
theorem dX3_size_81 : decode cX3_size 81 = .ok (.getfield 7, 3) := dk_180 0 7 (dk_at dksX3_size_3 12 rfl rfl)
theorem dX3_size_84 : decode cX3_size 84 = .ok (.checkcast 21, 3) := dk_192 0 21 (dk_at dksX3_size_3 15 rfl rfl)
theorem dX3_size_87 : decode cX3_size 87 = .ok (.arraylength, 1) := dk_190 (dk_at dksX3_size_3 18 rfl rfl)
theorem dX3_size_88 : decode cX3_size 88 = .ok (.ireturn, 1) := dk_172 (dk_at dksX3_size_3 19 rfl rfl)
abbrev cX3_get : ByteArray := prog_11_method_4_code
def yX3_get : MethodName := ⟨RX3, "get", "(I)J"⟩
def dkwX3_get_4 : List UInt8 := [52, 133, 173]
abbrev dktX3_get_4 : List UInt8 := dkwX3_get_4 ++ []
def dkwX3_get_3 : List UInt8 := [193, 0, 19, 153, 0, 13, 45, 192, 0, 19, 77, 44, 27, 51, 133, 173, 42, 180, 0, 7, 192, 0, 21, 27]
abbrev dktX3_get_3 : List UInt8 := dkwX3_get_3 ++ dktX3_get_4
def dkwX3_get_2 : List UInt8 := [78, 45, 193, 0, 17, 153, 0, 13, 45, 192, 0, 17, 77, 44, 27, 53, 133, 173, 42, 180, 0, 7, 78, 45]
abbrev dktX3_get_2 : List UInt8 := dkwX3_get_2 ++ dktX3_get_3
def dkwX3_get_1 : List UInt8 := [180, 0, 7, 78, 45, 193, 0, 15, 153, 0, 12, 45, 192, 0, 15, 77, 44, 27, 47, 173, 42, 180, 0, 7]
abbrev dktX3_get_1 : List UInt8 := dkwX3_get_1 ++ dktX3_get_2
def dkwX3_get_0 : List UInt8 := [42, 180, 0, 7, 78, 45, 193, 0, 13, 153, 0, 13, 45, 192, 0, 13, 77, 44, 27, 46, 133, 173, 42]
abbrev dktX3_get_0 : List UInt8 := dkwX3_get_0 ++ dktX3_get_1
theorem dksX3_get_0 : cX3_get.data.toList.drop 0 = dktX3_get_0 := by decide +kernel
theorem dksX3_get_1 : cX3_get.data.toList.drop 23 = dktX3_get_1 := dk_seg dksX3_get_0 23 rfl rfl
theorem dksX3_get_2 : cX3_get.data.toList.drop 47 = dktX3_get_2 := dk_seg dksX3_get_1 24 rfl rfl
theorem dksX3_get_3 : cX3_get.data.toList.drop 71 = dktX3_get_3 := dk_seg dksX3_get_2 24 rfl rfl
theorem dksX3_get_4 : cX3_get.data.toList.drop 95 = dktX3_get_4 := dk_seg dksX3_get_3 24 rfl rfl
theorem dX3_get_0 : decode cX3_get 0 = .ok (.aload_n 0, 1) := dk_42 (dk_at dksX3_get_0 0 rfl rfl)
theorem dX3_get_1 : decode cX3_get 1 = .ok (.getfield 7, 3) := dk_180 0 7 (dk_at dksX3_get_0 1 rfl rfl)
theorem dX3_get_4 : decode cX3_get 4 = .ok (.astore_n 3, 1) := dk_78 (dk_at dksX3_get_0 4 rfl rfl)
theorem dX3_get_5 : decode cX3_get 5 = .ok (.aload_n 3, 1) := dk_45 (dk_at dksX3_get_0 5 rfl rfl)
theorem dX3_get_6 : decode cX3_get 6 = .ok (.instanceof 13, 3) := dk_193 0 13 (dk_at dksX3_get_0 6 rfl rfl)
theorem dX3_get_9 : decode cX3_get 9 = .ok (.ifCond .eq 13, 3) := dk_153 0 13 (dk_at dksX3_get_0 9 rfl rfl)
theorem dX3_get_12 : decode cX3_get 12 = .ok (.aload_n 3, 1) := dk_45 (dk_at dksX3_get_0 12 rfl rfl)
theorem dX3_get_13 : decode cX3_get 13 = .ok (.checkcast 13, 3) := dk_192 0 13 (dk_at dksX3_get_0 13 rfl rfl)
theorem dX3_get_16 : decode cX3_get 16 = .ok (.astore_n 2, 1) := dk_77 (dk_at dksX3_get_0 16 rfl rfl)
theorem dX3_get_17 : decode cX3_get 17 = .ok (.aload_n 2, 1) := dk_44 (dk_at dksX3_get_0 17 rfl rfl)
theorem dX3_get_18 : decode cX3_get 18 = .ok (.iload_n 1, 1) := dk_27 (dk_at dksX3_get_0 18 rfl rfl)
theorem dX3_get_19 : decode cX3_get 19 = .ok (.iaload, 1) := dk_46 (dk_at dksX3_get_0 19 rfl rfl)
theorem dX3_get_20 : decode cX3_get 20 = .ok (.i2l, 1) := dk_133 (dk_at dksX3_get_0 20 rfl rfl)
theorem dX3_get_21 : decode cX3_get 21 = .ok (.lreturn, 1) := dk_173 (dk_at dksX3_get_0 21 rfl rfl)
theorem dX3_get_22 : decode cX3_get 22 = .ok (.aload_n 0, 1) := dk_42 (dk_at dksX3_get_0 22 rfl rfl)
theorem dX3_get_23 : decode cX3_get 23 = .ok (.getfield 7, 3) := dk_180 0 7 (dk_at dksX3_get_1 0 rfl rfl)
theorem dX3_get_26 : decode cX3_get 26 = .ok (.astore_n 3, 1) := dk_78 (dk_at dksX3_get_1 3 rfl rfl)
theorem dX3_get_27 : decode cX3_get 27 = .ok (.aload_n 3, 1) := dk_45 (dk_at dksX3_get_1 4 rfl rfl)
theorem dX3_get_28 : decode cX3_get 28 = .ok (.instanceof 15, 3) := dk_193 0 15 (dk_at dksX3_get_1 5 rfl rfl)
theorem dX3_get_31 : decode cX3_get 31 = .ok (.ifCond .eq 12, 3) := dk_153 0 12 (dk_at dksX3_get_1 8 rfl rfl)
theorem dX3_get_34 : decode cX3_get 34 = .ok (.aload_n 3, 1) := dk_45 (dk_at dksX3_get_1 11 rfl rfl)
theorem dX3_get_35 : decode cX3_get 35 = .ok (.checkcast 15, 3) := dk_192 0 15 (dk_at dksX3_get_1 12 rfl rfl)
theorem dX3_get_38 : decode cX3_get 38 = .ok (.astore_n 2, 1) := dk_77 (dk_at dksX3_get_1 15 rfl rfl)
theorem dX3_get_39 : decode cX3_get 39 = .ok (.aload_n 2, 1) := dk_44 (dk_at dksX3_get_1 16 rfl rfl)
theorem dX3_get_40 : decode cX3_get 40 = .ok (.iload_n 1, 1) := dk_27 (dk_at dksX3_get_1 17 rfl rfl)
theorem dX3_get_41 : decode cX3_get 41 = .ok (.laload, 1) := dk_47 (dk_at dksX3_get_1 18 rfl rfl)
theorem dX3_get_42 : decode cX3_get 42 = .ok (.lreturn, 1) := dk_173 (dk_at dksX3_get_1 19 rfl rfl)
theorem dX3_get_43 : decode cX3_get 43 = .ok (.aload_n 0, 1) := dk_42 (dk_at dksX3_get_1 20 rfl rfl)
theorem dX3_get_44 : decode cX3_get 44 = .ok (.getfield 7, 3) := dk_180 0 7 (dk_at dksX3_get_1 21 rfl rfl)
theorem dX3_get_47 : decode cX3_get 47 = .ok (.astore_n 3, 1) := dk_78 (dk_at dksX3_get_2 0 rfl rfl)
theorem dX3_get_48 : decode cX3_get 48 = .ok (.aload_n 3, 1) := dk_45 (dk_at dksX3_get_2 1 rfl rfl)
theorem dX3_get_49 : decode cX3_get 49 = .ok (.instanceof 17, 3) := dk_193 0 17 (dk_at dksX3_get_2 2 rfl rfl)
theorem dX3_get_52 : decode cX3_get 52 = .ok (.ifCond .eq 13, 3) := dk_153 0 13 (dk_at dksX3_get_2 5 rfl rfl)
theorem dX3_get_55 : decode cX3_get 55 = .ok (.aload_n 3, 1) := dk_45 (dk_at dksX3_get_2 8 rfl rfl)
theorem dX3_get_56 : decode cX3_get 56 = .ok (.checkcast 17, 3) := dk_192 0 17 (dk_at dksX3_get_2 9 rfl rfl)
theorem dX3_get_59 : decode cX3_get 59 = .ok (.astore_n 2, 1) := dk_77 (dk_at dksX3_get_2 12 rfl rfl)
theorem dX3_get_60 : decode cX3_get 60 = .ok (.aload_n 2, 1) := dk_44 (dk_at dksX3_get_2 13 rfl rfl)
theorem dX3_get_61 : decode cX3_get 61 = .ok (.iload_n 1, 1) := dk_27 (dk_at dksX3_get_2 14 rfl rfl)
theorem dX3_get_62 : decode cX3_get 62 = .ok (.saload, 1) := dk_53 (dk_at dksX3_get_2 15 rfl rfl)
theorem dX3_get_63 : decode cX3_get 63 = .ok (.i2l, 1) := dk_133 (dk_at dksX3_get_2 16 rfl rfl)
theorem dX3_get_64 : decode cX3_get 64 = .ok (.lreturn, 1) := dk_173 (dk_at dksX3_get_2 17 rfl rfl)
theorem dX3_get_65 : decode cX3_get 65 = .ok (.aload_n 0, 1) := dk_42 (dk_at dksX3_get_2 18 rfl rfl)
theorem dX3_get_66 : decode cX3_get 66 = .ok (.getfield 7, 3) := dk_180 0 7 (dk_at dksX3_get_2 19 rfl rfl)
theorem dX3_get_69 : decode cX3_get 69 = .ok (.astore_n 3, 1) := dk_78 (dk_at dksX3_get_2 22 rfl rfl)
theorem dX3_get_70 : decode cX3_get 70 = .ok (.aload_n 3, 1) := dk_45 (dk_at dksX3_get_2 23 rfl rfl)
theorem dX3_get_71 : decode cX3_get 71 = .ok (.instanceof 19, 3) := dk_193 0 19 (dk_at dksX3_get_3 0 rfl rfl)
theorem dX3_get_74 : decode cX3_get 74 = .ok (.ifCond .eq 13, 3) := dk_153 0 13 (dk_at dksX3_get_3 3 rfl rfl)
theorem dX3_get_77 : decode cX3_get 77 = .ok (.aload_n 3, 1) := dk_45 (dk_at dksX3_get_3 6 rfl rfl)
theorem dX3_get_78 : decode cX3_get 78 = .ok (.checkcast 19, 3) := dk_192 0 19 (dk_at dksX3_get_3 7 rfl rfl)
theorem dX3_get_81 : decode cX3_get 81 = .ok (.astore_n 2, 1) := dk_77 (dk_at dksX3_get_3 10 rfl rfl)
theorem dX3_get_82 : decode cX3_get 82 = .ok (.aload_n 2, 1) := dk_44 (dk_at dksX3_get_3 11 rfl rfl)
theorem dX3_get_83 : decode cX3_get 83 = .ok (.iload_n 1, 1) := dk_27 (dk_at dksX3_get_3 12 rfl rfl)
theorem dX3_get_84 : decode cX3_get 84 = .ok (.baload, 1) := dk_51 (dk_at dksX3_get_3 13 rfl rfl)
theorem dX3_get_85 : decode cX3_get 85 = .ok (.i2l, 1) := dk_133 (dk_at dksX3_get_3 14 rfl rfl)
theorem dX3_get_86 : decode cX3_get 86 = .ok (.lreturn, 1) := dk_173 (dk_at dksX3_get_3 15 rfl rfl)
theorem dX3_get_87 : decode cX3_get 87 = .ok (.aload_n 0, 1) := dk_42 (dk_at dksX3_get_3 16 rfl rfl)
theorem dX3_get_88 : decode cX3_get 88 = .ok (.getfield 7, 3) := dk_180 0 7 (dk_at dksX3_get_3 17 rfl rfl)
theorem dX3_get_91 : decode cX3_get 91 = .ok (.checkcast 21, 3) := dk_192 0 21 (dk_at dksX3_get_3 20 rfl rfl)
theorem dX3_get_94 : decode cX3_get 94 = .ok (.iload_n 1, 1) := dk_27 (dk_at dksX3_get_3 23 rfl rfl)
theorem dX3_get_95 : decode cX3_get 95 = .ok (.caload, 1) := dk_52 (dk_at dksX3_get_4 0 rfl rfl)
theorem dX3_get_96 : decode cX3_get 96 = .ok (.i2l, 1) := dk_133 (dk_at dksX3_get_4 1 rfl rfl)
theorem dX3_get_97 : decode cX3_get 97 = .ok (.lreturn, 1) := dk_173 (dk_at dksX3_get_4 2 rfl rfl)
abbrev cX3_kind : ByteArray := prog_11_method_2_code
def yX3_kind : MethodName := ⟨RX3, "kind", "()I"⟩
def dkwX3_kind_2 : List UInt8 := [193, 0, 19, 153, 0, 7, 6, 167, 0, 4, 7, 172]
abbrev dktX3_kind_2 : List UInt8 := dkwX3_kind_2 ++ []
def dkwX3_kind_1 : List UInt8 := [4, 167, 0, 32, 42, 180, 0, 7, 193, 0, 17, 153, 0, 7, 5, 167, 0, 18, 42, 180, 0, 7]
abbrev dktX3_kind_1 : List UInt8 := dkwX3_kind_1 ++ dktX3_kind_2
def dkwX3_kind_0 : List UInt8 := [42, 180, 0, 7, 193, 0, 13, 153, 0, 7, 3, 167, 0, 46, 42, 180, 0, 7, 193, 0, 15, 153, 0, 7]
abbrev dktX3_kind_0 : List UInt8 := dkwX3_kind_0 ++ dktX3_kind_1
theorem dksX3_kind_0 : cX3_kind.data.toList.drop 0 = dktX3_kind_0 := by decide +kernel
theorem dksX3_kind_1 : cX3_kind.data.toList.drop 24 = dktX3_kind_1 := dk_seg dksX3_kind_0 24 rfl rfl
theorem dksX3_kind_2 : cX3_kind.data.toList.drop 46 = dktX3_kind_2 := dk_seg dksX3_kind_1 22 rfl rfl
theorem dX3_kind_0 : decode cX3_kind 0 = .ok (.aload_n 0, 1) := dk_42 (dk_at dksX3_kind_0 0 rfl rfl)
theorem dX3_kind_1 : decode cX3_kind 1 = .ok (.getfield 7, 3) := dk_180 0 7 (dk_at dksX3_kind_0 1 rfl rfl)
theorem dX3_kind_4 : decode cX3_kind 4 = .ok (.instanceof 13, 3) := dk_193 0 13 (dk_at dksX3_kind_0 4 rfl rfl)
theorem dX3_kind_7 : decode cX3_kind 7 = .ok (.ifCond .eq 7, 3) := dk_153 0 7 (dk_at dksX3_kind_0 7 rfl rfl)
theorem dX3_kind_10 : decode cX3_kind 10 = .ok (.iconst 0, 1) := dk_3 (dk_at dksX3_kind_0 10 rfl rfl)
theorem dX3_kind_11 : decode cX3_kind 11 = .ok (.goto 46, 3) := dk_167 0 46 (dk_at dksX3_kind_0 11 rfl rfl)
theorem dX3_kind_14 : decode cX3_kind 14 = .ok (.aload_n 0, 1) := dk_42 (dk_at dksX3_kind_0 14 rfl rfl)
theorem dX3_kind_15 : decode cX3_kind 15 = .ok (.getfield 7, 3) := dk_180 0 7 (dk_at dksX3_kind_0 15 rfl rfl)
theorem dX3_kind_18 : decode cX3_kind 18 = .ok (.instanceof 15, 3) := dk_193 0 15 (dk_at dksX3_kind_0 18 rfl rfl)
theorem dX3_kind_21 : decode cX3_kind 21 = .ok (.ifCond .eq 7, 3) := dk_153 0 7 (dk_at dksX3_kind_0 21 rfl rfl)
theorem dX3_kind_24 : decode cX3_kind 24 = .ok (.iconst 1, 1) := dk_4 (dk_at dksX3_kind_1 0 rfl rfl)
theorem dX3_kind_25 : decode cX3_kind 25 = .ok (.goto 32, 3) := dk_167 0 32 (dk_at dksX3_kind_1 1 rfl rfl)
theorem dX3_kind_28 : decode cX3_kind 28 = .ok (.aload_n 0, 1) := dk_42 (dk_at dksX3_kind_1 4 rfl rfl)
theorem dX3_kind_29 : decode cX3_kind 29 = .ok (.getfield 7, 3) := dk_180 0 7 (dk_at dksX3_kind_1 5 rfl rfl)
theorem dX3_kind_32 : decode cX3_kind 32 = .ok (.instanceof 17, 3) := dk_193 0 17 (dk_at dksX3_kind_1 8 rfl rfl)
theorem dX3_kind_35 : decode cX3_kind 35 = .ok (.ifCond .eq 7, 3) := dk_153 0 7 (dk_at dksX3_kind_1 11 rfl rfl)
theorem dX3_kind_38 : decode cX3_kind 38 = .ok (.iconst 2, 1) := dk_5 (dk_at dksX3_kind_1 14 rfl rfl)
theorem dX3_kind_39 : decode cX3_kind 39 = .ok (.goto 18, 3) := dk_167 0 18 (dk_at dksX3_kind_1 15 rfl rfl)
theorem dX3_kind_42 : decode cX3_kind 42 = .ok (.aload_n 0, 1) := dk_42 (dk_at dksX3_kind_1 18 rfl rfl)
theorem dX3_kind_43 : decode cX3_kind 43 = .ok (.getfield 7, 3) := dk_180 0 7 (dk_at dksX3_kind_1 19 rfl rfl)
theorem dX3_kind_46 : decode cX3_kind 46 = .ok (.instanceof 19, 3) := dk_193 0 19 (dk_at dksX3_kind_2 0 rfl rfl)
theorem dX3_kind_49 : decode cX3_kind 49 = .ok (.ifCond .eq 7, 3) := dk_153 0 7 (dk_at dksX3_kind_2 3 rfl rfl)
theorem dX3_kind_52 : decode cX3_kind 52 = .ok (.iconst 3, 1) := dk_6 (dk_at dksX3_kind_2 6 rfl rfl)
theorem dX3_kind_53 : decode cX3_kind 53 = .ok (.goto 4, 3) := dk_167 0 4 (dk_at dksX3_kind_2 7 rfl rfl)
theorem dX3_kind_56 : decode cX3_kind 56 = .ok (.iconst 4, 1) := dk_7 (dk_at dksX3_kind_2 10 rfl rfl)
theorem dX3_kind_57 : decode cX3_kind 57 = .ok (.ireturn, 1) := dk_172 (dk_at dksX3_kind_2 11 rfl rfl)
abbrev cX3_set : ByteArray := prog_11_method_5_code
def yX3_set : MethodName := ⟨RX3, "set", "(IJ)V"⟩
def dkwX3_set_5 : List UInt8 := [167, 0, 15, 42, 180, 0, 7, 192, 0, 21, 27, 32, 136, 146, 85, 177]
abbrev dktX3_set_5 : List UInt8 := dkwX3_set_5 ++ []
def dkwX3_set_4 : List UInt8 := [58, 8, 25, 8, 193, 0, 19, 153, 0, 20, 25, 8, 192, 0, 19, 58, 7, 25, 7, 27, 32, 136, 145, 84]
abbrev dktX3_set_4 : List UInt8 := dkwX3_set_4 ++ dktX3_set_5
def dkwX3_set_3 : List UInt8 := [153, 0, 20, 25, 8, 192, 0, 17, 58, 6, 25, 6, 27, 32, 136, 147, 86, 167, 0, 46, 42, 180, 0, 7]
abbrev dktX3_set_3 : List UInt8 := dkwX3_set_3 ++ dktX3_set_4
def dkwX3_set_2 : List UInt8 := [192, 0, 15, 58, 5, 25, 5, 27, 32, 80, 167, 0, 77, 42, 180, 0, 7, 58, 8, 25, 8, 193, 0, 17]
abbrev dktX3_set_2 : List UInt8 := dkwX3_set_2 ++ dktX3_set_3
def dkwX3_set_1 : List UInt8 := [32, 136, 79, 167, 0, 106, 42, 180, 0, 7, 58, 8, 25, 8, 193, 0, 15, 153, 0, 18, 25, 8]
abbrev dktX3_set_1 : List UInt8 := dkwX3_set_1 ++ dktX3_set_2
def dkwX3_set_0 : List UInt8 := [42, 180, 0, 7, 58, 8, 25, 8, 193, 0, 13, 153, 0, 19, 25, 8, 192, 0, 13, 58, 4, 25, 4, 27]
abbrev dktX3_set_0 : List UInt8 := dkwX3_set_0 ++ dktX3_set_1
theorem dksX3_set_0 : cX3_set.data.toList.drop 0 = dktX3_set_0 := by decide +kernel
theorem dksX3_set_1 : cX3_set.data.toList.drop 24 = dktX3_set_1 := dk_seg dksX3_set_0 24 rfl rfl
theorem dksX3_set_2 : cX3_set.data.toList.drop 46 = dktX3_set_2 := dk_seg dksX3_set_1 22 rfl rfl
theorem dksX3_set_3 : cX3_set.data.toList.drop 70 = dktX3_set_3 := dk_seg dksX3_set_2 24 rfl rfl
theorem dksX3_set_4 : cX3_set.data.toList.drop 94 = dktX3_set_4 := dk_seg dksX3_set_3 24 rfl rfl
theorem dksX3_set_5 : cX3_set.data.toList.drop 118 = dktX3_set_5 := dk_seg dksX3_set_4 24 rfl rfl
theorem dX3_set_0 : decode cX3_set 0 = .ok (.aload_n 0, 1) := dk_42 (dk_at dksX3_set_0 0 rfl rfl)
theorem dX3_set_1 : decode cX3_set 1 = .ok (.getfield 7, 3) := dk_180 0 7 (dk_at dksX3_set_0 1 rfl rfl)
theorem dX3_set_4 : decode cX3_set 4 = .ok (.astore 8, 2) := dk_58 8 (dk_at dksX3_set_0 4 rfl rfl)
theorem dX3_set_6 : decode cX3_set 6 = .ok (.aload 8, 2) := dk_25 8 (dk_at dksX3_set_0 6 rfl rfl)
theorem dX3_set_8 : decode cX3_set 8 = .ok (.instanceof 13, 3) := dk_193 0 13 (dk_at dksX3_set_0 8 rfl rfl)
theorem dX3_set_11 : decode cX3_set 11 = .ok (.ifCond .eq 19, 3) := dk_153 0 19 (dk_at dksX3_set_0 11 rfl rfl)
theorem dX3_set_14 : decode cX3_set 14 = .ok (.aload 8, 2) := dk_25 8 (dk_at dksX3_set_0 14 rfl rfl)
theorem dX3_set_16 : decode cX3_set 16 = .ok (.checkcast 13, 3) := dk_192 0 13 (dk_at dksX3_set_0 16 rfl rfl)
theorem dX3_set_19 : decode cX3_set 19 = .ok (.astore 4, 2) := dk_58 4 (dk_at dksX3_set_0 19 rfl rfl)
theorem dX3_set_21 : decode cX3_set 21 = .ok (.aload 4, 2) := dk_25 4 (dk_at dksX3_set_0 21 rfl rfl)
theorem dX3_set_23 : decode cX3_set 23 = .ok (.iload_n 1, 1) := dk_27 (dk_at dksX3_set_0 23 rfl rfl)
theorem dX3_set_24 : decode cX3_set 24 = .ok (.lload_n 2, 1) := dk_32 (dk_at dksX3_set_1 0 rfl rfl)
theorem dX3_set_25 : decode cX3_set 25 = .ok (.l2i, 1) := dk_136 (dk_at dksX3_set_1 1 rfl rfl)
theorem dX3_set_26 : decode cX3_set 26 = .ok (.iastore, 1) := dk_79 (dk_at dksX3_set_1 2 rfl rfl)
theorem dX3_set_27 : decode cX3_set 27 = .ok (.goto 106, 3) := dk_167 0 106 (dk_at dksX3_set_1 3 rfl rfl)
theorem dX3_set_30 : decode cX3_set 30 = .ok (.aload_n 0, 1) := dk_42 (dk_at dksX3_set_1 6 rfl rfl)
theorem dX3_set_31 : decode cX3_set 31 = .ok (.getfield 7, 3) := dk_180 0 7 (dk_at dksX3_set_1 7 rfl rfl)
theorem dX3_set_34 : decode cX3_set 34 = .ok (.astore 8, 2) := dk_58 8 (dk_at dksX3_set_1 10 rfl rfl)
theorem dX3_set_36 : decode cX3_set 36 = .ok (.aload 8, 2) := dk_25 8 (dk_at dksX3_set_1 12 rfl rfl)
theorem dX3_set_38 : decode cX3_set 38 = .ok (.instanceof 15, 3) := dk_193 0 15 (dk_at dksX3_set_1 14 rfl rfl)
theorem dX3_set_41 : decode cX3_set 41 = .ok (.ifCond .eq 18, 3) := dk_153 0 18 (dk_at dksX3_set_1 17 rfl rfl)
theorem dX3_set_44 : decode cX3_set 44 = .ok (.aload 8, 2) := dk_25 8 (dk_at dksX3_set_1 20 rfl rfl)
theorem dX3_set_46 : decode cX3_set 46 = .ok (.checkcast 15, 3) := dk_192 0 15 (dk_at dksX3_set_2 0 rfl rfl)
theorem dX3_set_49 : decode cX3_set 49 = .ok (.astore 5, 2) := dk_58 5 (dk_at dksX3_set_2 3 rfl rfl)
theorem dX3_set_51 : decode cX3_set 51 = .ok (.aload 5, 2) := dk_25 5 (dk_at dksX3_set_2 5 rfl rfl)
theorem dX3_set_53 : decode cX3_set 53 = .ok (.iload_n 1, 1) := dk_27 (dk_at dksX3_set_2 7 rfl rfl)
theorem dX3_set_54 : decode cX3_set 54 = .ok (.lload_n 2, 1) := dk_32 (dk_at dksX3_set_2 8 rfl rfl)
theorem dX3_set_55 : decode cX3_set 55 = .ok (.lastore, 1) := dk_80 (dk_at dksX3_set_2 9 rfl rfl)
theorem dX3_set_56 : decode cX3_set 56 = .ok (.goto 77, 3) := dk_167 0 77 (dk_at dksX3_set_2 10 rfl rfl)
theorem dX3_set_59 : decode cX3_set 59 = .ok (.aload_n 0, 1) := dk_42 (dk_at dksX3_set_2 13 rfl rfl)
theorem dX3_set_60 : decode cX3_set 60 = .ok (.getfield 7, 3) := dk_180 0 7 (dk_at dksX3_set_2 14 rfl rfl)
theorem dX3_set_63 : decode cX3_set 63 = .ok (.astore 8, 2) := dk_58 8 (dk_at dksX3_set_2 17 rfl rfl)
theorem dX3_set_65 : decode cX3_set 65 = .ok (.aload 8, 2) := dk_25 8 (dk_at dksX3_set_2 19 rfl rfl)
theorem dX3_set_67 : decode cX3_set 67 = .ok (.instanceof 17, 3) := dk_193 0 17 (dk_at dksX3_set_2 21 rfl rfl)
theorem dX3_set_70 : decode cX3_set 70 = .ok (.ifCond .eq 20, 3) := dk_153 0 20 (dk_at dksX3_set_3 0 rfl rfl)
theorem dX3_set_73 : decode cX3_set 73 = .ok (.aload 8, 2) := dk_25 8 (dk_at dksX3_set_3 3 rfl rfl)
theorem dX3_set_75 : decode cX3_set 75 = .ok (.checkcast 17, 3) := dk_192 0 17 (dk_at dksX3_set_3 5 rfl rfl)
theorem dX3_set_78 : decode cX3_set 78 = .ok (.astore 6, 2) := dk_58 6 (dk_at dksX3_set_3 8 rfl rfl)
theorem dX3_set_80 : decode cX3_set 80 = .ok (.aload 6, 2) := dk_25 6 (dk_at dksX3_set_3 10 rfl rfl)
theorem dX3_set_82 : decode cX3_set 82 = .ok (.iload_n 1, 1) := dk_27 (dk_at dksX3_set_3 12 rfl rfl)
theorem dX3_set_83 : decode cX3_set 83 = .ok (.lload_n 2, 1) := dk_32 (dk_at dksX3_set_3 13 rfl rfl)
theorem dX3_set_84 : decode cX3_set 84 = .ok (.l2i, 1) := dk_136 (dk_at dksX3_set_3 14 rfl rfl)
theorem dX3_set_85 : decode cX3_set 85 = .ok (.i2s, 1) := dk_147 (dk_at dksX3_set_3 15 rfl rfl)
theorem dX3_set_86 : decode cX3_set 86 = .ok (.sastore, 1) := dk_86 (dk_at dksX3_set_3 16 rfl rfl)
theorem dX3_set_87 : decode cX3_set 87 = .ok (.goto 46, 3) := dk_167 0 46 (dk_at dksX3_set_3 17 rfl rfl)
theorem dX3_set_90 : decode cX3_set 90 = .ok (.aload_n 0, 1) := dk_42 (dk_at dksX3_set_3 20 rfl rfl)
theorem dX3_set_91 : decode cX3_set 91 = .ok (.getfield 7, 3) := dk_180 0 7 (dk_at dksX3_set_3 21 rfl rfl)
theorem dX3_set_94 : decode cX3_set 94 = .ok (.astore 8, 2) := dk_58 8 (dk_at dksX3_set_4 0 rfl rfl)
theorem dX3_set_96 : decode cX3_set 96 = .ok (.aload 8, 2) := dk_25 8 (dk_at dksX3_set_4 2 rfl rfl)
theorem dX3_set_98 : decode cX3_set 98 = .ok (.instanceof 19, 3) := dk_193 0 19 (dk_at dksX3_set_4 4 rfl rfl)
theorem dX3_set_101 : decode cX3_set 101 = .ok (.ifCond .eq 20, 3) := dk_153 0 20 (dk_at dksX3_set_4 7 rfl rfl)
theorem dX3_set_104 : decode cX3_set 104 = .ok (.aload 8, 2) := dk_25 8 (dk_at dksX3_set_4 10 rfl rfl)
theorem dX3_set_106 : decode cX3_set 106 = .ok (.checkcast 19, 3) := dk_192 0 19 (dk_at dksX3_set_4 12 rfl rfl)
theorem dX3_set_109 : decode cX3_set 109 = .ok (.astore 7, 2) := dk_58 7 (dk_at dksX3_set_4 15 rfl rfl)
theorem dX3_set_111 : decode cX3_set 111 = .ok (.aload 7, 2) := dk_25 7 (dk_at dksX3_set_4 17 rfl rfl)
theorem dX3_set_113 : decode cX3_set 113 = .ok (.iload_n 1, 1) := dk_27 (dk_at dksX3_set_4 19 rfl rfl)
theorem dX3_set_114 : decode cX3_set 114 = .ok (.lload_n 2, 1) := dk_32 (dk_at dksX3_set_4 20 rfl rfl)
theorem dX3_set_115 : decode cX3_set 115 = .ok (.l2i, 1) := dk_136 (dk_at dksX3_set_4 21 rfl rfl)
theorem dX3_set_116 : decode cX3_set 116 = .ok (.i2b, 1) := dk_145 (dk_at dksX3_set_4 22 rfl rfl)
theorem dX3_set_117 : decode cX3_set 117 = .ok (.bastore, 1) := dk_84 (dk_at dksX3_set_4 23 rfl rfl)
theorem dX3_set_118 : decode cX3_set 118 = .ok (.goto 15, 3) := dk_167 0 15 (dk_at dksX3_set_5 0 rfl rfl)
theorem dX3_set_121 : decode cX3_set 121 = .ok (.aload_n 0, 1) := dk_42 (dk_at dksX3_set_5 3 rfl rfl)
theorem dX3_set_122 : decode cX3_set 122 = .ok (.getfield 7, 3) := dk_180 0 7 (dk_at dksX3_set_5 4 rfl rfl)
theorem dX3_set_125 : decode cX3_set 125 = .ok (.checkcast 21, 3) := dk_192 0 21 (dk_at dksX3_set_5 7 rfl rfl)
theorem dX3_set_128 : decode cX3_set 128 = .ok (.iload_n 1, 1) := dk_27 (dk_at dksX3_set_5 10 rfl rfl)
theorem dX3_set_129 : decode cX3_set 129 = .ok (.lload_n 2, 1) := dk_32 (dk_at dksX3_set_5 11 rfl rfl)
theorem dX3_set_130 : decode cX3_set 130 = .ok (.l2i, 1) := dk_136 (dk_at dksX3_set_5 12 rfl rfl)
theorem dX3_set_131 : decode cX3_set 131 = .ok (.i2c, 1) := dk_146 (dk_at dksX3_set_5 13 rfl rfl)
theorem dX3_set_132 : decode cX3_set 132 = .ok (.castore, 1) := dk_85 (dk_at dksX3_set_5 14 rfl rfl)
theorem dX3_set_133 : decode cX3_set 133 = .ok (.return_, 1) := dk_177 (dk_at dksX3_set_5 15 rfl rfl)
abbrev cX3_make : ByteArray := prog_11_method_6_code
def yX3_make : MethodName := ⟨RX3, "make", "(II)V"⟩
def dkwX3_make_3 : List UInt8 := [181, 0, 7, 167, 0, 20, 42, 28, 188, 8, 181, 0, 7, 167, 0, 10, 42, 28, 188, 5, 181, 0, 7, 177]
abbrev dktX3_make_3 : List UInt8 := dkwX3_make_3 ++ []
def dkwX3_make_2 : List UInt8 := [42, 28, 188, 10, 181, 0, 7, 167, 0, 40, 42, 28, 188, 11, 181, 0, 7, 167, 0, 30, 42, 28, 188, 9]
abbrev dktX3_make_2 : List UInt8 := dkwX3_make_2 ++ dktX3_make_3
def dkwX3_make_1 : List UInt8 := [170, 0, 0, 0, 0, 0, 71, 0, 0, 0, 0, 0, 0, 0, 3, 0, 0, 0, 31, 0, 0, 0, 41, 0, 0, 0, 51, 0, 0, 0, 61]
abbrev dktX3_make_1 : List UInt8 := dkwX3_make_1 ++ dktX3_make_2
def dkwX3_make_0 : List UInt8 := [27]
abbrev dktX3_make_0 : List UInt8 := dkwX3_make_0 ++ dktX3_make_1
theorem dksX3_make_0 : cX3_make.data.toList.drop 0 = dktX3_make_0 := by decide +kernel
theorem dksX3_make_1 : cX3_make.data.toList.drop 1 = dktX3_make_1 := dk_seg dksX3_make_0 1 rfl rfl
theorem dksX3_make_2 : cX3_make.data.toList.drop 32 = dktX3_make_2 := dk_seg dksX3_make_1 31 rfl rfl
theorem dksX3_make_3 : cX3_make.data.toList.drop 56 = dktX3_make_3 := dk_seg dksX3_make_2 24 rfl rfl
theorem dX3_make_0 : decode cX3_make 0 = .ok (.iload_n 1, 1) := dk_27 (dk_at dksX3_make_0 0 rfl rfl)
theorem dX3_make_1 : decode cX3_make 1 = .ok (.tableswitch 71 0 3 #[31, 41, 51, 61], 31) := by decide +kernel
theorem dX3_make_32 : decode cX3_make 32 = .ok (.aload_n 0, 1) := dk_42 (dk_at dksX3_make_2 0 rfl rfl)
theorem dX3_make_33 : decode cX3_make 33 = .ok (.iload_n 2, 1) := dk_28 (dk_at dksX3_make_2 1 rfl rfl)
theorem dX3_make_34 : decode cX3_make 34 = .ok (.newarray .int, 2) := dk_188_10 (dk_at dksX3_make_2 2 rfl rfl)
theorem dX3_make_36 : decode cX3_make 36 = .ok (.putfield 7, 3) := dk_181 0 7 (dk_at dksX3_make_2 4 rfl rfl)
theorem dX3_make_39 : decode cX3_make 39 = .ok (.goto 40, 3) := dk_167 0 40 (dk_at dksX3_make_2 7 rfl rfl)
theorem dX3_make_42 : decode cX3_make 42 = .ok (.aload_n 0, 1) := dk_42 (dk_at dksX3_make_2 10 rfl rfl)
theorem dX3_make_43 : decode cX3_make 43 = .ok (.iload_n 2, 1) := dk_28 (dk_at dksX3_make_2 11 rfl rfl)
theorem dX3_make_44 : decode cX3_make 44 = .ok (.newarray .long, 2) := dk_188_11 (dk_at dksX3_make_2 12 rfl rfl)
theorem dX3_make_46 : decode cX3_make 46 = .ok (.putfield 7, 3) := dk_181 0 7 (dk_at dksX3_make_2 14 rfl rfl)
theorem dX3_make_49 : decode cX3_make 49 = .ok (.goto 30, 3) := dk_167 0 30 (dk_at dksX3_make_2 17 rfl rfl)
theorem dX3_make_52 : decode cX3_make 52 = .ok (.aload_n 0, 1) := dk_42 (dk_at dksX3_make_2 20 rfl rfl)
theorem dX3_make_53 : decode cX3_make 53 = .ok (.iload_n 2, 1) := dk_28 (dk_at dksX3_make_2 21 rfl rfl)
theorem dX3_make_54 : decode cX3_make 54 = .ok (.newarray .short, 2) := dk_188_9 (dk_at dksX3_make_2 22 rfl rfl)
theorem dX3_make_56 : decode cX3_make 56 = .ok (.putfield 7, 3) := dk_181 0 7 (dk_at dksX3_make_3 0 rfl rfl)
theorem dX3_make_59 : decode cX3_make 59 = .ok (.goto 20, 3) := dk_167 0 20 (dk_at dksX3_make_3 3 rfl rfl)
theorem dX3_make_62 : decode cX3_make 62 = .ok (.aload_n 0, 1) := dk_42 (dk_at dksX3_make_3 6 rfl rfl)
theorem dX3_make_63 : decode cX3_make 63 = .ok (.iload_n 2, 1) := dk_28 (dk_at dksX3_make_3 7 rfl rfl)
theorem dX3_make_64 : decode cX3_make 64 = .ok (.newarray .byte, 2) := dk_188_8 (dk_at dksX3_make_3 8 rfl rfl)
theorem dX3_make_66 : decode cX3_make 66 = .ok (.putfield 7, 3) := dk_181 0 7 (dk_at dksX3_make_3 10 rfl rfl)
theorem dX3_make_69 : decode cX3_make 69 = .ok (.goto 10, 3) := dk_167 0 10 (dk_at dksX3_make_3 13 rfl rfl)
theorem dX3_make_72 : decode cX3_make 72 = .ok (.aload_n 0, 1) := dk_42 (dk_at dksX3_make_3 16 rfl rfl)
theorem dX3_make_73 : decode cX3_make 73 = .ok (.iload_n 2, 1) := dk_28 (dk_at dksX3_make_3 17 rfl rfl)
theorem dX3_make_74 : decode cX3_make 74 = .ok (.newarray .char, 2) := dk_188_5 (dk_at dksX3_make_3 18 rfl rfl)
theorem dX3_make_76 : decode cX3_make 76 = .ok (.putfield 7, 3) := dk_181 0 7 (dk_at dksX3_make_3 20 rfl rfl)
theorem dX3_make_79 : decode cX3_make 79 = .ok (.return_, 1) := dk_177 (dk_at dksX3_make_3 23 rfl rfl)
theorem q150 : (Jvm.Cond.initialized "ThereAndBack$Holder") ∈ lw_all := lw_g (lw_at lw_m1 6 rfl) rfl
theorem q315 : (Jvm.Cond.instantiable "ThereAndBack$Holder" (1 : Nat)) ∈ lw_all := lw_g (lw_at lw_m1 171 rfl) rfl
theorem q317 : (Jvm.Cond.instanceMethod ({ cls := "ThereAndBack$Holder", name := "<init>", desc := "()V" } : Jvm.MethodName)) ∈ lw_all := lw_g (lw_at lw_m1 173 rfl) rfl
theorem q318 : (Jvm.Cond.code ({ cls := "ThereAndBack$Holder", name := "<init>", desc := "()V" } : Jvm.MethodName) prog_11_method_1_code (1 : Nat) (Option.none : Option Jvm.ClassFile.FieldType)) ∈ lw_all := lw_g (lw_at lw_m1 174 rfl) rfl
theorem q319 : (Jvm.Cond.methodLink "ThereAndBack$Holder" (1 : Nat) ({ cls := "java/lang/Object", name := "<init>", desc := "()V" } : Jvm.MethodName)) ∈ lw_all := lw_g (lw_at lw_m1 175 rfl) rfl
theorem q320 : (Jvm.Cond.fieldLink "ThereAndBack$Holder" (7 : Nat) "ThereAndBack$Holder" "row" "Ljava/lang/Object;") ∈ lw_all := lw_g (lw_at lw_m1 176 rfl) rfl
theorem q324 : (Jvm.Cond.lays "ThereAndBack$Holder" "ThereAndBack$Holder" "row" "Ljava/lang/Object;") ∈ lw_all := lw_g (lw_at lw_m1 180 rfl) rfl
theorem q325 : (Jvm.Cond.soleField "ThereAndBack$Holder" "row") ∈ lw_all := lw_g (lw_at lw_m1 181 rfl) rfl
theorem q326 : (Jvm.Cond.superclass "ThereAndBack$Holder" "java/lang/Object") ∈ lw_all := lw_g (lw_at lw_m1 182 rfl) rfl
theorem q1160 : (Jvm.Cond.selects "ThereAndBack$Holder" ({ cls := "java/lang/Object", name := "getClass", desc := "()Ljava/lang/Class;" } : Jvm.MethodName) ({ cls := "java/lang/Object", name := "getClass", desc := "()Ljava/lang/Class;" } : Jvm.MethodName)) ∈ lw_all := lw_g (lw_at lw_m5 56 rfl) rfl
theorem q1958 : (Jvm.Cond.instanceMethod ({ cls := "ThereAndBack$Holder", name := "size", desc := "()I" } : Jvm.MethodName)) ∈ lw_all := lw_g (lw_at lw_m8 134 rfl) rfl
theorem q1959 : (Jvm.Cond.selects "ThereAndBack$Holder" ({ cls := "ThereAndBack$Holder", name := "size", desc := "()I" } : Jvm.MethodName) ({ cls := "ThereAndBack$Holder", name := "size", desc := "()I" } : Jvm.MethodName)) ∈ lw_all := lw_g (lw_at lw_m8 135 rfl) rfl
theorem q1960 : (Jvm.Cond.code ({ cls := "ThereAndBack$Holder", name := "size", desc := "()I" } : Jvm.MethodName) prog_11_method_3_code (3 : Nat) (Option.some Jvm.ClassFile.FieldType.int)) ∈ lw_all := lw_g (lw_at lw_m8 136 rfl) rfl
theorem q1961 : (Jvm.Cond.classLink "ThereAndBack$Holder" (13 : Nat) "[I") ∈ lw_all := lw_g (lw_at lw_m8 137 rfl) rfl
theorem q1962 : (Jvm.Cond.classLink "ThereAndBack$Holder" (15 : Nat) "[J") ∈ lw_all := lw_g (lw_at lw_m8 138 rfl) rfl
theorem q1963 : (Jvm.Cond.classLink "ThereAndBack$Holder" (17 : Nat) "[S") ∈ lw_all := lw_g (lw_at lw_m8 139 rfl) rfl
theorem q1964 : (Jvm.Cond.classLink "ThereAndBack$Holder" (19 : Nat) "[B") ∈ lw_all := lw_g (lw_at lw_m8 140 rfl) rfl
theorem q1965 : (Jvm.Cond.classLink "ThereAndBack$Holder" (21 : Nat) "[C") ∈ lw_all := lw_g (lw_at lw_m8 141 rfl) rfl
theorem q1977 : (Jvm.Cond.instanceMethod ({ cls := "ThereAndBack$Holder", name := "get", desc := "(I)J" } : Jvm.MethodName)) ∈ lw_all := lw_g (lw_at lw_m8 153 rfl) rfl
theorem q1978 : (Jvm.Cond.selects "ThereAndBack$Holder" ({ cls := "ThereAndBack$Holder", name := "get", desc := "(I)J" } : Jvm.MethodName) ({ cls := "ThereAndBack$Holder", name := "get", desc := "(I)J" } : Jvm.MethodName)) ∈ lw_all := lw_g (lw_at lw_m8 154 rfl) rfl
theorem q1979 : (Jvm.Cond.code ({ cls := "ThereAndBack$Holder", name := "get", desc := "(I)J" } : Jvm.MethodName) prog_11_method_4_code (4 : Nat) (Option.some Jvm.ClassFile.FieldType.long)) ∈ lw_all := lw_g (lw_at lw_m8 155 rfl) rfl
theorem q2050 : (Jvm.Cond.instanceMethod ({ cls := "ThereAndBack$Holder", name := "kind", desc := "()I" } : Jvm.MethodName)) ∈ lw_all := lw_g (lw_at lw_m8 226 rfl) rfl
theorem q2051 : (Jvm.Cond.selects "ThereAndBack$Holder" ({ cls := "ThereAndBack$Holder", name := "kind", desc := "()I" } : Jvm.MethodName) ({ cls := "ThereAndBack$Holder", name := "kind", desc := "()I" } : Jvm.MethodName)) ∈ lw_all := lw_g (lw_at lw_m8 227 rfl) rfl
theorem q2052 : (Jvm.Cond.code ({ cls := "ThereAndBack$Holder", name := "kind", desc := "()I" } : Jvm.MethodName) prog_11_method_2_code (1 : Nat) (Option.some Jvm.ClassFile.FieldType.int)) ∈ lw_all := lw_g (lw_at lw_m8 228 rfl) rfl
theorem q2165 : (Jvm.Cond.instanceMethod ({ cls := "ThereAndBack$Holder", name := "set", desc := "(IJ)V" } : Jvm.MethodName)) ∈ lw_all := lw_g (lw_at lw_m9 101 rfl) rfl
theorem q2166 : (Jvm.Cond.selects "ThereAndBack$Holder" ({ cls := "ThereAndBack$Holder", name := "set", desc := "(IJ)V" } : Jvm.MethodName) ({ cls := "ThereAndBack$Holder", name := "set", desc := "(IJ)V" } : Jvm.MethodName)) ∈ lw_all := lw_g (lw_at lw_m9 102 rfl) rfl
theorem q2167 : (Jvm.Cond.code ({ cls := "ThereAndBack$Holder", name := "set", desc := "(IJ)V" } : Jvm.MethodName) prog_11_method_5_code (9 : Nat) (Option.none : Option Jvm.ClassFile.FieldType)) ∈ lw_all := lw_g (lw_at lw_m9 103 rfl) rfl
theorem q2190 : (Jvm.Cond.instanceMethod ({ cls := "ThereAndBack$Holder", name := "make", desc := "(II)V" } : Jvm.MethodName)) ∈ lw_all := lw_g (lw_at lw_m9 126 rfl) rfl
theorem q2191 : (Jvm.Cond.selects "ThereAndBack$Holder" ({ cls := "ThereAndBack$Holder", name := "make", desc := "(II)V" } : Jvm.MethodName) ({ cls := "ThereAndBack$Holder", name := "make", desc := "(II)V" } : Jvm.MethodName)) ∈ lw_all := lw_g (lw_at lw_m9 127 rfl) rfl
theorem q2192 : (Jvm.Cond.code ({ cls := "ThereAndBack$Holder", name := "make", desc := "(II)V" } : Jvm.MethodName) prog_11_method_6_code (3 : Nat) (Option.none : Option Jvm.ClassFile.FieldType)) ∈ lw_all := lw_g (lw_at lw_m9 128 rfl) rfl
theorem q3130 : (Jvm.Cond.castable "ThereAndBack$Holder" "java/lang/Object") ∈ lw_tbl := lw_at lw_m13 106 rfl
theorem in_X3 : ∀ w ∈ wsX30, w ∈ lw_all := lw_in wsX30 [324] (by decide +kernel) (by decide +kernel)
/-! ThereAndBack$Part -/
set_option maxRecDepth 100000
def RX5 : String := "ThereAndBack$Part"
def TX5 : u_T := fun k => match k with
  | _ => ("ThereAndBack$Part", "steps", "Ljava/util/List;", true)
def tyX5 : Nat → FieldType := fun k => match k with
  | _ => .object "java/util/List"
abbrev wsX50 : List Cond := u_ws RX5 TX5 1
theorem nmX5 : ∀ a, a < 1 → ∀ b, b < 1 → a ≠ b → (TX5 a).2.1 ≠ (TX5 b).2.1 := by decide +kernel
theorem tyX5_ok : ∀ k, k < 1 → parseFieldDescriptor (TX5 k).2.2.1 = some (tyX5 k) := by decide +kernel
abbrev cX5_init : ByteArray := prog_23_method_1_code
def yX5_init : MethodName := ⟨RX5, "<init>", "()V"⟩
def dkwX5_init_0 : List UInt8 := [42, 183, 0, 1, 42, 187, 0, 7, 89, 183, 0, 9, 181, 0, 10, 177]
abbrev dktX5_init_0 : List UInt8 := dkwX5_init_0 ++ []
theorem dksX5_init_0 : cX5_init.data.toList.drop 0 = dktX5_init_0 := by decide +kernel
theorem dX5_init_0 : decode cX5_init 0 = .ok (.aload_n 0, 1) := dk_42 (dk_at dksX5_init_0 0 rfl rfl)
theorem dX5_init_1 : decode cX5_init 1 = .ok (.invokespecial 1, 3) := dk_183 0 1 (dk_at dksX5_init_0 1 rfl rfl)
theorem dX5_init_4 : decode cX5_init 4 = .ok (.aload_n 0, 1) := dk_42 (dk_at dksX5_init_0 4 rfl rfl)
theorem dX5_init_5 : decode cX5_init 5 = .ok (.new 7, 3) := dk_187 0 7 (dk_at dksX5_init_0 5 rfl rfl)
theorem dX5_init_8 : decode cX5_init 8 = .ok (.dup, 1) := dk_89 (dk_at dksX5_init_0 8 rfl rfl)
theorem dX5_init_9 : decode cX5_init 9 = .ok (.invokespecial 9, 3) := dk_183 0 9 (dk_at dksX5_init_0 9 rfl rfl)
theorem dX5_init_12 : decode cX5_init 12 = .ok (.putfield 10, 3) := dk_181 0 10 (dk_at dksX5_init_0 12 rfl rfl)
theorem dX5_init_15 : decode cX5_init 15 = .ok (.return_, 1) := dk_177 (dk_at dksX5_init_0 15 rfl rfl)
abbrev cX5_lay : ByteArray := prog_23_method_7_code
def yX5_lay : MethodName := ⟨RX5, "lay", "(Ljava/util/List;)V"⟩
def dkwX5_lay_1 : List UInt8 := [185, 0, 22, 2, 0, 192, 0, 26, 78, 45, 43, 182, 0, 54, 132, 2, 1, 167, 255, 221, 177]
abbrev dktX5_lay_1 : List UInt8 := dkwX5_lay_1 ++ []
def dkwX5_lay_0 : List UInt8 := [3, 61, 28, 42, 180, 0, 10, 185, 0, 16, 1, 0, 162, 0, 28, 42, 180, 0, 10, 28]
abbrev dktX5_lay_0 : List UInt8 := dkwX5_lay_0 ++ dktX5_lay_1
theorem dksX5_lay_0 : cX5_lay.data.toList.drop 0 = dktX5_lay_0 := by decide +kernel
theorem dksX5_lay_1 : cX5_lay.data.toList.drop 20 = dktX5_lay_1 := dk_seg dksX5_lay_0 20 rfl rfl
theorem dX5_lay_0 : decode cX5_lay 0 = .ok (.iconst 0, 1) := dk_3 (dk_at dksX5_lay_0 0 rfl rfl)
theorem dX5_lay_1 : decode cX5_lay 1 = .ok (.istore_n 2, 1) := dk_61 (dk_at dksX5_lay_0 1 rfl rfl)
theorem dX5_lay_2 : decode cX5_lay 2 = .ok (.iload_n 2, 1) := dk_28 (dk_at dksX5_lay_0 2 rfl rfl)
theorem dX5_lay_3 : decode cX5_lay 3 = .ok (.aload_n 0, 1) := dk_42 (dk_at dksX5_lay_0 3 rfl rfl)
theorem dX5_lay_4 : decode cX5_lay 4 = .ok (.getfield 10, 3) := dk_180 0 10 (dk_at dksX5_lay_0 4 rfl rfl)
theorem dX5_lay_7 : decode cX5_lay 7 = .ok (.invokeinterface 16 1, 5) := by decide +kernel
theorem dX5_lay_12 : decode cX5_lay 12 = .ok (.if_icmp .ge 28, 3) := dk_162 0 28 (dk_at dksX5_lay_0 12 rfl rfl)
theorem dX5_lay_15 : decode cX5_lay 15 = .ok (.aload_n 0, 1) := dk_42 (dk_at dksX5_lay_0 15 rfl rfl)
theorem dX5_lay_16 : decode cX5_lay 16 = .ok (.getfield 10, 3) := dk_180 0 10 (dk_at dksX5_lay_0 16 rfl rfl)
theorem dX5_lay_19 : decode cX5_lay 19 = .ok (.iload_n 2, 1) := dk_28 (dk_at dksX5_lay_0 19 rfl rfl)
theorem dX5_lay_20 : decode cX5_lay 20 = .ok (.invokeinterface 22 2, 5) := by decide +kernel
theorem dX5_lay_25 : decode cX5_lay 25 = .ok (.checkcast 26, 3) := dk_192 0 26 (dk_at dksX5_lay_1 5 rfl rfl)
theorem dX5_lay_28 : decode cX5_lay 28 = .ok (.astore_n 3, 1) := dk_78 (dk_at dksX5_lay_1 8 rfl rfl)
theorem dX5_lay_29 : decode cX5_lay 29 = .ok (.aload_n 3, 1) := dk_45 (dk_at dksX5_lay_1 9 rfl rfl)
theorem dX5_lay_30 : decode cX5_lay 30 = .ok (.aload_n 1, 1) := dk_43 (dk_at dksX5_lay_1 10 rfl rfl)
theorem dX5_lay_31 : decode cX5_lay 31 = .ok (.invokevirtual 54, 3) := dk_182 0 54 (dk_at dksX5_lay_1 11 rfl rfl)
theorem dX5_lay_34 : decode cX5_lay 34 = .ok (.iinc 2 1, 3) := dk_132 2 1 (dk_at dksX5_lay_1 14 rfl rfl)
theorem dX5_lay_37 : decode cX5_lay 37 = .ok (.goto (-35), 3) := dk_167 255 221 (dk_at dksX5_lay_1 17 rfl rfl)
theorem dX5_lay_40 : decode cX5_lay 40 = .ok (.return_, 1) := dk_177 (dk_at dksX5_lay_1 20 rfl rfl)
abbrev cX5_code : ByteArray := prog_23_method_2_code
def yX5_code : MethodName := ⟨RX5, "code", "()I"⟩
def dkwX5_code_1 : List UInt8 := [185, 0, 22, 2, 0, 192, 0, 26, 78, 27, 45, 182, 0, 28, 96, 60, 132, 2, 1, 167, 255, 219, 27, 172]
abbrev dktX5_code_1 : List UInt8 := dkwX5_code_1 ++ []
def dkwX5_code_0 : List UInt8 := [3, 60, 3, 61, 28, 42, 180, 0, 10, 185, 0, 16, 1, 0, 162, 0, 30, 42, 180, 0, 10, 28]
abbrev dktX5_code_0 : List UInt8 := dkwX5_code_0 ++ dktX5_code_1
theorem dksX5_code_0 : cX5_code.data.toList.drop 0 = dktX5_code_0 := by decide +kernel
theorem dksX5_code_1 : cX5_code.data.toList.drop 22 = dktX5_code_1 := dk_seg dksX5_code_0 22 rfl rfl
theorem dX5_code_0 : decode cX5_code 0 = .ok (.iconst 0, 1) := dk_3 (dk_at dksX5_code_0 0 rfl rfl)
theorem dX5_code_1 : decode cX5_code 1 = .ok (.istore_n 1, 1) := dk_60 (dk_at dksX5_code_0 1 rfl rfl)
theorem dX5_code_2 : decode cX5_code 2 = .ok (.iconst 0, 1) := dk_3 (dk_at dksX5_code_0 2 rfl rfl)
theorem dX5_code_3 : decode cX5_code 3 = .ok (.istore_n 2, 1) := dk_61 (dk_at dksX5_code_0 3 rfl rfl)
theorem dX5_code_4 : decode cX5_code 4 = .ok (.iload_n 2, 1) := dk_28 (dk_at dksX5_code_0 4 rfl rfl)
theorem dX5_code_5 : decode cX5_code 5 = .ok (.aload_n 0, 1) := dk_42 (dk_at dksX5_code_0 5 rfl rfl)
theorem dX5_code_6 : decode cX5_code 6 = .ok (.getfield 10, 3) := dk_180 0 10 (dk_at dksX5_code_0 6 rfl rfl)
theorem dX5_code_9 : decode cX5_code 9 = .ok (.invokeinterface 16 1, 5) := by decide +kernel
theorem dX5_code_14 : decode cX5_code 14 = .ok (.if_icmp .ge 30, 3) := dk_162 0 30 (dk_at dksX5_code_0 14 rfl rfl)
theorem dX5_code_17 : decode cX5_code 17 = .ok (.aload_n 0, 1) := dk_42 (dk_at dksX5_code_0 17 rfl rfl)
theorem dX5_code_18 : decode cX5_code 18 = .ok (.getfield 10, 3) := dk_180 0 10 (dk_at dksX5_code_0 18 rfl rfl)
theorem dX5_code_21 : decode cX5_code 21 = .ok (.iload_n 2, 1) := dk_28 (dk_at dksX5_code_0 21 rfl rfl)
theorem dX5_code_22 : decode cX5_code 22 = .ok (.invokeinterface 22 2, 5) := by decide +kernel
theorem dX5_code_27 : decode cX5_code 27 = .ok (.checkcast 26, 3) := dk_192 0 26 (dk_at dksX5_code_1 5 rfl rfl)
theorem dX5_code_30 : decode cX5_code 30 = .ok (.astore_n 3, 1) := dk_78 (dk_at dksX5_code_1 8 rfl rfl)
theorem dX5_code_31 : decode cX5_code 31 = .ok (.iload_n 1, 1) := dk_27 (dk_at dksX5_code_1 9 rfl rfl)
theorem dX5_code_32 : decode cX5_code 32 = .ok (.aload_n 3, 1) := dk_45 (dk_at dksX5_code_1 10 rfl rfl)
theorem dX5_code_33 : decode cX5_code 33 = .ok (.invokevirtual 28, 3) := dk_182 0 28 (dk_at dksX5_code_1 11 rfl rfl)
theorem dX5_code_36 : decode cX5_code 36 = .ok (.iadd, 1) := dk_96 (dk_at dksX5_code_1 14 rfl rfl)
theorem dX5_code_37 : decode cX5_code 37 = .ok (.istore_n 1, 1) := dk_60 (dk_at dksX5_code_1 15 rfl rfl)
theorem dX5_code_38 : decode cX5_code 38 = .ok (.iinc 2 1, 3) := dk_132 2 1 (dk_at dksX5_code_1 16 rfl rfl)
theorem dX5_code_41 : decode cX5_code 41 = .ok (.goto (-37), 3) := dk_167 255 219 (dk_at dksX5_code_1 19 rfl rfl)
theorem dX5_code_44 : decode cX5_code 44 = .ok (.iload_n 1, 1) := dk_27 (dk_at dksX5_code_1 22 rfl rfl)
theorem dX5_code_45 : decode cX5_code 45 = .ok (.ireturn, 1) := dk_172 (dk_at dksX5_code_1 23 rfl rfl)
abbrev cX5_braces : ByteArray := prog_23_method_4_code
def yX5_braces : MethodName := ⟨RX5, "braces", "()I"⟩
def dkwX5_braces_2 : List UInt8 := [27, 172]
abbrev dktX5_braces_2 : List UInt8 := dkwX5_braces_2 ++ []
def dkwX5_braces_1 : List UInt8 := [185, 0, 22, 2, 0, 192, 0, 26, 78, 27, 45, 182, 0, 34, 184, 0, 37, 60, 132, 2, 1, 167, 255, 217]
abbrev dktX5_braces_1 : List UInt8 := dkwX5_braces_1 ++ dktX5_braces_2
def dkwX5_braces_0 : List UInt8 := [3, 60, 3, 61, 28, 42, 180, 0, 10, 185, 0, 16, 1, 0, 162, 0, 32, 42, 180, 0, 10, 28]
abbrev dktX5_braces_0 : List UInt8 := dkwX5_braces_0 ++ dktX5_braces_1
theorem dksX5_braces_0 : cX5_braces.data.toList.drop 0 = dktX5_braces_0 := by decide +kernel
theorem dksX5_braces_1 : cX5_braces.data.toList.drop 22 = dktX5_braces_1 := dk_seg dksX5_braces_0 22 rfl rfl
theorem dksX5_braces_2 : cX5_braces.data.toList.drop 46 = dktX5_braces_2 := dk_seg dksX5_braces_1 24 rfl rfl
theorem dX5_braces_0 : decode cX5_braces 0 = .ok (.iconst 0, 1) := dk_3 (dk_at dksX5_braces_0 0 rfl rfl)
theorem dX5_braces_1 : decode cX5_braces 1 = .ok (.istore_n 1, 1) := dk_60 (dk_at dksX5_braces_0 1 rfl rfl)
theorem dX5_braces_2 : decode cX5_braces 2 = .ok (.iconst 0, 1) := dk_3 (dk_at dksX5_braces_0 2 rfl rfl)
theorem dX5_braces_3 : decode cX5_braces 3 = .ok (.istore_n 2, 1) := dk_61 (dk_at dksX5_braces_0 3 rfl rfl)
theorem dX5_braces_4 : decode cX5_braces 4 = .ok (.iload_n 2, 1) := dk_28 (dk_at dksX5_braces_0 4 rfl rfl)
theorem dX5_braces_5 : decode cX5_braces 5 = .ok (.aload_n 0, 1) := dk_42 (dk_at dksX5_braces_0 5 rfl rfl)
theorem dX5_braces_6 : decode cX5_braces 6 = .ok (.getfield 10, 3) := dk_180 0 10 (dk_at dksX5_braces_0 6 rfl rfl)
theorem dX5_braces_9 : decode cX5_braces 9 = .ok (.invokeinterface 16 1, 5) := by decide +kernel
theorem dX5_braces_14 : decode cX5_braces 14 = .ok (.if_icmp .ge 32, 3) := dk_162 0 32 (dk_at dksX5_braces_0 14 rfl rfl)
theorem dX5_braces_17 : decode cX5_braces 17 = .ok (.aload_n 0, 1) := dk_42 (dk_at dksX5_braces_0 17 rfl rfl)
theorem dX5_braces_18 : decode cX5_braces 18 = .ok (.getfield 10, 3) := dk_180 0 10 (dk_at dksX5_braces_0 18 rfl rfl)
theorem dX5_braces_21 : decode cX5_braces 21 = .ok (.iload_n 2, 1) := dk_28 (dk_at dksX5_braces_0 21 rfl rfl)
theorem dX5_braces_22 : decode cX5_braces 22 = .ok (.invokeinterface 22 2, 5) := by decide +kernel
theorem dX5_braces_27 : decode cX5_braces 27 = .ok (.checkcast 26, 3) := dk_192 0 26 (dk_at dksX5_braces_1 5 rfl rfl)
theorem dX5_braces_30 : decode cX5_braces 30 = .ok (.astore_n 3, 1) := dk_78 (dk_at dksX5_braces_1 8 rfl rfl)
theorem dX5_braces_31 : decode cX5_braces 31 = .ok (.iload_n 1, 1) := dk_27 (dk_at dksX5_braces_1 9 rfl rfl)
theorem dX5_braces_32 : decode cX5_braces 32 = .ok (.aload_n 3, 1) := dk_45 (dk_at dksX5_braces_1 10 rfl rfl)
theorem dX5_braces_33 : decode cX5_braces 33 = .ok (.invokevirtual 34, 3) := dk_182 0 34 (dk_at dksX5_braces_1 11 rfl rfl)
theorem dX5_braces_36 : decode cX5_braces 36 = .ok (.invokestatic 37, 3) := dk_184 0 37 (dk_at dksX5_braces_1 14 rfl rfl)
theorem dX5_braces_39 : decode cX5_braces 39 = .ok (.istore_n 1, 1) := dk_60 (dk_at dksX5_braces_1 17 rfl rfl)
theorem dX5_braces_40 : decode cX5_braces 40 = .ok (.iinc 2 1, 3) := dk_132 2 1 (dk_at dksX5_braces_1 18 rfl rfl)
theorem dX5_braces_43 : decode cX5_braces 43 = .ok (.goto (-39), 3) := dk_167 255 217 (dk_at dksX5_braces_1 21 rfl rfl)
theorem dX5_braces_46 : decode cX5_braces 46 = .ok (.iload_n 1, 1) := dk_27 (dk_at dksX5_braces_2 0 rfl rfl)
theorem dX5_braces_47 : decode cX5_braces 47 = .ok (.ireturn, 1) := dk_172 (dk_at dksX5_braces_2 1 rfl rfl)
abbrev cX5_names : ByteArray := prog_23_method_3_code
def yX5_names : MethodName := ⟨RX5, "names", "()I"⟩
def dkwX5_names_1 : List UInt8 := [185, 0, 22, 2, 0, 192, 0, 26, 78, 27, 45, 182, 0, 31, 128, 60, 132, 2, 1, 167, 255, 219, 27, 172]
abbrev dktX5_names_1 : List UInt8 := dkwX5_names_1 ++ []
def dkwX5_names_0 : List UInt8 := [3, 60, 3, 61, 28, 42, 180, 0, 10, 185, 0, 16, 1, 0, 162, 0, 30, 42, 180, 0, 10, 28]
abbrev dktX5_names_0 : List UInt8 := dkwX5_names_0 ++ dktX5_names_1
theorem dksX5_names_0 : cX5_names.data.toList.drop 0 = dktX5_names_0 := by decide +kernel
theorem dksX5_names_1 : cX5_names.data.toList.drop 22 = dktX5_names_1 := dk_seg dksX5_names_0 22 rfl rfl
theorem dX5_names_0 : decode cX5_names 0 = .ok (.iconst 0, 1) := dk_3 (dk_at dksX5_names_0 0 rfl rfl)
theorem dX5_names_1 : decode cX5_names 1 = .ok (.istore_n 1, 1) := dk_60 (dk_at dksX5_names_0 1 rfl rfl)
theorem dX5_names_2 : decode cX5_names 2 = .ok (.iconst 0, 1) := dk_3 (dk_at dksX5_names_0 2 rfl rfl)
theorem dX5_names_3 : decode cX5_names 3 = .ok (.istore_n 2, 1) := dk_61 (dk_at dksX5_names_0 3 rfl rfl)
theorem dX5_names_4 : decode cX5_names 4 = .ok (.iload_n 2, 1) := dk_28 (dk_at dksX5_names_0 4 rfl rfl)
theorem dX5_names_5 : decode cX5_names 5 = .ok (.aload_n 0, 1) := dk_42 (dk_at dksX5_names_0 5 rfl rfl)
theorem dX5_names_6 : decode cX5_names 6 = .ok (.getfield 10, 3) := dk_180 0 10 (dk_at dksX5_names_0 6 rfl rfl)
theorem dX5_names_9 : decode cX5_names 9 = .ok (.invokeinterface 16 1, 5) := by decide +kernel
theorem dX5_names_14 : decode cX5_names 14 = .ok (.if_icmp .ge 30, 3) := dk_162 0 30 (dk_at dksX5_names_0 14 rfl rfl)
theorem dX5_names_17 : decode cX5_names 17 = .ok (.aload_n 0, 1) := dk_42 (dk_at dksX5_names_0 17 rfl rfl)
theorem dX5_names_18 : decode cX5_names 18 = .ok (.getfield 10, 3) := dk_180 0 10 (dk_at dksX5_names_0 18 rfl rfl)
theorem dX5_names_21 : decode cX5_names 21 = .ok (.iload_n 2, 1) := dk_28 (dk_at dksX5_names_0 21 rfl rfl)
theorem dX5_names_22 : decode cX5_names 22 = .ok (.invokeinterface 22 2, 5) := by decide +kernel
theorem dX5_names_27 : decode cX5_names 27 = .ok (.checkcast 26, 3) := dk_192 0 26 (dk_at dksX5_names_1 5 rfl rfl)
theorem dX5_names_30 : decode cX5_names 30 = .ok (.astore_n 3, 1) := dk_78 (dk_at dksX5_names_1 8 rfl rfl)
theorem dX5_names_31 : decode cX5_names 31 = .ok (.iload_n 1, 1) := dk_27 (dk_at dksX5_names_1 9 rfl rfl)
theorem dX5_names_32 : decode cX5_names 32 = .ok (.aload_n 3, 1) := dk_45 (dk_at dksX5_names_1 10 rfl rfl)
theorem dX5_names_33 : decode cX5_names 33 = .ok (.invokevirtual 31, 3) := dk_182 0 31 (dk_at dksX5_names_1 11 rfl rfl)
theorem dX5_names_36 : decode cX5_names 36 = .ok (.ior, 1) := dk_128 (dk_at dksX5_names_1 14 rfl rfl)
theorem dX5_names_37 : decode cX5_names 37 = .ok (.istore_n 1, 1) := dk_60 (dk_at dksX5_names_1 15 rfl rfl)
theorem dX5_names_38 : decode cX5_names 38 = .ok (.iinc 2 1, 3) := dk_132 2 1 (dk_at dksX5_names_1 16 rfl rfl)
theorem dX5_names_41 : decode cX5_names 41 = .ok (.goto (-37), 3) := dk_167 255 219 (dk_at dksX5_names_1 19 rfl rfl)
theorem dX5_names_44 : decode cX5_names 44 = .ok (.iload_n 1, 1) := dk_27 (dk_at dksX5_names_1 22 rfl rfl)
theorem dX5_names_45 : decode cX5_names 45 = .ok (.ireturn, 1) := dk_172 (dk_at dksX5_names_1 23 rfl rfl)
abbrev cX5_print : ByteArray := prog_23_method_5_code
def yX5_print : MethodName := ⟨RX5, "print", "(LThereAndBack;)V"⟩
def dkwX5_print_1 : List UInt8 := [185, 0, 22, 2, 0, 192, 0, 26, 78, 45, 43, 182, 0, 43, 132, 2, 1, 167, 255, 221, 177]
abbrev dktX5_print_1 : List UInt8 := dkwX5_print_1 ++ []
def dkwX5_print_0 : List UInt8 := [3, 61, 28, 42, 180, 0, 10, 185, 0, 16, 1, 0, 162, 0, 28, 42, 180, 0, 10, 28]
abbrev dktX5_print_0 : List UInt8 := dkwX5_print_0 ++ dktX5_print_1
theorem dksX5_print_0 : cX5_print.data.toList.drop 0 = dktX5_print_0 := by decide +kernel
theorem dksX5_print_1 : cX5_print.data.toList.drop 20 = dktX5_print_1 := dk_seg dksX5_print_0 20 rfl rfl
theorem dX5_print_0 : decode cX5_print 0 = .ok (.iconst 0, 1) := dk_3 (dk_at dksX5_print_0 0 rfl rfl)
theorem dX5_print_1 : decode cX5_print 1 = .ok (.istore_n 2, 1) := dk_61 (dk_at dksX5_print_0 1 rfl rfl)
theorem dX5_print_2 : decode cX5_print 2 = .ok (.iload_n 2, 1) := dk_28 (dk_at dksX5_print_0 2 rfl rfl)
theorem dX5_print_3 : decode cX5_print 3 = .ok (.aload_n 0, 1) := dk_42 (dk_at dksX5_print_0 3 rfl rfl)
theorem dX5_print_4 : decode cX5_print 4 = .ok (.getfield 10, 3) := dk_180 0 10 (dk_at dksX5_print_0 4 rfl rfl)
theorem dX5_print_7 : decode cX5_print 7 = .ok (.invokeinterface 16 1, 5) := by decide +kernel
theorem dX5_print_12 : decode cX5_print 12 = .ok (.if_icmp .ge 28, 3) := dk_162 0 28 (dk_at dksX5_print_0 12 rfl rfl)
theorem dX5_print_15 : decode cX5_print 15 = .ok (.aload_n 0, 1) := dk_42 (dk_at dksX5_print_0 15 rfl rfl)
theorem dX5_print_16 : decode cX5_print 16 = .ok (.getfield 10, 3) := dk_180 0 10 (dk_at dksX5_print_0 16 rfl rfl)
theorem dX5_print_19 : decode cX5_print 19 = .ok (.iload_n 2, 1) := dk_28 (dk_at dksX5_print_0 19 rfl rfl)
theorem dX5_print_20 : decode cX5_print 20 = .ok (.invokeinterface 22 2, 5) := by decide +kernel
theorem dX5_print_25 : decode cX5_print 25 = .ok (.checkcast 26, 3) := dk_192 0 26 (dk_at dksX5_print_1 5 rfl rfl)
theorem dX5_print_28 : decode cX5_print 28 = .ok (.astore_n 3, 1) := dk_78 (dk_at dksX5_print_1 8 rfl rfl)
theorem dX5_print_29 : decode cX5_print 29 = .ok (.aload_n 3, 1) := dk_45 (dk_at dksX5_print_1 9 rfl rfl)
theorem dX5_print_30 : decode cX5_print 30 = .ok (.aload_n 1, 1) := dk_43 (dk_at dksX5_print_1 10 rfl rfl)
theorem dX5_print_31 : decode cX5_print 31 = .ok (.invokevirtual 43, 3) := dk_182 0 43 (dk_at dksX5_print_1 11 rfl rfl)
theorem dX5_print_34 : decode cX5_print 34 = .ok (.iinc 2 1, 3) := dk_132 2 1 (dk_at dksX5_print_1 14 rfl rfl)
theorem dX5_print_37 : decode cX5_print 37 = .ok (.goto (-35), 3) := dk_167 255 221 (dk_at dksX5_print_1 17 rfl rfl)
theorem dX5_print_40 : decode cX5_print 40 = .ok (.return_, 1) := dk_177 (dk_at dksX5_print_1 20 rfl rfl)
abbrev cX5_printBraced : ByteArray := prog_23_method_6_code
def yX5_printBraced : MethodName := ⟨RX5, "printBraced", "(LThereAndBack;)V"⟩
def dkwX5_printBraced_0 : List UInt8 := [43, 16, 123, 182, 0, 47, 42, 43, 182, 0, 53, 43, 16, 125, 182, 0, 47, 177]
abbrev dktX5_printBraced_0 : List UInt8 := dkwX5_printBraced_0 ++ []
theorem dksX5_printBraced_0 : cX5_printBraced.data.toList.drop 0 = dktX5_printBraced_0 := by decide +kernel
theorem dX5_printBraced_0 : decode cX5_printBraced 0 = .ok (.aload_n 1, 1) := dk_43 (dk_at dksX5_printBraced_0 0 rfl rfl)
theorem dX5_printBraced_1 : decode cX5_printBraced 1 = .ok (.bipush 123, 2) := dk_16 123 (dk_at dksX5_printBraced_0 1 rfl rfl)
theorem dX5_printBraced_3 : decode cX5_printBraced 3 = .ok (.invokevirtual 47, 3) := dk_182 0 47 (dk_at dksX5_printBraced_0 3 rfl rfl)
theorem dX5_printBraced_6 : decode cX5_printBraced 6 = .ok (.aload_n 0, 1) := dk_42 (dk_at dksX5_printBraced_0 6 rfl rfl)
theorem dX5_printBraced_7 : decode cX5_printBraced 7 = .ok (.aload_n 1, 1) := dk_43 (dk_at dksX5_printBraced_0 7 rfl rfl)
theorem dX5_printBraced_8 : decode cX5_printBraced 8 = .ok (.invokevirtual 53, 3) := dk_182 0 53 (dk_at dksX5_printBraced_0 8 rfl rfl)
theorem dX5_printBraced_11 : decode cX5_printBraced 11 = .ok (.aload_n 1, 1) := dk_43 (dk_at dksX5_printBraced_0 11 rfl rfl)
theorem dX5_printBraced_12 : decode cX5_printBraced 12 = .ok (.bipush 125, 2) := dk_16 125 (dk_at dksX5_printBraced_0 12 rfl rfl)
theorem dX5_printBraced_14 : decode cX5_printBraced 14 = .ok (.invokevirtual 47, 3) := dk_182 0 47 (dk_at dksX5_printBraced_0 14 rfl rfl)
theorem dX5_printBraced_17 : decode cX5_printBraced 17 = .ok (.return_, 1) := dk_177 (dk_at dksX5_printBraced_0 17 rfl rfl)
abbrev cX5_mirror : ByteArray := prog_23_method_8_code
def yX5_mirror : MethodName := ⟨RX5, "mirror", "()LThereAndBack$Part;"⟩
def dkwX5_mirror_2 : List UInt8 := [185, 0, 63, 2, 0, 87, 132, 2, 255, 167, 255, 223, 43, 176]
abbrev dktX5_mirror_2 : List UInt8 := dkwX5_mirror_2 ++ []
def dkwX5_mirror_1 : List UInt8 := [43, 180, 0, 10, 42, 180, 0, 10, 28, 185, 0, 22, 2, 0, 192, 0, 26, 182, 0, 59]
abbrev dktX5_mirror_1 : List UInt8 := dkwX5_mirror_1 ++ dktX5_mirror_2
def dkwX5_mirror_0 : List UInt8 := [187, 0, 11, 89, 183, 0, 58, 76, 42, 180, 0, 10, 185, 0, 16, 1, 0, 4, 100, 61, 28, 155, 0, 35]
abbrev dktX5_mirror_0 : List UInt8 := dkwX5_mirror_0 ++ dktX5_mirror_1
theorem dksX5_mirror_0 : cX5_mirror.data.toList.drop 0 = dktX5_mirror_0 := by decide +kernel
theorem dksX5_mirror_1 : cX5_mirror.data.toList.drop 24 = dktX5_mirror_1 := dk_seg dksX5_mirror_0 24 rfl rfl
theorem dksX5_mirror_2 : cX5_mirror.data.toList.drop 44 = dktX5_mirror_2 := dk_seg dksX5_mirror_1 20 rfl rfl
theorem dX5_mirror_0 : decode cX5_mirror 0 = .ok (.new 11, 3) := dk_187 0 11 (dk_at dksX5_mirror_0 0 rfl rfl)
theorem dX5_mirror_3 : decode cX5_mirror 3 = .ok (.dup, 1) := dk_89 (dk_at dksX5_mirror_0 3 rfl rfl)
theorem dX5_mirror_4 : decode cX5_mirror 4 = .ok (.invokespecial 58, 3) := dk_183 0 58 (dk_at dksX5_mirror_0 4 rfl rfl)
theorem dX5_mirror_7 : decode cX5_mirror 7 = .ok (.astore_n 1, 1) := dk_76 (dk_at dksX5_mirror_0 7 rfl rfl)
theorem dX5_mirror_8 : decode cX5_mirror 8 = .ok (.aload_n 0, 1) := dk_42 (dk_at dksX5_mirror_0 8 rfl rfl)
theorem dX5_mirror_9 : decode cX5_mirror 9 = .ok (.getfield 10, 3) := dk_180 0 10 (dk_at dksX5_mirror_0 9 rfl rfl)
theorem dX5_mirror_12 : decode cX5_mirror 12 = .ok (.invokeinterface 16 1, 5) := by decide +kernel
theorem dX5_mirror_17 : decode cX5_mirror 17 = .ok (.iconst 1, 1) := dk_4 (dk_at dksX5_mirror_0 17 rfl rfl)
theorem dX5_mirror_18 : decode cX5_mirror 18 = .ok (.isub, 1) := dk_100 (dk_at dksX5_mirror_0 18 rfl rfl)
theorem dX5_mirror_19 : decode cX5_mirror 19 = .ok (.istore_n 2, 1) := dk_61 (dk_at dksX5_mirror_0 19 rfl rfl)
theorem dX5_mirror_20 : decode cX5_mirror 20 = .ok (.iload_n 2, 1) := dk_28 (dk_at dksX5_mirror_0 20 rfl rfl)
theorem dX5_mirror_21 : decode cX5_mirror 21 = .ok (.ifCond .lt 35, 3) := dk_155 0 35 (dk_at dksX5_mirror_0 21 rfl rfl)
theorem dX5_mirror_24 : decode cX5_mirror 24 = .ok (.aload_n 1, 1) := dk_43 (dk_at dksX5_mirror_1 0 rfl rfl)
theorem dX5_mirror_25 : decode cX5_mirror 25 = .ok (.getfield 10, 3) := dk_180 0 10 (dk_at dksX5_mirror_1 1 rfl rfl)
theorem dX5_mirror_28 : decode cX5_mirror 28 = .ok (.aload_n 0, 1) := dk_42 (dk_at dksX5_mirror_1 4 rfl rfl)
theorem dX5_mirror_29 : decode cX5_mirror 29 = .ok (.getfield 10, 3) := dk_180 0 10 (dk_at dksX5_mirror_1 5 rfl rfl)
theorem dX5_mirror_32 : decode cX5_mirror 32 = .ok (.iload_n 2, 1) := dk_28 (dk_at dksX5_mirror_1 8 rfl rfl)
theorem dX5_mirror_33 : decode cX5_mirror 33 = .ok (.invokeinterface 22 2, 5) := by decide +kernel
theorem dX5_mirror_38 : decode cX5_mirror 38 = .ok (.checkcast 26, 3) := dk_192 0 26 (dk_at dksX5_mirror_1 14 rfl rfl)
theorem dX5_mirror_41 : decode cX5_mirror 41 = .ok (.invokevirtual 59, 3) := dk_182 0 59 (dk_at dksX5_mirror_1 17 rfl rfl)
theorem dX5_mirror_44 : decode cX5_mirror 44 = .ok (.invokeinterface 63 2, 5) := by decide +kernel
theorem dX5_mirror_49 : decode cX5_mirror 49 = .ok (.pop, 1) := dk_87 (dk_at dksX5_mirror_2 5 rfl rfl)
theorem dX5_mirror_50 : decode cX5_mirror 50 = .ok (.iinc 2 (-1), 3) := dk_132 2 255 (dk_at dksX5_mirror_2 6 rfl rfl)
theorem dX5_mirror_53 : decode cX5_mirror 53 = .ok (.goto (-33), 3) := dk_167 255 223 (dk_at dksX5_mirror_2 9 rfl rfl)
theorem dX5_mirror_56 : decode cX5_mirror 56 = .ok (.aload_n 1, 1) := dk_43 (dk_at dksX5_mirror_2 12 rfl rfl)
theorem dX5_mirror_57 : decode cX5_mirror 57 = .ok (.areturn, 1) := dk_176 (dk_at dksX5_mirror_2 13 rfl rfl)
abbrev cX5_turned : ByteArray := prog_23_method_9_code
def yX5_turned : MethodName := ⟨RX5, "turned", "(I)LThereAndBack$Part;"⟩
def dkwX5_turned_2 : List UInt8 := [132, 3, 1, 167, 255, 215, 44, 176]
abbrev dktX5_turned_2 : List UInt8 := dkwX5_turned_2 ++ []
def dkwX5_turned_1 : List UInt8 := [180, 0, 10, 29, 185, 0, 22, 2, 0, 192, 0, 26, 58, 4, 25, 4, 44, 180, 0, 10, 27, 182, 0, 67]
abbrev dktX5_turned_1 : List UInt8 := dkwX5_turned_1 ++ dktX5_turned_2
def dkwX5_turned_0 : List UInt8 := [187, 0, 11, 89, 183, 0, 58, 77, 3, 62, 29, 42, 180, 0, 10, 185, 0, 16, 1, 0, 162, 0, 34, 42]
abbrev dktX5_turned_0 : List UInt8 := dkwX5_turned_0 ++ dktX5_turned_1
theorem dksX5_turned_0 : cX5_turned.data.toList.drop 0 = dktX5_turned_0 := by decide +kernel
theorem dksX5_turned_1 : cX5_turned.data.toList.drop 24 = dktX5_turned_1 := dk_seg dksX5_turned_0 24 rfl rfl
theorem dksX5_turned_2 : cX5_turned.data.toList.drop 48 = dktX5_turned_2 := dk_seg dksX5_turned_1 24 rfl rfl
theorem dX5_turned_0 : decode cX5_turned 0 = .ok (.new 11, 3) := dk_187 0 11 (dk_at dksX5_turned_0 0 rfl rfl)
theorem dX5_turned_3 : decode cX5_turned 3 = .ok (.dup, 1) := dk_89 (dk_at dksX5_turned_0 3 rfl rfl)
theorem dX5_turned_4 : decode cX5_turned 4 = .ok (.invokespecial 58, 3) := dk_183 0 58 (dk_at dksX5_turned_0 4 rfl rfl)
theorem dX5_turned_7 : decode cX5_turned 7 = .ok (.astore_n 2, 1) := dk_77 (dk_at dksX5_turned_0 7 rfl rfl)
theorem dX5_turned_8 : decode cX5_turned 8 = .ok (.iconst 0, 1) := dk_3 (dk_at dksX5_turned_0 8 rfl rfl)
theorem dX5_turned_9 : decode cX5_turned 9 = .ok (.istore_n 3, 1) := dk_62 (dk_at dksX5_turned_0 9 rfl rfl)
theorem dX5_turned_10 : decode cX5_turned 10 = .ok (.iload_n 3, 1) := dk_29 (dk_at dksX5_turned_0 10 rfl rfl)
theorem dX5_turned_11 : decode cX5_turned 11 = .ok (.aload_n 0, 1) := dk_42 (dk_at dksX5_turned_0 11 rfl rfl)
theorem dX5_turned_12 : decode cX5_turned 12 = .ok (.getfield 10, 3) := dk_180 0 10 (dk_at dksX5_turned_0 12 rfl rfl)
theorem dX5_turned_15 : decode cX5_turned 15 = .ok (.invokeinterface 16 1, 5) := by decide +kernel
theorem dX5_turned_20 : decode cX5_turned 20 = .ok (.if_icmp .ge 34, 3) := dk_162 0 34 (dk_at dksX5_turned_0 20 rfl rfl)
theorem dX5_turned_23 : decode cX5_turned 23 = .ok (.aload_n 0, 1) := dk_42 (dk_at dksX5_turned_0 23 rfl rfl)
theorem dX5_turned_24 : decode cX5_turned 24 = .ok (.getfield 10, 3) := dk_180 0 10 (dk_at dksX5_turned_1 0 rfl rfl)
theorem dX5_turned_27 : decode cX5_turned 27 = .ok (.iload_n 3, 1) := dk_29 (dk_at dksX5_turned_1 3 rfl rfl)
theorem dX5_turned_28 : decode cX5_turned 28 = .ok (.invokeinterface 22 2, 5) := by decide +kernel
theorem dX5_turned_33 : decode cX5_turned 33 = .ok (.checkcast 26, 3) := dk_192 0 26 (dk_at dksX5_turned_1 9 rfl rfl)
theorem dX5_turned_36 : decode cX5_turned 36 = .ok (.astore 4, 2) := dk_58 4 (dk_at dksX5_turned_1 12 rfl rfl)
theorem dX5_turned_38 : decode cX5_turned 38 = .ok (.aload 4, 2) := dk_25 4 (dk_at dksX5_turned_1 14 rfl rfl)
theorem dX5_turned_40 : decode cX5_turned 40 = .ok (.aload_n 2, 1) := dk_44 (dk_at dksX5_turned_1 16 rfl rfl)
theorem dX5_turned_41 : decode cX5_turned 41 = .ok (.getfield 10, 3) := dk_180 0 10 (dk_at dksX5_turned_1 17 rfl rfl)
theorem dX5_turned_44 : decode cX5_turned 44 = .ok (.iload_n 1, 1) := dk_27 (dk_at dksX5_turned_1 20 rfl rfl)
theorem dX5_turned_45 : decode cX5_turned 45 = .ok (.invokevirtual 67, 3) := dk_182 0 67 (dk_at dksX5_turned_1 21 rfl rfl)
theorem dX5_turned_48 : decode cX5_turned 48 = .ok (.iinc 3 1, 3) := dk_132 3 1 (dk_at dksX5_turned_2 0 rfl rfl)
theorem dX5_turned_51 : decode cX5_turned 51 = .ok (.goto (-41), 3) := dk_167 255 215 (dk_at dksX5_turned_2 3 rfl rfl)
theorem dX5_turned_54 : decode cX5_turned 54 = .ok (.aload_n 2, 1) := dk_44 (dk_at dksX5_turned_2 6 rfl rfl)
theorem dX5_turned_55 : decode cX5_turned 55 = .ok (.areturn, 1) := dk_176 (dk_at dksX5_turned_2 7 rfl rfl)
abbrev cX5_walk : ByteArray := prog_23_method_10_code
def yX5_walk : MethodName := ⟨RX5, "walk", "(LThereAndBack;)V"⟩
def dkwX5_walk_1 : List UInt8 := [185, 0, 22, 2, 0, 192, 0, 26, 78, 45, 43, 182, 0, 71, 132, 2, 1, 167, 255, 221, 177]
abbrev dktX5_walk_1 : List UInt8 := dkwX5_walk_1 ++ []
def dkwX5_walk_0 : List UInt8 := [3, 61, 28, 42, 180, 0, 10, 185, 0, 16, 1, 0, 162, 0, 28, 42, 180, 0, 10, 28]
abbrev dktX5_walk_0 : List UInt8 := dkwX5_walk_0 ++ dktX5_walk_1
theorem dksX5_walk_0 : cX5_walk.data.toList.drop 0 = dktX5_walk_0 := by decide +kernel
theorem dksX5_walk_1 : cX5_walk.data.toList.drop 20 = dktX5_walk_1 := dk_seg dksX5_walk_0 20 rfl rfl
theorem dX5_walk_0 : decode cX5_walk 0 = .ok (.iconst 0, 1) := dk_3 (dk_at dksX5_walk_0 0 rfl rfl)
theorem dX5_walk_1 : decode cX5_walk 1 = .ok (.istore_n 2, 1) := dk_61 (dk_at dksX5_walk_0 1 rfl rfl)
theorem dX5_walk_2 : decode cX5_walk 2 = .ok (.iload_n 2, 1) := dk_28 (dk_at dksX5_walk_0 2 rfl rfl)
theorem dX5_walk_3 : decode cX5_walk 3 = .ok (.aload_n 0, 1) := dk_42 (dk_at dksX5_walk_0 3 rfl rfl)
theorem dX5_walk_4 : decode cX5_walk 4 = .ok (.getfield 10, 3) := dk_180 0 10 (dk_at dksX5_walk_0 4 rfl rfl)
theorem dX5_walk_7 : decode cX5_walk 7 = .ok (.invokeinterface 16 1, 5) := by decide +kernel
theorem dX5_walk_12 : decode cX5_walk 12 = .ok (.if_icmp .ge 28, 3) := dk_162 0 28 (dk_at dksX5_walk_0 12 rfl rfl)
theorem dX5_walk_15 : decode cX5_walk 15 = .ok (.aload_n 0, 1) := dk_42 (dk_at dksX5_walk_0 15 rfl rfl)
theorem dX5_walk_16 : decode cX5_walk 16 = .ok (.getfield 10, 3) := dk_180 0 10 (dk_at dksX5_walk_0 16 rfl rfl)
theorem dX5_walk_19 : decode cX5_walk 19 = .ok (.iload_n 2, 1) := dk_28 (dk_at dksX5_walk_0 19 rfl rfl)
theorem dX5_walk_20 : decode cX5_walk 20 = .ok (.invokeinterface 22 2, 5) := by decide +kernel
theorem dX5_walk_25 : decode cX5_walk 25 = .ok (.checkcast 26, 3) := dk_192 0 26 (dk_at dksX5_walk_1 5 rfl rfl)
theorem dX5_walk_28 : decode cX5_walk 28 = .ok (.astore_n 3, 1) := dk_78 (dk_at dksX5_walk_1 8 rfl rfl)
theorem dX5_walk_29 : decode cX5_walk 29 = .ok (.aload_n 3, 1) := dk_45 (dk_at dksX5_walk_1 9 rfl rfl)
theorem dX5_walk_30 : decode cX5_walk 30 = .ok (.aload_n 1, 1) := dk_43 (dk_at dksX5_walk_1 10 rfl rfl)
theorem dX5_walk_31 : decode cX5_walk 31 = .ok (.invokevirtual 71, 3) := dk_182 0 71 (dk_at dksX5_walk_1 11 rfl rfl)
theorem dX5_walk_34 : decode cX5_walk 34 = .ok (.iinc 2 1, 3) := dk_132 2 1 (dk_at dksX5_walk_1 14 rfl rfl)
theorem dX5_walk_37 : decode cX5_walk 37 = .ok (.goto (-35), 3) := dk_167 255 221 (dk_at dksX5_walk_1 17 rfl rfl)
theorem dX5_walk_40 : decode cX5_walk 40 = .ok (.return_, 1) := dk_177 (dk_at dksX5_walk_1 20 rfl rfl)
theorem q152 : (Jvm.Cond.initialized "ThereAndBack$Part") ∈ lw_all := lw_g (lw_at lw_m1 8 rfl) rfl
theorem q514 : (Jvm.Cond.instantiable "ThereAndBack$Part" (1 : Nat)) ∈ lw_all := lw_g (lw_at lw_m2 130 rfl) rfl
theorem q516 : (Jvm.Cond.instanceMethod ({ cls := "ThereAndBack$Part", name := "<init>", desc := "()V" } : Jvm.MethodName)) ∈ lw_all := lw_g (lw_at lw_m2 132 rfl) rfl
theorem q517 : (Jvm.Cond.code ({ cls := "ThereAndBack$Part", name := "<init>", desc := "()V" } : Jvm.MethodName) prog_23_method_1_code (1 : Nat) (Option.none : Option Jvm.ClassFile.FieldType)) ∈ lw_all := lw_g (lw_at lw_m2 133 rfl) rfl
theorem q518 : (Jvm.Cond.methodLink "ThereAndBack$Part" (1 : Nat) ({ cls := "java/lang/Object", name := "<init>", desc := "()V" } : Jvm.MethodName)) ∈ lw_all := lw_g (lw_at lw_m2 134 rfl) rfl
theorem q519 : (Jvm.Cond.classLink "ThereAndBack$Part" (7 : Nat) "java/util/ArrayList") ∈ lw_all := lw_g (lw_at lw_m2 135 rfl) rfl
theorem q521 : (Jvm.Cond.methodLink "ThereAndBack$Part" (9 : Nat) ({ cls := "java/util/ArrayList", name := "<init>", desc := "()V" } : Jvm.MethodName)) ∈ lw_all := lw_g (lw_at lw_m2 137 rfl) rfl
theorem q545 : (Jvm.Cond.fieldLink "ThereAndBack$Part" (10 : Nat) "ThereAndBack$Part" "steps" "Ljava/util/List;") ∈ lw_all := lw_g (lw_at lw_m2 161 rfl) rfl
theorem q549 : (Jvm.Cond.laysFinal "ThereAndBack$Part" "ThereAndBack$Part" "steps" "Ljava/util/List;") ∈ lw_all := lw_g (lw_at lw_m2 165 rfl) rfl
theorem q550 : (Jvm.Cond.soleField "ThereAndBack$Part" "steps") ∈ lw_all := lw_g (lw_at lw_m2 166 rfl) rfl
theorem q551 : (Jvm.Cond.superclass "ThereAndBack$Part" "java/lang/Object") ∈ lw_all := lw_g (lw_at lw_m2 167 rfl) rfl
theorem q1170 : (Jvm.Cond.selects "ThereAndBack$Part" ({ cls := "java/lang/Object", name := "getClass", desc := "()Ljava/lang/Class;" } : Jvm.MethodName) ({ cls := "java/lang/Object", name := "getClass", desc := "()Ljava/lang/Class;" } : Jvm.MethodName)) ∈ lw_all := lw_g (lw_at lw_m5 66 rfl) rfl
theorem q1215 : (Jvm.Cond.instanceMethod ({ cls := "ThereAndBack$Part", name := "lay", desc := "(Ljava/util/List;)V" } : Jvm.MethodName)) ∈ lw_all := lw_g (lw_at lw_m5 111 rfl) rfl
theorem q1216 : (Jvm.Cond.selects "ThereAndBack$Part" ({ cls := "ThereAndBack$Part", name := "lay", desc := "(Ljava/util/List;)V" } : Jvm.MethodName) ({ cls := "ThereAndBack$Part", name := "lay", desc := "(Ljava/util/List;)V" } : Jvm.MethodName)) ∈ lw_all := lw_g (lw_at lw_m5 112 rfl) rfl
theorem q1217 : (Jvm.Cond.code ({ cls := "ThereAndBack$Part", name := "lay", desc := "(Ljava/util/List;)V" } : Jvm.MethodName) prog_23_method_7_code (4 : Nat) (Option.none : Option Jvm.ClassFile.FieldType)) ∈ lw_all := lw_g (lw_at lw_m5 113 rfl) rfl
theorem q1218 : (Jvm.Cond.interfaceEntry "ThereAndBack$Part" (16 : Nat)) ∈ lw_tbl := lw_at lw_m5 114 rfl
theorem q1219 : (Jvm.Cond.methodLink "ThereAndBack$Part" (16 : Nat) ({ cls := "java/util/List", name := "size", desc := "()I" } : Jvm.MethodName)) ∈ lw_all := lw_g (lw_at lw_m5 115 rfl) rfl
theorem q1227 : (Jvm.Cond.interfaceEntry "ThereAndBack$Part" (22 : Nat)) ∈ lw_tbl := lw_at lw_m5 123 rfl
theorem q1228 : (Jvm.Cond.methodLink "ThereAndBack$Part" (22 : Nat) ({ cls := "java/util/List", name := "get", desc := "(I)Ljava/lang/Object;" } : Jvm.MethodName)) ∈ lw_all := lw_g (lw_at lw_m5 124 rfl) rfl
theorem q1244 : (Jvm.Cond.classLink "ThereAndBack$Part" (26 : Nat) "ThereAndBack$Step") ∈ lw_all := lw_g (lw_at lw_m5 140 rfl) rfl
theorem q1245 : (Jvm.Cond.methodLink "ThereAndBack$Part" (54 : Nat) ({ cls := "ThereAndBack$Step", name := "lay", desc := "(Ljava/util/List;)V" } : Jvm.MethodName)) ∈ lw_all := lw_g (lw_at lw_m5 141 rfl) rfl
theorem q1345 : (Jvm.Cond.instanceMethod ({ cls := "ThereAndBack$Part", name := "code", desc := "()I" } : Jvm.MethodName)) ∈ lw_all := lw_g (lw_at lw_m6 1 rfl) rfl
theorem q1346 : (Jvm.Cond.selects "ThereAndBack$Part" ({ cls := "ThereAndBack$Part", name := "code", desc := "()I" } : Jvm.MethodName) ({ cls := "ThereAndBack$Part", name := "code", desc := "()I" } : Jvm.MethodName)) ∈ lw_all := lw_g (lw_at lw_m6 2 rfl) rfl
theorem q1347 : (Jvm.Cond.code ({ cls := "ThereAndBack$Part", name := "code", desc := "()I" } : Jvm.MethodName) prog_23_method_2_code (4 : Nat) (Option.some Jvm.ClassFile.FieldType.int)) ∈ lw_all := lw_g (lw_at lw_m6 3 rfl) rfl
theorem q1348 : (Jvm.Cond.methodLink "ThereAndBack$Part" (28 : Nat) ({ cls := "ThereAndBack$Step", name := "code", desc := "()I" } : Jvm.MethodName)) ∈ lw_all := lw_g (lw_at lw_m6 4 rfl) rfl
theorem q1425 : (Jvm.Cond.instanceMethod ({ cls := "ThereAndBack$Part", name := "braces", desc := "()I" } : Jvm.MethodName)) ∈ lw_all := lw_g (lw_at lw_m6 81 rfl) rfl
theorem q1426 : (Jvm.Cond.selects "ThereAndBack$Part" ({ cls := "ThereAndBack$Part", name := "braces", desc := "()I" } : Jvm.MethodName) ({ cls := "ThereAndBack$Part", name := "braces", desc := "()I" } : Jvm.MethodName)) ∈ lw_all := lw_g (lw_at lw_m6 82 rfl) rfl
theorem q1427 : (Jvm.Cond.code ({ cls := "ThereAndBack$Part", name := "braces", desc := "()I" } : Jvm.MethodName) prog_23_method_4_code (4 : Nat) (Option.some Jvm.ClassFile.FieldType.int)) ∈ lw_all := lw_g (lw_at lw_m6 83 rfl) rfl
theorem q1428 : (Jvm.Cond.methodLink "ThereAndBack$Part" (34 : Nat) ({ cls := "ThereAndBack$Step", name := "braces", desc := "()I" } : Jvm.MethodName)) ∈ lw_all := lw_g (lw_at lw_m6 84 rfl) rfl
theorem q1454 : (Jvm.Cond.methodLink "ThereAndBack$Part" (37 : Nat) ({ cls := "java/lang/Math", name := "max", desc := "(II)I" } : Jvm.MethodName)) ∈ lw_all := lw_g (lw_at lw_m6 110 rfl) rfl
theorem q1456 : (Jvm.Cond.instanceMethod ({ cls := "ThereAndBack$Part", name := "names", desc := "()I" } : Jvm.MethodName)) ∈ lw_all := lw_g (lw_at lw_m6 112 rfl) rfl
theorem q1457 : (Jvm.Cond.selects "ThereAndBack$Part" ({ cls := "ThereAndBack$Part", name := "names", desc := "()I" } : Jvm.MethodName) ({ cls := "ThereAndBack$Part", name := "names", desc := "()I" } : Jvm.MethodName)) ∈ lw_all := lw_g (lw_at lw_m6 113 rfl) rfl
theorem q1458 : (Jvm.Cond.code ({ cls := "ThereAndBack$Part", name := "names", desc := "()I" } : Jvm.MethodName) prog_23_method_3_code (4 : Nat) (Option.some Jvm.ClassFile.FieldType.int)) ∈ lw_all := lw_g (lw_at lw_m6 114 rfl) rfl
theorem q1459 : (Jvm.Cond.methodLink "ThereAndBack$Part" (31 : Nat) ({ cls := "ThereAndBack$Step", name := "names", desc := "()I" } : Jvm.MethodName)) ∈ lw_all := lw_g (lw_at lw_m6 115 rfl) rfl
theorem q1532 : (Jvm.Cond.instanceMethod ({ cls := "ThereAndBack$Part", name := "print", desc := "(LThereAndBack;)V" } : Jvm.MethodName)) ∈ lw_all := lw_g (lw_at lw_m6 188 rfl) rfl
theorem q1533 : (Jvm.Cond.selects "ThereAndBack$Part" ({ cls := "ThereAndBack$Part", name := "print", desc := "(LThereAndBack;)V" } : Jvm.MethodName) ({ cls := "ThereAndBack$Part", name := "print", desc := "(LThereAndBack;)V" } : Jvm.MethodName)) ∈ lw_all := lw_g (lw_at lw_m6 189 rfl) rfl
theorem q1534 : (Jvm.Cond.code ({ cls := "ThereAndBack$Part", name := "print", desc := "(LThereAndBack;)V" } : Jvm.MethodName) prog_23_method_5_code (4 : Nat) (Option.none : Option Jvm.ClassFile.FieldType)) ∈ lw_all := lw_g (lw_at lw_m6 190 rfl) rfl
theorem q1535 : (Jvm.Cond.methodLink "ThereAndBack$Part" (43 : Nat) ({ cls := "ThereAndBack$Step", name := "print", desc := "(LThereAndBack;)V" } : Jvm.MethodName)) ∈ lw_all := lw_g (lw_at lw_m6 191 rfl) rfl
theorem q1660 : (Jvm.Cond.instanceMethod ({ cls := "ThereAndBack$Part", name := "printBraced", desc := "(LThereAndBack;)V" } : Jvm.MethodName)) ∈ lw_all := lw_g (lw_at lw_m7 76 rfl) rfl
theorem q1661 : (Jvm.Cond.selects "ThereAndBack$Part" ({ cls := "ThereAndBack$Part", name := "printBraced", desc := "(LThereAndBack;)V" } : Jvm.MethodName) ({ cls := "ThereAndBack$Part", name := "printBraced", desc := "(LThereAndBack;)V" } : Jvm.MethodName)) ∈ lw_all := lw_g (lw_at lw_m7 77 rfl) rfl
theorem q1662 : (Jvm.Cond.code ({ cls := "ThereAndBack$Part", name := "printBraced", desc := "(LThereAndBack;)V" } : Jvm.MethodName) prog_23_method_6_code (2 : Nat) (Option.none : Option Jvm.ClassFile.FieldType)) ∈ lw_all := lw_g (lw_at lw_m7 78 rfl) rfl
theorem q1663 : (Jvm.Cond.methodLinkNest "ThereAndBack$Part" (47 : Nat) ({ cls := "ThereAndBack", name := "printSign", desc := "(I)V" } : Jvm.MethodName) "ThereAndBack") ∈ lw_tbl := lw_at lw_m7 79 rfl
theorem q1664 : (Jvm.Cond.methodLink "ThereAndBack$Part" (53 : Nat) ({ cls := "ThereAndBack$Part", name := "print", desc := "(LThereAndBack;)V" } : Jvm.MethodName)) ∈ lw_all := lw_g (lw_at lw_m7 80 rfl) rfl
theorem q1748 : (Jvm.Cond.instanceMethod ({ cls := "ThereAndBack$Part", name := "mirror", desc := "()LThereAndBack$Part;" } : Jvm.MethodName)) ∈ lw_all := lw_g (lw_at lw_m7 164 rfl) rfl
theorem q1749 : (Jvm.Cond.selects "ThereAndBack$Part" ({ cls := "ThereAndBack$Part", name := "mirror", desc := "()LThereAndBack$Part;" } : Jvm.MethodName) ({ cls := "ThereAndBack$Part", name := "mirror", desc := "()LThereAndBack$Part;" } : Jvm.MethodName)) ∈ lw_all := lw_g (lw_at lw_m7 165 rfl) rfl
theorem q1750 : (Jvm.Cond.code ({ cls := "ThereAndBack$Part", name := "mirror", desc := "()LThereAndBack$Part;" } : Jvm.MethodName) prog_23_method_8_code (3 : Nat) (Option.some (Jvm.ClassFile.FieldType.object "ThereAndBack$Part"))) ∈ lw_all := lw_g (lw_at lw_m7 166 rfl) rfl
theorem q1751 : (Jvm.Cond.classLink "ThereAndBack$Part" (11 : Nat) "ThereAndBack$Part") ∈ lw_all := lw_g (lw_at lw_m7 167 rfl) rfl
theorem q1752 : (Jvm.Cond.methodLink "ThereAndBack$Part" (58 : Nat) ({ cls := "ThereAndBack$Part", name := "<init>", desc := "()V" } : Jvm.MethodName)) ∈ lw_all := lw_g (lw_at lw_m7 168 rfl) rfl
theorem q1753 : (Jvm.Cond.methodLink "ThereAndBack$Part" (59 : Nat) ({ cls := "ThereAndBack$Step", name := "mirror", desc := "()LThereAndBack$Step;" } : Jvm.MethodName)) ∈ lw_all := lw_g (lw_at lw_m7 169 rfl) rfl
theorem q1804 : (Jvm.Cond.interfaceEntry "ThereAndBack$Part" (63 : Nat)) ∈ lw_tbl := lw_at lw_m7 220 rfl
theorem q1805 : (Jvm.Cond.methodLink "ThereAndBack$Part" (63 : Nat) ({ cls := "java/util/List", name := "add", desc := "(Ljava/lang/Object;)Z" } : Jvm.MethodName)) ∈ lw_all := lw_g (lw_at lw_m7 221 rfl) rfl
theorem q1811 : (Jvm.Cond.instanceMethod ({ cls := "ThereAndBack$Part", name := "turned", desc := "(I)LThereAndBack$Part;" } : Jvm.MethodName)) ∈ lw_all := lw_g (lw_at lw_m7 227 rfl) rfl
theorem q1812 : (Jvm.Cond.selects "ThereAndBack$Part" ({ cls := "ThereAndBack$Part", name := "turned", desc := "(I)LThereAndBack$Part;" } : Jvm.MethodName) ({ cls := "ThereAndBack$Part", name := "turned", desc := "(I)LThereAndBack$Part;" } : Jvm.MethodName)) ∈ lw_all := lw_g (lw_at lw_m7 228 rfl) rfl
theorem q1813 : (Jvm.Cond.code ({ cls := "ThereAndBack$Part", name := "turned", desc := "(I)LThereAndBack$Part;" } : Jvm.MethodName) prog_23_method_9_code (5 : Nat) (Option.some (Jvm.ClassFile.FieldType.object "ThereAndBack$Part"))) ∈ lw_all := lw_g (lw_at lw_m7 229 rfl) rfl
theorem q1814 : (Jvm.Cond.methodLink "ThereAndBack$Part" (67 : Nat) ({ cls := "ThereAndBack$Step", name := "turn", desc := "(Ljava/util/List;I)V" } : Jvm.MethodName)) ∈ lw_all := lw_g (lw_at lw_m7 230 rfl) rfl
theorem q1914 : (Jvm.Cond.instanceMethod ({ cls := "ThereAndBack$Part", name := "walk", desc := "(LThereAndBack;)V" } : Jvm.MethodName)) ∈ lw_all := lw_g (lw_at lw_m8 90 rfl) rfl
theorem q1915 : (Jvm.Cond.selects "ThereAndBack$Part" ({ cls := "ThereAndBack$Part", name := "walk", desc := "(LThereAndBack;)V" } : Jvm.MethodName) ({ cls := "ThereAndBack$Part", name := "walk", desc := "(LThereAndBack;)V" } : Jvm.MethodName)) ∈ lw_all := lw_g (lw_at lw_m8 91 rfl) rfl
theorem q1916 : (Jvm.Cond.code ({ cls := "ThereAndBack$Part", name := "walk", desc := "(LThereAndBack;)V" } : Jvm.MethodName) prog_23_method_10_code (4 : Nat) (Option.none : Option Jvm.ClassFile.FieldType)) ∈ lw_all := lw_g (lw_at lw_m8 92 rfl) rfl
theorem q1917 : (Jvm.Cond.methodLink "ThereAndBack$Part" (71 : Nat) ({ cls := "ThereAndBack$Step", name := "walk", desc := "(LThereAndBack;)V" } : Jvm.MethodName)) ∈ lw_all := lw_g (lw_at lw_m8 93 rfl) rfl
theorem q3134 : (Jvm.Cond.castable "ThereAndBack$Part" "java/lang/Object") ∈ lw_tbl := lw_at lw_m13 110 rfl
theorem in_X5 : ∀ w ∈ wsX50, w ∈ lw_all := lw_in wsX50 [549] (by decide +kernel) (by decide +kernel)
/-! ThereAndBack$Place -/
set_option maxRecDepth 100000
def RX6 : String := "ThereAndBack$Place"
def TX6 : u_T := fun k => match k with
  | 0 => ("ThereAndBack$Place", "name", "I", true)
  | 1 => ("ThereAndBack$Place", "row", "I", true)
  | _ => ("ThereAndBack$Place", "index", "LThereAndBack$Expr;", true)
def tyX6 : Nat → FieldType := fun k => match k with
  | 0 => .int
  | 1 => .int
  | _ => .object "ThereAndBack$Expr"
abbrev wsX60 : List Cond := u_ws RX6 TX6 3
theorem nmX6 : ∀ a, a < 3 → ∀ b, b < 3 → a ≠ b → (TX6 a).2.1 ≠ (TX6 b).2.1 := by decide +kernel
theorem tyX6_ok : ∀ k, k < 3 → parseFieldDescriptor (TX6 k).2.2.1 = some (tyX6 k) := by decide +kernel
abbrev cX6_init : ByteArray := prog_24_method_1_code
def yX6_init : MethodName := ⟨RX6, "<init>", "(IILThereAndBack$Expr;)V"⟩
def dkwX6_init_0 : List UInt8 := [42, 183, 0, 3, 42, 27, 181, 0, 9, 42, 28, 181, 0, 15, 42, 45, 181, 0, 18, 177]
abbrev dktX6_init_0 : List UInt8 := dkwX6_init_0 ++ []
theorem dksX6_init_0 : cX6_init.data.toList.drop 0 = dktX6_init_0 := by decide +kernel
theorem dX6_init_0 : decode cX6_init 0 = .ok (.aload_n 0, 1) := dk_42 (dk_at dksX6_init_0 0 rfl rfl)
theorem dX6_init_1 : decode cX6_init 1 = .ok (.invokespecial 3, 3) := dk_183 0 3 (dk_at dksX6_init_0 1 rfl rfl)
theorem dX6_init_4 : decode cX6_init 4 = .ok (.aload_n 0, 1) := dk_42 (dk_at dksX6_init_0 4 rfl rfl)
theorem dX6_init_5 : decode cX6_init 5 = .ok (.iload_n 1, 1) := dk_27 (dk_at dksX6_init_0 5 rfl rfl)
theorem dX6_init_6 : decode cX6_init 6 = .ok (.putfield 9, 3) := dk_181 0 9 (dk_at dksX6_init_0 6 rfl rfl)
theorem dX6_init_9 : decode cX6_init 9 = .ok (.aload_n 0, 1) := dk_42 (dk_at dksX6_init_0 9 rfl rfl)
theorem dX6_init_10 : decode cX6_init 10 = .ok (.iload_n 2, 1) := dk_28 (dk_at dksX6_init_0 10 rfl rfl)
theorem dX6_init_11 : decode cX6_init 11 = .ok (.putfield 15, 3) := dk_181 0 15 (dk_at dksX6_init_0 11 rfl rfl)
theorem dX6_init_14 : decode cX6_init 14 = .ok (.aload_n 0, 1) := dk_42 (dk_at dksX6_init_0 14 rfl rfl)
theorem dX6_init_15 : decode cX6_init 15 = .ok (.aload_n 3, 1) := dk_45 (dk_at dksX6_init_0 15 rfl rfl)
theorem dX6_init_16 : decode cX6_init 16 = .ok (.putfield 18, 3) := dk_181 0 18 (dk_at dksX6_init_0 16 rfl rfl)
theorem dX6_init_19 : decode cX6_init 19 = .ok (.return_, 1) := dk_177 (dk_at dksX6_init_0 19 rfl rfl)
abbrev cX6_isName : ByteArray := prog_24_method_2_code
def yX6_isName : MethodName := ⟨RX6, "isName", "()Z"⟩
def dkwX6_isName_0 : List UInt8 := [42, 180, 0, 9, 155, 0, 7, 4, 167, 0, 4, 3, 172]
abbrev dktX6_isName_0 : List UInt8 := dkwX6_isName_0 ++ []
theorem dksX6_isName_0 : cX6_isName.data.toList.drop 0 = dktX6_isName_0 := by decide +kernel
theorem dX6_isName_0 : decode cX6_isName 0 = .ok (.aload_n 0, 1) := dk_42 (dk_at dksX6_isName_0 0 rfl rfl)
theorem dX6_isName_1 : decode cX6_isName 1 = .ok (.getfield 9, 3) := dk_180 0 9 (dk_at dksX6_isName_0 1 rfl rfl)
theorem dX6_isName_4 : decode cX6_isName 4 = .ok (.ifCond .lt 7, 3) := dk_155 0 7 (dk_at dksX6_isName_0 4 rfl rfl)
theorem dX6_isName_7 : decode cX6_isName 7 = .ok (.iconst 1, 1) := dk_4 (dk_at dksX6_isName_0 7 rfl rfl)
theorem dX6_isName_8 : decode cX6_isName 8 = .ok (.goto 4, 3) := dk_167 0 4 (dk_at dksX6_isName_0 8 rfl rfl)
theorem dX6_isName_11 : decode cX6_isName 11 = .ok (.iconst 0, 1) := dk_3 (dk_at dksX6_isName_0 11 rfl rfl)
theorem dX6_isName_12 : decode cX6_isName 12 = .ok (.ireturn, 1) := dk_172 (dk_at dksX6_isName_0 12 rfl rfl)
abbrev cX6_names : ByteArray := prog_24_method_9_code
def yX6_names : MethodName := ⟨RX6, "names", "()I"⟩
def dkwX6_names_0 : List UInt8 := [42, 182, 0, 22, 153, 0, 12, 4, 42, 180, 0, 9, 120, 167, 0, 10, 42, 180, 0, 18, 182, 0, 80, 172]
abbrev dktX6_names_0 : List UInt8 := dkwX6_names_0 ++ []
theorem dksX6_names_0 : cX6_names.data.toList.drop 0 = dktX6_names_0 := by decide +kernel
theorem dX6_names_0 : decode cX6_names 0 = .ok (.aload_n 0, 1) := dk_42 (dk_at dksX6_names_0 0 rfl rfl)
theorem dX6_names_1 : decode cX6_names 1 = .ok (.invokevirtual 22, 3) := dk_182 0 22 (dk_at dksX6_names_0 1 rfl rfl)
theorem dX6_names_4 : decode cX6_names 4 = .ok (.ifCond .eq 12, 3) := dk_153 0 12 (dk_at dksX6_names_0 4 rfl rfl)
theorem dX6_names_7 : decode cX6_names 7 = .ok (.iconst 1, 1) := dk_4 (dk_at dksX6_names_0 7 rfl rfl)
theorem dX6_names_8 : decode cX6_names 8 = .ok (.aload_n 0, 1) := dk_42 (dk_at dksX6_names_0 8 rfl rfl)
theorem dX6_names_9 : decode cX6_names 9 = .ok (.getfield 9, 3) := dk_180 0 9 (dk_at dksX6_names_0 9 rfl rfl)
theorem dX6_names_12 : decode cX6_names 12 = .ok (.ishl, 1) := dk_120 (dk_at dksX6_names_0 12 rfl rfl)
theorem dX6_names_13 : decode cX6_names 13 = .ok (.goto 10, 3) := dk_167 0 10 (dk_at dksX6_names_0 13 rfl rfl)
theorem dX6_names_16 : decode cX6_names 16 = .ok (.aload_n 0, 1) := dk_42 (dk_at dksX6_names_0 16 rfl rfl)
theorem dX6_names_17 : decode cX6_names 17 = .ok (.getfield 18, 3) := dk_180 0 18 (dk_at dksX6_names_0 17 rfl rfl)
theorem dX6_names_20 : decode cX6_names 20 = .ok (.invokevirtual 80, 3) := dk_182 0 80 (dk_at dksX6_names_0 20 rfl rfl)
theorem dX6_names_23 : decode cX6_names 23 = .ok (.ireturn, 1) := dk_172 (dk_at dksX6_names_0 23 rfl rfl)
abbrev cX6_print : ByteArray := prog_24_method_8_code
def yX6_print : MethodName := ⟨RX6, "print", "(LThereAndBack;)V"⟩
def dkwX6_print_2 : List UInt8 := [182, 0, 77, 177]
abbrev dktX6_print_2 : List UInt8 := dkwX6_print_2 ++ []
def dkwX6_print_1 : List UInt8 := [180, 0, 15, 96, 182, 0, 66, 43, 16, 91, 182, 0, 70, 42, 180, 0, 18, 43, 182, 0, 73, 43, 16, 93]
abbrev dktX6_print_1 : List UInt8 := dkwX6_print_1 ++ dktX6_print_2
def dkwX6_print_0 : List UInt8 := [42, 182, 0, 22, 153, 0, 15, 43, 16, 97, 42, 180, 0, 9, 96, 182, 0, 66, 177, 43, 16, 65, 42]
abbrev dktX6_print_0 : List UInt8 := dkwX6_print_0 ++ dktX6_print_1
theorem dksX6_print_0 : cX6_print.data.toList.drop 0 = dktX6_print_0 := by decide +kernel
theorem dksX6_print_1 : cX6_print.data.toList.drop 23 = dktX6_print_1 := dk_seg dksX6_print_0 23 rfl rfl
theorem dksX6_print_2 : cX6_print.data.toList.drop 47 = dktX6_print_2 := dk_seg dksX6_print_1 24 rfl rfl
theorem dX6_print_0 : decode cX6_print 0 = .ok (.aload_n 0, 1) := dk_42 (dk_at dksX6_print_0 0 rfl rfl)
theorem dX6_print_1 : decode cX6_print 1 = .ok (.invokevirtual 22, 3) := dk_182 0 22 (dk_at dksX6_print_0 1 rfl rfl)
theorem dX6_print_4 : decode cX6_print 4 = .ok (.ifCond .eq 15, 3) := dk_153 0 15 (dk_at dksX6_print_0 4 rfl rfl)
theorem dX6_print_7 : decode cX6_print 7 = .ok (.aload_n 1, 1) := dk_43 (dk_at dksX6_print_0 7 rfl rfl)
theorem dX6_print_8 : decode cX6_print 8 = .ok (.bipush 97, 2) := dk_16 97 (dk_at dksX6_print_0 8 rfl rfl)
theorem dX6_print_10 : decode cX6_print 10 = .ok (.aload_n 0, 1) := dk_42 (dk_at dksX6_print_0 10 rfl rfl)
theorem dX6_print_11 : decode cX6_print 11 = .ok (.getfield 9, 3) := dk_180 0 9 (dk_at dksX6_print_0 11 rfl rfl)
theorem dX6_print_14 : decode cX6_print 14 = .ok (.iadd, 1) := dk_96 (dk_at dksX6_print_0 14 rfl rfl)
theorem dX6_print_15 : decode cX6_print 15 = .ok (.invokevirtual 66, 3) := dk_182 0 66 (dk_at dksX6_print_0 15 rfl rfl)
theorem dX6_print_18 : decode cX6_print 18 = .ok (.return_, 1) := dk_177 (dk_at dksX6_print_0 18 rfl rfl)
theorem dX6_print_19 : decode cX6_print 19 = .ok (.aload_n 1, 1) := dk_43 (dk_at dksX6_print_0 19 rfl rfl)
theorem dX6_print_20 : decode cX6_print 20 = .ok (.bipush 65, 2) := dk_16 65 (dk_at dksX6_print_0 20 rfl rfl)
theorem dX6_print_22 : decode cX6_print 22 = .ok (.aload_n 0, 1) := dk_42 (dk_at dksX6_print_0 22 rfl rfl)
theorem dX6_print_23 : decode cX6_print 23 = .ok (.getfield 15, 3) := dk_180 0 15 (dk_at dksX6_print_1 0 rfl rfl)
theorem dX6_print_26 : decode cX6_print 26 = .ok (.iadd, 1) := dk_96 (dk_at dksX6_print_1 3 rfl rfl)
theorem dX6_print_27 : decode cX6_print 27 = .ok (.invokevirtual 66, 3) := dk_182 0 66 (dk_at dksX6_print_1 4 rfl rfl)
theorem dX6_print_30 : decode cX6_print 30 = .ok (.aload_n 1, 1) := dk_43 (dk_at dksX6_print_1 7 rfl rfl)
theorem dX6_print_31 : decode cX6_print 31 = .ok (.bipush 91, 2) := dk_16 91 (dk_at dksX6_print_1 8 rfl rfl)
theorem dX6_print_33 : decode cX6_print 33 = .ok (.invokevirtual 70, 3) := dk_182 0 70 (dk_at dksX6_print_1 10 rfl rfl)
theorem dX6_print_36 : decode cX6_print 36 = .ok (.aload_n 0, 1) := dk_42 (dk_at dksX6_print_1 13 rfl rfl)
theorem dX6_print_37 : decode cX6_print 37 = .ok (.getfield 18, 3) := dk_180 0 18 (dk_at dksX6_print_1 14 rfl rfl)
theorem dX6_print_40 : decode cX6_print 40 = .ok (.aload_n 1, 1) := dk_43 (dk_at dksX6_print_1 17 rfl rfl)
theorem dX6_print_41 : decode cX6_print 41 = .ok (.invokevirtual 73, 3) := dk_182 0 73 (dk_at dksX6_print_1 18 rfl rfl)
theorem dX6_print_44 : decode cX6_print 44 = .ok (.aload_n 1, 1) := dk_43 (dk_at dksX6_print_1 21 rfl rfl)
theorem dX6_print_45 : decode cX6_print 45 = .ok (.bipush 93, 2) := dk_16 93 (dk_at dksX6_print_1 22 rfl rfl)
theorem dX6_print_47 : decode cX6_print 47 = .ok (.invokevirtual 77, 3) := dk_182 0 77 (dk_at dksX6_print_2 0 rfl rfl)
theorem dX6_print_50 : decode cX6_print 50 = .ok (.return_, 1) := dk_177 (dk_at dksX6_print_2 3 rfl rfl)
abbrev cX6_find : ByteArray := prog_24_method_3_code
def yX6_find : MethodName := ⟨RX6, "find", "(LThereAndBack;)I"⟩
def dkwX6_find_1 : List UInt8 := [50, 191, 3, 172, 42, 180, 0, 18, 43, 182, 0, 34, 65, 43, 42, 180, 0, 15, 32, 182, 0, 40, 172]
abbrev dktX6_find_1 : List UInt8 := dkwX6_find_1 ++ []
def dkwX6_find_0 : List UInt8 := [42, 182, 0, 22, 153, 0, 24, 43, 180, 0, 26, 42, 180, 0, 9, 51, 154, 0, 10, 43, 180, 0, 30, 4]
abbrev dktX6_find_0 : List UInt8 := dkwX6_find_0 ++ dktX6_find_1
theorem dksX6_find_0 : cX6_find.data.toList.drop 0 = dktX6_find_0 := by decide +kernel
theorem dksX6_find_1 : cX6_find.data.toList.drop 24 = dktX6_find_1 := dk_seg dksX6_find_0 24 rfl rfl
theorem dX6_find_0 : decode cX6_find 0 = .ok (.aload_n 0, 1) := dk_42 (dk_at dksX6_find_0 0 rfl rfl)
theorem dX6_find_1 : decode cX6_find 1 = .ok (.invokevirtual 22, 3) := dk_182 0 22 (dk_at dksX6_find_0 1 rfl rfl)
theorem dX6_find_4 : decode cX6_find 4 = .ok (.ifCond .eq 24, 3) := dk_153 0 24 (dk_at dksX6_find_0 4 rfl rfl)
theorem dX6_find_7 : decode cX6_find 7 = .ok (.aload_n 1, 1) := dk_43 (dk_at dksX6_find_0 7 rfl rfl)
theorem dX6_find_8 : decode cX6_find 8 = .ok (.getfield 26, 3) := dk_180 0 26 (dk_at dksX6_find_0 8 rfl rfl)
theorem dX6_find_11 : decode cX6_find 11 = .ok (.aload_n 0, 1) := dk_42 (dk_at dksX6_find_0 11 rfl rfl)
theorem dX6_find_12 : decode cX6_find 12 = .ok (.getfield 9, 3) := dk_180 0 9 (dk_at dksX6_find_0 12 rfl rfl)
theorem dX6_find_15 : decode cX6_find 15 = .ok (.baload, 1) := dk_51 (dk_at dksX6_find_0 15 rfl rfl)
theorem dX6_find_16 : decode cX6_find 16 = .ok (.ifCond .ne 10, 3) := dk_154 0 10 (dk_at dksX6_find_0 16 rfl rfl)
theorem dX6_find_19 : decode cX6_find 19 = .ok (.aload_n 1, 1) := dk_43 (dk_at dksX6_find_0 19 rfl rfl)
theorem dX6_find_20 : decode cX6_find 20 = .ok (.getfield 30, 3) := dk_180 0 30 (dk_at dksX6_find_0 20 rfl rfl)
theorem dX6_find_23 : decode cX6_find 23 = .ok (.iconst 1, 1) := dk_4 (dk_at dksX6_find_0 23 rfl rfl)
theorem dX6_find_24 : decode cX6_find 24 = .ok (.aaload, 1) := dk_50 (dk_at dksX6_find_1 0 rfl rfl)
theorem dX6_find_25 : decode cX6_find 25 = .ok (.athrow, 1) := dk_191 (dk_at dksX6_find_1 1 rfl rfl)
theorem dX6_find_26 : decode cX6_find 26 = .ok (.iconst 0, 1) := dk_3 (dk_at dksX6_find_1 2 rfl rfl)
theorem dX6_find_27 : decode cX6_find 27 = .ok (.ireturn, 1) := dk_172 (dk_at dksX6_find_1 3 rfl rfl)
theorem dX6_find_28 : decode cX6_find 28 = .ok (.aload_n 0, 1) := dk_42 (dk_at dksX6_find_1 4 rfl rfl)
theorem dX6_find_29 : decode cX6_find 29 = .ok (.getfield 18, 3) := dk_180 0 18 (dk_at dksX6_find_1 5 rfl rfl)
theorem dX6_find_32 : decode cX6_find 32 = .ok (.aload_n 1, 1) := dk_43 (dk_at dksX6_find_1 8 rfl rfl)
theorem dX6_find_33 : decode cX6_find 33 = .ok (.invokevirtual 34, 3) := dk_182 0 34 (dk_at dksX6_find_1 9 rfl rfl)
theorem dX6_find_36 : decode cX6_find 36 = .ok (.lstore_n 2, 1) := dk_65 (dk_at dksX6_find_1 12 rfl rfl)
theorem dX6_find_37 : decode cX6_find 37 = .ok (.aload_n 1, 1) := dk_43 (dk_at dksX6_find_1 13 rfl rfl)
theorem dX6_find_38 : decode cX6_find 38 = .ok (.aload_n 0, 1) := dk_42 (dk_at dksX6_find_1 14 rfl rfl)
theorem dX6_find_39 : decode cX6_find 39 = .ok (.getfield 15, 3) := dk_180 0 15 (dk_at dksX6_find_1 15 rfl rfl)
theorem dX6_find_42 : decode cX6_find 42 = .ok (.lload_n 2, 1) := dk_32 (dk_at dksX6_find_1 18 rfl rfl)
theorem dX6_find_43 : decode cX6_find 43 = .ok (.invokevirtual 40, 3) := dk_182 0 40 (dk_at dksX6_find_1 19 rfl rfl)
theorem dX6_find_46 : decode cX6_find 46 = .ok (.ireturn, 1) := dk_172 (dk_at dksX6_find_1 22 rfl rfl)
abbrev cX6_check : ByteArray := prog_24_method_4_code
def yX6_check : MethodName := ⟨RX6, "check", "(LThereAndBack;LThereAndBack$Expr;)V"⟩
def dkwX6_check_0 : List UInt8 := [44, 198, 0, 9, 44, 43, 182, 0, 34, 66, 177]
abbrev dktX6_check_0 : List UInt8 := dkwX6_check_0 ++ []
theorem dksX6_check_0 : cX6_check.data.toList.drop 0 = dktX6_check_0 := by decide +kernel
theorem dX6_check_0 : decode cX6_check 0 = .ok (.aload_n 2, 1) := dk_44 (dk_at dksX6_check_0 0 rfl rfl)
theorem dX6_check_1 : decode cX6_check 1 = .ok (.ifnull 9, 3) := dk_198 0 9 (dk_at dksX6_check_0 1 rfl rfl)
theorem dX6_check_4 : decode cX6_check 4 = .ok (.aload_n 2, 1) := dk_44 (dk_at dksX6_check_0 4 rfl rfl)
theorem dX6_check_5 : decode cX6_check 5 = .ok (.aload_n 1, 1) := dk_43 (dk_at dksX6_check_0 5 rfl rfl)
theorem dX6_check_6 : decode cX6_check 6 = .ok (.invokevirtual 34, 3) := dk_182 0 34 (dk_at dksX6_check_0 6 rfl rfl)
theorem dX6_check_9 : decode cX6_check 9 = .ok (.lstore_n 3, 1) := dk_66 (dk_at dksX6_check_0 9 rfl rfl)
theorem dX6_check_10 : decode cX6_check 10 = .ok (.return_, 1) := dk_177 (dk_at dksX6_check_0 10 rfl rfl)
abbrev cX6_get : ByteArray := prog_24_method_6_code
def yX6_get : MethodName := ⟨RX6, "get", "(LThereAndBack;I)J"⟩
def dkwX6_get_1 : List UInt8 := [42, 180, 0, 15, 50, 28, 182, 0, 58, 173]
abbrev dktX6_get_1 : List UInt8 := dkwX6_get_1 ++ []
def dkwX6_get_0 : List UInt8 := [42, 182, 0, 22, 153, 0, 16, 43, 180, 0, 54, 42, 180, 0, 9, 46, 133, 167, 0, 16, 43, 180, 0, 44]
abbrev dktX6_get_0 : List UInt8 := dkwX6_get_0 ++ dktX6_get_1
theorem dksX6_get_0 : cX6_get.data.toList.drop 0 = dktX6_get_0 := by decide +kernel
theorem dksX6_get_1 : cX6_get.data.toList.drop 24 = dktX6_get_1 := dk_seg dksX6_get_0 24 rfl rfl
theorem dX6_get_0 : decode cX6_get 0 = .ok (.aload_n 0, 1) := dk_42 (dk_at dksX6_get_0 0 rfl rfl)
theorem dX6_get_1 : decode cX6_get 1 = .ok (.invokevirtual 22, 3) := dk_182 0 22 (dk_at dksX6_get_0 1 rfl rfl)
theorem dX6_get_4 : decode cX6_get 4 = .ok (.ifCond .eq 16, 3) := dk_153 0 16 (dk_at dksX6_get_0 4 rfl rfl)
theorem dX6_get_7 : decode cX6_get 7 = .ok (.aload_n 1, 1) := dk_43 (dk_at dksX6_get_0 7 rfl rfl)
theorem dX6_get_8 : decode cX6_get 8 = .ok (.getfield 54, 3) := dk_180 0 54 (dk_at dksX6_get_0 8 rfl rfl)
theorem dX6_get_11 : decode cX6_get 11 = .ok (.aload_n 0, 1) := dk_42 (dk_at dksX6_get_0 11 rfl rfl)
theorem dX6_get_12 : decode cX6_get 12 = .ok (.getfield 9, 3) := dk_180 0 9 (dk_at dksX6_get_0 12 rfl rfl)
theorem dX6_get_15 : decode cX6_get 15 = .ok (.iaload, 1) := dk_46 (dk_at dksX6_get_0 15 rfl rfl)
theorem dX6_get_16 : decode cX6_get 16 = .ok (.i2l, 1) := dk_133 (dk_at dksX6_get_0 16 rfl rfl)
theorem dX6_get_17 : decode cX6_get 17 = .ok (.goto 16, 3) := dk_167 0 16 (dk_at dksX6_get_0 17 rfl rfl)
theorem dX6_get_20 : decode cX6_get 20 = .ok (.aload_n 1, 1) := dk_43 (dk_at dksX6_get_0 20 rfl rfl)
theorem dX6_get_21 : decode cX6_get 21 = .ok (.getfield 44, 3) := dk_180 0 44 (dk_at dksX6_get_0 21 rfl rfl)
theorem dX6_get_24 : decode cX6_get 24 = .ok (.aload_n 0, 1) := dk_42 (dk_at dksX6_get_1 0 rfl rfl)
theorem dX6_get_25 : decode cX6_get 25 = .ok (.getfield 15, 3) := dk_180 0 15 (dk_at dksX6_get_1 1 rfl rfl)
theorem dX6_get_28 : decode cX6_get 28 = .ok (.aaload, 1) := dk_50 (dk_at dksX6_get_1 4 rfl rfl)
theorem dX6_get_29 : decode cX6_get 29 = .ok (.iload_n 2, 1) := dk_28 (dk_at dksX6_get_1 5 rfl rfl)
theorem dX6_get_30 : decode cX6_get 30 = .ok (.invokevirtual 58, 3) := dk_182 0 58 (dk_at dksX6_get_1 6 rfl rfl)
theorem dX6_get_33 : decode cX6_get 33 = .ok (.lreturn, 1) := dk_173 (dk_at dksX6_get_1 9 rfl rfl)
abbrev cX6_kind : ByteArray := prog_24_method_5_code
def yX6_kind : MethodName := ⟨RX6, "kind", "(LThereAndBack;)I"⟩
def dkwX6_kind_0 : List UInt8 := [42, 182, 0, 22, 153, 0, 7, 3, 167, 0, 15, 43, 180, 0, 44, 42, 180, 0, 15, 50, 182, 0, 48, 172]
abbrev dktX6_kind_0 : List UInt8 := dkwX6_kind_0 ++ []
theorem dksX6_kind_0 : cX6_kind.data.toList.drop 0 = dktX6_kind_0 := by decide +kernel
theorem dX6_kind_0 : decode cX6_kind 0 = .ok (.aload_n 0, 1) := dk_42 (dk_at dksX6_kind_0 0 rfl rfl)
theorem dX6_kind_1 : decode cX6_kind 1 = .ok (.invokevirtual 22, 3) := dk_182 0 22 (dk_at dksX6_kind_0 1 rfl rfl)
theorem dX6_kind_4 : decode cX6_kind 4 = .ok (.ifCond .eq 7, 3) := dk_153 0 7 (dk_at dksX6_kind_0 4 rfl rfl)
theorem dX6_kind_7 : decode cX6_kind 7 = .ok (.iconst 0, 1) := dk_3 (dk_at dksX6_kind_0 7 rfl rfl)
theorem dX6_kind_8 : decode cX6_kind 8 = .ok (.goto 15, 3) := dk_167 0 15 (dk_at dksX6_kind_0 8 rfl rfl)
theorem dX6_kind_11 : decode cX6_kind 11 = .ok (.aload_n 1, 1) := dk_43 (dk_at dksX6_kind_0 11 rfl rfl)
theorem dX6_kind_12 : decode cX6_kind 12 = .ok (.getfield 44, 3) := dk_180 0 44 (dk_at dksX6_kind_0 12 rfl rfl)
theorem dX6_kind_15 : decode cX6_kind 15 = .ok (.aload_n 0, 1) := dk_42 (dk_at dksX6_kind_0 15 rfl rfl)
theorem dX6_kind_16 : decode cX6_kind 16 = .ok (.getfield 15, 3) := dk_180 0 15 (dk_at dksX6_kind_0 16 rfl rfl)
theorem dX6_kind_19 : decode cX6_kind 19 = .ok (.aaload, 1) := dk_50 (dk_at dksX6_kind_0 19 rfl rfl)
theorem dX6_kind_20 : decode cX6_kind 20 = .ok (.invokevirtual 48, 3) := dk_182 0 48 (dk_at dksX6_kind_0 20 rfl rfl)
theorem dX6_kind_23 : decode cX6_kind 23 = .ok (.ireturn, 1) := dk_172 (dk_at dksX6_kind_0 23 rfl rfl)
abbrev cX6_set : ByteArray := prog_24_method_7_code
def yX6_set : MethodName := ⟨RX6, "set", "(LThereAndBack;IJ)V"⟩
def dkwX6_set_1 : List UInt8 := [180, 0, 44, 42, 180, 0, 15, 50, 28, 33, 182, 0, 62, 177]
abbrev dktX6_set_1 : List UInt8 := dkwX6_set_1 ++ []
def dkwX6_set_0 : List UInt8 := [42, 182, 0, 22, 153, 0, 17, 43, 180, 0, 54, 42, 180, 0, 9, 33, 136, 79, 167, 0, 17, 43]
abbrev dktX6_set_0 : List UInt8 := dkwX6_set_0 ++ dktX6_set_1
theorem dksX6_set_0 : cX6_set.data.toList.drop 0 = dktX6_set_0 := by decide +kernel
theorem dksX6_set_1 : cX6_set.data.toList.drop 22 = dktX6_set_1 := dk_seg dksX6_set_0 22 rfl rfl
theorem dX6_set_0 : decode cX6_set 0 = .ok (.aload_n 0, 1) := dk_42 (dk_at dksX6_set_0 0 rfl rfl)
theorem dX6_set_1 : decode cX6_set 1 = .ok (.invokevirtual 22, 3) := dk_182 0 22 (dk_at dksX6_set_0 1 rfl rfl)
theorem dX6_set_4 : decode cX6_set 4 = .ok (.ifCond .eq 17, 3) := dk_153 0 17 (dk_at dksX6_set_0 4 rfl rfl)
theorem dX6_set_7 : decode cX6_set 7 = .ok (.aload_n 1, 1) := dk_43 (dk_at dksX6_set_0 7 rfl rfl)
theorem dX6_set_8 : decode cX6_set 8 = .ok (.getfield 54, 3) := dk_180 0 54 (dk_at dksX6_set_0 8 rfl rfl)
theorem dX6_set_11 : decode cX6_set 11 = .ok (.aload_n 0, 1) := dk_42 (dk_at dksX6_set_0 11 rfl rfl)
theorem dX6_set_12 : decode cX6_set 12 = .ok (.getfield 9, 3) := dk_180 0 9 (dk_at dksX6_set_0 12 rfl rfl)
theorem dX6_set_15 : decode cX6_set 15 = .ok (.lload_n 3, 1) := dk_33 (dk_at dksX6_set_0 15 rfl rfl)
theorem dX6_set_16 : decode cX6_set 16 = .ok (.l2i, 1) := dk_136 (dk_at dksX6_set_0 16 rfl rfl)
theorem dX6_set_17 : decode cX6_set 17 = .ok (.iastore, 1) := dk_79 (dk_at dksX6_set_0 17 rfl rfl)
theorem dX6_set_18 : decode cX6_set 18 = .ok (.goto 17, 3) := dk_167 0 17 (dk_at dksX6_set_0 18 rfl rfl)
theorem dX6_set_21 : decode cX6_set 21 = .ok (.aload_n 1, 1) := dk_43 (dk_at dksX6_set_0 21 rfl rfl)
theorem dX6_set_22 : decode cX6_set 22 = .ok (.getfield 44, 3) := dk_180 0 44 (dk_at dksX6_set_1 0 rfl rfl)
theorem dX6_set_25 : decode cX6_set 25 = .ok (.aload_n 0, 1) := dk_42 (dk_at dksX6_set_1 3 rfl rfl)
theorem dX6_set_26 : decode cX6_set 26 = .ok (.getfield 15, 3) := dk_180 0 15 (dk_at dksX6_set_1 4 rfl rfl)
theorem dX6_set_29 : decode cX6_set 29 = .ok (.aaload, 1) := dk_50 (dk_at dksX6_set_1 7 rfl rfl)
theorem dX6_set_30 : decode cX6_set 30 = .ok (.iload_n 2, 1) := dk_28 (dk_at dksX6_set_1 8 rfl rfl)
theorem dX6_set_31 : decode cX6_set 31 = .ok (.lload_n 3, 1) := dk_33 (dk_at dksX6_set_1 9 rfl rfl)
theorem dX6_set_32 : decode cX6_set 32 = .ok (.invokevirtual 62, 3) := dk_182 0 62 (dk_at dksX6_set_1 10 rfl rfl)
theorem dX6_set_35 : decode cX6_set 35 = .ok (.return_, 1) := dk_177 (dk_at dksX6_set_1 13 rfl rfl)
theorem q160 : (Jvm.Cond.initialized "ThereAndBack$Place") ∈ lw_all := lw_g (lw_at lw_m1 16 rfl) rfl
theorem q341 : (Jvm.Cond.fieldLinkNest "ThereAndBack$Place" (30 : Nat) "ThereAndBack" "refusals" "[LThereAndBack$Refused;" "ThereAndBack") ∈ lw_tbl := lw_at lw_m1 197 rfl
theorem q349 : (Jvm.Cond.fieldLinkNest "ThereAndBack$Place" (26 : Nat) "ThereAndBack" "isThere" "[Z" "ThereAndBack") ∈ lw_tbl := lw_at lw_m1 205 rfl
theorem q357 : (Jvm.Cond.fieldLinkNest "ThereAndBack$Place" (54 : Nat) "ThereAndBack" "values" "[I" "ThereAndBack") ∈ lw_tbl := lw_at lw_m1 213 rfl
theorem q361 : (Jvm.Cond.fieldLinkNest "ThereAndBack$Place" (44 : Nat) "ThereAndBack" "rows" "[LThereAndBack$Holder;" "ThereAndBack") ∈ lw_tbl := lw_at lw_m1 217 rfl
theorem q646 : (Jvm.Cond.instantiable "ThereAndBack$Place" (3 : Nat)) ∈ lw_all := lw_g (lw_at lw_m3 22 rfl) rfl
theorem q656 : (Jvm.Cond.instanceMethod ({ cls := "ThereAndBack$Place", name := "<init>", desc := "(IILThereAndBack$Expr;)V" } : Jvm.MethodName)) ∈ lw_all := lw_g (lw_at lw_m3 32 rfl) rfl
theorem q657 : (Jvm.Cond.code ({ cls := "ThereAndBack$Place", name := "<init>", desc := "(IILThereAndBack$Expr;)V" } : Jvm.MethodName) prog_24_method_1_code (4 : Nat) (Option.none : Option Jvm.ClassFile.FieldType)) ∈ lw_all := lw_g (lw_at lw_m3 33 rfl) rfl
theorem q658 : (Jvm.Cond.methodLink "ThereAndBack$Place" (3 : Nat) ({ cls := "java/lang/Object", name := "<init>", desc := "()V" } : Jvm.MethodName)) ∈ lw_all := lw_g (lw_at lw_m3 34 rfl) rfl
theorem q659 : (Jvm.Cond.fieldLink "ThereAndBack$Place" (9 : Nat) "ThereAndBack$Place" "name" "I") ∈ lw_all := lw_g (lw_at lw_m3 35 rfl) rfl
theorem q662 : (Jvm.Cond.fieldLink "ThereAndBack$Place" (15 : Nat) "ThereAndBack$Place" "row" "I") ∈ lw_all := lw_g (lw_at lw_m3 38 rfl) rfl
theorem q665 : (Jvm.Cond.fieldLink "ThereAndBack$Place" (18 : Nat) "ThereAndBack$Place" "index" "LThereAndBack$Expr;") ∈ lw_all := lw_g (lw_at lw_m3 41 rfl) rfl
theorem q668 : (Jvm.Cond.laysFinal "ThereAndBack$Place" "ThereAndBack$Place" "name" "I") ∈ lw_all := lw_g (lw_at lw_m3 44 rfl) rfl
theorem q669 : (Jvm.Cond.soleField "ThereAndBack$Place" "name") ∈ lw_all := lw_g (lw_at lw_m3 45 rfl) rfl
theorem q670 : (Jvm.Cond.laysFinal "ThereAndBack$Place" "ThereAndBack$Place" "row" "I") ∈ lw_all := lw_g (lw_at lw_m3 46 rfl) rfl
theorem q671 : (Jvm.Cond.soleField "ThereAndBack$Place" "row") ∈ lw_all := lw_g (lw_at lw_m3 47 rfl) rfl
theorem q672 : (Jvm.Cond.laysFinal "ThereAndBack$Place" "ThereAndBack$Place" "index" "LThereAndBack$Expr;") ∈ lw_all := lw_g (lw_at lw_m3 48 rfl) rfl
theorem q673 : (Jvm.Cond.soleField "ThereAndBack$Place" "index") ∈ lw_all := lw_g (lw_at lw_m3 49 rfl) rfl
theorem q674 : (Jvm.Cond.superclass "ThereAndBack$Place" "java/lang/Object") ∈ lw_all := lw_g (lw_at lw_m3 50 rfl) rfl
theorem q863 : (Jvm.Cond.instanceMethod ({ cls := "ThereAndBack$Place", name := "isName", desc := "()Z" } : Jvm.MethodName)) ∈ lw_all := lw_g (lw_at lw_m3 239 rfl) rfl
theorem q864 : (Jvm.Cond.selects "ThereAndBack$Place" ({ cls := "ThereAndBack$Place", name := "isName", desc := "()Z" } : Jvm.MethodName) ({ cls := "ThereAndBack$Place", name := "isName", desc := "()Z" } : Jvm.MethodName)) ∈ lw_all := lw_g (lw_at lw_m4 0 rfl) rfl
theorem q865 : (Jvm.Cond.code ({ cls := "ThereAndBack$Place", name := "isName", desc := "()Z" } : Jvm.MethodName) prog_24_method_2_code (1 : Nat) (Option.some Jvm.ClassFile.FieldType.boolean)) ∈ lw_all := lw_g (lw_at lw_m4 1 rfl) rfl
theorem q1171 : (Jvm.Cond.selects "ThereAndBack$Place" ({ cls := "java/lang/Object", name := "getClass", desc := "()Ljava/lang/Class;" } : Jvm.MethodName) ({ cls := "java/lang/Object", name := "getClass", desc := "()Ljava/lang/Class;" } : Jvm.MethodName)) ∈ lw_all := lw_g (lw_at lw_m5 67 rfl) rfl
theorem q1486 : (Jvm.Cond.instanceMethod ({ cls := "ThereAndBack$Place", name := "names", desc := "()I" } : Jvm.MethodName)) ∈ lw_all := lw_g (lw_at lw_m6 142 rfl) rfl
theorem q1487 : (Jvm.Cond.selects "ThereAndBack$Place" ({ cls := "ThereAndBack$Place", name := "names", desc := "()I" } : Jvm.MethodName) ({ cls := "ThereAndBack$Place", name := "names", desc := "()I" } : Jvm.MethodName)) ∈ lw_all := lw_g (lw_at lw_m6 143 rfl) rfl
theorem q1488 : (Jvm.Cond.code ({ cls := "ThereAndBack$Place", name := "names", desc := "()I" } : Jvm.MethodName) prog_24_method_9_code (1 : Nat) (Option.some Jvm.ClassFile.FieldType.int)) ∈ lw_all := lw_g (lw_at lw_m6 144 rfl) rfl
theorem q1489 : (Jvm.Cond.methodLink "ThereAndBack$Place" (22 : Nat) ({ cls := "ThereAndBack$Place", name := "isName", desc := "()Z" } : Jvm.MethodName)) ∈ lw_all := lw_g (lw_at lw_m6 145 rfl) rfl
theorem q1490 : (Jvm.Cond.methodLink "ThereAndBack$Place" (80 : Nat) ({ cls := "ThereAndBack$Expr", name := "names", desc := "()I" } : Jvm.MethodName)) ∈ lw_all := lw_g (lw_at lw_m6 146 rfl) rfl
theorem q1630 : (Jvm.Cond.instanceMethod ({ cls := "ThereAndBack$Place", name := "print", desc := "(LThereAndBack;)V" } : Jvm.MethodName)) ∈ lw_all := lw_g (lw_at lw_m7 46 rfl) rfl
theorem q1631 : (Jvm.Cond.selects "ThereAndBack$Place" ({ cls := "ThereAndBack$Place", name := "print", desc := "(LThereAndBack;)V" } : Jvm.MethodName) ({ cls := "ThereAndBack$Place", name := "print", desc := "(LThereAndBack;)V" } : Jvm.MethodName)) ∈ lw_all := lw_g (lw_at lw_m7 47 rfl) rfl
theorem q1632 : (Jvm.Cond.code ({ cls := "ThereAndBack$Place", name := "print", desc := "(LThereAndBack;)V" } : Jvm.MethodName) prog_24_method_8_code (2 : Nat) (Option.none : Option Jvm.ClassFile.FieldType)) ∈ lw_all := lw_g (lw_at lw_m7 48 rfl) rfl
theorem q1633 : (Jvm.Cond.methodLinkNest "ThereAndBack$Place" (66 : Nat) ({ cls := "ThereAndBack", name := "printSign", desc := "(I)V" } : Jvm.MethodName) "ThereAndBack") ∈ lw_tbl := lw_at lw_m7 49 rfl
theorem q1634 : (Jvm.Cond.methodLinkNest "ThereAndBack$Place" (70 : Nat) ({ cls := "ThereAndBack", name := "printJoined", desc := "(I)V" } : Jvm.MethodName) "ThereAndBack") ∈ lw_tbl := lw_at lw_m7 50 rfl
theorem q1635 : (Jvm.Cond.methodLink "ThereAndBack$Place" (73 : Nat) ({ cls := "ThereAndBack$Expr", name := "print", desc := "(LThereAndBack;)V" } : Jvm.MethodName)) ∈ lw_all := lw_g (lw_at lw_m7 51 rfl) rfl
theorem q1636 : (Jvm.Cond.methodLinkNest "ThereAndBack$Place" (77 : Nat) ({ cls := "ThereAndBack", name := "printBehind", desc := "(I)V" } : Jvm.MethodName) "ThereAndBack") ∈ lw_tbl := lw_at lw_m7 52 rfl
theorem q2128 : (Jvm.Cond.instanceMethod ({ cls := "ThereAndBack$Place", name := "find", desc := "(LThereAndBack;)I" } : Jvm.MethodName)) ∈ lw_all := lw_g (lw_at lw_m9 64 rfl) rfl
theorem q2129 : (Jvm.Cond.selects "ThereAndBack$Place" ({ cls := "ThereAndBack$Place", name := "find", desc := "(LThereAndBack;)I" } : Jvm.MethodName) ({ cls := "ThereAndBack$Place", name := "find", desc := "(LThereAndBack;)I" } : Jvm.MethodName)) ∈ lw_all := lw_g (lw_at lw_m9 65 rfl) rfl
theorem q2130 : (Jvm.Cond.code ({ cls := "ThereAndBack$Place", name := "find", desc := "(LThereAndBack;)I" } : Jvm.MethodName) prog_24_method_3_code (4 : Nat) (Option.some Jvm.ClassFile.FieldType.int)) ∈ lw_all := lw_g (lw_at lw_m9 66 rfl) rfl
theorem q2131 : (Jvm.Cond.methodLink "ThereAndBack$Place" (34 : Nat) ({ cls := "ThereAndBack$Expr", name := "eval", desc := "(LThereAndBack;)J" } : Jvm.MethodName)) ∈ lw_all := lw_g (lw_at lw_m9 67 rfl) rfl
theorem q2132 : (Jvm.Cond.methodLinkNest "ThereAndBack$Place" (40 : Nat) ({ cls := "ThereAndBack", name := "placeOf", desc := "(IJ)I" } : Jvm.MethodName) "ThereAndBack") ∈ lw_tbl := lw_at lw_m9 68 rfl
theorem q2142 : (Jvm.Cond.instanceMethod ({ cls := "ThereAndBack$Place", name := "check", desc := "(LThereAndBack;LThereAndBack$Expr;)V" } : Jvm.MethodName)) ∈ lw_all := lw_g (lw_at lw_m9 78 rfl) rfl
theorem q2143 : (Jvm.Cond.selects "ThereAndBack$Place" ({ cls := "ThereAndBack$Place", name := "check", desc := "(LThereAndBack;LThereAndBack$Expr;)V" } : Jvm.MethodName) ({ cls := "ThereAndBack$Place", name := "check", desc := "(LThereAndBack;LThereAndBack$Expr;)V" } : Jvm.MethodName)) ∈ lw_all := lw_g (lw_at lw_m9 79 rfl) rfl
theorem q2144 : (Jvm.Cond.code ({ cls := "ThereAndBack$Place", name := "check", desc := "(LThereAndBack;LThereAndBack$Expr;)V" } : Jvm.MethodName) prog_24_method_4_code (5 : Nat) (Option.none : Option Jvm.ClassFile.FieldType)) ∈ lw_all := lw_g (lw_at lw_m9 80 rfl) rfl
theorem q2148 : (Jvm.Cond.instanceMethod ({ cls := "ThereAndBack$Place", name := "get", desc := "(LThereAndBack;I)J" } : Jvm.MethodName)) ∈ lw_all := lw_g (lw_at lw_m9 84 rfl) rfl
theorem q2149 : (Jvm.Cond.selects "ThereAndBack$Place" ({ cls := "ThereAndBack$Place", name := "get", desc := "(LThereAndBack;I)J" } : Jvm.MethodName) ({ cls := "ThereAndBack$Place", name := "get", desc := "(LThereAndBack;I)J" } : Jvm.MethodName)) ∈ lw_all := lw_g (lw_at lw_m9 85 rfl) rfl
theorem q2150 : (Jvm.Cond.code ({ cls := "ThereAndBack$Place", name := "get", desc := "(LThereAndBack;I)J" } : Jvm.MethodName) prog_24_method_6_code (3 : Nat) (Option.some Jvm.ClassFile.FieldType.long)) ∈ lw_all := lw_g (lw_at lw_m9 86 rfl) rfl
theorem q2151 : (Jvm.Cond.methodLink "ThereAndBack$Place" (58 : Nat) ({ cls := "ThereAndBack$Holder", name := "get", desc := "(I)J" } : Jvm.MethodName)) ∈ lw_all := lw_g (lw_at lw_m9 87 rfl) rfl
theorem q2153 : (Jvm.Cond.instanceMethod ({ cls := "ThereAndBack$Place", name := "kind", desc := "(LThereAndBack;)I" } : Jvm.MethodName)) ∈ lw_all := lw_g (lw_at lw_m9 89 rfl) rfl
theorem q2154 : (Jvm.Cond.selects "ThereAndBack$Place" ({ cls := "ThereAndBack$Place", name := "kind", desc := "(LThereAndBack;)I" } : Jvm.MethodName) ({ cls := "ThereAndBack$Place", name := "kind", desc := "(LThereAndBack;)I" } : Jvm.MethodName)) ∈ lw_all := lw_g (lw_at lw_m9 90 rfl) rfl
theorem q2155 : (Jvm.Cond.code ({ cls := "ThereAndBack$Place", name := "kind", desc := "(LThereAndBack;)I" } : Jvm.MethodName) prog_24_method_5_code (2 : Nat) (Option.some Jvm.ClassFile.FieldType.int)) ∈ lw_all := lw_g (lw_at lw_m9 91 rfl) rfl
theorem q2156 : (Jvm.Cond.methodLink "ThereAndBack$Place" (48 : Nat) ({ cls := "ThereAndBack$Holder", name := "kind", desc := "()I" } : Jvm.MethodName)) ∈ lw_all := lw_g (lw_at lw_m9 92 rfl) rfl
theorem q2161 : (Jvm.Cond.instanceMethod ({ cls := "ThereAndBack$Place", name := "set", desc := "(LThereAndBack;IJ)V" } : Jvm.MethodName)) ∈ lw_all := lw_g (lw_at lw_m9 97 rfl) rfl
theorem q2162 : (Jvm.Cond.selects "ThereAndBack$Place" ({ cls := "ThereAndBack$Place", name := "set", desc := "(LThereAndBack;IJ)V" } : Jvm.MethodName) ({ cls := "ThereAndBack$Place", name := "set", desc := "(LThereAndBack;IJ)V" } : Jvm.MethodName)) ∈ lw_all := lw_g (lw_at lw_m9 98 rfl) rfl
theorem q2163 : (Jvm.Cond.code ({ cls := "ThereAndBack$Place", name := "set", desc := "(LThereAndBack;IJ)V" } : Jvm.MethodName) prog_24_method_7_code (5 : Nat) (Option.none : Option Jvm.ClassFile.FieldType)) ∈ lw_all := lw_g (lw_at lw_m9 99 rfl) rfl
theorem q2164 : (Jvm.Cond.methodLink "ThereAndBack$Place" (62 : Nat) ({ cls := "ThereAndBack$Holder", name := "set", desc := "(IJ)V" } : Jvm.MethodName)) ∈ lw_all := lw_g (lw_at lw_m9 100 rfl) rfl
theorem q3136 : (Jvm.Cond.castable "ThereAndBack$Place" "java/lang/Object") ∈ lw_tbl := lw_at lw_m13 112 rfl
theorem in_X6 : ∀ w ∈ wsX60, w ∈ lw_all := lw_in wsX60 [668, 670, 672] (by decide +kernel) (by decide +kernel)
/-! ThereAndBack$Expr -/
set_option maxRecDepth 100000
def RX7 : String := "ThereAndBack$Expr"
abbrev cX7_init : ByteArray := prog_8_method_1_code
def yX7_init : MethodName := ⟨RX7, "<init>", "()V"⟩
theorem dX7_init_0 : decode cX7_init 0 = .ok (.aload_n 0, 1) := by decide +kernel
theorem dX7_init_1 : decode cX7_init 1 = .ok (.invokespecial 3, 3) := by decide +kernel
theorem dX7_init_4 : decode cX7_init 4 = .ok (.return_, 1) := by decide +kernel
abbrev cX7_names : ByteArray := prog_8_method_5_code
def yX7_names : MethodName := ⟨RX7, "names", "()I"⟩
def dkwX7_names_1 : List UInt8 := [167, 0, 4, 3, 128, 60, 132, 2, 1, 167, 255, 229, 27, 172]
abbrev dktX7_names_1 : List UInt8 := dkwX7_names_1 ++ []
def dkwX7_names_0 : List UInt8 := [3, 60, 3, 61, 28, 16, 26, 162, 0, 27, 27, 42, 28, 182, 0, 9, 153, 0, 9, 4, 28, 120]
abbrev dktX7_names_0 : List UInt8 := dkwX7_names_0 ++ dktX7_names_1
theorem dksX7_names_0 : cX7_names.data.toList.drop 0 = dktX7_names_0 := by decide +kernel
theorem dksX7_names_1 : cX7_names.data.toList.drop 22 = dktX7_names_1 := dk_seg dksX7_names_0 22 rfl rfl
theorem dX7_names_0 : decode cX7_names 0 = .ok (.iconst 0, 1) := dk_3 (dk_at dksX7_names_0 0 rfl rfl)
theorem dX7_names_1 : decode cX7_names 1 = .ok (.istore_n 1, 1) := dk_60 (dk_at dksX7_names_0 1 rfl rfl)
theorem dX7_names_2 : decode cX7_names 2 = .ok (.iconst 0, 1) := dk_3 (dk_at dksX7_names_0 2 rfl rfl)
theorem dX7_names_3 : decode cX7_names 3 = .ok (.istore_n 2, 1) := dk_61 (dk_at dksX7_names_0 3 rfl rfl)
theorem dX7_names_4 : decode cX7_names 4 = .ok (.iload_n 2, 1) := dk_28 (dk_at dksX7_names_0 4 rfl rfl)
theorem dX7_names_5 : decode cX7_names 5 = .ok (.bipush 26, 2) := dk_16 26 (dk_at dksX7_names_0 5 rfl rfl)
theorem dX7_names_7 : decode cX7_names 7 = .ok (.if_icmp .ge 27, 3) := dk_162 0 27 (dk_at dksX7_names_0 7 rfl rfl)
theorem dX7_names_10 : decode cX7_names 10 = .ok (.iload_n 1, 1) := dk_27 (dk_at dksX7_names_0 10 rfl rfl)
theorem dX7_names_11 : decode cX7_names 11 = .ok (.aload_n 0, 1) := dk_42 (dk_at dksX7_names_0 11 rfl rfl)
theorem dX7_names_12 : decode cX7_names 12 = .ok (.iload_n 2, 1) := dk_28 (dk_at dksX7_names_0 12 rfl rfl)
theorem dX7_names_13 : decode cX7_names 13 = .ok (.invokevirtual 9, 3) := dk_182 0 9 (dk_at dksX7_names_0 13 rfl rfl)
theorem dX7_names_16 : decode cX7_names 16 = .ok (.ifCond .eq 9, 3) := dk_153 0 9 (dk_at dksX7_names_0 16 rfl rfl)
theorem dX7_names_19 : decode cX7_names 19 = .ok (.iconst 1, 1) := dk_4 (dk_at dksX7_names_0 19 rfl rfl)
theorem dX7_names_20 : decode cX7_names 20 = .ok (.iload_n 2, 1) := dk_28 (dk_at dksX7_names_0 20 rfl rfl)
theorem dX7_names_21 : decode cX7_names 21 = .ok (.ishl, 1) := dk_120 (dk_at dksX7_names_0 21 rfl rfl)
theorem dX7_names_22 : decode cX7_names 22 = .ok (.goto 4, 3) := dk_167 0 4 (dk_at dksX7_names_1 0 rfl rfl)
theorem dX7_names_25 : decode cX7_names 25 = .ok (.iconst 0, 1) := dk_3 (dk_at dksX7_names_1 3 rfl rfl)
theorem dX7_names_26 : decode cX7_names 26 = .ok (.ior, 1) := dk_128 (dk_at dksX7_names_1 4 rfl rfl)
theorem dX7_names_27 : decode cX7_names 27 = .ok (.istore_n 1, 1) := dk_60 (dk_at dksX7_names_1 5 rfl rfl)
theorem dX7_names_28 : decode cX7_names 28 = .ok (.iinc 2 1, 3) := dk_132 2 1 (dk_at dksX7_names_1 6 rfl rfl)
theorem dX7_names_31 : decode cX7_names 31 = .ok (.goto (-27), 3) := dk_167 255 229 (dk_at dksX7_names_1 9 rfl rfl)
theorem dX7_names_34 : decode cX7_names 34 = .ok (.iload_n 1, 1) := dk_27 (dk_at dksX7_names_1 12 rfl rfl)
theorem dX7_names_35 : decode cX7_names 35 = .ok (.ireturn, 1) := dk_172 (dk_at dksX7_names_1 13 rfl rfl)
theorem q161 : (Jvm.Cond.initialized "ThereAndBack$Expr") ∈ lw_all := lw_g (lw_at lw_m1 17 rfl) rfl
theorem q705 : (Jvm.Cond.instanceMethod ({ cls := "ThereAndBack$Expr", name := "<init>", desc := "()V" } : Jvm.MethodName)) ∈ lw_all := lw_g (lw_at lw_m3 81 rfl) rfl
theorem q706 : (Jvm.Cond.code ({ cls := "ThereAndBack$Expr", name := "<init>", desc := "()V" } : Jvm.MethodName) prog_8_method_1_code (1 : Nat) (Option.none : Option Jvm.ClassFile.FieldType)) ∈ lw_all := lw_g (lw_at lw_m3 82 rfl) rfl
theorem q707 : (Jvm.Cond.methodLink "ThereAndBack$Expr" (3 : Nat) ({ cls := "java/lang/Object", name := "<init>", desc := "()V" } : Jvm.MethodName)) ∈ lw_all := lw_g (lw_at lw_m3 83 rfl) rfl
theorem q867 : (Jvm.Cond.declares ({ cls := "ThereAndBack$Expr", name := "has", desc := "(I)Z" } : Jvm.MethodName)) ∈ lw_tbl := lw_at lw_m4 3 rfl
theorem q868 : (Jvm.Cond.sameMethod "ThereAndBack$Expr" "ThereAndBack$Expr" "has" "(I)Z") ∈ lw_all := lw_g (lw_at lw_m4 4 rfl) rfl
theorem q1466 : (Jvm.Cond.instanceMethod ({ cls := "ThereAndBack$Expr", name := "names", desc := "()I" } : Jvm.MethodName)) ∈ lw_all := lw_g (lw_at lw_m6 122 rfl) rfl
theorem q1467 : (Jvm.Cond.sameMethod "ThereAndBack$Expr" "ThereAndBack$Expr" "names" "()I") ∈ lw_all := lw_g (lw_at lw_m6 123 rfl) rfl
theorem q1477 : (Jvm.Cond.code ({ cls := "ThereAndBack$Expr", name := "names", desc := "()I" } : Jvm.MethodName) prog_8_method_5_code (3 : Nat) (Option.some Jvm.ClassFile.FieldType.int)) ∈ lw_all := lw_g (lw_at lw_m6 133 rfl) rfl
theorem q1478 : (Jvm.Cond.methodLink "ThereAndBack$Expr" (9 : Nat) ({ cls := "ThereAndBack$Expr", name := "has", desc := "(I)Z" } : Jvm.MethodName)) ∈ lw_all := lw_g (lw_at lw_m6 134 rfl) rfl
theorem q1559 : (Jvm.Cond.declares ({ cls := "ThereAndBack$Expr", name := "print", desc := "(LThereAndBack;)V" } : Jvm.MethodName)) ∈ lw_tbl := lw_at lw_m6 215 rfl
theorem q1560 : (Jvm.Cond.sameMethod "ThereAndBack$Expr" "ThereAndBack$Expr" "print" "(LThereAndBack;)V") ∈ lw_all := lw_g (lw_at lw_m6 216 rfl) rfl
theorem q1928 : (Jvm.Cond.declares ({ cls := "ThereAndBack$Expr", name := "eval", desc := "(LThereAndBack;)J" } : Jvm.MethodName)) ∈ lw_tbl := lw_at lw_m8 104 rfl
theorem q1929 : (Jvm.Cond.sameMethod "ThereAndBack$Expr" "ThereAndBack$Expr" "eval" "(LThereAndBack;)J") ∈ lw_all := lw_g (lw_at lw_m8 105 rfl) rfl
/-! ThereAndBack$Num -/
set_option maxRecDepth 100000
def RX8 : String := "ThereAndBack$Num"
def TX8 : u_T := fun k => match k with
  | _ => ("ThereAndBack$Num", "value", "I", true)
def tyX8 : Nat → FieldType := fun k => match k with
  | _ => .int
abbrev wsX80 : List Cond := u_ws RX8 TX8 1
theorem nmX8 : ∀ a, a < 1 → ∀ b, b < 1 → a ≠ b → (TX8 a).2.1 ≠ (TX8 b).2.1 := by decide +kernel
theorem tyX8_ok : ∀ k, k < 1 → parseFieldDescriptor (TX8 k).2.2.1 = some (tyX8 k) := by decide +kernel
abbrev cX8_init : ByteArray := prog_19_method_1_code
def yX8_init : MethodName := ⟨RX8, "<init>", "(I)V"⟩
def dkwX8_init_0 : List UInt8 := [42, 183, 0, 1, 42, 27, 181, 0, 7, 177]
abbrev dktX8_init_0 : List UInt8 := dkwX8_init_0 ++ []
theorem dksX8_init_0 : cX8_init.data.toList.drop 0 = dktX8_init_0 := by decide +kernel
theorem dX8_init_0 : decode cX8_init 0 = .ok (.aload_n 0, 1) := dk_42 (dk_at dksX8_init_0 0 rfl rfl)
theorem dX8_init_1 : decode cX8_init 1 = .ok (.invokespecial 1, 3) := dk_183 0 1 (dk_at dksX8_init_0 1 rfl rfl)
theorem dX8_init_4 : decode cX8_init 4 = .ok (.aload_n 0, 1) := dk_42 (dk_at dksX8_init_0 4 rfl rfl)
theorem dX8_init_5 : decode cX8_init 5 = .ok (.iload_n 1, 1) := dk_27 (dk_at dksX8_init_0 5 rfl rfl)
theorem dX8_init_6 : decode cX8_init 6 = .ok (.putfield 7, 3) := dk_181 0 7 (dk_at dksX8_init_0 6 rfl rfl)
theorem dX8_init_9 : decode cX8_init 9 = .ok (.return_, 1) := dk_177 (dk_at dksX8_init_0 9 rfl rfl)
abbrev cX8_has : ByteArray := prog_19_method_4_code
def yX8_has : MethodName := ⟨RX8, "has", "(I)Z"⟩
theorem dX8_has_0 : decode cX8_has 0 = .ok (.iconst 0, 1) := by decide +kernel
theorem dX8_has_1 : decode cX8_has 1 = .ok (.ireturn, 1) := by decide +kernel
abbrev cX8_print : ByteArray := prog_19_method_3_code
def yX8_print : MethodName := ⟨RX8, "print", "(LThereAndBack;)V"⟩
def dkwX8_print_0 : List UInt8 := [43, 42, 180, 0, 7, 182, 0, 13, 177]
abbrev dktX8_print_0 : List UInt8 := dkwX8_print_0 ++ []
theorem dksX8_print_0 : cX8_print.data.toList.drop 0 = dktX8_print_0 := by decide +kernel
theorem dX8_print_0 : decode cX8_print 0 = .ok (.aload_n 1, 1) := dk_43 (dk_at dksX8_print_0 0 rfl rfl)
theorem dX8_print_1 : decode cX8_print 1 = .ok (.aload_n 0, 1) := dk_42 (dk_at dksX8_print_0 1 rfl rfl)
theorem dX8_print_2 : decode cX8_print 2 = .ok (.getfield 7, 3) := dk_180 0 7 (dk_at dksX8_print_0 2 rfl rfl)
theorem dX8_print_5 : decode cX8_print 5 = .ok (.invokevirtual 13, 3) := dk_182 0 13 (dk_at dksX8_print_0 5 rfl rfl)
theorem dX8_print_8 : decode cX8_print 8 = .ok (.return_, 1) := dk_177 (dk_at dksX8_print_0 8 rfl rfl)
abbrev cX8_eval : ByteArray := prog_19_method_2_code
def yX8_eval : MethodName := ⟨RX8, "eval", "(LThereAndBack;)J"⟩
def dkwX8_eval_0 : List UInt8 := [42, 180, 0, 7, 133, 173]
abbrev dktX8_eval_0 : List UInt8 := dkwX8_eval_0 ++ []
theorem dksX8_eval_0 : cX8_eval.data.toList.drop 0 = dktX8_eval_0 := by decide +kernel
theorem dX8_eval_0 : decode cX8_eval 0 = .ok (.aload_n 0, 1) := dk_42 (dk_at dksX8_eval_0 0 rfl rfl)
theorem dX8_eval_1 : decode cX8_eval 1 = .ok (.getfield 7, 3) := dk_180 0 7 (dk_at dksX8_eval_0 1 rfl rfl)
theorem dX8_eval_4 : decode cX8_eval 4 = .ok (.i2l, 1) := dk_133 (dk_at dksX8_eval_0 4 rfl rfl)
theorem dX8_eval_5 : decode cX8_eval 5 = .ok (.lreturn, 1) := dk_173 (dk_at dksX8_eval_0 5 rfl rfl)
theorem q162 : (Jvm.Cond.initialized "ThereAndBack$Num") ∈ lw_all := lw_g (lw_at lw_m1 18 rfl) rfl
theorem q700 : (Jvm.Cond.instantiable "ThereAndBack$Num" (1 : Nat)) ∈ lw_all := lw_g (lw_at lw_m3 76 rfl) rfl
theorem q702 : (Jvm.Cond.instanceMethod ({ cls := "ThereAndBack$Num", name := "<init>", desc := "(I)V" } : Jvm.MethodName)) ∈ lw_all := lw_g (lw_at lw_m3 78 rfl) rfl
theorem q703 : (Jvm.Cond.code ({ cls := "ThereAndBack$Num", name := "<init>", desc := "(I)V" } : Jvm.MethodName) prog_19_method_1_code (2 : Nat) (Option.none : Option Jvm.ClassFile.FieldType)) ∈ lw_all := lw_g (lw_at lw_m3 79 rfl) rfl
theorem q704 : (Jvm.Cond.methodLinkNest "ThereAndBack$Num" (1 : Nat) ({ cls := "ThereAndBack$Expr", name := "<init>", desc := "()V" } : Jvm.MethodName) "ThereAndBack") ∈ lw_tbl := lw_at lw_m3 80 rfl
theorem q708 : (Jvm.Cond.fieldLink "ThereAndBack$Num" (7 : Nat) "ThereAndBack$Num" "value" "I") ∈ lw_all := lw_g (lw_at lw_m3 84 rfl) rfl
theorem q709 : (Jvm.Cond.laysFinal "ThereAndBack$Num" "ThereAndBack$Num" "value" "I") ∈ lw_all := lw_g (lw_at lw_m3 85 rfl) rfl
theorem q710 : (Jvm.Cond.soleField "ThereAndBack$Num" "value") ∈ lw_all := lw_g (lw_at lw_m3 86 rfl) rfl
theorem q711 : (Jvm.Cond.superclass "ThereAndBack$Num" "ThereAndBack$Expr") ∈ lw_all := lw_g (lw_at lw_m3 87 rfl) rfl
theorem q881 : (Jvm.Cond.instanceMethod ({ cls := "ThereAndBack$Num", name := "has", desc := "(I)Z" } : Jvm.MethodName)) ∈ lw_all := lw_g (lw_at lw_m4 17 rfl) rfl
theorem q882 : (Jvm.Cond.code ({ cls := "ThereAndBack$Num", name := "has", desc := "(I)Z" } : Jvm.MethodName) prog_19_method_4_code (2 : Nat) (Option.some Jvm.ClassFile.FieldType.boolean)) ∈ lw_all := lw_g (lw_at lw_m4 18 rfl) rfl
theorem q891 : (Jvm.Cond.selects "ThereAndBack$Num" ({ cls := "ThereAndBack$Expr", name := "has", desc := "(I)Z" } : Jvm.MethodName) ({ cls := "ThereAndBack$Num", name := "has", desc := "(I)Z" } : Jvm.MethodName)) ∈ lw_all := lw_g (lw_at lw_m4 27 rfl) rfl
theorem q1167 : (Jvm.Cond.selects "ThereAndBack$Num" ({ cls := "java/lang/Object", name := "getClass", desc := "()Ljava/lang/Class;" } : Jvm.MethodName) ({ cls := "java/lang/Object", name := "getClass", desc := "()Ljava/lang/Class;" } : Jvm.MethodName)) ∈ lw_all := lw_g (lw_at lw_m5 63 rfl) rfl
theorem q1472 : (Jvm.Cond.selects "ThereAndBack$Num" ({ cls := "ThereAndBack$Expr", name := "names", desc := "()I" } : Jvm.MethodName) ({ cls := "ThereAndBack$Expr", name := "names", desc := "()I" } : Jvm.MethodName)) ∈ lw_all := lw_g (lw_at lw_m6 128 rfl) rfl
theorem q1588 : (Jvm.Cond.instanceMethod ({ cls := "ThereAndBack$Num", name := "print", desc := "(LThereAndBack;)V" } : Jvm.MethodName)) ∈ lw_all := lw_g (lw_at lw_m7 4 rfl) rfl
theorem q1589 : (Jvm.Cond.code ({ cls := "ThereAndBack$Num", name := "print", desc := "(LThereAndBack;)V" } : Jvm.MethodName) prog_19_method_3_code (2 : Nat) (Option.none : Option Jvm.ClassFile.FieldType)) ∈ lw_all := lw_g (lw_at lw_m7 5 rfl) rfl
theorem q1590 : (Jvm.Cond.methodLinkNest "ThereAndBack$Num" (13 : Nat) ({ cls := "ThereAndBack", name := "printNumber", desc := "(I)V" } : Jvm.MethodName) "ThereAndBack") ∈ lw_tbl := lw_at lw_m7 6 rfl
theorem q1612 : (Jvm.Cond.selects "ThereAndBack$Num" ({ cls := "ThereAndBack$Expr", name := "print", desc := "(LThereAndBack;)V" } : Jvm.MethodName) ({ cls := "ThereAndBack$Num", name := "print", desc := "(LThereAndBack;)V" } : Jvm.MethodName)) ∈ lw_all := lw_g (lw_at lw_m7 28 rfl) rfl
theorem q1946 : (Jvm.Cond.instanceMethod ({ cls := "ThereAndBack$Num", name := "eval", desc := "(LThereAndBack;)J" } : Jvm.MethodName)) ∈ lw_all := lw_g (lw_at lw_m8 122 rfl) rfl
theorem q1947 : (Jvm.Cond.code ({ cls := "ThereAndBack$Num", name := "eval", desc := "(LThereAndBack;)J" } : Jvm.MethodName) prog_19_method_2_code (2 : Nat) (Option.some Jvm.ClassFile.FieldType.long)) ∈ lw_all := lw_g (lw_at lw_m8 123 rfl) rfl
theorem q1995 : (Jvm.Cond.selects "ThereAndBack$Num" ({ cls := "ThereAndBack$Expr", name := "eval", desc := "(LThereAndBack;)J" } : Jvm.MethodName) ({ cls := "ThereAndBack$Num", name := "eval", desc := "(LThereAndBack;)J" } : Jvm.MethodName)) ∈ lw_all := lw_g (lw_at lw_m8 171 rfl) rfl
theorem q3137 : (Jvm.Cond.castable "ThereAndBack$Num" "java/lang/Object") ∈ lw_tbl := lw_at lw_m13 113 rfl
theorem in_X8 : ∀ w ∈ wsX80, w ∈ lw_all := lw_in wsX80 [709] (by decide +kernel) (by decide +kernel)
/-! ThereAndBack$Name -/
set_option maxRecDepth 100000
def RX9 : String := "ThereAndBack$Name"
def TX9 : u_T := fun k => match k with
  | _ => ("ThereAndBack$Name", "name", "I", true)
def tyX9 : Nat → FieldType := fun k => match k with
  | _ => .int
abbrev wsX90 : List Cond := u_ws RX9 TX9 1
theorem nmX9 : ∀ a, a < 1 → ∀ b, b < 1 → a ≠ b → (TX9 a).2.1 ≠ (TX9 b).2.1 := by decide +kernel
theorem tyX9_ok : ∀ k, k < 1 → parseFieldDescriptor (TX9 k).2.2.1 = some (tyX9 k) := by decide +kernel
abbrev cX9_init : ByteArray := prog_17_method_1_code
def yX9_init : MethodName := ⟨RX9, "<init>", "(I)V"⟩
def dkwX9_init_0 : List UInt8 := [42, 183, 0, 1, 42, 27, 181, 0, 7, 177]
abbrev dktX9_init_0 : List UInt8 := dkwX9_init_0 ++ []
theorem dksX9_init_0 : cX9_init.data.toList.drop 0 = dktX9_init_0 := by decide +kernel
theorem dX9_init_0 : decode cX9_init 0 = .ok (.aload_n 0, 1) := dk_42 (dk_at dksX9_init_0 0 rfl rfl)
theorem dX9_init_1 : decode cX9_init 1 = .ok (.invokespecial 1, 3) := dk_183 0 1 (dk_at dksX9_init_0 1 rfl rfl)
theorem dX9_init_4 : decode cX9_init 4 = .ok (.aload_n 0, 1) := dk_42 (dk_at dksX9_init_0 4 rfl rfl)
theorem dX9_init_5 : decode cX9_init 5 = .ok (.iload_n 1, 1) := dk_27 (dk_at dksX9_init_0 5 rfl rfl)
theorem dX9_init_6 : decode cX9_init 6 = .ok (.putfield 7, 3) := dk_181 0 7 (dk_at dksX9_init_0 6 rfl rfl)
theorem dX9_init_9 : decode cX9_init 9 = .ok (.return_, 1) := dk_177 (dk_at dksX9_init_0 9 rfl rfl)
abbrev cX9_has : ByteArray := prog_17_method_4_code
def yX9_has : MethodName := ⟨RX9, "has", "(I)Z"⟩
def dkwX9_has_0 : List UInt8 := [27, 42, 180, 0, 7, 160, 0, 7, 4, 167, 0, 4, 3, 172]
abbrev dktX9_has_0 : List UInt8 := dkwX9_has_0 ++ []
theorem dksX9_has_0 : cX9_has.data.toList.drop 0 = dktX9_has_0 := by decide +kernel
theorem dX9_has_0 : decode cX9_has 0 = .ok (.iload_n 1, 1) := dk_27 (dk_at dksX9_has_0 0 rfl rfl)
theorem dX9_has_1 : decode cX9_has 1 = .ok (.aload_n 0, 1) := dk_42 (dk_at dksX9_has_0 1 rfl rfl)
theorem dX9_has_2 : decode cX9_has 2 = .ok (.getfield 7, 3) := dk_180 0 7 (dk_at dksX9_has_0 2 rfl rfl)
theorem dX9_has_5 : decode cX9_has 5 = .ok (.if_icmp .ne 7, 3) := dk_160 0 7 (dk_at dksX9_has_0 5 rfl rfl)
theorem dX9_has_8 : decode cX9_has 8 = .ok (.iconst 1, 1) := dk_4 (dk_at dksX9_has_0 8 rfl rfl)
theorem dX9_has_9 : decode cX9_has 9 = .ok (.goto 4, 3) := dk_167 0 4 (dk_at dksX9_has_0 9 rfl rfl)
theorem dX9_has_12 : decode cX9_has 12 = .ok (.iconst 0, 1) := dk_3 (dk_at dksX9_has_0 12 rfl rfl)
theorem dX9_has_13 : decode cX9_has 13 = .ok (.ireturn, 1) := dk_172 (dk_at dksX9_has_0 13 rfl rfl)
abbrev cX9_print : ByteArray := prog_17_method_3_code
def yX9_print : MethodName := ⟨RX9, "print", "(LThereAndBack;)V"⟩
def dkwX9_print_0 : List UInt8 := [43, 16, 97, 42, 180, 0, 7, 96, 182, 0, 19, 177]
abbrev dktX9_print_0 : List UInt8 := dkwX9_print_0 ++ []
theorem dksX9_print_0 : cX9_print.data.toList.drop 0 = dktX9_print_0 := by decide +kernel
theorem dX9_print_0 : decode cX9_print 0 = .ok (.aload_n 1, 1) := dk_43 (dk_at dksX9_print_0 0 rfl rfl)
theorem dX9_print_1 : decode cX9_print 1 = .ok (.bipush 97, 2) := dk_16 97 (dk_at dksX9_print_0 1 rfl rfl)
theorem dX9_print_3 : decode cX9_print 3 = .ok (.aload_n 0, 1) := dk_42 (dk_at dksX9_print_0 3 rfl rfl)
theorem dX9_print_4 : decode cX9_print 4 = .ok (.getfield 7, 3) := dk_180 0 7 (dk_at dksX9_print_0 4 rfl rfl)
theorem dX9_print_7 : decode cX9_print 7 = .ok (.iadd, 1) := dk_96 (dk_at dksX9_print_0 7 rfl rfl)
theorem dX9_print_8 : decode cX9_print 8 = .ok (.invokevirtual 19, 3) := dk_182 0 19 (dk_at dksX9_print_0 8 rfl rfl)
theorem dX9_print_11 : decode cX9_print 11 = .ok (.return_, 1) := dk_177 (dk_at dksX9_print_0 11 rfl rfl)
abbrev cX9_eval : ByteArray := prog_17_method_2_code
def yX9_eval : MethodName := ⟨RX9, "eval", "(LThereAndBack;)J"⟩
def dkwX9_eval_0 : List UInt8 := [43, 42, 182, 0, 13, 173]
abbrev dktX9_eval_0 : List UInt8 := dkwX9_eval_0 ++ []
theorem dksX9_eval_0 : cX9_eval.data.toList.drop 0 = dktX9_eval_0 := by decide +kernel
theorem dX9_eval_0 : decode cX9_eval 0 = .ok (.aload_n 1, 1) := dk_43 (dk_at dksX9_eval_0 0 rfl rfl)
theorem dX9_eval_1 : decode cX9_eval 1 = .ok (.aload_n 0, 1) := dk_42 (dk_at dksX9_eval_0 1 rfl rfl)
theorem dX9_eval_2 : decode cX9_eval 2 = .ok (.invokevirtual 13, 3) := dk_182 0 13 (dk_at dksX9_eval_0 2 rfl rfl)
theorem dX9_eval_5 : decode cX9_eval 5 = .ok (.lreturn, 1) := dk_173 (dk_at dksX9_eval_0 5 rfl rfl)
theorem q163 : (Jvm.Cond.initialized "ThereAndBack$Name") ∈ lw_all := lw_g (lw_at lw_m1 19 rfl) rfl
theorem q713 : (Jvm.Cond.instantiable "ThereAndBack$Name" (1 : Nat)) ∈ lw_all := lw_g (lw_at lw_m3 89 rfl) rfl
theorem q715 : (Jvm.Cond.instanceMethod ({ cls := "ThereAndBack$Name", name := "<init>", desc := "(I)V" } : Jvm.MethodName)) ∈ lw_all := lw_g (lw_at lw_m3 91 rfl) rfl
theorem q716 : (Jvm.Cond.code ({ cls := "ThereAndBack$Name", name := "<init>", desc := "(I)V" } : Jvm.MethodName) prog_17_method_1_code (2 : Nat) (Option.none : Option Jvm.ClassFile.FieldType)) ∈ lw_all := lw_g (lw_at lw_m3 92 rfl) rfl
theorem q717 : (Jvm.Cond.methodLinkNest "ThereAndBack$Name" (1 : Nat) ({ cls := "ThereAndBack$Expr", name := "<init>", desc := "()V" } : Jvm.MethodName) "ThereAndBack") ∈ lw_tbl := lw_at lw_m3 93 rfl
theorem q718 : (Jvm.Cond.fieldLink "ThereAndBack$Name" (7 : Nat) "ThereAndBack$Name" "name" "I") ∈ lw_all := lw_g (lw_at lw_m3 94 rfl) rfl
theorem q721 : (Jvm.Cond.laysFinal "ThereAndBack$Name" "ThereAndBack$Name" "name" "I") ∈ lw_all := lw_g (lw_at lw_m3 97 rfl) rfl
theorem q722 : (Jvm.Cond.soleField "ThereAndBack$Name" "name") ∈ lw_all := lw_g (lw_at lw_m3 98 rfl) rfl
theorem q723 : (Jvm.Cond.superclass "ThereAndBack$Name" "ThereAndBack$Expr") ∈ lw_all := lw_g (lw_at lw_m3 99 rfl) rfl
theorem q879 : (Jvm.Cond.instanceMethod ({ cls := "ThereAndBack$Name", name := "has", desc := "(I)Z" } : Jvm.MethodName)) ∈ lw_all := lw_g (lw_at lw_m4 15 rfl) rfl
theorem q880 : (Jvm.Cond.code ({ cls := "ThereAndBack$Name", name := "has", desc := "(I)Z" } : Jvm.MethodName) prog_17_method_4_code (2 : Nat) (Option.some Jvm.ClassFile.FieldType.boolean)) ∈ lw_all := lw_g (lw_at lw_m4 16 rfl) rfl
theorem q890 : (Jvm.Cond.selects "ThereAndBack$Name" ({ cls := "ThereAndBack$Expr", name := "has", desc := "(I)Z" } : Jvm.MethodName) ({ cls := "ThereAndBack$Name", name := "has", desc := "(I)Z" } : Jvm.MethodName)) ∈ lw_all := lw_g (lw_at lw_m4 26 rfl) rfl
theorem q1165 : (Jvm.Cond.selects "ThereAndBack$Name" ({ cls := "java/lang/Object", name := "getClass", desc := "()Ljava/lang/Class;" } : Jvm.MethodName) ({ cls := "java/lang/Object", name := "getClass", desc := "()Ljava/lang/Class;" } : Jvm.MethodName)) ∈ lw_all := lw_g (lw_at lw_m5 61 rfl) rfl
theorem q1471 : (Jvm.Cond.selects "ThereAndBack$Name" ({ cls := "ThereAndBack$Expr", name := "names", desc := "()I" } : Jvm.MethodName) ({ cls := "ThereAndBack$Expr", name := "names", desc := "()I" } : Jvm.MethodName)) ∈ lw_all := lw_g (lw_at lw_m6 127 rfl) rfl
theorem q1585 : (Jvm.Cond.instanceMethod ({ cls := "ThereAndBack$Name", name := "print", desc := "(LThereAndBack;)V" } : Jvm.MethodName)) ∈ lw_all := lw_g (lw_at lw_m7 1 rfl) rfl
theorem q1586 : (Jvm.Cond.code ({ cls := "ThereAndBack$Name", name := "print", desc := "(LThereAndBack;)V" } : Jvm.MethodName) prog_17_method_3_code (2 : Nat) (Option.none : Option Jvm.ClassFile.FieldType)) ∈ lw_all := lw_g (lw_at lw_m7 2 rfl) rfl
theorem q1587 : (Jvm.Cond.methodLinkNest "ThereAndBack$Name" (19 : Nat) ({ cls := "ThereAndBack", name := "printSign", desc := "(I)V" } : Jvm.MethodName) "ThereAndBack") ∈ lw_tbl := lw_at lw_m7 3 rfl
theorem q1611 : (Jvm.Cond.selects "ThereAndBack$Name" ({ cls := "ThereAndBack$Expr", name := "print", desc := "(LThereAndBack;)V" } : Jvm.MethodName) ({ cls := "ThereAndBack$Name", name := "print", desc := "(LThereAndBack;)V" } : Jvm.MethodName)) ∈ lw_all := lw_g (lw_at lw_m7 27 rfl) rfl
theorem q1940 : (Jvm.Cond.instanceMethod ({ cls := "ThereAndBack$Name", name := "eval", desc := "(LThereAndBack;)J" } : Jvm.MethodName)) ∈ lw_all := lw_g (lw_at lw_m8 116 rfl) rfl
theorem q1941 : (Jvm.Cond.code ({ cls := "ThereAndBack$Name", name := "eval", desc := "(LThereAndBack;)J" } : Jvm.MethodName) prog_17_method_2_code (2 : Nat) (Option.some Jvm.ClassFile.FieldType.long)) ∈ lw_all := lw_g (lw_at lw_m8 117 rfl) rfl
theorem q1942 : (Jvm.Cond.methodLinkNest "ThereAndBack$Name" (13 : Nat) ({ cls := "ThereAndBack", name := "readName", desc := "(LThereAndBack$Name;)J" } : Jvm.MethodName) "ThereAndBack") ∈ lw_tbl := lw_at lw_m8 118 rfl
theorem q1994 : (Jvm.Cond.selects "ThereAndBack$Name" ({ cls := "ThereAndBack$Expr", name := "eval", desc := "(LThereAndBack;)J" } : Jvm.MethodName) ({ cls := "ThereAndBack$Name", name := "eval", desc := "(LThereAndBack;)J" } : Jvm.MethodName)) ∈ lw_all := lw_g (lw_at lw_m8 170 rfl) rfl
theorem q3138 : (Jvm.Cond.castable "ThereAndBack$Name" "java/lang/Object") ∈ lw_tbl := lw_at lw_m13 114 rfl
theorem in_X9 : ∀ w ∈ wsX90, w ∈ lw_all := lw_in wsX90 [721] (by decide +kernel) (by decide +kernel)
/-! ThereAndBack$Item -/
set_option maxRecDepth 100000
def RX10 : String := "ThereAndBack$Item"
def TX10 : u_T := fun k => match k with
  | 0 => ("ThereAndBack$Item", "row", "I", true)
  | _ => ("ThereAndBack$Item", "index", "LThereAndBack$Expr;", true)
def tyX10 : Nat → FieldType := fun k => match k with
  | 0 => .int
  | _ => .object "ThereAndBack$Expr"
abbrev wsX100 : List Cond := u_ws RX10 TX10 2
theorem nmX10 : ∀ a, a < 2 → ∀ b, b < 2 → a ≠ b → (TX10 a).2.1 ≠ (TX10 b).2.1 := by decide +kernel
theorem tyX10_ok : ∀ k, k < 2 → parseFieldDescriptor (TX10 k).2.2.1 = some (tyX10 k) := by decide +kernel
abbrev cX10_init : ByteArray := prog_14_method_1_code
def yX10_init : MethodName := ⟨RX10, "<init>", "(ILThereAndBack$Expr;)V"⟩
def dkwX10_init_0 : List UInt8 := [42, 183, 0, 3, 42, 27, 181, 0, 9, 42, 44, 181, 0, 15, 177]
abbrev dktX10_init_0 : List UInt8 := dkwX10_init_0 ++ []
theorem dksX10_init_0 : cX10_init.data.toList.drop 0 = dktX10_init_0 := by decide +kernel
theorem dX10_init_0 : decode cX10_init 0 = .ok (.aload_n 0, 1) := dk_42 (dk_at dksX10_init_0 0 rfl rfl)
theorem dX10_init_1 : decode cX10_init 1 = .ok (.invokespecial 3, 3) := dk_183 0 3 (dk_at dksX10_init_0 1 rfl rfl)
theorem dX10_init_4 : decode cX10_init 4 = .ok (.aload_n 0, 1) := dk_42 (dk_at dksX10_init_0 4 rfl rfl)
theorem dX10_init_5 : decode cX10_init 5 = .ok (.iload_n 1, 1) := dk_27 (dk_at dksX10_init_0 5 rfl rfl)
theorem dX10_init_6 : decode cX10_init 6 = .ok (.putfield 9, 3) := dk_181 0 9 (dk_at dksX10_init_0 6 rfl rfl)
theorem dX10_init_9 : decode cX10_init 9 = .ok (.aload_n 0, 1) := dk_42 (dk_at dksX10_init_0 9 rfl rfl)
theorem dX10_init_10 : decode cX10_init 10 = .ok (.aload_n 2, 1) := dk_44 (dk_at dksX10_init_0 10 rfl rfl)
theorem dX10_init_11 : decode cX10_init 11 = .ok (.putfield 15, 3) := dk_181 0 15 (dk_at dksX10_init_0 11 rfl rfl)
theorem dX10_init_14 : decode cX10_init 14 = .ok (.return_, 1) := dk_177 (dk_at dksX10_init_0 14 rfl rfl)
abbrev cX10_has : ByteArray := prog_14_method_4_code
def yX10_has : MethodName := ⟨RX10, "has", "(I)Z"⟩
def dkwX10_has_1 : List UInt8 := [167, 0, 4, 3, 172]
abbrev dktX10_has_1 : List UInt8 := dkwX10_has_1 ++ []
def dkwX10_has_0 : List UInt8 := [27, 16, 26, 42, 180, 0, 9, 96, 159, 0, 14, 42, 180, 0, 15, 27, 182, 0, 41, 153, 0, 7, 4]
abbrev dktX10_has_0 : List UInt8 := dkwX10_has_0 ++ dktX10_has_1
theorem dksX10_has_0 : cX10_has.data.toList.drop 0 = dktX10_has_0 := by decide +kernel
theorem dksX10_has_1 : cX10_has.data.toList.drop 23 = dktX10_has_1 := dk_seg dksX10_has_0 23 rfl rfl
theorem dX10_has_0 : decode cX10_has 0 = .ok (.iload_n 1, 1) := dk_27 (dk_at dksX10_has_0 0 rfl rfl)
theorem dX10_has_1 : decode cX10_has 1 = .ok (.bipush 26, 2) := dk_16 26 (dk_at dksX10_has_0 1 rfl rfl)
theorem dX10_has_3 : decode cX10_has 3 = .ok (.aload_n 0, 1) := dk_42 (dk_at dksX10_has_0 3 rfl rfl)
theorem dX10_has_4 : decode cX10_has 4 = .ok (.getfield 9, 3) := dk_180 0 9 (dk_at dksX10_has_0 4 rfl rfl)
theorem dX10_has_7 : decode cX10_has 7 = .ok (.iadd, 1) := dk_96 (dk_at dksX10_has_0 7 rfl rfl)
theorem dX10_has_8 : decode cX10_has 8 = .ok (.if_icmp .eq 14, 3) := dk_159 0 14 (dk_at dksX10_has_0 8 rfl rfl)
theorem dX10_has_11 : decode cX10_has 11 = .ok (.aload_n 0, 1) := dk_42 (dk_at dksX10_has_0 11 rfl rfl)
theorem dX10_has_12 : decode cX10_has 12 = .ok (.getfield 15, 3) := dk_180 0 15 (dk_at dksX10_has_0 12 rfl rfl)
theorem dX10_has_15 : decode cX10_has 15 = .ok (.iload_n 1, 1) := dk_27 (dk_at dksX10_has_0 15 rfl rfl)
theorem dX10_has_16 : decode cX10_has 16 = .ok (.invokevirtual 41, 3) := dk_182 0 41 (dk_at dksX10_has_0 16 rfl rfl)
theorem dX10_has_19 : decode cX10_has 19 = .ok (.ifCond .eq 7, 3) := dk_153 0 7 (dk_at dksX10_has_0 19 rfl rfl)
theorem dX10_has_22 : decode cX10_has 22 = .ok (.iconst 1, 1) := dk_4 (dk_at dksX10_has_0 22 rfl rfl)
theorem dX10_has_23 : decode cX10_has 23 = .ok (.goto 4, 3) := dk_167 0 4 (dk_at dksX10_has_1 0 rfl rfl)
theorem dX10_has_26 : decode cX10_has 26 = .ok (.iconst 0, 1) := dk_3 (dk_at dksX10_has_1 3 rfl rfl)
theorem dX10_has_27 : decode cX10_has 27 = .ok (.ireturn, 1) := dk_172 (dk_at dksX10_has_1 4 rfl rfl)
abbrev cX10_print : ByteArray := prog_14_method_3_code
def yX10_print : MethodName := ⟨RX10, "print", "(LThereAndBack;)V"⟩
def dkwX10_print_1 : List UInt8 := [182, 0, 34, 43, 16, 93, 182, 0, 38, 177]
abbrev dktX10_print_1 : List UInt8 := dkwX10_print_1 ++ []
def dkwX10_print_0 : List UInt8 := [43, 16, 65, 42, 180, 0, 9, 96, 182, 0, 27, 43, 16, 91, 182, 0, 31, 42, 180, 0, 15, 43]
abbrev dktX10_print_0 : List UInt8 := dkwX10_print_0 ++ dktX10_print_1
theorem dksX10_print_0 : cX10_print.data.toList.drop 0 = dktX10_print_0 := by decide +kernel
theorem dksX10_print_1 : cX10_print.data.toList.drop 22 = dktX10_print_1 := dk_seg dksX10_print_0 22 rfl rfl
theorem dX10_print_0 : decode cX10_print 0 = .ok (.aload_n 1, 1) := dk_43 (dk_at dksX10_print_0 0 rfl rfl)
theorem dX10_print_1 : decode cX10_print 1 = .ok (.bipush 65, 2) := dk_16 65 (dk_at dksX10_print_0 1 rfl rfl)
theorem dX10_print_3 : decode cX10_print 3 = .ok (.aload_n 0, 1) := dk_42 (dk_at dksX10_print_0 3 rfl rfl)
theorem dX10_print_4 : decode cX10_print 4 = .ok (.getfield 9, 3) := dk_180 0 9 (dk_at dksX10_print_0 4 rfl rfl)
theorem dX10_print_7 : decode cX10_print 7 = .ok (.iadd, 1) := dk_96 (dk_at dksX10_print_0 7 rfl rfl)
theorem dX10_print_8 : decode cX10_print 8 = .ok (.invokevirtual 27, 3) := dk_182 0 27 (dk_at dksX10_print_0 8 rfl rfl)
theorem dX10_print_11 : decode cX10_print 11 = .ok (.aload_n 1, 1) := dk_43 (dk_at dksX10_print_0 11 rfl rfl)
theorem dX10_print_12 : decode cX10_print 12 = .ok (.bipush 91, 2) := dk_16 91 (dk_at dksX10_print_0 12 rfl rfl)
theorem dX10_print_14 : decode cX10_print 14 = .ok (.invokevirtual 31, 3) := dk_182 0 31 (dk_at dksX10_print_0 14 rfl rfl)
theorem dX10_print_17 : decode cX10_print 17 = .ok (.aload_n 0, 1) := dk_42 (dk_at dksX10_print_0 17 rfl rfl)
theorem dX10_print_18 : decode cX10_print 18 = .ok (.getfield 15, 3) := dk_180 0 15 (dk_at dksX10_print_0 18 rfl rfl)
theorem dX10_print_21 : decode cX10_print 21 = .ok (.aload_n 1, 1) := dk_43 (dk_at dksX10_print_0 21 rfl rfl)
theorem dX10_print_22 : decode cX10_print 22 = .ok (.invokevirtual 34, 3) := dk_182 0 34 (dk_at dksX10_print_1 0 rfl rfl)
theorem dX10_print_25 : decode cX10_print 25 = .ok (.aload_n 1, 1) := dk_43 (dk_at dksX10_print_1 3 rfl rfl)
theorem dX10_print_26 : decode cX10_print 26 = .ok (.bipush 93, 2) := dk_16 93 (dk_at dksX10_print_1 4 rfl rfl)
theorem dX10_print_28 : decode cX10_print 28 = .ok (.invokevirtual 38, 3) := dk_182 0 38 (dk_at dksX10_print_1 6 rfl rfl)
theorem dX10_print_31 : decode cX10_print 31 = .ok (.return_, 1) := dk_177 (dk_at dksX10_print_1 9 rfl rfl)
abbrev cX10_eval : ByteArray := prog_14_method_2_code
def yX10_eval : MethodName := ⟨RX10, "eval", "(LThereAndBack;)J"⟩
def dkwX10_eval_0 : List UInt8 := [43, 42, 180, 0, 9, 42, 180, 0, 15, 43, 182, 0, 19, 182, 0, 23, 173]
abbrev dktX10_eval_0 : List UInt8 := dkwX10_eval_0 ++ []
theorem dksX10_eval_0 : cX10_eval.data.toList.drop 0 = dktX10_eval_0 := by decide +kernel
theorem dX10_eval_0 : decode cX10_eval 0 = .ok (.aload_n 1, 1) := dk_43 (dk_at dksX10_eval_0 0 rfl rfl)
theorem dX10_eval_1 : decode cX10_eval 1 = .ok (.aload_n 0, 1) := dk_42 (dk_at dksX10_eval_0 1 rfl rfl)
theorem dX10_eval_2 : decode cX10_eval 2 = .ok (.getfield 9, 3) := dk_180 0 9 (dk_at dksX10_eval_0 2 rfl rfl)
theorem dX10_eval_5 : decode cX10_eval 5 = .ok (.aload_n 0, 1) := dk_42 (dk_at dksX10_eval_0 5 rfl rfl)
theorem dX10_eval_6 : decode cX10_eval 6 = .ok (.getfield 15, 3) := dk_180 0 15 (dk_at dksX10_eval_0 6 rfl rfl)
theorem dX10_eval_9 : decode cX10_eval 9 = .ok (.aload_n 1, 1) := dk_43 (dk_at dksX10_eval_0 9 rfl rfl)
theorem dX10_eval_10 : decode cX10_eval 10 = .ok (.invokevirtual 19, 3) := dk_182 0 19 (dk_at dksX10_eval_0 10 rfl rfl)
theorem dX10_eval_13 : decode cX10_eval 13 = .ok (.invokevirtual 23, 3) := dk_182 0 23 (dk_at dksX10_eval_0 13 rfl rfl)
theorem dX10_eval_16 : decode cX10_eval 16 = .ok (.lreturn, 1) := dk_173 (dk_at dksX10_eval_0 16 rfl rfl)
theorem q164 : (Jvm.Cond.initialized "ThereAndBack$Item") ∈ lw_all := lw_g (lw_at lw_m1 20 rfl) rfl
theorem q729 : (Jvm.Cond.instantiable "ThereAndBack$Item" (2 : Nat)) ∈ lw_all := lw_g (lw_at lw_m3 105 rfl) rfl
theorem q739 : (Jvm.Cond.instanceMethod ({ cls := "ThereAndBack$Item", name := "<init>", desc := "(ILThereAndBack$Expr;)V" } : Jvm.MethodName)) ∈ lw_all := lw_g (lw_at lw_m3 115 rfl) rfl
theorem q740 : (Jvm.Cond.code ({ cls := "ThereAndBack$Item", name := "<init>", desc := "(ILThereAndBack$Expr;)V" } : Jvm.MethodName) prog_14_method_1_code (3 : Nat) (Option.none : Option Jvm.ClassFile.FieldType)) ∈ lw_all := lw_g (lw_at lw_m3 116 rfl) rfl
theorem q741 : (Jvm.Cond.methodLinkNest "ThereAndBack$Item" (3 : Nat) ({ cls := "ThereAndBack$Expr", name := "<init>", desc := "()V" } : Jvm.MethodName) "ThereAndBack") ∈ lw_tbl := lw_at lw_m3 117 rfl
theorem q742 : (Jvm.Cond.fieldLink "ThereAndBack$Item" (9 : Nat) "ThereAndBack$Item" "row" "I") ∈ lw_all := lw_g (lw_at lw_m3 118 rfl) rfl
theorem q743 : (Jvm.Cond.fieldLink "ThereAndBack$Item" (15 : Nat) "ThereAndBack$Item" "index" "LThereAndBack$Expr;") ∈ lw_all := lw_g (lw_at lw_m3 119 rfl) rfl
theorem q744 : (Jvm.Cond.laysFinal "ThereAndBack$Item" "ThereAndBack$Item" "row" "I") ∈ lw_all := lw_g (lw_at lw_m3 120 rfl) rfl
theorem q745 : (Jvm.Cond.soleField "ThereAndBack$Item" "row") ∈ lw_all := lw_g (lw_at lw_m3 121 rfl) rfl
theorem q746 : (Jvm.Cond.laysFinal "ThereAndBack$Item" "ThereAndBack$Item" "index" "LThereAndBack$Expr;") ∈ lw_all := lw_g (lw_at lw_m3 122 rfl) rfl
theorem q747 : (Jvm.Cond.soleField "ThereAndBack$Item" "index") ∈ lw_all := lw_g (lw_at lw_m3 123 rfl) rfl
theorem q748 : (Jvm.Cond.superclass "ThereAndBack$Item" "ThereAndBack$Expr") ∈ lw_all := lw_g (lw_at lw_m3 124 rfl) rfl
theorem q873 : (Jvm.Cond.instanceMethod ({ cls := "ThereAndBack$Item", name := "has", desc := "(I)Z" } : Jvm.MethodName)) ∈ lw_all := lw_g (lw_at lw_m4 9 rfl) rfl
theorem q874 : (Jvm.Cond.code ({ cls := "ThereAndBack$Item", name := "has", desc := "(I)Z" } : Jvm.MethodName) prog_14_method_4_code (2 : Nat) (Option.some Jvm.ClassFile.FieldType.boolean)) ∈ lw_all := lw_g (lw_at lw_m4 10 rfl) rfl
theorem q875 : (Jvm.Cond.methodLink "ThereAndBack$Item" (41 : Nat) ({ cls := "ThereAndBack$Expr", name := "has", desc := "(I)Z" } : Jvm.MethodName)) ∈ lw_all := lw_g (lw_at lw_m4 11 rfl) rfl
theorem q888 : (Jvm.Cond.selects "ThereAndBack$Item" ({ cls := "ThereAndBack$Expr", name := "has", desc := "(I)Z" } : Jvm.MethodName) ({ cls := "ThereAndBack$Item", name := "has", desc := "(I)Z" } : Jvm.MethodName)) ∈ lw_all := lw_g (lw_at lw_m4 24 rfl) rfl
theorem q1162 : (Jvm.Cond.selects "ThereAndBack$Item" ({ cls := "java/lang/Object", name := "getClass", desc := "()Ljava/lang/Class;" } : Jvm.MethodName) ({ cls := "java/lang/Object", name := "getClass", desc := "()Ljava/lang/Class;" } : Jvm.MethodName)) ∈ lw_all := lw_g (lw_at lw_m5 58 rfl) rfl
theorem q1469 : (Jvm.Cond.selects "ThereAndBack$Item" ({ cls := "ThereAndBack$Expr", name := "names", desc := "()I" } : Jvm.MethodName) ({ cls := "ThereAndBack$Expr", name := "names", desc := "()I" } : Jvm.MethodName)) ∈ lw_all := lw_g (lw_at lw_m6 125 rfl) rfl
theorem q1573 : (Jvm.Cond.instanceMethod ({ cls := "ThereAndBack$Item", name := "print", desc := "(LThereAndBack;)V" } : Jvm.MethodName)) ∈ lw_all := lw_g (lw_at lw_m6 229 rfl) rfl
theorem q1574 : (Jvm.Cond.code ({ cls := "ThereAndBack$Item", name := "print", desc := "(LThereAndBack;)V" } : Jvm.MethodName) prog_14_method_3_code (2 : Nat) (Option.none : Option Jvm.ClassFile.FieldType)) ∈ lw_all := lw_g (lw_at lw_m6 230 rfl) rfl
theorem q1575 : (Jvm.Cond.methodLinkNest "ThereAndBack$Item" (27 : Nat) ({ cls := "ThereAndBack", name := "printSign", desc := "(I)V" } : Jvm.MethodName) "ThereAndBack") ∈ lw_tbl := lw_at lw_m6 231 rfl
theorem q1576 : (Jvm.Cond.methodLinkNest "ThereAndBack$Item" (31 : Nat) ({ cls := "ThereAndBack", name := "printJoined", desc := "(I)V" } : Jvm.MethodName) "ThereAndBack") ∈ lw_tbl := lw_at lw_m6 232 rfl
theorem q1580 : (Jvm.Cond.methodLink "ThereAndBack$Item" (34 : Nat) ({ cls := "ThereAndBack$Expr", name := "print", desc := "(LThereAndBack;)V" } : Jvm.MethodName)) ∈ lw_all := lw_g (lw_at lw_m6 236 rfl) rfl
theorem q1606 : (Jvm.Cond.methodLinkNest "ThereAndBack$Item" (38 : Nat) ({ cls := "ThereAndBack", name := "printBehind", desc := "(I)V" } : Jvm.MethodName) "ThereAndBack") ∈ lw_tbl := lw_at lw_m7 22 rfl
theorem q1609 : (Jvm.Cond.selects "ThereAndBack$Item" ({ cls := "ThereAndBack$Expr", name := "print", desc := "(LThereAndBack;)V" } : Jvm.MethodName) ({ cls := "ThereAndBack$Item", name := "print", desc := "(LThereAndBack;)V" } : Jvm.MethodName)) ∈ lw_all := lw_g (lw_at lw_m7 25 rfl) rfl
theorem q1934 : (Jvm.Cond.instanceMethod ({ cls := "ThereAndBack$Item", name := "eval", desc := "(LThereAndBack;)J" } : Jvm.MethodName)) ∈ lw_all := lw_g (lw_at lw_m8 110 rfl) rfl
theorem q1935 : (Jvm.Cond.code ({ cls := "ThereAndBack$Item", name := "eval", desc := "(LThereAndBack;)J" } : Jvm.MethodName) prog_14_method_2_code (2 : Nat) (Option.some Jvm.ClassFile.FieldType.long)) ∈ lw_all := lw_g (lw_at lw_m8 111 rfl) rfl
theorem q1936 : (Jvm.Cond.methodLink "ThereAndBack$Item" (19 : Nat) ({ cls := "ThereAndBack$Expr", name := "eval", desc := "(LThereAndBack;)J" } : Jvm.MethodName)) ∈ lw_all := lw_g (lw_at lw_m8 112 rfl) rfl
theorem q1966 : (Jvm.Cond.methodLinkNest "ThereAndBack$Item" (23 : Nat) ({ cls := "ThereAndBack", name := "readItem", desc := "(IJ)J" } : Jvm.MethodName) "ThereAndBack") ∈ lw_tbl := lw_at lw_m8 142 rfl
theorem q1992 : (Jvm.Cond.selects "ThereAndBack$Item" ({ cls := "ThereAndBack$Expr", name := "eval", desc := "(LThereAndBack;)J" } : Jvm.MethodName) ({ cls := "ThereAndBack$Item", name := "eval", desc := "(LThereAndBack;)J" } : Jvm.MethodName)) ∈ lw_all := lw_g (lw_at lw_m8 168 rfl) rfl
theorem q3139 : (Jvm.Cond.castable "ThereAndBack$Item" "java/lang/Object") ∈ lw_tbl := lw_at lw_m13 115 rfl
theorem in_X10 : ∀ w ∈ wsX100, w ∈ lw_all := lw_in wsX100 [744, 746] (by decide +kernel) (by decide +kernel)
/-! ThereAndBack$Size -/
set_option maxRecDepth 100000
def RX11 : String := "ThereAndBack$Size"
def TX11 : u_T := fun k => match k with
  | _ => ("ThereAndBack$Size", "row", "I", true)
def tyX11 : Nat → FieldType := fun k => match k with
  | _ => .int
abbrev wsX110 : List Cond := u_ws RX11 TX11 1
theorem nmX11 : ∀ a, a < 1 → ∀ b, b < 1 → a ≠ b → (TX11 a).2.1 ≠ (TX11 b).2.1 := by decide +kernel
theorem tyX11_ok : ∀ k, k < 1 → parseFieldDescriptor (TX11 k).2.2.1 = some (tyX11 k) := by decide +kernel
abbrev cX11_init : ByteArray := prog_30_method_1_code
def yX11_init : MethodName := ⟨RX11, "<init>", "(I)V"⟩
def dkwX11_init_0 : List UInt8 := [42, 183, 0, 3, 42, 27, 181, 0, 9, 177]
abbrev dktX11_init_0 : List UInt8 := dkwX11_init_0 ++ []
theorem dksX11_init_0 : cX11_init.data.toList.drop 0 = dktX11_init_0 := by decide +kernel
theorem dX11_init_0 : decode cX11_init 0 = .ok (.aload_n 0, 1) := dk_42 (dk_at dksX11_init_0 0 rfl rfl)
theorem dX11_init_1 : decode cX11_init 1 = .ok (.invokespecial 3, 3) := dk_183 0 3 (dk_at dksX11_init_0 1 rfl rfl)
theorem dX11_init_4 : decode cX11_init 4 = .ok (.aload_n 0, 1) := dk_42 (dk_at dksX11_init_0 4 rfl rfl)
theorem dX11_init_5 : decode cX11_init 5 = .ok (.iload_n 1, 1) := dk_27 (dk_at dksX11_init_0 5 rfl rfl)
theorem dX11_init_6 : decode cX11_init 6 = .ok (.putfield 9, 3) := dk_181 0 9 (dk_at dksX11_init_0 6 rfl rfl)
theorem dX11_init_9 : decode cX11_init 9 = .ok (.return_, 1) := dk_177 (dk_at dksX11_init_0 9 rfl rfl)
abbrev cX11_has : ByteArray := prog_30_method_4_code
def yX11_has : MethodName := ⟨RX11, "has", "(I)Z"⟩
def dkwX11_has_0 : List UInt8 := [27, 16, 26, 42, 180, 0, 9, 96, 160, 0, 7, 4, 167, 0, 4, 3, 172]
abbrev dktX11_has_0 : List UInt8 := dkwX11_has_0 ++ []
theorem dksX11_has_0 : cX11_has.data.toList.drop 0 = dktX11_has_0 := by decide +kernel
theorem dX11_has_0 : decode cX11_has 0 = .ok (.iload_n 1, 1) := dk_27 (dk_at dksX11_has_0 0 rfl rfl)
theorem dX11_has_1 : decode cX11_has 1 = .ok (.bipush 26, 2) := dk_16 26 (dk_at dksX11_has_0 1 rfl rfl)
theorem dX11_has_3 : decode cX11_has 3 = .ok (.aload_n 0, 1) := dk_42 (dk_at dksX11_has_0 3 rfl rfl)
theorem dX11_has_4 : decode cX11_has 4 = .ok (.getfield 9, 3) := dk_180 0 9 (dk_at dksX11_has_0 4 rfl rfl)
theorem dX11_has_7 : decode cX11_has 7 = .ok (.iadd, 1) := dk_96 (dk_at dksX11_has_0 7 rfl rfl)
theorem dX11_has_8 : decode cX11_has 8 = .ok (.if_icmp .ne 7, 3) := dk_160 0 7 (dk_at dksX11_has_0 8 rfl rfl)
theorem dX11_has_11 : decode cX11_has 11 = .ok (.iconst 1, 1) := dk_4 (dk_at dksX11_has_0 11 rfl rfl)
theorem dX11_has_12 : decode cX11_has 12 = .ok (.goto 4, 3) := dk_167 0 4 (dk_at dksX11_has_0 12 rfl rfl)
theorem dX11_has_15 : decode cX11_has 15 = .ok (.iconst 0, 1) := dk_3 (dk_at dksX11_has_0 15 rfl rfl)
theorem dX11_has_16 : decode cX11_has 16 = .ok (.ireturn, 1) := dk_172 (dk_at dksX11_has_0 16 rfl rfl)
abbrev cX11_print : ByteArray := prog_30_method_3_code
def yX11_print : MethodName := ⟨RX11, "print", "(LThereAndBack;)V"⟩
def dkwX11_print_0 : List UInt8 := [43, 16, 35, 182, 0, 25, 43, 16, 65, 42, 180, 0, 9, 96, 182, 0, 29, 177]
abbrev dktX11_print_0 : List UInt8 := dkwX11_print_0 ++ []
theorem dksX11_print_0 : cX11_print.data.toList.drop 0 = dktX11_print_0 := by decide +kernel
theorem dX11_print_0 : decode cX11_print 0 = .ok (.aload_n 1, 1) := dk_43 (dk_at dksX11_print_0 0 rfl rfl)
theorem dX11_print_1 : decode cX11_print 1 = .ok (.bipush 35, 2) := dk_16 35 (dk_at dksX11_print_0 1 rfl rfl)
theorem dX11_print_3 : decode cX11_print 3 = .ok (.invokevirtual 25, 3) := dk_182 0 25 (dk_at dksX11_print_0 3 rfl rfl)
theorem dX11_print_6 : decode cX11_print 6 = .ok (.aload_n 1, 1) := dk_43 (dk_at dksX11_print_0 6 rfl rfl)
theorem dX11_print_7 : decode cX11_print 7 = .ok (.bipush 65, 2) := dk_16 65 (dk_at dksX11_print_0 7 rfl rfl)
theorem dX11_print_9 : decode cX11_print 9 = .ok (.aload_n 0, 1) := dk_42 (dk_at dksX11_print_0 9 rfl rfl)
theorem dX11_print_10 : decode cX11_print 10 = .ok (.getfield 9, 3) := dk_180 0 9 (dk_at dksX11_print_0 10 rfl rfl)
theorem dX11_print_13 : decode cX11_print 13 = .ok (.iadd, 1) := dk_96 (dk_at dksX11_print_0 13 rfl rfl)
theorem dX11_print_14 : decode cX11_print 14 = .ok (.invokevirtual 29, 3) := dk_182 0 29 (dk_at dksX11_print_0 14 rfl rfl)
theorem dX11_print_17 : decode cX11_print 17 = .ok (.return_, 1) := dk_177 (dk_at dksX11_print_0 17 rfl rfl)
abbrev cX11_eval : ByteArray := prog_30_method_2_code
def yX11_eval : MethodName := ⟨RX11, "eval", "(LThereAndBack;)J"⟩
def dkwX11_eval_0 : List UInt8 := [43, 42, 180, 0, 9, 182, 0, 15, 182, 0, 19, 133, 173]
abbrev dktX11_eval_0 : List UInt8 := dkwX11_eval_0 ++ []
theorem dksX11_eval_0 : cX11_eval.data.toList.drop 0 = dktX11_eval_0 := by decide +kernel
theorem dX11_eval_0 : decode cX11_eval 0 = .ok (.aload_n 1, 1) := dk_43 (dk_at dksX11_eval_0 0 rfl rfl)
theorem dX11_eval_1 : decode cX11_eval 1 = .ok (.aload_n 0, 1) := dk_42 (dk_at dksX11_eval_0 1 rfl rfl)
theorem dX11_eval_2 : decode cX11_eval 2 = .ok (.getfield 9, 3) := dk_180 0 9 (dk_at dksX11_eval_0 2 rfl rfl)
theorem dX11_eval_5 : decode cX11_eval 5 = .ok (.invokevirtual 15, 3) := dk_182 0 15 (dk_at dksX11_eval_0 5 rfl rfl)
theorem dX11_eval_8 : decode cX11_eval 8 = .ok (.invokevirtual 19, 3) := dk_182 0 19 (dk_at dksX11_eval_0 8 rfl rfl)
theorem dX11_eval_11 : decode cX11_eval 11 = .ok (.i2l, 1) := dk_133 (dk_at dksX11_eval_0 11 rfl rfl)
theorem dX11_eval_12 : decode cX11_eval 12 = .ok (.lreturn, 1) := dk_173 (dk_at dksX11_eval_0 12 rfl rfl)
theorem q165 : (Jvm.Cond.initialized "ThereAndBack$Size") ∈ lw_all := lw_g (lw_at lw_m1 21 rfl) rfl
theorem q750 : (Jvm.Cond.instantiable "ThereAndBack$Size" (1 : Nat)) ∈ lw_all := lw_g (lw_at lw_m3 126 rfl) rfl
theorem q752 : (Jvm.Cond.instanceMethod ({ cls := "ThereAndBack$Size", name := "<init>", desc := "(I)V" } : Jvm.MethodName)) ∈ lw_all := lw_g (lw_at lw_m3 128 rfl) rfl
theorem q753 : (Jvm.Cond.code ({ cls := "ThereAndBack$Size", name := "<init>", desc := "(I)V" } : Jvm.MethodName) prog_30_method_1_code (2 : Nat) (Option.none : Option Jvm.ClassFile.FieldType)) ∈ lw_all := lw_g (lw_at lw_m3 129 rfl) rfl
theorem q754 : (Jvm.Cond.methodLinkNest "ThereAndBack$Size" (3 : Nat) ({ cls := "ThereAndBack$Expr", name := "<init>", desc := "()V" } : Jvm.MethodName) "ThereAndBack") ∈ lw_tbl := lw_at lw_m3 130 rfl
theorem q755 : (Jvm.Cond.fieldLink "ThereAndBack$Size" (9 : Nat) "ThereAndBack$Size" "row" "I") ∈ lw_all := lw_g (lw_at lw_m3 131 rfl) rfl
theorem q756 : (Jvm.Cond.laysFinal "ThereAndBack$Size" "ThereAndBack$Size" "row" "I") ∈ lw_all := lw_g (lw_at lw_m3 132 rfl) rfl
theorem q757 : (Jvm.Cond.soleField "ThereAndBack$Size" "row") ∈ lw_all := lw_g (lw_at lw_m3 133 rfl) rfl
theorem q758 : (Jvm.Cond.superclass "ThereAndBack$Size" "ThereAndBack$Expr") ∈ lw_all := lw_g (lw_at lw_m3 134 rfl) rfl
theorem q886 : (Jvm.Cond.instanceMethod ({ cls := "ThereAndBack$Size", name := "has", desc := "(I)Z" } : Jvm.MethodName)) ∈ lw_all := lw_g (lw_at lw_m4 22 rfl) rfl
theorem q887 : (Jvm.Cond.code ({ cls := "ThereAndBack$Size", name := "has", desc := "(I)Z" } : Jvm.MethodName) prog_30_method_4_code (2 : Nat) (Option.some Jvm.ClassFile.FieldType.boolean)) ∈ lw_all := lw_g (lw_at lw_m4 23 rfl) rfl
theorem q894 : (Jvm.Cond.selects "ThereAndBack$Size" ({ cls := "ThereAndBack$Expr", name := "has", desc := "(I)Z" } : Jvm.MethodName) ({ cls := "ThereAndBack$Size", name := "has", desc := "(I)Z" } : Jvm.MethodName)) ∈ lw_all := lw_g (lw_at lw_m4 30 rfl) rfl
theorem q1176 : (Jvm.Cond.selects "ThereAndBack$Size" ({ cls := "java/lang/Object", name := "getClass", desc := "()Ljava/lang/Class;" } : Jvm.MethodName) ({ cls := "java/lang/Object", name := "getClass", desc := "()Ljava/lang/Class;" } : Jvm.MethodName)) ∈ lw_all := lw_g (lw_at lw_m5 72 rfl) rfl
theorem q1475 : (Jvm.Cond.selects "ThereAndBack$Size" ({ cls := "ThereAndBack$Expr", name := "names", desc := "()I" } : Jvm.MethodName) ({ cls := "ThereAndBack$Expr", name := "names", desc := "()I" } : Jvm.MethodName)) ∈ lw_all := lw_g (lw_at lw_m6 131 rfl) rfl
theorem q1598 : (Jvm.Cond.instanceMethod ({ cls := "ThereAndBack$Size", name := "print", desc := "(LThereAndBack;)V" } : Jvm.MethodName)) ∈ lw_all := lw_g (lw_at lw_m7 14 rfl) rfl
theorem q1599 : (Jvm.Cond.code ({ cls := "ThereAndBack$Size", name := "print", desc := "(LThereAndBack;)V" } : Jvm.MethodName) prog_30_method_3_code (2 : Nat) (Option.none : Option Jvm.ClassFile.FieldType)) ∈ lw_all := lw_g (lw_at lw_m7 15 rfl) rfl
theorem q1600 : (Jvm.Cond.methodLinkNest "ThereAndBack$Size" (25 : Nat) ({ cls := "ThereAndBack", name := "printOpen", desc := "(I)V" } : Jvm.MethodName) "ThereAndBack") ∈ lw_tbl := lw_at lw_m7 16 rfl
theorem q1601 : (Jvm.Cond.methodLinkNest "ThereAndBack$Size" (29 : Nat) ({ cls := "ThereAndBack", name := "printSign", desc := "(I)V" } : Jvm.MethodName) "ThereAndBack") ∈ lw_tbl := lw_at lw_m7 17 rfl
theorem q1615 : (Jvm.Cond.selects "ThereAndBack$Size" ({ cls := "ThereAndBack$Expr", name := "print", desc := "(LThereAndBack;)V" } : Jvm.MethodName) ({ cls := "ThereAndBack$Size", name := "print", desc := "(LThereAndBack;)V" } : Jvm.MethodName)) ∈ lw_all := lw_g (lw_at lw_m7 31 rfl) rfl
theorem q1951 : (Jvm.Cond.instanceMethod ({ cls := "ThereAndBack$Size", name := "eval", desc := "(LThereAndBack;)J" } : Jvm.MethodName)) ∈ lw_all := lw_g (lw_at lw_m8 127 rfl) rfl
theorem q1952 : (Jvm.Cond.code ({ cls := "ThereAndBack$Size", name := "eval", desc := "(LThereAndBack;)J" } : Jvm.MethodName) prog_30_method_2_code (2 : Nat) (Option.some Jvm.ClassFile.FieldType.long)) ∈ lw_all := lw_g (lw_at lw_m8 128 rfl) rfl
theorem q1953 : (Jvm.Cond.methodLinkNest "ThereAndBack$Size" (15 : Nat) ({ cls := "ThereAndBack", name := "rowOf", desc := "(I)LThereAndBack$Holder;" } : Jvm.MethodName) "ThereAndBack") ∈ lw_tbl := lw_at lw_m8 129 rfl
theorem q1957 : (Jvm.Cond.methodLink "ThereAndBack$Size" (19 : Nat) ({ cls := "ThereAndBack$Holder", name := "size", desc := "()I" } : Jvm.MethodName)) ∈ lw_all := lw_g (lw_at lw_m8 133 rfl) rfl
theorem q1998 : (Jvm.Cond.selects "ThereAndBack$Size" ({ cls := "ThereAndBack$Expr", name := "eval", desc := "(LThereAndBack;)J" } : Jvm.MethodName) ({ cls := "ThereAndBack$Size", name := "eval", desc := "(LThereAndBack;)J" } : Jvm.MethodName)) ∈ lw_all := lw_g (lw_at lw_m8 174 rfl) rfl
theorem q3140 : (Jvm.Cond.castable "ThereAndBack$Size" "java/lang/Object") ∈ lw_tbl := lw_at lw_m13 116 rfl
theorem in_X11 : ∀ w ∈ wsX110, w ∈ lw_all := lw_in wsX110 [756] (by decide +kernel) (by decide +kernel)
/-! ThereAndBack$Minus -/
set_option maxRecDepth 100000
def RX12 : String := "ThereAndBack$Minus"
def TX12 : u_T := fun k => match k with
  | _ => ("ThereAndBack$Minus", "of", "LThereAndBack$Expr;", true)
def tyX12 : Nat → FieldType := fun k => match k with
  | _ => .object "ThereAndBack$Expr"
abbrev wsX120 : List Cond := u_ws RX12 TX12 1
theorem nmX12 : ∀ a, a < 1 → ∀ b, b < 1 → a ≠ b → (TX12 a).2.1 ≠ (TX12 b).2.1 := by decide +kernel
theorem tyX12_ok : ∀ k, k < 1 → parseFieldDescriptor (TX12 k).2.2.1 = some (tyX12 k) := by decide +kernel
abbrev cX12_init : ByteArray := prog_16_method_1_code
def yX12_init : MethodName := ⟨RX12, "<init>", "(LThereAndBack$Expr;)V"⟩
def dkwX12_init_0 : List UInt8 := [42, 183, 0, 1, 42, 43, 181, 0, 7, 177]
abbrev dktX12_init_0 : List UInt8 := dkwX12_init_0 ++ []
theorem dksX12_init_0 : cX12_init.data.toList.drop 0 = dktX12_init_0 := by decide +kernel
theorem dX12_init_0 : decode cX12_init 0 = .ok (.aload_n 0, 1) := dk_42 (dk_at dksX12_init_0 0 rfl rfl)
theorem dX12_init_1 : decode cX12_init 1 = .ok (.invokespecial 1, 3) := dk_183 0 1 (dk_at dksX12_init_0 1 rfl rfl)
theorem dX12_init_4 : decode cX12_init 4 = .ok (.aload_n 0, 1) := dk_42 (dk_at dksX12_init_0 4 rfl rfl)
theorem dX12_init_5 : decode cX12_init 5 = .ok (.aload_n 1, 1) := dk_43 (dk_at dksX12_init_0 5 rfl rfl)
theorem dX12_init_6 : decode cX12_init 6 = .ok (.putfield 7, 3) := dk_181 0 7 (dk_at dksX12_init_0 6 rfl rfl)
theorem dX12_init_9 : decode cX12_init 9 = .ok (.return_, 1) := dk_177 (dk_at dksX12_init_0 9 rfl rfl)
abbrev cX12_has : ByteArray := prog_16_method_4_code
def yX12_has : MethodName := ⟨RX12, "has", "(I)Z"⟩
def dkwX12_has_0 : List UInt8 := [42, 180, 0, 7, 27, 182, 0, 27, 172]
abbrev dktX12_has_0 : List UInt8 := dkwX12_has_0 ++ []
theorem dksX12_has_0 : cX12_has.data.toList.drop 0 = dktX12_has_0 := by decide +kernel
theorem dX12_has_0 : decode cX12_has 0 = .ok (.aload_n 0, 1) := dk_42 (dk_at dksX12_has_0 0 rfl rfl)
theorem dX12_has_1 : decode cX12_has 1 = .ok (.getfield 7, 3) := dk_180 0 7 (dk_at dksX12_has_0 1 rfl rfl)
theorem dX12_has_4 : decode cX12_has 4 = .ok (.iload_n 1, 1) := dk_27 (dk_at dksX12_has_0 4 rfl rfl)
theorem dX12_has_5 : decode cX12_has 5 = .ok (.invokevirtual 27, 3) := dk_182 0 27 (dk_at dksX12_has_0 5 rfl rfl)
theorem dX12_has_8 : decode cX12_has 8 = .ok (.ireturn, 1) := dk_172 (dk_at dksX12_has_0 8 rfl rfl)
abbrev cX12_print : ByteArray := prog_16_method_3_code
def yX12_print : MethodName := ⟨RX12, "print", "(LThereAndBack;)V"⟩
def dkwX12_print_0 : List UInt8 := [43, 16, 45, 182, 0, 17, 42, 180, 0, 7, 43, 182, 0, 23, 177]
abbrev dktX12_print_0 : List UInt8 := dkwX12_print_0 ++ []
theorem dksX12_print_0 : cX12_print.data.toList.drop 0 = dktX12_print_0 := by decide +kernel
theorem dX12_print_0 : decode cX12_print 0 = .ok (.aload_n 1, 1) := dk_43 (dk_at dksX12_print_0 0 rfl rfl)
theorem dX12_print_1 : decode cX12_print 1 = .ok (.bipush 45, 2) := dk_16 45 (dk_at dksX12_print_0 1 rfl rfl)
theorem dX12_print_3 : decode cX12_print 3 = .ok (.invokevirtual 17, 3) := dk_182 0 17 (dk_at dksX12_print_0 3 rfl rfl)
theorem dX12_print_6 : decode cX12_print 6 = .ok (.aload_n 0, 1) := dk_42 (dk_at dksX12_print_0 6 rfl rfl)
theorem dX12_print_7 : decode cX12_print 7 = .ok (.getfield 7, 3) := dk_180 0 7 (dk_at dksX12_print_0 7 rfl rfl)
theorem dX12_print_10 : decode cX12_print 10 = .ok (.aload_n 1, 1) := dk_43 (dk_at dksX12_print_0 10 rfl rfl)
theorem dX12_print_11 : decode cX12_print 11 = .ok (.invokevirtual 23, 3) := dk_182 0 23 (dk_at dksX12_print_0 11 rfl rfl)
theorem dX12_print_14 : decode cX12_print 14 = .ok (.return_, 1) := dk_177 (dk_at dksX12_print_0 14 rfl rfl)
abbrev cX12_eval : ByteArray := prog_16_method_2_code
def yX12_eval : MethodName := ⟨RX12, "eval", "(LThereAndBack;)J"⟩
def dkwX12_eval_0 : List UInt8 := [42, 180, 0, 7, 43, 182, 0, 13, 117, 173]
abbrev dktX12_eval_0 : List UInt8 := dkwX12_eval_0 ++ []
theorem dksX12_eval_0 : cX12_eval.data.toList.drop 0 = dktX12_eval_0 := by decide +kernel
theorem dX12_eval_0 : decode cX12_eval 0 = .ok (.aload_n 0, 1) := dk_42 (dk_at dksX12_eval_0 0 rfl rfl)
theorem dX12_eval_1 : decode cX12_eval 1 = .ok (.getfield 7, 3) := dk_180 0 7 (dk_at dksX12_eval_0 1 rfl rfl)
theorem dX12_eval_4 : decode cX12_eval 4 = .ok (.aload_n 1, 1) := dk_43 (dk_at dksX12_eval_0 4 rfl rfl)
theorem dX12_eval_5 : decode cX12_eval 5 = .ok (.invokevirtual 13, 3) := dk_182 0 13 (dk_at dksX12_eval_0 5 rfl rfl)
theorem dX12_eval_8 : decode cX12_eval 8 = .ok (.lneg, 1) := dk_117 (dk_at dksX12_eval_0 8 rfl rfl)
theorem dX12_eval_9 : decode cX12_eval 9 = .ok (.lreturn, 1) := dk_173 (dk_at dksX12_eval_0 9 rfl rfl)
theorem q166 : (Jvm.Cond.initialized "ThereAndBack$Minus") ∈ lw_all := lw_g (lw_at lw_m1 22 rfl) rfl
theorem q760 : (Jvm.Cond.instantiable "ThereAndBack$Minus" (1 : Nat)) ∈ lw_all := lw_g (lw_at lw_m3 136 rfl) rfl
theorem q762 : (Jvm.Cond.instanceMethod ({ cls := "ThereAndBack$Minus", name := "<init>", desc := "(LThereAndBack$Expr;)V" } : Jvm.MethodName)) ∈ lw_all := lw_g (lw_at lw_m3 138 rfl) rfl
theorem q763 : (Jvm.Cond.code ({ cls := "ThereAndBack$Minus", name := "<init>", desc := "(LThereAndBack$Expr;)V" } : Jvm.MethodName) prog_16_method_1_code (2 : Nat) (Option.none : Option Jvm.ClassFile.FieldType)) ∈ lw_all := lw_g (lw_at lw_m3 139 rfl) rfl
theorem q764 : (Jvm.Cond.methodLinkNest "ThereAndBack$Minus" (1 : Nat) ({ cls := "ThereAndBack$Expr", name := "<init>", desc := "()V" } : Jvm.MethodName) "ThereAndBack") ∈ lw_tbl := lw_at lw_m3 140 rfl
theorem q765 : (Jvm.Cond.fieldLink "ThereAndBack$Minus" (7 : Nat) "ThereAndBack$Minus" "of" "LThereAndBack$Expr;") ∈ lw_all := lw_g (lw_at lw_m3 141 rfl) rfl
theorem q766 : (Jvm.Cond.laysFinal "ThereAndBack$Minus" "ThereAndBack$Minus" "of" "LThereAndBack$Expr;") ∈ lw_all := lw_g (lw_at lw_m3 142 rfl) rfl
theorem q767 : (Jvm.Cond.soleField "ThereAndBack$Minus" "of") ∈ lw_all := lw_g (lw_at lw_m3 143 rfl) rfl
theorem q768 : (Jvm.Cond.superclass "ThereAndBack$Minus" "ThereAndBack$Expr") ∈ lw_all := lw_g (lw_at lw_m3 144 rfl) rfl
theorem q876 : (Jvm.Cond.instanceMethod ({ cls := "ThereAndBack$Minus", name := "has", desc := "(I)Z" } : Jvm.MethodName)) ∈ lw_all := lw_g (lw_at lw_m4 12 rfl) rfl
theorem q877 : (Jvm.Cond.code ({ cls := "ThereAndBack$Minus", name := "has", desc := "(I)Z" } : Jvm.MethodName) prog_16_method_4_code (2 : Nat) (Option.some Jvm.ClassFile.FieldType.boolean)) ∈ lw_all := lw_g (lw_at lw_m4 13 rfl) rfl
theorem q878 : (Jvm.Cond.methodLink "ThereAndBack$Minus" (27 : Nat) ({ cls := "ThereAndBack$Expr", name := "has", desc := "(I)Z" } : Jvm.MethodName)) ∈ lw_all := lw_g (lw_at lw_m4 14 rfl) rfl
theorem q889 : (Jvm.Cond.selects "ThereAndBack$Minus" ({ cls := "ThereAndBack$Expr", name := "has", desc := "(I)Z" } : Jvm.MethodName) ({ cls := "ThereAndBack$Minus", name := "has", desc := "(I)Z" } : Jvm.MethodName)) ∈ lw_all := lw_g (lw_at lw_m4 25 rfl) rfl
theorem q1164 : (Jvm.Cond.selects "ThereAndBack$Minus" ({ cls := "java/lang/Object", name := "getClass", desc := "()Ljava/lang/Class;" } : Jvm.MethodName) ({ cls := "java/lang/Object", name := "getClass", desc := "()Ljava/lang/Class;" } : Jvm.MethodName)) ∈ lw_all := lw_g (lw_at lw_m5 60 rfl) rfl
theorem q1470 : (Jvm.Cond.selects "ThereAndBack$Minus" ({ cls := "ThereAndBack$Expr", name := "names", desc := "()I" } : Jvm.MethodName) ({ cls := "ThereAndBack$Expr", name := "names", desc := "()I" } : Jvm.MethodName)) ∈ lw_all := lw_g (lw_at lw_m6 126 rfl) rfl
theorem q1581 : (Jvm.Cond.instanceMethod ({ cls := "ThereAndBack$Minus", name := "print", desc := "(LThereAndBack;)V" } : Jvm.MethodName)) ∈ lw_all := lw_g (lw_at lw_m6 237 rfl) rfl
theorem q1582 : (Jvm.Cond.code ({ cls := "ThereAndBack$Minus", name := "print", desc := "(LThereAndBack;)V" } : Jvm.MethodName) prog_16_method_3_code (2 : Nat) (Option.none : Option Jvm.ClassFile.FieldType)) ∈ lw_all := lw_g (lw_at lw_m6 238 rfl) rfl
theorem q1583 : (Jvm.Cond.methodLinkNest "ThereAndBack$Minus" (17 : Nat) ({ cls := "ThereAndBack", name := "printOpen", desc := "(I)V" } : Jvm.MethodName) "ThereAndBack") ∈ lw_tbl := lw_at lw_m6 239 rfl
theorem q1584 : (Jvm.Cond.methodLink "ThereAndBack$Minus" (23 : Nat) ({ cls := "ThereAndBack$Expr", name := "print", desc := "(LThereAndBack;)V" } : Jvm.MethodName)) ∈ lw_all := lw_g (lw_at lw_m7 0 rfl) rfl
theorem q1610 : (Jvm.Cond.selects "ThereAndBack$Minus" ({ cls := "ThereAndBack$Expr", name := "print", desc := "(LThereAndBack;)V" } : Jvm.MethodName) ({ cls := "ThereAndBack$Minus", name := "print", desc := "(LThereAndBack;)V" } : Jvm.MethodName)) ∈ lw_all := lw_g (lw_at lw_m7 26 rfl) rfl
theorem q1937 : (Jvm.Cond.instanceMethod ({ cls := "ThereAndBack$Minus", name := "eval", desc := "(LThereAndBack;)J" } : Jvm.MethodName)) ∈ lw_all := lw_g (lw_at lw_m8 113 rfl) rfl
theorem q1938 : (Jvm.Cond.code ({ cls := "ThereAndBack$Minus", name := "eval", desc := "(LThereAndBack;)J" } : Jvm.MethodName) prog_16_method_2_code (2 : Nat) (Option.some Jvm.ClassFile.FieldType.long)) ∈ lw_all := lw_g (lw_at lw_m8 114 rfl) rfl
theorem q1939 : (Jvm.Cond.methodLink "ThereAndBack$Minus" (13 : Nat) ({ cls := "ThereAndBack$Expr", name := "eval", desc := "(LThereAndBack;)J" } : Jvm.MethodName)) ∈ lw_all := lw_g (lw_at lw_m8 115 rfl) rfl
theorem q1993 : (Jvm.Cond.selects "ThereAndBack$Minus" ({ cls := "ThereAndBack$Expr", name := "eval", desc := "(LThereAndBack;)J" } : Jvm.MethodName) ({ cls := "ThereAndBack$Minus", name := "eval", desc := "(LThereAndBack;)J" } : Jvm.MethodName)) ∈ lw_all := lw_g (lw_at lw_m8 169 rfl) rfl
theorem q3141 : (Jvm.Cond.castable "ThereAndBack$Minus" "java/lang/Object") ∈ lw_tbl := lw_at lw_m13 117 rfl
theorem in_X12 : ∀ w ∈ wsX120, w ∈ lw_all := lw_in wsX120 [766] (by decide +kernel) (by decide +kernel)
/-! ThereAndBack$Two -/
set_option maxRecDepth 100000
def RX13 : String := "ThereAndBack$Two"
abbrev cX13_init : ByteArray := prog_34_method_1_code
def yX13_init : MethodName := ⟨RX13, "<init>", "(LThereAndBack$Expr;ILThereAndBack$Expr;)V"⟩
def dkwX13_init_0 : List UInt8 := [42, 183, 0, 1, 42, 43, 181, 0, 7, 42, 28, 181, 0, 13, 42, 45, 181, 0, 17, 177]
abbrev dktX13_init_0 : List UInt8 := dkwX13_init_0 ++ []
theorem dksX13_init_0 : cX13_init.data.toList.drop 0 = dktX13_init_0 := by decide +kernel
theorem dX13_init_0 : decode cX13_init 0 = .ok (.aload_n 0, 1) := dk_42 (dk_at dksX13_init_0 0 rfl rfl)
theorem dX13_init_1 : decode cX13_init 1 = .ok (.invokespecial 1, 3) := dk_183 0 1 (dk_at dksX13_init_0 1 rfl rfl)
theorem dX13_init_4 : decode cX13_init 4 = .ok (.aload_n 0, 1) := dk_42 (dk_at dksX13_init_0 4 rfl rfl)
theorem dX13_init_5 : decode cX13_init 5 = .ok (.aload_n 1, 1) := dk_43 (dk_at dksX13_init_0 5 rfl rfl)
theorem dX13_init_6 : decode cX13_init 6 = .ok (.putfield 7, 3) := dk_181 0 7 (dk_at dksX13_init_0 6 rfl rfl)
theorem dX13_init_9 : decode cX13_init 9 = .ok (.aload_n 0, 1) := dk_42 (dk_at dksX13_init_0 9 rfl rfl)
theorem dX13_init_10 : decode cX13_init 10 = .ok (.iload_n 2, 1) := dk_28 (dk_at dksX13_init_0 10 rfl rfl)
theorem dX13_init_11 : decode cX13_init 11 = .ok (.putfield 13, 3) := dk_181 0 13 (dk_at dksX13_init_0 11 rfl rfl)
theorem dX13_init_14 : decode cX13_init 14 = .ok (.aload_n 0, 1) := dk_42 (dk_at dksX13_init_0 14 rfl rfl)
theorem dX13_init_15 : decode cX13_init 15 = .ok (.aload_n 3, 1) := dk_45 (dk_at dksX13_init_0 15 rfl rfl)
theorem dX13_init_16 : decode cX13_init 16 = .ok (.putfield 17, 3) := dk_181 0 17 (dk_at dksX13_init_0 16 rfl rfl)
theorem dX13_init_19 : decode cX13_init 19 = .ok (.return_, 1) := dk_177 (dk_at dksX13_init_0 19 rfl rfl)
abbrev cX13_has : ByteArray := prog_34_method_5_code
def yX13_has : MethodName := ⟨RX13, "has", "(I)Z"⟩
def dkwX13_has_1 : List UInt8 := [167, 0, 4, 3, 172]
abbrev dktX13_has_1 : List UInt8 := dkwX13_has_1 ++ []
def dkwX13_has_0 : List UInt8 := [42, 180, 0, 7, 27, 182, 0, 38, 154, 0, 14, 42, 180, 0, 17, 27, 182, 0, 38, 153, 0, 7, 4]
abbrev dktX13_has_0 : List UInt8 := dkwX13_has_0 ++ dktX13_has_1
theorem dksX13_has_0 : cX13_has.data.toList.drop 0 = dktX13_has_0 := by decide +kernel
theorem dksX13_has_1 : cX13_has.data.toList.drop 23 = dktX13_has_1 := dk_seg dksX13_has_0 23 rfl rfl
theorem dX13_has_0 : decode cX13_has 0 = .ok (.aload_n 0, 1) := dk_42 (dk_at dksX13_has_0 0 rfl rfl)
theorem dX13_has_1 : decode cX13_has 1 = .ok (.getfield 7, 3) := dk_180 0 7 (dk_at dksX13_has_0 1 rfl rfl)
theorem dX13_has_4 : decode cX13_has 4 = .ok (.iload_n 1, 1) := dk_27 (dk_at dksX13_has_0 4 rfl rfl)
theorem dX13_has_5 : decode cX13_has 5 = .ok (.invokevirtual 38, 3) := dk_182 0 38 (dk_at dksX13_has_0 5 rfl rfl)
theorem dX13_has_8 : decode cX13_has 8 = .ok (.ifCond .ne 14, 3) := dk_154 0 14 (dk_at dksX13_has_0 8 rfl rfl)
theorem dX13_has_11 : decode cX13_has 11 = .ok (.aload_n 0, 1) := dk_42 (dk_at dksX13_has_0 11 rfl rfl)
theorem dX13_has_12 : decode cX13_has 12 = .ok (.getfield 17, 3) := dk_180 0 17 (dk_at dksX13_has_0 12 rfl rfl)
theorem dX13_has_15 : decode cX13_has 15 = .ok (.iload_n 1, 1) := dk_27 (dk_at dksX13_has_0 15 rfl rfl)
theorem dX13_has_16 : decode cX13_has 16 = .ok (.invokevirtual 38, 3) := dk_182 0 38 (dk_at dksX13_has_0 16 rfl rfl)
theorem dX13_has_19 : decode cX13_has 19 = .ok (.ifCond .eq 7, 3) := dk_153 0 7 (dk_at dksX13_has_0 19 rfl rfl)
theorem dX13_has_22 : decode cX13_has 22 = .ok (.iconst 1, 1) := dk_4 (dk_at dksX13_has_0 22 rfl rfl)
theorem dX13_has_23 : decode cX13_has 23 = .ok (.goto 4, 3) := dk_167 0 4 (dk_at dksX13_has_1 0 rfl rfl)
theorem dX13_has_26 : decode cX13_has 26 = .ok (.iconst 0, 1) := dk_3 (dk_at dksX13_has_1 3 rfl rfl)
theorem dX13_has_27 : decode cX13_has 27 = .ok (.ireturn, 1) := dk_172 (dk_at dksX13_has_1 4 rfl rfl)
abbrev cX13_print : ByteArray := prog_34_method_4_code
def yX13_print : MethodName := ⟨RX13, "print", "(LThereAndBack;)V"⟩
def dkwX13_print_1 : List UInt8 := [177]
abbrev dktX13_print_1 : List UInt8 := dkwX13_print_1 ++ []
def dkwX13_print_0 : List UInt8 := [42, 180, 0, 7, 43, 182, 0, 28, 43, 42, 180, 0, 13, 182, 0, 32, 42, 180, 0, 17, 43, 182, 0, 28]
abbrev dktX13_print_0 : List UInt8 := dkwX13_print_0 ++ dktX13_print_1
theorem dksX13_print_0 : cX13_print.data.toList.drop 0 = dktX13_print_0 := by decide +kernel
theorem dksX13_print_1 : cX13_print.data.toList.drop 24 = dktX13_print_1 := dk_seg dksX13_print_0 24 rfl rfl
theorem dX13_print_0 : decode cX13_print 0 = .ok (.aload_n 0, 1) := dk_42 (dk_at dksX13_print_0 0 rfl rfl)
theorem dX13_print_1 : decode cX13_print 1 = .ok (.getfield 7, 3) := dk_180 0 7 (dk_at dksX13_print_0 1 rfl rfl)
theorem dX13_print_4 : decode cX13_print 4 = .ok (.aload_n 1, 1) := dk_43 (dk_at dksX13_print_0 4 rfl rfl)
theorem dX13_print_5 : decode cX13_print 5 = .ok (.invokevirtual 28, 3) := dk_182 0 28 (dk_at dksX13_print_0 5 rfl rfl)
theorem dX13_print_8 : decode cX13_print 8 = .ok (.aload_n 1, 1) := dk_43 (dk_at dksX13_print_0 8 rfl rfl)
theorem dX13_print_9 : decode cX13_print 9 = .ok (.aload_n 0, 1) := dk_42 (dk_at dksX13_print_0 9 rfl rfl)
theorem dX13_print_10 : decode cX13_print 10 = .ok (.getfield 13, 3) := dk_180 0 13 (dk_at dksX13_print_0 10 rfl rfl)
theorem dX13_print_13 : decode cX13_print 13 = .ok (.invokevirtual 32, 3) := dk_182 0 32 (dk_at dksX13_print_0 13 rfl rfl)
theorem dX13_print_16 : decode cX13_print 16 = .ok (.aload_n 0, 1) := dk_42 (dk_at dksX13_print_0 16 rfl rfl)
theorem dX13_print_17 : decode cX13_print 17 = .ok (.getfield 17, 3) := dk_180 0 17 (dk_at dksX13_print_0 17 rfl rfl)
theorem dX13_print_20 : decode cX13_print 20 = .ok (.aload_n 1, 1) := dk_43 (dk_at dksX13_print_0 20 rfl rfl)
theorem dX13_print_21 : decode cX13_print 21 = .ok (.invokevirtual 28, 3) := dk_182 0 28 (dk_at dksX13_print_0 21 rfl rfl)
theorem dX13_print_24 : decode cX13_print 24 = .ok (.return_, 1) := dk_177 (dk_at dksX13_print_1 0 rfl rfl)
abbrev cX13_eval : ByteArray := prog_34_method_3_code
def yX13_eval : MethodName := ⟨RX13, "eval", "(LThereAndBack;)J"⟩
def dkwX13_eval_0 : List UInt8 := [42, 180, 0, 7, 43, 182, 0, 20, 65, 42, 43, 32, 42, 180, 0, 17, 43, 182, 0, 20, 182, 0, 24, 173]
abbrev dktX13_eval_0 : List UInt8 := dkwX13_eval_0 ++ []
theorem dksX13_eval_0 : cX13_eval.data.toList.drop 0 = dktX13_eval_0 := by decide +kernel
theorem dX13_eval_0 : decode cX13_eval 0 = .ok (.aload_n 0, 1) := dk_42 (dk_at dksX13_eval_0 0 rfl rfl)
theorem dX13_eval_1 : decode cX13_eval 1 = .ok (.getfield 7, 3) := dk_180 0 7 (dk_at dksX13_eval_0 1 rfl rfl)
theorem dX13_eval_4 : decode cX13_eval 4 = .ok (.aload_n 1, 1) := dk_43 (dk_at dksX13_eval_0 4 rfl rfl)
theorem dX13_eval_5 : decode cX13_eval 5 = .ok (.invokevirtual 20, 3) := dk_182 0 20 (dk_at dksX13_eval_0 5 rfl rfl)
theorem dX13_eval_8 : decode cX13_eval 8 = .ok (.lstore_n 2, 1) := dk_65 (dk_at dksX13_eval_0 8 rfl rfl)
theorem dX13_eval_9 : decode cX13_eval 9 = .ok (.aload_n 0, 1) := dk_42 (dk_at dksX13_eval_0 9 rfl rfl)
theorem dX13_eval_10 : decode cX13_eval 10 = .ok (.aload_n 1, 1) := dk_43 (dk_at dksX13_eval_0 10 rfl rfl)
theorem dX13_eval_11 : decode cX13_eval 11 = .ok (.lload_n 2, 1) := dk_32 (dk_at dksX13_eval_0 11 rfl rfl)
theorem dX13_eval_12 : decode cX13_eval 12 = .ok (.aload_n 0, 1) := dk_42 (dk_at dksX13_eval_0 12 rfl rfl)
theorem dX13_eval_13 : decode cX13_eval 13 = .ok (.getfield 17, 3) := dk_180 0 17 (dk_at dksX13_eval_0 13 rfl rfl)
theorem dX13_eval_16 : decode cX13_eval 16 = .ok (.aload_n 1, 1) := dk_43 (dk_at dksX13_eval_0 16 rfl rfl)
theorem dX13_eval_17 : decode cX13_eval 17 = .ok (.invokevirtual 20, 3) := dk_182 0 20 (dk_at dksX13_eval_0 17 rfl rfl)
theorem dX13_eval_20 : decode cX13_eval 20 = .ok (.invokevirtual 24, 3) := dk_182 0 24 (dk_at dksX13_eval_0 20 rfl rfl)
theorem dX13_eval_23 : decode cX13_eval 23 = .ok (.lreturn, 1) := dk_173 (dk_at dksX13_eval_0 23 rfl rfl)
theorem q167 : (Jvm.Cond.initialized "ThereAndBack$Two") ∈ lw_all := lw_g (lw_at lw_m1 23 rfl) rfl
theorem q775 : (Jvm.Cond.instanceMethod ({ cls := "ThereAndBack$Two", name := "<init>", desc := "(LThereAndBack$Expr;ILThereAndBack$Expr;)V" } : Jvm.MethodName)) ∈ lw_all := lw_g (lw_at lw_m3 151 rfl) rfl
theorem q776 : (Jvm.Cond.code ({ cls := "ThereAndBack$Two", name := "<init>", desc := "(LThereAndBack$Expr;ILThereAndBack$Expr;)V" } : Jvm.MethodName) prog_34_method_1_code (4 : Nat) (Option.none : Option Jvm.ClassFile.FieldType)) ∈ lw_all := lw_g (lw_at lw_m3 152 rfl) rfl
theorem q777 : (Jvm.Cond.methodLinkNest "ThereAndBack$Two" (1 : Nat) ({ cls := "ThereAndBack$Expr", name := "<init>", desc := "()V" } : Jvm.MethodName) "ThereAndBack") ∈ lw_tbl := lw_at lw_m3 153 rfl
theorem q778 : (Jvm.Cond.fieldLink "ThereAndBack$Two" (7 : Nat) "ThereAndBack$Two" "left" "LThereAndBack$Expr;") ∈ lw_all := lw_g (lw_at lw_m3 154 rfl) rfl
theorem q781 : (Jvm.Cond.fieldLink "ThereAndBack$Two" (17 : Nat) "ThereAndBack$Two" "right" "LThereAndBack$Expr;") ∈ lw_all := lw_g (lw_at lw_m3 157 rfl) rfl
theorem q784 : (Jvm.Cond.fieldLink "ThereAndBack$Two" (13 : Nat) "ThereAndBack$Two" "sign" "I") ∈ lw_all := lw_g (lw_at lw_m3 160 rfl) rfl
theorem q793 : (Jvm.Cond.soleField "ThereAndBack$Two" "left") ∈ lw_all := lw_g (lw_at lw_m3 169 rfl) rfl
theorem q795 : (Jvm.Cond.soleField "ThereAndBack$Two" "right") ∈ lw_all := lw_g (lw_at lw_m3 171 rfl) rfl
theorem q797 : (Jvm.Cond.soleField "ThereAndBack$Two" "sign") ∈ lw_all := lw_g (lw_at lw_m3 173 rfl) rfl
theorem q870 : (Jvm.Cond.instanceMethod ({ cls := "ThereAndBack$Two", name := "has", desc := "(I)Z" } : Jvm.MethodName)) ∈ lw_all := lw_g (lw_at lw_m4 6 rfl) rfl
theorem q871 : (Jvm.Cond.code ({ cls := "ThereAndBack$Two", name := "has", desc := "(I)Z" } : Jvm.MethodName) prog_34_method_5_code (2 : Nat) (Option.some Jvm.ClassFile.FieldType.boolean)) ∈ lw_all := lw_g (lw_at lw_m4 7 rfl) rfl
theorem q872 : (Jvm.Cond.methodLink "ThereAndBack$Two" (38 : Nat) ({ cls := "ThereAndBack$Expr", name := "has", desc := "(I)Z" } : Jvm.MethodName)) ∈ lw_all := lw_g (lw_at lw_m4 8 rfl) rfl
theorem q1570 : (Jvm.Cond.instanceMethod ({ cls := "ThereAndBack$Two", name := "print", desc := "(LThereAndBack;)V" } : Jvm.MethodName)) ∈ lw_all := lw_g (lw_at lw_m6 226 rfl) rfl
theorem q1571 : (Jvm.Cond.code ({ cls := "ThereAndBack$Two", name := "print", desc := "(LThereAndBack;)V" } : Jvm.MethodName) prog_34_method_4_code (2 : Nat) (Option.none : Option Jvm.ClassFile.FieldType)) ∈ lw_all := lw_g (lw_at lw_m6 227 rfl) rfl
theorem q1572 : (Jvm.Cond.methodLink "ThereAndBack$Two" (28 : Nat) ({ cls := "ThereAndBack$Expr", name := "print", desc := "(LThereAndBack;)V" } : Jvm.MethodName)) ∈ lw_all := lw_g (lw_at lw_m6 228 rfl) rfl
theorem q1607 : (Jvm.Cond.methodLinkNest "ThereAndBack$Two" (32 : Nat) ({ cls := "ThereAndBack", name := "printSign", desc := "(I)V" } : Jvm.MethodName) "ThereAndBack") ∈ lw_tbl := lw_at lw_m7 23 rfl
theorem q1931 : (Jvm.Cond.instanceMethod ({ cls := "ThereAndBack$Two", name := "eval", desc := "(LThereAndBack;)J" } : Jvm.MethodName)) ∈ lw_all := lw_g (lw_at lw_m8 107 rfl) rfl
theorem q1932 : (Jvm.Cond.code ({ cls := "ThereAndBack$Two", name := "eval", desc := "(LThereAndBack;)J" } : Jvm.MethodName) prog_34_method_3_code (4 : Nat) (Option.some Jvm.ClassFile.FieldType.long)) ∈ lw_all := lw_g (lw_at lw_m8 108 rfl) rfl
theorem q1933 : (Jvm.Cond.methodLink "ThereAndBack$Two" (20 : Nat) ({ cls := "ThereAndBack$Expr", name := "eval", desc := "(LThereAndBack;)J" } : Jvm.MethodName)) ∈ lw_all := lw_g (lw_at lw_m8 109 rfl) rfl
theorem q1980 : (Jvm.Cond.methodLink "ThereAndBack$Two" (24 : Nat) ({ cls := "ThereAndBack$Two", name := "reckon", desc := "(LThereAndBack;JJ)J" } : Jvm.MethodName)) ∈ lw_all := lw_g (lw_at lw_m8 156 rfl) rfl
theorem q1981 : (Jvm.Cond.declares ({ cls := "ThereAndBack$Two", name := "reckon", desc := "(LThereAndBack;JJ)J" } : Jvm.MethodName)) ∈ lw_tbl := lw_at lw_m8 157 rfl
theorem q1982 : (Jvm.Cond.sameMethod "ThereAndBack$Two" "ThereAndBack$Two" "reckon" "(LThereAndBack;JJ)J") ∈ lw_all := lw_g (lw_at lw_m8 158 rfl) rfl
theorem q3111 : (Jvm.Cond.sameMethod "ThereAndBack$Two" "ThereAndBack$Two" "print" "(LThereAndBack;)V") ∈ lw_all := lw_g (lw_at lw_m13 87 rfl) rfl
/-! ThereAndBack$Compare -/
set_option maxRecDepth 100000
def RX14 : String := "ThereAndBack$Compare"
def TX14 : u_T := fun k => match k with
  | 0 => ("ThereAndBack$Two", "left", "LThereAndBack$Expr;", true)
  | 1 => ("ThereAndBack$Two", "right", "LThereAndBack$Expr;", true)
  | _ => ("ThereAndBack$Two", "sign", "I", true)
def tyX14 : Nat → FieldType := fun k => match k with
  | 0 => .object "ThereAndBack$Expr"
  | 1 => .object "ThereAndBack$Expr"
  | _ => .int
abbrev wsX140 : List Cond := u_ws RX14 TX14 3
theorem nmX14 : ∀ a, a < 3 → ∀ b, b < 3 → a ≠ b → (TX14 a).2.1 ≠ (TX14 b).2.1 := by decide +kernel
theorem tyX14_ok : ∀ k, k < 3 → parseFieldDescriptor (TX14 k).2.2.1 = some (tyX14 k) := by decide +kernel
abbrev cX14_init : ByteArray := prog_5_method_1_code
def yX14_init : MethodName := ⟨RX14, "<init>", "(LThereAndBack$Expr;ILThereAndBack$Expr;)V"⟩
def dkwX14_init_0 : List UInt8 := [42, 43, 28, 45, 183, 0, 1, 177]
abbrev dktX14_init_0 : List UInt8 := dkwX14_init_0 ++ []
theorem dksX14_init_0 : cX14_init.data.toList.drop 0 = dktX14_init_0 := by decide +kernel
theorem dX14_init_0 : decode cX14_init 0 = .ok (.aload_n 0, 1) := dk_42 (dk_at dksX14_init_0 0 rfl rfl)
theorem dX14_init_1 : decode cX14_init 1 = .ok (.aload_n 1, 1) := dk_43 (dk_at dksX14_init_0 1 rfl rfl)
theorem dX14_init_2 : decode cX14_init 2 = .ok (.iload_n 2, 1) := dk_28 (dk_at dksX14_init_0 2 rfl rfl)
theorem dX14_init_3 : decode cX14_init 3 = .ok (.aload_n 3, 1) := dk_45 (dk_at dksX14_init_0 3 rfl rfl)
theorem dX14_init_4 : decode cX14_init 4 = .ok (.invokespecial 1, 3) := dk_183 0 1 (dk_at dksX14_init_0 4 rfl rfl)
theorem dX14_init_7 : decode cX14_init 7 = .ok (.return_, 1) := dk_177 (dk_at dksX14_init_0 7 rfl rfl)
abbrev cX14_print : ByteArray := prog_5_method_3_code
def yX14_print : MethodName := ⟨RX14, "print", "(LThereAndBack;)V"⟩
def dkwX14_print_0 : List UInt8 := [43, 16, 40, 182, 0, 13, 42, 43, 183, 0, 19, 43, 16, 41, 182, 0, 23, 177]
abbrev dktX14_print_0 : List UInt8 := dkwX14_print_0 ++ []
theorem dksX14_print_0 : cX14_print.data.toList.drop 0 = dktX14_print_0 := by decide +kernel
theorem dX14_print_0 : decode cX14_print 0 = .ok (.aload_n 1, 1) := dk_43 (dk_at dksX14_print_0 0 rfl rfl)
theorem dX14_print_1 : decode cX14_print 1 = .ok (.bipush 40, 2) := dk_16 40 (dk_at dksX14_print_0 1 rfl rfl)
theorem dX14_print_3 : decode cX14_print 3 = .ok (.invokevirtual 13, 3) := dk_182 0 13 (dk_at dksX14_print_0 3 rfl rfl)
theorem dX14_print_6 : decode cX14_print 6 = .ok (.aload_n 0, 1) := dk_42 (dk_at dksX14_print_0 6 rfl rfl)
theorem dX14_print_7 : decode cX14_print 7 = .ok (.aload_n 1, 1) := dk_43 (dk_at dksX14_print_0 7 rfl rfl)
theorem dX14_print_8 : decode cX14_print 8 = .ok (.invokespecial 19, 3) := dk_183 0 19 (dk_at dksX14_print_0 8 rfl rfl)
theorem dX14_print_11 : decode cX14_print 11 = .ok (.aload_n 1, 1) := dk_43 (dk_at dksX14_print_0 11 rfl rfl)
theorem dX14_print_12 : decode cX14_print 12 = .ok (.bipush 41, 2) := dk_16 41 (dk_at dksX14_print_0 12 rfl rfl)
theorem dX14_print_14 : decode cX14_print 14 = .ok (.invokevirtual 23, 3) := dk_182 0 23 (dk_at dksX14_print_0 14 rfl rfl)
theorem dX14_print_17 : decode cX14_print 17 = .ok (.return_, 1) := dk_177 (dk_at dksX14_print_0 17 rfl rfl)
abbrev cX14_reckon : ByteArray := prog_5_method_2_code
def yX14_reckon : MethodName := ⟨RX14, "reckon", "(LThereAndBack;JJ)J"⟩
def dkwX14_reckon_1 : List UInt8 := [154, 0, 7, 10, 167, 0, 4, 9, 173]
abbrev dktX14_reckon_1 : List UInt8 := dkwX14_reckon_1 ++ []
def dkwX14_reckon_0 : List UInt8 := [42, 180, 0, 7, 16, 60, 160, 0, 13, 32, 22, 4, 148, 156, 0, 17, 167, 0, 10, 32, 22, 4, 148]
abbrev dktX14_reckon_0 : List UInt8 := dkwX14_reckon_0 ++ dktX14_reckon_1
theorem dksX14_reckon_0 : cX14_reckon.data.toList.drop 0 = dktX14_reckon_0 := by decide +kernel
theorem dksX14_reckon_1 : cX14_reckon.data.toList.drop 23 = dktX14_reckon_1 := dk_seg dksX14_reckon_0 23 rfl rfl
theorem dX14_reckon_0 : decode cX14_reckon 0 = .ok (.aload_n 0, 1) := dk_42 (dk_at dksX14_reckon_0 0 rfl rfl)
theorem dX14_reckon_1 : decode cX14_reckon 1 = .ok (.getfield 7, 3) := dk_180 0 7 (dk_at dksX14_reckon_0 1 rfl rfl)
theorem dX14_reckon_4 : decode cX14_reckon 4 = .ok (.bipush 60, 2) := dk_16 60 (dk_at dksX14_reckon_0 4 rfl rfl)
theorem dX14_reckon_6 : decode cX14_reckon 6 = .ok (.if_icmp .ne 13, 3) := dk_160 0 13 (dk_at dksX14_reckon_0 6 rfl rfl)
theorem dX14_reckon_9 : decode cX14_reckon 9 = .ok (.lload_n 2, 1) := dk_32 (dk_at dksX14_reckon_0 9 rfl rfl)
theorem dX14_reckon_10 : decode cX14_reckon 10 = .ok (.lload 4, 2) := dk_22 4 (dk_at dksX14_reckon_0 10 rfl rfl)
theorem dX14_reckon_12 : decode cX14_reckon 12 = .ok (.lcmp, 1) := dk_148 (dk_at dksX14_reckon_0 12 rfl rfl)
theorem dX14_reckon_13 : decode cX14_reckon 13 = .ok (.ifCond .ge 17, 3) := dk_156 0 17 (dk_at dksX14_reckon_0 13 rfl rfl)
theorem dX14_reckon_16 : decode cX14_reckon 16 = .ok (.goto 10, 3) := dk_167 0 10 (dk_at dksX14_reckon_0 16 rfl rfl)
theorem dX14_reckon_19 : decode cX14_reckon 19 = .ok (.lload_n 2, 1) := dk_32 (dk_at dksX14_reckon_0 19 rfl rfl)
theorem dX14_reckon_20 : decode cX14_reckon 20 = .ok (.lload 4, 2) := dk_22 4 (dk_at dksX14_reckon_0 20 rfl rfl)
theorem dX14_reckon_22 : decode cX14_reckon 22 = .ok (.lcmp, 1) := dk_148 (dk_at dksX14_reckon_0 22 rfl rfl)
theorem dX14_reckon_23 : decode cX14_reckon 23 = .ok (.ifCond .ne 7, 3) := dk_154 0 7 (dk_at dksX14_reckon_1 0 rfl rfl)
theorem dX14_reckon_26 : decode cX14_reckon 26 = .ok (.lconst 1, 1) := dk_10 (dk_at dksX14_reckon_1 3 rfl rfl)
theorem dX14_reckon_27 : decode cX14_reckon 27 = .ok (.goto 4, 3) := dk_167 0 4 (dk_at dksX14_reckon_1 4 rfl rfl)
theorem dX14_reckon_30 : decode cX14_reckon 30 = .ok (.lconst 0, 1) := dk_9 (dk_at dksX14_reckon_1 7 rfl rfl)
theorem dX14_reckon_31 : decode cX14_reckon 31 = .ok (.lreturn, 1) := dk_173 (dk_at dksX14_reckon_1 8 rfl rfl)
theorem q168 : (Jvm.Cond.initialized "ThereAndBack$Compare") ∈ lw_all := lw_g (lw_at lw_m1 24 rfl) rfl
theorem q770 : (Jvm.Cond.instantiable "ThereAndBack$Compare" (3 : Nat)) ∈ lw_all := lw_g (lw_at lw_m3 146 rfl) rfl
theorem q772 : (Jvm.Cond.instanceMethod ({ cls := "ThereAndBack$Compare", name := "<init>", desc := "(LThereAndBack$Expr;ILThereAndBack$Expr;)V" } : Jvm.MethodName)) ∈ lw_all := lw_g (lw_at lw_m3 148 rfl) rfl
theorem q773 : (Jvm.Cond.code ({ cls := "ThereAndBack$Compare", name := "<init>", desc := "(LThereAndBack$Expr;ILThereAndBack$Expr;)V" } : Jvm.MethodName) prog_5_method_1_code (4 : Nat) (Option.none : Option Jvm.ClassFile.FieldType)) ∈ lw_all := lw_g (lw_at lw_m3 149 rfl) rfl
theorem q774 : (Jvm.Cond.methodLink "ThereAndBack$Compare" (1 : Nat) ({ cls := "ThereAndBack$Two", name := "<init>", desc := "(LThereAndBack$Expr;ILThereAndBack$Expr;)V" } : Jvm.MethodName)) ∈ lw_all := lw_g (lw_at lw_m3 150 rfl) rfl
theorem q785 : (Jvm.Cond.fieldLink "ThereAndBack$Compare" (7 : Nat) "ThereAndBack$Compare" "sign" "I") ∈ lw_all := lw_g (lw_at lw_m3 161 rfl) rfl
theorem q786 : (Jvm.Cond.sameField "ThereAndBack$Compare" "ThereAndBack$Two" "sign" "I") ∈ lw_all := lw_g (lw_at lw_m3 162 rfl) rfl
theorem q792 : (Jvm.Cond.laysFinal "ThereAndBack$Compare" "ThereAndBack$Two" "left" "LThereAndBack$Expr;") ∈ lw_all := lw_g (lw_at lw_m3 168 rfl) rfl
theorem q794 : (Jvm.Cond.laysFinal "ThereAndBack$Compare" "ThereAndBack$Two" "right" "LThereAndBack$Expr;") ∈ lw_all := lw_g (lw_at lw_m3 170 rfl) rfl
theorem q796 : (Jvm.Cond.laysFinal "ThereAndBack$Compare" "ThereAndBack$Two" "sign" "I") ∈ lw_all := lw_g (lw_at lw_m3 172 rfl) rfl
theorem q798 : (Jvm.Cond.superclass "ThereAndBack$Compare" "ThereAndBack$Two") ∈ lw_all := lw_g (lw_at lw_m3 174 rfl) rfl
theorem q869 : (Jvm.Cond.selects "ThereAndBack$Compare" ({ cls := "ThereAndBack$Expr", name := "has", desc := "(I)Z" } : Jvm.MethodName) ({ cls := "ThereAndBack$Two", name := "has", desc := "(I)Z" } : Jvm.MethodName)) ∈ lw_all := lw_g (lw_at lw_m4 5 rfl) rfl
theorem q1156 : (Jvm.Cond.selects "ThereAndBack$Compare" ({ cls := "java/lang/Object", name := "getClass", desc := "()Ljava/lang/Class;" } : Jvm.MethodName) ({ cls := "java/lang/Object", name := "getClass", desc := "()Ljava/lang/Class;" } : Jvm.MethodName)) ∈ lw_all := lw_g (lw_at lw_m5 52 rfl) rfl
theorem q1468 : (Jvm.Cond.selects "ThereAndBack$Compare" ({ cls := "ThereAndBack$Expr", name := "names", desc := "()I" } : Jvm.MethodName) ({ cls := "ThereAndBack$Expr", name := "names", desc := "()I" } : Jvm.MethodName)) ∈ lw_all := lw_g (lw_at lw_m6 124 rfl) rfl
theorem q1561 : (Jvm.Cond.selects "ThereAndBack$Compare" ({ cls := "ThereAndBack$Expr", name := "print", desc := "(LThereAndBack;)V" } : Jvm.MethodName) ({ cls := "ThereAndBack$Compare", name := "print", desc := "(LThereAndBack;)V" } : Jvm.MethodName)) ∈ lw_all := lw_g (lw_at lw_m6 217 rfl) rfl
theorem q1562 : (Jvm.Cond.instanceMethod ({ cls := "ThereAndBack$Compare", name := "print", desc := "(LThereAndBack;)V" } : Jvm.MethodName)) ∈ lw_all := lw_g (lw_at lw_m6 218 rfl) rfl
theorem q1563 : (Jvm.Cond.code ({ cls := "ThereAndBack$Compare", name := "print", desc := "(LThereAndBack;)V" } : Jvm.MethodName) prog_5_method_3_code (2 : Nat) (Option.none : Option Jvm.ClassFile.FieldType)) ∈ lw_all := lw_g (lw_at lw_m6 219 rfl) rfl
theorem q1564 : (Jvm.Cond.methodLinkNest "ThereAndBack$Compare" (13 : Nat) ({ cls := "ThereAndBack", name := "printOpen", desc := "(I)V" } : Jvm.MethodName) "ThereAndBack") ∈ lw_tbl := lw_at lw_m6 220 rfl
theorem q1569 : (Jvm.Cond.methodLink "ThereAndBack$Compare" (19 : Nat) ({ cls := "ThereAndBack$Two", name := "print", desc := "(LThereAndBack;)V" } : Jvm.MethodName)) ∈ lw_all := lw_g (lw_at lw_m6 225 rfl) rfl
theorem q1608 : (Jvm.Cond.methodLinkNest "ThereAndBack$Compare" (23 : Nat) ({ cls := "ThereAndBack", name := "printBehind", desc := "(I)V" } : Jvm.MethodName) "ThereAndBack") ∈ lw_tbl := lw_at lw_m7 24 rfl
theorem q1930 : (Jvm.Cond.selects "ThereAndBack$Compare" ({ cls := "ThereAndBack$Expr", name := "eval", desc := "(LThereAndBack;)J" } : Jvm.MethodName) ({ cls := "ThereAndBack$Two", name := "eval", desc := "(LThereAndBack;)J" } : Jvm.MethodName)) ∈ lw_all := lw_g (lw_at lw_m8 106 rfl) rfl
theorem q1983 : (Jvm.Cond.selects "ThereAndBack$Compare" ({ cls := "ThereAndBack$Two", name := "reckon", desc := "(LThereAndBack;JJ)J" } : Jvm.MethodName) ({ cls := "ThereAndBack$Compare", name := "reckon", desc := "(LThereAndBack;JJ)J" } : Jvm.MethodName)) ∈ lw_all := lw_g (lw_at lw_m8 159 rfl) rfl
theorem q1984 : (Jvm.Cond.instanceMethod ({ cls := "ThereAndBack$Compare", name := "reckon", desc := "(LThereAndBack;JJ)J" } : Jvm.MethodName)) ∈ lw_all := lw_g (lw_at lw_m8 160 rfl) rfl
theorem q1985 : (Jvm.Cond.code ({ cls := "ThereAndBack$Compare", name := "reckon", desc := "(LThereAndBack;JJ)J" } : Jvm.MethodName) prog_5_method_2_code (6 : Nat) (Option.some Jvm.ClassFile.FieldType.long)) ∈ lw_all := lw_g (lw_at lw_m8 161 rfl) rfl
theorem q3142 : (Jvm.Cond.castable "ThereAndBack$Compare" "java/lang/Object") ∈ lw_tbl := lw_at lw_m13 118 rfl
theorem in_X14 : ∀ w ∈ wsX140, w ∈ lw_all := lw_in wsX140 [792, 794, 796] (by decide +kernel) (by decide +kernel)
/-! ThereAndBack$Paren -/
set_option maxRecDepth 100000
def RX15 : String := "ThereAndBack$Paren"
def TX15 : u_T := fun k => match k with
  | _ => ("ThereAndBack$Paren", "of", "LThereAndBack$Expr;", true)
def tyX15 : Nat → FieldType := fun k => match k with
  | _ => .object "ThereAndBack$Expr"
abbrev wsX150 : List Cond := u_ws RX15 TX15 1
theorem nmX15 : ∀ a, a < 1 → ∀ b, b < 1 → a ≠ b → (TX15 a).2.1 ≠ (TX15 b).2.1 := by decide +kernel
theorem tyX15_ok : ∀ k, k < 1 → parseFieldDescriptor (TX15 k).2.2.1 = some (tyX15 k) := by decide +kernel
abbrev cX15_init : ByteArray := prog_22_method_1_code
def yX15_init : MethodName := ⟨RX15, "<init>", "(LThereAndBack$Expr;)V"⟩
def dkwX15_init_0 : List UInt8 := [42, 183, 0, 1, 42, 43, 181, 0, 7, 177]
abbrev dktX15_init_0 : List UInt8 := dkwX15_init_0 ++ []
theorem dksX15_init_0 : cX15_init.data.toList.drop 0 = dktX15_init_0 := by decide +kernel
theorem dX15_init_0 : decode cX15_init 0 = .ok (.aload_n 0, 1) := dk_42 (dk_at dksX15_init_0 0 rfl rfl)
theorem dX15_init_1 : decode cX15_init 1 = .ok (.invokespecial 1, 3) := dk_183 0 1 (dk_at dksX15_init_0 1 rfl rfl)
theorem dX15_init_4 : decode cX15_init 4 = .ok (.aload_n 0, 1) := dk_42 (dk_at dksX15_init_0 4 rfl rfl)
theorem dX15_init_5 : decode cX15_init 5 = .ok (.aload_n 1, 1) := dk_43 (dk_at dksX15_init_0 5 rfl rfl)
theorem dX15_init_6 : decode cX15_init 6 = .ok (.putfield 7, 3) := dk_181 0 7 (dk_at dksX15_init_0 6 rfl rfl)
theorem dX15_init_9 : decode cX15_init 9 = .ok (.return_, 1) := dk_177 (dk_at dksX15_init_0 9 rfl rfl)
abbrev cX15_has : ByteArray := prog_22_method_4_code
def yX15_has : MethodName := ⟨RX15, "has", "(I)Z"⟩
def dkwX15_has_0 : List UInt8 := [42, 180, 0, 7, 27, 182, 0, 30, 172]
abbrev dktX15_has_0 : List UInt8 := dkwX15_has_0 ++ []
theorem dksX15_has_0 : cX15_has.data.toList.drop 0 = dktX15_has_0 := by decide +kernel
theorem dX15_has_0 : decode cX15_has 0 = .ok (.aload_n 0, 1) := dk_42 (dk_at dksX15_has_0 0 rfl rfl)
theorem dX15_has_1 : decode cX15_has 1 = .ok (.getfield 7, 3) := dk_180 0 7 (dk_at dksX15_has_0 1 rfl rfl)
theorem dX15_has_4 : decode cX15_has 4 = .ok (.iload_n 1, 1) := dk_27 (dk_at dksX15_has_0 4 rfl rfl)
theorem dX15_has_5 : decode cX15_has 5 = .ok (.invokevirtual 30, 3) := dk_182 0 30 (dk_at dksX15_has_0 5 rfl rfl)
theorem dX15_has_8 : decode cX15_has 8 = .ok (.ireturn, 1) := dk_172 (dk_at dksX15_has_0 8 rfl rfl)
abbrev cX15_print : ByteArray := prog_22_method_3_code
def yX15_print : MethodName := ⟨RX15, "print", "(LThereAndBack;)V"⟩
def dkwX15_print_0 : List UInt8 := [43, 16, 40, 182, 0, 17, 42, 180, 0, 7, 43, 182, 0, 23, 43, 16, 41, 182, 0, 27, 177]
abbrev dktX15_print_0 : List UInt8 := dkwX15_print_0 ++ []
theorem dksX15_print_0 : cX15_print.data.toList.drop 0 = dktX15_print_0 := by decide +kernel
theorem dX15_print_0 : decode cX15_print 0 = .ok (.aload_n 1, 1) := dk_43 (dk_at dksX15_print_0 0 rfl rfl)
theorem dX15_print_1 : decode cX15_print 1 = .ok (.bipush 40, 2) := dk_16 40 (dk_at dksX15_print_0 1 rfl rfl)
theorem dX15_print_3 : decode cX15_print 3 = .ok (.invokevirtual 17, 3) := dk_182 0 17 (dk_at dksX15_print_0 3 rfl rfl)
theorem dX15_print_6 : decode cX15_print 6 = .ok (.aload_n 0, 1) := dk_42 (dk_at dksX15_print_0 6 rfl rfl)
theorem dX15_print_7 : decode cX15_print 7 = .ok (.getfield 7, 3) := dk_180 0 7 (dk_at dksX15_print_0 7 rfl rfl)
theorem dX15_print_10 : decode cX15_print 10 = .ok (.aload_n 1, 1) := dk_43 (dk_at dksX15_print_0 10 rfl rfl)
theorem dX15_print_11 : decode cX15_print 11 = .ok (.invokevirtual 23, 3) := dk_182 0 23 (dk_at dksX15_print_0 11 rfl rfl)
theorem dX15_print_14 : decode cX15_print 14 = .ok (.aload_n 1, 1) := dk_43 (dk_at dksX15_print_0 14 rfl rfl)
theorem dX15_print_15 : decode cX15_print 15 = .ok (.bipush 41, 2) := dk_16 41 (dk_at dksX15_print_0 15 rfl rfl)
theorem dX15_print_17 : decode cX15_print 17 = .ok (.invokevirtual 27, 3) := dk_182 0 27 (dk_at dksX15_print_0 17 rfl rfl)
theorem dX15_print_20 : decode cX15_print 20 = .ok (.return_, 1) := dk_177 (dk_at dksX15_print_0 20 rfl rfl)
abbrev cX15_eval : ByteArray := prog_22_method_2_code
def yX15_eval : MethodName := ⟨RX15, "eval", "(LThereAndBack;)J"⟩
def dkwX15_eval_0 : List UInt8 := [42, 180, 0, 7, 43, 182, 0, 13, 173]
abbrev dktX15_eval_0 : List UInt8 := dkwX15_eval_0 ++ []
theorem dksX15_eval_0 : cX15_eval.data.toList.drop 0 = dktX15_eval_0 := by decide +kernel
theorem dX15_eval_0 : decode cX15_eval 0 = .ok (.aload_n 0, 1) := dk_42 (dk_at dksX15_eval_0 0 rfl rfl)
theorem dX15_eval_1 : decode cX15_eval 1 = .ok (.getfield 7, 3) := dk_180 0 7 (dk_at dksX15_eval_0 1 rfl rfl)
theorem dX15_eval_4 : decode cX15_eval 4 = .ok (.aload_n 1, 1) := dk_43 (dk_at dksX15_eval_0 4 rfl rfl)
theorem dX15_eval_5 : decode cX15_eval 5 = .ok (.invokevirtual 13, 3) := dk_182 0 13 (dk_at dksX15_eval_0 5 rfl rfl)
theorem dX15_eval_8 : decode cX15_eval 8 = .ok (.lreturn, 1) := dk_173 (dk_at dksX15_eval_0 8 rfl rfl)
theorem q169 : (Jvm.Cond.initialized "ThereAndBack$Paren") ∈ lw_all := lw_g (lw_at lw_m1 25 rfl) rfl
theorem q800 : (Jvm.Cond.instantiable "ThereAndBack$Paren" (1 : Nat)) ∈ lw_all := lw_g (lw_at lw_m3 176 rfl) rfl
theorem q802 : (Jvm.Cond.instanceMethod ({ cls := "ThereAndBack$Paren", name := "<init>", desc := "(LThereAndBack$Expr;)V" } : Jvm.MethodName)) ∈ lw_all := lw_g (lw_at lw_m3 178 rfl) rfl
theorem q803 : (Jvm.Cond.code ({ cls := "ThereAndBack$Paren", name := "<init>", desc := "(LThereAndBack$Expr;)V" } : Jvm.MethodName) prog_22_method_1_code (2 : Nat) (Option.none : Option Jvm.ClassFile.FieldType)) ∈ lw_all := lw_g (lw_at lw_m3 179 rfl) rfl
theorem q804 : (Jvm.Cond.methodLinkNest "ThereAndBack$Paren" (1 : Nat) ({ cls := "ThereAndBack$Expr", name := "<init>", desc := "()V" } : Jvm.MethodName) "ThereAndBack") ∈ lw_tbl := lw_at lw_m3 180 rfl
theorem q805 : (Jvm.Cond.fieldLink "ThereAndBack$Paren" (7 : Nat) "ThereAndBack$Paren" "of" "LThereAndBack$Expr;") ∈ lw_all := lw_g (lw_at lw_m3 181 rfl) rfl
theorem q806 : (Jvm.Cond.laysFinal "ThereAndBack$Paren" "ThereAndBack$Paren" "of" "LThereAndBack$Expr;") ∈ lw_all := lw_g (lw_at lw_m3 182 rfl) rfl
theorem q807 : (Jvm.Cond.soleField "ThereAndBack$Paren" "of") ∈ lw_all := lw_g (lw_at lw_m3 183 rfl) rfl
theorem q808 : (Jvm.Cond.superclass "ThereAndBack$Paren" "ThereAndBack$Expr") ∈ lw_all := lw_g (lw_at lw_m3 184 rfl) rfl
theorem q883 : (Jvm.Cond.instanceMethod ({ cls := "ThereAndBack$Paren", name := "has", desc := "(I)Z" } : Jvm.MethodName)) ∈ lw_all := lw_g (lw_at lw_m4 19 rfl) rfl
theorem q884 : (Jvm.Cond.code ({ cls := "ThereAndBack$Paren", name := "has", desc := "(I)Z" } : Jvm.MethodName) prog_22_method_4_code (2 : Nat) (Option.some Jvm.ClassFile.FieldType.boolean)) ∈ lw_all := lw_g (lw_at lw_m4 20 rfl) rfl
theorem q885 : (Jvm.Cond.methodLink "ThereAndBack$Paren" (30 : Nat) ({ cls := "ThereAndBack$Expr", name := "has", desc := "(I)Z" } : Jvm.MethodName)) ∈ lw_all := lw_g (lw_at lw_m4 21 rfl) rfl
theorem q892 : (Jvm.Cond.selects "ThereAndBack$Paren" ({ cls := "ThereAndBack$Expr", name := "has", desc := "(I)Z" } : Jvm.MethodName) ({ cls := "ThereAndBack$Paren", name := "has", desc := "(I)Z" } : Jvm.MethodName)) ∈ lw_all := lw_g (lw_at lw_m4 28 rfl) rfl
theorem q1169 : (Jvm.Cond.selects "ThereAndBack$Paren" ({ cls := "java/lang/Object", name := "getClass", desc := "()Ljava/lang/Class;" } : Jvm.MethodName) ({ cls := "java/lang/Object", name := "getClass", desc := "()Ljava/lang/Class;" } : Jvm.MethodName)) ∈ lw_all := lw_g (lw_at lw_m5 65 rfl) rfl
theorem q1473 : (Jvm.Cond.selects "ThereAndBack$Paren" ({ cls := "ThereAndBack$Expr", name := "names", desc := "()I" } : Jvm.MethodName) ({ cls := "ThereAndBack$Expr", name := "names", desc := "()I" } : Jvm.MethodName)) ∈ lw_all := lw_g (lw_at lw_m6 129 rfl) rfl
theorem q1594 : (Jvm.Cond.instanceMethod ({ cls := "ThereAndBack$Paren", name := "print", desc := "(LThereAndBack;)V" } : Jvm.MethodName)) ∈ lw_all := lw_g (lw_at lw_m7 10 rfl) rfl
theorem q1595 : (Jvm.Cond.code ({ cls := "ThereAndBack$Paren", name := "print", desc := "(LThereAndBack;)V" } : Jvm.MethodName) prog_22_method_3_code (2 : Nat) (Option.none : Option Jvm.ClassFile.FieldType)) ∈ lw_all := lw_g (lw_at lw_m7 11 rfl) rfl
theorem q1596 : (Jvm.Cond.methodLinkNest "ThereAndBack$Paren" (17 : Nat) ({ cls := "ThereAndBack", name := "printOpen", desc := "(I)V" } : Jvm.MethodName) "ThereAndBack") ∈ lw_tbl := lw_at lw_m7 12 rfl
theorem q1597 : (Jvm.Cond.methodLink "ThereAndBack$Paren" (23 : Nat) ({ cls := "ThereAndBack$Expr", name := "print", desc := "(LThereAndBack;)V" } : Jvm.MethodName)) ∈ lw_all := lw_g (lw_at lw_m7 13 rfl) rfl
theorem q1602 : (Jvm.Cond.methodLinkNest "ThereAndBack$Paren" (27 : Nat) ({ cls := "ThereAndBack", name := "printBehind", desc := "(I)V" } : Jvm.MethodName) "ThereAndBack") ∈ lw_tbl := lw_at lw_m7 18 rfl
theorem q1613 : (Jvm.Cond.selects "ThereAndBack$Paren" ({ cls := "ThereAndBack$Expr", name := "print", desc := "(LThereAndBack;)V" } : Jvm.MethodName) ({ cls := "ThereAndBack$Paren", name := "print", desc := "(LThereAndBack;)V" } : Jvm.MethodName)) ∈ lw_all := lw_g (lw_at lw_m7 29 rfl) rfl
theorem q1948 : (Jvm.Cond.instanceMethod ({ cls := "ThereAndBack$Paren", name := "eval", desc := "(LThereAndBack;)J" } : Jvm.MethodName)) ∈ lw_all := lw_g (lw_at lw_m8 124 rfl) rfl
theorem q1949 : (Jvm.Cond.code ({ cls := "ThereAndBack$Paren", name := "eval", desc := "(LThereAndBack;)J" } : Jvm.MethodName) prog_22_method_2_code (2 : Nat) (Option.some Jvm.ClassFile.FieldType.long)) ∈ lw_all := lw_g (lw_at lw_m8 125 rfl) rfl
theorem q1950 : (Jvm.Cond.methodLink "ThereAndBack$Paren" (13 : Nat) ({ cls := "ThereAndBack$Expr", name := "eval", desc := "(LThereAndBack;)J" } : Jvm.MethodName)) ∈ lw_all := lw_g (lw_at lw_m8 126 rfl) rfl
theorem q1996 : (Jvm.Cond.selects "ThereAndBack$Paren" ({ cls := "ThereAndBack$Expr", name := "eval", desc := "(LThereAndBack;)J" } : Jvm.MethodName) ({ cls := "ThereAndBack$Paren", name := "eval", desc := "(LThereAndBack;)J" } : Jvm.MethodName)) ∈ lw_all := lw_g (lw_at lw_m8 172 rfl) rfl
theorem q3143 : (Jvm.Cond.castable "ThereAndBack$Paren" "java/lang/Object") ∈ lw_tbl := lw_at lw_m13 119 rfl
theorem in_X15 : ∀ w ∈ wsX150, w ∈ lw_all := lw_in wsX150 [806] (by decide +kernel) (by decide +kernel)
/-! ThereAndBack$Product -/
set_option maxRecDepth 100000
def RX16 : String := "ThereAndBack$Product"
def TX16 : u_T := fun k => match k with
  | 0 => ("ThereAndBack$Two", "left", "LThereAndBack$Expr;", true)
  | 1 => ("ThereAndBack$Two", "right", "LThereAndBack$Expr;", true)
  | _ => ("ThereAndBack$Two", "sign", "I", true)
def tyX16 : Nat → FieldType := fun k => match k with
  | 0 => .object "ThereAndBack$Expr"
  | 1 => .object "ThereAndBack$Expr"
  | _ => .int
abbrev wsX160 : List Cond := u_ws RX16 TX16 3
theorem nmX16 : ∀ a, a < 3 → ∀ b, b < 3 → a ≠ b → (TX16 a).2.1 ≠ (TX16 b).2.1 := by decide +kernel
theorem tyX16_ok : ∀ k, k < 3 → parseFieldDescriptor (TX16 k).2.2.1 = some (tyX16 k) := by decide +kernel
abbrev cX16_init : ByteArray := prog_25_method_1_code
def yX16_init : MethodName := ⟨RX16, "<init>", "(LThereAndBack$Expr;ILThereAndBack$Expr;)V"⟩
def dkwX16_init_0 : List UInt8 := [42, 43, 28, 45, 183, 0, 3, 177]
abbrev dktX16_init_0 : List UInt8 := dkwX16_init_0 ++ []
theorem dksX16_init_0 : cX16_init.data.toList.drop 0 = dktX16_init_0 := by decide +kernel
theorem dX16_init_0 : decode cX16_init 0 = .ok (.aload_n 0, 1) := dk_42 (dk_at dksX16_init_0 0 rfl rfl)
theorem dX16_init_1 : decode cX16_init 1 = .ok (.aload_n 1, 1) := dk_43 (dk_at dksX16_init_0 1 rfl rfl)
theorem dX16_init_2 : decode cX16_init 2 = .ok (.iload_n 2, 1) := dk_28 (dk_at dksX16_init_0 2 rfl rfl)
theorem dX16_init_3 : decode cX16_init 3 = .ok (.aload_n 3, 1) := dk_45 (dk_at dksX16_init_0 3 rfl rfl)
theorem dX16_init_4 : decode cX16_init 4 = .ok (.invokespecial 3, 3) := dk_183 0 3 (dk_at dksX16_init_0 4 rfl rfl)
theorem dX16_init_7 : decode cX16_init 7 = .ok (.return_, 1) := dk_177 (dk_at dksX16_init_0 7 rfl rfl)
abbrev cX16_reckon : ByteArray := prog_25_method_2_code
def yX16_reckon : MethodName := ⟨RX16, "reckon", "(LThereAndBack;JJ)J"⟩
def dkwX16_reckon_2 : List UInt8 := [160, 0, 10, 32, 22, 4, 109, 167, 0, 7, 32, 22, 4, 113, 173]
abbrev dktX16_reckon_2 : List UInt8 := dkwX16_reckon_2 ++ []
def dkwX16_reckon_1 : List UInt8 := [22, 4, 127, 173, 22, 4, 9, 148, 154, 0, 10, 43, 180, 0, 15, 7, 50, 191, 42, 180, 0, 9, 16, 47]
abbrev dktX16_reckon_1 : List UInt8 := dkwX16_reckon_1 ++ dktX16_reckon_2
def dkwX16_reckon_0 : List UInt8 := [42, 180, 0, 9, 16, 42, 160, 0, 8, 32, 22, 4, 105, 173, 42, 180, 0, 9, 16, 38, 160, 0, 8, 32]
abbrev dktX16_reckon_0 : List UInt8 := dkwX16_reckon_0 ++ dktX16_reckon_1
theorem dksX16_reckon_0 : cX16_reckon.data.toList.drop 0 = dktX16_reckon_0 := by decide +kernel
theorem dksX16_reckon_1 : cX16_reckon.data.toList.drop 24 = dktX16_reckon_1 := dk_seg dksX16_reckon_0 24 rfl rfl
theorem dksX16_reckon_2 : cX16_reckon.data.toList.drop 48 = dktX16_reckon_2 := dk_seg dksX16_reckon_1 24 rfl rfl
theorem dX16_reckon_0 : decode cX16_reckon 0 = .ok (.aload_n 0, 1) := dk_42 (dk_at dksX16_reckon_0 0 rfl rfl)
theorem dX16_reckon_1 : decode cX16_reckon 1 = .ok (.getfield 9, 3) := dk_180 0 9 (dk_at dksX16_reckon_0 1 rfl rfl)
theorem dX16_reckon_4 : decode cX16_reckon 4 = .ok (.bipush 42, 2) := dk_16 42 (dk_at dksX16_reckon_0 4 rfl rfl)
theorem dX16_reckon_6 : decode cX16_reckon 6 = .ok (.if_icmp .ne 8, 3) := dk_160 0 8 (dk_at dksX16_reckon_0 6 rfl rfl)
theorem dX16_reckon_9 : decode cX16_reckon 9 = .ok (.lload_n 2, 1) := dk_32 (dk_at dksX16_reckon_0 9 rfl rfl)
theorem dX16_reckon_10 : decode cX16_reckon 10 = .ok (.lload 4, 2) := dk_22 4 (dk_at dksX16_reckon_0 10 rfl rfl)
theorem dX16_reckon_12 : decode cX16_reckon 12 = .ok (.lmul, 1) := dk_105 (dk_at dksX16_reckon_0 12 rfl rfl)
theorem dX16_reckon_13 : decode cX16_reckon 13 = .ok (.lreturn, 1) := dk_173 (dk_at dksX16_reckon_0 13 rfl rfl)
theorem dX16_reckon_14 : decode cX16_reckon 14 = .ok (.aload_n 0, 1) := dk_42 (dk_at dksX16_reckon_0 14 rfl rfl)
theorem dX16_reckon_15 : decode cX16_reckon 15 = .ok (.getfield 9, 3) := dk_180 0 9 (dk_at dksX16_reckon_0 15 rfl rfl)
theorem dX16_reckon_18 : decode cX16_reckon 18 = .ok (.bipush 38, 2) := dk_16 38 (dk_at dksX16_reckon_0 18 rfl rfl)
theorem dX16_reckon_20 : decode cX16_reckon 20 = .ok (.if_icmp .ne 8, 3) := dk_160 0 8 (dk_at dksX16_reckon_0 20 rfl rfl)
theorem dX16_reckon_23 : decode cX16_reckon 23 = .ok (.lload_n 2, 1) := dk_32 (dk_at dksX16_reckon_0 23 rfl rfl)
theorem dX16_reckon_24 : decode cX16_reckon 24 = .ok (.lload 4, 2) := dk_22 4 (dk_at dksX16_reckon_1 0 rfl rfl)
theorem dX16_reckon_26 : decode cX16_reckon 26 = .ok (.land, 1) := dk_127 (dk_at dksX16_reckon_1 2 rfl rfl)
theorem dX16_reckon_27 : decode cX16_reckon 27 = .ok (.lreturn, 1) := dk_173 (dk_at dksX16_reckon_1 3 rfl rfl)
theorem dX16_reckon_28 : decode cX16_reckon 28 = .ok (.lload 4, 2) := dk_22 4 (dk_at dksX16_reckon_1 4 rfl rfl)
theorem dX16_reckon_30 : decode cX16_reckon 30 = .ok (.lconst 0, 1) := dk_9 (dk_at dksX16_reckon_1 6 rfl rfl)
theorem dX16_reckon_31 : decode cX16_reckon 31 = .ok (.lcmp, 1) := dk_148 (dk_at dksX16_reckon_1 7 rfl rfl)
theorem dX16_reckon_32 : decode cX16_reckon 32 = .ok (.ifCond .ne 10, 3) := dk_154 0 10 (dk_at dksX16_reckon_1 8 rfl rfl)
theorem dX16_reckon_35 : decode cX16_reckon 35 = .ok (.aload_n 1, 1) := dk_43 (dk_at dksX16_reckon_1 11 rfl rfl)
theorem dX16_reckon_36 : decode cX16_reckon 36 = .ok (.getfield 15, 3) := dk_180 0 15 (dk_at dksX16_reckon_1 12 rfl rfl)
theorem dX16_reckon_39 : decode cX16_reckon 39 = .ok (.iconst 4, 1) := dk_7 (dk_at dksX16_reckon_1 15 rfl rfl)
theorem dX16_reckon_40 : decode cX16_reckon 40 = .ok (.aaload, 1) := dk_50 (dk_at dksX16_reckon_1 16 rfl rfl)
theorem dX16_reckon_41 : decode cX16_reckon 41 = .ok (.athrow, 1) := dk_191 (dk_at dksX16_reckon_1 17 rfl rfl)
theorem dX16_reckon_42 : decode cX16_reckon 42 = .ok (.aload_n 0, 1) := dk_42 (dk_at dksX16_reckon_1 18 rfl rfl)
theorem dX16_reckon_43 : decode cX16_reckon 43 = .ok (.getfield 9, 3) := dk_180 0 9 (dk_at dksX16_reckon_1 19 rfl rfl)
theorem dX16_reckon_46 : decode cX16_reckon 46 = .ok (.bipush 47, 2) := dk_16 47 (dk_at dksX16_reckon_1 22 rfl rfl)
theorem dX16_reckon_48 : decode cX16_reckon 48 = .ok (.if_icmp .ne 10, 3) := dk_160 0 10 (dk_at dksX16_reckon_2 0 rfl rfl)
theorem dX16_reckon_51 : decode cX16_reckon 51 = .ok (.lload_n 2, 1) := dk_32 (dk_at dksX16_reckon_2 3 rfl rfl)
theorem dX16_reckon_52 : decode cX16_reckon 52 = .ok (.lload 4, 2) := dk_22 4 (dk_at dksX16_reckon_2 4 rfl rfl)
theorem dX16_reckon_54 : decode cX16_reckon 54 = .ok (.ldiv, 1) := dk_109 (dk_at dksX16_reckon_2 6 rfl rfl)
theorem dX16_reckon_55 : decode cX16_reckon 55 = .ok (.goto 7, 3) := dk_167 0 7 (dk_at dksX16_reckon_2 7 rfl rfl)
theorem dX16_reckon_58 : decode cX16_reckon 58 = .ok (.lload_n 2, 1) := dk_32 (dk_at dksX16_reckon_2 10 rfl rfl)
theorem dX16_reckon_59 : decode cX16_reckon 59 = .ok (.lload 4, 2) := dk_22 4 (dk_at dksX16_reckon_2 11 rfl rfl)
theorem dX16_reckon_61 : decode cX16_reckon 61 = .ok (.lrem, 1) := dk_113 (dk_at dksX16_reckon_2 13 rfl rfl)
theorem dX16_reckon_62 : decode cX16_reckon 62 = .ok (.lreturn, 1) := dk_173 (dk_at dksX16_reckon_2 14 rfl rfl)
theorem q170 : (Jvm.Cond.initialized "ThereAndBack$Product") ∈ lw_all := lw_g (lw_at lw_m1 26 rfl) rfl
theorem q339 : (Jvm.Cond.fieldLinkNest "ThereAndBack$Product" (15 : Nat) "ThereAndBack" "refusals" "[LThereAndBack$Refused;" "ThereAndBack") ∈ lw_tbl := lw_at lw_m1 195 rfl
theorem q787 : (Jvm.Cond.fieldLink "ThereAndBack$Product" (9 : Nat) "ThereAndBack$Product" "sign" "I") ∈ lw_all := lw_g (lw_at lw_m3 163 rfl) rfl
theorem q788 : (Jvm.Cond.sameField "ThereAndBack$Product" "ThereAndBack$Two" "sign" "I") ∈ lw_all := lw_g (lw_at lw_m3 164 rfl) rfl
theorem q810 : (Jvm.Cond.instantiable "ThereAndBack$Product" (3 : Nat)) ∈ lw_all := lw_g (lw_at lw_m3 186 rfl) rfl
theorem q812 : (Jvm.Cond.instanceMethod ({ cls := "ThereAndBack$Product", name := "<init>", desc := "(LThereAndBack$Expr;ILThereAndBack$Expr;)V" } : Jvm.MethodName)) ∈ lw_all := lw_g (lw_at lw_m3 188 rfl) rfl
theorem q813 : (Jvm.Cond.code ({ cls := "ThereAndBack$Product", name := "<init>", desc := "(LThereAndBack$Expr;ILThereAndBack$Expr;)V" } : Jvm.MethodName) prog_25_method_1_code (4 : Nat) (Option.none : Option Jvm.ClassFile.FieldType)) ∈ lw_all := lw_g (lw_at lw_m3 189 rfl) rfl
theorem q814 : (Jvm.Cond.methodLink "ThereAndBack$Product" (3 : Nat) ({ cls := "ThereAndBack$Two", name := "<init>", desc := "(LThereAndBack$Expr;ILThereAndBack$Expr;)V" } : Jvm.MethodName)) ∈ lw_all := lw_g (lw_at lw_m3 190 rfl) rfl
theorem q815 : (Jvm.Cond.laysFinal "ThereAndBack$Product" "ThereAndBack$Two" "left" "LThereAndBack$Expr;") ∈ lw_all := lw_g (lw_at lw_m3 191 rfl) rfl
theorem q816 : (Jvm.Cond.laysFinal "ThereAndBack$Product" "ThereAndBack$Two" "right" "LThereAndBack$Expr;") ∈ lw_all := lw_g (lw_at lw_m3 192 rfl) rfl
theorem q817 : (Jvm.Cond.laysFinal "ThereAndBack$Product" "ThereAndBack$Two" "sign" "I") ∈ lw_all := lw_g (lw_at lw_m3 193 rfl) rfl
theorem q818 : (Jvm.Cond.superclass "ThereAndBack$Product" "ThereAndBack$Two") ∈ lw_all := lw_g (lw_at lw_m3 194 rfl) rfl
theorem q893 : (Jvm.Cond.selects "ThereAndBack$Product" ({ cls := "ThereAndBack$Expr", name := "has", desc := "(I)Z" } : Jvm.MethodName) ({ cls := "ThereAndBack$Two", name := "has", desc := "(I)Z" } : Jvm.MethodName)) ∈ lw_all := lw_g (lw_at lw_m4 29 rfl) rfl
theorem q1172 : (Jvm.Cond.selects "ThereAndBack$Product" ({ cls := "java/lang/Object", name := "getClass", desc := "()Ljava/lang/Class;" } : Jvm.MethodName) ({ cls := "java/lang/Object", name := "getClass", desc := "()Ljava/lang/Class;" } : Jvm.MethodName)) ∈ lw_all := lw_g (lw_at lw_m5 68 rfl) rfl
theorem q1474 : (Jvm.Cond.selects "ThereAndBack$Product" ({ cls := "ThereAndBack$Expr", name := "names", desc := "()I" } : Jvm.MethodName) ({ cls := "ThereAndBack$Expr", name := "names", desc := "()I" } : Jvm.MethodName)) ∈ lw_all := lw_g (lw_at lw_m6 130 rfl) rfl
theorem q1614 : (Jvm.Cond.selects "ThereAndBack$Product" ({ cls := "ThereAndBack$Expr", name := "print", desc := "(LThereAndBack;)V" } : Jvm.MethodName) ({ cls := "ThereAndBack$Two", name := "print", desc := "(LThereAndBack;)V" } : Jvm.MethodName)) ∈ lw_all := lw_g (lw_at lw_m7 30 rfl) rfl
theorem q1986 : (Jvm.Cond.selects "ThereAndBack$Product" ({ cls := "ThereAndBack$Two", name := "reckon", desc := "(LThereAndBack;JJ)J" } : Jvm.MethodName) ({ cls := "ThereAndBack$Product", name := "reckon", desc := "(LThereAndBack;JJ)J" } : Jvm.MethodName)) ∈ lw_all := lw_g (lw_at lw_m8 162 rfl) rfl
theorem q1987 : (Jvm.Cond.instanceMethod ({ cls := "ThereAndBack$Product", name := "reckon", desc := "(LThereAndBack;JJ)J" } : Jvm.MethodName)) ∈ lw_all := lw_g (lw_at lw_m8 163 rfl) rfl
theorem q1988 : (Jvm.Cond.code ({ cls := "ThereAndBack$Product", name := "reckon", desc := "(LThereAndBack;JJ)J" } : Jvm.MethodName) prog_25_method_2_code (6 : Nat) (Option.some Jvm.ClassFile.FieldType.long)) ∈ lw_all := lw_g (lw_at lw_m8 164 rfl) rfl
theorem q1997 : (Jvm.Cond.selects "ThereAndBack$Product" ({ cls := "ThereAndBack$Expr", name := "eval", desc := "(LThereAndBack;)J" } : Jvm.MethodName) ({ cls := "ThereAndBack$Two", name := "eval", desc := "(LThereAndBack;)J" } : Jvm.MethodName)) ∈ lw_all := lw_g (lw_at lw_m8 173 rfl) rfl
theorem q3144 : (Jvm.Cond.castable "ThereAndBack$Product" "java/lang/Object") ∈ lw_tbl := lw_at lw_m13 120 rfl
theorem in_X16 : ∀ w ∈ wsX160, w ∈ lw_all := lw_in wsX160 [815, 816, 817] (by decide +kernel) (by decide +kernel)
/-! ThereAndBack$Sum -/
set_option maxRecDepth 100000
def RX17 : String := "ThereAndBack$Sum"
def TX17 : u_T := fun k => match k with
  | 0 => ("ThereAndBack$Two", "left", "LThereAndBack$Expr;", true)
  | 1 => ("ThereAndBack$Two", "right", "LThereAndBack$Expr;", true)
  | _ => ("ThereAndBack$Two", "sign", "I", true)
def tyX17 : Nat → FieldType := fun k => match k with
  | 0 => .object "ThereAndBack$Expr"
  | 1 => .object "ThereAndBack$Expr"
  | _ => .int
abbrev wsX170 : List Cond := u_ws RX17 TX17 3
theorem nmX17 : ∀ a, a < 3 → ∀ b, b < 3 → a ≠ b → (TX17 a).2.1 ≠ (TX17 b).2.1 := by decide +kernel
theorem tyX17_ok : ∀ k, k < 3 → parseFieldDescriptor (TX17 k).2.2.1 = some (tyX17 k) := by decide +kernel
abbrev cX17_init : ByteArray := prog_32_method_1_code
def yX17_init : MethodName := ⟨RX17, "<init>", "(LThereAndBack$Expr;ILThereAndBack$Expr;)V"⟩
def dkwX17_init_0 : List UInt8 := [42, 43, 28, 45, 183, 0, 1, 177]
abbrev dktX17_init_0 : List UInt8 := dkwX17_init_0 ++ []
theorem dksX17_init_0 : cX17_init.data.toList.drop 0 = dktX17_init_0 := by decide +kernel
theorem dX17_init_0 : decode cX17_init 0 = .ok (.aload_n 0, 1) := dk_42 (dk_at dksX17_init_0 0 rfl rfl)
theorem dX17_init_1 : decode cX17_init 1 = .ok (.aload_n 1, 1) := dk_43 (dk_at dksX17_init_0 1 rfl rfl)
theorem dX17_init_2 : decode cX17_init 2 = .ok (.iload_n 2, 1) := dk_28 (dk_at dksX17_init_0 2 rfl rfl)
theorem dX17_init_3 : decode cX17_init 3 = .ok (.aload_n 3, 1) := dk_45 (dk_at dksX17_init_0 3 rfl rfl)
theorem dX17_init_4 : decode cX17_init 4 = .ok (.invokespecial 1, 3) := dk_183 0 1 (dk_at dksX17_init_0 4 rfl rfl)
theorem dX17_init_7 : decode cX17_init 7 = .ok (.return_, 1) := dk_177 (dk_at dksX17_init_0 7 rfl rfl)
abbrev cX17_reckon : ByteArray := prog_32_method_2_code
def yX17_reckon : MethodName := ⟨RX17, "reckon", "(LThereAndBack;JJ)J"⟩
def dkwX17_reckon_2 : List UInt8 := [167, 0, 7, 32, 22, 4, 129, 173]
abbrev dktX17_reckon_2 : List UInt8 := dkwX17_reckon_2 ++ []
def dkwX17_reckon_1 : List UInt8 := [160, 0, 10, 32, 22, 4, 101, 167, 0, 23, 42, 180, 0, 7, 16, 94, 160, 0, 10, 32, 22, 4, 131]
abbrev dktX17_reckon_1 : List UInt8 := dkwX17_reckon_1 ++ dktX17_reckon_2
def dkwX17_reckon_0 : List UInt8 := [42, 180, 0, 7, 16, 43, 160, 0, 10, 32, 22, 4, 97, 167, 0, 39, 42, 180, 0, 7, 16, 45]
abbrev dktX17_reckon_0 : List UInt8 := dkwX17_reckon_0 ++ dktX17_reckon_1
theorem dksX17_reckon_0 : cX17_reckon.data.toList.drop 0 = dktX17_reckon_0 := by decide +kernel
theorem dksX17_reckon_1 : cX17_reckon.data.toList.drop 22 = dktX17_reckon_1 := dk_seg dksX17_reckon_0 22 rfl rfl
theorem dksX17_reckon_2 : cX17_reckon.data.toList.drop 45 = dktX17_reckon_2 := dk_seg dksX17_reckon_1 23 rfl rfl
theorem dX17_reckon_0 : decode cX17_reckon 0 = .ok (.aload_n 0, 1) := dk_42 (dk_at dksX17_reckon_0 0 rfl rfl)
theorem dX17_reckon_1 : decode cX17_reckon 1 = .ok (.getfield 7, 3) := dk_180 0 7 (dk_at dksX17_reckon_0 1 rfl rfl)
theorem dX17_reckon_4 : decode cX17_reckon 4 = .ok (.bipush 43, 2) := dk_16 43 (dk_at dksX17_reckon_0 4 rfl rfl)
theorem dX17_reckon_6 : decode cX17_reckon 6 = .ok (.if_icmp .ne 10, 3) := dk_160 0 10 (dk_at dksX17_reckon_0 6 rfl rfl)
theorem dX17_reckon_9 : decode cX17_reckon 9 = .ok (.lload_n 2, 1) := dk_32 (dk_at dksX17_reckon_0 9 rfl rfl)
theorem dX17_reckon_10 : decode cX17_reckon 10 = .ok (.lload 4, 2) := dk_22 4 (dk_at dksX17_reckon_0 10 rfl rfl)
theorem dX17_reckon_12 : decode cX17_reckon 12 = .ok (.ladd, 1) := dk_97 (dk_at dksX17_reckon_0 12 rfl rfl)
theorem dX17_reckon_13 : decode cX17_reckon 13 = .ok (.goto 39, 3) := dk_167 0 39 (dk_at dksX17_reckon_0 13 rfl rfl)
theorem dX17_reckon_16 : decode cX17_reckon 16 = .ok (.aload_n 0, 1) := dk_42 (dk_at dksX17_reckon_0 16 rfl rfl)
theorem dX17_reckon_17 : decode cX17_reckon 17 = .ok (.getfield 7, 3) := dk_180 0 7 (dk_at dksX17_reckon_0 17 rfl rfl)
theorem dX17_reckon_20 : decode cX17_reckon 20 = .ok (.bipush 45, 2) := dk_16 45 (dk_at dksX17_reckon_0 20 rfl rfl)
theorem dX17_reckon_22 : decode cX17_reckon 22 = .ok (.if_icmp .ne 10, 3) := dk_160 0 10 (dk_at dksX17_reckon_1 0 rfl rfl)
theorem dX17_reckon_25 : decode cX17_reckon 25 = .ok (.lload_n 2, 1) := dk_32 (dk_at dksX17_reckon_1 3 rfl rfl)
theorem dX17_reckon_26 : decode cX17_reckon 26 = .ok (.lload 4, 2) := dk_22 4 (dk_at dksX17_reckon_1 4 rfl rfl)
theorem dX17_reckon_28 : decode cX17_reckon 28 = .ok (.lsub, 1) := dk_101 (dk_at dksX17_reckon_1 6 rfl rfl)
theorem dX17_reckon_29 : decode cX17_reckon 29 = .ok (.goto 23, 3) := dk_167 0 23 (dk_at dksX17_reckon_1 7 rfl rfl)
theorem dX17_reckon_32 : decode cX17_reckon 32 = .ok (.aload_n 0, 1) := dk_42 (dk_at dksX17_reckon_1 10 rfl rfl)
theorem dX17_reckon_33 : decode cX17_reckon 33 = .ok (.getfield 7, 3) := dk_180 0 7 (dk_at dksX17_reckon_1 11 rfl rfl)
theorem dX17_reckon_36 : decode cX17_reckon 36 = .ok (.bipush 94, 2) := dk_16 94 (dk_at dksX17_reckon_1 14 rfl rfl)
theorem dX17_reckon_38 : decode cX17_reckon 38 = .ok (.if_icmp .ne 10, 3) := dk_160 0 10 (dk_at dksX17_reckon_1 16 rfl rfl)
theorem dX17_reckon_41 : decode cX17_reckon 41 = .ok (.lload_n 2, 1) := dk_32 (dk_at dksX17_reckon_1 19 rfl rfl)
theorem dX17_reckon_42 : decode cX17_reckon 42 = .ok (.lload 4, 2) := dk_22 4 (dk_at dksX17_reckon_1 20 rfl rfl)
theorem dX17_reckon_44 : decode cX17_reckon 44 = .ok (.lxor, 1) := dk_131 (dk_at dksX17_reckon_1 22 rfl rfl)
theorem dX17_reckon_45 : decode cX17_reckon 45 = .ok (.goto 7, 3) := dk_167 0 7 (dk_at dksX17_reckon_2 0 rfl rfl)
theorem dX17_reckon_48 : decode cX17_reckon 48 = .ok (.lload_n 2, 1) := dk_32 (dk_at dksX17_reckon_2 3 rfl rfl)
theorem dX17_reckon_49 : decode cX17_reckon 49 = .ok (.lload 4, 2) := dk_22 4 (dk_at dksX17_reckon_2 4 rfl rfl)
theorem dX17_reckon_51 : decode cX17_reckon 51 = .ok (.lor, 1) := dk_129 (dk_at dksX17_reckon_2 6 rfl rfl)
theorem dX17_reckon_52 : decode cX17_reckon 52 = .ok (.lreturn, 1) := dk_173 (dk_at dksX17_reckon_2 7 rfl rfl)
theorem q171 : (Jvm.Cond.initialized "ThereAndBack$Sum") ∈ lw_all := lw_g (lw_at lw_m1 27 rfl) rfl
theorem q780 : (Jvm.Cond.sameField "ThereAndBack$Sum" "ThereAndBack$Two" "left" "LThereAndBack$Expr;") ∈ lw_all := lw_g (lw_at lw_m3 156 rfl) rfl
theorem q783 : (Jvm.Cond.sameField "ThereAndBack$Sum" "ThereAndBack$Two" "right" "LThereAndBack$Expr;") ∈ lw_all := lw_g (lw_at lw_m3 159 rfl) rfl
theorem q789 : (Jvm.Cond.fieldLink "ThereAndBack$Sum" (7 : Nat) "ThereAndBack$Sum" "sign" "I") ∈ lw_all := lw_g (lw_at lw_m3 165 rfl) rfl
theorem q790 : (Jvm.Cond.sameField "ThereAndBack$Sum" "ThereAndBack$Two" "sign" "I") ∈ lw_all := lw_g (lw_at lw_m3 166 rfl) rfl
theorem q820 : (Jvm.Cond.instantiable "ThereAndBack$Sum" (3 : Nat)) ∈ lw_all := lw_g (lw_at lw_m3 196 rfl) rfl
theorem q822 : (Jvm.Cond.instanceMethod ({ cls := "ThereAndBack$Sum", name := "<init>", desc := "(LThereAndBack$Expr;ILThereAndBack$Expr;)V" } : Jvm.MethodName)) ∈ lw_all := lw_g (lw_at lw_m3 198 rfl) rfl
theorem q823 : (Jvm.Cond.code ({ cls := "ThereAndBack$Sum", name := "<init>", desc := "(LThereAndBack$Expr;ILThereAndBack$Expr;)V" } : Jvm.MethodName) prog_32_method_1_code (4 : Nat) (Option.none : Option Jvm.ClassFile.FieldType)) ∈ lw_all := lw_g (lw_at lw_m3 199 rfl) rfl
theorem q824 : (Jvm.Cond.methodLink "ThereAndBack$Sum" (1 : Nat) ({ cls := "ThereAndBack$Two", name := "<init>", desc := "(LThereAndBack$Expr;ILThereAndBack$Expr;)V" } : Jvm.MethodName)) ∈ lw_all := lw_g (lw_at lw_m3 200 rfl) rfl
theorem q825 : (Jvm.Cond.laysFinal "ThereAndBack$Sum" "ThereAndBack$Two" "left" "LThereAndBack$Expr;") ∈ lw_all := lw_g (lw_at lw_m3 201 rfl) rfl
theorem q826 : (Jvm.Cond.laysFinal "ThereAndBack$Sum" "ThereAndBack$Two" "right" "LThereAndBack$Expr;") ∈ lw_all := lw_g (lw_at lw_m3 202 rfl) rfl
theorem q827 : (Jvm.Cond.laysFinal "ThereAndBack$Sum" "ThereAndBack$Two" "sign" "I") ∈ lw_all := lw_g (lw_at lw_m3 203 rfl) rfl
theorem q828 : (Jvm.Cond.superclass "ThereAndBack$Sum" "ThereAndBack$Two") ∈ lw_all := lw_g (lw_at lw_m3 204 rfl) rfl
theorem q895 : (Jvm.Cond.selects "ThereAndBack$Sum" ({ cls := "ThereAndBack$Expr", name := "has", desc := "(I)Z" } : Jvm.MethodName) ({ cls := "ThereAndBack$Two", name := "has", desc := "(I)Z" } : Jvm.MethodName)) ∈ lw_all := lw_g (lw_at lw_m4 31 rfl) rfl
theorem q1177 : (Jvm.Cond.selects "ThereAndBack$Sum" ({ cls := "java/lang/Object", name := "getClass", desc := "()Ljava/lang/Class;" } : Jvm.MethodName) ({ cls := "java/lang/Object", name := "getClass", desc := "()Ljava/lang/Class;" } : Jvm.MethodName)) ∈ lw_all := lw_g (lw_at lw_m5 73 rfl) rfl
theorem q1476 : (Jvm.Cond.selects "ThereAndBack$Sum" ({ cls := "ThereAndBack$Expr", name := "names", desc := "()I" } : Jvm.MethodName) ({ cls := "ThereAndBack$Expr", name := "names", desc := "()I" } : Jvm.MethodName)) ∈ lw_all := lw_g (lw_at lw_m6 132 rfl) rfl
theorem q1616 : (Jvm.Cond.selects "ThereAndBack$Sum" ({ cls := "ThereAndBack$Expr", name := "print", desc := "(LThereAndBack;)V" } : Jvm.MethodName) ({ cls := "ThereAndBack$Two", name := "print", desc := "(LThereAndBack;)V" } : Jvm.MethodName)) ∈ lw_all := lw_g (lw_at lw_m7 32 rfl) rfl
theorem q1989 : (Jvm.Cond.selects "ThereAndBack$Sum" ({ cls := "ThereAndBack$Two", name := "reckon", desc := "(LThereAndBack;JJ)J" } : Jvm.MethodName) ({ cls := "ThereAndBack$Sum", name := "reckon", desc := "(LThereAndBack;JJ)J" } : Jvm.MethodName)) ∈ lw_all := lw_g (lw_at lw_m8 165 rfl) rfl
theorem q1990 : (Jvm.Cond.instanceMethod ({ cls := "ThereAndBack$Sum", name := "reckon", desc := "(LThereAndBack;JJ)J" } : Jvm.MethodName)) ∈ lw_all := lw_g (lw_at lw_m8 166 rfl) rfl
theorem q1991 : (Jvm.Cond.code ({ cls := "ThereAndBack$Sum", name := "reckon", desc := "(LThereAndBack;JJ)J" } : Jvm.MethodName) prog_32_method_2_code (6 : Nat) (Option.some Jvm.ClassFile.FieldType.long)) ∈ lw_all := lw_g (lw_at lw_m8 167 rfl) rfl
theorem q1999 : (Jvm.Cond.selects "ThereAndBack$Sum" ({ cls := "ThereAndBack$Expr", name := "eval", desc := "(LThereAndBack;)J" } : Jvm.MethodName) ({ cls := "ThereAndBack$Two", name := "eval", desc := "(LThereAndBack;)J" } : Jvm.MethodName)) ∈ lw_all := lw_g (lw_at lw_m8 175 rfl) rfl
theorem q3145 : (Jvm.Cond.castable "ThereAndBack$Sum" "java/lang/Object") ∈ lw_tbl := lw_at lw_m13 121 rfl
theorem in_X17 : ∀ w ∈ wsX170, w ∈ lw_all := lw_in wsX170 [825, 826, 827] (by decide +kernel) (by decide +kernel)
/-! ThereAndBack$Step -/
set_option maxRecDepth 100000
def RX18 : String := "ThereAndBack$Step"
abbrev cX18_init : ByteArray := prog_31_method_1_code
def yX18_init : MethodName := ⟨RX18, "<init>", "()V"⟩
theorem dX18_init_0 : decode cX18_init 0 = .ok (.aload_n 0, 1) := by decide +kernel
theorem dX18_init_1 : decode cX18_init 1 = .ok (.invokespecial 1, 3) := by decide +kernel
theorem dX18_init_4 : decode cX18_init 4 = .ok (.return_, 1) := by decide +kernel
abbrev cX18_code : ByteArray := prog_31_method_2_code
def yX18_code : MethodName := ⟨RX18, "code", "()I"⟩
theorem dX18_code_0 : decode cX18_code 0 = .ok (.iconst 1, 1) := by decide +kernel
theorem dX18_code_1 : decode cX18_code 1 = .ok (.ireturn, 1) := by decide +kernel
abbrev cX18_isOrdinary : ByteArray := prog_31_method_5_code
def yX18_isOrdinary : MethodName := ⟨RX18, "isOrdinary", "()Z"⟩
theorem dX18_isOrdinary_0 : decode cX18_isOrdinary 0 = .ok (.iconst 0, 1) := by decide +kernel
theorem dX18_isOrdinary_1 : decode cX18_isOrdinary 1 = .ok (.ireturn, 1) := by decide +kernel
abbrev cX18_braces : ByteArray := prog_31_method_6_code
def yX18_braces : MethodName := ⟨RX18, "braces", "()I"⟩
theorem dX18_braces_0 : decode cX18_braces 0 = .ok (.iconst 0, 1) := by decide +kernel
theorem dX18_braces_1 : decode cX18_braces 1 = .ok (.ireturn, 1) := by decide +kernel
abbrev cX18_turn : ByteArray := prog_31_method_9_code
def yX18_turn : MethodName := ⟨RX18, "turn", "(Ljava/util/List;I)V"⟩
def dkwX18_turn_0 : List UInt8 := [43, 42, 185, 0, 7, 2, 0, 87, 177]
abbrev dktX18_turn_0 : List UInt8 := dkwX18_turn_0 ++ []
theorem dksX18_turn_0 : cX18_turn.data.toList.drop 0 = dktX18_turn_0 := by decide +kernel
theorem dX18_turn_0 : decode cX18_turn 0 = .ok (.aload_n 1, 1) := dk_43 (dk_at dksX18_turn_0 0 rfl rfl)
theorem dX18_turn_1 : decode cX18_turn 1 = .ok (.aload_n 0, 1) := dk_42 (dk_at dksX18_turn_0 1 rfl rfl)
theorem dX18_turn_2 : decode cX18_turn 2 = .ok (.invokeinterface 7 2, 5) := by decide +kernel
theorem dX18_turn_7 : decode cX18_turn 7 = .ok (.pop, 1) := dk_87 (dk_at dksX18_turn_0 7 rfl rfl)
theorem dX18_turn_8 : decode cX18_turn 8 = .ok (.return_, 1) := dk_177 (dk_at dksX18_turn_0 8 rfl rfl)
abbrev cX18_walk : ByteArray := prog_31_method_10_code
def yX18_walk : MethodName := ⟨RX18, "walk", "(LThereAndBack;)V"⟩
theorem dX18_walk_0 : decode cX18_walk 0 = .ok (.return_, 1) := by decide +kernel
theorem q172 : (Jvm.Cond.initialized "ThereAndBack$Step") ∈ lw_all := lw_g (lw_at lw_m1 28 rfl) rfl
theorem q852 : (Jvm.Cond.instanceMethod ({ cls := "ThereAndBack$Step", name := "<init>", desc := "()V" } : Jvm.MethodName)) ∈ lw_all := lw_g (lw_at lw_m3 228 rfl) rfl
theorem q853 : (Jvm.Cond.code ({ cls := "ThereAndBack$Step", name := "<init>", desc := "()V" } : Jvm.MethodName) prog_31_method_1_code (1 : Nat) (Option.none : Option Jvm.ClassFile.FieldType)) ∈ lw_all := lw_g (lw_at lw_m3 229 rfl) rfl
theorem q854 : (Jvm.Cond.methodLink "ThereAndBack$Step" (1 : Nat) ({ cls := "java/lang/Object", name := "<init>", desc := "()V" } : Jvm.MethodName)) ∈ lw_all := lw_g (lw_at lw_m3 230 rfl) rfl
theorem q1246 : (Jvm.Cond.declares ({ cls := "ThereAndBack$Step", name := "lay", desc := "(Ljava/util/List;)V" } : Jvm.MethodName)) ∈ lw_tbl := lw_at lw_m5 142 rfl
theorem q1247 : (Jvm.Cond.sameMethod "ThereAndBack$Step" "ThereAndBack$Step" "lay" "(Ljava/util/List;)V") ∈ lw_all := lw_g (lw_at lw_m5 143 rfl) rfl
theorem q1349 : (Jvm.Cond.instanceMethod ({ cls := "ThereAndBack$Step", name := "code", desc := "()I" } : Jvm.MethodName)) ∈ lw_all := lw_g (lw_at lw_m6 5 rfl) rfl
theorem q1350 : (Jvm.Cond.sameMethod "ThereAndBack$Step" "ThereAndBack$Step" "code" "()I") ∈ lw_all := lw_g (lw_at lw_m6 6 rfl) rfl
theorem q1371 : (Jvm.Cond.code ({ cls := "ThereAndBack$Step", name := "code", desc := "()I" } : Jvm.MethodName) prog_31_method_2_code (1 : Nat) (Option.some Jvm.ClassFile.FieldType.int)) ∈ lw_all := lw_g (lw_at lw_m6 27 rfl) rfl
theorem q1408 : (Jvm.Cond.instanceMethod ({ cls := "ThereAndBack$Step", name := "isOrdinary", desc := "()Z" } : Jvm.MethodName)) ∈ lw_all := lw_g (lw_at lw_m6 64 rfl) rfl
theorem q1409 : (Jvm.Cond.sameMethod "ThereAndBack$Step" "ThereAndBack$Step" "isOrdinary" "()Z") ∈ lw_all := lw_g (lw_at lw_m6 65 rfl) rfl
theorem q1423 : (Jvm.Cond.code ({ cls := "ThereAndBack$Step", name := "isOrdinary", desc := "()Z" } : Jvm.MethodName) prog_31_method_5_code (1 : Nat) (Option.some Jvm.ClassFile.FieldType.boolean)) ∈ lw_all := lw_g (lw_at lw_m6 79 rfl) rfl
theorem q1429 : (Jvm.Cond.instanceMethod ({ cls := "ThereAndBack$Step", name := "braces", desc := "()I" } : Jvm.MethodName)) ∈ lw_all := lw_g (lw_at lw_m6 85 rfl) rfl
theorem q1430 : (Jvm.Cond.sameMethod "ThereAndBack$Step" "ThereAndBack$Step" "braces" "()I") ∈ lw_all := lw_g (lw_at lw_m6 86 rfl) rfl
theorem q1453 : (Jvm.Cond.code ({ cls := "ThereAndBack$Step", name := "braces", desc := "()I" } : Jvm.MethodName) prog_31_method_6_code (1 : Nat) (Option.some Jvm.ClassFile.FieldType.int)) ∈ lw_all := lw_g (lw_at lw_m6 109 rfl) rfl
theorem q1460 : (Jvm.Cond.declares ({ cls := "ThereAndBack$Step", name := "names", desc := "()I" } : Jvm.MethodName)) ∈ lw_tbl := lw_at lw_m6 116 rfl
theorem q1461 : (Jvm.Cond.sameMethod "ThereAndBack$Step" "ThereAndBack$Step" "names" "()I") ∈ lw_all := lw_g (lw_at lw_m6 117 rfl) rfl
theorem q1536 : (Jvm.Cond.declares ({ cls := "ThereAndBack$Step", name := "print", desc := "(LThereAndBack;)V" } : Jvm.MethodName)) ∈ lw_tbl := lw_at lw_m6 192 rfl
theorem q1537 : (Jvm.Cond.sameMethod "ThereAndBack$Step" "ThereAndBack$Step" "print" "(LThereAndBack;)V") ∈ lw_all := lw_g (lw_at lw_m6 193 rfl) rfl
theorem q1754 : (Jvm.Cond.declares ({ cls := "ThereAndBack$Step", name := "mirror", desc := "()LThereAndBack$Step;" } : Jvm.MethodName)) ∈ lw_tbl := lw_at lw_m7 170 rfl
theorem q1755 : (Jvm.Cond.sameMethod "ThereAndBack$Step" "ThereAndBack$Step" "mirror" "()LThereAndBack$Step;") ∈ lw_all := lw_g (lw_at lw_m7 171 rfl) rfl
theorem q1815 : (Jvm.Cond.instanceMethod ({ cls := "ThereAndBack$Step", name := "turn", desc := "(Ljava/util/List;I)V" } : Jvm.MethodName)) ∈ lw_all := lw_g (lw_at lw_m7 231 rfl) rfl
theorem q1816 : (Jvm.Cond.sameMethod "ThereAndBack$Step" "ThereAndBack$Step" "turn" "(Ljava/util/List;I)V") ∈ lw_all := lw_g (lw_at lw_m7 232 rfl) rfl
theorem q1905 : (Jvm.Cond.code ({ cls := "ThereAndBack$Step", name := "turn", desc := "(Ljava/util/List;I)V" } : Jvm.MethodName) prog_31_method_9_code (3 : Nat) (Option.none : Option Jvm.ClassFile.FieldType)) ∈ lw_all := lw_g (lw_at lw_m8 81 rfl) rfl
theorem q1906 : (Jvm.Cond.interfaceEntry "ThereAndBack$Step" (7 : Nat)) ∈ lw_tbl := lw_at lw_m8 82 rfl
theorem q1907 : (Jvm.Cond.methodLink "ThereAndBack$Step" (7 : Nat) ({ cls := "java/util/List", name := "add", desc := "(Ljava/lang/Object;)Z" } : Jvm.MethodName)) ∈ lw_all := lw_g (lw_at lw_m8 83 rfl) rfl
theorem q1918 : (Jvm.Cond.instanceMethod ({ cls := "ThereAndBack$Step", name := "walk", desc := "(LThereAndBack;)V" } : Jvm.MethodName)) ∈ lw_all := lw_g (lw_at lw_m8 94 rfl) rfl
theorem q1919 : (Jvm.Cond.sameMethod "ThereAndBack$Step" "ThereAndBack$Step" "walk" "(LThereAndBack;)V") ∈ lw_all := lw_g (lw_at lw_m8 95 rfl) rfl
theorem q2020 : (Jvm.Cond.code ({ cls := "ThereAndBack$Step", name := "walk", desc := "(LThereAndBack;)V" } : Jvm.MethodName) prog_31_method_10_code (2 : Nat) (Option.none : Option Jvm.ClassFile.FieldType)) ∈ lw_all := lw_g (lw_at lw_m8 196 rfl) rfl
/-! ThereAndBack$Single -/
set_option maxRecDepth 100000
def RX19 : String := "ThereAndBack$Single"
abbrev cX19_init : ByteArray := prog_29_method_1_code
def yX19_init : MethodName := ⟨RX19, "<init>", "()V"⟩
theorem dX19_init_0 : decode cX19_init 0 = .ok (.aload_n 0, 1) := by decide +kernel
theorem dX19_init_1 : decode cX19_init 1 = .ok (.invokespecial 1, 3) := by decide +kernel
theorem dX19_init_4 : decode cX19_init 4 = .ok (.return_, 1) := by decide +kernel
abbrev cX19_lay : ByteArray := prog_29_method_4_code
def yX19_lay : MethodName := ⟨RX19, "lay", "(Ljava/util/List;)V"⟩
def dkwX19_lay_0 : List UInt8 := [43, 187, 0, 7, 89, 42, 183, 0, 9, 185, 0, 12, 2, 0, 87, 177]
abbrev dktX19_lay_0 : List UInt8 := dkwX19_lay_0 ++ []
theorem dksX19_lay_0 : cX19_lay.data.toList.drop 0 = dktX19_lay_0 := by decide +kernel
theorem dX19_lay_0 : decode cX19_lay 0 = .ok (.aload_n 1, 1) := dk_43 (dk_at dksX19_lay_0 0 rfl rfl)
theorem dX19_lay_1 : decode cX19_lay 1 = .ok (.new 7, 3) := dk_187 0 7 (dk_at dksX19_lay_0 1 rfl rfl)
theorem dX19_lay_4 : decode cX19_lay 4 = .ok (.dup, 1) := dk_89 (dk_at dksX19_lay_0 4 rfl rfl)
theorem dX19_lay_5 : decode cX19_lay 5 = .ok (.aload_n 0, 1) := dk_42 (dk_at dksX19_lay_0 5 rfl rfl)
theorem dX19_lay_6 : decode cX19_lay 6 = .ok (.invokespecial 9, 3) := dk_183 0 9 (dk_at dksX19_lay_0 6 rfl rfl)
theorem dX19_lay_9 : decode cX19_lay 9 = .ok (.invokeinterface 12 2, 5) := by decide +kernel
theorem dX19_lay_14 : decode cX19_lay 14 = .ok (.pop, 1) := dk_87 (dk_at dksX19_lay_0 14 rfl rfl)
theorem dX19_lay_15 : decode cX19_lay 15 = .ok (.return_, 1) := dk_177 (dk_at dksX19_lay_0 15 rfl rfl)
theorem q173 : (Jvm.Cond.initialized "ThereAndBack$Single") ∈ lw_all := lw_g (lw_at lw_m1 29 rfl) rfl
theorem q849 : (Jvm.Cond.instanceMethod ({ cls := "ThereAndBack$Single", name := "<init>", desc := "()V" } : Jvm.MethodName)) ∈ lw_all := lw_g (lw_at lw_m3 225 rfl) rfl
theorem q850 : (Jvm.Cond.code ({ cls := "ThereAndBack$Single", name := "<init>", desc := "()V" } : Jvm.MethodName) prog_29_method_1_code (1 : Nat) (Option.none : Option Jvm.ClassFile.FieldType)) ∈ lw_all := lw_g (lw_at lw_m3 226 rfl) rfl
theorem q851 : (Jvm.Cond.methodLinkNest "ThereAndBack$Single" (1 : Nat) ({ cls := "ThereAndBack$Step", name := "<init>", desc := "()V" } : Jvm.MethodName) "ThereAndBack") ∈ lw_tbl := lw_at lw_m3 227 rfl
theorem q1271 : (Jvm.Cond.instanceMethod ({ cls := "ThereAndBack$Single", name := "lay", desc := "(Ljava/util/List;)V" } : Jvm.MethodName)) ∈ lw_all := lw_g (lw_at lw_m5 167 rfl) rfl
theorem q1272 : (Jvm.Cond.code ({ cls := "ThereAndBack$Single", name := "lay", desc := "(Ljava/util/List;)V" } : Jvm.MethodName) prog_29_method_4_code (2 : Nat) (Option.none : Option Jvm.ClassFile.FieldType)) ∈ lw_all := lw_g (lw_at lw_m5 168 rfl) rfl
theorem q1273 : (Jvm.Cond.classLink "ThereAndBack$Single" (7 : Nat) "ThereAndBack$Over") ∈ lw_all := lw_g (lw_at lw_m5 169 rfl) rfl
theorem q1275 : (Jvm.Cond.methodLink "ThereAndBack$Single" (9 : Nat) ({ cls := "ThereAndBack$Over", name := "<init>", desc := "(LThereAndBack$Single;)V" } : Jvm.MethodName)) ∈ lw_all := lw_g (lw_at lw_m5 171 rfl) rfl
theorem q1283 : (Jvm.Cond.interfaceEntry "ThereAndBack$Single" (12 : Nat)) ∈ lw_tbl := lw_at lw_m5 179 rfl
theorem q1284 : (Jvm.Cond.methodLink "ThereAndBack$Single" (12 : Nat) ({ cls := "java/util/List", name := "add", desc := "(Ljava/lang/Object;)Z" } : Jvm.MethodName)) ∈ lw_all := lw_g (lw_at lw_m5 180 rfl) rfl
theorem q2118 : (Jvm.Cond.declares ({ cls := "ThereAndBack$Single", name := "doForward", desc := "(LThereAndBack;)V" } : Jvm.MethodName)) ∈ lw_tbl := lw_at lw_m9 54 rfl
theorem q2119 : (Jvm.Cond.sameMethod "ThereAndBack$Single" "ThereAndBack$Single" "doForward" "(LThereAndBack;)V") ∈ lw_all := lw_g (lw_at lw_m9 55 rfl) rfl
theorem q2224 : (Jvm.Cond.declares ({ cls := "ThereAndBack$Single", name := "doBack", desc := "(LThereAndBack;)V" } : Jvm.MethodName)) ∈ lw_tbl := lw_at lw_m9 160 rfl
theorem q2225 : (Jvm.Cond.sameMethod "ThereAndBack$Single" "ThereAndBack$Single" "doBack" "(LThereAndBack;)V") ∈ lw_all := lw_g (lw_at lw_m9 161 rfl) rfl
/-! ThereAndBack$Swap -/
set_option maxRecDepth 100000
def RX20 : String := "ThereAndBack$Swap"
def TX20 : u_T := fun k => match k with
  | 0 => ("ThereAndBack$Swap", "first", "LThereAndBack$Place;", true)
  | _ => ("ThereAndBack$Swap", "second", "LThereAndBack$Place;", true)
def tyX20 : Nat → FieldType := fun k => match k with
  | 0 => .object "ThereAndBack$Place"
  | _ => .object "ThereAndBack$Place"
abbrev wsX200 : List Cond := u_ws RX20 TX20 2
theorem nmX20 : ∀ a, a < 2 → ∀ b, b < 2 → a ≠ b → (TX20 a).2.1 ≠ (TX20 b).2.1 := by decide +kernel
theorem tyX20_ok : ∀ k, k < 2 → parseFieldDescriptor (TX20 k).2.2.1 = some (tyX20 k) := by decide +kernel
abbrev cX20_init : ByteArray := prog_33_method_1_code
def yX20_init : MethodName := ⟨RX20, "<init>", "(LThereAndBack$Place;LThereAndBack$Place;)V"⟩
def dkwX20_init_0 : List UInt8 := [42, 183, 0, 3, 42, 43, 181, 0, 9, 42, 44, 181, 0, 15, 177]
abbrev dktX20_init_0 : List UInt8 := dkwX20_init_0 ++ []
theorem dksX20_init_0 : cX20_init.data.toList.drop 0 = dktX20_init_0 := by decide +kernel
theorem dX20_init_0 : decode cX20_init 0 = .ok (.aload_n 0, 1) := dk_42 (dk_at dksX20_init_0 0 rfl rfl)
theorem dX20_init_1 : decode cX20_init 1 = .ok (.invokespecial 3, 3) := dk_183 0 3 (dk_at dksX20_init_0 1 rfl rfl)
theorem dX20_init_4 : decode cX20_init 4 = .ok (.aload_n 0, 1) := dk_42 (dk_at dksX20_init_0 4 rfl rfl)
theorem dX20_init_5 : decode cX20_init 5 = .ok (.aload_n 1, 1) := dk_43 (dk_at dksX20_init_0 5 rfl rfl)
theorem dX20_init_6 : decode cX20_init 6 = .ok (.putfield 9, 3) := dk_181 0 9 (dk_at dksX20_init_0 6 rfl rfl)
theorem dX20_init_9 : decode cX20_init 9 = .ok (.aload_n 0, 1) := dk_42 (dk_at dksX20_init_0 9 rfl rfl)
theorem dX20_init_10 : decode cX20_init 10 = .ok (.aload_n 2, 1) := dk_44 (dk_at dksX20_init_0 10 rfl rfl)
theorem dX20_init_11 : decode cX20_init 11 = .ok (.putfield 15, 3) := dk_181 0 15 (dk_at dksX20_init_0 11 rfl rfl)
theorem dX20_init_14 : decode cX20_init 14 = .ok (.return_, 1) := dk_177 (dk_at dksX20_init_0 14 rfl rfl)
abbrev cX20_names : ByteArray := prog_33_method_6_code
def yX20_names : MethodName := ⟨RX20, "names", "()I"⟩
def dkwX20_names_0 : List UInt8 := [42, 180, 0, 9, 182, 0, 95, 42, 180, 0, 15, 182, 0, 95, 128, 172]
abbrev dktX20_names_0 : List UInt8 := dkwX20_names_0 ++ []
theorem dksX20_names_0 : cX20_names.data.toList.drop 0 = dktX20_names_0 := by decide +kernel
theorem dX20_names_0 : decode cX20_names 0 = .ok (.aload_n 0, 1) := dk_42 (dk_at dksX20_names_0 0 rfl rfl)
theorem dX20_names_1 : decode cX20_names 1 = .ok (.getfield 9, 3) := dk_180 0 9 (dk_at dksX20_names_0 1 rfl rfl)
theorem dX20_names_4 : decode cX20_names 4 = .ok (.invokevirtual 95, 3) := dk_182 0 95 (dk_at dksX20_names_0 4 rfl rfl)
theorem dX20_names_7 : decode cX20_names 7 = .ok (.aload_n 0, 1) := dk_42 (dk_at dksX20_names_0 7 rfl rfl)
theorem dX20_names_8 : decode cX20_names 8 = .ok (.getfield 15, 3) := dk_180 0 15 (dk_at dksX20_names_0 8 rfl rfl)
theorem dX20_names_11 : decode cX20_names 11 = .ok (.invokevirtual 95, 3) := dk_182 0 95 (dk_at dksX20_names_0 11 rfl rfl)
theorem dX20_names_14 : decode cX20_names 14 = .ok (.ior, 1) := dk_128 (dk_at dksX20_names_0 14 rfl rfl)
theorem dX20_names_15 : decode cX20_names 15 = .ok (.ireturn, 1) := dk_172 (dk_at dksX20_names_0 15 rfl rfl)
abbrev cX20_print : ByteArray := prog_33_method_5_code
def yX20_print : MethodName := ⟨RX20, "print", "(LThereAndBack;)V"⟩
def dkwX20_print_1 : List UInt8 := [16, 59, 182, 0, 91, 177]
abbrev dktX20_print_1 : List UInt8 := dkwX20_print_1 ++ []
def dkwX20_print_0 : List UInt8 := [42, 180, 0, 9, 43, 182, 0, 82, 43, 18, 85, 182, 0, 87, 42, 180, 0, 15, 43, 182, 0, 82, 43]
abbrev dktX20_print_0 : List UInt8 := dkwX20_print_0 ++ dktX20_print_1
theorem dksX20_print_0 : cX20_print.data.toList.drop 0 = dktX20_print_0 := by decide +kernel
theorem dksX20_print_1 : cX20_print.data.toList.drop 23 = dktX20_print_1 := dk_seg dksX20_print_0 23 rfl rfl
theorem dX20_print_0 : decode cX20_print 0 = .ok (.aload_n 0, 1) := dk_42 (dk_at dksX20_print_0 0 rfl rfl)
theorem dX20_print_1 : decode cX20_print 1 = .ok (.getfield 9, 3) := dk_180 0 9 (dk_at dksX20_print_0 1 rfl rfl)
theorem dX20_print_4 : decode cX20_print 4 = .ok (.aload_n 1, 1) := dk_43 (dk_at dksX20_print_0 4 rfl rfl)
theorem dX20_print_5 : decode cX20_print 5 = .ok (.invokevirtual 82, 3) := dk_182 0 82 (dk_at dksX20_print_0 5 rfl rfl)
theorem dX20_print_8 : decode cX20_print 8 = .ok (.aload_n 1, 1) := dk_43 (dk_at dksX20_print_0 8 rfl rfl)
theorem dX20_print_9 : decode cX20_print 9 = .ok (.ldc 85, 2) := dk_18 85 (dk_at dksX20_print_0 9 rfl rfl)
theorem dX20_print_11 : decode cX20_print 11 = .ok (.invokevirtual 87, 3) := dk_182 0 87 (dk_at dksX20_print_0 11 rfl rfl)
theorem dX20_print_14 : decode cX20_print 14 = .ok (.aload_n 0, 1) := dk_42 (dk_at dksX20_print_0 14 rfl rfl)
theorem dX20_print_15 : decode cX20_print 15 = .ok (.getfield 15, 3) := dk_180 0 15 (dk_at dksX20_print_0 15 rfl rfl)
theorem dX20_print_18 : decode cX20_print 18 = .ok (.aload_n 1, 1) := dk_43 (dk_at dksX20_print_0 18 rfl rfl)
theorem dX20_print_19 : decode cX20_print 19 = .ok (.invokevirtual 82, 3) := dk_182 0 82 (dk_at dksX20_print_0 19 rfl rfl)
theorem dX20_print_22 : decode cX20_print 22 = .ok (.aload_n 1, 1) := dk_43 (dk_at dksX20_print_0 22 rfl rfl)
theorem dX20_print_23 : decode cX20_print 23 = .ok (.bipush 59, 2) := dk_16 59 (dk_at dksX20_print_1 0 rfl rfl)
theorem dX20_print_25 : decode cX20_print 25 = .ok (.invokevirtual 91, 3) := dk_182 0 91 (dk_at dksX20_print_1 2 rfl rfl)
theorem dX20_print_28 : decode cX20_print 28 = .ok (.return_, 1) := dk_177 (dk_at dksX20_print_1 5 rfl rfl)
abbrev cX20_mirror : ByteArray := prog_33_method_7_code
def yX20_mirror : MethodName := ⟨RX20, "mirror", "()LThereAndBack$Step;"⟩
theorem dX20_mirror_0 : decode cX20_mirror 0 = .ok (.aload_n 0, 1) := by decide +kernel
theorem dX20_mirror_1 : decode cX20_mirror 1 = .ok (.areturn, 1) := by decide +kernel
abbrev cX20_doForward : ByteArray := prog_33_method_2_code
def yX20_doForward : MethodName := ⟨RX20, "doForward", "(LThereAndBack;)V"⟩
def dkwX20_doForward_7 : List UInt8 := [180, 0, 15, 43, 29, 182, 0, 50, 182, 0, 54, 42, 180, 0, 15, 43, 29, 22, 4, 182, 0, 54, 177]
abbrev dktX20_doForward_7 : List UInt8 := dkwX20_doForward_7 ++ []
def dkwX20_doForward_6 : List UInt8 := [43, 182, 0, 47, 42, 180, 0, 9, 43, 28, 182, 0, 50, 55, 4, 42, 180, 0, 9, 43, 28, 42]
abbrev dktX20_doForward_6 : List UInt8 := dkwX20_doForward_6 ++ dktX20_doForward_7
def dkwX20_doForward_5 : List UInt8 := [180, 0, 9, 180, 0, 39, 182, 0, 43, 42, 180, 0, 15, 43, 42, 180, 0, 15, 180, 0, 39, 182, 0, 43]
abbrev dktX20_doForward_5 : List UInt8 := dkwX20_doForward_5 ++ dktX20_doForward_6
def dkwX20_doForward_4 : List UInt8 := [180, 0, 15, 180, 0, 39, 182, 0, 43, 43, 42, 180, 0, 15, 29, 182, 0, 35, 42, 180, 0, 15, 43, 42]
abbrev dktX20_doForward_4 : List UInt8 := dkwX20_doForward_4 ++ dktX20_doForward_5
def dkwX20_doForward_3 : List UInt8 := [182, 0, 35, 42, 180, 0, 9, 43, 42, 180, 0, 9, 180, 0, 39, 182, 0, 43, 42, 180, 0, 9, 43, 42]
abbrev dktX20_doForward_3 : List UInt8 := dkwX20_doForward_3 ++ dktX20_doForward_4
def dkwX20_doForward_2 : List UInt8 := [28, 29, 182, 0, 31, 153, 0, 11, 43, 180, 0, 27, 16, 6, 50, 191, 43, 42, 180, 0, 9, 28]
abbrev dktX20_doForward_2 : List UInt8 := dkwX20_doForward_2 ++ dktX20_doForward_3
def dkwX20_doForward_1 : List UInt8 := [182, 0, 24, 42, 180, 0, 15, 43, 182, 0, 24, 159, 0, 11, 43, 180, 0, 27, 16, 10, 50, 191, 42, 43]
abbrev dktX20_doForward_1 : List UInt8 := dkwX20_doForward_1 ++ dktX20_doForward_2
def dkwX20_doForward_0 : List UInt8 := [42, 180, 0, 9, 43, 182, 0, 18, 61, 42, 180, 0, 15, 43, 182, 0, 18, 62, 42, 180, 0, 9, 43]
abbrev dktX20_doForward_0 : List UInt8 := dkwX20_doForward_0 ++ dktX20_doForward_1
theorem dksX20_doForward_0 : cX20_doForward.data.toList.drop 0 = dktX20_doForward_0 := by decide +kernel
theorem dksX20_doForward_1 : cX20_doForward.data.toList.drop 23 = dktX20_doForward_1 := dk_seg dksX20_doForward_0 23 rfl rfl
theorem dksX20_doForward_2 : cX20_doForward.data.toList.drop 47 = dktX20_doForward_2 := dk_seg dksX20_doForward_1 24 rfl rfl
theorem dksX20_doForward_3 : cX20_doForward.data.toList.drop 69 = dktX20_doForward_3 := dk_seg dksX20_doForward_2 22 rfl rfl
theorem dksX20_doForward_4 : cX20_doForward.data.toList.drop 93 = dktX20_doForward_4 := dk_seg dksX20_doForward_3 24 rfl rfl
theorem dksX20_doForward_5 : cX20_doForward.data.toList.drop 117 = dktX20_doForward_5 := dk_seg dksX20_doForward_4 24 rfl rfl
theorem dksX20_doForward_6 : cX20_doForward.data.toList.drop 141 = dktX20_doForward_6 := dk_seg dksX20_doForward_5 24 rfl rfl
theorem dksX20_doForward_7 : cX20_doForward.data.toList.drop 163 = dktX20_doForward_7 := dk_seg dksX20_doForward_6 22 rfl rfl
theorem dX20_doForward_0 : decode cX20_doForward 0 = .ok (.aload_n 0, 1) := dk_42 (dk_at dksX20_doForward_0 0 rfl rfl)
theorem dX20_doForward_1 : decode cX20_doForward 1 = .ok (.getfield 9, 3) := dk_180 0 9 (dk_at dksX20_doForward_0 1 rfl rfl)
theorem dX20_doForward_4 : decode cX20_doForward 4 = .ok (.aload_n 1, 1) := dk_43 (dk_at dksX20_doForward_0 4 rfl rfl)
theorem dX20_doForward_5 : decode cX20_doForward 5 = .ok (.invokevirtual 18, 3) := dk_182 0 18 (dk_at dksX20_doForward_0 5 rfl rfl)
theorem dX20_doForward_8 : decode cX20_doForward 8 = .ok (.istore_n 2, 1) := dk_61 (dk_at dksX20_doForward_0 8 rfl rfl)
theorem dX20_doForward_9 : decode cX20_doForward 9 = .ok (.aload_n 0, 1) := dk_42 (dk_at dksX20_doForward_0 9 rfl rfl)
theorem dX20_doForward_10 : decode cX20_doForward 10 = .ok (.getfield 15, 3) := dk_180 0 15 (dk_at dksX20_doForward_0 10 rfl rfl)
theorem dX20_doForward_13 : decode cX20_doForward 13 = .ok (.aload_n 1, 1) := dk_43 (dk_at dksX20_doForward_0 13 rfl rfl)
theorem dX20_doForward_14 : decode cX20_doForward 14 = .ok (.invokevirtual 18, 3) := dk_182 0 18 (dk_at dksX20_doForward_0 14 rfl rfl)
theorem dX20_doForward_17 : decode cX20_doForward 17 = .ok (.istore_n 3, 1) := dk_62 (dk_at dksX20_doForward_0 17 rfl rfl)
theorem dX20_doForward_18 : decode cX20_doForward 18 = .ok (.aload_n 0, 1) := dk_42 (dk_at dksX20_doForward_0 18 rfl rfl)
theorem dX20_doForward_19 : decode cX20_doForward 19 = .ok (.getfield 9, 3) := dk_180 0 9 (dk_at dksX20_doForward_0 19 rfl rfl)
theorem dX20_doForward_22 : decode cX20_doForward 22 = .ok (.aload_n 1, 1) := dk_43 (dk_at dksX20_doForward_0 22 rfl rfl)
theorem dX20_doForward_23 : decode cX20_doForward 23 = .ok (.invokevirtual 24, 3) := dk_182 0 24 (dk_at dksX20_doForward_1 0 rfl rfl)
theorem dX20_doForward_26 : decode cX20_doForward 26 = .ok (.aload_n 0, 1) := dk_42 (dk_at dksX20_doForward_1 3 rfl rfl)
theorem dX20_doForward_27 : decode cX20_doForward 27 = .ok (.getfield 15, 3) := dk_180 0 15 (dk_at dksX20_doForward_1 4 rfl rfl)
theorem dX20_doForward_30 : decode cX20_doForward 30 = .ok (.aload_n 1, 1) := dk_43 (dk_at dksX20_doForward_1 7 rfl rfl)
theorem dX20_doForward_31 : decode cX20_doForward 31 = .ok (.invokevirtual 24, 3) := dk_182 0 24 (dk_at dksX20_doForward_1 8 rfl rfl)
theorem dX20_doForward_34 : decode cX20_doForward 34 = .ok (.if_icmp .eq 11, 3) := dk_159 0 11 (dk_at dksX20_doForward_1 11 rfl rfl)
theorem dX20_doForward_37 : decode cX20_doForward 37 = .ok (.aload_n 1, 1) := dk_43 (dk_at dksX20_doForward_1 14 rfl rfl)
theorem dX20_doForward_38 : decode cX20_doForward 38 = .ok (.getfield 27, 3) := dk_180 0 27 (dk_at dksX20_doForward_1 15 rfl rfl)
theorem dX20_doForward_41 : decode cX20_doForward 41 = .ok (.bipush 10, 2) := dk_16 10 (dk_at dksX20_doForward_1 18 rfl rfl)
theorem dX20_doForward_43 : decode cX20_doForward 43 = .ok (.aaload, 1) := dk_50 (dk_at dksX20_doForward_1 20 rfl rfl)
theorem dX20_doForward_44 : decode cX20_doForward 44 = .ok (.athrow, 1) := dk_191 (dk_at dksX20_doForward_1 21 rfl rfl)
theorem dX20_doForward_45 : decode cX20_doForward 45 = .ok (.aload_n 0, 1) := dk_42 (dk_at dksX20_doForward_1 22 rfl rfl)
theorem dX20_doForward_46 : decode cX20_doForward 46 = .ok (.aload_n 1, 1) := dk_43 (dk_at dksX20_doForward_1 23 rfl rfl)
theorem dX20_doForward_47 : decode cX20_doForward 47 = .ok (.iload_n 2, 1) := dk_28 (dk_at dksX20_doForward_2 0 rfl rfl)
theorem dX20_doForward_48 : decode cX20_doForward 48 = .ok (.iload_n 3, 1) := dk_29 (dk_at dksX20_doForward_2 1 rfl rfl)
theorem dX20_doForward_49 : decode cX20_doForward 49 = .ok (.invokevirtual 31, 3) := dk_182 0 31 (dk_at dksX20_doForward_2 2 rfl rfl)
theorem dX20_doForward_52 : decode cX20_doForward 52 = .ok (.ifCond .eq 11, 3) := dk_153 0 11 (dk_at dksX20_doForward_2 5 rfl rfl)
theorem dX20_doForward_55 : decode cX20_doForward 55 = .ok (.aload_n 1, 1) := dk_43 (dk_at dksX20_doForward_2 8 rfl rfl)
theorem dX20_doForward_56 : decode cX20_doForward 56 = .ok (.getfield 27, 3) := dk_180 0 27 (dk_at dksX20_doForward_2 9 rfl rfl)
theorem dX20_doForward_59 : decode cX20_doForward 59 = .ok (.bipush 6, 2) := dk_16 6 (dk_at dksX20_doForward_2 12 rfl rfl)
theorem dX20_doForward_61 : decode cX20_doForward 61 = .ok (.aaload, 1) := dk_50 (dk_at dksX20_doForward_2 14 rfl rfl)
theorem dX20_doForward_62 : decode cX20_doForward 62 = .ok (.athrow, 1) := dk_191 (dk_at dksX20_doForward_2 15 rfl rfl)
theorem dX20_doForward_63 : decode cX20_doForward 63 = .ok (.aload_n 1, 1) := dk_43 (dk_at dksX20_doForward_2 16 rfl rfl)
theorem dX20_doForward_64 : decode cX20_doForward 64 = .ok (.aload_n 0, 1) := dk_42 (dk_at dksX20_doForward_2 17 rfl rfl)
theorem dX20_doForward_65 : decode cX20_doForward 65 = .ok (.getfield 9, 3) := dk_180 0 9 (dk_at dksX20_doForward_2 18 rfl rfl)
theorem dX20_doForward_68 : decode cX20_doForward 68 = .ok (.iload_n 2, 1) := dk_28 (dk_at dksX20_doForward_2 21 rfl rfl)
theorem dX20_doForward_69 : decode cX20_doForward 69 = .ok (.invokevirtual 35, 3) := dk_182 0 35 (dk_at dksX20_doForward_3 0 rfl rfl)
theorem dX20_doForward_72 : decode cX20_doForward 72 = .ok (.aload_n 0, 1) := dk_42 (dk_at dksX20_doForward_3 3 rfl rfl)
theorem dX20_doForward_73 : decode cX20_doForward 73 = .ok (.getfield 9, 3) := dk_180 0 9 (dk_at dksX20_doForward_3 4 rfl rfl)
theorem dX20_doForward_76 : decode cX20_doForward 76 = .ok (.aload_n 1, 1) := dk_43 (dk_at dksX20_doForward_3 7 rfl rfl)
theorem dX20_doForward_77 : decode cX20_doForward 77 = .ok (.aload_n 0, 1) := dk_42 (dk_at dksX20_doForward_3 8 rfl rfl)
theorem dX20_doForward_78 : decode cX20_doForward 78 = .ok (.getfield 9, 3) := dk_180 0 9 (dk_at dksX20_doForward_3 9 rfl rfl)
theorem dX20_doForward_81 : decode cX20_doForward 81 = .ok (.getfield 39, 3) := dk_180 0 39 (dk_at dksX20_doForward_3 12 rfl rfl)
theorem dX20_doForward_84 : decode cX20_doForward 84 = .ok (.invokevirtual 43, 3) := dk_182 0 43 (dk_at dksX20_doForward_3 15 rfl rfl)
theorem dX20_doForward_87 : decode cX20_doForward 87 = .ok (.aload_n 0, 1) := dk_42 (dk_at dksX20_doForward_3 18 rfl rfl)
theorem dX20_doForward_88 : decode cX20_doForward 88 = .ok (.getfield 9, 3) := dk_180 0 9 (dk_at dksX20_doForward_3 19 rfl rfl)
theorem dX20_doForward_91 : decode cX20_doForward 91 = .ok (.aload_n 1, 1) := dk_43 (dk_at dksX20_doForward_3 22 rfl rfl)
theorem dX20_doForward_92 : decode cX20_doForward 92 = .ok (.aload_n 0, 1) := dk_42 (dk_at dksX20_doForward_3 23 rfl rfl)
theorem dX20_doForward_93 : decode cX20_doForward 93 = .ok (.getfield 15, 3) := dk_180 0 15 (dk_at dksX20_doForward_4 0 rfl rfl)
theorem dX20_doForward_96 : decode cX20_doForward 96 = .ok (.getfield 39, 3) := dk_180 0 39 (dk_at dksX20_doForward_4 3 rfl rfl)
theorem dX20_doForward_99 : decode cX20_doForward 99 = .ok (.invokevirtual 43, 3) := dk_182 0 43 (dk_at dksX20_doForward_4 6 rfl rfl)
theorem dX20_doForward_102 : decode cX20_doForward 102 = .ok (.aload_n 1, 1) := dk_43 (dk_at dksX20_doForward_4 9 rfl rfl)
theorem dX20_doForward_103 : decode cX20_doForward 103 = .ok (.aload_n 0, 1) := dk_42 (dk_at dksX20_doForward_4 10 rfl rfl)
theorem dX20_doForward_104 : decode cX20_doForward 104 = .ok (.getfield 15, 3) := dk_180 0 15 (dk_at dksX20_doForward_4 11 rfl rfl)
theorem dX20_doForward_107 : decode cX20_doForward 107 = .ok (.iload_n 3, 1) := dk_29 (dk_at dksX20_doForward_4 14 rfl rfl)
theorem dX20_doForward_108 : decode cX20_doForward 108 = .ok (.invokevirtual 35, 3) := dk_182 0 35 (dk_at dksX20_doForward_4 15 rfl rfl)
theorem dX20_doForward_111 : decode cX20_doForward 111 = .ok (.aload_n 0, 1) := dk_42 (dk_at dksX20_doForward_4 18 rfl rfl)
theorem dX20_doForward_112 : decode cX20_doForward 112 = .ok (.getfield 15, 3) := dk_180 0 15 (dk_at dksX20_doForward_4 19 rfl rfl)
theorem dX20_doForward_115 : decode cX20_doForward 115 = .ok (.aload_n 1, 1) := dk_43 (dk_at dksX20_doForward_4 22 rfl rfl)
theorem dX20_doForward_116 : decode cX20_doForward 116 = .ok (.aload_n 0, 1) := dk_42 (dk_at dksX20_doForward_4 23 rfl rfl)
theorem dX20_doForward_117 : decode cX20_doForward 117 = .ok (.getfield 9, 3) := dk_180 0 9 (dk_at dksX20_doForward_5 0 rfl rfl)
theorem dX20_doForward_120 : decode cX20_doForward 120 = .ok (.getfield 39, 3) := dk_180 0 39 (dk_at dksX20_doForward_5 3 rfl rfl)
theorem dX20_doForward_123 : decode cX20_doForward 123 = .ok (.invokevirtual 43, 3) := dk_182 0 43 (dk_at dksX20_doForward_5 6 rfl rfl)
theorem dX20_doForward_126 : decode cX20_doForward 126 = .ok (.aload_n 0, 1) := dk_42 (dk_at dksX20_doForward_5 9 rfl rfl)
theorem dX20_doForward_127 : decode cX20_doForward 127 = .ok (.getfield 15, 3) := dk_180 0 15 (dk_at dksX20_doForward_5 10 rfl rfl)
theorem dX20_doForward_130 : decode cX20_doForward 130 = .ok (.aload_n 1, 1) := dk_43 (dk_at dksX20_doForward_5 13 rfl rfl)
theorem dX20_doForward_131 : decode cX20_doForward 131 = .ok (.aload_n 0, 1) := dk_42 (dk_at dksX20_doForward_5 14 rfl rfl)
theorem dX20_doForward_132 : decode cX20_doForward 132 = .ok (.getfield 15, 3) := dk_180 0 15 (dk_at dksX20_doForward_5 15 rfl rfl)
theorem dX20_doForward_135 : decode cX20_doForward 135 = .ok (.getfield 39, 3) := dk_180 0 39 (dk_at dksX20_doForward_5 18 rfl rfl)
theorem dX20_doForward_138 : decode cX20_doForward 138 = .ok (.invokevirtual 43, 3) := dk_182 0 43 (dk_at dksX20_doForward_5 21 rfl rfl)
theorem dX20_doForward_141 : decode cX20_doForward 141 = .ok (.aload_n 1, 1) := dk_43 (dk_at dksX20_doForward_6 0 rfl rfl)
theorem dX20_doForward_142 : decode cX20_doForward 142 = .ok (.invokevirtual 47, 3) := dk_182 0 47 (dk_at dksX20_doForward_6 1 rfl rfl)
theorem dX20_doForward_145 : decode cX20_doForward 145 = .ok (.aload_n 0, 1) := dk_42 (dk_at dksX20_doForward_6 4 rfl rfl)
theorem dX20_doForward_146 : decode cX20_doForward 146 = .ok (.getfield 9, 3) := dk_180 0 9 (dk_at dksX20_doForward_6 5 rfl rfl)
theorem dX20_doForward_149 : decode cX20_doForward 149 = .ok (.aload_n 1, 1) := dk_43 (dk_at dksX20_doForward_6 8 rfl rfl)
theorem dX20_doForward_150 : decode cX20_doForward 150 = .ok (.iload_n 2, 1) := dk_28 (dk_at dksX20_doForward_6 9 rfl rfl)
theorem dX20_doForward_151 : decode cX20_doForward 151 = .ok (.invokevirtual 50, 3) := dk_182 0 50 (dk_at dksX20_doForward_6 10 rfl rfl)
theorem dX20_doForward_154 : decode cX20_doForward 154 = .ok (.lstore 4, 2) := dk_55 4 (dk_at dksX20_doForward_6 13 rfl rfl)
theorem dX20_doForward_156 : decode cX20_doForward 156 = .ok (.aload_n 0, 1) := dk_42 (dk_at dksX20_doForward_6 15 rfl rfl)
theorem dX20_doForward_157 : decode cX20_doForward 157 = .ok (.getfield 9, 3) := dk_180 0 9 (dk_at dksX20_doForward_6 16 rfl rfl)
theorem dX20_doForward_160 : decode cX20_doForward 160 = .ok (.aload_n 1, 1) := dk_43 (dk_at dksX20_doForward_6 19 rfl rfl)
theorem dX20_doForward_161 : decode cX20_doForward 161 = .ok (.iload_n 2, 1) := dk_28 (dk_at dksX20_doForward_6 20 rfl rfl)
theorem dX20_doForward_162 : decode cX20_doForward 162 = .ok (.aload_n 0, 1) := dk_42 (dk_at dksX20_doForward_6 21 rfl rfl)
theorem dX20_doForward_163 : decode cX20_doForward 163 = .ok (.getfield 15, 3) := dk_180 0 15 (dk_at dksX20_doForward_7 0 rfl rfl)
theorem dX20_doForward_166 : decode cX20_doForward 166 = .ok (.aload_n 1, 1) := dk_43 (dk_at dksX20_doForward_7 3 rfl rfl)
theorem dX20_doForward_167 : decode cX20_doForward 167 = .ok (.iload_n 3, 1) := dk_29 (dk_at dksX20_doForward_7 4 rfl rfl)
theorem dX20_doForward_168 : decode cX20_doForward 168 = .ok (.invokevirtual 50, 3) := dk_182 0 50 (dk_at dksX20_doForward_7 5 rfl rfl)
theorem dX20_doForward_171 : decode cX20_doForward 171 = .ok (.invokevirtual 54, 3) := dk_182 0 54 (dk_at dksX20_doForward_7 8 rfl rfl)
theorem dX20_doForward_174 : decode cX20_doForward 174 = .ok (.aload_n 0, 1) := dk_42 (dk_at dksX20_doForward_7 11 rfl rfl)
theorem dX20_doForward_175 : decode cX20_doForward 175 = .ok (.getfield 15, 3) := dk_180 0 15 (dk_at dksX20_doForward_7 12 rfl rfl)
theorem dX20_doForward_178 : decode cX20_doForward 178 = .ok (.aload_n 1, 1) := dk_43 (dk_at dksX20_doForward_7 15 rfl rfl)
theorem dX20_doForward_179 : decode cX20_doForward 179 = .ok (.iload_n 3, 1) := dk_29 (dk_at dksX20_doForward_7 16 rfl rfl)
theorem dX20_doForward_180 : decode cX20_doForward 180 = .ok (.lload 4, 2) := dk_22 4 (dk_at dksX20_doForward_7 17 rfl rfl)
theorem dX20_doForward_182 : decode cX20_doForward 182 = .ok (.invokevirtual 54, 3) := dk_182 0 54 (dk_at dksX20_doForward_7 19 rfl rfl)
theorem dX20_doForward_185 : decode cX20_doForward 185 = .ok (.return_, 1) := dk_177 (dk_at dksX20_doForward_7 22 rfl rfl)
abbrev cX20_isOne : ByteArray := prog_33_method_3_code
def yX20_isOne : MethodName := ⟨RX20, "isOne", "(LThereAndBack;II)Z"⟩
def dkwX20_isOne_4 : List UInt8 := [167, 0, 4, 3, 172]
abbrev dktX20_isOne_4 : List UInt8 := dkwX20_isOne_4 ++ []
def dkwX20_isOne_3 : List UInt8 := [180, 0, 73, 43, 180, 0, 66, 42, 180, 0, 15, 180, 0, 70, 50, 180, 0, 73, 166, 0, 7, 4]
abbrev dktX20_isOne_3 : List UInt8 := dkwX20_isOne_3 ++ dktX20_isOne_4
def dkwX20_isOne_2 : List UInt8 := [167, 0, 4, 3, 172, 28, 29, 160, 0, 40, 43, 180, 0, 66, 42, 180, 0, 9, 180, 0, 70, 50]
abbrev dktX20_isOne_2 : List UInt8 := dkwX20_isOne_2 ++ dktX20_isOne_3
def dkwX20_isOne_1 : List UInt8 := [182, 0, 58, 153, 0, 24, 42, 180, 0, 9, 180, 0, 62, 42, 180, 0, 15, 180, 0, 62, 160, 0, 7, 4]
abbrev dktX20_isOne_1 : List UInt8 := dkwX20_isOne_1 ++ dktX20_isOne_2
def dkwX20_isOne_0 : List UInt8 := [42, 180, 0, 9, 182, 0, 58, 154, 0, 13, 42, 180, 0, 15, 182, 0, 58, 153, 0, 36, 42, 180, 0, 9]
abbrev dktX20_isOne_0 : List UInt8 := dkwX20_isOne_0 ++ dktX20_isOne_1
theorem dksX20_isOne_0 : cX20_isOne.data.toList.drop 0 = dktX20_isOne_0 := by decide +kernel
theorem dksX20_isOne_1 : cX20_isOne.data.toList.drop 24 = dktX20_isOne_1 := dk_seg dksX20_isOne_0 24 rfl rfl
theorem dksX20_isOne_2 : cX20_isOne.data.toList.drop 48 = dktX20_isOne_2 := dk_seg dksX20_isOne_1 24 rfl rfl
theorem dksX20_isOne_3 : cX20_isOne.data.toList.drop 70 = dktX20_isOne_3 := dk_seg dksX20_isOne_2 22 rfl rfl
theorem dksX20_isOne_4 : cX20_isOne.data.toList.drop 92 = dktX20_isOne_4 := dk_seg dksX20_isOne_3 22 rfl rfl
theorem dX20_isOne_0 : decode cX20_isOne 0 = .ok (.aload_n 0, 1) := dk_42 (dk_at dksX20_isOne_0 0 rfl rfl)
theorem dX20_isOne_1 : decode cX20_isOne 1 = .ok (.getfield 9, 3) := dk_180 0 9 (dk_at dksX20_isOne_0 1 rfl rfl)
theorem dX20_isOne_4 : decode cX20_isOne 4 = .ok (.invokevirtual 58, 3) := dk_182 0 58 (dk_at dksX20_isOne_0 4 rfl rfl)
theorem dX20_isOne_7 : decode cX20_isOne 7 = .ok (.ifCond .ne 13, 3) := dk_154 0 13 (dk_at dksX20_isOne_0 7 rfl rfl)
theorem dX20_isOne_10 : decode cX20_isOne 10 = .ok (.aload_n 0, 1) := dk_42 (dk_at dksX20_isOne_0 10 rfl rfl)
theorem dX20_isOne_11 : decode cX20_isOne 11 = .ok (.getfield 15, 3) := dk_180 0 15 (dk_at dksX20_isOne_0 11 rfl rfl)
theorem dX20_isOne_14 : decode cX20_isOne 14 = .ok (.invokevirtual 58, 3) := dk_182 0 58 (dk_at dksX20_isOne_0 14 rfl rfl)
theorem dX20_isOne_17 : decode cX20_isOne 17 = .ok (.ifCond .eq 36, 3) := dk_153 0 36 (dk_at dksX20_isOne_0 17 rfl rfl)
theorem dX20_isOne_20 : decode cX20_isOne 20 = .ok (.aload_n 0, 1) := dk_42 (dk_at dksX20_isOne_0 20 rfl rfl)
theorem dX20_isOne_21 : decode cX20_isOne 21 = .ok (.getfield 9, 3) := dk_180 0 9 (dk_at dksX20_isOne_0 21 rfl rfl)
theorem dX20_isOne_24 : decode cX20_isOne 24 = .ok (.invokevirtual 58, 3) := dk_182 0 58 (dk_at dksX20_isOne_1 0 rfl rfl)
theorem dX20_isOne_27 : decode cX20_isOne 27 = .ok (.ifCond .eq 24, 3) := dk_153 0 24 (dk_at dksX20_isOne_1 3 rfl rfl)
theorem dX20_isOne_30 : decode cX20_isOne 30 = .ok (.aload_n 0, 1) := dk_42 (dk_at dksX20_isOne_1 6 rfl rfl)
theorem dX20_isOne_31 : decode cX20_isOne 31 = .ok (.getfield 9, 3) := dk_180 0 9 (dk_at dksX20_isOne_1 7 rfl rfl)
theorem dX20_isOne_34 : decode cX20_isOne 34 = .ok (.getfield 62, 3) := dk_180 0 62 (dk_at dksX20_isOne_1 10 rfl rfl)
theorem dX20_isOne_37 : decode cX20_isOne 37 = .ok (.aload_n 0, 1) := dk_42 (dk_at dksX20_isOne_1 13 rfl rfl)
theorem dX20_isOne_38 : decode cX20_isOne 38 = .ok (.getfield 15, 3) := dk_180 0 15 (dk_at dksX20_isOne_1 14 rfl rfl)
theorem dX20_isOne_41 : decode cX20_isOne 41 = .ok (.getfield 62, 3) := dk_180 0 62 (dk_at dksX20_isOne_1 17 rfl rfl)
theorem dX20_isOne_44 : decode cX20_isOne 44 = .ok (.if_icmp .ne 7, 3) := dk_160 0 7 (dk_at dksX20_isOne_1 20 rfl rfl)
theorem dX20_isOne_47 : decode cX20_isOne 47 = .ok (.iconst 1, 1) := dk_4 (dk_at dksX20_isOne_1 23 rfl rfl)
theorem dX20_isOne_48 : decode cX20_isOne 48 = .ok (.goto 4, 3) := dk_167 0 4 (dk_at dksX20_isOne_2 0 rfl rfl)
theorem dX20_isOne_51 : decode cX20_isOne 51 = .ok (.iconst 0, 1) := dk_3 (dk_at dksX20_isOne_2 3 rfl rfl)
theorem dX20_isOne_52 : decode cX20_isOne 52 = .ok (.ireturn, 1) := dk_172 (dk_at dksX20_isOne_2 4 rfl rfl)
theorem dX20_isOne_53 : decode cX20_isOne 53 = .ok (.iload_n 2, 1) := dk_28 (dk_at dksX20_isOne_2 5 rfl rfl)
theorem dX20_isOne_54 : decode cX20_isOne 54 = .ok (.iload_n 3, 1) := dk_29 (dk_at dksX20_isOne_2 6 rfl rfl)
theorem dX20_isOne_55 : decode cX20_isOne 55 = .ok (.if_icmp .ne 40, 3) := dk_160 0 40 (dk_at dksX20_isOne_2 7 rfl rfl)
theorem dX20_isOne_58 : decode cX20_isOne 58 = .ok (.aload_n 1, 1) := dk_43 (dk_at dksX20_isOne_2 10 rfl rfl)
theorem dX20_isOne_59 : decode cX20_isOne 59 = .ok (.getfield 66, 3) := dk_180 0 66 (dk_at dksX20_isOne_2 11 rfl rfl)
theorem dX20_isOne_62 : decode cX20_isOne 62 = .ok (.aload_n 0, 1) := dk_42 (dk_at dksX20_isOne_2 14 rfl rfl)
theorem dX20_isOne_63 : decode cX20_isOne 63 = .ok (.getfield 9, 3) := dk_180 0 9 (dk_at dksX20_isOne_2 15 rfl rfl)
theorem dX20_isOne_66 : decode cX20_isOne 66 = .ok (.getfield 70, 3) := dk_180 0 70 (dk_at dksX20_isOne_2 18 rfl rfl)
theorem dX20_isOne_69 : decode cX20_isOne 69 = .ok (.aaload, 1) := dk_50 (dk_at dksX20_isOne_2 21 rfl rfl)
theorem dX20_isOne_70 : decode cX20_isOne 70 = .ok (.getfield 73, 3) := dk_180 0 73 (dk_at dksX20_isOne_3 0 rfl rfl)
theorem dX20_isOne_73 : decode cX20_isOne 73 = .ok (.aload_n 1, 1) := dk_43 (dk_at dksX20_isOne_3 3 rfl rfl)
theorem dX20_isOne_74 : decode cX20_isOne 74 = .ok (.getfield 66, 3) := dk_180 0 66 (dk_at dksX20_isOne_3 4 rfl rfl)
theorem dX20_isOne_77 : decode cX20_isOne 77 = .ok (.aload_n 0, 1) := dk_42 (dk_at dksX20_isOne_3 7 rfl rfl)
theorem dX20_isOne_78 : decode cX20_isOne 78 = .ok (.getfield 15, 3) := dk_180 0 15 (dk_at dksX20_isOne_3 8 rfl rfl)
theorem dX20_isOne_81 : decode cX20_isOne 81 = .ok (.getfield 70, 3) := dk_180 0 70 (dk_at dksX20_isOne_3 11 rfl rfl)
theorem dX20_isOne_84 : decode cX20_isOne 84 = .ok (.aaload, 1) := dk_50 (dk_at dksX20_isOne_3 14 rfl rfl)
theorem dX20_isOne_85 : decode cX20_isOne 85 = .ok (.getfield 73, 3) := dk_180 0 73 (dk_at dksX20_isOne_3 15 rfl rfl)
theorem dX20_isOne_88 : decode cX20_isOne 88 = .ok (.if_acmp .ne 7, 3) := dk_166 0 7 (dk_at dksX20_isOne_3 18 rfl rfl)
theorem dX20_isOne_91 : decode cX20_isOne 91 = .ok (.iconst 1, 1) := dk_4 (dk_at dksX20_isOne_3 21 rfl rfl)
theorem dX20_isOne_92 : decode cX20_isOne 92 = .ok (.goto 4, 3) := dk_167 0 4 (dk_at dksX20_isOne_4 0 rfl rfl)
theorem dX20_isOne_95 : decode cX20_isOne 95 = .ok (.iconst 0, 1) := dk_3 (dk_at dksX20_isOne_4 3 rfl rfl)
theorem dX20_isOne_96 : decode cX20_isOne 96 = .ok (.ireturn, 1) := dk_172 (dk_at dksX20_isOne_4 4 rfl rfl)
abbrev cX20_doBack : ByteArray := prog_33_method_4_code
def yX20_doBack : MethodName := ⟨RX20, "doBack", "(LThereAndBack;)V"⟩
def dkwX20_doBack_0 : List UInt8 := [42, 43, 182, 0, 78, 177]
abbrev dktX20_doBack_0 : List UInt8 := dkwX20_doBack_0 ++ []
theorem dksX20_doBack_0 : cX20_doBack.data.toList.drop 0 = dktX20_doBack_0 := by decide +kernel
theorem dX20_doBack_0 : decode cX20_doBack 0 = .ok (.aload_n 0, 1) := dk_42 (dk_at dksX20_doBack_0 0 rfl rfl)
theorem dX20_doBack_1 : decode cX20_doBack 1 = .ok (.aload_n 1, 1) := dk_43 (dk_at dksX20_doBack_0 1 rfl rfl)
theorem dX20_doBack_2 : decode cX20_doBack 2 = .ok (.invokevirtual 78, 3) := dk_182 0 78 (dk_at dksX20_doBack_0 2 rfl rfl)
theorem dX20_doBack_5 : decode cX20_doBack 5 = .ok (.return_, 1) := dk_177 (dk_at dksX20_doBack_0 5 rfl rfl)
theorem q174 : (Jvm.Cond.initialized "ThereAndBack$Swap") ∈ lw_all := lw_g (lw_at lw_m1 30 rfl) rfl
theorem q321 : (Jvm.Cond.fieldLinkNest "ThereAndBack$Swap" (73 : Nat) "ThereAndBack$Holder" "row" "Ljava/lang/Object;" "ThereAndBack") ∈ lw_tbl := lw_at lw_m1 177 rfl
theorem q340 : (Jvm.Cond.fieldLinkNest "ThereAndBack$Swap" (27 : Nat) "ThereAndBack" "refusals" "[LThereAndBack$Refused;" "ThereAndBack") ∈ lw_tbl := lw_at lw_m1 196 rfl
theorem q359 : (Jvm.Cond.fieldLinkNest "ThereAndBack$Swap" (66 : Nat) "ThereAndBack" "rows" "[LThereAndBack$Holder;" "ThereAndBack") ∈ lw_tbl := lw_at lw_m1 215 rfl
theorem q660 : (Jvm.Cond.fieldLinkNest "ThereAndBack$Swap" (62 : Nat) "ThereAndBack$Place" "name" "I" "ThereAndBack") ∈ lw_tbl := lw_at lw_m3 36 rfl
theorem q663 : (Jvm.Cond.fieldLinkNest "ThereAndBack$Swap" (70 : Nat) "ThereAndBack$Place" "row" "I" "ThereAndBack") ∈ lw_tbl := lw_at lw_m3 39 rfl
theorem q666 : (Jvm.Cond.fieldLinkNest "ThereAndBack$Swap" (39 : Nat) "ThereAndBack$Place" "index" "LThereAndBack$Expr;" "ThereAndBack") ∈ lw_tbl := lw_at lw_m3 42 rfl
theorem q844 : (Jvm.Cond.instantiable "ThereAndBack$Swap" (2 : Nat)) ∈ lw_all := lw_g (lw_at lw_m3 220 rfl) rfl
theorem q846 : (Jvm.Cond.instanceMethod ({ cls := "ThereAndBack$Swap", name := "<init>", desc := "(LThereAndBack$Place;LThereAndBack$Place;)V" } : Jvm.MethodName)) ∈ lw_all := lw_g (lw_at lw_m3 222 rfl) rfl
theorem q847 : (Jvm.Cond.code ({ cls := "ThereAndBack$Swap", name := "<init>", desc := "(LThereAndBack$Place;LThereAndBack$Place;)V" } : Jvm.MethodName) prog_33_method_1_code (3 : Nat) (Option.none : Option Jvm.ClassFile.FieldType)) ∈ lw_all := lw_g (lw_at lw_m3 223 rfl) rfl
theorem q848 : (Jvm.Cond.methodLinkNest "ThereAndBack$Swap" (3 : Nat) ({ cls := "ThereAndBack$Single", name := "<init>", desc := "()V" } : Jvm.MethodName) "ThereAndBack") ∈ lw_tbl := lw_at lw_m3 224 rfl
theorem q855 : (Jvm.Cond.fieldLink "ThereAndBack$Swap" (9 : Nat) "ThereAndBack$Swap" "first" "LThereAndBack$Place;") ∈ lw_all := lw_g (lw_at lw_m3 231 rfl) rfl
theorem q856 : (Jvm.Cond.fieldLink "ThereAndBack$Swap" (15 : Nat) "ThereAndBack$Swap" "second" "LThereAndBack$Place;") ∈ lw_all := lw_g (lw_at lw_m3 232 rfl) rfl
theorem q857 : (Jvm.Cond.laysFinal "ThereAndBack$Swap" "ThereAndBack$Swap" "first" "LThereAndBack$Place;") ∈ lw_all := lw_g (lw_at lw_m3 233 rfl) rfl
theorem q858 : (Jvm.Cond.soleField "ThereAndBack$Swap" "first") ∈ lw_all := lw_g (lw_at lw_m3 234 rfl) rfl
theorem q859 : (Jvm.Cond.laysFinal "ThereAndBack$Swap" "ThereAndBack$Swap" "second" "LThereAndBack$Place;") ∈ lw_all := lw_g (lw_at lw_m3 235 rfl) rfl
theorem q860 : (Jvm.Cond.soleField "ThereAndBack$Swap" "second") ∈ lw_all := lw_g (lw_at lw_m3 236 rfl) rfl
theorem q861 : (Jvm.Cond.superclass "ThereAndBack$Swap" "ThereAndBack$Single") ∈ lw_all := lw_g (lw_at lw_m3 237 rfl) rfl
theorem q1178 : (Jvm.Cond.selects "ThereAndBack$Swap" ({ cls := "java/lang/Object", name := "getClass", desc := "()Ljava/lang/Class;" } : Jvm.MethodName) ({ cls := "java/lang/Object", name := "getClass", desc := "()Ljava/lang/Class;" } : Jvm.MethodName)) ∈ lw_all := lw_g (lw_at lw_m5 74 rfl) rfl
theorem q1331 : (Jvm.Cond.selects "ThereAndBack$Swap" ({ cls := "ThereAndBack$Step", name := "lay", desc := "(Ljava/util/List;)V" } : Jvm.MethodName) ({ cls := "ThereAndBack$Single", name := "lay", desc := "(Ljava/util/List;)V" } : Jvm.MethodName)) ∈ lw_all := lw_g (lw_at lw_m5 227 rfl) rfl
theorem q1362 : (Jvm.Cond.selects "ThereAndBack$Swap" ({ cls := "ThereAndBack$Step", name := "code", desc := "()I" } : Jvm.MethodName) ({ cls := "ThereAndBack$Step", name := "code", desc := "()I" } : Jvm.MethodName)) ∈ lw_all := lw_g (lw_at lw_m6 18 rfl) rfl
theorem q1420 : (Jvm.Cond.selects "ThereAndBack$Swap" ({ cls := "ThereAndBack$Step", name := "isOrdinary", desc := "()Z" } : Jvm.MethodName) ({ cls := "ThereAndBack$Step", name := "isOrdinary", desc := "()Z" } : Jvm.MethodName)) ∈ lw_all := lw_g (lw_at lw_m6 76 rfl) rfl
theorem q1443 : (Jvm.Cond.selects "ThereAndBack$Swap" ({ cls := "ThereAndBack$Step", name := "braces", desc := "()I" } : Jvm.MethodName) ({ cls := "ThereAndBack$Step", name := "braces", desc := "()I" } : Jvm.MethodName)) ∈ lw_all := lw_g (lw_at lw_m6 99 rfl) rfl
theorem q1509 : (Jvm.Cond.selects "ThereAndBack$Swap" ({ cls := "ThereAndBack$Step", name := "names", desc := "()I" } : Jvm.MethodName) ({ cls := "ThereAndBack$Swap", name := "names", desc := "()I" } : Jvm.MethodName)) ∈ lw_all := lw_g (lw_at lw_m6 165 rfl) rfl
theorem q1510 : (Jvm.Cond.instanceMethod ({ cls := "ThereAndBack$Swap", name := "names", desc := "()I" } : Jvm.MethodName)) ∈ lw_all := lw_g (lw_at lw_m6 166 rfl) rfl
theorem q1511 : (Jvm.Cond.code ({ cls := "ThereAndBack$Swap", name := "names", desc := "()I" } : Jvm.MethodName) prog_33_method_6_code (1 : Nat) (Option.some Jvm.ClassFile.FieldType.int)) ∈ lw_all := lw_g (lw_at lw_m6 167 rfl) rfl
theorem q1512 : (Jvm.Cond.methodLink "ThereAndBack$Swap" (95 : Nat) ({ cls := "ThereAndBack$Place", name := "names", desc := "()I" } : Jvm.MethodName)) ∈ lw_all := lw_g (lw_at lw_m6 168 rfl) rfl
theorem q1706 : (Jvm.Cond.selects "ThereAndBack$Swap" ({ cls := "ThereAndBack$Step", name := "print", desc := "(LThereAndBack;)V" } : Jvm.MethodName) ({ cls := "ThereAndBack$Swap", name := "print", desc := "(LThereAndBack;)V" } : Jvm.MethodName)) ∈ lw_all := lw_g (lw_at lw_m7 122 rfl) rfl
theorem q1707 : (Jvm.Cond.instanceMethod ({ cls := "ThereAndBack$Swap", name := "print", desc := "(LThereAndBack;)V" } : Jvm.MethodName)) ∈ lw_all := lw_g (lw_at lw_m7 123 rfl) rfl
theorem q1708 : (Jvm.Cond.code ({ cls := "ThereAndBack$Swap", name := "print", desc := "(LThereAndBack;)V" } : Jvm.MethodName) prog_33_method_5_code (2 : Nat) (Option.none : Option Jvm.ClassFile.FieldType)) ∈ lw_all := lw_g (lw_at lw_m7 124 rfl) rfl
theorem q1709 : (Jvm.Cond.methodLink "ThereAndBack$Swap" (82 : Nat) ({ cls := "ThereAndBack$Place", name := "print", desc := "(LThereAndBack;)V" } : Jvm.MethodName)) ∈ lw_all := lw_g (lw_at lw_m7 125 rfl) rfl
theorem q1710 : (Jvm.Cond.stringRef "ThereAndBack$Swap" (85 : Nat) "<>") ∈ lw_tbl := lw_at lw_m7 126 rfl
theorem q1711 : (Jvm.Cond.methodLinkNest "ThereAndBack$Swap" (87 : Nat) ({ cls := "ThereAndBack", name := "printWord", desc := "(Ljava/lang/String;)V" } : Jvm.MethodName) "ThereAndBack") ∈ lw_tbl := lw_at lw_m7 127 rfl
theorem q1712 : (Jvm.Cond.methodLinkNest "ThereAndBack$Swap" (91 : Nat) ({ cls := "ThereAndBack", name := "printBehind", desc := "(I)V" } : Jvm.MethodName) "ThereAndBack") ∈ lw_tbl := lw_at lw_m7 128 rfl
theorem q1799 : (Jvm.Cond.selects "ThereAndBack$Swap" ({ cls := "ThereAndBack$Step", name := "mirror", desc := "()LThereAndBack$Step;" } : Jvm.MethodName) ({ cls := "ThereAndBack$Swap", name := "mirror", desc := "()LThereAndBack$Step;" } : Jvm.MethodName)) ∈ lw_all := lw_g (lw_at lw_m7 215 rfl) rfl
theorem q1800 : (Jvm.Cond.instanceMethod ({ cls := "ThereAndBack$Swap", name := "mirror", desc := "()LThereAndBack$Step;" } : Jvm.MethodName)) ∈ lw_all := lw_g (lw_at lw_m7 216 rfl) rfl
theorem q1801 : (Jvm.Cond.code ({ cls := "ThereAndBack$Swap", name := "mirror", desc := "()LThereAndBack$Step;" } : Jvm.MethodName) prog_33_method_7_code (1 : Nat) (Option.some (Jvm.ClassFile.FieldType.object "ThereAndBack$Step"))) ∈ lw_all := lw_g (lw_at lw_m7 217 rfl) rfl
theorem q1854 : (Jvm.Cond.selects "ThereAndBack$Swap" ({ cls := "ThereAndBack$Step", name := "turn", desc := "(Ljava/util/List;I)V" } : Jvm.MethodName) ({ cls := "ThereAndBack$Step", name := "turn", desc := "(Ljava/util/List;I)V" } : Jvm.MethodName)) ∈ lw_all := lw_g (lw_at lw_m8 30 rfl) rfl
theorem q2007 : (Jvm.Cond.selects "ThereAndBack$Swap" ({ cls := "ThereAndBack$Step", name := "walk", desc := "(LThereAndBack;)V" } : Jvm.MethodName) ({ cls := "ThereAndBack$Step", name := "walk", desc := "(LThereAndBack;)V" } : Jvm.MethodName)) ∈ lw_all := lw_g (lw_at lw_m8 183 rfl) rfl
theorem q2208 : (Jvm.Cond.selects "ThereAndBack$Swap" ({ cls := "ThereAndBack$Single", name := "doForward", desc := "(LThereAndBack;)V" } : Jvm.MethodName) ({ cls := "ThereAndBack$Swap", name := "doForward", desc := "(LThereAndBack;)V" } : Jvm.MethodName)) ∈ lw_all := lw_g (lw_at lw_m9 144 rfl) rfl
theorem q2209 : (Jvm.Cond.instanceMethod ({ cls := "ThereAndBack$Swap", name := "doForward", desc := "(LThereAndBack;)V" } : Jvm.MethodName)) ∈ lw_all := lw_g (lw_at lw_m9 145 rfl) rfl
theorem q2210 : (Jvm.Cond.code ({ cls := "ThereAndBack$Swap", name := "doForward", desc := "(LThereAndBack;)V" } : Jvm.MethodName) prog_33_method_2_code (6 : Nat) (Option.none : Option Jvm.ClassFile.FieldType)) ∈ lw_all := lw_g (lw_at lw_m9 146 rfl) rfl
theorem q2211 : (Jvm.Cond.methodLink "ThereAndBack$Swap" (18 : Nat) ({ cls := "ThereAndBack$Place", name := "find", desc := "(LThereAndBack;)I" } : Jvm.MethodName)) ∈ lw_all := lw_g (lw_at lw_m9 147 rfl) rfl
theorem q2212 : (Jvm.Cond.methodLink "ThereAndBack$Swap" (24 : Nat) ({ cls := "ThereAndBack$Place", name := "kind", desc := "(LThereAndBack;)I" } : Jvm.MethodName)) ∈ lw_all := lw_g (lw_at lw_m9 148 rfl) rfl
theorem q2213 : (Jvm.Cond.methodLink "ThereAndBack$Swap" (31 : Nat) ({ cls := "ThereAndBack$Swap", name := "isOne", desc := "(LThereAndBack;II)Z" } : Jvm.MethodName)) ∈ lw_all := lw_g (lw_at lw_m9 149 rfl) rfl
theorem q2214 : (Jvm.Cond.privateMethod ({ cls := "ThereAndBack$Swap", name := "isOne", desc := "(LThereAndBack;II)Z" } : Jvm.MethodName)) ∈ lw_tbl := lw_at lw_m9 150 rfl
theorem q2215 : (Jvm.Cond.instanceMethod ({ cls := "ThereAndBack$Swap", name := "isOne", desc := "(LThereAndBack;II)Z" } : Jvm.MethodName)) ∈ lw_all := lw_g (lw_at lw_m9 151 rfl) rfl
theorem q2216 : (Jvm.Cond.code ({ cls := "ThereAndBack$Swap", name := "isOne", desc := "(LThereAndBack;II)Z" } : Jvm.MethodName) prog_33_method_3_code (4 : Nat) (Option.some Jvm.ClassFile.FieldType.boolean)) ∈ lw_all := lw_g (lw_at lw_m9 152 rfl) rfl
theorem q2217 : (Jvm.Cond.methodLink "ThereAndBack$Swap" (58 : Nat) ({ cls := "ThereAndBack$Place", name := "isName", desc := "()Z" } : Jvm.MethodName)) ∈ lw_all := lw_g (lw_at lw_m9 153 rfl) rfl
theorem q2218 : (Jvm.Cond.methodLinkNest "ThereAndBack$Swap" (35 : Nat) ({ cls := "ThereAndBack", name := "bar", desc := "(LThereAndBack$Place;I)V" } : Jvm.MethodName) "ThereAndBack") ∈ lw_tbl := lw_at lw_m9 154 rfl
theorem q2219 : (Jvm.Cond.methodLink "ThereAndBack$Swap" (43 : Nat) ({ cls := "ThereAndBack$Place", name := "check", desc := "(LThereAndBack;LThereAndBack$Expr;)V" } : Jvm.MethodName)) ∈ lw_all := lw_g (lw_at lw_m9 155 rfl) rfl
theorem q2220 : (Jvm.Cond.methodLinkNest "ThereAndBack$Swap" (47 : Nat) ({ cls := "ThereAndBack", name := "free", desc := "()V" } : Jvm.MethodName) "ThereAndBack") ∈ lw_tbl := lw_at lw_m9 156 rfl
theorem q2221 : (Jvm.Cond.methodLink "ThereAndBack$Swap" (50 : Nat) ({ cls := "ThereAndBack$Place", name := "get", desc := "(LThereAndBack;I)J" } : Jvm.MethodName)) ∈ lw_all := lw_g (lw_at lw_m9 157 rfl) rfl
theorem q2222 : (Jvm.Cond.methodLink "ThereAndBack$Swap" (54 : Nat) ({ cls := "ThereAndBack$Place", name := "set", desc := "(LThereAndBack;IJ)V" } : Jvm.MethodName)) ∈ lw_all := lw_g (lw_at lw_m9 158 rfl) rfl
theorem q2238 : (Jvm.Cond.selects "ThereAndBack$Swap" ({ cls := "ThereAndBack$Single", name := "doBack", desc := "(LThereAndBack;)V" } : Jvm.MethodName) ({ cls := "ThereAndBack$Swap", name := "doBack", desc := "(LThereAndBack;)V" } : Jvm.MethodName)) ∈ lw_all := lw_g (lw_at lw_m9 174 rfl) rfl
theorem q2239 : (Jvm.Cond.instanceMethod ({ cls := "ThereAndBack$Swap", name := "doBack", desc := "(LThereAndBack;)V" } : Jvm.MethodName)) ∈ lw_all := lw_g (lw_at lw_m9 175 rfl) rfl
theorem q2240 : (Jvm.Cond.code ({ cls := "ThereAndBack$Swap", name := "doBack", desc := "(LThereAndBack;)V" } : Jvm.MethodName) prog_33_method_4_code (2 : Nat) (Option.none : Option Jvm.ClassFile.FieldType)) ∈ lw_all := lw_g (lw_at lw_m9 176 rfl) rfl
theorem q2241 : (Jvm.Cond.methodLink "ThereAndBack$Swap" (78 : Nat) ({ cls := "ThereAndBack$Swap", name := "doForward", desc := "(LThereAndBack;)V" } : Jvm.MethodName)) ∈ lw_all := lw_g (lw_at lw_m9 177 rfl) rfl
theorem q3112 : (Jvm.Cond.selects "ThereAndBack$Swap" ({ cls := "ThereAndBack$Swap", name := "doForward", desc := "(LThereAndBack;)V" } : Jvm.MethodName) ({ cls := "ThereAndBack$Swap", name := "doForward", desc := "(LThereAndBack;)V" } : Jvm.MethodName)) ∈ lw_all := lw_g (lw_at lw_m13 88 rfl) rfl
theorem q3122 : (Jvm.Cond.castable "ThereAndBack$Swap" "ThereAndBack$Step") ∈ lw_tbl := lw_at lw_m13 98 rfl
theorem q3146 : (Jvm.Cond.castable "ThereAndBack$Swap" "java/lang/Object") ∈ lw_tbl := lw_at lw_m13 122 rfl
theorem in_X20 : ∀ w ∈ wsX200, w ∈ lw_all := lw_in wsX200 [857, 859] (by decide +kernel) (by decide +kernel)
/-! ThereAndBack$Change -/
set_option maxRecDepth 100000
def RX21 : String := "ThereAndBack$Change"
def TX21 : u_T := fun k => match k with
  | 0 => ("ThereAndBack$Change", "place", "LThereAndBack$Place;", true)
  | 1 => ("ThereAndBack$Change", "how", "I", true)
  | _ => ("ThereAndBack$Change", "by", "LThereAndBack$Expr;", true)
def tyX21 : Nat → FieldType := fun k => match k with
  | 0 => .object "ThereAndBack$Place"
  | 1 => .int
  | _ => .object "ThereAndBack$Expr"
abbrev wsX210 : List Cond := u_ws RX21 TX21 3
theorem nmX21 : ∀ a, a < 3 → ∀ b, b < 3 → a ≠ b → (TX21 a).2.1 ≠ (TX21 b).2.1 := by decide +kernel
theorem tyX21_ok : ∀ k, k < 3 → parseFieldDescriptor (TX21 k).2.2.1 = some (tyX21 k) := by decide +kernel
abbrev cX21_init : ByteArray := prog_4_method_1_code
def yX21_init : MethodName := ⟨RX21, "<init>", "(LThereAndBack$Place;ILThereAndBack$Expr;)V"⟩
def dkwX21_init_0 : List UInt8 := [42, 183, 0, 3, 42, 43, 181, 0, 9, 42, 28, 181, 0, 15, 42, 45, 181, 0, 19, 177]
abbrev dktX21_init_0 : List UInt8 := dkwX21_init_0 ++ []
theorem dksX21_init_0 : cX21_init.data.toList.drop 0 = dktX21_init_0 := by decide +kernel
theorem dX21_init_0 : decode cX21_init 0 = .ok (.aload_n 0, 1) := dk_42 (dk_at dksX21_init_0 0 rfl rfl)
theorem dX21_init_1 : decode cX21_init 1 = .ok (.invokespecial 3, 3) := dk_183 0 3 (dk_at dksX21_init_0 1 rfl rfl)
theorem dX21_init_4 : decode cX21_init 4 = .ok (.aload_n 0, 1) := dk_42 (dk_at dksX21_init_0 4 rfl rfl)
theorem dX21_init_5 : decode cX21_init 5 = .ok (.aload_n 1, 1) := dk_43 (dk_at dksX21_init_0 5 rfl rfl)
theorem dX21_init_6 : decode cX21_init 6 = .ok (.putfield 9, 3) := dk_181 0 9 (dk_at dksX21_init_0 6 rfl rfl)
theorem dX21_init_9 : decode cX21_init 9 = .ok (.aload_n 0, 1) := dk_42 (dk_at dksX21_init_0 9 rfl rfl)
theorem dX21_init_10 : decode cX21_init 10 = .ok (.iload_n 2, 1) := dk_28 (dk_at dksX21_init_0 10 rfl rfl)
theorem dX21_init_11 : decode cX21_init 11 = .ok (.putfield 15, 3) := dk_181 0 15 (dk_at dksX21_init_0 11 rfl rfl)
theorem dX21_init_14 : decode cX21_init 14 = .ok (.aload_n 0, 1) := dk_42 (dk_at dksX21_init_0 14 rfl rfl)
theorem dX21_init_15 : decode cX21_init 15 = .ok (.aload_n 3, 1) := dk_45 (dk_at dksX21_init_0 15 rfl rfl)
theorem dX21_init_16 : decode cX21_init 16 = .ok (.putfield 19, 3) := dk_181 0 19 (dk_at dksX21_init_0 16 rfl rfl)
theorem dX21_init_19 : decode cX21_init 19 = .ok (.return_, 1) := dk_177 (dk_at dksX21_init_0 19 rfl rfl)
abbrev cX21_names : ByteArray := prog_4_method_7_code
def yX21_names : MethodName := ⟨RX21, "names", "()I"⟩
def dkwX21_names_0 : List UInt8 := [42, 180, 0, 9, 182, 0, 98, 42, 180, 0, 19, 182, 0, 102, 128, 172]
abbrev dktX21_names_0 : List UInt8 := dkwX21_names_0 ++ []
theorem dksX21_names_0 : cX21_names.data.toList.drop 0 = dktX21_names_0 := by decide +kernel
theorem dX21_names_0 : decode cX21_names 0 = .ok (.aload_n 0, 1) := dk_42 (dk_at dksX21_names_0 0 rfl rfl)
theorem dX21_names_1 : decode cX21_names 1 = .ok (.getfield 9, 3) := dk_180 0 9 (dk_at dksX21_names_0 1 rfl rfl)
theorem dX21_names_4 : decode cX21_names 4 = .ok (.invokevirtual 98, 3) := dk_182 0 98 (dk_at dksX21_names_0 4 rfl rfl)
theorem dX21_names_7 : decode cX21_names 7 = .ok (.aload_n 0, 1) := dk_42 (dk_at dksX21_names_0 7 rfl rfl)
theorem dX21_names_8 : decode cX21_names 8 = .ok (.getfield 19, 3) := dk_180 0 19 (dk_at dksX21_names_0 8 rfl rfl)
theorem dX21_names_11 : decode cX21_names 11 = .ok (.invokevirtual 102, 3) := dk_182 0 102 (dk_at dksX21_names_0 11 rfl rfl)
theorem dX21_names_14 : decode cX21_names 14 = .ok (.ior, 1) := dk_128 (dk_at dksX21_names_0 14 rfl rfl)
theorem dX21_names_15 : decode cX21_names 15 = .ok (.ireturn, 1) := dk_172 (dk_at dksX21_names_0 15 rfl rfl)
abbrev cX21_print : ByteArray := prog_4_method_6_code
def yX21_print : MethodName := ⟨RX21, "print", "(LThereAndBack;)V"⟩
def dkwX21_print_3 : List UInt8 := [180, 0, 19, 43, 182, 0, 93, 43, 16, 59, 182, 0, 94, 177]
abbrev dktX21_print_3 : List UInt8 := dkwX21_print_3 ++ []
def dkwX21_print_2 : List UInt8 := [167, 0, 18, 42, 180, 0, 15, 6, 160, 0, 8, 18, 85, 167, 0, 5, 18, 87, 182, 0, 89, 42]
abbrev dktX21_print_2 : List UInt8 := dkwX21_print_2 ++ dktX21_print_3
def dkwX21_print_1 : List UInt8 := [180, 0, 15, 4, 160, 0, 8, 18, 81, 167, 0, 31, 42, 180, 0, 15, 5, 160, 0, 8, 18, 83]
abbrev dktX21_print_1 : List UInt8 := dkwX21_print_1 ++ dktX21_print_2
def dkwX21_print_0 : List UInt8 := [42, 180, 0, 9, 43, 182, 0, 75, 43, 42, 180, 0, 15, 154, 0, 8, 18, 79, 167, 0, 44, 42]
abbrev dktX21_print_0 : List UInt8 := dkwX21_print_0 ++ dktX21_print_1
theorem dksX21_print_0 : cX21_print.data.toList.drop 0 = dktX21_print_0 := by decide +kernel
theorem dksX21_print_1 : cX21_print.data.toList.drop 22 = dktX21_print_1 := dk_seg dksX21_print_0 22 rfl rfl
theorem dksX21_print_2 : cX21_print.data.toList.drop 44 = dktX21_print_2 := dk_seg dksX21_print_1 22 rfl rfl
theorem dksX21_print_3 : cX21_print.data.toList.drop 66 = dktX21_print_3 := dk_seg dksX21_print_2 22 rfl rfl
theorem dX21_print_0 : decode cX21_print 0 = .ok (.aload_n 0, 1) := dk_42 (dk_at dksX21_print_0 0 rfl rfl)
theorem dX21_print_1 : decode cX21_print 1 = .ok (.getfield 9, 3) := dk_180 0 9 (dk_at dksX21_print_0 1 rfl rfl)
theorem dX21_print_4 : decode cX21_print 4 = .ok (.aload_n 1, 1) := dk_43 (dk_at dksX21_print_0 4 rfl rfl)
theorem dX21_print_5 : decode cX21_print 5 = .ok (.invokevirtual 75, 3) := dk_182 0 75 (dk_at dksX21_print_0 5 rfl rfl)
theorem dX21_print_8 : decode cX21_print 8 = .ok (.aload_n 1, 1) := dk_43 (dk_at dksX21_print_0 8 rfl rfl)
theorem dX21_print_9 : decode cX21_print 9 = .ok (.aload_n 0, 1) := dk_42 (dk_at dksX21_print_0 9 rfl rfl)
theorem dX21_print_10 : decode cX21_print 10 = .ok (.getfield 15, 3) := dk_180 0 15 (dk_at dksX21_print_0 10 rfl rfl)
theorem dX21_print_13 : decode cX21_print 13 = .ok (.ifCond .ne 8, 3) := dk_154 0 8 (dk_at dksX21_print_0 13 rfl rfl)
theorem dX21_print_16 : decode cX21_print 16 = .ok (.ldc 79, 2) := dk_18 79 (dk_at dksX21_print_0 16 rfl rfl)
theorem dX21_print_18 : decode cX21_print 18 = .ok (.goto 44, 3) := dk_167 0 44 (dk_at dksX21_print_0 18 rfl rfl)
theorem dX21_print_21 : decode cX21_print 21 = .ok (.aload_n 0, 1) := dk_42 (dk_at dksX21_print_0 21 rfl rfl)
theorem dX21_print_22 : decode cX21_print 22 = .ok (.getfield 15, 3) := dk_180 0 15 (dk_at dksX21_print_1 0 rfl rfl)
theorem dX21_print_25 : decode cX21_print 25 = .ok (.iconst 1, 1) := dk_4 (dk_at dksX21_print_1 3 rfl rfl)
theorem dX21_print_26 : decode cX21_print 26 = .ok (.if_icmp .ne 8, 3) := dk_160 0 8 (dk_at dksX21_print_1 4 rfl rfl)
theorem dX21_print_29 : decode cX21_print 29 = .ok (.ldc 81, 2) := dk_18 81 (dk_at dksX21_print_1 7 rfl rfl)
theorem dX21_print_31 : decode cX21_print 31 = .ok (.goto 31, 3) := dk_167 0 31 (dk_at dksX21_print_1 9 rfl rfl)
theorem dX21_print_34 : decode cX21_print 34 = .ok (.aload_n 0, 1) := dk_42 (dk_at dksX21_print_1 12 rfl rfl)
theorem dX21_print_35 : decode cX21_print 35 = .ok (.getfield 15, 3) := dk_180 0 15 (dk_at dksX21_print_1 13 rfl rfl)
theorem dX21_print_38 : decode cX21_print 38 = .ok (.iconst 2, 1) := dk_5 (dk_at dksX21_print_1 16 rfl rfl)
theorem dX21_print_39 : decode cX21_print 39 = .ok (.if_icmp .ne 8, 3) := dk_160 0 8 (dk_at dksX21_print_1 17 rfl rfl)
theorem dX21_print_42 : decode cX21_print 42 = .ok (.ldc 83, 2) := dk_18 83 (dk_at dksX21_print_1 20 rfl rfl)
theorem dX21_print_44 : decode cX21_print 44 = .ok (.goto 18, 3) := dk_167 0 18 (dk_at dksX21_print_2 0 rfl rfl)
theorem dX21_print_47 : decode cX21_print 47 = .ok (.aload_n 0, 1) := dk_42 (dk_at dksX21_print_2 3 rfl rfl)
theorem dX21_print_48 : decode cX21_print 48 = .ok (.getfield 15, 3) := dk_180 0 15 (dk_at dksX21_print_2 4 rfl rfl)
theorem dX21_print_51 : decode cX21_print 51 = .ok (.iconst 3, 1) := dk_6 (dk_at dksX21_print_2 7 rfl rfl)
theorem dX21_print_52 : decode cX21_print 52 = .ok (.if_icmp .ne 8, 3) := dk_160 0 8 (dk_at dksX21_print_2 8 rfl rfl)
theorem dX21_print_55 : decode cX21_print 55 = .ok (.ldc 85, 2) := dk_18 85 (dk_at dksX21_print_2 11 rfl rfl)
theorem dX21_print_57 : decode cX21_print 57 = .ok (.goto 5, 3) := dk_167 0 5 (dk_at dksX21_print_2 13 rfl rfl)
theorem dX21_print_60 : decode cX21_print 60 = .ok (.ldc 87, 2) := dk_18 87 (dk_at dksX21_print_2 16 rfl rfl)
theorem dX21_print_62 : decode cX21_print 62 = .ok (.invokevirtual 89, 3) := dk_182 0 89 (dk_at dksX21_print_2 18 rfl rfl)
theorem dX21_print_65 : decode cX21_print 65 = .ok (.aload_n 0, 1) := dk_42 (dk_at dksX21_print_2 21 rfl rfl)
theorem dX21_print_66 : decode cX21_print 66 = .ok (.getfield 19, 3) := dk_180 0 19 (dk_at dksX21_print_3 0 rfl rfl)
theorem dX21_print_69 : decode cX21_print 69 = .ok (.aload_n 1, 1) := dk_43 (dk_at dksX21_print_3 3 rfl rfl)
theorem dX21_print_70 : decode cX21_print 70 = .ok (.invokevirtual 93, 3) := dk_182 0 93 (dk_at dksX21_print_3 4 rfl rfl)
theorem dX21_print_73 : decode cX21_print 73 = .ok (.aload_n 1, 1) := dk_43 (dk_at dksX21_print_3 7 rfl rfl)
theorem dX21_print_74 : decode cX21_print 74 = .ok (.bipush 59, 2) := dk_16 59 (dk_at dksX21_print_3 8 rfl rfl)
theorem dX21_print_76 : decode cX21_print 76 = .ok (.invokevirtual 94, 3) := dk_182 0 94 (dk_at dksX21_print_3 10 rfl rfl)
theorem dX21_print_79 : decode cX21_print 79 = .ok (.return_, 1) := dk_177 (dk_at dksX21_print_3 13 rfl rfl)
abbrev cX21_mirror : ByteArray := prog_4_method_8_code
def yX21_mirror : MethodName := ⟨RX21, "mirror", "()LThereAndBack$Step;"⟩
def dkwX21_mirror_0 : List UInt8 := [187, 0, 10, 89, 42, 180, 0, 9, 42, 180, 0, 15, 184, 0, 27, 42, 180, 0, 19, 183, 0, 103, 176]
abbrev dktX21_mirror_0 : List UInt8 := dkwX21_mirror_0 ++ []
theorem dksX21_mirror_0 : cX21_mirror.data.toList.drop 0 = dktX21_mirror_0 := by decide +kernel
theorem dX21_mirror_0 : decode cX21_mirror 0 = .ok (.new 10, 3) := dk_187 0 10 (dk_at dksX21_mirror_0 0 rfl rfl)
theorem dX21_mirror_3 : decode cX21_mirror 3 = .ok (.dup, 1) := dk_89 (dk_at dksX21_mirror_0 3 rfl rfl)
theorem dX21_mirror_4 : decode cX21_mirror 4 = .ok (.aload_n 0, 1) := dk_42 (dk_at dksX21_mirror_0 4 rfl rfl)
theorem dX21_mirror_5 : decode cX21_mirror 5 = .ok (.getfield 9, 3) := dk_180 0 9 (dk_at dksX21_mirror_0 5 rfl rfl)
theorem dX21_mirror_8 : decode cX21_mirror 8 = .ok (.aload_n 0, 1) := dk_42 (dk_at dksX21_mirror_0 8 rfl rfl)
theorem dX21_mirror_9 : decode cX21_mirror 9 = .ok (.getfield 15, 3) := dk_180 0 15 (dk_at dksX21_mirror_0 9 rfl rfl)
theorem dX21_mirror_12 : decode cX21_mirror 12 = .ok (.invokestatic 27, 3) := dk_184 0 27 (dk_at dksX21_mirror_0 12 rfl rfl)
theorem dX21_mirror_15 : decode cX21_mirror 15 = .ok (.aload_n 0, 1) := dk_42 (dk_at dksX21_mirror_0 15 rfl rfl)
theorem dX21_mirror_16 : decode cX21_mirror 16 = .ok (.getfield 19, 3) := dk_180 0 19 (dk_at dksX21_mirror_0 16 rfl rfl)
theorem dX21_mirror_19 : decode cX21_mirror 19 = .ok (.invokespecial 103, 3) := dk_183 0 103 (dk_at dksX21_mirror_0 19 rfl rfl)
theorem dX21_mirror_22 : decode cX21_mirror 22 = .ok (.areturn, 1) := dk_176 (dk_at dksX21_mirror_0 22 rfl rfl)
abbrev cX21_opposite : ByteArray := prog_4_method_2_code
def yX21_opposite : MethodName := ⟨RX21, "opposite", "(I)I"⟩
def dkwX21_opposite_1 : List UInt8 := [167, 0, 13, 26, 7, 160, 0, 7, 6, 167, 0, 4, 26, 172]
abbrev dktX21_opposite_1 : List UInt8 := dkwX21_opposite_1 ++ []
def dkwX21_opposite_0 : List UInt8 := [26, 154, 0, 7, 4, 167, 0, 31, 26, 4, 160, 0, 7, 3, 167, 0, 22, 26, 6, 160, 0, 7, 7]
abbrev dktX21_opposite_0 : List UInt8 := dkwX21_opposite_0 ++ dktX21_opposite_1
theorem dksX21_opposite_0 : cX21_opposite.data.toList.drop 0 = dktX21_opposite_0 := by decide +kernel
theorem dksX21_opposite_1 : cX21_opposite.data.toList.drop 23 = dktX21_opposite_1 := dk_seg dksX21_opposite_0 23 rfl rfl
theorem dX21_opposite_0 : decode cX21_opposite 0 = .ok (.iload_n 0, 1) := dk_26 (dk_at dksX21_opposite_0 0 rfl rfl)
theorem dX21_opposite_1 : decode cX21_opposite 1 = .ok (.ifCond .ne 7, 3) := dk_154 0 7 (dk_at dksX21_opposite_0 1 rfl rfl)
theorem dX21_opposite_4 : decode cX21_opposite 4 = .ok (.iconst 1, 1) := dk_4 (dk_at dksX21_opposite_0 4 rfl rfl)
theorem dX21_opposite_5 : decode cX21_opposite 5 = .ok (.goto 31, 3) := dk_167 0 31 (dk_at dksX21_opposite_0 5 rfl rfl)
theorem dX21_opposite_8 : decode cX21_opposite 8 = .ok (.iload_n 0, 1) := dk_26 (dk_at dksX21_opposite_0 8 rfl rfl)
theorem dX21_opposite_9 : decode cX21_opposite 9 = .ok (.iconst 1, 1) := dk_4 (dk_at dksX21_opposite_0 9 rfl rfl)
theorem dX21_opposite_10 : decode cX21_opposite 10 = .ok (.if_icmp .ne 7, 3) := dk_160 0 7 (dk_at dksX21_opposite_0 10 rfl rfl)
theorem dX21_opposite_13 : decode cX21_opposite 13 = .ok (.iconst 0, 1) := dk_3 (dk_at dksX21_opposite_0 13 rfl rfl)
theorem dX21_opposite_14 : decode cX21_opposite 14 = .ok (.goto 22, 3) := dk_167 0 22 (dk_at dksX21_opposite_0 14 rfl rfl)
theorem dX21_opposite_17 : decode cX21_opposite 17 = .ok (.iload_n 0, 1) := dk_26 (dk_at dksX21_opposite_0 17 rfl rfl)
theorem dX21_opposite_18 : decode cX21_opposite 18 = .ok (.iconst 3, 1) := dk_6 (dk_at dksX21_opposite_0 18 rfl rfl)
theorem dX21_opposite_19 : decode cX21_opposite 19 = .ok (.if_icmp .ne 7, 3) := dk_160 0 7 (dk_at dksX21_opposite_0 19 rfl rfl)
theorem dX21_opposite_22 : decode cX21_opposite 22 = .ok (.iconst 4, 1) := dk_7 (dk_at dksX21_opposite_0 22 rfl rfl)
theorem dX21_opposite_23 : decode cX21_opposite 23 = .ok (.goto 13, 3) := dk_167 0 13 (dk_at dksX21_opposite_1 0 rfl rfl)
theorem dX21_opposite_26 : decode cX21_opposite 26 = .ok (.iload_n 0, 1) := dk_26 (dk_at dksX21_opposite_1 3 rfl rfl)
theorem dX21_opposite_27 : decode cX21_opposite 27 = .ok (.iconst 4, 1) := dk_7 (dk_at dksX21_opposite_1 4 rfl rfl)
theorem dX21_opposite_28 : decode cX21_opposite 28 = .ok (.if_icmp .ne 7, 3) := dk_160 0 7 (dk_at dksX21_opposite_1 5 rfl rfl)
theorem dX21_opposite_31 : decode cX21_opposite 31 = .ok (.iconst 3, 1) := dk_6 (dk_at dksX21_opposite_1 8 rfl rfl)
theorem dX21_opposite_32 : decode cX21_opposite 32 = .ok (.goto 4, 3) := dk_167 0 4 (dk_at dksX21_opposite_1 9 rfl rfl)
theorem dX21_opposite_35 : decode cX21_opposite 35 = .ok (.iload_n 0, 1) := dk_26 (dk_at dksX21_opposite_1 12 rfl rfl)
theorem dX21_opposite_36 : decode cX21_opposite 36 = .ok (.ireturn, 1) := dk_172 (dk_at dksX21_opposite_1 13 rfl rfl)
abbrev cX21_doForward : ByteArray := prog_4_method_3_code
def yX21_doForward : MethodName := ⟨RX21, "doForward", "(LThereAndBack;)V"⟩
def dkwX21_doForward_0 : List UInt8 := [42, 43, 42, 180, 0, 15, 182, 0, 23, 177]
abbrev dktX21_doForward_0 : List UInt8 := dkwX21_doForward_0 ++ []
theorem dksX21_doForward_0 : cX21_doForward.data.toList.drop 0 = dktX21_doForward_0 := by decide +kernel
theorem dX21_doForward_0 : decode cX21_doForward 0 = .ok (.aload_n 0, 1) := dk_42 (dk_at dksX21_doForward_0 0 rfl rfl)
theorem dX21_doForward_1 : decode cX21_doForward 1 = .ok (.aload_n 1, 1) := dk_43 (dk_at dksX21_doForward_0 1 rfl rfl)
theorem dX21_doForward_2 : decode cX21_doForward 2 = .ok (.aload_n 0, 1) := dk_42 (dk_at dksX21_doForward_0 2 rfl rfl)
theorem dX21_doForward_3 : decode cX21_doForward 3 = .ok (.getfield 15, 3) := dk_180 0 15 (dk_at dksX21_doForward_0 3 rfl rfl)
theorem dX21_doForward_6 : decode cX21_doForward 6 = .ok (.invokevirtual 23, 3) := dk_182 0 23 (dk_at dksX21_doForward_0 6 rfl rfl)
theorem dX21_doForward_9 : decode cX21_doForward 9 = .ok (.return_, 1) := dk_177 (dk_at dksX21_doForward_0 9 rfl rfl)
abbrev cX21_work : ByteArray := prog_4_method_5_code
def yX21_work : MethodName := ⟨RX21, "work", "(LThereAndBack;I)V"⟩
def dkwX21_work_8 : List UInt8 := [182, 0, 67, 177]
abbrev dktX21_work_8 : List UInt8 := dkwX21_work_8 ++ []
def dkwX21_work_7 : List UInt8 := [167, 0, 26, 42, 180, 0, 9, 43, 29, 22, 6, 21, 8, 22, 4, 21, 8, 133, 113, 117, 184, 0, 71]
abbrev dktX21_work_7 : List UInt8 := dkwX21_work_7 ++ dktX21_work_8
def dkwX21_work_6 : List UInt8 := [182, 0, 67, 167, 0, 47, 42, 180, 0, 9, 43, 29, 22, 6, 21, 8, 22, 4, 184, 0, 71, 182, 0, 67]
abbrev dktX21_work_6 : List UInt8 := dkwX21_work_6 ++ dktX21_work_7
def dkwX21_work_5 : List UInt8 := [22, 6, 22, 4, 101, 182, 0, 67, 167, 0, 64, 42, 180, 0, 9, 43, 29, 22, 6, 22, 4, 131]
abbrev dktX21_work_5 : List UInt8 := dkwX21_work_5 ++ dktX21_work_6
def dkwX21_work_4 : List UInt8 := [42, 180, 0, 9, 43, 29, 22, 6, 22, 4, 97, 182, 0, 67, 167, 0, 81, 42, 180, 0, 9, 43, 29]
abbrev dktX21_work_4 : List UInt8 := dkwX21_work_4 ++ dktX21_work_5
def dkwX21_work_3 : List UInt8 := [170, 0, 0, 0, 0, 0, 0, 104, 0, 0, 0, 0, 0, 0, 0, 3, 0, 0, 0, 32, 0, 0, 0, 49, 0, 0, 0, 66, 0, 0, 0, 83]
abbrev dktX21_work_3 : List UInt8 := dkwX21_work_3 ++ dktX21_work_4
def dkwX21_work_2 : List UInt8 := [180, 0, 9, 43, 29, 182, 0, 57, 55, 6, 42, 180, 0, 9, 43, 182, 0, 61, 184, 0, 64, 54, 8, 28]
abbrev dktX21_work_2 : List UInt8 := dkwX21_work_2 ++ dktX21_work_3
def dkwX21_work_1 : List UInt8 := [180, 0, 9, 180, 0, 41, 182, 0, 44, 42, 180, 0, 19, 43, 182, 0, 48, 55, 4, 43, 182, 0, 54, 42]
abbrev dktX21_work_1 : List UInt8 := dkwX21_work_1 ++ dktX21_work_2
def dkwX21_work_0 : List UInt8 := [42, 180, 0, 9, 43, 182, 0, 31, 62, 43, 42, 180, 0, 9, 29, 182, 0, 37, 42, 180, 0, 9, 43, 42]
abbrev dktX21_work_0 : List UInt8 := dkwX21_work_0 ++ dktX21_work_1
theorem dksX21_work_0 : cX21_work.data.toList.drop 0 = dktX21_work_0 := by decide +kernel
theorem dksX21_work_1 : cX21_work.data.toList.drop 24 = dktX21_work_1 := dk_seg dksX21_work_0 24 rfl rfl
theorem dksX21_work_2 : cX21_work.data.toList.drop 48 = dktX21_work_2 := dk_seg dksX21_work_1 24 rfl rfl
theorem dksX21_work_3 : cX21_work.data.toList.drop 72 = dktX21_work_3 := dk_seg dksX21_work_2 24 rfl rfl
theorem dksX21_work_4 : cX21_work.data.toList.drop 104 = dktX21_work_4 := dk_seg dksX21_work_3 32 rfl rfl
theorem dksX21_work_5 : cX21_work.data.toList.drop 127 = dktX21_work_5 := dk_seg dksX21_work_4 23 rfl rfl
theorem dksX21_work_6 : cX21_work.data.toList.drop 149 = dktX21_work_6 := dk_seg dksX21_work_5 22 rfl rfl
theorem dksX21_work_7 : cX21_work.data.toList.drop 173 = dktX21_work_7 := dk_seg dksX21_work_6 24 rfl rfl
theorem dksX21_work_8 : cX21_work.data.toList.drop 196 = dktX21_work_8 := dk_seg dksX21_work_7 23 rfl rfl
theorem dX21_work_0 : decode cX21_work 0 = .ok (.aload_n 0, 1) := dk_42 (dk_at dksX21_work_0 0 rfl rfl)
theorem dX21_work_1 : decode cX21_work 1 = .ok (.getfield 9, 3) := dk_180 0 9 (dk_at dksX21_work_0 1 rfl rfl)
theorem dX21_work_4 : decode cX21_work 4 = .ok (.aload_n 1, 1) := dk_43 (dk_at dksX21_work_0 4 rfl rfl)
theorem dX21_work_5 : decode cX21_work 5 = .ok (.invokevirtual 31, 3) := dk_182 0 31 (dk_at dksX21_work_0 5 rfl rfl)
theorem dX21_work_8 : decode cX21_work 8 = .ok (.istore_n 3, 1) := dk_62 (dk_at dksX21_work_0 8 rfl rfl)
theorem dX21_work_9 : decode cX21_work 9 = .ok (.aload_n 1, 1) := dk_43 (dk_at dksX21_work_0 9 rfl rfl)
theorem dX21_work_10 : decode cX21_work 10 = .ok (.aload_n 0, 1) := dk_42 (dk_at dksX21_work_0 10 rfl rfl)
theorem dX21_work_11 : decode cX21_work 11 = .ok (.getfield 9, 3) := dk_180 0 9 (dk_at dksX21_work_0 11 rfl rfl)
theorem dX21_work_14 : decode cX21_work 14 = .ok (.iload_n 3, 1) := dk_29 (dk_at dksX21_work_0 14 rfl rfl)
theorem dX21_work_15 : decode cX21_work 15 = .ok (.invokevirtual 37, 3) := dk_182 0 37 (dk_at dksX21_work_0 15 rfl rfl)
theorem dX21_work_18 : decode cX21_work 18 = .ok (.aload_n 0, 1) := dk_42 (dk_at dksX21_work_0 18 rfl rfl)
theorem dX21_work_19 : decode cX21_work 19 = .ok (.getfield 9, 3) := dk_180 0 9 (dk_at dksX21_work_0 19 rfl rfl)
theorem dX21_work_22 : decode cX21_work 22 = .ok (.aload_n 1, 1) := dk_43 (dk_at dksX21_work_0 22 rfl rfl)
theorem dX21_work_23 : decode cX21_work 23 = .ok (.aload_n 0, 1) := dk_42 (dk_at dksX21_work_0 23 rfl rfl)
theorem dX21_work_24 : decode cX21_work 24 = .ok (.getfield 9, 3) := dk_180 0 9 (dk_at dksX21_work_1 0 rfl rfl)
theorem dX21_work_27 : decode cX21_work 27 = .ok (.getfield 41, 3) := dk_180 0 41 (dk_at dksX21_work_1 3 rfl rfl)
theorem dX21_work_30 : decode cX21_work 30 = .ok (.invokevirtual 44, 3) := dk_182 0 44 (dk_at dksX21_work_1 6 rfl rfl)
theorem dX21_work_33 : decode cX21_work 33 = .ok (.aload_n 0, 1) := dk_42 (dk_at dksX21_work_1 9 rfl rfl)
theorem dX21_work_34 : decode cX21_work 34 = .ok (.getfield 19, 3) := dk_180 0 19 (dk_at dksX21_work_1 10 rfl rfl)
theorem dX21_work_37 : decode cX21_work 37 = .ok (.aload_n 1, 1) := dk_43 (dk_at dksX21_work_1 13 rfl rfl)
theorem dX21_work_38 : decode cX21_work 38 = .ok (.invokevirtual 48, 3) := dk_182 0 48 (dk_at dksX21_work_1 14 rfl rfl)
theorem dX21_work_41 : decode cX21_work 41 = .ok (.lstore 4, 2) := dk_55 4 (dk_at dksX21_work_1 17 rfl rfl)
theorem dX21_work_43 : decode cX21_work 43 = .ok (.aload_n 1, 1) := dk_43 (dk_at dksX21_work_1 19 rfl rfl)
theorem dX21_work_44 : decode cX21_work 44 = .ok (.invokevirtual 54, 3) := dk_182 0 54 (dk_at dksX21_work_1 20 rfl rfl)
theorem dX21_work_47 : decode cX21_work 47 = .ok (.aload_n 0, 1) := dk_42 (dk_at dksX21_work_1 23 rfl rfl)
theorem dX21_work_48 : decode cX21_work 48 = .ok (.getfield 9, 3) := dk_180 0 9 (dk_at dksX21_work_2 0 rfl rfl)
theorem dX21_work_51 : decode cX21_work 51 = .ok (.aload_n 1, 1) := dk_43 (dk_at dksX21_work_2 3 rfl rfl)
theorem dX21_work_52 : decode cX21_work 52 = .ok (.iload_n 3, 1) := dk_29 (dk_at dksX21_work_2 4 rfl rfl)
theorem dX21_work_53 : decode cX21_work 53 = .ok (.invokevirtual 57, 3) := dk_182 0 57 (dk_at dksX21_work_2 5 rfl rfl)
theorem dX21_work_56 : decode cX21_work 56 = .ok (.lstore 6, 2) := dk_55 6 (dk_at dksX21_work_2 8 rfl rfl)
theorem dX21_work_58 : decode cX21_work 58 = .ok (.aload_n 0, 1) := dk_42 (dk_at dksX21_work_2 10 rfl rfl)
theorem dX21_work_59 : decode cX21_work 59 = .ok (.getfield 9, 3) := dk_180 0 9 (dk_at dksX21_work_2 11 rfl rfl)
theorem dX21_work_62 : decode cX21_work 62 = .ok (.aload_n 1, 1) := dk_43 (dk_at dksX21_work_2 14 rfl rfl)
theorem dX21_work_63 : decode cX21_work 63 = .ok (.invokevirtual 61, 3) := dk_182 0 61 (dk_at dksX21_work_2 15 rfl rfl)
theorem dX21_work_66 : decode cX21_work 66 = .ok (.invokestatic 64, 3) := dk_184 0 64 (dk_at dksX21_work_2 18 rfl rfl)
theorem dX21_work_69 : decode cX21_work 69 = .ok (.istore 8, 2) := dk_54 8 (dk_at dksX21_work_2 21 rfl rfl)
theorem dX21_work_71 : decode cX21_work 71 = .ok (.iload_n 2, 1) := dk_28 (dk_at dksX21_work_2 23 rfl rfl)
theorem dX21_work_72 : decode cX21_work 72 = .ok (.tableswitch 104 0 3 #[32, 49, 66, 83], 32) := by decide +kernel
theorem dX21_work_104 : decode cX21_work 104 = .ok (.aload_n 0, 1) := dk_42 (dk_at dksX21_work_4 0 rfl rfl)
theorem dX21_work_105 : decode cX21_work 105 = .ok (.getfield 9, 3) := dk_180 0 9 (dk_at dksX21_work_4 1 rfl rfl)
theorem dX21_work_108 : decode cX21_work 108 = .ok (.aload_n 1, 1) := dk_43 (dk_at dksX21_work_4 4 rfl rfl)
theorem dX21_work_109 : decode cX21_work 109 = .ok (.iload_n 3, 1) := dk_29 (dk_at dksX21_work_4 5 rfl rfl)
theorem dX21_work_110 : decode cX21_work 110 = .ok (.lload 6, 2) := dk_22 6 (dk_at dksX21_work_4 6 rfl rfl)
theorem dX21_work_112 : decode cX21_work 112 = .ok (.lload 4, 2) := dk_22 4 (dk_at dksX21_work_4 8 rfl rfl)
theorem dX21_work_114 : decode cX21_work 114 = .ok (.ladd, 1) := dk_97 (dk_at dksX21_work_4 10 rfl rfl)
theorem dX21_work_115 : decode cX21_work 115 = .ok (.invokevirtual 67, 3) := dk_182 0 67 (dk_at dksX21_work_4 11 rfl rfl)
theorem dX21_work_118 : decode cX21_work 118 = .ok (.goto 81, 3) := dk_167 0 81 (dk_at dksX21_work_4 14 rfl rfl)
theorem dX21_work_121 : decode cX21_work 121 = .ok (.aload_n 0, 1) := dk_42 (dk_at dksX21_work_4 17 rfl rfl)
theorem dX21_work_122 : decode cX21_work 122 = .ok (.getfield 9, 3) := dk_180 0 9 (dk_at dksX21_work_4 18 rfl rfl)
theorem dX21_work_125 : decode cX21_work 125 = .ok (.aload_n 1, 1) := dk_43 (dk_at dksX21_work_4 21 rfl rfl)
theorem dX21_work_126 : decode cX21_work 126 = .ok (.iload_n 3, 1) := dk_29 (dk_at dksX21_work_4 22 rfl rfl)
theorem dX21_work_127 : decode cX21_work 127 = .ok (.lload 6, 2) := dk_22 6 (dk_at dksX21_work_5 0 rfl rfl)
theorem dX21_work_129 : decode cX21_work 129 = .ok (.lload 4, 2) := dk_22 4 (dk_at dksX21_work_5 2 rfl rfl)
theorem dX21_work_131 : decode cX21_work 131 = .ok (.lsub, 1) := dk_101 (dk_at dksX21_work_5 4 rfl rfl)
theorem dX21_work_132 : decode cX21_work 132 = .ok (.invokevirtual 67, 3) := dk_182 0 67 (dk_at dksX21_work_5 5 rfl rfl)
theorem dX21_work_135 : decode cX21_work 135 = .ok (.goto 64, 3) := dk_167 0 64 (dk_at dksX21_work_5 8 rfl rfl)
theorem dX21_work_138 : decode cX21_work 138 = .ok (.aload_n 0, 1) := dk_42 (dk_at dksX21_work_5 11 rfl rfl)
theorem dX21_work_139 : decode cX21_work 139 = .ok (.getfield 9, 3) := dk_180 0 9 (dk_at dksX21_work_5 12 rfl rfl)
theorem dX21_work_142 : decode cX21_work 142 = .ok (.aload_n 1, 1) := dk_43 (dk_at dksX21_work_5 15 rfl rfl)
theorem dX21_work_143 : decode cX21_work 143 = .ok (.iload_n 3, 1) := dk_29 (dk_at dksX21_work_5 16 rfl rfl)
theorem dX21_work_144 : decode cX21_work 144 = .ok (.lload 6, 2) := dk_22 6 (dk_at dksX21_work_5 17 rfl rfl)
theorem dX21_work_146 : decode cX21_work 146 = .ok (.lload 4, 2) := dk_22 4 (dk_at dksX21_work_5 19 rfl rfl)
theorem dX21_work_148 : decode cX21_work 148 = .ok (.lxor, 1) := dk_131 (dk_at dksX21_work_5 21 rfl rfl)
theorem dX21_work_149 : decode cX21_work 149 = .ok (.invokevirtual 67, 3) := dk_182 0 67 (dk_at dksX21_work_6 0 rfl rfl)
theorem dX21_work_152 : decode cX21_work 152 = .ok (.goto 47, 3) := dk_167 0 47 (dk_at dksX21_work_6 3 rfl rfl)
theorem dX21_work_155 : decode cX21_work 155 = .ok (.aload_n 0, 1) := dk_42 (dk_at dksX21_work_6 6 rfl rfl)
theorem dX21_work_156 : decode cX21_work 156 = .ok (.getfield 9, 3) := dk_180 0 9 (dk_at dksX21_work_6 7 rfl rfl)
theorem dX21_work_159 : decode cX21_work 159 = .ok (.aload_n 1, 1) := dk_43 (dk_at dksX21_work_6 10 rfl rfl)
theorem dX21_work_160 : decode cX21_work 160 = .ok (.iload_n 3, 1) := dk_29 (dk_at dksX21_work_6 11 rfl rfl)
theorem dX21_work_161 : decode cX21_work 161 = .ok (.lload 6, 2) := dk_22 6 (dk_at dksX21_work_6 12 rfl rfl)
theorem dX21_work_163 : decode cX21_work 163 = .ok (.iload 8, 2) := dk_21 8 (dk_at dksX21_work_6 14 rfl rfl)
theorem dX21_work_165 : decode cX21_work 165 = .ok (.lload 4, 2) := dk_22 4 (dk_at dksX21_work_6 16 rfl rfl)
theorem dX21_work_167 : decode cX21_work 167 = .ok (.invokestatic 71, 3) := dk_184 0 71 (dk_at dksX21_work_6 18 rfl rfl)
theorem dX21_work_170 : decode cX21_work 170 = .ok (.invokevirtual 67, 3) := dk_182 0 67 (dk_at dksX21_work_6 21 rfl rfl)
theorem dX21_work_173 : decode cX21_work 173 = .ok (.goto 26, 3) := dk_167 0 26 (dk_at dksX21_work_7 0 rfl rfl)
theorem dX21_work_176 : decode cX21_work 176 = .ok (.aload_n 0, 1) := dk_42 (dk_at dksX21_work_7 3 rfl rfl)
theorem dX21_work_177 : decode cX21_work 177 = .ok (.getfield 9, 3) := dk_180 0 9 (dk_at dksX21_work_7 4 rfl rfl)
theorem dX21_work_180 : decode cX21_work 180 = .ok (.aload_n 1, 1) := dk_43 (dk_at dksX21_work_7 7 rfl rfl)
theorem dX21_work_181 : decode cX21_work 181 = .ok (.iload_n 3, 1) := dk_29 (dk_at dksX21_work_7 8 rfl rfl)
theorem dX21_work_182 : decode cX21_work 182 = .ok (.lload 6, 2) := dk_22 6 (dk_at dksX21_work_7 9 rfl rfl)
theorem dX21_work_184 : decode cX21_work 184 = .ok (.iload 8, 2) := dk_21 8 (dk_at dksX21_work_7 11 rfl rfl)
theorem dX21_work_186 : decode cX21_work 186 = .ok (.lload 4, 2) := dk_22 4 (dk_at dksX21_work_7 13 rfl rfl)
theorem dX21_work_188 : decode cX21_work 188 = .ok (.iload 8, 2) := dk_21 8 (dk_at dksX21_work_7 15 rfl rfl)
theorem dX21_work_190 : decode cX21_work 190 = .ok (.i2l, 1) := dk_133 (dk_at dksX21_work_7 17 rfl rfl)
theorem dX21_work_191 : decode cX21_work 191 = .ok (.lrem, 1) := dk_113 (dk_at dksX21_work_7 18 rfl rfl)
theorem dX21_work_192 : decode cX21_work 192 = .ok (.lneg, 1) := dk_117 (dk_at dksX21_work_7 19 rfl rfl)
theorem dX21_work_193 : decode cX21_work 193 = .ok (.invokestatic 71, 3) := dk_184 0 71 (dk_at dksX21_work_7 20 rfl rfl)
theorem dX21_work_196 : decode cX21_work 196 = .ok (.invokevirtual 67, 3) := dk_182 0 67 (dk_at dksX21_work_8 0 rfl rfl)
theorem dX21_work_199 : decode cX21_work 199 = .ok (.return_, 1) := dk_177 (dk_at dksX21_work_8 3 rfl rfl)
abbrev cX21_doBack : ByteArray := prog_4_method_4_code
def yX21_doBack : MethodName := ⟨RX21, "doBack", "(LThereAndBack;)V"⟩
def dkwX21_doBack_0 : List UInt8 := [42, 43, 42, 180, 0, 15, 184, 0, 27, 182, 0, 23, 177]
abbrev dktX21_doBack_0 : List UInt8 := dkwX21_doBack_0 ++ []
theorem dksX21_doBack_0 : cX21_doBack.data.toList.drop 0 = dktX21_doBack_0 := by decide +kernel
theorem dX21_doBack_0 : decode cX21_doBack 0 = .ok (.aload_n 0, 1) := dk_42 (dk_at dksX21_doBack_0 0 rfl rfl)
theorem dX21_doBack_1 : decode cX21_doBack 1 = .ok (.aload_n 1, 1) := dk_43 (dk_at dksX21_doBack_0 1 rfl rfl)
theorem dX21_doBack_2 : decode cX21_doBack 2 = .ok (.aload_n 0, 1) := dk_42 (dk_at dksX21_doBack_0 2 rfl rfl)
theorem dX21_doBack_3 : decode cX21_doBack 3 = .ok (.getfield 15, 3) := dk_180 0 15 (dk_at dksX21_doBack_0 3 rfl rfl)
theorem dX21_doBack_6 : decode cX21_doBack 6 = .ok (.invokestatic 27, 3) := dk_184 0 27 (dk_at dksX21_doBack_0 6 rfl rfl)
theorem dX21_doBack_9 : decode cX21_doBack 9 = .ok (.invokevirtual 23, 3) := dk_182 0 23 (dk_at dksX21_doBack_0 9 rfl rfl)
theorem dX21_doBack_12 : decode cX21_doBack 12 = .ok (.return_, 1) := dk_177 (dk_at dksX21_doBack_0 12 rfl rfl)
theorem q175 : (Jvm.Cond.initialized "ThereAndBack$Change") ∈ lw_all := lw_g (lw_at lw_m1 31 rfl) rfl
theorem q667 : (Jvm.Cond.fieldLinkNest "ThereAndBack$Change" (41 : Nat) "ThereAndBack$Place" "index" "LThereAndBack$Expr;" "ThereAndBack") ∈ lw_tbl := lw_at lw_m3 43 rfl
theorem q897 : (Jvm.Cond.instantiable "ThereAndBack$Change" (3 : Nat)) ∈ lw_all := lw_g (lw_at lw_m4 33 rfl) rfl
theorem q899 : (Jvm.Cond.instanceMethod ({ cls := "ThereAndBack$Change", name := "<init>", desc := "(LThereAndBack$Place;ILThereAndBack$Expr;)V" } : Jvm.MethodName)) ∈ lw_all := lw_g (lw_at lw_m4 35 rfl) rfl
theorem q900 : (Jvm.Cond.code ({ cls := "ThereAndBack$Change", name := "<init>", desc := "(LThereAndBack$Place;ILThereAndBack$Expr;)V" } : Jvm.MethodName) prog_4_method_1_code (4 : Nat) (Option.none : Option Jvm.ClassFile.FieldType)) ∈ lw_all := lw_g (lw_at lw_m4 36 rfl) rfl
theorem q901 : (Jvm.Cond.methodLinkNest "ThereAndBack$Change" (3 : Nat) ({ cls := "ThereAndBack$Single", name := "<init>", desc := "()V" } : Jvm.MethodName) "ThereAndBack") ∈ lw_tbl := lw_at lw_m4 37 rfl
theorem q902 : (Jvm.Cond.fieldLink "ThereAndBack$Change" (9 : Nat) "ThereAndBack$Change" "place" "LThereAndBack$Place;") ∈ lw_all := lw_g (lw_at lw_m4 38 rfl) rfl
theorem q903 : (Jvm.Cond.fieldLink "ThereAndBack$Change" (15 : Nat) "ThereAndBack$Change" "how" "I") ∈ lw_all := lw_g (lw_at lw_m4 39 rfl) rfl
theorem q904 : (Jvm.Cond.fieldLink "ThereAndBack$Change" (19 : Nat) "ThereAndBack$Change" "by" "LThereAndBack$Expr;") ∈ lw_all := lw_g (lw_at lw_m4 40 rfl) rfl
theorem q905 : (Jvm.Cond.laysFinal "ThereAndBack$Change" "ThereAndBack$Change" "place" "LThereAndBack$Place;") ∈ lw_all := lw_g (lw_at lw_m4 41 rfl) rfl
theorem q906 : (Jvm.Cond.soleField "ThereAndBack$Change" "place") ∈ lw_all := lw_g (lw_at lw_m4 42 rfl) rfl
theorem q907 : (Jvm.Cond.laysFinal "ThereAndBack$Change" "ThereAndBack$Change" "how" "I") ∈ lw_all := lw_g (lw_at lw_m4 43 rfl) rfl
theorem q908 : (Jvm.Cond.soleField "ThereAndBack$Change" "how") ∈ lw_all := lw_g (lw_at lw_m4 44 rfl) rfl
theorem q909 : (Jvm.Cond.laysFinal "ThereAndBack$Change" "ThereAndBack$Change" "by" "LThereAndBack$Expr;") ∈ lw_all := lw_g (lw_at lw_m4 45 rfl) rfl
theorem q910 : (Jvm.Cond.soleField "ThereAndBack$Change" "by") ∈ lw_all := lw_g (lw_at lw_m4 46 rfl) rfl
theorem q911 : (Jvm.Cond.superclass "ThereAndBack$Change" "ThereAndBack$Single") ∈ lw_all := lw_g (lw_at lw_m4 47 rfl) rfl
theorem q1155 : (Jvm.Cond.selects "ThereAndBack$Change" ({ cls := "java/lang/Object", name := "getClass", desc := "()Ljava/lang/Class;" } : Jvm.MethodName) ({ cls := "java/lang/Object", name := "getClass", desc := "()Ljava/lang/Class;" } : Jvm.MethodName)) ∈ lw_all := lw_g (lw_at lw_m5 51 rfl) rfl
theorem q1270 : (Jvm.Cond.selects "ThereAndBack$Change" ({ cls := "ThereAndBack$Step", name := "lay", desc := "(Ljava/util/List;)V" } : Jvm.MethodName) ({ cls := "ThereAndBack$Single", name := "lay", desc := "(Ljava/util/List;)V" } : Jvm.MethodName)) ∈ lw_all := lw_g (lw_at lw_m5 166 rfl) rfl
theorem q1353 : (Jvm.Cond.selects "ThereAndBack$Change" ({ cls := "ThereAndBack$Step", name := "code", desc := "()I" } : Jvm.MethodName) ({ cls := "ThereAndBack$Step", name := "code", desc := "()I" } : Jvm.MethodName)) ∈ lw_all := lw_g (lw_at lw_m6 9 rfl) rfl
theorem q1414 : (Jvm.Cond.selects "ThereAndBack$Change" ({ cls := "ThereAndBack$Step", name := "isOrdinary", desc := "()Z" } : Jvm.MethodName) ({ cls := "ThereAndBack$Step", name := "isOrdinary", desc := "()Z" } : Jvm.MethodName)) ∈ lw_all := lw_g (lw_at lw_m6 70 rfl) rfl
theorem q1433 : (Jvm.Cond.selects "ThereAndBack$Change" ({ cls := "ThereAndBack$Step", name := "braces", desc := "()I" } : Jvm.MethodName) ({ cls := "ThereAndBack$Step", name := "braces", desc := "()I" } : Jvm.MethodName)) ∈ lw_all := lw_g (lw_at lw_m6 89 rfl) rfl
theorem q1482 : (Jvm.Cond.selects "ThereAndBack$Change" ({ cls := "ThereAndBack$Step", name := "names", desc := "()I" } : Jvm.MethodName) ({ cls := "ThereAndBack$Change", name := "names", desc := "()I" } : Jvm.MethodName)) ∈ lw_all := lw_g (lw_at lw_m6 138 rfl) rfl
theorem q1483 : (Jvm.Cond.instanceMethod ({ cls := "ThereAndBack$Change", name := "names", desc := "()I" } : Jvm.MethodName)) ∈ lw_all := lw_g (lw_at lw_m6 139 rfl) rfl
theorem q1484 : (Jvm.Cond.code ({ cls := "ThereAndBack$Change", name := "names", desc := "()I" } : Jvm.MethodName) prog_4_method_7_code (1 : Nat) (Option.some Jvm.ClassFile.FieldType.int)) ∈ lw_all := lw_g (lw_at lw_m6 140 rfl) rfl
theorem q1485 : (Jvm.Cond.methodLink "ThereAndBack$Change" (98 : Nat) ({ cls := "ThereAndBack$Place", name := "names", desc := "()I" } : Jvm.MethodName)) ∈ lw_all := lw_g (lw_at lw_m6 141 rfl) rfl
theorem q1491 : (Jvm.Cond.methodLink "ThereAndBack$Change" (102 : Nat) ({ cls := "ThereAndBack$Expr", name := "names", desc := "()I" } : Jvm.MethodName)) ∈ lw_all := lw_g (lw_at lw_m6 147 rfl) rfl
theorem q1626 : (Jvm.Cond.selects "ThereAndBack$Change" ({ cls := "ThereAndBack$Step", name := "print", desc := "(LThereAndBack;)V" } : Jvm.MethodName) ({ cls := "ThereAndBack$Change", name := "print", desc := "(LThereAndBack;)V" } : Jvm.MethodName)) ∈ lw_all := lw_g (lw_at lw_m7 42 rfl) rfl
theorem q1627 : (Jvm.Cond.instanceMethod ({ cls := "ThereAndBack$Change", name := "print", desc := "(LThereAndBack;)V" } : Jvm.MethodName)) ∈ lw_all := lw_g (lw_at lw_m7 43 rfl) rfl
theorem q1628 : (Jvm.Cond.code ({ cls := "ThereAndBack$Change", name := "print", desc := "(LThereAndBack;)V" } : Jvm.MethodName) prog_4_method_6_code (2 : Nat) (Option.none : Option Jvm.ClassFile.FieldType)) ∈ lw_all := lw_g (lw_at lw_m7 44 rfl) rfl
theorem q1629 : (Jvm.Cond.methodLink "ThereAndBack$Change" (75 : Nat) ({ cls := "ThereAndBack$Place", name := "print", desc := "(LThereAndBack;)V" } : Jvm.MethodName)) ∈ lw_all := lw_g (lw_at lw_m7 45 rfl) rfl
theorem q1637 : (Jvm.Cond.stringRef "ThereAndBack$Change" (79 : Nat) "+=") ∈ lw_tbl := lw_at lw_m7 53 rfl
theorem q1638 : (Jvm.Cond.stringRef "ThereAndBack$Change" (81 : Nat) "-=") ∈ lw_tbl := lw_at lw_m7 54 rfl
theorem q1639 : (Jvm.Cond.stringRef "ThereAndBack$Change" (83 : Nat) "^=") ∈ lw_tbl := lw_at lw_m7 55 rfl
theorem q1640 : (Jvm.Cond.stringRef "ThereAndBack$Change" (85 : Nat) "<<") ∈ lw_tbl := lw_at lw_m7 56 rfl
theorem q1641 : (Jvm.Cond.stringRef "ThereAndBack$Change" (87 : Nat) ">>") ∈ lw_tbl := lw_at lw_m7 57 rfl
theorem q1642 : (Jvm.Cond.methodLinkNest "ThereAndBack$Change" (89 : Nat) ({ cls := "ThereAndBack", name := "printWord", desc := "(Ljava/lang/String;)V" } : Jvm.MethodName) "ThereAndBack") ∈ lw_tbl := lw_at lw_m7 58 rfl
theorem q1643 : (Jvm.Cond.methodLink "ThereAndBack$Change" (93 : Nat) ({ cls := "ThereAndBack$Expr", name := "print", desc := "(LThereAndBack;)V" } : Jvm.MethodName)) ∈ lw_all := lw_g (lw_at lw_m7 59 rfl) rfl
theorem q1644 : (Jvm.Cond.methodLinkNest "ThereAndBack$Change" (94 : Nat) ({ cls := "ThereAndBack", name := "printBehind", desc := "(I)V" } : Jvm.MethodName) "ThereAndBack") ∈ lw_tbl := lw_at lw_m7 60 rfl
theorem q1764 : (Jvm.Cond.selects "ThereAndBack$Change" ({ cls := "ThereAndBack$Step", name := "mirror", desc := "()LThereAndBack$Step;" } : Jvm.MethodName) ({ cls := "ThereAndBack$Change", name := "mirror", desc := "()LThereAndBack$Step;" } : Jvm.MethodName)) ∈ lw_all := lw_g (lw_at lw_m7 180 rfl) rfl
theorem q1765 : (Jvm.Cond.instanceMethod ({ cls := "ThereAndBack$Change", name := "mirror", desc := "()LThereAndBack$Step;" } : Jvm.MethodName)) ∈ lw_all := lw_g (lw_at lw_m7 181 rfl) rfl
theorem q1766 : (Jvm.Cond.code ({ cls := "ThereAndBack$Change", name := "mirror", desc := "()LThereAndBack$Step;" } : Jvm.MethodName) prog_4_method_8_code (1 : Nat) (Option.some (Jvm.ClassFile.FieldType.object "ThereAndBack$Step"))) ∈ lw_all := lw_g (lw_at lw_m7 182 rfl) rfl
theorem q1767 : (Jvm.Cond.classLink "ThereAndBack$Change" (10 : Nat) "ThereAndBack$Change") ∈ lw_all := lw_g (lw_at lw_m7 183 rfl) rfl
theorem q1768 : (Jvm.Cond.methodLink "ThereAndBack$Change" (27 : Nat) ({ cls := "ThereAndBack$Change", name := "opposite", desc := "(I)I" } : Jvm.MethodName)) ∈ lw_all := lw_g (lw_at lw_m7 184 rfl) rfl
theorem q1769 : (Jvm.Cond.static ({ cls := "ThereAndBack$Change", name := "opposite", desc := "(I)I" } : Jvm.MethodName)) ∈ lw_all := lw_g (lw_at lw_m7 185 rfl) rfl
theorem q1770 : (Jvm.Cond.code ({ cls := "ThereAndBack$Change", name := "opposite", desc := "(I)I" } : Jvm.MethodName) prog_4_method_2_code (1 : Nat) (Option.some Jvm.ClassFile.FieldType.int)) ∈ lw_all := lw_g (lw_at lw_m7 186 rfl) rfl
theorem q1771 : (Jvm.Cond.methodLink "ThereAndBack$Change" (103 : Nat) ({ cls := "ThereAndBack$Change", name := "<init>", desc := "(LThereAndBack$Place;ILThereAndBack$Expr;)V" } : Jvm.MethodName)) ∈ lw_all := lw_g (lw_at lw_m7 187 rfl) rfl
theorem q1848 : (Jvm.Cond.selects "ThereAndBack$Change" ({ cls := "ThereAndBack$Step", name := "turn", desc := "(Ljava/util/List;I)V" } : Jvm.MethodName) ({ cls := "ThereAndBack$Step", name := "turn", desc := "(Ljava/util/List;I)V" } : Jvm.MethodName)) ∈ lw_all := lw_g (lw_at lw_m8 24 rfl) rfl
theorem q2001 : (Jvm.Cond.selects "ThereAndBack$Change" ({ cls := "ThereAndBack$Step", name := "walk", desc := "(LThereAndBack;)V" } : Jvm.MethodName) ({ cls := "ThereAndBack$Step", name := "walk", desc := "(LThereAndBack;)V" } : Jvm.MethodName)) ∈ lw_all := lw_g (lw_at lw_m8 177 rfl) rfl
theorem q2120 : (Jvm.Cond.selects "ThereAndBack$Change" ({ cls := "ThereAndBack$Single", name := "doForward", desc := "(LThereAndBack;)V" } : Jvm.MethodName) ({ cls := "ThereAndBack$Change", name := "doForward", desc := "(LThereAndBack;)V" } : Jvm.MethodName)) ∈ lw_all := lw_g (lw_at lw_m9 56 rfl) rfl
theorem q2121 : (Jvm.Cond.instanceMethod ({ cls := "ThereAndBack$Change", name := "doForward", desc := "(LThereAndBack;)V" } : Jvm.MethodName)) ∈ lw_all := lw_g (lw_at lw_m9 57 rfl) rfl
theorem q2122 : (Jvm.Cond.code ({ cls := "ThereAndBack$Change", name := "doForward", desc := "(LThereAndBack;)V" } : Jvm.MethodName) prog_4_method_3_code (2 : Nat) (Option.none : Option Jvm.ClassFile.FieldType)) ∈ lw_all := lw_g (lw_at lw_m9 58 rfl) rfl
theorem q2123 : (Jvm.Cond.methodLink "ThereAndBack$Change" (23 : Nat) ({ cls := "ThereAndBack$Change", name := "work", desc := "(LThereAndBack;I)V" } : Jvm.MethodName)) ∈ lw_all := lw_g (lw_at lw_m9 59 rfl) rfl
theorem q2124 : (Jvm.Cond.privateMethod ({ cls := "ThereAndBack$Change", name := "work", desc := "(LThereAndBack;I)V" } : Jvm.MethodName)) ∈ lw_tbl := lw_at lw_m9 60 rfl
theorem q2125 : (Jvm.Cond.instanceMethod ({ cls := "ThereAndBack$Change", name := "work", desc := "(LThereAndBack;I)V" } : Jvm.MethodName)) ∈ lw_all := lw_g (lw_at lw_m9 61 rfl) rfl
theorem q2126 : (Jvm.Cond.code ({ cls := "ThereAndBack$Change", name := "work", desc := "(LThereAndBack;I)V" } : Jvm.MethodName) prog_4_method_5_code (9 : Nat) (Option.none : Option Jvm.ClassFile.FieldType)) ∈ lw_all := lw_g (lw_at lw_m9 62 rfl) rfl
theorem q2127 : (Jvm.Cond.methodLink "ThereAndBack$Change" (31 : Nat) ({ cls := "ThereAndBack$Place", name := "find", desc := "(LThereAndBack;)I" } : Jvm.MethodName)) ∈ lw_all := lw_g (lw_at lw_m9 63 rfl) rfl
theorem q2133 : (Jvm.Cond.methodLinkNest "ThereAndBack$Change" (37 : Nat) ({ cls := "ThereAndBack", name := "bar", desc := "(LThereAndBack$Place;I)V" } : Jvm.MethodName) "ThereAndBack") ∈ lw_tbl := lw_at lw_m9 69 rfl
theorem q2141 : (Jvm.Cond.methodLink "ThereAndBack$Change" (44 : Nat) ({ cls := "ThereAndBack$Place", name := "check", desc := "(LThereAndBack;LThereAndBack$Expr;)V" } : Jvm.MethodName)) ∈ lw_all := lw_g (lw_at lw_m9 77 rfl) rfl
theorem q2145 : (Jvm.Cond.methodLink "ThereAndBack$Change" (48 : Nat) ({ cls := "ThereAndBack$Expr", name := "eval", desc := "(LThereAndBack;)J" } : Jvm.MethodName)) ∈ lw_all := lw_g (lw_at lw_m9 81 rfl) rfl
theorem q2146 : (Jvm.Cond.methodLinkNest "ThereAndBack$Change" (54 : Nat) ({ cls := "ThereAndBack", name := "free", desc := "()V" } : Jvm.MethodName) "ThereAndBack") ∈ lw_tbl := lw_at lw_m9 82 rfl
theorem q2147 : (Jvm.Cond.methodLink "ThereAndBack$Change" (57 : Nat) ({ cls := "ThereAndBack$Place", name := "get", desc := "(LThereAndBack;I)J" } : Jvm.MethodName)) ∈ lw_all := lw_g (lw_at lw_m9 83 rfl) rfl
theorem q2152 : (Jvm.Cond.methodLink "ThereAndBack$Change" (61 : Nat) ({ cls := "ThereAndBack$Place", name := "kind", desc := "(LThereAndBack;)I" } : Jvm.MethodName)) ∈ lw_all := lw_g (lw_at lw_m9 88 rfl) rfl
theorem q2157 : (Jvm.Cond.methodLinkNest "ThereAndBack$Change" (64 : Nat) ({ cls := "ThereAndBack", name := "bitsOf", desc := "(I)I" } : Jvm.MethodName) "ThereAndBack") ∈ lw_tbl := lw_at lw_m9 93 rfl
theorem q2160 : (Jvm.Cond.methodLink "ThereAndBack$Change" (67 : Nat) ({ cls := "ThereAndBack$Place", name := "set", desc := "(LThereAndBack;IJ)V" } : Jvm.MethodName)) ∈ lw_all := lw_g (lw_at lw_m9 96 rfl) rfl
theorem q2168 : (Jvm.Cond.methodLinkNest "ThereAndBack$Change" (71 : Nat) ({ cls := "ThereAndBack", name := "turned", desc := "(JIJ)J" } : Jvm.MethodName) "ThereAndBack") ∈ lw_tbl := lw_at lw_m9 104 rfl
theorem q2226 : (Jvm.Cond.selects "ThereAndBack$Change" ({ cls := "ThereAndBack$Single", name := "doBack", desc := "(LThereAndBack;)V" } : Jvm.MethodName) ({ cls := "ThereAndBack$Change", name := "doBack", desc := "(LThereAndBack;)V" } : Jvm.MethodName)) ∈ lw_all := lw_g (lw_at lw_m9 162 rfl) rfl
theorem q2227 : (Jvm.Cond.instanceMethod ({ cls := "ThereAndBack$Change", name := "doBack", desc := "(LThereAndBack;)V" } : Jvm.MethodName)) ∈ lw_all := lw_g (lw_at lw_m9 163 rfl) rfl
theorem q2228 : (Jvm.Cond.code ({ cls := "ThereAndBack$Change", name := "doBack", desc := "(LThereAndBack;)V" } : Jvm.MethodName) prog_4_method_4_code (2 : Nat) (Option.none : Option Jvm.ClassFile.FieldType)) ∈ lw_all := lw_g (lw_at lw_m9 164 rfl) rfl
theorem q3116 : (Jvm.Cond.castable "ThereAndBack$Change" "ThereAndBack$Step") ∈ lw_tbl := lw_at lw_m13 92 rfl
theorem q3147 : (Jvm.Cond.castable "ThereAndBack$Change" "java/lang/Object") ∈ lw_tbl := lw_at lw_m13 123 rfl
theorem in_X21 : ∀ w ∈ wsX210, w ∈ lw_all := lw_in wsX210 [905, 907, 909] (by decide +kernel) (by decide +kernel)
/-! ThereAndBack$Ordinary -/
set_option maxRecDepth 100000
def RX22 : String := "ThereAndBack$Ordinary"
abbrev cX22_init : ByteArray := prog_20_method_1_code
def yX22_init : MethodName := ⟨RX22, "<init>", "()V"⟩
theorem dX22_init_0 : decode cX22_init 0 = .ok (.aload_n 0, 1) := by decide +kernel
theorem dX22_init_1 : decode cX22_init 1 = .ok (.invokespecial 3, 3) := by decide +kernel
theorem dX22_init_4 : decode cX22_init 4 = .ok (.return_, 1) := by decide +kernel
abbrev cX22_lay : ByteArray := prog_20_method_4_code
def yX22_lay : MethodName := ⟨RX22, "lay", "(Ljava/util/List;)V"⟩
theorem dX22_lay_0 : decode cX22_lay 0 = .ok (.return_, 1) := by decide +kernel
abbrev cX22_isOrdinary : ByteArray := prog_20_method_2_code
def yX22_isOrdinary : MethodName := ⟨RX22, "isOrdinary", "()Z"⟩
theorem dX22_isOrdinary_0 : decode cX22_isOrdinary 0 = .ok (.iconst 1, 1) := by decide +kernel
theorem dX22_isOrdinary_1 : decode cX22_isOrdinary 1 = .ok (.ireturn, 1) := by decide +kernel
abbrev cX22_mirror : ByteArray := prog_20_method_3_code
def yX22_mirror : MethodName := ⟨RX22, "mirror", "()LThereAndBack$Step;"⟩
theorem dX22_mirror_0 : decode cX22_mirror 0 = .ok (.aload_n 0, 1) := by decide +kernel
theorem dX22_mirror_1 : decode cX22_mirror 1 = .ok (.areturn, 1) := by decide +kernel
abbrev cX22_keep : ByteArray := prog_20_method_7_code
def yX22_keep : MethodName := ⟨RX22, "keep", "(Ljava/util/List;I)V"⟩
def dkwX22_keep_1 : List UInt8 := [187, 0, 11, 89, 3, 183, 0, 13, 3, 183, 0, 32, 185, 0, 24, 2, 0, 87, 177]
abbrev dktX22_keep_1 : List UInt8 := dkwX22_keep_1 ++ []
def dkwX22_keep_0 : List UInt8 := [42, 187, 0, 19, 89, 27, 6, 4, 183, 0, 21, 185, 0, 24, 2, 0, 87, 42, 187, 0, 30, 89, 27]
abbrev dktX22_keep_0 : List UInt8 := dkwX22_keep_0 ++ dktX22_keep_1
theorem dksX22_keep_0 : cX22_keep.data.toList.drop 0 = dktX22_keep_0 := by decide +kernel
theorem dksX22_keep_1 : cX22_keep.data.toList.drop 23 = dktX22_keep_1 := dk_seg dksX22_keep_0 23 rfl rfl
theorem dX22_keep_0 : decode cX22_keep 0 = .ok (.aload_n 0, 1) := dk_42 (dk_at dksX22_keep_0 0 rfl rfl)
theorem dX22_keep_1 : decode cX22_keep 1 = .ok (.new 19, 3) := dk_187 0 19 (dk_at dksX22_keep_0 1 rfl rfl)
theorem dX22_keep_4 : decode cX22_keep 4 = .ok (.dup, 1) := dk_89 (dk_at dksX22_keep_0 4 rfl rfl)
theorem dX22_keep_5 : decode cX22_keep 5 = .ok (.iload_n 1, 1) := dk_27 (dk_at dksX22_keep_0 5 rfl rfl)
theorem dX22_keep_6 : decode cX22_keep 6 = .ok (.iconst 3, 1) := dk_6 (dk_at dksX22_keep_0 6 rfl rfl)
theorem dX22_keep_7 : decode cX22_keep 7 = .ok (.iconst 1, 1) := dk_4 (dk_at dksX22_keep_0 7 rfl rfl)
theorem dX22_keep_8 : decode cX22_keep 8 = .ok (.invokespecial 21, 3) := dk_183 0 21 (dk_at dksX22_keep_0 8 rfl rfl)
theorem dX22_keep_11 : decode cX22_keep 11 = .ok (.invokeinterface 24 2, 5) := by decide +kernel
theorem dX22_keep_16 : decode cX22_keep 16 = .ok (.pop, 1) := dk_87 (dk_at dksX22_keep_0 16 rfl rfl)
theorem dX22_keep_17 : decode cX22_keep 17 = .ok (.aload_n 0, 1) := dk_42 (dk_at dksX22_keep_0 17 rfl rfl)
theorem dX22_keep_18 : decode cX22_keep 18 = .ok (.new 30, 3) := dk_187 0 30 (dk_at dksX22_keep_0 18 rfl rfl)
theorem dX22_keep_21 : decode cX22_keep 21 = .ok (.dup, 1) := dk_89 (dk_at dksX22_keep_0 21 rfl rfl)
theorem dX22_keep_22 : decode cX22_keep 22 = .ok (.iload_n 1, 1) := dk_27 (dk_at dksX22_keep_0 22 rfl rfl)
theorem dX22_keep_23 : decode cX22_keep 23 = .ok (.new 11, 3) := dk_187 0 11 (dk_at dksX22_keep_1 0 rfl rfl)
theorem dX22_keep_26 : decode cX22_keep 26 = .ok (.dup, 1) := dk_89 (dk_at dksX22_keep_1 3 rfl rfl)
theorem dX22_keep_27 : decode cX22_keep 27 = .ok (.iconst 0, 1) := dk_3 (dk_at dksX22_keep_1 4 rfl rfl)
theorem dX22_keep_28 : decode cX22_keep 28 = .ok (.invokespecial 13, 3) := dk_183 0 13 (dk_at dksX22_keep_1 5 rfl rfl)
theorem dX22_keep_31 : decode cX22_keep 31 = .ok (.iconst 0, 1) := dk_3 (dk_at dksX22_keep_1 8 rfl rfl)
theorem dX22_keep_32 : decode cX22_keep 32 = .ok (.invokespecial 32, 3) := dk_183 0 32 (dk_at dksX22_keep_1 9 rfl rfl)
theorem dX22_keep_35 : decode cX22_keep 35 = .ok (.invokeinterface 24 2, 5) := by decide +kernel
theorem dX22_keep_40 : decode cX22_keep 40 = .ok (.pop, 1) := dk_87 (dk_at dksX22_keep_1 17 rfl rfl)
theorem dX22_keep_41 : decode cX22_keep 41 = .ok (.return_, 1) := dk_177 (dk_at dksX22_keep_1 18 rfl rfl)
abbrev cX22_counter : ByteArray := prog_20_method_5_code
def yX22_counter : MethodName := ⟨RX22, "counter", "(I)I"⟩
def dkwX22_counter_0 : List UInt8 := [16, 24, 26, 100, 172]
abbrev dktX22_counter_0 : List UInt8 := dkwX22_counter_0 ++ []
theorem dksX22_counter_0 : cX22_counter.data.toList.drop 0 = dktX22_counter_0 := by decide +kernel
theorem dX22_counter_0 : decode cX22_counter 0 = .ok (.bipush 24, 2) := dk_16 24 (dk_at dksX22_counter_0 0 rfl rfl)
theorem dX22_counter_2 : decode cX22_counter 2 = .ok (.iload_n 0, 1) := dk_26 (dk_at dksX22_counter_0 2 rfl rfl)
theorem dX22_counter_3 : decode cX22_counter 3 = .ok (.isub, 1) := dk_100 (dk_at dksX22_counter_0 3 rfl rfl)
theorem dX22_counter_4 : decode cX22_counter 4 = .ok (.ireturn, 1) := dk_172 (dk_at dksX22_counter_0 4 rfl rfl)
abbrev cX22_isNought : ByteArray := prog_20_method_6_code
def yX22_isNought : MethodName := ⟨RX22, "isNought", "(LThereAndBack$Expr;)LThereAndBack$Expr;"⟩
def dkwX22_isNought_0 : List UInt8 := [187, 0, 9, 89, 42, 16, 61, 187, 0, 11, 89, 3, 183, 0, 13, 183, 0, 16, 176]
abbrev dktX22_isNought_0 : List UInt8 := dkwX22_isNought_0 ++ []
theorem dksX22_isNought_0 : cX22_isNought.data.toList.drop 0 = dktX22_isNought_0 := by decide +kernel
theorem dX22_isNought_0 : decode cX22_isNought 0 = .ok (.new 9, 3) := dk_187 0 9 (dk_at dksX22_isNought_0 0 rfl rfl)
theorem dX22_isNought_3 : decode cX22_isNought 3 = .ok (.dup, 1) := dk_89 (dk_at dksX22_isNought_0 3 rfl rfl)
theorem dX22_isNought_4 : decode cX22_isNought 4 = .ok (.aload_n 0, 1) := dk_42 (dk_at dksX22_isNought_0 4 rfl rfl)
theorem dX22_isNought_5 : decode cX22_isNought 5 = .ok (.bipush 61, 2) := dk_16 61 (dk_at dksX22_isNought_0 5 rfl rfl)
theorem dX22_isNought_7 : decode cX22_isNought 7 = .ok (.new 11, 3) := dk_187 0 11 (dk_at dksX22_isNought_0 7 rfl rfl)
theorem dX22_isNought_10 : decode cX22_isNought 10 = .ok (.dup, 1) := dk_89 (dk_at dksX22_isNought_0 10 rfl rfl)
theorem dX22_isNought_11 : decode cX22_isNought 11 = .ok (.iconst 0, 1) := dk_3 (dk_at dksX22_isNought_0 11 rfl rfl)
theorem dX22_isNought_12 : decode cX22_isNought 12 = .ok (.invokespecial 13, 3) := dk_183 0 13 (dk_at dksX22_isNought_0 12 rfl rfl)
theorem dX22_isNought_15 : decode cX22_isNought 15 = .ok (.invokespecial 16, 3) := dk_183 0 16 (dk_at dksX22_isNought_0 15 rfl rfl)
theorem dX22_isNought_18 : decode cX22_isNought 18 = .ok (.areturn, 1) := dk_176 (dk_at dksX22_isNought_0 18 rfl rfl)
theorem q176 : (Jvm.Cond.initialized "ThereAndBack$Ordinary") ∈ lw_all := lw_g (lw_at lw_m1 32 rfl) rfl
theorem q922 : (Jvm.Cond.instanceMethod ({ cls := "ThereAndBack$Ordinary", name := "<init>", desc := "()V" } : Jvm.MethodName)) ∈ lw_all := lw_g (lw_at lw_m4 58 rfl) rfl
theorem q923 : (Jvm.Cond.code ({ cls := "ThereAndBack$Ordinary", name := "<init>", desc := "()V" } : Jvm.MethodName) prog_20_method_1_code (1 : Nat) (Option.none : Option Jvm.ClassFile.FieldType)) ∈ lw_all := lw_g (lw_at lw_m4 59 rfl) rfl
theorem q924 : (Jvm.Cond.methodLinkNest "ThereAndBack$Ordinary" (3 : Nat) ({ cls := "ThereAndBack$Step", name := "<init>", desc := "()V" } : Jvm.MethodName) "ThereAndBack") ∈ lw_tbl := lw_at lw_m4 60 rfl
theorem q1249 : (Jvm.Cond.instanceMethod ({ cls := "ThereAndBack$Ordinary", name := "lay", desc := "(Ljava/util/List;)V" } : Jvm.MethodName)) ∈ lw_all := lw_g (lw_at lw_m5 145 rfl) rfl
theorem q1250 : (Jvm.Cond.code ({ cls := "ThereAndBack$Ordinary", name := "lay", desc := "(Ljava/util/List;)V" } : Jvm.MethodName) prog_20_method_4_code (2 : Nat) (Option.none : Option Jvm.ClassFile.FieldType)) ∈ lw_all := lw_g (lw_at lw_m5 146 rfl) rfl
theorem q1411 : (Jvm.Cond.instanceMethod ({ cls := "ThereAndBack$Ordinary", name := "isOrdinary", desc := "()Z" } : Jvm.MethodName)) ∈ lw_all := lw_g (lw_at lw_m6 67 rfl) rfl
theorem q1412 : (Jvm.Cond.code ({ cls := "ThereAndBack$Ordinary", name := "isOrdinary", desc := "()Z" } : Jvm.MethodName) prog_20_method_2_code (1 : Nat) (Option.some Jvm.ClassFile.FieldType.boolean)) ∈ lw_all := lw_g (lw_at lw_m6 68 rfl) rfl
theorem q1757 : (Jvm.Cond.instanceMethod ({ cls := "ThereAndBack$Ordinary", name := "mirror", desc := "()LThereAndBack$Step;" } : Jvm.MethodName)) ∈ lw_all := lw_g (lw_at lw_m7 173 rfl) rfl
theorem q1758 : (Jvm.Cond.code ({ cls := "ThereAndBack$Ordinary", name := "mirror", desc := "()LThereAndBack$Step;" } : Jvm.MethodName) prog_20_method_3_code (1 : Nat) (Option.some (Jvm.ClassFile.FieldType.object "ThereAndBack$Step"))) ∈ lw_all := lw_g (lw_at lw_m7 174 rfl) rfl
theorem q1837 : (Jvm.Cond.static ({ cls := "ThereAndBack$Ordinary", name := "keep", desc := "(Ljava/util/List;I)V" } : Jvm.MethodName)) ∈ lw_all := lw_g (lw_at lw_m8 13 rfl) rfl
theorem q1838 : (Jvm.Cond.code ({ cls := "ThereAndBack$Ordinary", name := "keep", desc := "(Ljava/util/List;I)V" } : Jvm.MethodName) prog_20_method_7_code (2 : Nat) (Option.none : Option Jvm.ClassFile.FieldType)) ∈ lw_all := lw_g (lw_at lw_m8 14 rfl) rfl
theorem q1839 : (Jvm.Cond.classLink "ThereAndBack$Ordinary" (19 : Nat) "ThereAndBack$Push") ∈ lw_all := lw_g (lw_at lw_m8 15 rfl) rfl
theorem q1840 : (Jvm.Cond.methodLink "ThereAndBack$Ordinary" (21 : Nat) ({ cls := "ThereAndBack$Push", name := "<init>", desc := "(IIZ)V" } : Jvm.MethodName)) ∈ lw_all := lw_g (lw_at lw_m8 16 rfl) rfl
theorem q1841 : (Jvm.Cond.interfaceEntry "ThereAndBack$Ordinary" (24 : Nat)) ∈ lw_tbl := lw_at lw_m8 17 rfl
theorem q1842 : (Jvm.Cond.methodLink "ThereAndBack$Ordinary" (24 : Nat) ({ cls := "java/util/List", name := "add", desc := "(Ljava/lang/Object;)Z" } : Jvm.MethodName)) ∈ lw_all := lw_g (lw_at lw_m8 18 rfl) rfl
theorem q1843 : (Jvm.Cond.classLink "ThereAndBack$Ordinary" (30 : Nat) "ThereAndBack$Let") ∈ lw_all := lw_g (lw_at lw_m8 19 rfl) rfl
theorem q1844 : (Jvm.Cond.classLink "ThereAndBack$Ordinary" (11 : Nat) "ThereAndBack$Num") ∈ lw_all := lw_g (lw_at lw_m8 20 rfl) rfl
theorem q1845 : (Jvm.Cond.methodLink "ThereAndBack$Ordinary" (13 : Nat) ({ cls := "ThereAndBack$Num", name := "<init>", desc := "(I)V" } : Jvm.MethodName)) ∈ lw_all := lw_g (lw_at lw_m8 21 rfl) rfl
theorem q1846 : (Jvm.Cond.methodLink "ThereAndBack$Ordinary" (32 : Nat) ({ cls := "ThereAndBack$Let", name := "<init>", desc := "(ILThereAndBack$Expr;Z)V" } : Jvm.MethodName)) ∈ lw_all := lw_g (lw_at lw_m8 22 rfl) rfl
theorem q1860 : (Jvm.Cond.static ({ cls := "ThereAndBack$Ordinary", name := "counter", desc := "(I)I" } : Jvm.MethodName)) ∈ lw_all := lw_g (lw_at lw_m8 36 rfl) rfl
theorem q1861 : (Jvm.Cond.code ({ cls := "ThereAndBack$Ordinary", name := "counter", desc := "(I)I" } : Jvm.MethodName) prog_20_method_5_code (1 : Nat) (Option.some Jvm.ClassFile.FieldType.int)) ∈ lw_all := lw_g (lw_at lw_m8 37 rfl) rfl
theorem q1865 : (Jvm.Cond.static ({ cls := "ThereAndBack$Ordinary", name := "isNought", desc := "(LThereAndBack$Expr;)LThereAndBack$Expr;" } : Jvm.MethodName)) ∈ lw_all := lw_g (lw_at lw_m8 41 rfl) rfl
theorem q1866 : (Jvm.Cond.code ({ cls := "ThereAndBack$Ordinary", name := "isNought", desc := "(LThereAndBack$Expr;)LThereAndBack$Expr;" } : Jvm.MethodName) prog_20_method_6_code (1 : Nat) (Option.some (Jvm.ClassFile.FieldType.object "ThereAndBack$Expr"))) ∈ lw_all := lw_g (lw_at lw_m8 42 rfl) rfl
theorem q1867 : (Jvm.Cond.classLink "ThereAndBack$Ordinary" (9 : Nat) "ThereAndBack$Compare") ∈ lw_all := lw_g (lw_at lw_m8 43 rfl) rfl
theorem q1868 : (Jvm.Cond.methodLink "ThereAndBack$Ordinary" (16 : Nat) ({ cls := "ThereAndBack$Compare", name := "<init>", desc := "(LThereAndBack$Expr;ILThereAndBack$Expr;)V" } : Jvm.MethodName)) ∈ lw_all := lw_g (lw_at lw_m8 44 rfl) rfl
/-! ThereAndBack$Assign -/
set_option maxRecDepth 100000
def RX23 : String := "ThereAndBack$Assign"
def TX23 : u_T := fun k => match k with
  | 0 => ("ThereAndBack$Assign", "name", "I", true)
  | _ => ("ThereAndBack$Assign", "value", "LThereAndBack$Expr;", true)
def tyX23 : Nat → FieldType := fun k => match k with
  | 0 => .int
  | _ => .object "ThereAndBack$Expr"
abbrev wsX230 : List Cond := u_ws RX23 TX23 2
theorem nmX23 : ∀ a, a < 2 → ∀ b, b < 2 → a ≠ b → (TX23 a).2.1 ≠ (TX23 b).2.1 := by decide +kernel
theorem tyX23_ok : ∀ k, k < 2 → parseFieldDescriptor (TX23 k).2.2.1 = some (tyX23 k) := by decide +kernel
abbrev cX23_init : ByteArray := prog_2_method_1_code
def yX23_init : MethodName := ⟨RX23, "<init>", "(ILThereAndBack$Expr;)V"⟩
def dkwX23_init_0 : List UInt8 := [42, 183, 0, 3, 42, 27, 181, 0, 9, 42, 44, 181, 0, 15, 177]
abbrev dktX23_init_0 : List UInt8 := dkwX23_init_0 ++ []
theorem dksX23_init_0 : cX23_init.data.toList.drop 0 = dktX23_init_0 := by decide +kernel
theorem dX23_init_0 : decode cX23_init 0 = .ok (.aload_n 0, 1) := dk_42 (dk_at dksX23_init_0 0 rfl rfl)
theorem dX23_init_1 : decode cX23_init 1 = .ok (.invokespecial 3, 3) := dk_183 0 3 (dk_at dksX23_init_0 1 rfl rfl)
theorem dX23_init_4 : decode cX23_init 4 = .ok (.aload_n 0, 1) := dk_42 (dk_at dksX23_init_0 4 rfl rfl)
theorem dX23_init_5 : decode cX23_init 5 = .ok (.iload_n 1, 1) := dk_27 (dk_at dksX23_init_0 5 rfl rfl)
theorem dX23_init_6 : decode cX23_init 6 = .ok (.putfield 9, 3) := dk_181 0 9 (dk_at dksX23_init_0 6 rfl rfl)
theorem dX23_init_9 : decode cX23_init 9 = .ok (.aload_n 0, 1) := dk_42 (dk_at dksX23_init_0 9 rfl rfl)
theorem dX23_init_10 : decode cX23_init 10 = .ok (.aload_n 2, 1) := dk_44 (dk_at dksX23_init_0 10 rfl rfl)
theorem dX23_init_11 : decode cX23_init 11 = .ok (.putfield 15, 3) := dk_181 0 15 (dk_at dksX23_init_0 11 rfl rfl)
theorem dX23_init_14 : decode cX23_init 14 = .ok (.return_, 1) := dk_177 (dk_at dksX23_init_0 14 rfl rfl)
abbrev cX23_names : ByteArray := prog_2_method_3_code
def yX23_names : MethodName := ⟨RX23, "names", "()I"⟩
def dkwX23_names_0 : List UInt8 := [4, 42, 180, 0, 9, 120, 42, 180, 0, 15, 182, 0, 38, 128, 172]
abbrev dktX23_names_0 : List UInt8 := dkwX23_names_0 ++ []
theorem dksX23_names_0 : cX23_names.data.toList.drop 0 = dktX23_names_0 := by decide +kernel
theorem dX23_names_0 : decode cX23_names 0 = .ok (.iconst 1, 1) := dk_4 (dk_at dksX23_names_0 0 rfl rfl)
theorem dX23_names_1 : decode cX23_names 1 = .ok (.aload_n 0, 1) := dk_42 (dk_at dksX23_names_0 1 rfl rfl)
theorem dX23_names_2 : decode cX23_names 2 = .ok (.getfield 9, 3) := dk_180 0 9 (dk_at dksX23_names_0 2 rfl rfl)
theorem dX23_names_5 : decode cX23_names 5 = .ok (.ishl, 1) := dk_120 (dk_at dksX23_names_0 5 rfl rfl)
theorem dX23_names_6 : decode cX23_names 6 = .ok (.aload_n 0, 1) := dk_42 (dk_at dksX23_names_0 6 rfl rfl)
theorem dX23_names_7 : decode cX23_names 7 = .ok (.getfield 15, 3) := dk_180 0 15 (dk_at dksX23_names_0 7 rfl rfl)
theorem dX23_names_10 : decode cX23_names 10 = .ok (.invokevirtual 38, 3) := dk_182 0 38 (dk_at dksX23_names_0 10 rfl rfl)
theorem dX23_names_13 : decode cX23_names 13 = .ok (.ior, 1) := dk_128 (dk_at dksX23_names_0 13 rfl rfl)
theorem dX23_names_14 : decode cX23_names 14 = .ok (.ireturn, 1) := dk_172 (dk_at dksX23_names_0 14 rfl rfl)
abbrev cX23_print : ByteArray := prog_2_method_2_code
def yX23_print : MethodName := ⟨RX23, "print", "(LThereAndBack;)V"⟩
def dkwX23_print_1 : List UInt8 := [180, 0, 15, 43, 182, 0, 29, 43, 16, 59, 182, 0, 35, 177]
abbrev dktX23_print_1 : List UInt8 := dkwX23_print_1 ++ []
def dkwX23_print_0 : List UInt8 := [43, 18, 19, 182, 0, 21, 43, 16, 97, 42, 180, 0, 9, 96, 182, 0, 25, 43, 16, 61, 182, 0, 25, 42]
abbrev dktX23_print_0 : List UInt8 := dkwX23_print_0 ++ dktX23_print_1
theorem dksX23_print_0 : cX23_print.data.toList.drop 0 = dktX23_print_0 := by decide +kernel
theorem dksX23_print_1 : cX23_print.data.toList.drop 24 = dktX23_print_1 := dk_seg dksX23_print_0 24 rfl rfl
theorem dX23_print_0 : decode cX23_print 0 = .ok (.aload_n 1, 1) := dk_43 (dk_at dksX23_print_0 0 rfl rfl)
theorem dX23_print_1 : decode cX23_print 1 = .ok (.ldc 19, 2) := dk_18 19 (dk_at dksX23_print_0 1 rfl rfl)
theorem dX23_print_3 : decode cX23_print 3 = .ok (.invokevirtual 21, 3) := dk_182 0 21 (dk_at dksX23_print_0 3 rfl rfl)
theorem dX23_print_6 : decode cX23_print 6 = .ok (.aload_n 1, 1) := dk_43 (dk_at dksX23_print_0 6 rfl rfl)
theorem dX23_print_7 : decode cX23_print 7 = .ok (.bipush 97, 2) := dk_16 97 (dk_at dksX23_print_0 7 rfl rfl)
theorem dX23_print_9 : decode cX23_print 9 = .ok (.aload_n 0, 1) := dk_42 (dk_at dksX23_print_0 9 rfl rfl)
theorem dX23_print_10 : decode cX23_print 10 = .ok (.getfield 9, 3) := dk_180 0 9 (dk_at dksX23_print_0 10 rfl rfl)
theorem dX23_print_13 : decode cX23_print 13 = .ok (.iadd, 1) := dk_96 (dk_at dksX23_print_0 13 rfl rfl)
theorem dX23_print_14 : decode cX23_print 14 = .ok (.invokevirtual 25, 3) := dk_182 0 25 (dk_at dksX23_print_0 14 rfl rfl)
theorem dX23_print_17 : decode cX23_print 17 = .ok (.aload_n 1, 1) := dk_43 (dk_at dksX23_print_0 17 rfl rfl)
theorem dX23_print_18 : decode cX23_print 18 = .ok (.bipush 61, 2) := dk_16 61 (dk_at dksX23_print_0 18 rfl rfl)
theorem dX23_print_20 : decode cX23_print 20 = .ok (.invokevirtual 25, 3) := dk_182 0 25 (dk_at dksX23_print_0 20 rfl rfl)
theorem dX23_print_23 : decode cX23_print 23 = .ok (.aload_n 0, 1) := dk_42 (dk_at dksX23_print_0 23 rfl rfl)
theorem dX23_print_24 : decode cX23_print 24 = .ok (.getfield 15, 3) := dk_180 0 15 (dk_at dksX23_print_1 0 rfl rfl)
theorem dX23_print_27 : decode cX23_print 27 = .ok (.aload_n 1, 1) := dk_43 (dk_at dksX23_print_1 3 rfl rfl)
theorem dX23_print_28 : decode cX23_print 28 = .ok (.invokevirtual 29, 3) := dk_182 0 29 (dk_at dksX23_print_1 4 rfl rfl)
theorem dX23_print_31 : decode cX23_print 31 = .ok (.aload_n 1, 1) := dk_43 (dk_at dksX23_print_1 7 rfl rfl)
theorem dX23_print_32 : decode cX23_print 32 = .ok (.bipush 59, 2) := dk_16 59 (dk_at dksX23_print_1 8 rfl rfl)
theorem dX23_print_34 : decode cX23_print 34 = .ok (.invokevirtual 35, 3) := dk_182 0 35 (dk_at dksX23_print_1 10 rfl rfl)
theorem dX23_print_37 : decode cX23_print 37 = .ok (.return_, 1) := dk_177 (dk_at dksX23_print_1 13 rfl rfl)
abbrev cX23_turn : ByteArray := prog_2_method_4_code
def yX23_turn : MethodName := ⟨RX23, "turn", "(Ljava/util/List;I)V"⟩
def dkwX23_turn_11 : List UInt8 := [21, 6, 184, 0, 91, 177]
abbrev dktX23_turn_11 : List UInt8 := dkwX23_turn_11 ++ []
def dkwX23_turn_10 : List UInt8 := [89, 45, 187, 0, 42, 89, 21, 6, 3, 1, 183, 0, 44, 183, 0, 88, 185, 0, 70, 2, 0, 87, 43]
abbrev dktX23_turn_10 : List UInt8 := dkwX23_turn_10 ++ dktX23_turn_11
def dkwX23_turn_9 : List UInt8 := [187, 0, 81, 89, 21, 6, 42, 180, 0, 15, 4, 183, 0, 83, 185, 0, 70, 2, 0, 87, 43, 187, 0, 86]
abbrev dktX23_turn_9 : List UInt8 := dkwX23_turn_9 ++ dktX23_turn_10
def dkwX23_turn_8 : List UInt8 := [45, 3, 42, 180, 0, 15, 183, 0, 67, 185, 0, 70, 2, 0, 87, 167, 0, 60, 16, 25, 54, 6, 43]
abbrev dktX23_turn_8 : List UInt8 := dkwX23_turn_8 ++ dktX23_turn_9
def dkwX23_turn_7 : List UInt8 := [187, 0, 76, 89, 42, 180, 0, 9, 6, 4, 183, 0, 78, 185, 0, 70, 2, 0, 87, 43, 187, 0, 65, 89]
abbrev dktX23_turn_7 : List UInt8 := dkwX23_turn_7 ++ dktX23_turn_8
def dkwX23_turn_6 : List UInt8 := [185, 0, 70, 2, 0, 87, 167, 0, 117, 42, 180, 0, 15, 42, 180, 0, 9, 182, 0, 61, 154, 0, 46, 43]
abbrev dktX23_turn_6 : List UInt8 := dkwX23_turn_6 ++ dktX23_turn_7
def dkwX23_turn_5 : List UInt8 := [25, 4, 180, 0, 49, 16, 45, 160, 0, 7, 4, 167, 0, 4, 5, 25, 4, 180, 0, 58, 183, 0, 67]
abbrev dktX23_turn_5 : List UInt8 := dkwX23_turn_5 ++ dktX23_turn_6
def dkwX23_turn_4 : List UInt8 := [154, 0, 55, 43, 187, 0, 65, 89, 45, 25, 4, 180, 0, 49, 16, 43, 160, 0, 7, 3, 167, 0, 18]
abbrev dktX23_turn_4 : List UInt8 := dkwX23_turn_4 ++ dktX23_turn_5
def dkwX23_turn_3 : List UInt8 := [180, 0, 57, 42, 180, 0, 9, 160, 0, 70, 25, 4, 180, 0, 58, 42, 180, 0, 9, 182, 0, 61]
abbrev dktX23_turn_3 : List UInt8 := dkwX23_turn_3 ++ dktX23_turn_4
def dkwX23_turn_2 : List UInt8 := [25, 4, 180, 0, 52, 58, 6, 25, 6, 193, 0, 55, 153, 0, 89, 25, 6, 192, 0, 55, 58, 5, 25, 5]
abbrev dktX23_turn_2 : List UInt8 := dkwX23_turn_2 ++ dktX23_turn_3
def dkwX23_turn_1 : List UInt8 := [193, 0, 47, 153, 0, 121, 25, 6, 192, 0, 47, 58, 4, 25, 4, 180, 0, 49, 16, 124, 159, 0, 104]
abbrev dktX23_turn_1 : List UInt8 := dkwX23_turn_1 ++ dktX23_turn_2
def dkwX23_turn_0 : List UInt8 := [187, 0, 42, 89, 42, 180, 0, 9, 3, 1, 183, 0, 44, 78, 42, 180, 0, 15, 58, 6, 25, 6]
abbrev dktX23_turn_0 : List UInt8 := dkwX23_turn_0 ++ dktX23_turn_1
theorem dksX23_turn_0 : cX23_turn.data.toList.drop 0 = dktX23_turn_0 := by decide +kernel
theorem dksX23_turn_1 : cX23_turn.data.toList.drop 22 = dktX23_turn_1 := dk_seg dksX23_turn_0 22 rfl rfl
theorem dksX23_turn_2 : cX23_turn.data.toList.drop 45 = dktX23_turn_2 := dk_seg dksX23_turn_1 23 rfl rfl
theorem dksX23_turn_3 : cX23_turn.data.toList.drop 69 = dktX23_turn_3 := dk_seg dksX23_turn_2 24 rfl rfl
theorem dksX23_turn_4 : cX23_turn.data.toList.drop 91 = dktX23_turn_4 := dk_seg dksX23_turn_3 22 rfl rfl
theorem dksX23_turn_5 : cX23_turn.data.toList.drop 114 = dktX23_turn_5 := dk_seg dksX23_turn_4 23 rfl rfl
theorem dksX23_turn_6 : cX23_turn.data.toList.drop 137 = dktX23_turn_6 := dk_seg dksX23_turn_5 23 rfl rfl
theorem dksX23_turn_7 : cX23_turn.data.toList.drop 161 = dktX23_turn_7 := dk_seg dksX23_turn_6 24 rfl rfl
theorem dksX23_turn_8 : cX23_turn.data.toList.drop 185 = dktX23_turn_8 := dk_seg dksX23_turn_7 24 rfl rfl
theorem dksX23_turn_9 : cX23_turn.data.toList.drop 208 = dktX23_turn_9 := dk_seg dksX23_turn_8 23 rfl rfl
theorem dksX23_turn_10 : cX23_turn.data.toList.drop 232 = dktX23_turn_10 := dk_seg dksX23_turn_9 24 rfl rfl
theorem dksX23_turn_11 : cX23_turn.data.toList.drop 255 = dktX23_turn_11 := dk_seg dksX23_turn_10 23 rfl rfl
theorem dX23_turn_0 : decode cX23_turn 0 = .ok (.new 42, 3) := dk_187 0 42 (dk_at dksX23_turn_0 0 rfl rfl)
theorem dX23_turn_3 : decode cX23_turn 3 = .ok (.dup, 1) := dk_89 (dk_at dksX23_turn_0 3 rfl rfl)
theorem dX23_turn_4 : decode cX23_turn 4 = .ok (.aload_n 0, 1) := dk_42 (dk_at dksX23_turn_0 4 rfl rfl)
theorem dX23_turn_5 : decode cX23_turn 5 = .ok (.getfield 9, 3) := dk_180 0 9 (dk_at dksX23_turn_0 5 rfl rfl)
theorem dX23_turn_8 : decode cX23_turn 8 = .ok (.iconst 0, 1) := dk_3 (dk_at dksX23_turn_0 8 rfl rfl)
theorem dX23_turn_9 : decode cX23_turn 9 = .ok (.aconst_null, 1) := dk_1 (dk_at dksX23_turn_0 9 rfl rfl)
theorem dX23_turn_10 : decode cX23_turn 10 = .ok (.invokespecial 44, 3) := dk_183 0 44 (dk_at dksX23_turn_0 10 rfl rfl)
theorem dX23_turn_13 : decode cX23_turn 13 = .ok (.astore_n 3, 1) := dk_78 (dk_at dksX23_turn_0 13 rfl rfl)
theorem dX23_turn_14 : decode cX23_turn 14 = .ok (.aload_n 0, 1) := dk_42 (dk_at dksX23_turn_0 14 rfl rfl)
theorem dX23_turn_15 : decode cX23_turn 15 = .ok (.getfield 15, 3) := dk_180 0 15 (dk_at dksX23_turn_0 15 rfl rfl)
theorem dX23_turn_18 : decode cX23_turn 18 = .ok (.astore 6, 2) := dk_58 6 (dk_at dksX23_turn_0 18 rfl rfl)
theorem dX23_turn_20 : decode cX23_turn 20 = .ok (.aload 6, 2) := dk_25 6 (dk_at dksX23_turn_0 20 rfl rfl)
theorem dX23_turn_22 : decode cX23_turn 22 = .ok (.instanceof 47, 3) := dk_193 0 47 (dk_at dksX23_turn_1 0 rfl rfl)
theorem dX23_turn_25 : decode cX23_turn 25 = .ok (.ifCond .eq 121, 3) := dk_153 0 121 (dk_at dksX23_turn_1 3 rfl rfl)
theorem dX23_turn_28 : decode cX23_turn 28 = .ok (.aload 6, 2) := dk_25 6 (dk_at dksX23_turn_1 6 rfl rfl)
theorem dX23_turn_30 : decode cX23_turn 30 = .ok (.checkcast 47, 3) := dk_192 0 47 (dk_at dksX23_turn_1 8 rfl rfl)
theorem dX23_turn_33 : decode cX23_turn 33 = .ok (.astore 4, 2) := dk_58 4 (dk_at dksX23_turn_1 11 rfl rfl)
theorem dX23_turn_35 : decode cX23_turn 35 = .ok (.aload 4, 2) := dk_25 4 (dk_at dksX23_turn_1 13 rfl rfl)
theorem dX23_turn_37 : decode cX23_turn 37 = .ok (.getfield 49, 3) := dk_180 0 49 (dk_at dksX23_turn_1 15 rfl rfl)
theorem dX23_turn_40 : decode cX23_turn 40 = .ok (.bipush 124, 2) := dk_16 124 (dk_at dksX23_turn_1 18 rfl rfl)
theorem dX23_turn_42 : decode cX23_turn 42 = .ok (.if_icmp .eq 104, 3) := dk_159 0 104 (dk_at dksX23_turn_1 20 rfl rfl)
theorem dX23_turn_45 : decode cX23_turn 45 = .ok (.aload 4, 2) := dk_25 4 (dk_at dksX23_turn_2 0 rfl rfl)
theorem dX23_turn_47 : decode cX23_turn 47 = .ok (.getfield 52, 3) := dk_180 0 52 (dk_at dksX23_turn_2 2 rfl rfl)
theorem dX23_turn_50 : decode cX23_turn 50 = .ok (.astore 6, 2) := dk_58 6 (dk_at dksX23_turn_2 5 rfl rfl)
theorem dX23_turn_52 : decode cX23_turn 52 = .ok (.aload 6, 2) := dk_25 6 (dk_at dksX23_turn_2 7 rfl rfl)
theorem dX23_turn_54 : decode cX23_turn 54 = .ok (.instanceof 55, 3) := dk_193 0 55 (dk_at dksX23_turn_2 9 rfl rfl)
theorem dX23_turn_57 : decode cX23_turn 57 = .ok (.ifCond .eq 89, 3) := dk_153 0 89 (dk_at dksX23_turn_2 12 rfl rfl)
theorem dX23_turn_60 : decode cX23_turn 60 = .ok (.aload 6, 2) := dk_25 6 (dk_at dksX23_turn_2 15 rfl rfl)
theorem dX23_turn_62 : decode cX23_turn 62 = .ok (.checkcast 55, 3) := dk_192 0 55 (dk_at dksX23_turn_2 17 rfl rfl)
theorem dX23_turn_65 : decode cX23_turn 65 = .ok (.astore 5, 2) := dk_58 5 (dk_at dksX23_turn_2 20 rfl rfl)
theorem dX23_turn_67 : decode cX23_turn 67 = .ok (.aload 5, 2) := dk_25 5 (dk_at dksX23_turn_2 22 rfl rfl)
theorem dX23_turn_69 : decode cX23_turn 69 = .ok (.getfield 57, 3) := dk_180 0 57 (dk_at dksX23_turn_3 0 rfl rfl)
theorem dX23_turn_72 : decode cX23_turn 72 = .ok (.aload_n 0, 1) := dk_42 (dk_at dksX23_turn_3 3 rfl rfl)
theorem dX23_turn_73 : decode cX23_turn 73 = .ok (.getfield 9, 3) := dk_180 0 9 (dk_at dksX23_turn_3 4 rfl rfl)
theorem dX23_turn_76 : decode cX23_turn 76 = .ok (.if_icmp .ne 70, 3) := dk_160 0 70 (dk_at dksX23_turn_3 7 rfl rfl)
theorem dX23_turn_79 : decode cX23_turn 79 = .ok (.aload 4, 2) := dk_25 4 (dk_at dksX23_turn_3 10 rfl rfl)
theorem dX23_turn_81 : decode cX23_turn 81 = .ok (.getfield 58, 3) := dk_180 0 58 (dk_at dksX23_turn_3 12 rfl rfl)
theorem dX23_turn_84 : decode cX23_turn 84 = .ok (.aload_n 0, 1) := dk_42 (dk_at dksX23_turn_3 15 rfl rfl)
theorem dX23_turn_85 : decode cX23_turn 85 = .ok (.getfield 9, 3) := dk_180 0 9 (dk_at dksX23_turn_3 16 rfl rfl)
theorem dX23_turn_88 : decode cX23_turn 88 = .ok (.invokevirtual 61, 3) := dk_182 0 61 (dk_at dksX23_turn_3 19 rfl rfl)
theorem dX23_turn_91 : decode cX23_turn 91 = .ok (.ifCond .ne 55, 3) := dk_154 0 55 (dk_at dksX23_turn_4 0 rfl rfl)
theorem dX23_turn_94 : decode cX23_turn 94 = .ok (.aload_n 1, 1) := dk_43 (dk_at dksX23_turn_4 3 rfl rfl)
theorem dX23_turn_95 : decode cX23_turn 95 = .ok (.new 65, 3) := dk_187 0 65 (dk_at dksX23_turn_4 4 rfl rfl)
theorem dX23_turn_98 : decode cX23_turn 98 = .ok (.dup, 1) := dk_89 (dk_at dksX23_turn_4 7 rfl rfl)
theorem dX23_turn_99 : decode cX23_turn 99 = .ok (.aload_n 3, 1) := dk_45 (dk_at dksX23_turn_4 8 rfl rfl)
theorem dX23_turn_100 : decode cX23_turn 100 = .ok (.aload 4, 2) := dk_25 4 (dk_at dksX23_turn_4 9 rfl rfl)
theorem dX23_turn_102 : decode cX23_turn 102 = .ok (.getfield 49, 3) := dk_180 0 49 (dk_at dksX23_turn_4 11 rfl rfl)
theorem dX23_turn_105 : decode cX23_turn 105 = .ok (.bipush 43, 2) := dk_16 43 (dk_at dksX23_turn_4 14 rfl rfl)
theorem dX23_turn_107 : decode cX23_turn 107 = .ok (.if_icmp .ne 7, 3) := dk_160 0 7 (dk_at dksX23_turn_4 16 rfl rfl)
theorem dX23_turn_110 : decode cX23_turn 110 = .ok (.iconst 0, 1) := dk_3 (dk_at dksX23_turn_4 19 rfl rfl)
theorem dX23_turn_111 : decode cX23_turn 111 = .ok (.goto 18, 3) := dk_167 0 18 (dk_at dksX23_turn_4 20 rfl rfl)
theorem dX23_turn_114 : decode cX23_turn 114 = .ok (.aload 4, 2) := dk_25 4 (dk_at dksX23_turn_5 0 rfl rfl)
theorem dX23_turn_116 : decode cX23_turn 116 = .ok (.getfield 49, 3) := dk_180 0 49 (dk_at dksX23_turn_5 2 rfl rfl)
theorem dX23_turn_119 : decode cX23_turn 119 = .ok (.bipush 45, 2) := dk_16 45 (dk_at dksX23_turn_5 5 rfl rfl)
theorem dX23_turn_121 : decode cX23_turn 121 = .ok (.if_icmp .ne 7, 3) := dk_160 0 7 (dk_at dksX23_turn_5 7 rfl rfl)
theorem dX23_turn_124 : decode cX23_turn 124 = .ok (.iconst 1, 1) := dk_4 (dk_at dksX23_turn_5 10 rfl rfl)
theorem dX23_turn_125 : decode cX23_turn 125 = .ok (.goto 4, 3) := dk_167 0 4 (dk_at dksX23_turn_5 11 rfl rfl)
theorem dX23_turn_128 : decode cX23_turn 128 = .ok (.iconst 2, 1) := dk_5 (dk_at dksX23_turn_5 14 rfl rfl)
theorem dX23_turn_129 : decode cX23_turn 129 = .ok (.aload 4, 2) := dk_25 4 (dk_at dksX23_turn_5 15 rfl rfl)
theorem dX23_turn_131 : decode cX23_turn 131 = .ok (.getfield 58, 3) := dk_180 0 58 (dk_at dksX23_turn_5 17 rfl rfl)
theorem dX23_turn_134 : decode cX23_turn 134 = .ok (.invokespecial 67, 3) := dk_183 0 67 (dk_at dksX23_turn_5 20 rfl rfl)
theorem dX23_turn_137 : decode cX23_turn 137 = .ok (.invokeinterface 70 2, 5) := by decide +kernel
theorem dX23_turn_142 : decode cX23_turn 142 = .ok (.pop, 1) := dk_87 (dk_at dksX23_turn_6 5 rfl rfl)
theorem dX23_turn_143 : decode cX23_turn 143 = .ok (.goto 117, 3) := dk_167 0 117 (dk_at dksX23_turn_6 6 rfl rfl)
theorem dX23_turn_146 : decode cX23_turn 146 = .ok (.aload_n 0, 1) := dk_42 (dk_at dksX23_turn_6 9 rfl rfl)
theorem dX23_turn_147 : decode cX23_turn 147 = .ok (.getfield 15, 3) := dk_180 0 15 (dk_at dksX23_turn_6 10 rfl rfl)
theorem dX23_turn_150 : decode cX23_turn 150 = .ok (.aload_n 0, 1) := dk_42 (dk_at dksX23_turn_6 13 rfl rfl)
theorem dX23_turn_151 : decode cX23_turn 151 = .ok (.getfield 9, 3) := dk_180 0 9 (dk_at dksX23_turn_6 14 rfl rfl)
theorem dX23_turn_154 : decode cX23_turn 154 = .ok (.invokevirtual 61, 3) := dk_182 0 61 (dk_at dksX23_turn_6 17 rfl rfl)
theorem dX23_turn_157 : decode cX23_turn 157 = .ok (.ifCond .ne 46, 3) := dk_154 0 46 (dk_at dksX23_turn_6 20 rfl rfl)
theorem dX23_turn_160 : decode cX23_turn 160 = .ok (.aload_n 1, 1) := dk_43 (dk_at dksX23_turn_6 23 rfl rfl)
theorem dX23_turn_161 : decode cX23_turn 161 = .ok (.new 76, 3) := dk_187 0 76 (dk_at dksX23_turn_7 0 rfl rfl)
theorem dX23_turn_164 : decode cX23_turn 164 = .ok (.dup, 1) := dk_89 (dk_at dksX23_turn_7 3 rfl rfl)
theorem dX23_turn_165 : decode cX23_turn 165 = .ok (.aload_n 0, 1) := dk_42 (dk_at dksX23_turn_7 4 rfl rfl)
theorem dX23_turn_166 : decode cX23_turn 166 = .ok (.getfield 9, 3) := dk_180 0 9 (dk_at dksX23_turn_7 5 rfl rfl)
theorem dX23_turn_169 : decode cX23_turn 169 = .ok (.iconst 3, 1) := dk_6 (dk_at dksX23_turn_7 8 rfl rfl)
theorem dX23_turn_170 : decode cX23_turn 170 = .ok (.iconst 1, 1) := dk_4 (dk_at dksX23_turn_7 9 rfl rfl)
theorem dX23_turn_171 : decode cX23_turn 171 = .ok (.invokespecial 78, 3) := dk_183 0 78 (dk_at dksX23_turn_7 10 rfl rfl)
theorem dX23_turn_174 : decode cX23_turn 174 = .ok (.invokeinterface 70 2, 5) := by decide +kernel
theorem dX23_turn_179 : decode cX23_turn 179 = .ok (.pop, 1) := dk_87 (dk_at dksX23_turn_7 18 rfl rfl)
theorem dX23_turn_180 : decode cX23_turn 180 = .ok (.aload_n 1, 1) := dk_43 (dk_at dksX23_turn_7 19 rfl rfl)
theorem dX23_turn_181 : decode cX23_turn 181 = .ok (.new 65, 3) := dk_187 0 65 (dk_at dksX23_turn_7 20 rfl rfl)
theorem dX23_turn_184 : decode cX23_turn 184 = .ok (.dup, 1) := dk_89 (dk_at dksX23_turn_7 23 rfl rfl)
theorem dX23_turn_185 : decode cX23_turn 185 = .ok (.aload_n 3, 1) := dk_45 (dk_at dksX23_turn_8 0 rfl rfl)
theorem dX23_turn_186 : decode cX23_turn 186 = .ok (.iconst 0, 1) := dk_3 (dk_at dksX23_turn_8 1 rfl rfl)
theorem dX23_turn_187 : decode cX23_turn 187 = .ok (.aload_n 0, 1) := dk_42 (dk_at dksX23_turn_8 2 rfl rfl)
theorem dX23_turn_188 : decode cX23_turn 188 = .ok (.getfield 15, 3) := dk_180 0 15 (dk_at dksX23_turn_8 3 rfl rfl)
theorem dX23_turn_191 : decode cX23_turn 191 = .ok (.invokespecial 67, 3) := dk_183 0 67 (dk_at dksX23_turn_8 6 rfl rfl)
theorem dX23_turn_194 : decode cX23_turn 194 = .ok (.invokeinterface 70 2, 5) := by decide +kernel
theorem dX23_turn_199 : decode cX23_turn 199 = .ok (.pop, 1) := dk_87 (dk_at dksX23_turn_8 14 rfl rfl)
theorem dX23_turn_200 : decode cX23_turn 200 = .ok (.goto 60, 3) := dk_167 0 60 (dk_at dksX23_turn_8 15 rfl rfl)
theorem dX23_turn_203 : decode cX23_turn 203 = .ok (.bipush 25, 2) := dk_16 25 (dk_at dksX23_turn_8 18 rfl rfl)
theorem dX23_turn_205 : decode cX23_turn 205 = .ok (.istore 6, 2) := dk_54 6 (dk_at dksX23_turn_8 20 rfl rfl)
theorem dX23_turn_207 : decode cX23_turn 207 = .ok (.aload_n 1, 1) := dk_43 (dk_at dksX23_turn_8 22 rfl rfl)
theorem dX23_turn_208 : decode cX23_turn 208 = .ok (.new 81, 3) := dk_187 0 81 (dk_at dksX23_turn_9 0 rfl rfl)
theorem dX23_turn_211 : decode cX23_turn 211 = .ok (.dup, 1) := dk_89 (dk_at dksX23_turn_9 3 rfl rfl)
theorem dX23_turn_212 : decode cX23_turn 212 = .ok (.iload 6, 2) := dk_21 6 (dk_at dksX23_turn_9 4 rfl rfl)
theorem dX23_turn_214 : decode cX23_turn 214 = .ok (.aload_n 0, 1) := dk_42 (dk_at dksX23_turn_9 6 rfl rfl)
theorem dX23_turn_215 : decode cX23_turn 215 = .ok (.getfield 15, 3) := dk_180 0 15 (dk_at dksX23_turn_9 7 rfl rfl)
theorem dX23_turn_218 : decode cX23_turn 218 = .ok (.iconst 1, 1) := dk_4 (dk_at dksX23_turn_9 10 rfl rfl)
theorem dX23_turn_219 : decode cX23_turn 219 = .ok (.invokespecial 83, 3) := dk_183 0 83 (dk_at dksX23_turn_9 11 rfl rfl)
theorem dX23_turn_222 : decode cX23_turn 222 = .ok (.invokeinterface 70 2, 5) := by decide +kernel
theorem dX23_turn_227 : decode cX23_turn 227 = .ok (.pop, 1) := dk_87 (dk_at dksX23_turn_9 19 rfl rfl)
theorem dX23_turn_228 : decode cX23_turn 228 = .ok (.aload_n 1, 1) := dk_43 (dk_at dksX23_turn_9 20 rfl rfl)
theorem dX23_turn_229 : decode cX23_turn 229 = .ok (.new 86, 3) := dk_187 0 86 (dk_at dksX23_turn_9 21 rfl rfl)
theorem dX23_turn_232 : decode cX23_turn 232 = .ok (.dup, 1) := dk_89 (dk_at dksX23_turn_10 0 rfl rfl)
theorem dX23_turn_233 : decode cX23_turn 233 = .ok (.aload_n 3, 1) := dk_45 (dk_at dksX23_turn_10 1 rfl rfl)
theorem dX23_turn_234 : decode cX23_turn 234 = .ok (.new 42, 3) := dk_187 0 42 (dk_at dksX23_turn_10 2 rfl rfl)
theorem dX23_turn_237 : decode cX23_turn 237 = .ok (.dup, 1) := dk_89 (dk_at dksX23_turn_10 5 rfl rfl)
theorem dX23_turn_238 : decode cX23_turn 238 = .ok (.iload 6, 2) := dk_21 6 (dk_at dksX23_turn_10 6 rfl rfl)
theorem dX23_turn_240 : decode cX23_turn 240 = .ok (.iconst 0, 1) := dk_3 (dk_at dksX23_turn_10 8 rfl rfl)
theorem dX23_turn_241 : decode cX23_turn 241 = .ok (.aconst_null, 1) := dk_1 (dk_at dksX23_turn_10 9 rfl rfl)
theorem dX23_turn_242 : decode cX23_turn 242 = .ok (.invokespecial 44, 3) := dk_183 0 44 (dk_at dksX23_turn_10 10 rfl rfl)
theorem dX23_turn_245 : decode cX23_turn 245 = .ok (.invokespecial 88, 3) := dk_183 0 88 (dk_at dksX23_turn_10 13 rfl rfl)
theorem dX23_turn_248 : decode cX23_turn 248 = .ok (.invokeinterface 70 2, 5) := by decide +kernel
theorem dX23_turn_253 : decode cX23_turn 253 = .ok (.pop, 1) := dk_87 (dk_at dksX23_turn_10 21 rfl rfl)
theorem dX23_turn_254 : decode cX23_turn 254 = .ok (.aload_n 1, 1) := dk_43 (dk_at dksX23_turn_10 22 rfl rfl)
theorem dX23_turn_255 : decode cX23_turn 255 = .ok (.iload 6, 2) := dk_21 6 (dk_at dksX23_turn_11 0 rfl rfl)
theorem dX23_turn_257 : decode cX23_turn 257 = .ok (.invokestatic 91, 3) := dk_184 0 91 (dk_at dksX23_turn_11 2 rfl rfl)
theorem dX23_turn_260 : decode cX23_turn 260 = .ok (.return_, 1) := dk_177 (dk_at dksX23_turn_11 5 rfl rfl)
abbrev cX23_walk : ByteArray := prog_2_method_5_code
def yX23_walk : MethodName := ⟨RX23, "walk", "(LThereAndBack;)V"⟩
def dkwX23_walk_1 : List UInt8 := [43, 180, 0, 106, 42, 180, 0, 9, 28, 79, 177]
abbrev dktX23_walk_1 : List UInt8 := dkwX23_walk_1 ++ []
def dkwX23_walk_0 : List UInt8 := [43, 182, 0, 95, 42, 180, 0, 15, 43, 182, 0, 98, 136, 61, 43, 180, 0, 102, 42, 180, 0, 9, 4, 84]
abbrev dktX23_walk_0 : List UInt8 := dkwX23_walk_0 ++ dktX23_walk_1
theorem dksX23_walk_0 : cX23_walk.data.toList.drop 0 = dktX23_walk_0 := by decide +kernel
theorem dksX23_walk_1 : cX23_walk.data.toList.drop 24 = dktX23_walk_1 := dk_seg dksX23_walk_0 24 rfl rfl
theorem dX23_walk_0 : decode cX23_walk 0 = .ok (.aload_n 1, 1) := dk_43 (dk_at dksX23_walk_0 0 rfl rfl)
theorem dX23_walk_1 : decode cX23_walk 1 = .ok (.invokevirtual 95, 3) := dk_182 0 95 (dk_at dksX23_walk_0 1 rfl rfl)
theorem dX23_walk_4 : decode cX23_walk 4 = .ok (.aload_n 0, 1) := dk_42 (dk_at dksX23_walk_0 4 rfl rfl)
theorem dX23_walk_5 : decode cX23_walk 5 = .ok (.getfield 15, 3) := dk_180 0 15 (dk_at dksX23_walk_0 5 rfl rfl)
theorem dX23_walk_8 : decode cX23_walk 8 = .ok (.aload_n 1, 1) := dk_43 (dk_at dksX23_walk_0 8 rfl rfl)
theorem dX23_walk_9 : decode cX23_walk 9 = .ok (.invokevirtual 98, 3) := dk_182 0 98 (dk_at dksX23_walk_0 9 rfl rfl)
theorem dX23_walk_12 : decode cX23_walk 12 = .ok (.l2i, 1) := dk_136 (dk_at dksX23_walk_0 12 rfl rfl)
theorem dX23_walk_13 : decode cX23_walk 13 = .ok (.istore_n 2, 1) := dk_61 (dk_at dksX23_walk_0 13 rfl rfl)
theorem dX23_walk_14 : decode cX23_walk 14 = .ok (.aload_n 1, 1) := dk_43 (dk_at dksX23_walk_0 14 rfl rfl)
theorem dX23_walk_15 : decode cX23_walk 15 = .ok (.getfield 102, 3) := dk_180 0 102 (dk_at dksX23_walk_0 15 rfl rfl)
theorem dX23_walk_18 : decode cX23_walk 18 = .ok (.aload_n 0, 1) := dk_42 (dk_at dksX23_walk_0 18 rfl rfl)
theorem dX23_walk_19 : decode cX23_walk 19 = .ok (.getfield 9, 3) := dk_180 0 9 (dk_at dksX23_walk_0 19 rfl rfl)
theorem dX23_walk_22 : decode cX23_walk 22 = .ok (.iconst 1, 1) := dk_4 (dk_at dksX23_walk_0 22 rfl rfl)
theorem dX23_walk_23 : decode cX23_walk 23 = .ok (.bastore, 1) := dk_84 (dk_at dksX23_walk_0 23 rfl rfl)
theorem dX23_walk_24 : decode cX23_walk 24 = .ok (.aload_n 1, 1) := dk_43 (dk_at dksX23_walk_1 0 rfl rfl)
theorem dX23_walk_25 : decode cX23_walk 25 = .ok (.getfield 106, 3) := dk_180 0 106 (dk_at dksX23_walk_1 1 rfl rfl)
theorem dX23_walk_28 : decode cX23_walk 28 = .ok (.aload_n 0, 1) := dk_42 (dk_at dksX23_walk_1 4 rfl rfl)
theorem dX23_walk_29 : decode cX23_walk 29 = .ok (.getfield 9, 3) := dk_180 0 9 (dk_at dksX23_walk_1 5 rfl rfl)
theorem dX23_walk_32 : decode cX23_walk 32 = .ok (.iload_n 2, 1) := dk_28 (dk_at dksX23_walk_1 8 rfl rfl)
theorem dX23_walk_33 : decode cX23_walk 33 = .ok (.iastore, 1) := dk_79 (dk_at dksX23_walk_1 9 rfl rfl)
theorem dX23_walk_34 : decode cX23_walk 34 = .ok (.return_, 1) := dk_177 (dk_at dksX23_walk_1 10 rfl rfl)
theorem q177 : (Jvm.Cond.initialized "ThereAndBack$Assign") ∈ lw_all := lw_g (lw_at lw_m1 33 rfl) rfl
theorem q352 : (Jvm.Cond.fieldLinkNest "ThereAndBack$Assign" (102 : Nat) "ThereAndBack" "isThere" "[Z" "ThereAndBack") ∈ lw_tbl := lw_at lw_m1 208 rfl
theorem q356 : (Jvm.Cond.fieldLinkNest "ThereAndBack$Assign" (106 : Nat) "ThereAndBack" "values" "[I" "ThereAndBack") ∈ lw_tbl := lw_at lw_m1 212 rfl
theorem q719 : (Jvm.Cond.fieldLinkNest "ThereAndBack$Assign" (57 : Nat) "ThereAndBack$Name" "name" "I" "ThereAndBack") ∈ lw_tbl := lw_at lw_m3 95 rfl
theorem q779 : (Jvm.Cond.fieldLink "ThereAndBack$Assign" (52 : Nat) "ThereAndBack$Sum" "left" "LThereAndBack$Expr;") ∈ lw_all := lw_g (lw_at lw_m3 155 rfl) rfl
theorem q782 : (Jvm.Cond.fieldLink "ThereAndBack$Assign" (58 : Nat) "ThereAndBack$Sum" "right" "LThereAndBack$Expr;") ∈ lw_all := lw_g (lw_at lw_m3 158 rfl) rfl
theorem q791 : (Jvm.Cond.fieldLink "ThereAndBack$Assign" (49 : Nat) "ThereAndBack$Sum" "sign" "I") ∈ lw_all := lw_g (lw_at lw_m3 167 rfl) rfl
theorem q917 : (Jvm.Cond.instantiable "ThereAndBack$Assign" (2 : Nat)) ∈ lw_all := lw_g (lw_at lw_m4 53 rfl) rfl
theorem q919 : (Jvm.Cond.instanceMethod ({ cls := "ThereAndBack$Assign", name := "<init>", desc := "(ILThereAndBack$Expr;)V" } : Jvm.MethodName)) ∈ lw_all := lw_g (lw_at lw_m4 55 rfl) rfl
theorem q920 : (Jvm.Cond.code ({ cls := "ThereAndBack$Assign", name := "<init>", desc := "(ILThereAndBack$Expr;)V" } : Jvm.MethodName) prog_2_method_1_code (3 : Nat) (Option.none : Option Jvm.ClassFile.FieldType)) ∈ lw_all := lw_g (lw_at lw_m4 56 rfl) rfl
theorem q921 : (Jvm.Cond.methodLinkNest "ThereAndBack$Assign" (3 : Nat) ({ cls := "ThereAndBack$Ordinary", name := "<init>", desc := "()V" } : Jvm.MethodName) "ThereAndBack") ∈ lw_tbl := lw_at lw_m4 57 rfl
theorem q925 : (Jvm.Cond.fieldLink "ThereAndBack$Assign" (9 : Nat) "ThereAndBack$Assign" "name" "I") ∈ lw_all := lw_g (lw_at lw_m4 61 rfl) rfl
theorem q926 : (Jvm.Cond.fieldLink "ThereAndBack$Assign" (15 : Nat) "ThereAndBack$Assign" "value" "LThereAndBack$Expr;") ∈ lw_all := lw_g (lw_at lw_m4 62 rfl) rfl
theorem q927 : (Jvm.Cond.laysFinal "ThereAndBack$Assign" "ThereAndBack$Assign" "name" "I") ∈ lw_all := lw_g (lw_at lw_m4 63 rfl) rfl
theorem q928 : (Jvm.Cond.soleField "ThereAndBack$Assign" "name") ∈ lw_all := lw_g (lw_at lw_m4 64 rfl) rfl
theorem q929 : (Jvm.Cond.laysFinal "ThereAndBack$Assign" "ThereAndBack$Assign" "value" "LThereAndBack$Expr;") ∈ lw_all := lw_g (lw_at lw_m4 65 rfl) rfl
theorem q930 : (Jvm.Cond.soleField "ThereAndBack$Assign" "value") ∈ lw_all := lw_g (lw_at lw_m4 66 rfl) rfl
theorem q931 : (Jvm.Cond.superclass "ThereAndBack$Assign" "ThereAndBack$Ordinary") ∈ lw_all := lw_g (lw_at lw_m4 67 rfl) rfl
theorem q1153 : (Jvm.Cond.selects "ThereAndBack$Assign" ({ cls := "java/lang/Object", name := "getClass", desc := "()Ljava/lang/Class;" } : Jvm.MethodName) ({ cls := "java/lang/Object", name := "getClass", desc := "()Ljava/lang/Class;" } : Jvm.MethodName)) ∈ lw_all := lw_g (lw_at lw_m5 49 rfl) rfl
theorem q1248 : (Jvm.Cond.selects "ThereAndBack$Assign" ({ cls := "ThereAndBack$Step", name := "lay", desc := "(Ljava/util/List;)V" } : Jvm.MethodName) ({ cls := "ThereAndBack$Ordinary", name := "lay", desc := "(Ljava/util/List;)V" } : Jvm.MethodName)) ∈ lw_all := lw_g (lw_at lw_m5 144 rfl) rfl
theorem q1351 : (Jvm.Cond.selects "ThereAndBack$Assign" ({ cls := "ThereAndBack$Step", name := "code", desc := "()I" } : Jvm.MethodName) ({ cls := "ThereAndBack$Step", name := "code", desc := "()I" } : Jvm.MethodName)) ∈ lw_all := lw_g (lw_at lw_m6 7 rfl) rfl
theorem q1410 : (Jvm.Cond.selects "ThereAndBack$Assign" ({ cls := "ThereAndBack$Step", name := "isOrdinary", desc := "()Z" } : Jvm.MethodName) ({ cls := "ThereAndBack$Ordinary", name := "isOrdinary", desc := "()Z" } : Jvm.MethodName)) ∈ lw_all := lw_g (lw_at lw_m6 66 rfl) rfl
theorem q1431 : (Jvm.Cond.selects "ThereAndBack$Assign" ({ cls := "ThereAndBack$Step", name := "braces", desc := "()I" } : Jvm.MethodName) ({ cls := "ThereAndBack$Step", name := "braces", desc := "()I" } : Jvm.MethodName)) ∈ lw_all := lw_g (lw_at lw_m6 87 rfl) rfl
theorem q1462 : (Jvm.Cond.selects "ThereAndBack$Assign" ({ cls := "ThereAndBack$Step", name := "names", desc := "()I" } : Jvm.MethodName) ({ cls := "ThereAndBack$Assign", name := "names", desc := "()I" } : Jvm.MethodName)) ∈ lw_all := lw_g (lw_at lw_m6 118 rfl) rfl
theorem q1463 : (Jvm.Cond.instanceMethod ({ cls := "ThereAndBack$Assign", name := "names", desc := "()I" } : Jvm.MethodName)) ∈ lw_all := lw_g (lw_at lw_m6 119 rfl) rfl
theorem q1464 : (Jvm.Cond.code ({ cls := "ThereAndBack$Assign", name := "names", desc := "()I" } : Jvm.MethodName) prog_2_method_3_code (1 : Nat) (Option.some Jvm.ClassFile.FieldType.int)) ∈ lw_all := lw_g (lw_at lw_m6 120 rfl) rfl
theorem q1465 : (Jvm.Cond.methodLink "ThereAndBack$Assign" (38 : Nat) ({ cls := "ThereAndBack$Expr", name := "names", desc := "()I" } : Jvm.MethodName)) ∈ lw_all := lw_g (lw_at lw_m6 121 rfl) rfl
theorem q1538 : (Jvm.Cond.selects "ThereAndBack$Assign" ({ cls := "ThereAndBack$Step", name := "print", desc := "(LThereAndBack;)V" } : Jvm.MethodName) ({ cls := "ThereAndBack$Assign", name := "print", desc := "(LThereAndBack;)V" } : Jvm.MethodName)) ∈ lw_all := lw_g (lw_at lw_m6 194 rfl) rfl
theorem q1539 : (Jvm.Cond.instanceMethod ({ cls := "ThereAndBack$Assign", name := "print", desc := "(LThereAndBack;)V" } : Jvm.MethodName)) ∈ lw_all := lw_g (lw_at lw_m6 195 rfl) rfl
theorem q1540 : (Jvm.Cond.code ({ cls := "ThereAndBack$Assign", name := "print", desc := "(LThereAndBack;)V" } : Jvm.MethodName) prog_2_method_2_code (2 : Nat) (Option.none : Option Jvm.ClassFile.FieldType)) ∈ lw_all := lw_g (lw_at lw_m6 196 rfl) rfl
theorem q1541 : (Jvm.Cond.stringRef "ThereAndBack$Assign" (19 : Nat) "set") ∈ lw_tbl := lw_at lw_m6 197 rfl
theorem q1542 : (Jvm.Cond.methodLinkNest "ThereAndBack$Assign" (21 : Nat) ({ cls := "ThereAndBack", name := "printWord", desc := "(Ljava/lang/String;)V" } : Jvm.MethodName) "ThereAndBack") ∈ lw_tbl := lw_at lw_m6 198 rfl
theorem q1554 : (Jvm.Cond.methodLinkNest "ThereAndBack$Assign" (25 : Nat) ({ cls := "ThereAndBack", name := "printSign", desc := "(I)V" } : Jvm.MethodName) "ThereAndBack") ∈ lw_tbl := lw_at lw_m6 210 rfl
theorem q1558 : (Jvm.Cond.methodLink "ThereAndBack$Assign" (29 : Nat) ({ cls := "ThereAndBack$Expr", name := "print", desc := "(LThereAndBack;)V" } : Jvm.MethodName)) ∈ lw_all := lw_g (lw_at lw_m6 214 rfl) rfl
theorem q1617 : (Jvm.Cond.methodLinkNest "ThereAndBack$Assign" (35 : Nat) ({ cls := "ThereAndBack", name := "printBehind", desc := "(I)V" } : Jvm.MethodName) "ThereAndBack") ∈ lw_tbl := lw_at lw_m7 33 rfl
theorem q1756 : (Jvm.Cond.selects "ThereAndBack$Assign" ({ cls := "ThereAndBack$Step", name := "mirror", desc := "()LThereAndBack$Step;" } : Jvm.MethodName) ({ cls := "ThereAndBack$Ordinary", name := "mirror", desc := "()LThereAndBack$Step;" } : Jvm.MethodName)) ∈ lw_all := lw_g (lw_at lw_m7 172 rfl) rfl
theorem q1817 : (Jvm.Cond.selects "ThereAndBack$Assign" ({ cls := "ThereAndBack$Step", name := "turn", desc := "(Ljava/util/List;I)V" } : Jvm.MethodName) ({ cls := "ThereAndBack$Assign", name := "turn", desc := "(Ljava/util/List;I)V" } : Jvm.MethodName)) ∈ lw_all := lw_g (lw_at lw_m7 233 rfl) rfl
theorem q1818 : (Jvm.Cond.instanceMethod ({ cls := "ThereAndBack$Assign", name := "turn", desc := "(Ljava/util/List;I)V" } : Jvm.MethodName)) ∈ lw_all := lw_g (lw_at lw_m7 234 rfl) rfl
theorem q1819 : (Jvm.Cond.code ({ cls := "ThereAndBack$Assign", name := "turn", desc := "(Ljava/util/List;I)V" } : Jvm.MethodName) prog_2_method_4_code (7 : Nat) (Option.none : Option Jvm.ClassFile.FieldType)) ∈ lw_all := lw_g (lw_at lw_m7 235 rfl) rfl
theorem q1820 : (Jvm.Cond.classLink "ThereAndBack$Assign" (42 : Nat) "ThereAndBack$Place") ∈ lw_all := lw_g (lw_at lw_m7 236 rfl) rfl
theorem q1821 : (Jvm.Cond.methodLink "ThereAndBack$Assign" (44 : Nat) ({ cls := "ThereAndBack$Place", name := "<init>", desc := "(IILThereAndBack$Expr;)V" } : Jvm.MethodName)) ∈ lw_all := lw_g (lw_at lw_m7 237 rfl) rfl
theorem q1822 : (Jvm.Cond.classLink "ThereAndBack$Assign" (47 : Nat) "ThereAndBack$Sum") ∈ lw_all := lw_g (lw_at lw_m7 238 rfl) rfl
theorem q1823 : (Jvm.Cond.classLink "ThereAndBack$Assign" (55 : Nat) "ThereAndBack$Name") ∈ lw_all := lw_g (lw_at lw_m7 239 rfl) rfl
theorem q1824 : (Jvm.Cond.methodLink "ThereAndBack$Assign" (61 : Nat) ({ cls := "ThereAndBack$Expr", name := "has", desc := "(I)Z" } : Jvm.MethodName)) ∈ lw_all := lw_g (lw_at lw_m8 0 rfl) rfl
theorem q1825 : (Jvm.Cond.classLink "ThereAndBack$Assign" (65 : Nat) "ThereAndBack$Change") ∈ lw_all := lw_g (lw_at lw_m8 1 rfl) rfl
theorem q1826 : (Jvm.Cond.methodLink "ThereAndBack$Assign" (67 : Nat) ({ cls := "ThereAndBack$Change", name := "<init>", desc := "(LThereAndBack$Place;ILThereAndBack$Expr;)V" } : Jvm.MethodName)) ∈ lw_all := lw_g (lw_at lw_m8 2 rfl) rfl
theorem q1827 : (Jvm.Cond.interfaceEntry "ThereAndBack$Assign" (70 : Nat)) ∈ lw_tbl := lw_at lw_m8 3 rfl
theorem q1828 : (Jvm.Cond.methodLink "ThereAndBack$Assign" (70 : Nat) ({ cls := "java/util/List", name := "add", desc := "(Ljava/lang/Object;)Z" } : Jvm.MethodName)) ∈ lw_all := lw_g (lw_at lw_m8 4 rfl) rfl
theorem q1829 : (Jvm.Cond.classLink "ThereAndBack$Assign" (76 : Nat) "ThereAndBack$Push") ∈ lw_all := lw_g (lw_at lw_m8 5 rfl) rfl
theorem q1830 : (Jvm.Cond.methodLink "ThereAndBack$Assign" (78 : Nat) ({ cls := "ThereAndBack$Push", name := "<init>", desc := "(IIZ)V" } : Jvm.MethodName)) ∈ lw_all := lw_g (lw_at lw_m8 6 rfl) rfl
theorem q1831 : (Jvm.Cond.classLink "ThereAndBack$Assign" (81 : Nat) "ThereAndBack$Let") ∈ lw_all := lw_g (lw_at lw_m8 7 rfl) rfl
theorem q1832 : (Jvm.Cond.methodLink "ThereAndBack$Assign" (83 : Nat) ({ cls := "ThereAndBack$Let", name := "<init>", desc := "(ILThereAndBack$Expr;Z)V" } : Jvm.MethodName)) ∈ lw_all := lw_g (lw_at lw_m8 8 rfl) rfl
theorem q1833 : (Jvm.Cond.classLink "ThereAndBack$Assign" (86 : Nat) "ThereAndBack$Swap") ∈ lw_all := lw_g (lw_at lw_m8 9 rfl) rfl
theorem q1834 : (Jvm.Cond.methodLink "ThereAndBack$Assign" (88 : Nat) ({ cls := "ThereAndBack$Swap", name := "<init>", desc := "(LThereAndBack$Place;LThereAndBack$Place;)V" } : Jvm.MethodName)) ∈ lw_all := lw_g (lw_at lw_m8 10 rfl) rfl
theorem q1835 : (Jvm.Cond.methodLink "ThereAndBack$Assign" (91 : Nat) ({ cls := "ThereAndBack$Assign", name := "keep", desc := "(Ljava/util/List;I)V" } : Jvm.MethodName)) ∈ lw_all := lw_g (lw_at lw_m8 11 rfl) rfl
theorem q1836 : (Jvm.Cond.sameMethod "ThereAndBack$Assign" "ThereAndBack$Ordinary" "keep" "(Ljava/util/List;I)V") ∈ lw_all := lw_g (lw_at lw_m8 12 rfl) rfl
theorem q1920 : (Jvm.Cond.selects "ThereAndBack$Assign" ({ cls := "ThereAndBack$Step", name := "walk", desc := "(LThereAndBack;)V" } : Jvm.MethodName) ({ cls := "ThereAndBack$Assign", name := "walk", desc := "(LThereAndBack;)V" } : Jvm.MethodName)) ∈ lw_all := lw_g (lw_at lw_m8 96 rfl) rfl
theorem q1921 : (Jvm.Cond.instanceMethod ({ cls := "ThereAndBack$Assign", name := "walk", desc := "(LThereAndBack;)V" } : Jvm.MethodName)) ∈ lw_all := lw_g (lw_at lw_m8 97 rfl) rfl
theorem q1922 : (Jvm.Cond.code ({ cls := "ThereAndBack$Assign", name := "walk", desc := "(LThereAndBack;)V" } : Jvm.MethodName) prog_2_method_5_code (3 : Nat) (Option.none : Option Jvm.ClassFile.FieldType)) ∈ lw_all := lw_g (lw_at lw_m8 98 rfl) rfl
theorem q1923 : (Jvm.Cond.methodLinkNest "ThereAndBack$Assign" (95 : Nat) ({ cls := "ThereAndBack", name := "move", desc := "()V" } : Jvm.MethodName) "ThereAndBack") ∈ lw_tbl := lw_at lw_m8 99 rfl
theorem q1927 : (Jvm.Cond.methodLink "ThereAndBack$Assign" (98 : Nat) ({ cls := "ThereAndBack$Expr", name := "eval", desc := "(LThereAndBack;)J" } : Jvm.MethodName)) ∈ lw_all := lw_g (lw_at lw_m8 103 rfl) rfl
theorem q3114 : (Jvm.Cond.castable "ThereAndBack$Assign" "ThereAndBack$Step") ∈ lw_tbl := lw_at lw_m13 90 rfl
theorem q3148 : (Jvm.Cond.castable "ThereAndBack$Assign" "java/lang/Object") ∈ lw_tbl := lw_at lw_m13 124 rfl
theorem in_X23 : ∀ w ∈ wsX230, w ∈ lw_all := lw_in wsX230 [927, 929] (by decide +kernel) (by decide +kernel)
/-! ThereAndBack$Let -/
set_option maxRecDepth 100000
def RX24 : String := "ThereAndBack$Let"
def TX24 : u_T := fun k => match k with
  | 0 => ("ThereAndBack$Let", "name", "I", true)
  | 1 => ("ThereAndBack$Let", "value", "LThereAndBack$Expr;", true)
  | _ => ("ThereAndBack$Let", "lets", "Z", true)
def tyX24 : Nat → FieldType := fun k => match k with
  | 0 => .int
  | 1 => .object "ThereAndBack$Expr"
  | _ => .boolean
abbrev wsX240 : List Cond := u_ws RX24 TX24 3
theorem nmX24 : ∀ a, a < 3 → ∀ b, b < 3 → a ≠ b → (TX24 a).2.1 ≠ (TX24 b).2.1 := by decide +kernel
theorem tyX24_ok : ∀ k, k < 3 → parseFieldDescriptor (TX24 k).2.2.1 = some (tyX24 k) := by decide +kernel
abbrev cX24_init : ByteArray := prog_15_method_1_code
def yX24_init : MethodName := ⟨RX24, "<init>", "(ILThereAndBack$Expr;Z)V"⟩
def dkwX24_init_0 : List UInt8 := [42, 183, 0, 3, 42, 27, 181, 0, 9, 42, 44, 181, 0, 15, 42, 29, 181, 0, 19, 177]
abbrev dktX24_init_0 : List UInt8 := dkwX24_init_0 ++ []
theorem dksX24_init_0 : cX24_init.data.toList.drop 0 = dktX24_init_0 := by decide +kernel
theorem dX24_init_0 : decode cX24_init 0 = .ok (.aload_n 0, 1) := dk_42 (dk_at dksX24_init_0 0 rfl rfl)
theorem dX24_init_1 : decode cX24_init 1 = .ok (.invokespecial 3, 3) := dk_183 0 3 (dk_at dksX24_init_0 1 rfl rfl)
theorem dX24_init_4 : decode cX24_init 4 = .ok (.aload_n 0, 1) := dk_42 (dk_at dksX24_init_0 4 rfl rfl)
theorem dX24_init_5 : decode cX24_init 5 = .ok (.iload_n 1, 1) := dk_27 (dk_at dksX24_init_0 5 rfl rfl)
theorem dX24_init_6 : decode cX24_init 6 = .ok (.putfield 9, 3) := dk_181 0 9 (dk_at dksX24_init_0 6 rfl rfl)
theorem dX24_init_9 : decode cX24_init 9 = .ok (.aload_n 0, 1) := dk_42 (dk_at dksX24_init_0 9 rfl rfl)
theorem dX24_init_10 : decode cX24_init 10 = .ok (.aload_n 2, 1) := dk_44 (dk_at dksX24_init_0 10 rfl rfl)
theorem dX24_init_11 : decode cX24_init 11 = .ok (.putfield 15, 3) := dk_181 0 15 (dk_at dksX24_init_0 11 rfl rfl)
theorem dX24_init_14 : decode cX24_init 14 = .ok (.aload_n 0, 1) := dk_42 (dk_at dksX24_init_0 14 rfl rfl)
theorem dX24_init_15 : decode cX24_init 15 = .ok (.iload_n 3, 1) := dk_29 (dk_at dksX24_init_0 15 rfl rfl)
theorem dX24_init_16 : decode cX24_init 16 = .ok (.putfield 19, 3) := dk_181 0 19 (dk_at dksX24_init_0 16 rfl rfl)
theorem dX24_init_19 : decode cX24_init 19 = .ok (.return_, 1) := dk_177 (dk_at dksX24_init_0 19 rfl rfl)
abbrev cX24_names : ByteArray := prog_15_method_6_code
def yX24_names : MethodName := ⟨RX24, "names", "()I"⟩
def dkwX24_names_0 : List UInt8 := [4, 42, 180, 0, 9, 120, 42, 180, 0, 15, 182, 0, 64, 128, 172]
abbrev dktX24_names_0 : List UInt8 := dkwX24_names_0 ++ []
theorem dksX24_names_0 : cX24_names.data.toList.drop 0 = dktX24_names_0 := by decide +kernel
theorem dX24_names_0 : decode cX24_names 0 = .ok (.iconst 1, 1) := dk_4 (dk_at dksX24_names_0 0 rfl rfl)
theorem dX24_names_1 : decode cX24_names 1 = .ok (.aload_n 0, 1) := dk_42 (dk_at dksX24_names_0 1 rfl rfl)
theorem dX24_names_2 : decode cX24_names 2 = .ok (.getfield 9, 3) := dk_180 0 9 (dk_at dksX24_names_0 2 rfl rfl)
theorem dX24_names_5 : decode cX24_names 5 = .ok (.ishl, 1) := dk_120 (dk_at dksX24_names_0 5 rfl rfl)
theorem dX24_names_6 : decode cX24_names 6 = .ok (.aload_n 0, 1) := dk_42 (dk_at dksX24_names_0 6 rfl rfl)
theorem dX24_names_7 : decode cX24_names 7 = .ok (.getfield 15, 3) := dk_180 0 15 (dk_at dksX24_names_0 7 rfl rfl)
theorem dX24_names_10 : decode cX24_names 10 = .ok (.invokevirtual 64, 3) := dk_182 0 64 (dk_at dksX24_names_0 10 rfl rfl)
theorem dX24_names_13 : decode cX24_names 13 = .ok (.ior, 1) := dk_128 (dk_at dksX24_names_0 13 rfl rfl)
theorem dX24_names_14 : decode cX24_names 14 = .ok (.ireturn, 1) := dk_172 (dk_at dksX24_names_0 14 rfl rfl)
abbrev cX24_print : ByteArray := prog_15_method_5_code
def yX24_print : MethodName := ⟨RX24, "print", "(LThereAndBack;)V"⟩
def dkwX24_print_2 : List UInt8 := [182, 0, 61, 177]
abbrev dktX24_print_2 : List UInt8 := dkwX24_print_2 ++ []
def dkwX24_print_1 : List UInt8 := [180, 0, 9, 96, 182, 0, 53, 43, 16, 61, 182, 0, 53, 42, 180, 0, 15, 43, 182, 0, 57, 43, 16, 59]
abbrev dktX24_print_1 : List UInt8 := dkwX24_print_1 ++ dktX24_print_2
def dkwX24_print_0 : List UInt8 := [43, 42, 180, 0, 19, 153, 0, 8, 18, 45, 167, 0, 5, 18, 47, 182, 0, 49, 43, 16, 97, 42]
abbrev dktX24_print_0 : List UInt8 := dkwX24_print_0 ++ dktX24_print_1
theorem dksX24_print_0 : cX24_print.data.toList.drop 0 = dktX24_print_0 := by decide +kernel
theorem dksX24_print_1 : cX24_print.data.toList.drop 22 = dktX24_print_1 := dk_seg dksX24_print_0 22 rfl rfl
theorem dksX24_print_2 : cX24_print.data.toList.drop 46 = dktX24_print_2 := dk_seg dksX24_print_1 24 rfl rfl
theorem dX24_print_0 : decode cX24_print 0 = .ok (.aload_n 1, 1) := dk_43 (dk_at dksX24_print_0 0 rfl rfl)
theorem dX24_print_1 : decode cX24_print 1 = .ok (.aload_n 0, 1) := dk_42 (dk_at dksX24_print_0 1 rfl rfl)
theorem dX24_print_2 : decode cX24_print 2 = .ok (.getfield 19, 3) := dk_180 0 19 (dk_at dksX24_print_0 2 rfl rfl)
theorem dX24_print_5 : decode cX24_print 5 = .ok (.ifCond .eq 8, 3) := dk_153 0 8 (dk_at dksX24_print_0 5 rfl rfl)
theorem dX24_print_8 : decode cX24_print 8 = .ok (.ldc 45, 2) := dk_18 45 (dk_at dksX24_print_0 8 rfl rfl)
theorem dX24_print_10 : decode cX24_print 10 = .ok (.goto 5, 3) := dk_167 0 5 (dk_at dksX24_print_0 10 rfl rfl)
theorem dX24_print_13 : decode cX24_print 13 = .ok (.ldc 47, 2) := dk_18 47 (dk_at dksX24_print_0 13 rfl rfl)
theorem dX24_print_15 : decode cX24_print 15 = .ok (.invokevirtual 49, 3) := dk_182 0 49 (dk_at dksX24_print_0 15 rfl rfl)
theorem dX24_print_18 : decode cX24_print 18 = .ok (.aload_n 1, 1) := dk_43 (dk_at dksX24_print_0 18 rfl rfl)
theorem dX24_print_19 : decode cX24_print 19 = .ok (.bipush 97, 2) := dk_16 97 (dk_at dksX24_print_0 19 rfl rfl)
theorem dX24_print_21 : decode cX24_print 21 = .ok (.aload_n 0, 1) := dk_42 (dk_at dksX24_print_0 21 rfl rfl)
theorem dX24_print_22 : decode cX24_print 22 = .ok (.getfield 9, 3) := dk_180 0 9 (dk_at dksX24_print_1 0 rfl rfl)
theorem dX24_print_25 : decode cX24_print 25 = .ok (.iadd, 1) := dk_96 (dk_at dksX24_print_1 3 rfl rfl)
theorem dX24_print_26 : decode cX24_print 26 = .ok (.invokevirtual 53, 3) := dk_182 0 53 (dk_at dksX24_print_1 4 rfl rfl)
theorem dX24_print_29 : decode cX24_print 29 = .ok (.aload_n 1, 1) := dk_43 (dk_at dksX24_print_1 7 rfl rfl)
theorem dX24_print_30 : decode cX24_print 30 = .ok (.bipush 61, 2) := dk_16 61 (dk_at dksX24_print_1 8 rfl rfl)
theorem dX24_print_32 : decode cX24_print 32 = .ok (.invokevirtual 53, 3) := dk_182 0 53 (dk_at dksX24_print_1 10 rfl rfl)
theorem dX24_print_35 : decode cX24_print 35 = .ok (.aload_n 0, 1) := dk_42 (dk_at dksX24_print_1 13 rfl rfl)
theorem dX24_print_36 : decode cX24_print 36 = .ok (.getfield 15, 3) := dk_180 0 15 (dk_at dksX24_print_1 14 rfl rfl)
theorem dX24_print_39 : decode cX24_print 39 = .ok (.aload_n 1, 1) := dk_43 (dk_at dksX24_print_1 17 rfl rfl)
theorem dX24_print_40 : decode cX24_print 40 = .ok (.invokevirtual 57, 3) := dk_182 0 57 (dk_at dksX24_print_1 18 rfl rfl)
theorem dX24_print_43 : decode cX24_print 43 = .ok (.aload_n 1, 1) := dk_43 (dk_at dksX24_print_1 21 rfl rfl)
theorem dX24_print_44 : decode cX24_print 44 = .ok (.bipush 59, 2) := dk_16 59 (dk_at dksX24_print_1 22 rfl rfl)
theorem dX24_print_46 : decode cX24_print 46 = .ok (.invokevirtual 61, 3) := dk_182 0 61 (dk_at dksX24_print_2 0 rfl rfl)
theorem dX24_print_49 : decode cX24_print 49 = .ok (.return_, 1) := dk_177 (dk_at dksX24_print_2 3 rfl rfl)
abbrev cX24_mirror : ByteArray := prog_15_method_7_code
def yX24_mirror : MethodName := ⟨RX24, "mirror", "()LThereAndBack$Step;"⟩
def dkwX24_mirror_1 : List UInt8 := [183, 0, 68, 176]
abbrev dktX24_mirror_1 : List UInt8 := dkwX24_mirror_1 ++ []
def dkwX24_mirror_0 : List UInt8 := [187, 0, 10, 89, 42, 180, 0, 9, 42, 180, 0, 15, 42, 180, 0, 19, 154, 0, 7, 4, 167, 0, 4, 3]
abbrev dktX24_mirror_0 : List UInt8 := dkwX24_mirror_0 ++ dktX24_mirror_1
theorem dksX24_mirror_0 : cX24_mirror.data.toList.drop 0 = dktX24_mirror_0 := by decide +kernel
theorem dksX24_mirror_1 : cX24_mirror.data.toList.drop 24 = dktX24_mirror_1 := dk_seg dksX24_mirror_0 24 rfl rfl
theorem dX24_mirror_0 : decode cX24_mirror 0 = .ok (.new 10, 3) := dk_187 0 10 (dk_at dksX24_mirror_0 0 rfl rfl)
theorem dX24_mirror_3 : decode cX24_mirror 3 = .ok (.dup, 1) := dk_89 (dk_at dksX24_mirror_0 3 rfl rfl)
theorem dX24_mirror_4 : decode cX24_mirror 4 = .ok (.aload_n 0, 1) := dk_42 (dk_at dksX24_mirror_0 4 rfl rfl)
theorem dX24_mirror_5 : decode cX24_mirror 5 = .ok (.getfield 9, 3) := dk_180 0 9 (dk_at dksX24_mirror_0 5 rfl rfl)
theorem dX24_mirror_8 : decode cX24_mirror 8 = .ok (.aload_n 0, 1) := dk_42 (dk_at dksX24_mirror_0 8 rfl rfl)
theorem dX24_mirror_9 : decode cX24_mirror 9 = .ok (.getfield 15, 3) := dk_180 0 15 (dk_at dksX24_mirror_0 9 rfl rfl)
theorem dX24_mirror_12 : decode cX24_mirror 12 = .ok (.aload_n 0, 1) := dk_42 (dk_at dksX24_mirror_0 12 rfl rfl)
theorem dX24_mirror_13 : decode cX24_mirror 13 = .ok (.getfield 19, 3) := dk_180 0 19 (dk_at dksX24_mirror_0 13 rfl rfl)
theorem dX24_mirror_16 : decode cX24_mirror 16 = .ok (.ifCond .ne 7, 3) := dk_154 0 7 (dk_at dksX24_mirror_0 16 rfl rfl)
theorem dX24_mirror_19 : decode cX24_mirror 19 = .ok (.iconst 1, 1) := dk_4 (dk_at dksX24_mirror_0 19 rfl rfl)
theorem dX24_mirror_20 : decode cX24_mirror 20 = .ok (.goto 4, 3) := dk_167 0 4 (dk_at dksX24_mirror_0 20 rfl rfl)
theorem dX24_mirror_23 : decode cX24_mirror 23 = .ok (.iconst 0, 1) := dk_3 (dk_at dksX24_mirror_0 23 rfl rfl)
theorem dX24_mirror_24 : decode cX24_mirror 24 = .ok (.invokespecial 68, 3) := dk_183 0 68 (dk_at dksX24_mirror_1 0 rfl rfl)
theorem dX24_mirror_27 : decode cX24_mirror 27 = .ok (.areturn, 1) := dk_176 (dk_at dksX24_mirror_1 3 rfl rfl)
abbrev cX24_doForward : ByteArray := prog_15_method_2_code
def yX24_doForward : MethodName := ⟨RX24, "doForward", "(LThereAndBack;)V"⟩
def dkwX24_doForward_0 : List UInt8 := [42, 43, 42, 180, 0, 19, 182, 0, 23, 177]
abbrev dktX24_doForward_0 : List UInt8 := dkwX24_doForward_0 ++ []
theorem dksX24_doForward_0 : cX24_doForward.data.toList.drop 0 = dktX24_doForward_0 := by decide +kernel
theorem dX24_doForward_0 : decode cX24_doForward 0 = .ok (.aload_n 0, 1) := dk_42 (dk_at dksX24_doForward_0 0 rfl rfl)
theorem dX24_doForward_1 : decode cX24_doForward 1 = .ok (.aload_n 1, 1) := dk_43 (dk_at dksX24_doForward_0 1 rfl rfl)
theorem dX24_doForward_2 : decode cX24_doForward 2 = .ok (.aload_n 0, 1) := dk_42 (dk_at dksX24_doForward_0 2 rfl rfl)
theorem dX24_doForward_3 : decode cX24_doForward 3 = .ok (.getfield 19, 3) := dk_180 0 19 (dk_at dksX24_doForward_0 3 rfl rfl)
theorem dX24_doForward_6 : decode cX24_doForward 6 = .ok (.invokevirtual 23, 3) := dk_182 0 23 (dk_at dksX24_doForward_0 6 rfl rfl)
theorem dX24_doForward_9 : decode cX24_doForward 9 = .ok (.return_, 1) := dk_177 (dk_at dksX24_doForward_0 9 rfl rfl)
abbrev cX24_work : ByteArray := prog_15_method_4_code
def yX24_work : MethodName := ⟨RX24, "work", "(LThereAndBack;Z)V"⟩
def dkwX24_work_3 : List UInt8 := [180, 0, 9, 28, 84, 43, 180, 0, 41, 42, 180, 0, 9, 29, 79, 177]
abbrev dktX24_work_3 : List UInt8 := dkwX24_work_3 ++ []
def dkwX24_work_2 : List UInt8 := [42, 180, 0, 9, 46, 29, 159, 0, 11, 43, 180, 0, 31, 16, 8, 50, 191, 43, 180, 0, 27, 42]
abbrev dktX24_work_2 : List UInt8 := dkwX24_work_2 ++ dktX24_work_3
def dkwX24_work_1 : List UInt8 := [167, 0, 4, 4, 50, 191, 42, 180, 0, 15, 43, 182, 0, 35, 136, 62, 28, 154, 0, 24, 43, 180, 0, 41]
abbrev dktX24_work_1 : List UInt8 := dkwX24_work_1 ++ dktX24_work_2
def dkwX24_work_0 : List UInt8 := [43, 180, 0, 27, 42, 180, 0, 9, 51, 28, 160, 0, 19, 43, 180, 0, 31, 28, 153, 0, 8, 16, 14]
abbrev dktX24_work_0 : List UInt8 := dkwX24_work_0 ++ dktX24_work_1
theorem dksX24_work_0 : cX24_work.data.toList.drop 0 = dktX24_work_0 := by decide +kernel
theorem dksX24_work_1 : cX24_work.data.toList.drop 23 = dktX24_work_1 := dk_seg dksX24_work_0 23 rfl rfl
theorem dksX24_work_2 : cX24_work.data.toList.drop 47 = dktX24_work_2 := dk_seg dksX24_work_1 24 rfl rfl
theorem dksX24_work_3 : cX24_work.data.toList.drop 69 = dktX24_work_3 := dk_seg dksX24_work_2 22 rfl rfl
theorem dX24_work_0 : decode cX24_work 0 = .ok (.aload_n 1, 1) := dk_43 (dk_at dksX24_work_0 0 rfl rfl)
theorem dX24_work_1 : decode cX24_work 1 = .ok (.getfield 27, 3) := dk_180 0 27 (dk_at dksX24_work_0 1 rfl rfl)
theorem dX24_work_4 : decode cX24_work 4 = .ok (.aload_n 0, 1) := dk_42 (dk_at dksX24_work_0 4 rfl rfl)
theorem dX24_work_5 : decode cX24_work 5 = .ok (.getfield 9, 3) := dk_180 0 9 (dk_at dksX24_work_0 5 rfl rfl)
theorem dX24_work_8 : decode cX24_work 8 = .ok (.baload, 1) := dk_51 (dk_at dksX24_work_0 8 rfl rfl)
theorem dX24_work_9 : decode cX24_work 9 = .ok (.iload_n 2, 1) := dk_28 (dk_at dksX24_work_0 9 rfl rfl)
theorem dX24_work_10 : decode cX24_work 10 = .ok (.if_icmp .ne 19, 3) := dk_160 0 19 (dk_at dksX24_work_0 10 rfl rfl)
theorem dX24_work_13 : decode cX24_work 13 = .ok (.aload_n 1, 1) := dk_43 (dk_at dksX24_work_0 13 rfl rfl)
theorem dX24_work_14 : decode cX24_work 14 = .ok (.getfield 31, 3) := dk_180 0 31 (dk_at dksX24_work_0 14 rfl rfl)
theorem dX24_work_17 : decode cX24_work 17 = .ok (.iload_n 2, 1) := dk_28 (dk_at dksX24_work_0 17 rfl rfl)
theorem dX24_work_18 : decode cX24_work 18 = .ok (.ifCond .eq 8, 3) := dk_153 0 8 (dk_at dksX24_work_0 18 rfl rfl)
theorem dX24_work_21 : decode cX24_work 21 = .ok (.bipush 14, 2) := dk_16 14 (dk_at dksX24_work_0 21 rfl rfl)
theorem dX24_work_23 : decode cX24_work 23 = .ok (.goto 4, 3) := dk_167 0 4 (dk_at dksX24_work_1 0 rfl rfl)
theorem dX24_work_26 : decode cX24_work 26 = .ok (.iconst 1, 1) := dk_4 (dk_at dksX24_work_1 3 rfl rfl)
theorem dX24_work_27 : decode cX24_work 27 = .ok (.aaload, 1) := dk_50 (dk_at dksX24_work_1 4 rfl rfl)
theorem dX24_work_28 : decode cX24_work 28 = .ok (.athrow, 1) := dk_191 (dk_at dksX24_work_1 5 rfl rfl)
theorem dX24_work_29 : decode cX24_work 29 = .ok (.aload_n 0, 1) := dk_42 (dk_at dksX24_work_1 6 rfl rfl)
theorem dX24_work_30 : decode cX24_work 30 = .ok (.getfield 15, 3) := dk_180 0 15 (dk_at dksX24_work_1 7 rfl rfl)
theorem dX24_work_33 : decode cX24_work 33 = .ok (.aload_n 1, 1) := dk_43 (dk_at dksX24_work_1 10 rfl rfl)
theorem dX24_work_34 : decode cX24_work 34 = .ok (.invokevirtual 35, 3) := dk_182 0 35 (dk_at dksX24_work_1 11 rfl rfl)
theorem dX24_work_37 : decode cX24_work 37 = .ok (.l2i, 1) := dk_136 (dk_at dksX24_work_1 14 rfl rfl)
theorem dX24_work_38 : decode cX24_work 38 = .ok (.istore_n 3, 1) := dk_62 (dk_at dksX24_work_1 15 rfl rfl)
theorem dX24_work_39 : decode cX24_work 39 = .ok (.iload_n 2, 1) := dk_28 (dk_at dksX24_work_1 16 rfl rfl)
theorem dX24_work_40 : decode cX24_work 40 = .ok (.ifCond .ne 24, 3) := dk_154 0 24 (dk_at dksX24_work_1 17 rfl rfl)
theorem dX24_work_43 : decode cX24_work 43 = .ok (.aload_n 1, 1) := dk_43 (dk_at dksX24_work_1 20 rfl rfl)
theorem dX24_work_44 : decode cX24_work 44 = .ok (.getfield 41, 3) := dk_180 0 41 (dk_at dksX24_work_1 21 rfl rfl)
theorem dX24_work_47 : decode cX24_work 47 = .ok (.aload_n 0, 1) := dk_42 (dk_at dksX24_work_2 0 rfl rfl)
theorem dX24_work_48 : decode cX24_work 48 = .ok (.getfield 9, 3) := dk_180 0 9 (dk_at dksX24_work_2 1 rfl rfl)
theorem dX24_work_51 : decode cX24_work 51 = .ok (.iaload, 1) := dk_46 (dk_at dksX24_work_2 4 rfl rfl)
theorem dX24_work_52 : decode cX24_work 52 = .ok (.iload_n 3, 1) := dk_29 (dk_at dksX24_work_2 5 rfl rfl)
theorem dX24_work_53 : decode cX24_work 53 = .ok (.if_icmp .eq 11, 3) := dk_159 0 11 (dk_at dksX24_work_2 6 rfl rfl)
theorem dX24_work_56 : decode cX24_work 56 = .ok (.aload_n 1, 1) := dk_43 (dk_at dksX24_work_2 9 rfl rfl)
theorem dX24_work_57 : decode cX24_work 57 = .ok (.getfield 31, 3) := dk_180 0 31 (dk_at dksX24_work_2 10 rfl rfl)
theorem dX24_work_60 : decode cX24_work 60 = .ok (.bipush 8, 2) := dk_16 8 (dk_at dksX24_work_2 13 rfl rfl)
theorem dX24_work_62 : decode cX24_work 62 = .ok (.aaload, 1) := dk_50 (dk_at dksX24_work_2 15 rfl rfl)
theorem dX24_work_63 : decode cX24_work 63 = .ok (.athrow, 1) := dk_191 (dk_at dksX24_work_2 16 rfl rfl)
theorem dX24_work_64 : decode cX24_work 64 = .ok (.aload_n 1, 1) := dk_43 (dk_at dksX24_work_2 17 rfl rfl)
theorem dX24_work_65 : decode cX24_work 65 = .ok (.getfield 27, 3) := dk_180 0 27 (dk_at dksX24_work_2 18 rfl rfl)
theorem dX24_work_68 : decode cX24_work 68 = .ok (.aload_n 0, 1) := dk_42 (dk_at dksX24_work_2 21 rfl rfl)
theorem dX24_work_69 : decode cX24_work 69 = .ok (.getfield 9, 3) := dk_180 0 9 (dk_at dksX24_work_3 0 rfl rfl)
theorem dX24_work_72 : decode cX24_work 72 = .ok (.iload_n 2, 1) := dk_28 (dk_at dksX24_work_3 3 rfl rfl)
theorem dX24_work_73 : decode cX24_work 73 = .ok (.bastore, 1) := dk_84 (dk_at dksX24_work_3 4 rfl rfl)
theorem dX24_work_74 : decode cX24_work 74 = .ok (.aload_n 1, 1) := dk_43 (dk_at dksX24_work_3 5 rfl rfl)
theorem dX24_work_75 : decode cX24_work 75 = .ok (.getfield 41, 3) := dk_180 0 41 (dk_at dksX24_work_3 6 rfl rfl)
theorem dX24_work_78 : decode cX24_work 78 = .ok (.aload_n 0, 1) := dk_42 (dk_at dksX24_work_3 9 rfl rfl)
theorem dX24_work_79 : decode cX24_work 79 = .ok (.getfield 9, 3) := dk_180 0 9 (dk_at dksX24_work_3 10 rfl rfl)
theorem dX24_work_82 : decode cX24_work 82 = .ok (.iload_n 3, 1) := dk_29 (dk_at dksX24_work_3 13 rfl rfl)
theorem dX24_work_83 : decode cX24_work 83 = .ok (.iastore, 1) := dk_79 (dk_at dksX24_work_3 14 rfl rfl)
theorem dX24_work_84 : decode cX24_work 84 = .ok (.return_, 1) := dk_177 (dk_at dksX24_work_3 15 rfl rfl)
abbrev cX24_doBack : ByteArray := prog_15_method_3_code
def yX24_doBack : MethodName := ⟨RX24, "doBack", "(LThereAndBack;)V"⟩
def dkwX24_doBack_0 : List UInt8 := [42, 43, 42, 180, 0, 19, 154, 0, 7, 4, 167, 0, 4, 3, 182, 0, 23, 177]
abbrev dktX24_doBack_0 : List UInt8 := dkwX24_doBack_0 ++ []
theorem dksX24_doBack_0 : cX24_doBack.data.toList.drop 0 = dktX24_doBack_0 := by decide +kernel
theorem dX24_doBack_0 : decode cX24_doBack 0 = .ok (.aload_n 0, 1) := dk_42 (dk_at dksX24_doBack_0 0 rfl rfl)
theorem dX24_doBack_1 : decode cX24_doBack 1 = .ok (.aload_n 1, 1) := dk_43 (dk_at dksX24_doBack_0 1 rfl rfl)
theorem dX24_doBack_2 : decode cX24_doBack 2 = .ok (.aload_n 0, 1) := dk_42 (dk_at dksX24_doBack_0 2 rfl rfl)
theorem dX24_doBack_3 : decode cX24_doBack 3 = .ok (.getfield 19, 3) := dk_180 0 19 (dk_at dksX24_doBack_0 3 rfl rfl)
theorem dX24_doBack_6 : decode cX24_doBack 6 = .ok (.ifCond .ne 7, 3) := dk_154 0 7 (dk_at dksX24_doBack_0 6 rfl rfl)
theorem dX24_doBack_9 : decode cX24_doBack 9 = .ok (.iconst 1, 1) := dk_4 (dk_at dksX24_doBack_0 9 rfl rfl)
theorem dX24_doBack_10 : decode cX24_doBack 10 = .ok (.goto 4, 3) := dk_167 0 4 (dk_at dksX24_doBack_0 10 rfl rfl)
theorem dX24_doBack_13 : decode cX24_doBack 13 = .ok (.iconst 0, 1) := dk_3 (dk_at dksX24_doBack_0 13 rfl rfl)
theorem dX24_doBack_14 : decode cX24_doBack 14 = .ok (.invokevirtual 23, 3) := dk_182 0 23 (dk_at dksX24_doBack_0 14 rfl rfl)
theorem dX24_doBack_17 : decode cX24_doBack 17 = .ok (.return_, 1) := dk_177 (dk_at dksX24_doBack_0 17 rfl rfl)
theorem q178 : (Jvm.Cond.initialized "ThereAndBack$Let") ∈ lw_all := lw_g (lw_at lw_m1 34 rfl) rfl
theorem q344 : (Jvm.Cond.fieldLinkNest "ThereAndBack$Let" (31 : Nat) "ThereAndBack" "refusals" "[LThereAndBack$Refused;" "ThereAndBack") ∈ lw_tbl := lw_at lw_m1 200 rfl
theorem q350 : (Jvm.Cond.fieldLinkNest "ThereAndBack$Let" (27 : Nat) "ThereAndBack" "isThere" "[Z" "ThereAndBack") ∈ lw_tbl := lw_at lw_m1 206 rfl
theorem q354 : (Jvm.Cond.fieldLinkNest "ThereAndBack$Let" (41 : Nat) "ThereAndBack" "values" "[I" "ThereAndBack") ∈ lw_tbl := lw_at lw_m1 210 rfl
theorem q933 : (Jvm.Cond.instantiable "ThereAndBack$Let" (3 : Nat)) ∈ lw_all := lw_g (lw_at lw_m4 69 rfl) rfl
theorem q935 : (Jvm.Cond.instanceMethod ({ cls := "ThereAndBack$Let", name := "<init>", desc := "(ILThereAndBack$Expr;Z)V" } : Jvm.MethodName)) ∈ lw_all := lw_g (lw_at lw_m4 71 rfl) rfl
theorem q936 : (Jvm.Cond.code ({ cls := "ThereAndBack$Let", name := "<init>", desc := "(ILThereAndBack$Expr;Z)V" } : Jvm.MethodName) prog_15_method_1_code (4 : Nat) (Option.none : Option Jvm.ClassFile.FieldType)) ∈ lw_all := lw_g (lw_at lw_m4 72 rfl) rfl
theorem q937 : (Jvm.Cond.methodLinkNest "ThereAndBack$Let" (3 : Nat) ({ cls := "ThereAndBack$Single", name := "<init>", desc := "()V" } : Jvm.MethodName) "ThereAndBack") ∈ lw_tbl := lw_at lw_m4 73 rfl
theorem q938 : (Jvm.Cond.fieldLink "ThereAndBack$Let" (9 : Nat) "ThereAndBack$Let" "name" "I") ∈ lw_all := lw_g (lw_at lw_m4 74 rfl) rfl
theorem q939 : (Jvm.Cond.fieldLink "ThereAndBack$Let" (15 : Nat) "ThereAndBack$Let" "value" "LThereAndBack$Expr;") ∈ lw_all := lw_g (lw_at lw_m4 75 rfl) rfl
theorem q940 : (Jvm.Cond.fieldLink "ThereAndBack$Let" (19 : Nat) "ThereAndBack$Let" "lets" "Z") ∈ lw_all := lw_g (lw_at lw_m4 76 rfl) rfl
theorem q941 : (Jvm.Cond.laysFinal "ThereAndBack$Let" "ThereAndBack$Let" "name" "I") ∈ lw_all := lw_g (lw_at lw_m4 77 rfl) rfl
theorem q942 : (Jvm.Cond.soleField "ThereAndBack$Let" "name") ∈ lw_all := lw_g (lw_at lw_m4 78 rfl) rfl
theorem q943 : (Jvm.Cond.laysFinal "ThereAndBack$Let" "ThereAndBack$Let" "value" "LThereAndBack$Expr;") ∈ lw_all := lw_g (lw_at lw_m4 79 rfl) rfl
theorem q944 : (Jvm.Cond.soleField "ThereAndBack$Let" "value") ∈ lw_all := lw_g (lw_at lw_m4 80 rfl) rfl
theorem q945 : (Jvm.Cond.laysFinal "ThereAndBack$Let" "ThereAndBack$Let" "lets" "Z") ∈ lw_all := lw_g (lw_at lw_m4 81 rfl) rfl
theorem q946 : (Jvm.Cond.soleField "ThereAndBack$Let" "lets") ∈ lw_all := lw_g (lw_at lw_m4 82 rfl) rfl
theorem q947 : (Jvm.Cond.superclass "ThereAndBack$Let" "ThereAndBack$Single") ∈ lw_all := lw_g (lw_at lw_m4 83 rfl) rfl
theorem q1163 : (Jvm.Cond.selects "ThereAndBack$Let" ({ cls := "java/lang/Object", name := "getClass", desc := "()Ljava/lang/Class;" } : Jvm.MethodName) ({ cls := "java/lang/Object", name := "getClass", desc := "()Ljava/lang/Class;" } : Jvm.MethodName)) ∈ lw_all := lw_g (lw_at lw_m5 59 rfl) rfl
theorem q1328 : (Jvm.Cond.selects "ThereAndBack$Let" ({ cls := "ThereAndBack$Step", name := "lay", desc := "(Ljava/util/List;)V" } : Jvm.MethodName) ({ cls := "ThereAndBack$Single", name := "lay", desc := "(Ljava/util/List;)V" } : Jvm.MethodName)) ∈ lw_all := lw_g (lw_at lw_m5 224 rfl) rfl
theorem q1359 : (Jvm.Cond.selects "ThereAndBack$Let" ({ cls := "ThereAndBack$Step", name := "code", desc := "()I" } : Jvm.MethodName) ({ cls := "ThereAndBack$Step", name := "code", desc := "()I" } : Jvm.MethodName)) ∈ lw_all := lw_g (lw_at lw_m6 15 rfl) rfl
theorem q1417 : (Jvm.Cond.selects "ThereAndBack$Let" ({ cls := "ThereAndBack$Step", name := "isOrdinary", desc := "()Z" } : Jvm.MethodName) ({ cls := "ThereAndBack$Step", name := "isOrdinary", desc := "()Z" } : Jvm.MethodName)) ∈ lw_all := lw_g (lw_at lw_m6 73 rfl) rfl
theorem q1440 : (Jvm.Cond.selects "ThereAndBack$Let" ({ cls := "ThereAndBack$Step", name := "braces", desc := "()I" } : Jvm.MethodName) ({ cls := "ThereAndBack$Step", name := "braces", desc := "()I" } : Jvm.MethodName)) ∈ lw_all := lw_g (lw_at lw_m6 96 rfl) rfl
theorem q1498 : (Jvm.Cond.selects "ThereAndBack$Let" ({ cls := "ThereAndBack$Step", name := "names", desc := "()I" } : Jvm.MethodName) ({ cls := "ThereAndBack$Let", name := "names", desc := "()I" } : Jvm.MethodName)) ∈ lw_all := lw_g (lw_at lw_m6 154 rfl) rfl
theorem q1499 : (Jvm.Cond.instanceMethod ({ cls := "ThereAndBack$Let", name := "names", desc := "()I" } : Jvm.MethodName)) ∈ lw_all := lw_g (lw_at lw_m6 155 rfl) rfl
theorem q1500 : (Jvm.Cond.code ({ cls := "ThereAndBack$Let", name := "names", desc := "()I" } : Jvm.MethodName) prog_15_method_6_code (1 : Nat) (Option.some Jvm.ClassFile.FieldType.int)) ∈ lw_all := lw_g (lw_at lw_m6 156 rfl) rfl
theorem q1501 : (Jvm.Cond.methodLink "ThereAndBack$Let" (64 : Nat) ({ cls := "ThereAndBack$Expr", name := "names", desc := "()I" } : Jvm.MethodName)) ∈ lw_all := lw_g (lw_at lw_m6 157 rfl) rfl
theorem q1675 : (Jvm.Cond.selects "ThereAndBack$Let" ({ cls := "ThereAndBack$Step", name := "print", desc := "(LThereAndBack;)V" } : Jvm.MethodName) ({ cls := "ThereAndBack$Let", name := "print", desc := "(LThereAndBack;)V" } : Jvm.MethodName)) ∈ lw_all := lw_g (lw_at lw_m7 91 rfl) rfl
theorem q1676 : (Jvm.Cond.instanceMethod ({ cls := "ThereAndBack$Let", name := "print", desc := "(LThereAndBack;)V" } : Jvm.MethodName)) ∈ lw_all := lw_g (lw_at lw_m7 92 rfl) rfl
theorem q1677 : (Jvm.Cond.code ({ cls := "ThereAndBack$Let", name := "print", desc := "(LThereAndBack;)V" } : Jvm.MethodName) prog_15_method_5_code (2 : Nat) (Option.none : Option Jvm.ClassFile.FieldType)) ∈ lw_all := lw_g (lw_at lw_m7 93 rfl) rfl
theorem q1678 : (Jvm.Cond.stringRef "ThereAndBack$Let" (45 : Nat) "let") ∈ lw_tbl := lw_at lw_m7 94 rfl
theorem q1679 : (Jvm.Cond.stringRef "ThereAndBack$Let" (47 : Nat) "unlet") ∈ lw_tbl := lw_at lw_m7 95 rfl
theorem q1680 : (Jvm.Cond.methodLinkNest "ThereAndBack$Let" (49 : Nat) ({ cls := "ThereAndBack", name := "printWord", desc := "(Ljava/lang/String;)V" } : Jvm.MethodName) "ThereAndBack") ∈ lw_tbl := lw_at lw_m7 96 rfl
theorem q1681 : (Jvm.Cond.methodLinkNest "ThereAndBack$Let" (53 : Nat) ({ cls := "ThereAndBack", name := "printSign", desc := "(I)V" } : Jvm.MethodName) "ThereAndBack") ∈ lw_tbl := lw_at lw_m7 97 rfl
theorem q1682 : (Jvm.Cond.methodLink "ThereAndBack$Let" (57 : Nat) ({ cls := "ThereAndBack$Expr", name := "print", desc := "(LThereAndBack;)V" } : Jvm.MethodName)) ∈ lw_all := lw_g (lw_at lw_m7 98 rfl) rfl
theorem q1683 : (Jvm.Cond.methodLinkNest "ThereAndBack$Let" (61 : Nat) ({ cls := "ThereAndBack", name := "printBehind", desc := "(I)V" } : Jvm.MethodName) "ThereAndBack") ∈ lw_tbl := lw_at lw_m7 99 rfl
theorem q1784 : (Jvm.Cond.selects "ThereAndBack$Let" ({ cls := "ThereAndBack$Step", name := "mirror", desc := "()LThereAndBack$Step;" } : Jvm.MethodName) ({ cls := "ThereAndBack$Let", name := "mirror", desc := "()LThereAndBack$Step;" } : Jvm.MethodName)) ∈ lw_all := lw_g (lw_at lw_m7 200 rfl) rfl
theorem q1785 : (Jvm.Cond.instanceMethod ({ cls := "ThereAndBack$Let", name := "mirror", desc := "()LThereAndBack$Step;" } : Jvm.MethodName)) ∈ lw_all := lw_g (lw_at lw_m7 201 rfl) rfl
theorem q1786 : (Jvm.Cond.code ({ cls := "ThereAndBack$Let", name := "mirror", desc := "()LThereAndBack$Step;" } : Jvm.MethodName) prog_15_method_7_code (1 : Nat) (Option.some (Jvm.ClassFile.FieldType.object "ThereAndBack$Step"))) ∈ lw_all := lw_g (lw_at lw_m7 202 rfl) rfl
theorem q1787 : (Jvm.Cond.classLink "ThereAndBack$Let" (10 : Nat) "ThereAndBack$Let") ∈ lw_all := lw_g (lw_at lw_m7 203 rfl) rfl
theorem q1788 : (Jvm.Cond.methodLink "ThereAndBack$Let" (68 : Nat) ({ cls := "ThereAndBack$Let", name := "<init>", desc := "(ILThereAndBack$Expr;Z)V" } : Jvm.MethodName)) ∈ lw_all := lw_g (lw_at lw_m7 204 rfl) rfl
theorem q1851 : (Jvm.Cond.selects "ThereAndBack$Let" ({ cls := "ThereAndBack$Step", name := "turn", desc := "(Ljava/util/List;I)V" } : Jvm.MethodName) ({ cls := "ThereAndBack$Step", name := "turn", desc := "(Ljava/util/List;I)V" } : Jvm.MethodName)) ∈ lw_all := lw_g (lw_at lw_m8 27 rfl) rfl
theorem q2004 : (Jvm.Cond.selects "ThereAndBack$Let" ({ cls := "ThereAndBack$Step", name := "walk", desc := "(LThereAndBack;)V" } : Jvm.MethodName) ({ cls := "ThereAndBack$Step", name := "walk", desc := "(LThereAndBack;)V" } : Jvm.MethodName)) ∈ lw_all := lw_g (lw_at lw_m8 180 rfl) rfl
theorem q2171 : (Jvm.Cond.selects "ThereAndBack$Let" ({ cls := "ThereAndBack$Single", name := "doForward", desc := "(LThereAndBack;)V" } : Jvm.MethodName) ({ cls := "ThereAndBack$Let", name := "doForward", desc := "(LThereAndBack;)V" } : Jvm.MethodName)) ∈ lw_all := lw_g (lw_at lw_m9 107 rfl) rfl
theorem q2172 : (Jvm.Cond.instanceMethod ({ cls := "ThereAndBack$Let", name := "doForward", desc := "(LThereAndBack;)V" } : Jvm.MethodName)) ∈ lw_all := lw_g (lw_at lw_m9 108 rfl) rfl
theorem q2173 : (Jvm.Cond.code ({ cls := "ThereAndBack$Let", name := "doForward", desc := "(LThereAndBack;)V" } : Jvm.MethodName) prog_15_method_2_code (2 : Nat) (Option.none : Option Jvm.ClassFile.FieldType)) ∈ lw_all := lw_g (lw_at lw_m9 109 rfl) rfl
theorem q2174 : (Jvm.Cond.methodLink "ThereAndBack$Let" (23 : Nat) ({ cls := "ThereAndBack$Let", name := "work", desc := "(LThereAndBack;Z)V" } : Jvm.MethodName)) ∈ lw_all := lw_g (lw_at lw_m9 110 rfl) rfl
theorem q2175 : (Jvm.Cond.privateMethod ({ cls := "ThereAndBack$Let", name := "work", desc := "(LThereAndBack;Z)V" } : Jvm.MethodName)) ∈ lw_tbl := lw_at lw_m9 111 rfl
theorem q2176 : (Jvm.Cond.instanceMethod ({ cls := "ThereAndBack$Let", name := "work", desc := "(LThereAndBack;Z)V" } : Jvm.MethodName)) ∈ lw_all := lw_g (lw_at lw_m9 112 rfl) rfl
theorem q2177 : (Jvm.Cond.code ({ cls := "ThereAndBack$Let", name := "work", desc := "(LThereAndBack;Z)V" } : Jvm.MethodName) prog_15_method_4_code (4 : Nat) (Option.none : Option Jvm.ClassFile.FieldType)) ∈ lw_all := lw_g (lw_at lw_m9 113 rfl) rfl
theorem q2178 : (Jvm.Cond.methodLink "ThereAndBack$Let" (35 : Nat) ({ cls := "ThereAndBack$Expr", name := "eval", desc := "(LThereAndBack;)J" } : Jvm.MethodName)) ∈ lw_all := lw_g (lw_at lw_m9 114 rfl) rfl
theorem q2229 : (Jvm.Cond.selects "ThereAndBack$Let" ({ cls := "ThereAndBack$Single", name := "doBack", desc := "(LThereAndBack;)V" } : Jvm.MethodName) ({ cls := "ThereAndBack$Let", name := "doBack", desc := "(LThereAndBack;)V" } : Jvm.MethodName)) ∈ lw_all := lw_g (lw_at lw_m9 165 rfl) rfl
theorem q2230 : (Jvm.Cond.instanceMethod ({ cls := "ThereAndBack$Let", name := "doBack", desc := "(LThereAndBack;)V" } : Jvm.MethodName)) ∈ lw_all := lw_g (lw_at lw_m9 166 rfl) rfl
theorem q2231 : (Jvm.Cond.code ({ cls := "ThereAndBack$Let", name := "doBack", desc := "(LThereAndBack;)V" } : Jvm.MethodName) prog_15_method_3_code (2 : Nat) (Option.none : Option Jvm.ClassFile.FieldType)) ∈ lw_all := lw_g (lw_at lw_m9 167 rfl) rfl
theorem q3119 : (Jvm.Cond.castable "ThereAndBack$Let" "ThereAndBack$Step") ∈ lw_tbl := lw_at lw_m13 95 rfl
theorem q3149 : (Jvm.Cond.castable "ThereAndBack$Let" "java/lang/Object") ∈ lw_tbl := lw_at lw_m13 125 rfl
theorem in_X24 : ∀ w ∈ wsX240, w ∈ lw_all := lw_in wsX240 [941, 943, 945] (by decide +kernel) (by decide +kernel)
/-! ThereAndBack$Push -/
set_option maxRecDepth 100000
def RX25 : String := "ThereAndBack$Push"
def TX25 : u_T := fun k => match k with
  | 0 => ("ThereAndBack$Push", "name", "I", true)
  | 1 => ("ThereAndBack$Push", "stack", "I", true)
  | _ => ("ThereAndBack$Push", "pushes", "Z", true)
def tyX25 : Nat → FieldType := fun k => match k with
  | 0 => .int
  | 1 => .int
  | _ => .boolean
abbrev wsX250 : List Cond := u_ws RX25 TX25 3
theorem nmX25 : ∀ a, a < 3 → ∀ b, b < 3 → a ≠ b → (TX25 a).2.1 ≠ (TX25 b).2.1 := by decide +kernel
theorem tyX25_ok : ∀ k, k < 3 → parseFieldDescriptor (TX25 k).2.2.1 = some (tyX25 k) := by decide +kernel
abbrev cX25_init : ByteArray := prog_26_method_1_code
def yX25_init : MethodName := ⟨RX25, "<init>", "(IIZ)V"⟩
def dkwX25_init_0 : List UInt8 := [42, 183, 0, 3, 42, 27, 181, 0, 9, 42, 28, 181, 0, 15, 42, 29, 181, 0, 18, 177]
abbrev dktX25_init_0 : List UInt8 := dkwX25_init_0 ++ []
theorem dksX25_init_0 : cX25_init.data.toList.drop 0 = dktX25_init_0 := by decide +kernel
theorem dX25_init_0 : decode cX25_init 0 = .ok (.aload_n 0, 1) := dk_42 (dk_at dksX25_init_0 0 rfl rfl)
theorem dX25_init_1 : decode cX25_init 1 = .ok (.invokespecial 3, 3) := dk_183 0 3 (dk_at dksX25_init_0 1 rfl rfl)
theorem dX25_init_4 : decode cX25_init 4 = .ok (.aload_n 0, 1) := dk_42 (dk_at dksX25_init_0 4 rfl rfl)
theorem dX25_init_5 : decode cX25_init 5 = .ok (.iload_n 1, 1) := dk_27 (dk_at dksX25_init_0 5 rfl rfl)
theorem dX25_init_6 : decode cX25_init 6 = .ok (.putfield 9, 3) := dk_181 0 9 (dk_at dksX25_init_0 6 rfl rfl)
theorem dX25_init_9 : decode cX25_init 9 = .ok (.aload_n 0, 1) := dk_42 (dk_at dksX25_init_0 9 rfl rfl)
theorem dX25_init_10 : decode cX25_init 10 = .ok (.iload_n 2, 1) := dk_28 (dk_at dksX25_init_0 10 rfl rfl)
theorem dX25_init_11 : decode cX25_init 11 = .ok (.putfield 15, 3) := dk_181 0 15 (dk_at dksX25_init_0 11 rfl rfl)
theorem dX25_init_14 : decode cX25_init 14 = .ok (.aload_n 0, 1) := dk_42 (dk_at dksX25_init_0 14 rfl rfl)
theorem dX25_init_15 : decode cX25_init 15 = .ok (.iload_n 3, 1) := dk_29 (dk_at dksX25_init_0 15 rfl rfl)
theorem dX25_init_16 : decode cX25_init 16 = .ok (.putfield 18, 3) := dk_181 0 18 (dk_at dksX25_init_0 16 rfl rfl)
theorem dX25_init_19 : decode cX25_init 19 = .ok (.return_, 1) := dk_177 (dk_at dksX25_init_0 19 rfl rfl)
abbrev cX25_names : ByteArray := prog_26_method_6_code
def yX25_names : MethodName := ⟨RX25, "names", "()I"⟩
def dkwX25_names_0 : List UInt8 := [4, 42, 180, 0, 9, 120, 172]
abbrev dktX25_names_0 : List UInt8 := dkwX25_names_0 ++ []
theorem dksX25_names_0 : cX25_names.data.toList.drop 0 = dktX25_names_0 := by decide +kernel
theorem dX25_names_0 : decode cX25_names 0 = .ok (.iconst 1, 1) := dk_4 (dk_at dksX25_names_0 0 rfl rfl)
theorem dX25_names_1 : decode cX25_names 1 = .ok (.aload_n 0, 1) := dk_42 (dk_at dksX25_names_0 1 rfl rfl)
theorem dX25_names_2 : decode cX25_names 2 = .ok (.getfield 9, 3) := dk_180 0 9 (dk_at dksX25_names_0 2 rfl rfl)
theorem dX25_names_5 : decode cX25_names 5 = .ok (.ishl, 1) := dk_120 (dk_at dksX25_names_0 5 rfl rfl)
theorem dX25_names_6 : decode cX25_names 6 = .ok (.ireturn, 1) := dk_172 (dk_at dksX25_names_0 6 rfl rfl)
abbrev cX25_print : ByteArray := prog_26_method_5_code
def yX25_print : MethodName := ⟨RX25, "print", "(LThereAndBack;)V"⟩
def dkwX25_print_2 : List UInt8 := [177]
abbrev dktX25_print_2 : List UInt8 := dkwX25_print_2 ++ []
def dkwX25_print_1 : List UInt8 := [180, 0, 9, 96, 182, 0, 52, 43, 16, 83, 42, 180, 0, 15, 96, 182, 0, 52, 43, 16, 59, 182, 0, 56]
abbrev dktX25_print_1 : List UInt8 := dkwX25_print_1 ++ dktX25_print_2
def dkwX25_print_0 : List UInt8 := [43, 42, 180, 0, 18, 153, 0, 8, 18, 44, 167, 0, 5, 18, 46, 182, 0, 48, 43, 16, 97, 42]
abbrev dktX25_print_0 : List UInt8 := dkwX25_print_0 ++ dktX25_print_1
theorem dksX25_print_0 : cX25_print.data.toList.drop 0 = dktX25_print_0 := by decide +kernel
theorem dksX25_print_1 : cX25_print.data.toList.drop 22 = dktX25_print_1 := dk_seg dksX25_print_0 22 rfl rfl
theorem dksX25_print_2 : cX25_print.data.toList.drop 46 = dktX25_print_2 := dk_seg dksX25_print_1 24 rfl rfl
theorem dX25_print_0 : decode cX25_print 0 = .ok (.aload_n 1, 1) := dk_43 (dk_at dksX25_print_0 0 rfl rfl)
theorem dX25_print_1 : decode cX25_print 1 = .ok (.aload_n 0, 1) := dk_42 (dk_at dksX25_print_0 1 rfl rfl)
theorem dX25_print_2 : decode cX25_print 2 = .ok (.getfield 18, 3) := dk_180 0 18 (dk_at dksX25_print_0 2 rfl rfl)
theorem dX25_print_5 : decode cX25_print 5 = .ok (.ifCond .eq 8, 3) := dk_153 0 8 (dk_at dksX25_print_0 5 rfl rfl)
theorem dX25_print_8 : decode cX25_print 8 = .ok (.ldc 44, 2) := dk_18 44 (dk_at dksX25_print_0 8 rfl rfl)
theorem dX25_print_10 : decode cX25_print 10 = .ok (.goto 5, 3) := dk_167 0 5 (dk_at dksX25_print_0 10 rfl rfl)
theorem dX25_print_13 : decode cX25_print 13 = .ok (.ldc 46, 2) := dk_18 46 (dk_at dksX25_print_0 13 rfl rfl)
theorem dX25_print_15 : decode cX25_print 15 = .ok (.invokevirtual 48, 3) := dk_182 0 48 (dk_at dksX25_print_0 15 rfl rfl)
theorem dX25_print_18 : decode cX25_print 18 = .ok (.aload_n 1, 1) := dk_43 (dk_at dksX25_print_0 18 rfl rfl)
theorem dX25_print_19 : decode cX25_print 19 = .ok (.bipush 97, 2) := dk_16 97 (dk_at dksX25_print_0 19 rfl rfl)
theorem dX25_print_21 : decode cX25_print 21 = .ok (.aload_n 0, 1) := dk_42 (dk_at dksX25_print_0 21 rfl rfl)
theorem dX25_print_22 : decode cX25_print 22 = .ok (.getfield 9, 3) := dk_180 0 9 (dk_at dksX25_print_1 0 rfl rfl)
theorem dX25_print_25 : decode cX25_print 25 = .ok (.iadd, 1) := dk_96 (dk_at dksX25_print_1 3 rfl rfl)
theorem dX25_print_26 : decode cX25_print 26 = .ok (.invokevirtual 52, 3) := dk_182 0 52 (dk_at dksX25_print_1 4 rfl rfl)
theorem dX25_print_29 : decode cX25_print 29 = .ok (.aload_n 1, 1) := dk_43 (dk_at dksX25_print_1 7 rfl rfl)
theorem dX25_print_30 : decode cX25_print 30 = .ok (.bipush 83, 2) := dk_16 83 (dk_at dksX25_print_1 8 rfl rfl)
theorem dX25_print_32 : decode cX25_print 32 = .ok (.aload_n 0, 1) := dk_42 (dk_at dksX25_print_1 10 rfl rfl)
theorem dX25_print_33 : decode cX25_print 33 = .ok (.getfield 15, 3) := dk_180 0 15 (dk_at dksX25_print_1 11 rfl rfl)
theorem dX25_print_36 : decode cX25_print 36 = .ok (.iadd, 1) := dk_96 (dk_at dksX25_print_1 14 rfl rfl)
theorem dX25_print_37 : decode cX25_print 37 = .ok (.invokevirtual 52, 3) := dk_182 0 52 (dk_at dksX25_print_1 15 rfl rfl)
theorem dX25_print_40 : decode cX25_print 40 = .ok (.aload_n 1, 1) := dk_43 (dk_at dksX25_print_1 18 rfl rfl)
theorem dX25_print_41 : decode cX25_print 41 = .ok (.bipush 59, 2) := dk_16 59 (dk_at dksX25_print_1 19 rfl rfl)
theorem dX25_print_43 : decode cX25_print 43 = .ok (.invokevirtual 56, 3) := dk_182 0 56 (dk_at dksX25_print_1 21 rfl rfl)
theorem dX25_print_46 : decode cX25_print 46 = .ok (.return_, 1) := dk_177 (dk_at dksX25_print_2 0 rfl rfl)
abbrev cX25_mirror : ByteArray := prog_26_method_7_code
def yX25_mirror : MethodName := ⟨RX25, "mirror", "()LThereAndBack$Step;"⟩
def dkwX25_mirror_1 : List UInt8 := [183, 0, 59, 176]
abbrev dktX25_mirror_1 : List UInt8 := dkwX25_mirror_1 ++ []
def dkwX25_mirror_0 : List UInt8 := [187, 0, 10, 89, 42, 180, 0, 9, 42, 180, 0, 15, 42, 180, 0, 18, 154, 0, 7, 4, 167, 0, 4, 3]
abbrev dktX25_mirror_0 : List UInt8 := dkwX25_mirror_0 ++ dktX25_mirror_1
theorem dksX25_mirror_0 : cX25_mirror.data.toList.drop 0 = dktX25_mirror_0 := by decide +kernel
theorem dksX25_mirror_1 : cX25_mirror.data.toList.drop 24 = dktX25_mirror_1 := dk_seg dksX25_mirror_0 24 rfl rfl
theorem dX25_mirror_0 : decode cX25_mirror 0 = .ok (.new 10, 3) := dk_187 0 10 (dk_at dksX25_mirror_0 0 rfl rfl)
theorem dX25_mirror_3 : decode cX25_mirror 3 = .ok (.dup, 1) := dk_89 (dk_at dksX25_mirror_0 3 rfl rfl)
theorem dX25_mirror_4 : decode cX25_mirror 4 = .ok (.aload_n 0, 1) := dk_42 (dk_at dksX25_mirror_0 4 rfl rfl)
theorem dX25_mirror_5 : decode cX25_mirror 5 = .ok (.getfield 9, 3) := dk_180 0 9 (dk_at dksX25_mirror_0 5 rfl rfl)
theorem dX25_mirror_8 : decode cX25_mirror 8 = .ok (.aload_n 0, 1) := dk_42 (dk_at dksX25_mirror_0 8 rfl rfl)
theorem dX25_mirror_9 : decode cX25_mirror 9 = .ok (.getfield 15, 3) := dk_180 0 15 (dk_at dksX25_mirror_0 9 rfl rfl)
theorem dX25_mirror_12 : decode cX25_mirror 12 = .ok (.aload_n 0, 1) := dk_42 (dk_at dksX25_mirror_0 12 rfl rfl)
theorem dX25_mirror_13 : decode cX25_mirror 13 = .ok (.getfield 18, 3) := dk_180 0 18 (dk_at dksX25_mirror_0 13 rfl rfl)
theorem dX25_mirror_16 : decode cX25_mirror 16 = .ok (.ifCond .ne 7, 3) := dk_154 0 7 (dk_at dksX25_mirror_0 16 rfl rfl)
theorem dX25_mirror_19 : decode cX25_mirror 19 = .ok (.iconst 1, 1) := dk_4 (dk_at dksX25_mirror_0 19 rfl rfl)
theorem dX25_mirror_20 : decode cX25_mirror 20 = .ok (.goto 4, 3) := dk_167 0 4 (dk_at dksX25_mirror_0 20 rfl rfl)
theorem dX25_mirror_23 : decode cX25_mirror 23 = .ok (.iconst 0, 1) := dk_3 (dk_at dksX25_mirror_0 23 rfl rfl)
theorem dX25_mirror_24 : decode cX25_mirror 24 = .ok (.invokespecial 59, 3) := dk_183 0 59 (dk_at dksX25_mirror_1 0 rfl rfl)
theorem dX25_mirror_27 : decode cX25_mirror 27 = .ok (.areturn, 1) := dk_176 (dk_at dksX25_mirror_1 3 rfl rfl)
abbrev cX25_doForward : ByteArray := prog_26_method_2_code
def yX25_doForward : MethodName := ⟨RX25, "doForward", "(LThereAndBack;)V"⟩
def dkwX25_doForward_0 : List UInt8 := [42, 43, 42, 180, 0, 18, 182, 0, 22, 177]
abbrev dktX25_doForward_0 : List UInt8 := dkwX25_doForward_0 ++ []
theorem dksX25_doForward_0 : cX25_doForward.data.toList.drop 0 = dktX25_doForward_0 := by decide +kernel
theorem dX25_doForward_0 : decode cX25_doForward 0 = .ok (.aload_n 0, 1) := dk_42 (dk_at dksX25_doForward_0 0 rfl rfl)
theorem dX25_doForward_1 : decode cX25_doForward 1 = .ok (.aload_n 1, 1) := dk_43 (dk_at dksX25_doForward_0 1 rfl rfl)
theorem dX25_doForward_2 : decode cX25_doForward 2 = .ok (.aload_n 0, 1) := dk_42 (dk_at dksX25_doForward_0 2 rfl rfl)
theorem dX25_doForward_3 : decode cX25_doForward 3 = .ok (.getfield 18, 3) := dk_180 0 18 (dk_at dksX25_doForward_0 3 rfl rfl)
theorem dX25_doForward_6 : decode cX25_doForward 6 = .ok (.invokevirtual 22, 3) := dk_182 0 22 (dk_at dksX25_doForward_0 6 rfl rfl)
theorem dX25_doForward_9 : decode cX25_doForward 9 = .ok (.return_, 1) := dk_177 (dk_at dksX25_doForward_0 9 rfl rfl)
abbrev cX25_work : ByteArray := prog_26_method_4_code
def yX25_work : MethodName := ⟨RX25, "work", "(LThereAndBack;Z)V"⟩
def dkwX25_work_6 : List UInt8 := [104, 29, 96, 4, 100, 46, 79, 43, 180, 0, 34, 42, 180, 0, 15, 92, 46, 4, 100, 79, 177]
abbrev dktX25_work_6 : List UInt8 := dkwX25_work_6 ++ []
def dkwX25_work_5 : List UInt8 := [180, 0, 30, 8, 50, 191, 43, 180, 0, 41, 42, 180, 0, 9, 43, 180, 0, 38, 16, 30, 42, 180, 0, 15]
abbrev dktX25_work_5 : List UInt8 := dkwX25_work_5 ++ dktX25_work_6
def dkwX25_work_4 : List UInt8 := [180, 0, 41, 42, 180, 0, 9, 46, 153, 0, 11, 43, 180, 0, 30, 16, 8, 50, 191, 29, 154, 0, 10, 43]
abbrev dktX25_work_4 : List UInt8 := dkwX25_work_4 ++ dktX25_work_5
def dkwX25_work_3 : List UInt8 := [180, 0, 41, 42, 180, 0, 9, 3, 79, 43, 180, 0, 34, 42, 180, 0, 15, 92, 46, 4, 96, 79, 177, 43]
abbrev dktX25_work_3 : List UInt8 := dkwX25_work_3 ++ dktX25_work_4
def dkwX25_work_2 : List UInt8 := [180, 0, 38, 16, 30, 42, 180, 0, 15, 104, 29, 96, 43, 180, 0, 41, 42, 180, 0, 9, 46, 79, 43]
abbrev dktX25_work_2 : List UInt8 := dkwX25_work_2 ++ dktX25_work_3
def dkwX25_work_1 : List UInt8 := [180, 0, 15, 46, 62, 28, 153, 0, 64, 29, 16, 30, 160, 0, 11, 43, 180, 0, 30, 16, 9, 50, 191, 43]
abbrev dktX25_work_1 : List UInt8 := dkwX25_work_1 ++ dktX25_work_2
def dkwX25_work_0 : List UInt8 := [43, 180, 0, 26, 42, 180, 0, 9, 51, 154, 0, 10, 43, 180, 0, 30, 4, 50, 191, 43, 180, 0, 34, 42]
abbrev dktX25_work_0 : List UInt8 := dkwX25_work_0 ++ dktX25_work_1
theorem dksX25_work_0 : cX25_work.data.toList.drop 0 = dktX25_work_0 := by decide +kernel
theorem dksX25_work_1 : cX25_work.data.toList.drop 24 = dktX25_work_1 := dk_seg dksX25_work_0 24 rfl rfl
theorem dksX25_work_2 : cX25_work.data.toList.drop 48 = dktX25_work_2 := dk_seg dksX25_work_1 24 rfl rfl
theorem dksX25_work_3 : cX25_work.data.toList.drop 71 = dktX25_work_3 := dk_seg dksX25_work_2 23 rfl rfl
theorem dksX25_work_4 : cX25_work.data.toList.drop 95 = dktX25_work_4 := dk_seg dksX25_work_3 24 rfl rfl
theorem dksX25_work_5 : cX25_work.data.toList.drop 119 = dktX25_work_5 := dk_seg dksX25_work_4 24 rfl rfl
theorem dksX25_work_6 : cX25_work.data.toList.drop 143 = dktX25_work_6 := dk_seg dksX25_work_5 24 rfl rfl
theorem dX25_work_0 : decode cX25_work 0 = .ok (.aload_n 1, 1) := dk_43 (dk_at dksX25_work_0 0 rfl rfl)
theorem dX25_work_1 : decode cX25_work 1 = .ok (.getfield 26, 3) := dk_180 0 26 (dk_at dksX25_work_0 1 rfl rfl)
theorem dX25_work_4 : decode cX25_work 4 = .ok (.aload_n 0, 1) := dk_42 (dk_at dksX25_work_0 4 rfl rfl)
theorem dX25_work_5 : decode cX25_work 5 = .ok (.getfield 9, 3) := dk_180 0 9 (dk_at dksX25_work_0 5 rfl rfl)
theorem dX25_work_8 : decode cX25_work 8 = .ok (.baload, 1) := dk_51 (dk_at dksX25_work_0 8 rfl rfl)
theorem dX25_work_9 : decode cX25_work 9 = .ok (.ifCond .ne 10, 3) := dk_154 0 10 (dk_at dksX25_work_0 9 rfl rfl)
theorem dX25_work_12 : decode cX25_work 12 = .ok (.aload_n 1, 1) := dk_43 (dk_at dksX25_work_0 12 rfl rfl)
theorem dX25_work_13 : decode cX25_work 13 = .ok (.getfield 30, 3) := dk_180 0 30 (dk_at dksX25_work_0 13 rfl rfl)
theorem dX25_work_16 : decode cX25_work 16 = .ok (.iconst 1, 1) := dk_4 (dk_at dksX25_work_0 16 rfl rfl)
theorem dX25_work_17 : decode cX25_work 17 = .ok (.aaload, 1) := dk_50 (dk_at dksX25_work_0 17 rfl rfl)
theorem dX25_work_18 : decode cX25_work 18 = .ok (.athrow, 1) := dk_191 (dk_at dksX25_work_0 18 rfl rfl)
theorem dX25_work_19 : decode cX25_work 19 = .ok (.aload_n 1, 1) := dk_43 (dk_at dksX25_work_0 19 rfl rfl)
theorem dX25_work_20 : decode cX25_work 20 = .ok (.getfield 34, 3) := dk_180 0 34 (dk_at dksX25_work_0 20 rfl rfl)
theorem dX25_work_23 : decode cX25_work 23 = .ok (.aload_n 0, 1) := dk_42 (dk_at dksX25_work_0 23 rfl rfl)
theorem dX25_work_24 : decode cX25_work 24 = .ok (.getfield 15, 3) := dk_180 0 15 (dk_at dksX25_work_1 0 rfl rfl)
theorem dX25_work_27 : decode cX25_work 27 = .ok (.iaload, 1) := dk_46 (dk_at dksX25_work_1 3 rfl rfl)
theorem dX25_work_28 : decode cX25_work 28 = .ok (.istore_n 3, 1) := dk_62 (dk_at dksX25_work_1 4 rfl rfl)
theorem dX25_work_29 : decode cX25_work 29 = .ok (.iload_n 2, 1) := dk_28 (dk_at dksX25_work_1 5 rfl rfl)
theorem dX25_work_30 : decode cX25_work 30 = .ok (.ifCond .eq 64, 3) := dk_153 0 64 (dk_at dksX25_work_1 6 rfl rfl)
theorem dX25_work_33 : decode cX25_work 33 = .ok (.iload_n 3, 1) := dk_29 (dk_at dksX25_work_1 9 rfl rfl)
theorem dX25_work_34 : decode cX25_work 34 = .ok (.bipush 30, 2) := dk_16 30 (dk_at dksX25_work_1 10 rfl rfl)
theorem dX25_work_36 : decode cX25_work 36 = .ok (.if_icmp .ne 11, 3) := dk_160 0 11 (dk_at dksX25_work_1 12 rfl rfl)
theorem dX25_work_39 : decode cX25_work 39 = .ok (.aload_n 1, 1) := dk_43 (dk_at dksX25_work_1 15 rfl rfl)
theorem dX25_work_40 : decode cX25_work 40 = .ok (.getfield 30, 3) := dk_180 0 30 (dk_at dksX25_work_1 16 rfl rfl)
theorem dX25_work_43 : decode cX25_work 43 = .ok (.bipush 9, 2) := dk_16 9 (dk_at dksX25_work_1 19 rfl rfl)
theorem dX25_work_45 : decode cX25_work 45 = .ok (.aaload, 1) := dk_50 (dk_at dksX25_work_1 21 rfl rfl)
theorem dX25_work_46 : decode cX25_work 46 = .ok (.athrow, 1) := dk_191 (dk_at dksX25_work_1 22 rfl rfl)
theorem dX25_work_47 : decode cX25_work 47 = .ok (.aload_n 1, 1) := dk_43 (dk_at dksX25_work_1 23 rfl rfl)
theorem dX25_work_48 : decode cX25_work 48 = .ok (.getfield 38, 3) := dk_180 0 38 (dk_at dksX25_work_2 0 rfl rfl)
theorem dX25_work_51 : decode cX25_work 51 = .ok (.bipush 30, 2) := dk_16 30 (dk_at dksX25_work_2 3 rfl rfl)
theorem dX25_work_53 : decode cX25_work 53 = .ok (.aload_n 0, 1) := dk_42 (dk_at dksX25_work_2 5 rfl rfl)
theorem dX25_work_54 : decode cX25_work 54 = .ok (.getfield 15, 3) := dk_180 0 15 (dk_at dksX25_work_2 6 rfl rfl)
theorem dX25_work_57 : decode cX25_work 57 = .ok (.imul, 1) := dk_104 (dk_at dksX25_work_2 9 rfl rfl)
theorem dX25_work_58 : decode cX25_work 58 = .ok (.iload_n 3, 1) := dk_29 (dk_at dksX25_work_2 10 rfl rfl)
theorem dX25_work_59 : decode cX25_work 59 = .ok (.iadd, 1) := dk_96 (dk_at dksX25_work_2 11 rfl rfl)
theorem dX25_work_60 : decode cX25_work 60 = .ok (.aload_n 1, 1) := dk_43 (dk_at dksX25_work_2 12 rfl rfl)
theorem dX25_work_61 : decode cX25_work 61 = .ok (.getfield 41, 3) := dk_180 0 41 (dk_at dksX25_work_2 13 rfl rfl)
theorem dX25_work_64 : decode cX25_work 64 = .ok (.aload_n 0, 1) := dk_42 (dk_at dksX25_work_2 16 rfl rfl)
theorem dX25_work_65 : decode cX25_work 65 = .ok (.getfield 9, 3) := dk_180 0 9 (dk_at dksX25_work_2 17 rfl rfl)
theorem dX25_work_68 : decode cX25_work 68 = .ok (.iaload, 1) := dk_46 (dk_at dksX25_work_2 20 rfl rfl)
theorem dX25_work_69 : decode cX25_work 69 = .ok (.iastore, 1) := dk_79 (dk_at dksX25_work_2 21 rfl rfl)
theorem dX25_work_70 : decode cX25_work 70 = .ok (.aload_n 1, 1) := dk_43 (dk_at dksX25_work_2 22 rfl rfl)
theorem dX25_work_71 : decode cX25_work 71 = .ok (.getfield 41, 3) := dk_180 0 41 (dk_at dksX25_work_3 0 rfl rfl)
theorem dX25_work_74 : decode cX25_work 74 = .ok (.aload_n 0, 1) := dk_42 (dk_at dksX25_work_3 3 rfl rfl)
theorem dX25_work_75 : decode cX25_work 75 = .ok (.getfield 9, 3) := dk_180 0 9 (dk_at dksX25_work_3 4 rfl rfl)
theorem dX25_work_78 : decode cX25_work 78 = .ok (.iconst 0, 1) := dk_3 (dk_at dksX25_work_3 7 rfl rfl)
theorem dX25_work_79 : decode cX25_work 79 = .ok (.iastore, 1) := dk_79 (dk_at dksX25_work_3 8 rfl rfl)
theorem dX25_work_80 : decode cX25_work 80 = .ok (.aload_n 1, 1) := dk_43 (dk_at dksX25_work_3 9 rfl rfl)
theorem dX25_work_81 : decode cX25_work 81 = .ok (.getfield 34, 3) := dk_180 0 34 (dk_at dksX25_work_3 10 rfl rfl)
theorem dX25_work_84 : decode cX25_work 84 = .ok (.aload_n 0, 1) := dk_42 (dk_at dksX25_work_3 13 rfl rfl)
theorem dX25_work_85 : decode cX25_work 85 = .ok (.getfield 15, 3) := dk_180 0 15 (dk_at dksX25_work_3 14 rfl rfl)
theorem dX25_work_88 : decode cX25_work 88 = .ok (.dup2, 1) := dk_92 (dk_at dksX25_work_3 17 rfl rfl)
theorem dX25_work_89 : decode cX25_work 89 = .ok (.iaload, 1) := dk_46 (dk_at dksX25_work_3 18 rfl rfl)
theorem dX25_work_90 : decode cX25_work 90 = .ok (.iconst 1, 1) := dk_4 (dk_at dksX25_work_3 19 rfl rfl)
theorem dX25_work_91 : decode cX25_work 91 = .ok (.iadd, 1) := dk_96 (dk_at dksX25_work_3 20 rfl rfl)
theorem dX25_work_92 : decode cX25_work 92 = .ok (.iastore, 1) := dk_79 (dk_at dksX25_work_3 21 rfl rfl)
theorem dX25_work_93 : decode cX25_work 93 = .ok (.return_, 1) := dk_177 (dk_at dksX25_work_3 22 rfl rfl)
theorem dX25_work_94 : decode cX25_work 94 = .ok (.aload_n 1, 1) := dk_43 (dk_at dksX25_work_3 23 rfl rfl)
theorem dX25_work_95 : decode cX25_work 95 = .ok (.getfield 41, 3) := dk_180 0 41 (dk_at dksX25_work_4 0 rfl rfl)
theorem dX25_work_98 : decode cX25_work 98 = .ok (.aload_n 0, 1) := dk_42 (dk_at dksX25_work_4 3 rfl rfl)
theorem dX25_work_99 : decode cX25_work 99 = .ok (.getfield 9, 3) := dk_180 0 9 (dk_at dksX25_work_4 4 rfl rfl)
theorem dX25_work_102 : decode cX25_work 102 = .ok (.iaload, 1) := dk_46 (dk_at dksX25_work_4 7 rfl rfl)
theorem dX25_work_103 : decode cX25_work 103 = .ok (.ifCond .eq 11, 3) := dk_153 0 11 (dk_at dksX25_work_4 8 rfl rfl)
theorem dX25_work_106 : decode cX25_work 106 = .ok (.aload_n 1, 1) := dk_43 (dk_at dksX25_work_4 11 rfl rfl)
theorem dX25_work_107 : decode cX25_work 107 = .ok (.getfield 30, 3) := dk_180 0 30 (dk_at dksX25_work_4 12 rfl rfl)
theorem dX25_work_110 : decode cX25_work 110 = .ok (.bipush 8, 2) := dk_16 8 (dk_at dksX25_work_4 15 rfl rfl)
theorem dX25_work_112 : decode cX25_work 112 = .ok (.aaload, 1) := dk_50 (dk_at dksX25_work_4 17 rfl rfl)
theorem dX25_work_113 : decode cX25_work 113 = .ok (.athrow, 1) := dk_191 (dk_at dksX25_work_4 18 rfl rfl)
theorem dX25_work_114 : decode cX25_work 114 = .ok (.iload_n 3, 1) := dk_29 (dk_at dksX25_work_4 19 rfl rfl)
theorem dX25_work_115 : decode cX25_work 115 = .ok (.ifCond .ne 10, 3) := dk_154 0 10 (dk_at dksX25_work_4 20 rfl rfl)
theorem dX25_work_118 : decode cX25_work 118 = .ok (.aload_n 1, 1) := dk_43 (dk_at dksX25_work_4 23 rfl rfl)
theorem dX25_work_119 : decode cX25_work 119 = .ok (.getfield 30, 3) := dk_180 0 30 (dk_at dksX25_work_5 0 rfl rfl)
theorem dX25_work_122 : decode cX25_work 122 = .ok (.iconst 5, 1) := dk_8 (dk_at dksX25_work_5 3 rfl rfl)
theorem dX25_work_123 : decode cX25_work 123 = .ok (.aaload, 1) := dk_50 (dk_at dksX25_work_5 4 rfl rfl)
theorem dX25_work_124 : decode cX25_work 124 = .ok (.athrow, 1) := dk_191 (dk_at dksX25_work_5 5 rfl rfl)
theorem dX25_work_125 : decode cX25_work 125 = .ok (.aload_n 1, 1) := dk_43 (dk_at dksX25_work_5 6 rfl rfl)
theorem dX25_work_126 : decode cX25_work 126 = .ok (.getfield 41, 3) := dk_180 0 41 (dk_at dksX25_work_5 7 rfl rfl)
theorem dX25_work_129 : decode cX25_work 129 = .ok (.aload_n 0, 1) := dk_42 (dk_at dksX25_work_5 10 rfl rfl)
theorem dX25_work_130 : decode cX25_work 130 = .ok (.getfield 9, 3) := dk_180 0 9 (dk_at dksX25_work_5 11 rfl rfl)
theorem dX25_work_133 : decode cX25_work 133 = .ok (.aload_n 1, 1) := dk_43 (dk_at dksX25_work_5 14 rfl rfl)
theorem dX25_work_134 : decode cX25_work 134 = .ok (.getfield 38, 3) := dk_180 0 38 (dk_at dksX25_work_5 15 rfl rfl)
theorem dX25_work_137 : decode cX25_work 137 = .ok (.bipush 30, 2) := dk_16 30 (dk_at dksX25_work_5 18 rfl rfl)
theorem dX25_work_139 : decode cX25_work 139 = .ok (.aload_n 0, 1) := dk_42 (dk_at dksX25_work_5 20 rfl rfl)
theorem dX25_work_140 : decode cX25_work 140 = .ok (.getfield 15, 3) := dk_180 0 15 (dk_at dksX25_work_5 21 rfl rfl)
theorem dX25_work_143 : decode cX25_work 143 = .ok (.imul, 1) := dk_104 (dk_at dksX25_work_6 0 rfl rfl)
theorem dX25_work_144 : decode cX25_work 144 = .ok (.iload_n 3, 1) := dk_29 (dk_at dksX25_work_6 1 rfl rfl)
theorem dX25_work_145 : decode cX25_work 145 = .ok (.iadd, 1) := dk_96 (dk_at dksX25_work_6 2 rfl rfl)
theorem dX25_work_146 : decode cX25_work 146 = .ok (.iconst 1, 1) := dk_4 (dk_at dksX25_work_6 3 rfl rfl)
theorem dX25_work_147 : decode cX25_work 147 = .ok (.isub, 1) := dk_100 (dk_at dksX25_work_6 4 rfl rfl)
theorem dX25_work_148 : decode cX25_work 148 = .ok (.iaload, 1) := dk_46 (dk_at dksX25_work_6 5 rfl rfl)
theorem dX25_work_149 : decode cX25_work 149 = .ok (.iastore, 1) := dk_79 (dk_at dksX25_work_6 6 rfl rfl)
theorem dX25_work_150 : decode cX25_work 150 = .ok (.aload_n 1, 1) := dk_43 (dk_at dksX25_work_6 7 rfl rfl)
theorem dX25_work_151 : decode cX25_work 151 = .ok (.getfield 34, 3) := dk_180 0 34 (dk_at dksX25_work_6 8 rfl rfl)
theorem dX25_work_154 : decode cX25_work 154 = .ok (.aload_n 0, 1) := dk_42 (dk_at dksX25_work_6 11 rfl rfl)
theorem dX25_work_155 : decode cX25_work 155 = .ok (.getfield 15, 3) := dk_180 0 15 (dk_at dksX25_work_6 12 rfl rfl)
theorem dX25_work_158 : decode cX25_work 158 = .ok (.dup2, 1) := dk_92 (dk_at dksX25_work_6 15 rfl rfl)
theorem dX25_work_159 : decode cX25_work 159 = .ok (.iaload, 1) := dk_46 (dk_at dksX25_work_6 16 rfl rfl)
theorem dX25_work_160 : decode cX25_work 160 = .ok (.iconst 1, 1) := dk_4 (dk_at dksX25_work_6 17 rfl rfl)
theorem dX25_work_161 : decode cX25_work 161 = .ok (.isub, 1) := dk_100 (dk_at dksX25_work_6 18 rfl rfl)
theorem dX25_work_162 : decode cX25_work 162 = .ok (.iastore, 1) := dk_79 (dk_at dksX25_work_6 19 rfl rfl)
theorem dX25_work_163 : decode cX25_work 163 = .ok (.return_, 1) := dk_177 (dk_at dksX25_work_6 20 rfl rfl)
abbrev cX25_doBack : ByteArray := prog_26_method_3_code
def yX25_doBack : MethodName := ⟨RX25, "doBack", "(LThereAndBack;)V"⟩
def dkwX25_doBack_0 : List UInt8 := [42, 43, 42, 180, 0, 18, 154, 0, 7, 4, 167, 0, 4, 3, 182, 0, 22, 177]
abbrev dktX25_doBack_0 : List UInt8 := dkwX25_doBack_0 ++ []
theorem dksX25_doBack_0 : cX25_doBack.data.toList.drop 0 = dktX25_doBack_0 := by decide +kernel
theorem dX25_doBack_0 : decode cX25_doBack 0 = .ok (.aload_n 0, 1) := dk_42 (dk_at dksX25_doBack_0 0 rfl rfl)
theorem dX25_doBack_1 : decode cX25_doBack 1 = .ok (.aload_n 1, 1) := dk_43 (dk_at dksX25_doBack_0 1 rfl rfl)
theorem dX25_doBack_2 : decode cX25_doBack 2 = .ok (.aload_n 0, 1) := dk_42 (dk_at dksX25_doBack_0 2 rfl rfl)
theorem dX25_doBack_3 : decode cX25_doBack 3 = .ok (.getfield 18, 3) := dk_180 0 18 (dk_at dksX25_doBack_0 3 rfl rfl)
theorem dX25_doBack_6 : decode cX25_doBack 6 = .ok (.ifCond .ne 7, 3) := dk_154 0 7 (dk_at dksX25_doBack_0 6 rfl rfl)
theorem dX25_doBack_9 : decode cX25_doBack 9 = .ok (.iconst 1, 1) := dk_4 (dk_at dksX25_doBack_0 9 rfl rfl)
theorem dX25_doBack_10 : decode cX25_doBack 10 = .ok (.goto 4, 3) := dk_167 0 4 (dk_at dksX25_doBack_0 10 rfl rfl)
theorem dX25_doBack_13 : decode cX25_doBack 13 = .ok (.iconst 0, 1) := dk_3 (dk_at dksX25_doBack_0 13 rfl rfl)
theorem dX25_doBack_14 : decode cX25_doBack 14 = .ok (.invokevirtual 22, 3) := dk_182 0 22 (dk_at dksX25_doBack_0 14 rfl rfl)
theorem dX25_doBack_17 : decode cX25_doBack 17 = .ok (.return_, 1) := dk_177 (dk_at dksX25_doBack_0 17 rfl rfl)
theorem q179 : (Jvm.Cond.initialized "ThereAndBack$Push") ∈ lw_all := lw_g (lw_at lw_m1 35 rfl) rfl
theorem q343 : (Jvm.Cond.fieldLinkNest "ThereAndBack$Push" (30 : Nat) "ThereAndBack" "refusals" "[LThereAndBack$Refused;" "ThereAndBack") ∈ lw_tbl := lw_at lw_m1 199 rfl
theorem q351 : (Jvm.Cond.fieldLinkNest "ThereAndBack$Push" (26 : Nat) "ThereAndBack" "isThere" "[Z" "ThereAndBack") ∈ lw_tbl := lw_at lw_m1 207 rfl
theorem q355 : (Jvm.Cond.fieldLinkNest "ThereAndBack$Push" (41 : Nat) "ThereAndBack" "values" "[I" "ThereAndBack") ∈ lw_tbl := lw_at lw_m1 211 rfl
theorem q363 : (Jvm.Cond.fieldLinkNest "ThereAndBack$Push" (38 : Nat) "ThereAndBack" "piles" "[I" "ThereAndBack") ∈ lw_tbl := lw_at lw_m1 219 rfl
theorem q365 : (Jvm.Cond.fieldLinkNest "ThereAndBack$Push" (34 : Nat) "ThereAndBack" "heights" "[I" "ThereAndBack") ∈ lw_tbl := lw_at lw_m1 221 rfl
theorem q953 : (Jvm.Cond.instantiable "ThereAndBack$Push" (3 : Nat)) ∈ lw_all := lw_g (lw_at lw_m4 89 rfl) rfl
theorem q955 : (Jvm.Cond.instanceMethod ({ cls := "ThereAndBack$Push", name := "<init>", desc := "(IIZ)V" } : Jvm.MethodName)) ∈ lw_all := lw_g (lw_at lw_m4 91 rfl) rfl
theorem q956 : (Jvm.Cond.code ({ cls := "ThereAndBack$Push", name := "<init>", desc := "(IIZ)V" } : Jvm.MethodName) prog_26_method_1_code (4 : Nat) (Option.none : Option Jvm.ClassFile.FieldType)) ∈ lw_all := lw_g (lw_at lw_m4 92 rfl) rfl
theorem q957 : (Jvm.Cond.methodLinkNest "ThereAndBack$Push" (3 : Nat) ({ cls := "ThereAndBack$Single", name := "<init>", desc := "()V" } : Jvm.MethodName) "ThereAndBack") ∈ lw_tbl := lw_at lw_m4 93 rfl
theorem q958 : (Jvm.Cond.fieldLink "ThereAndBack$Push" (9 : Nat) "ThereAndBack$Push" "name" "I") ∈ lw_all := lw_g (lw_at lw_m4 94 rfl) rfl
theorem q959 : (Jvm.Cond.fieldLink "ThereAndBack$Push" (15 : Nat) "ThereAndBack$Push" "stack" "I") ∈ lw_all := lw_g (lw_at lw_m4 95 rfl) rfl
theorem q960 : (Jvm.Cond.fieldLink "ThereAndBack$Push" (18 : Nat) "ThereAndBack$Push" "pushes" "Z") ∈ lw_all := lw_g (lw_at lw_m4 96 rfl) rfl
theorem q961 : (Jvm.Cond.laysFinal "ThereAndBack$Push" "ThereAndBack$Push" "name" "I") ∈ lw_all := lw_g (lw_at lw_m4 97 rfl) rfl
theorem q962 : (Jvm.Cond.soleField "ThereAndBack$Push" "name") ∈ lw_all := lw_g (lw_at lw_m4 98 rfl) rfl
theorem q963 : (Jvm.Cond.laysFinal "ThereAndBack$Push" "ThereAndBack$Push" "stack" "I") ∈ lw_all := lw_g (lw_at lw_m4 99 rfl) rfl
theorem q964 : (Jvm.Cond.soleField "ThereAndBack$Push" "stack") ∈ lw_all := lw_g (lw_at lw_m4 100 rfl) rfl
theorem q965 : (Jvm.Cond.laysFinal "ThereAndBack$Push" "ThereAndBack$Push" "pushes" "Z") ∈ lw_all := lw_g (lw_at lw_m4 101 rfl) rfl
theorem q966 : (Jvm.Cond.soleField "ThereAndBack$Push" "pushes") ∈ lw_all := lw_g (lw_at lw_m4 102 rfl) rfl
theorem q967 : (Jvm.Cond.superclass "ThereAndBack$Push" "ThereAndBack$Single") ∈ lw_all := lw_g (lw_at lw_m4 103 rfl) rfl
theorem q1173 : (Jvm.Cond.selects "ThereAndBack$Push" ({ cls := "java/lang/Object", name := "getClass", desc := "()Ljava/lang/Class;" } : Jvm.MethodName) ({ cls := "java/lang/Object", name := "getClass", desc := "()Ljava/lang/Class;" } : Jvm.MethodName)) ∈ lw_all := lw_g (lw_at lw_m5 69 rfl) rfl
theorem q1330 : (Jvm.Cond.selects "ThereAndBack$Push" ({ cls := "ThereAndBack$Step", name := "lay", desc := "(Ljava/util/List;)V" } : Jvm.MethodName) ({ cls := "ThereAndBack$Single", name := "lay", desc := "(Ljava/util/List;)V" } : Jvm.MethodName)) ∈ lw_all := lw_g (lw_at lw_m5 226 rfl) rfl
theorem q1361 : (Jvm.Cond.selects "ThereAndBack$Push" ({ cls := "ThereAndBack$Step", name := "code", desc := "()I" } : Jvm.MethodName) ({ cls := "ThereAndBack$Step", name := "code", desc := "()I" } : Jvm.MethodName)) ∈ lw_all := lw_g (lw_at lw_m6 17 rfl) rfl
theorem q1419 : (Jvm.Cond.selects "ThereAndBack$Push" ({ cls := "ThereAndBack$Step", name := "isOrdinary", desc := "()Z" } : Jvm.MethodName) ({ cls := "ThereAndBack$Step", name := "isOrdinary", desc := "()Z" } : Jvm.MethodName)) ∈ lw_all := lw_g (lw_at lw_m6 75 rfl) rfl
theorem q1442 : (Jvm.Cond.selects "ThereAndBack$Push" ({ cls := "ThereAndBack$Step", name := "braces", desc := "()I" } : Jvm.MethodName) ({ cls := "ThereAndBack$Step", name := "braces", desc := "()I" } : Jvm.MethodName)) ∈ lw_all := lw_g (lw_at lw_m6 98 rfl) rfl
theorem q1506 : (Jvm.Cond.selects "ThereAndBack$Push" ({ cls := "ThereAndBack$Step", name := "names", desc := "()I" } : Jvm.MethodName) ({ cls := "ThereAndBack$Push", name := "names", desc := "()I" } : Jvm.MethodName)) ∈ lw_all := lw_g (lw_at lw_m6 162 rfl) rfl
theorem q1507 : (Jvm.Cond.instanceMethod ({ cls := "ThereAndBack$Push", name := "names", desc := "()I" } : Jvm.MethodName)) ∈ lw_all := lw_g (lw_at lw_m6 163 rfl) rfl
theorem q1508 : (Jvm.Cond.code ({ cls := "ThereAndBack$Push", name := "names", desc := "()I" } : Jvm.MethodName) prog_26_method_6_code (1 : Nat) (Option.some Jvm.ClassFile.FieldType.int)) ∈ lw_all := lw_g (lw_at lw_m6 164 rfl) rfl
theorem q1698 : (Jvm.Cond.selects "ThereAndBack$Push" ({ cls := "ThereAndBack$Step", name := "print", desc := "(LThereAndBack;)V" } : Jvm.MethodName) ({ cls := "ThereAndBack$Push", name := "print", desc := "(LThereAndBack;)V" } : Jvm.MethodName)) ∈ lw_all := lw_g (lw_at lw_m7 114 rfl) rfl
theorem q1699 : (Jvm.Cond.instanceMethod ({ cls := "ThereAndBack$Push", name := "print", desc := "(LThereAndBack;)V" } : Jvm.MethodName)) ∈ lw_all := lw_g (lw_at lw_m7 115 rfl) rfl
theorem q1700 : (Jvm.Cond.code ({ cls := "ThereAndBack$Push", name := "print", desc := "(LThereAndBack;)V" } : Jvm.MethodName) prog_26_method_5_code (2 : Nat) (Option.none : Option Jvm.ClassFile.FieldType)) ∈ lw_all := lw_g (lw_at lw_m7 116 rfl) rfl
theorem q1701 : (Jvm.Cond.stringRef "ThereAndBack$Push" (44 : Nat) "push") ∈ lw_tbl := lw_at lw_m7 117 rfl
theorem q1702 : (Jvm.Cond.stringRef "ThereAndBack$Push" (46 : Nat) "pop") ∈ lw_tbl := lw_at lw_m7 118 rfl
theorem q1703 : (Jvm.Cond.methodLinkNest "ThereAndBack$Push" (48 : Nat) ({ cls := "ThereAndBack", name := "printWord", desc := "(Ljava/lang/String;)V" } : Jvm.MethodName) "ThereAndBack") ∈ lw_tbl := lw_at lw_m7 119 rfl
theorem q1704 : (Jvm.Cond.methodLinkNest "ThereAndBack$Push" (52 : Nat) ({ cls := "ThereAndBack", name := "printSign", desc := "(I)V" } : Jvm.MethodName) "ThereAndBack") ∈ lw_tbl := lw_at lw_m7 120 rfl
theorem q1705 : (Jvm.Cond.methodLinkNest "ThereAndBack$Push" (56 : Nat) ({ cls := "ThereAndBack", name := "printBehind", desc := "(I)V" } : Jvm.MethodName) "ThereAndBack") ∈ lw_tbl := lw_at lw_m7 121 rfl
theorem q1794 : (Jvm.Cond.selects "ThereAndBack$Push" ({ cls := "ThereAndBack$Step", name := "mirror", desc := "()LThereAndBack$Step;" } : Jvm.MethodName) ({ cls := "ThereAndBack$Push", name := "mirror", desc := "()LThereAndBack$Step;" } : Jvm.MethodName)) ∈ lw_all := lw_g (lw_at lw_m7 210 rfl) rfl
theorem q1795 : (Jvm.Cond.instanceMethod ({ cls := "ThereAndBack$Push", name := "mirror", desc := "()LThereAndBack$Step;" } : Jvm.MethodName)) ∈ lw_all := lw_g (lw_at lw_m7 211 rfl) rfl
theorem q1796 : (Jvm.Cond.code ({ cls := "ThereAndBack$Push", name := "mirror", desc := "()LThereAndBack$Step;" } : Jvm.MethodName) prog_26_method_7_code (1 : Nat) (Option.some (Jvm.ClassFile.FieldType.object "ThereAndBack$Step"))) ∈ lw_all := lw_g (lw_at lw_m7 212 rfl) rfl
theorem q1797 : (Jvm.Cond.classLink "ThereAndBack$Push" (10 : Nat) "ThereAndBack$Push") ∈ lw_all := lw_g (lw_at lw_m7 213 rfl) rfl
theorem q1798 : (Jvm.Cond.methodLink "ThereAndBack$Push" (59 : Nat) ({ cls := "ThereAndBack$Push", name := "<init>", desc := "(IIZ)V" } : Jvm.MethodName)) ∈ lw_all := lw_g (lw_at lw_m7 214 rfl) rfl
theorem q1853 : (Jvm.Cond.selects "ThereAndBack$Push" ({ cls := "ThereAndBack$Step", name := "turn", desc := "(Ljava/util/List;I)V" } : Jvm.MethodName) ({ cls := "ThereAndBack$Step", name := "turn", desc := "(Ljava/util/List;I)V" } : Jvm.MethodName)) ∈ lw_all := lw_g (lw_at lw_m8 29 rfl) rfl
theorem q2006 : (Jvm.Cond.selects "ThereAndBack$Push" ({ cls := "ThereAndBack$Step", name := "walk", desc := "(LThereAndBack;)V" } : Jvm.MethodName) ({ cls := "ThereAndBack$Step", name := "walk", desc := "(LThereAndBack;)V" } : Jvm.MethodName)) ∈ lw_all := lw_g (lw_at lw_m8 182 rfl) rfl
theorem q2201 : (Jvm.Cond.selects "ThereAndBack$Push" ({ cls := "ThereAndBack$Single", name := "doForward", desc := "(LThereAndBack;)V" } : Jvm.MethodName) ({ cls := "ThereAndBack$Push", name := "doForward", desc := "(LThereAndBack;)V" } : Jvm.MethodName)) ∈ lw_all := lw_g (lw_at lw_m9 137 rfl) rfl
theorem q2202 : (Jvm.Cond.instanceMethod ({ cls := "ThereAndBack$Push", name := "doForward", desc := "(LThereAndBack;)V" } : Jvm.MethodName)) ∈ lw_all := lw_g (lw_at lw_m9 138 rfl) rfl
theorem q2203 : (Jvm.Cond.code ({ cls := "ThereAndBack$Push", name := "doForward", desc := "(LThereAndBack;)V" } : Jvm.MethodName) prog_26_method_2_code (2 : Nat) (Option.none : Option Jvm.ClassFile.FieldType)) ∈ lw_all := lw_g (lw_at lw_m9 139 rfl) rfl
theorem q2204 : (Jvm.Cond.methodLink "ThereAndBack$Push" (22 : Nat) ({ cls := "ThereAndBack$Push", name := "work", desc := "(LThereAndBack;Z)V" } : Jvm.MethodName)) ∈ lw_all := lw_g (lw_at lw_m9 140 rfl) rfl
theorem q2205 : (Jvm.Cond.privateMethod ({ cls := "ThereAndBack$Push", name := "work", desc := "(LThereAndBack;Z)V" } : Jvm.MethodName)) ∈ lw_tbl := lw_at lw_m9 141 rfl
theorem q2206 : (Jvm.Cond.instanceMethod ({ cls := "ThereAndBack$Push", name := "work", desc := "(LThereAndBack;Z)V" } : Jvm.MethodName)) ∈ lw_all := lw_g (lw_at lw_m9 142 rfl) rfl
theorem q2207 : (Jvm.Cond.code ({ cls := "ThereAndBack$Push", name := "work", desc := "(LThereAndBack;Z)V" } : Jvm.MethodName) prog_26_method_4_code (4 : Nat) (Option.none : Option Jvm.ClassFile.FieldType)) ∈ lw_all := lw_g (lw_at lw_m9 143 rfl) rfl
theorem q2235 : (Jvm.Cond.selects "ThereAndBack$Push" ({ cls := "ThereAndBack$Single", name := "doBack", desc := "(LThereAndBack;)V" } : Jvm.MethodName) ({ cls := "ThereAndBack$Push", name := "doBack", desc := "(LThereAndBack;)V" } : Jvm.MethodName)) ∈ lw_all := lw_g (lw_at lw_m9 171 rfl) rfl
theorem q2236 : (Jvm.Cond.instanceMethod ({ cls := "ThereAndBack$Push", name := "doBack", desc := "(LThereAndBack;)V" } : Jvm.MethodName)) ∈ lw_all := lw_g (lw_at lw_m9 172 rfl) rfl
theorem q2237 : (Jvm.Cond.code ({ cls := "ThereAndBack$Push", name := "doBack", desc := "(LThereAndBack;)V" } : Jvm.MethodName) prog_26_method_3_code (2 : Nat) (Option.none : Option Jvm.ClassFile.FieldType)) ∈ lw_all := lw_g (lw_at lw_m9 173 rfl) rfl
theorem q3121 : (Jvm.Cond.castable "ThereAndBack$Push" "ThereAndBack$Step") ∈ lw_tbl := lw_at lw_m13 97 rfl
theorem q3150 : (Jvm.Cond.castable "ThereAndBack$Push" "java/lang/Object") ∈ lw_tbl := lw_at lw_m13 126 rfl
theorem in_X25 : ∀ w ∈ wsX250, w ∈ lw_all := lw_in wsX250 [961, 963, 965] (by decide +kernel) (by decide +kernel)
/-! ThereAndBack$New -/
set_option maxRecDepth 100000
def RX26 : String := "ThereAndBack$New"
def TX26 : u_T := fun k => match k with
  | 0 => ("ThereAndBack$New", "row", "I", true)
  | 1 => ("ThereAndBack$New", "kind", "I", true)
  | 2 => ("ThereAndBack$New", "size", "LThereAndBack$Expr;", true)
  | _ => ("ThereAndBack$New", "comes", "Z", true)
def tyX26 : Nat → FieldType := fun k => match k with
  | 0 => .int
  | 1 => .int
  | 2 => .object "ThereAndBack$Expr"
  | _ => .boolean
abbrev wsX260 : List Cond := u_ws RX26 TX26 4
theorem nmX26 : ∀ a, a < 4 → ∀ b, b < 4 → a ≠ b → (TX26 a).2.1 ≠ (TX26 b).2.1 := by decide +kernel
theorem tyX26_ok : ∀ k, k < 4 → parseFieldDescriptor (TX26 k).2.2.1 = some (tyX26 k) := by decide +kernel
abbrev cX26_init : ByteArray := prog_18_method_1_code
def yX26_init : MethodName := ⟨RX26, "<init>", "(IILThereAndBack$Expr;Z)V"⟩
def dkwX26_init_1 : List UInt8 := [181, 0, 22, 177]
abbrev dktX26_init_1 : List UInt8 := dkwX26_init_1 ++ []
def dkwX26_init_0 : List UInt8 := [42, 183, 0, 3, 42, 27, 181, 0, 9, 42, 28, 181, 0, 15, 42, 45, 181, 0, 18, 42, 21, 4]
abbrev dktX26_init_0 : List UInt8 := dkwX26_init_0 ++ dktX26_init_1
theorem dksX26_init_0 : cX26_init.data.toList.drop 0 = dktX26_init_0 := by decide +kernel
theorem dksX26_init_1 : cX26_init.data.toList.drop 22 = dktX26_init_1 := dk_seg dksX26_init_0 22 rfl rfl
theorem dX26_init_0 : decode cX26_init 0 = .ok (.aload_n 0, 1) := dk_42 (dk_at dksX26_init_0 0 rfl rfl)
theorem dX26_init_1 : decode cX26_init 1 = .ok (.invokespecial 3, 3) := dk_183 0 3 (dk_at dksX26_init_0 1 rfl rfl)
theorem dX26_init_4 : decode cX26_init 4 = .ok (.aload_n 0, 1) := dk_42 (dk_at dksX26_init_0 4 rfl rfl)
theorem dX26_init_5 : decode cX26_init 5 = .ok (.iload_n 1, 1) := dk_27 (dk_at dksX26_init_0 5 rfl rfl)
theorem dX26_init_6 : decode cX26_init 6 = .ok (.putfield 9, 3) := dk_181 0 9 (dk_at dksX26_init_0 6 rfl rfl)
theorem dX26_init_9 : decode cX26_init 9 = .ok (.aload_n 0, 1) := dk_42 (dk_at dksX26_init_0 9 rfl rfl)
theorem dX26_init_10 : decode cX26_init 10 = .ok (.iload_n 2, 1) := dk_28 (dk_at dksX26_init_0 10 rfl rfl)
theorem dX26_init_11 : decode cX26_init 11 = .ok (.putfield 15, 3) := dk_181 0 15 (dk_at dksX26_init_0 11 rfl rfl)
theorem dX26_init_14 : decode cX26_init 14 = .ok (.aload_n 0, 1) := dk_42 (dk_at dksX26_init_0 14 rfl rfl)
theorem dX26_init_15 : decode cX26_init 15 = .ok (.aload_n 3, 1) := dk_45 (dk_at dksX26_init_0 15 rfl rfl)
theorem dX26_init_16 : decode cX26_init 16 = .ok (.putfield 18, 3) := dk_181 0 18 (dk_at dksX26_init_0 16 rfl rfl)
theorem dX26_init_19 : decode cX26_init 19 = .ok (.aload_n 0, 1) := dk_42 (dk_at dksX26_init_0 19 rfl rfl)
theorem dX26_init_20 : decode cX26_init 20 = .ok (.iload 4, 2) := dk_21 4 (dk_at dksX26_init_0 20 rfl rfl)
theorem dX26_init_22 : decode cX26_init 22 = .ok (.putfield 22, 3) := dk_181 0 22 (dk_at dksX26_init_1 0 rfl rfl)
theorem dX26_init_25 : decode cX26_init 25 = .ok (.return_, 1) := dk_177 (dk_at dksX26_init_1 3 rfl rfl)
abbrev cX26_names : ByteArray := prog_18_method_7_code
def yX26_names : MethodName := ⟨RX26, "names", "()I"⟩
def dkwX26_names_0 : List UInt8 := [42, 180, 0, 18, 182, 0, 102, 172]
abbrev dktX26_names_0 : List UInt8 := dkwX26_names_0 ++ []
theorem dksX26_names_0 : cX26_names.data.toList.drop 0 = dktX26_names_0 := by decide +kernel
theorem dX26_names_0 : decode cX26_names 0 = .ok (.aload_n 0, 1) := dk_42 (dk_at dksX26_names_0 0 rfl rfl)
theorem dX26_names_1 : decode cX26_names 1 = .ok (.getfield 18, 3) := dk_180 0 18 (dk_at dksX26_names_0 1 rfl rfl)
theorem dX26_names_4 : decode cX26_names 4 = .ok (.invokevirtual 102, 3) := dk_182 0 102 (dk_at dksX26_names_0 4 rfl rfl)
theorem dX26_names_7 : decode cX26_names 7 = .ok (.ireturn, 1) := dk_172 (dk_at dksX26_names_0 7 rfl rfl)
abbrev cX26_print : ByteArray := prog_18_method_6_code
def yX26_print : MethodName := ⟨RX26, "print", "(LThereAndBack;)V"⟩
def dkwX26_print_4 : List UInt8 := [182, 0, 96, 43, 16, 59, 182, 0, 99, 177]
abbrev dktX26_print_4 : List UInt8 := dkwX26_print_4 ++ []
def dkwX26_print_3 : List UInt8 := [180, 0, 15, 6, 160, 0, 8, 18, 92, 167, 0, 5, 18, 94, 182, 0, 78, 42, 180, 0, 18, 43]
abbrev dktX26_print_3 : List UInt8 := dkwX26_print_3 ++ dktX26_print_4
def dkwX26_print_2 : List UInt8 := [4, 160, 0, 8, 18, 88, 167, 0, 31, 42, 180, 0, 15, 5, 160, 0, 8, 18, 90, 167, 0, 18, 42]
abbrev dktX26_print_2 : List UInt8 := dkwX26_print_2 ++ dktX26_print_3
def dkwX26_print_1 : List UInt8 := [180, 0, 9, 96, 182, 0, 82, 43, 42, 180, 0, 15, 154, 0, 8, 18, 86, 167, 0, 44, 42, 180, 0, 15]
abbrev dktX26_print_1 : List UInt8 := dkwX26_print_1 ++ dktX26_print_2
def dkwX26_print_0 : List UInt8 := [43, 42, 180, 0, 22, 153, 0, 8, 18, 75, 167, 0, 5, 18, 77, 182, 0, 78, 43, 16, 65, 42]
abbrev dktX26_print_0 : List UInt8 := dkwX26_print_0 ++ dktX26_print_1
theorem dksX26_print_0 : cX26_print.data.toList.drop 0 = dktX26_print_0 := by decide +kernel
theorem dksX26_print_1 : cX26_print.data.toList.drop 22 = dktX26_print_1 := dk_seg dksX26_print_0 22 rfl rfl
theorem dksX26_print_2 : cX26_print.data.toList.drop 46 = dktX26_print_2 := dk_seg dksX26_print_1 24 rfl rfl
theorem dksX26_print_3 : cX26_print.data.toList.drop 69 = dktX26_print_3 := dk_seg dksX26_print_2 23 rfl rfl
theorem dksX26_print_4 : cX26_print.data.toList.drop 91 = dktX26_print_4 := dk_seg dksX26_print_3 22 rfl rfl
theorem dX26_print_0 : decode cX26_print 0 = .ok (.aload_n 1, 1) := dk_43 (dk_at dksX26_print_0 0 rfl rfl)
theorem dX26_print_1 : decode cX26_print 1 = .ok (.aload_n 0, 1) := dk_42 (dk_at dksX26_print_0 1 rfl rfl)
theorem dX26_print_2 : decode cX26_print 2 = .ok (.getfield 22, 3) := dk_180 0 22 (dk_at dksX26_print_0 2 rfl rfl)
theorem dX26_print_5 : decode cX26_print 5 = .ok (.ifCond .eq 8, 3) := dk_153 0 8 (dk_at dksX26_print_0 5 rfl rfl)
theorem dX26_print_8 : decode cX26_print 8 = .ok (.ldc 75, 2) := dk_18 75 (dk_at dksX26_print_0 8 rfl rfl)
theorem dX26_print_10 : decode cX26_print 10 = .ok (.goto 5, 3) := dk_167 0 5 (dk_at dksX26_print_0 10 rfl rfl)
theorem dX26_print_13 : decode cX26_print 13 = .ok (.ldc 77, 2) := dk_18 77 (dk_at dksX26_print_0 13 rfl rfl)
theorem dX26_print_15 : decode cX26_print 15 = .ok (.invokevirtual 78, 3) := dk_182 0 78 (dk_at dksX26_print_0 15 rfl rfl)
theorem dX26_print_18 : decode cX26_print 18 = .ok (.aload_n 1, 1) := dk_43 (dk_at dksX26_print_0 18 rfl rfl)
theorem dX26_print_19 : decode cX26_print 19 = .ok (.bipush 65, 2) := dk_16 65 (dk_at dksX26_print_0 19 rfl rfl)
theorem dX26_print_21 : decode cX26_print 21 = .ok (.aload_n 0, 1) := dk_42 (dk_at dksX26_print_0 21 rfl rfl)
theorem dX26_print_22 : decode cX26_print 22 = .ok (.getfield 9, 3) := dk_180 0 9 (dk_at dksX26_print_1 0 rfl rfl)
theorem dX26_print_25 : decode cX26_print 25 = .ok (.iadd, 1) := dk_96 (dk_at dksX26_print_1 3 rfl rfl)
theorem dX26_print_26 : decode cX26_print 26 = .ok (.invokevirtual 82, 3) := dk_182 0 82 (dk_at dksX26_print_1 4 rfl rfl)
theorem dX26_print_29 : decode cX26_print 29 = .ok (.aload_n 1, 1) := dk_43 (dk_at dksX26_print_1 7 rfl rfl)
theorem dX26_print_30 : decode cX26_print 30 = .ok (.aload_n 0, 1) := dk_42 (dk_at dksX26_print_1 8 rfl rfl)
theorem dX26_print_31 : decode cX26_print 31 = .ok (.getfield 15, 3) := dk_180 0 15 (dk_at dksX26_print_1 9 rfl rfl)
theorem dX26_print_34 : decode cX26_print 34 = .ok (.ifCond .ne 8, 3) := dk_154 0 8 (dk_at dksX26_print_1 12 rfl rfl)
theorem dX26_print_37 : decode cX26_print 37 = .ok (.ldc 86, 2) := dk_18 86 (dk_at dksX26_print_1 15 rfl rfl)
theorem dX26_print_39 : decode cX26_print 39 = .ok (.goto 44, 3) := dk_167 0 44 (dk_at dksX26_print_1 17 rfl rfl)
theorem dX26_print_42 : decode cX26_print 42 = .ok (.aload_n 0, 1) := dk_42 (dk_at dksX26_print_1 20 rfl rfl)
theorem dX26_print_43 : decode cX26_print 43 = .ok (.getfield 15, 3) := dk_180 0 15 (dk_at dksX26_print_1 21 rfl rfl)
theorem dX26_print_46 : decode cX26_print 46 = .ok (.iconst 1, 1) := dk_4 (dk_at dksX26_print_2 0 rfl rfl)
theorem dX26_print_47 : decode cX26_print 47 = .ok (.if_icmp .ne 8, 3) := dk_160 0 8 (dk_at dksX26_print_2 1 rfl rfl)
theorem dX26_print_50 : decode cX26_print 50 = .ok (.ldc 88, 2) := dk_18 88 (dk_at dksX26_print_2 4 rfl rfl)
theorem dX26_print_52 : decode cX26_print 52 = .ok (.goto 31, 3) := dk_167 0 31 (dk_at dksX26_print_2 6 rfl rfl)
theorem dX26_print_55 : decode cX26_print 55 = .ok (.aload_n 0, 1) := dk_42 (dk_at dksX26_print_2 9 rfl rfl)
theorem dX26_print_56 : decode cX26_print 56 = .ok (.getfield 15, 3) := dk_180 0 15 (dk_at dksX26_print_2 10 rfl rfl)
theorem dX26_print_59 : decode cX26_print 59 = .ok (.iconst 2, 1) := dk_5 (dk_at dksX26_print_2 13 rfl rfl)
theorem dX26_print_60 : decode cX26_print 60 = .ok (.if_icmp .ne 8, 3) := dk_160 0 8 (dk_at dksX26_print_2 14 rfl rfl)
theorem dX26_print_63 : decode cX26_print 63 = .ok (.ldc 90, 2) := dk_18 90 (dk_at dksX26_print_2 17 rfl rfl)
theorem dX26_print_65 : decode cX26_print 65 = .ok (.goto 18, 3) := dk_167 0 18 (dk_at dksX26_print_2 19 rfl rfl)
theorem dX26_print_68 : decode cX26_print 68 = .ok (.aload_n 0, 1) := dk_42 (dk_at dksX26_print_2 22 rfl rfl)
theorem dX26_print_69 : decode cX26_print 69 = .ok (.getfield 15, 3) := dk_180 0 15 (dk_at dksX26_print_3 0 rfl rfl)
theorem dX26_print_72 : decode cX26_print 72 = .ok (.iconst 3, 1) := dk_6 (dk_at dksX26_print_3 3 rfl rfl)
theorem dX26_print_73 : decode cX26_print 73 = .ok (.if_icmp .ne 8, 3) := dk_160 0 8 (dk_at dksX26_print_3 4 rfl rfl)
theorem dX26_print_76 : decode cX26_print 76 = .ok (.ldc 92, 2) := dk_18 92 (dk_at dksX26_print_3 7 rfl rfl)
theorem dX26_print_78 : decode cX26_print 78 = .ok (.goto 5, 3) := dk_167 0 5 (dk_at dksX26_print_3 9 rfl rfl)
theorem dX26_print_81 : decode cX26_print 81 = .ok (.ldc 94, 2) := dk_18 94 (dk_at dksX26_print_3 12 rfl rfl)
theorem dX26_print_83 : decode cX26_print 83 = .ok (.invokevirtual 78, 3) := dk_182 0 78 (dk_at dksX26_print_3 14 rfl rfl)
theorem dX26_print_86 : decode cX26_print 86 = .ok (.aload_n 0, 1) := dk_42 (dk_at dksX26_print_3 17 rfl rfl)
theorem dX26_print_87 : decode cX26_print 87 = .ok (.getfield 18, 3) := dk_180 0 18 (dk_at dksX26_print_3 18 rfl rfl)
theorem dX26_print_90 : decode cX26_print 90 = .ok (.aload_n 1, 1) := dk_43 (dk_at dksX26_print_3 21 rfl rfl)
theorem dX26_print_91 : decode cX26_print 91 = .ok (.invokevirtual 96, 3) := dk_182 0 96 (dk_at dksX26_print_4 0 rfl rfl)
theorem dX26_print_94 : decode cX26_print 94 = .ok (.aload_n 1, 1) := dk_43 (dk_at dksX26_print_4 3 rfl rfl)
theorem dX26_print_95 : decode cX26_print 95 = .ok (.bipush 59, 2) := dk_16 59 (dk_at dksX26_print_4 4 rfl rfl)
theorem dX26_print_97 : decode cX26_print 97 = .ok (.invokevirtual 99, 3) := dk_182 0 99 (dk_at dksX26_print_4 6 rfl rfl)
theorem dX26_print_100 : decode cX26_print 100 = .ok (.return_, 1) := dk_177 (dk_at dksX26_print_4 9 rfl rfl)
abbrev cX26_mirror : ByteArray := prog_18_method_8_code
def yX26_mirror : MethodName := ⟨RX26, "mirror", "()LThereAndBack$Step;"⟩
def dkwX26_mirror_1 : List UInt8 := [167, 0, 4, 3, 183, 0, 105, 176]
abbrev dktX26_mirror_1 : List UInt8 := dkwX26_mirror_1 ++ []
def dkwX26_mirror_0 : List UInt8 := [187, 0, 10, 89, 42, 180, 0, 9, 42, 180, 0, 15, 42, 180, 0, 18, 42, 180, 0, 22, 154, 0, 7, 4]
abbrev dktX26_mirror_0 : List UInt8 := dkwX26_mirror_0 ++ dktX26_mirror_1
theorem dksX26_mirror_0 : cX26_mirror.data.toList.drop 0 = dktX26_mirror_0 := by decide +kernel
theorem dksX26_mirror_1 : cX26_mirror.data.toList.drop 24 = dktX26_mirror_1 := dk_seg dksX26_mirror_0 24 rfl rfl
theorem dX26_mirror_0 : decode cX26_mirror 0 = .ok (.new 10, 3) := dk_187 0 10 (dk_at dksX26_mirror_0 0 rfl rfl)
theorem dX26_mirror_3 : decode cX26_mirror 3 = .ok (.dup, 1) := dk_89 (dk_at dksX26_mirror_0 3 rfl rfl)
theorem dX26_mirror_4 : decode cX26_mirror 4 = .ok (.aload_n 0, 1) := dk_42 (dk_at dksX26_mirror_0 4 rfl rfl)
theorem dX26_mirror_5 : decode cX26_mirror 5 = .ok (.getfield 9, 3) := dk_180 0 9 (dk_at dksX26_mirror_0 5 rfl rfl)
theorem dX26_mirror_8 : decode cX26_mirror 8 = .ok (.aload_n 0, 1) := dk_42 (dk_at dksX26_mirror_0 8 rfl rfl)
theorem dX26_mirror_9 : decode cX26_mirror 9 = .ok (.getfield 15, 3) := dk_180 0 15 (dk_at dksX26_mirror_0 9 rfl rfl)
theorem dX26_mirror_12 : decode cX26_mirror 12 = .ok (.aload_n 0, 1) := dk_42 (dk_at dksX26_mirror_0 12 rfl rfl)
theorem dX26_mirror_13 : decode cX26_mirror 13 = .ok (.getfield 18, 3) := dk_180 0 18 (dk_at dksX26_mirror_0 13 rfl rfl)
theorem dX26_mirror_16 : decode cX26_mirror 16 = .ok (.aload_n 0, 1) := dk_42 (dk_at dksX26_mirror_0 16 rfl rfl)
theorem dX26_mirror_17 : decode cX26_mirror 17 = .ok (.getfield 22, 3) := dk_180 0 22 (dk_at dksX26_mirror_0 17 rfl rfl)
theorem dX26_mirror_20 : decode cX26_mirror 20 = .ok (.ifCond .ne 7, 3) := dk_154 0 7 (dk_at dksX26_mirror_0 20 rfl rfl)
theorem dX26_mirror_23 : decode cX26_mirror 23 = .ok (.iconst 1, 1) := dk_4 (dk_at dksX26_mirror_0 23 rfl rfl)
theorem dX26_mirror_24 : decode cX26_mirror 24 = .ok (.goto 4, 3) := dk_167 0 4 (dk_at dksX26_mirror_1 0 rfl rfl)
theorem dX26_mirror_27 : decode cX26_mirror 27 = .ok (.iconst 0, 1) := dk_3 (dk_at dksX26_mirror_1 3 rfl rfl)
theorem dX26_mirror_28 : decode cX26_mirror 28 = .ok (.invokespecial 105, 3) := dk_183 0 105 (dk_at dksX26_mirror_1 4 rfl rfl)
theorem dX26_mirror_31 : decode cX26_mirror 31 = .ok (.areturn, 1) := dk_176 (dk_at dksX26_mirror_1 7 rfl rfl)
abbrev cX26_doForward : ByteArray := prog_18_method_2_code
def yX26_doForward : MethodName := ⟨RX26, "doForward", "(LThereAndBack;)V"⟩
def dkwX26_doForward_0 : List UInt8 := [42, 180, 0, 22, 153, 0, 11, 42, 43, 182, 0, 26, 167, 0, 8, 42, 43, 182, 0, 30, 177]
abbrev dktX26_doForward_0 : List UInt8 := dkwX26_doForward_0 ++ []
theorem dksX26_doForward_0 : cX26_doForward.data.toList.drop 0 = dktX26_doForward_0 := by decide +kernel
theorem dX26_doForward_0 : decode cX26_doForward 0 = .ok (.aload_n 0, 1) := dk_42 (dk_at dksX26_doForward_0 0 rfl rfl)
theorem dX26_doForward_1 : decode cX26_doForward 1 = .ok (.getfield 22, 3) := dk_180 0 22 (dk_at dksX26_doForward_0 1 rfl rfl)
theorem dX26_doForward_4 : decode cX26_doForward 4 = .ok (.ifCond .eq 11, 3) := dk_153 0 11 (dk_at dksX26_doForward_0 4 rfl rfl)
theorem dX26_doForward_7 : decode cX26_doForward 7 = .ok (.aload_n 0, 1) := dk_42 (dk_at dksX26_doForward_0 7 rfl rfl)
theorem dX26_doForward_8 : decode cX26_doForward 8 = .ok (.aload_n 1, 1) := dk_43 (dk_at dksX26_doForward_0 8 rfl rfl)
theorem dX26_doForward_9 : decode cX26_doForward 9 = .ok (.invokevirtual 26, 3) := dk_182 0 26 (dk_at dksX26_doForward_0 9 rfl rfl)
theorem dX26_doForward_12 : decode cX26_doForward 12 = .ok (.goto 8, 3) := dk_167 0 8 (dk_at dksX26_doForward_0 12 rfl rfl)
theorem dX26_doForward_15 : decode cX26_doForward 15 = .ok (.aload_n 0, 1) := dk_42 (dk_at dksX26_doForward_0 15 rfl rfl)
theorem dX26_doForward_16 : decode cX26_doForward 16 = .ok (.aload_n 1, 1) := dk_43 (dk_at dksX26_doForward_0 16 rfl rfl)
theorem dX26_doForward_17 : decode cX26_doForward 17 = .ok (.invokevirtual 30, 3) := dk_182 0 30 (dk_at dksX26_doForward_0 17 rfl rfl)
theorem dX26_doForward_20 : decode cX26_doForward 20 = .ok (.return_, 1) := dk_177 (dk_at dksX26_doForward_0 20 rfl rfl)
abbrev cX26_come : ByteArray := prog_18_method_4_code
def yX26_come : MethodName := ⟨RX26, "come", "(LThereAndBack;)V"⟩
def dkwX26_come_2 : List UInt8 := [16, 7, 50, 191, 43, 180, 0, 33, 42, 180, 0, 9, 50, 42, 180, 0, 15, 32, 136, 182, 0, 58, 177]
abbrev dktX26_come_2 : List UInt8 := dkwX26_come_2 ++ []
def dkwX26_come_1 : List UInt8 := [180, 0, 18, 43, 182, 0, 46, 65, 32, 9, 20, 0, 52, 184, 0, 54, 154, 0, 11, 43, 180, 0, 42]
abbrev dktX26_come_1 : List UInt8 := dkwX26_come_1 ++ dktX26_come_2
def dkwX26_come_0 : List UInt8 := [43, 180, 0, 33, 42, 180, 0, 9, 50, 180, 0, 37, 198, 0, 11, 43, 180, 0, 42, 16, 14, 50, 191, 42]
abbrev dktX26_come_0 : List UInt8 := dkwX26_come_0 ++ dktX26_come_1
theorem dksX26_come_0 : cX26_come.data.toList.drop 0 = dktX26_come_0 := by decide +kernel
theorem dksX26_come_1 : cX26_come.data.toList.drop 24 = dktX26_come_1 := dk_seg dksX26_come_0 24 rfl rfl
theorem dksX26_come_2 : cX26_come.data.toList.drop 47 = dktX26_come_2 := dk_seg dksX26_come_1 23 rfl rfl
theorem dX26_come_0 : decode cX26_come 0 = .ok (.aload_n 1, 1) := dk_43 (dk_at dksX26_come_0 0 rfl rfl)
theorem dX26_come_1 : decode cX26_come 1 = .ok (.getfield 33, 3) := dk_180 0 33 (dk_at dksX26_come_0 1 rfl rfl)
theorem dX26_come_4 : decode cX26_come 4 = .ok (.aload_n 0, 1) := dk_42 (dk_at dksX26_come_0 4 rfl rfl)
theorem dX26_come_5 : decode cX26_come 5 = .ok (.getfield 9, 3) := dk_180 0 9 (dk_at dksX26_come_0 5 rfl rfl)
theorem dX26_come_8 : decode cX26_come 8 = .ok (.aaload, 1) := dk_50 (dk_at dksX26_come_0 8 rfl rfl)
theorem dX26_come_9 : decode cX26_come 9 = .ok (.getfield 37, 3) := dk_180 0 37 (dk_at dksX26_come_0 9 rfl rfl)
theorem dX26_come_12 : decode cX26_come 12 = .ok (.ifnull 11, 3) := dk_198 0 11 (dk_at dksX26_come_0 12 rfl rfl)
theorem dX26_come_15 : decode cX26_come 15 = .ok (.aload_n 1, 1) := dk_43 (dk_at dksX26_come_0 15 rfl rfl)
theorem dX26_come_16 : decode cX26_come 16 = .ok (.getfield 42, 3) := dk_180 0 42 (dk_at dksX26_come_0 16 rfl rfl)
theorem dX26_come_19 : decode cX26_come 19 = .ok (.bipush 14, 2) := dk_16 14 (dk_at dksX26_come_0 19 rfl rfl)
theorem dX26_come_21 : decode cX26_come 21 = .ok (.aaload, 1) := dk_50 (dk_at dksX26_come_0 21 rfl rfl)
theorem dX26_come_22 : decode cX26_come 22 = .ok (.athrow, 1) := dk_191 (dk_at dksX26_come_0 22 rfl rfl)
theorem dX26_come_23 : decode cX26_come 23 = .ok (.aload_n 0, 1) := dk_42 (dk_at dksX26_come_0 23 rfl rfl)
theorem dX26_come_24 : decode cX26_come 24 = .ok (.getfield 18, 3) := dk_180 0 18 (dk_at dksX26_come_1 0 rfl rfl)
theorem dX26_come_27 : decode cX26_come 27 = .ok (.aload_n 1, 1) := dk_43 (dk_at dksX26_come_1 3 rfl rfl)
theorem dX26_come_28 : decode cX26_come 28 = .ok (.invokevirtual 46, 3) := dk_182 0 46 (dk_at dksX26_come_1 4 rfl rfl)
theorem dX26_come_31 : decode cX26_come 31 = .ok (.lstore_n 2, 1) := dk_65 (dk_at dksX26_come_1 7 rfl rfl)
theorem dX26_come_32 : decode cX26_come 32 = .ok (.lload_n 2, 1) := dk_32 (dk_at dksX26_come_1 8 rfl rfl)
theorem dX26_come_33 : decode cX26_come 33 = .ok (.lconst 0, 1) := dk_9 (dk_at dksX26_come_1 9 rfl rfl)
theorem dX26_come_34 : decode cX26_come 34 = .ok (.ldc2_w 52, 3) := dk_20 0 52 (dk_at dksX26_come_1 10 rfl rfl)
theorem dX26_come_37 : decode cX26_come 37 = .ok (.invokestatic 54, 3) := dk_184 0 54 (dk_at dksX26_come_1 13 rfl rfl)
theorem dX26_come_40 : decode cX26_come 40 = .ok (.ifCond .ne 11, 3) := dk_154 0 11 (dk_at dksX26_come_1 16 rfl rfl)
theorem dX26_come_43 : decode cX26_come 43 = .ok (.aload_n 1, 1) := dk_43 (dk_at dksX26_come_1 19 rfl rfl)
theorem dX26_come_44 : decode cX26_come 44 = .ok (.getfield 42, 3) := dk_180 0 42 (dk_at dksX26_come_1 20 rfl rfl)
theorem dX26_come_47 : decode cX26_come 47 = .ok (.bipush 7, 2) := dk_16 7 (dk_at dksX26_come_2 0 rfl rfl)
theorem dX26_come_49 : decode cX26_come 49 = .ok (.aaload, 1) := dk_50 (dk_at dksX26_come_2 2 rfl rfl)
theorem dX26_come_50 : decode cX26_come 50 = .ok (.athrow, 1) := dk_191 (dk_at dksX26_come_2 3 rfl rfl)
theorem dX26_come_51 : decode cX26_come 51 = .ok (.aload_n 1, 1) := dk_43 (dk_at dksX26_come_2 4 rfl rfl)
theorem dX26_come_52 : decode cX26_come 52 = .ok (.getfield 33, 3) := dk_180 0 33 (dk_at dksX26_come_2 5 rfl rfl)
theorem dX26_come_55 : decode cX26_come 55 = .ok (.aload_n 0, 1) := dk_42 (dk_at dksX26_come_2 8 rfl rfl)
theorem dX26_come_56 : decode cX26_come 56 = .ok (.getfield 9, 3) := dk_180 0 9 (dk_at dksX26_come_2 9 rfl rfl)
theorem dX26_come_59 : decode cX26_come 59 = .ok (.aaload, 1) := dk_50 (dk_at dksX26_come_2 12 rfl rfl)
theorem dX26_come_60 : decode cX26_come 60 = .ok (.aload_n 0, 1) := dk_42 (dk_at dksX26_come_2 13 rfl rfl)
theorem dX26_come_61 : decode cX26_come 61 = .ok (.getfield 15, 3) := dk_180 0 15 (dk_at dksX26_come_2 14 rfl rfl)
theorem dX26_come_64 : decode cX26_come 64 = .ok (.lload_n 2, 1) := dk_32 (dk_at dksX26_come_2 17 rfl rfl)
theorem dX26_come_65 : decode cX26_come 65 = .ok (.l2i, 1) := dk_136 (dk_at dksX26_come_2 18 rfl rfl)
theorem dX26_come_66 : decode cX26_come 66 = .ok (.invokevirtual 58, 3) := dk_182 0 58 (dk_at dksX26_come_2 19 rfl rfl)
theorem dX26_come_69 : decode cX26_come 69 = .ok (.return_, 1) := dk_177 (dk_at dksX26_come_2 22 rfl rfl)
abbrev cX26_end : ByteArray := prog_18_method_5_code
def yX26_end : MethodName := ⟨RX26, "end", "(LThereAndBack;)V"⟩
def dkwX26_end_4 : List UInt8 := [21, 5, 154, 0, 11, 43, 180, 0, 42, 16, 8, 50, 191, 44, 1, 181, 0, 37, 177]
abbrev dktX26_end_4 : List UInt8 := dkwX26_end_4 ++ []
def dkwX26_end_3 : List UInt8 := [21, 6, 182, 0, 71, 9, 148, 154, 0, 7, 4, 167, 0, 4, 3, 54, 5, 132, 6, 1, 167, 255, 221]
abbrev dktX26_end_3 : List UInt8 := dkwX26_end_3 ++ dktX26_end_4
def dkwX26_end_2 : List UInt8 := [167, 0, 4, 3, 54, 5, 3, 54, 6, 21, 5, 153, 0, 36, 21, 6, 44, 182, 0, 69, 162, 0, 27, 44]
abbrev dktX26_end_2 : List UInt8 := dkwX26_end_2 ++ dktX26_end_3
def dkwX26_end_1 : List UInt8 := [16, 10, 50, 191, 42, 180, 0, 18, 43, 182, 0, 46, 66, 33, 44, 182, 0, 69, 133, 148, 154, 0, 7, 4]
abbrev dktX26_end_1 : List UInt8 := dkwX26_end_1 ++ dktX26_end_2
def dkwX26_end_0 : List UInt8 := [43, 42, 180, 0, 9, 182, 0, 62, 77, 44, 182, 0, 66, 42, 180, 0, 15, 159, 0, 11, 43, 180, 0, 42]
abbrev dktX26_end_0 : List UInt8 := dkwX26_end_0 ++ dktX26_end_1
theorem dksX26_end_0 : cX26_end.data.toList.drop 0 = dktX26_end_0 := by decide +kernel
theorem dksX26_end_1 : cX26_end.data.toList.drop 24 = dktX26_end_1 := dk_seg dksX26_end_0 24 rfl rfl
theorem dksX26_end_2 : cX26_end.data.toList.drop 48 = dktX26_end_2 := dk_seg dksX26_end_1 24 rfl rfl
theorem dksX26_end_3 : cX26_end.data.toList.drop 72 = dktX26_end_3 := dk_seg dksX26_end_2 24 rfl rfl
theorem dksX26_end_4 : cX26_end.data.toList.drop 95 = dktX26_end_4 := dk_seg dksX26_end_3 23 rfl rfl
theorem dX26_end_0 : decode cX26_end 0 = .ok (.aload_n 1, 1) := dk_43 (dk_at dksX26_end_0 0 rfl rfl)
theorem dX26_end_1 : decode cX26_end 1 = .ok (.aload_n 0, 1) := dk_42 (dk_at dksX26_end_0 1 rfl rfl)
theorem dX26_end_2 : decode cX26_end 2 = .ok (.getfield 9, 3) := dk_180 0 9 (dk_at dksX26_end_0 2 rfl rfl)
theorem dX26_end_5 : decode cX26_end 5 = .ok (.invokevirtual 62, 3) := dk_182 0 62 (dk_at dksX26_end_0 5 rfl rfl)
theorem dX26_end_8 : decode cX26_end 8 = .ok (.astore_n 2, 1) := dk_77 (dk_at dksX26_end_0 8 rfl rfl)
theorem dX26_end_9 : decode cX26_end 9 = .ok (.aload_n 2, 1) := dk_44 (dk_at dksX26_end_0 9 rfl rfl)
theorem dX26_end_10 : decode cX26_end 10 = .ok (.invokevirtual 66, 3) := dk_182 0 66 (dk_at dksX26_end_0 10 rfl rfl)
theorem dX26_end_13 : decode cX26_end 13 = .ok (.aload_n 0, 1) := dk_42 (dk_at dksX26_end_0 13 rfl rfl)
theorem dX26_end_14 : decode cX26_end 14 = .ok (.getfield 15, 3) := dk_180 0 15 (dk_at dksX26_end_0 14 rfl rfl)
theorem dX26_end_17 : decode cX26_end 17 = .ok (.if_icmp .eq 11, 3) := dk_159 0 11 (dk_at dksX26_end_0 17 rfl rfl)
theorem dX26_end_20 : decode cX26_end 20 = .ok (.aload_n 1, 1) := dk_43 (dk_at dksX26_end_0 20 rfl rfl)
theorem dX26_end_21 : decode cX26_end 21 = .ok (.getfield 42, 3) := dk_180 0 42 (dk_at dksX26_end_0 21 rfl rfl)
theorem dX26_end_24 : decode cX26_end 24 = .ok (.bipush 10, 2) := dk_16 10 (dk_at dksX26_end_1 0 rfl rfl)
theorem dX26_end_26 : decode cX26_end 26 = .ok (.aaload, 1) := dk_50 (dk_at dksX26_end_1 2 rfl rfl)
theorem dX26_end_27 : decode cX26_end 27 = .ok (.athrow, 1) := dk_191 (dk_at dksX26_end_1 3 rfl rfl)
theorem dX26_end_28 : decode cX26_end 28 = .ok (.aload_n 0, 1) := dk_42 (dk_at dksX26_end_1 4 rfl rfl)
theorem dX26_end_29 : decode cX26_end 29 = .ok (.getfield 18, 3) := dk_180 0 18 (dk_at dksX26_end_1 5 rfl rfl)
theorem dX26_end_32 : decode cX26_end 32 = .ok (.aload_n 1, 1) := dk_43 (dk_at dksX26_end_1 8 rfl rfl)
theorem dX26_end_33 : decode cX26_end 33 = .ok (.invokevirtual 46, 3) := dk_182 0 46 (dk_at dksX26_end_1 9 rfl rfl)
theorem dX26_end_36 : decode cX26_end 36 = .ok (.lstore_n 3, 1) := dk_66 (dk_at dksX26_end_1 12 rfl rfl)
theorem dX26_end_37 : decode cX26_end 37 = .ok (.lload_n 3, 1) := dk_33 (dk_at dksX26_end_1 13 rfl rfl)
theorem dX26_end_38 : decode cX26_end 38 = .ok (.aload_n 2, 1) := dk_44 (dk_at dksX26_end_1 14 rfl rfl)
theorem dX26_end_39 : decode cX26_end 39 = .ok (.invokevirtual 69, 3) := dk_182 0 69 (dk_at dksX26_end_1 15 rfl rfl)
theorem dX26_end_42 : decode cX26_end 42 = .ok (.i2l, 1) := dk_133 (dk_at dksX26_end_1 18 rfl rfl)
theorem dX26_end_43 : decode cX26_end 43 = .ok (.lcmp, 1) := dk_148 (dk_at dksX26_end_1 19 rfl rfl)
theorem dX26_end_44 : decode cX26_end 44 = .ok (.ifCond .ne 7, 3) := dk_154 0 7 (dk_at dksX26_end_1 20 rfl rfl)
theorem dX26_end_47 : decode cX26_end 47 = .ok (.iconst 1, 1) := dk_4 (dk_at dksX26_end_1 23 rfl rfl)
theorem dX26_end_48 : decode cX26_end 48 = .ok (.goto 4, 3) := dk_167 0 4 (dk_at dksX26_end_2 0 rfl rfl)
theorem dX26_end_51 : decode cX26_end 51 = .ok (.iconst 0, 1) := dk_3 (dk_at dksX26_end_2 3 rfl rfl)
theorem dX26_end_52 : decode cX26_end 52 = .ok (.istore 5, 2) := dk_54 5 (dk_at dksX26_end_2 4 rfl rfl)
theorem dX26_end_54 : decode cX26_end 54 = .ok (.iconst 0, 1) := dk_3 (dk_at dksX26_end_2 6 rfl rfl)
theorem dX26_end_55 : decode cX26_end 55 = .ok (.istore 6, 2) := dk_54 6 (dk_at dksX26_end_2 7 rfl rfl)
theorem dX26_end_57 : decode cX26_end 57 = .ok (.iload 5, 2) := dk_21 5 (dk_at dksX26_end_2 9 rfl rfl)
theorem dX26_end_59 : decode cX26_end 59 = .ok (.ifCond .eq 36, 3) := dk_153 0 36 (dk_at dksX26_end_2 11 rfl rfl)
theorem dX26_end_62 : decode cX26_end 62 = .ok (.iload 6, 2) := dk_21 6 (dk_at dksX26_end_2 14 rfl rfl)
theorem dX26_end_64 : decode cX26_end 64 = .ok (.aload_n 2, 1) := dk_44 (dk_at dksX26_end_2 16 rfl rfl)
theorem dX26_end_65 : decode cX26_end 65 = .ok (.invokevirtual 69, 3) := dk_182 0 69 (dk_at dksX26_end_2 17 rfl rfl)
theorem dX26_end_68 : decode cX26_end 68 = .ok (.if_icmp .ge 27, 3) := dk_162 0 27 (dk_at dksX26_end_2 20 rfl rfl)
theorem dX26_end_71 : decode cX26_end 71 = .ok (.aload_n 2, 1) := dk_44 (dk_at dksX26_end_2 23 rfl rfl)
theorem dX26_end_72 : decode cX26_end 72 = .ok (.iload 6, 2) := dk_21 6 (dk_at dksX26_end_3 0 rfl rfl)
theorem dX26_end_74 : decode cX26_end 74 = .ok (.invokevirtual 71, 3) := dk_182 0 71 (dk_at dksX26_end_3 2 rfl rfl)
theorem dX26_end_77 : decode cX26_end 77 = .ok (.lconst 0, 1) := dk_9 (dk_at dksX26_end_3 5 rfl rfl)
theorem dX26_end_78 : decode cX26_end 78 = .ok (.lcmp, 1) := dk_148 (dk_at dksX26_end_3 6 rfl rfl)
theorem dX26_end_79 : decode cX26_end 79 = .ok (.ifCond .ne 7, 3) := dk_154 0 7 (dk_at dksX26_end_3 7 rfl rfl)
theorem dX26_end_82 : decode cX26_end 82 = .ok (.iconst 1, 1) := dk_4 (dk_at dksX26_end_3 10 rfl rfl)
theorem dX26_end_83 : decode cX26_end 83 = .ok (.goto 4, 3) := dk_167 0 4 (dk_at dksX26_end_3 11 rfl rfl)
theorem dX26_end_86 : decode cX26_end 86 = .ok (.iconst 0, 1) := dk_3 (dk_at dksX26_end_3 14 rfl rfl)
theorem dX26_end_87 : decode cX26_end 87 = .ok (.istore 5, 2) := dk_54 5 (dk_at dksX26_end_3 15 rfl rfl)
theorem dX26_end_89 : decode cX26_end 89 = .ok (.iinc 6 1, 3) := dk_132 6 1 (dk_at dksX26_end_3 17 rfl rfl)
theorem dX26_end_92 : decode cX26_end 92 = .ok (.goto (-35), 3) := dk_167 255 221 (dk_at dksX26_end_3 20 rfl rfl)
theorem dX26_end_95 : decode cX26_end 95 = .ok (.iload 5, 2) := dk_21 5 (dk_at dksX26_end_4 0 rfl rfl)
theorem dX26_end_97 : decode cX26_end 97 = .ok (.ifCond .ne 11, 3) := dk_154 0 11 (dk_at dksX26_end_4 2 rfl rfl)
theorem dX26_end_100 : decode cX26_end 100 = .ok (.aload_n 1, 1) := dk_43 (dk_at dksX26_end_4 5 rfl rfl)
theorem dX26_end_101 : decode cX26_end 101 = .ok (.getfield 42, 3) := dk_180 0 42 (dk_at dksX26_end_4 6 rfl rfl)
theorem dX26_end_104 : decode cX26_end 104 = .ok (.bipush 8, 2) := dk_16 8 (dk_at dksX26_end_4 9 rfl rfl)
theorem dX26_end_106 : decode cX26_end 106 = .ok (.aaload, 1) := dk_50 (dk_at dksX26_end_4 11 rfl rfl)
theorem dX26_end_107 : decode cX26_end 107 = .ok (.athrow, 1) := dk_191 (dk_at dksX26_end_4 12 rfl rfl)
theorem dX26_end_108 : decode cX26_end 108 = .ok (.aload_n 2, 1) := dk_44 (dk_at dksX26_end_4 13 rfl rfl)
theorem dX26_end_109 : decode cX26_end 109 = .ok (.aconst_null, 1) := dk_1 (dk_at dksX26_end_4 14 rfl rfl)
theorem dX26_end_110 : decode cX26_end 110 = .ok (.putfield 37, 3) := dk_181 0 37 (dk_at dksX26_end_4 15 rfl rfl)
theorem dX26_end_113 : decode cX26_end 113 = .ok (.return_, 1) := dk_177 (dk_at dksX26_end_4 18 rfl rfl)
abbrev cX26_doBack : ByteArray := prog_18_method_3_code
def yX26_doBack : MethodName := ⟨RX26, "doBack", "(LThereAndBack;)V"⟩
def dkwX26_doBack_0 : List UInt8 := [42, 180, 0, 22, 153, 0, 11, 42, 43, 182, 0, 30, 167, 0, 8, 42, 43, 182, 0, 26, 177]
abbrev dktX26_doBack_0 : List UInt8 := dkwX26_doBack_0 ++ []
theorem dksX26_doBack_0 : cX26_doBack.data.toList.drop 0 = dktX26_doBack_0 := by decide +kernel
theorem dX26_doBack_0 : decode cX26_doBack 0 = .ok (.aload_n 0, 1) := dk_42 (dk_at dksX26_doBack_0 0 rfl rfl)
theorem dX26_doBack_1 : decode cX26_doBack 1 = .ok (.getfield 22, 3) := dk_180 0 22 (dk_at dksX26_doBack_0 1 rfl rfl)
theorem dX26_doBack_4 : decode cX26_doBack 4 = .ok (.ifCond .eq 11, 3) := dk_153 0 11 (dk_at dksX26_doBack_0 4 rfl rfl)
theorem dX26_doBack_7 : decode cX26_doBack 7 = .ok (.aload_n 0, 1) := dk_42 (dk_at dksX26_doBack_0 7 rfl rfl)
theorem dX26_doBack_8 : decode cX26_doBack 8 = .ok (.aload_n 1, 1) := dk_43 (dk_at dksX26_doBack_0 8 rfl rfl)
theorem dX26_doBack_9 : decode cX26_doBack 9 = .ok (.invokevirtual 30, 3) := dk_182 0 30 (dk_at dksX26_doBack_0 9 rfl rfl)
theorem dX26_doBack_12 : decode cX26_doBack 12 = .ok (.goto 8, 3) := dk_167 0 8 (dk_at dksX26_doBack_0 12 rfl rfl)
theorem dX26_doBack_15 : decode cX26_doBack 15 = .ok (.aload_n 0, 1) := dk_42 (dk_at dksX26_doBack_0 15 rfl rfl)
theorem dX26_doBack_16 : decode cX26_doBack 16 = .ok (.aload_n 1, 1) := dk_43 (dk_at dksX26_doBack_0 16 rfl rfl)
theorem dX26_doBack_17 : decode cX26_doBack 17 = .ok (.invokevirtual 26, 3) := dk_182 0 26 (dk_at dksX26_doBack_0 17 rfl rfl)
theorem dX26_doBack_20 : decode cX26_doBack 20 = .ok (.return_, 1) := dk_177 (dk_at dksX26_doBack_0 20 rfl rfl)
theorem q180 : (Jvm.Cond.initialized "ThereAndBack$New") ∈ lw_all := lw_g (lw_at lw_m1 36 rfl) rfl
theorem q322 : (Jvm.Cond.fieldLinkNest "ThereAndBack$New" (37 : Nat) "ThereAndBack$Holder" "row" "Ljava/lang/Object;" "ThereAndBack") ∈ lw_tbl := lw_at lw_m1 178 rfl
theorem q345 : (Jvm.Cond.fieldLinkNest "ThereAndBack$New" (42 : Nat) "ThereAndBack" "refusals" "[LThereAndBack$Refused;" "ThereAndBack") ∈ lw_tbl := lw_at lw_m1 201 rfl
theorem q360 : (Jvm.Cond.fieldLinkNest "ThereAndBack$New" (33 : Nat) "ThereAndBack" "rows" "[LThereAndBack$Holder;" "ThereAndBack") ∈ lw_tbl := lw_at lw_m1 216 rfl
theorem q978 : (Jvm.Cond.instantiable "ThereAndBack$New" (4 : Nat)) ∈ lw_all := lw_g (lw_at lw_m4 114 rfl) rfl
theorem q980 : (Jvm.Cond.instanceMethod ({ cls := "ThereAndBack$New", name := "<init>", desc := "(IILThereAndBack$Expr;Z)V" } : Jvm.MethodName)) ∈ lw_all := lw_g (lw_at lw_m4 116 rfl) rfl
theorem q981 : (Jvm.Cond.code ({ cls := "ThereAndBack$New", name := "<init>", desc := "(IILThereAndBack$Expr;Z)V" } : Jvm.MethodName) prog_18_method_1_code (5 : Nat) (Option.none : Option Jvm.ClassFile.FieldType)) ∈ lw_all := lw_g (lw_at lw_m4 117 rfl) rfl
theorem q982 : (Jvm.Cond.methodLinkNest "ThereAndBack$New" (3 : Nat) ({ cls := "ThereAndBack$Single", name := "<init>", desc := "()V" } : Jvm.MethodName) "ThereAndBack") ∈ lw_tbl := lw_at lw_m4 118 rfl
theorem q983 : (Jvm.Cond.fieldLink "ThereAndBack$New" (9 : Nat) "ThereAndBack$New" "row" "I") ∈ lw_all := lw_g (lw_at lw_m4 119 rfl) rfl
theorem q984 : (Jvm.Cond.fieldLink "ThereAndBack$New" (15 : Nat) "ThereAndBack$New" "kind" "I") ∈ lw_all := lw_g (lw_at lw_m4 120 rfl) rfl
theorem q985 : (Jvm.Cond.fieldLink "ThereAndBack$New" (18 : Nat) "ThereAndBack$New" "size" "LThereAndBack$Expr;") ∈ lw_all := lw_g (lw_at lw_m4 121 rfl) rfl
theorem q986 : (Jvm.Cond.fieldLink "ThereAndBack$New" (22 : Nat) "ThereAndBack$New" "comes" "Z") ∈ lw_all := lw_g (lw_at lw_m4 122 rfl) rfl
theorem q987 : (Jvm.Cond.laysFinal "ThereAndBack$New" "ThereAndBack$New" "row" "I") ∈ lw_all := lw_g (lw_at lw_m4 123 rfl) rfl
theorem q988 : (Jvm.Cond.soleField "ThereAndBack$New" "row") ∈ lw_all := lw_g (lw_at lw_m4 124 rfl) rfl
theorem q989 : (Jvm.Cond.laysFinal "ThereAndBack$New" "ThereAndBack$New" "kind" "I") ∈ lw_all := lw_g (lw_at lw_m4 125 rfl) rfl
theorem q990 : (Jvm.Cond.soleField "ThereAndBack$New" "kind") ∈ lw_all := lw_g (lw_at lw_m4 126 rfl) rfl
theorem q991 : (Jvm.Cond.laysFinal "ThereAndBack$New" "ThereAndBack$New" "size" "LThereAndBack$Expr;") ∈ lw_all := lw_g (lw_at lw_m4 127 rfl) rfl
theorem q992 : (Jvm.Cond.soleField "ThereAndBack$New" "size") ∈ lw_all := lw_g (lw_at lw_m4 128 rfl) rfl
theorem q993 : (Jvm.Cond.laysFinal "ThereAndBack$New" "ThereAndBack$New" "comes" "Z") ∈ lw_all := lw_g (lw_at lw_m4 129 rfl) rfl
theorem q994 : (Jvm.Cond.soleField "ThereAndBack$New" "comes") ∈ lw_all := lw_g (lw_at lw_m4 130 rfl) rfl
theorem q995 : (Jvm.Cond.superclass "ThereAndBack$New" "ThereAndBack$Single") ∈ lw_all := lw_g (lw_at lw_m4 131 rfl) rfl
theorem q1166 : (Jvm.Cond.selects "ThereAndBack$New" ({ cls := "java/lang/Object", name := "getClass", desc := "()Ljava/lang/Class;" } : Jvm.MethodName) ({ cls := "java/lang/Object", name := "getClass", desc := "()Ljava/lang/Class;" } : Jvm.MethodName)) ∈ lw_all := lw_g (lw_at lw_m5 62 rfl) rfl
theorem q1329 : (Jvm.Cond.selects "ThereAndBack$New" ({ cls := "ThereAndBack$Step", name := "lay", desc := "(Ljava/util/List;)V" } : Jvm.MethodName) ({ cls := "ThereAndBack$Single", name := "lay", desc := "(Ljava/util/List;)V" } : Jvm.MethodName)) ∈ lw_all := lw_g (lw_at lw_m5 225 rfl) rfl
theorem q1360 : (Jvm.Cond.selects "ThereAndBack$New" ({ cls := "ThereAndBack$Step", name := "code", desc := "()I" } : Jvm.MethodName) ({ cls := "ThereAndBack$Step", name := "code", desc := "()I" } : Jvm.MethodName)) ∈ lw_all := lw_g (lw_at lw_m6 16 rfl) rfl
theorem q1418 : (Jvm.Cond.selects "ThereAndBack$New" ({ cls := "ThereAndBack$Step", name := "isOrdinary", desc := "()Z" } : Jvm.MethodName) ({ cls := "ThereAndBack$Step", name := "isOrdinary", desc := "()Z" } : Jvm.MethodName)) ∈ lw_all := lw_g (lw_at lw_m6 74 rfl) rfl
theorem q1441 : (Jvm.Cond.selects "ThereAndBack$New" ({ cls := "ThereAndBack$Step", name := "braces", desc := "()I" } : Jvm.MethodName) ({ cls := "ThereAndBack$Step", name := "braces", desc := "()I" } : Jvm.MethodName)) ∈ lw_all := lw_g (lw_at lw_m6 97 rfl) rfl
theorem q1502 : (Jvm.Cond.selects "ThereAndBack$New" ({ cls := "ThereAndBack$Step", name := "names", desc := "()I" } : Jvm.MethodName) ({ cls := "ThereAndBack$New", name := "names", desc := "()I" } : Jvm.MethodName)) ∈ lw_all := lw_g (lw_at lw_m6 158 rfl) rfl
theorem q1503 : (Jvm.Cond.instanceMethod ({ cls := "ThereAndBack$New", name := "names", desc := "()I" } : Jvm.MethodName)) ∈ lw_all := lw_g (lw_at lw_m6 159 rfl) rfl
theorem q1504 : (Jvm.Cond.code ({ cls := "ThereAndBack$New", name := "names", desc := "()I" } : Jvm.MethodName) prog_18_method_7_code (1 : Nat) (Option.some Jvm.ClassFile.FieldType.int)) ∈ lw_all := lw_g (lw_at lw_m6 160 rfl) rfl
theorem q1505 : (Jvm.Cond.methodLink "ThereAndBack$New" (102 : Nat) ({ cls := "ThereAndBack$Expr", name := "names", desc := "()I" } : Jvm.MethodName)) ∈ lw_all := lw_g (lw_at lw_m6 161 rfl) rfl
theorem q1684 : (Jvm.Cond.selects "ThereAndBack$New" ({ cls := "ThereAndBack$Step", name := "print", desc := "(LThereAndBack;)V" } : Jvm.MethodName) ({ cls := "ThereAndBack$New", name := "print", desc := "(LThereAndBack;)V" } : Jvm.MethodName)) ∈ lw_all := lw_g (lw_at lw_m7 100 rfl) rfl
theorem q1685 : (Jvm.Cond.instanceMethod ({ cls := "ThereAndBack$New", name := "print", desc := "(LThereAndBack;)V" } : Jvm.MethodName)) ∈ lw_all := lw_g (lw_at lw_m7 101 rfl) rfl
theorem q1686 : (Jvm.Cond.code ({ cls := "ThereAndBack$New", name := "print", desc := "(LThereAndBack;)V" } : Jvm.MethodName) prog_18_method_6_code (2 : Nat) (Option.none : Option Jvm.ClassFile.FieldType)) ∈ lw_all := lw_g (lw_at lw_m7 102 rfl) rfl
theorem q1687 : (Jvm.Cond.stringRef "ThereAndBack$New" (75 : Nat) "new") ∈ lw_tbl := lw_at lw_m7 103 rfl
theorem q1688 : (Jvm.Cond.stringRef "ThereAndBack$New" (77 : Nat) "end") ∈ lw_tbl := lw_at lw_m7 104 rfl
theorem q1689 : (Jvm.Cond.methodLinkNest "ThereAndBack$New" (78 : Nat) ({ cls := "ThereAndBack", name := "printWord", desc := "(Ljava/lang/String;)V" } : Jvm.MethodName) "ThereAndBack") ∈ lw_tbl := lw_at lw_m7 105 rfl
theorem q1690 : (Jvm.Cond.methodLinkNest "ThereAndBack$New" (82 : Nat) ({ cls := "ThereAndBack", name := "printSign", desc := "(I)V" } : Jvm.MethodName) "ThereAndBack") ∈ lw_tbl := lw_at lw_m7 106 rfl
theorem q1691 : (Jvm.Cond.stringRef "ThereAndBack$New" (86 : Nat) "int") ∈ lw_tbl := lw_at lw_m7 107 rfl
theorem q1692 : (Jvm.Cond.stringRef "ThereAndBack$New" (88 : Nat) "long") ∈ lw_tbl := lw_at lw_m7 108 rfl
theorem q1693 : (Jvm.Cond.stringRef "ThereAndBack$New" (90 : Nat) "short") ∈ lw_tbl := lw_at lw_m7 109 rfl
theorem q1694 : (Jvm.Cond.stringRef "ThereAndBack$New" (92 : Nat) "byte") ∈ lw_tbl := lw_at lw_m7 110 rfl
theorem q1695 : (Jvm.Cond.stringRef "ThereAndBack$New" (94 : Nat) "char") ∈ lw_tbl := lw_at lw_m7 111 rfl
theorem q1696 : (Jvm.Cond.methodLink "ThereAndBack$New" (96 : Nat) ({ cls := "ThereAndBack$Expr", name := "print", desc := "(LThereAndBack;)V" } : Jvm.MethodName)) ∈ lw_all := lw_g (lw_at lw_m7 112 rfl) rfl
theorem q1697 : (Jvm.Cond.methodLinkNest "ThereAndBack$New" (99 : Nat) ({ cls := "ThereAndBack", name := "printBehind", desc := "(I)V" } : Jvm.MethodName) "ThereAndBack") ∈ lw_tbl := lw_at lw_m7 113 rfl
theorem q1789 : (Jvm.Cond.selects "ThereAndBack$New" ({ cls := "ThereAndBack$Step", name := "mirror", desc := "()LThereAndBack$Step;" } : Jvm.MethodName) ({ cls := "ThereAndBack$New", name := "mirror", desc := "()LThereAndBack$Step;" } : Jvm.MethodName)) ∈ lw_all := lw_g (lw_at lw_m7 205 rfl) rfl
theorem q1790 : (Jvm.Cond.instanceMethod ({ cls := "ThereAndBack$New", name := "mirror", desc := "()LThereAndBack$Step;" } : Jvm.MethodName)) ∈ lw_all := lw_g (lw_at lw_m7 206 rfl) rfl
theorem q1791 : (Jvm.Cond.code ({ cls := "ThereAndBack$New", name := "mirror", desc := "()LThereAndBack$Step;" } : Jvm.MethodName) prog_18_method_8_code (1 : Nat) (Option.some (Jvm.ClassFile.FieldType.object "ThereAndBack$Step"))) ∈ lw_all := lw_g (lw_at lw_m7 207 rfl) rfl
theorem q1792 : (Jvm.Cond.classLink "ThereAndBack$New" (10 : Nat) "ThereAndBack$New") ∈ lw_all := lw_g (lw_at lw_m7 208 rfl) rfl
theorem q1793 : (Jvm.Cond.methodLink "ThereAndBack$New" (105 : Nat) ({ cls := "ThereAndBack$New", name := "<init>", desc := "(IILThereAndBack$Expr;Z)V" } : Jvm.MethodName)) ∈ lw_all := lw_g (lw_at lw_m7 209 rfl) rfl
theorem q1852 : (Jvm.Cond.selects "ThereAndBack$New" ({ cls := "ThereAndBack$Step", name := "turn", desc := "(Ljava/util/List;I)V" } : Jvm.MethodName) ({ cls := "ThereAndBack$Step", name := "turn", desc := "(Ljava/util/List;I)V" } : Jvm.MethodName)) ∈ lw_all := lw_g (lw_at lw_m8 28 rfl) rfl
theorem q2005 : (Jvm.Cond.selects "ThereAndBack$New" ({ cls := "ThereAndBack$Step", name := "walk", desc := "(LThereAndBack;)V" } : Jvm.MethodName) ({ cls := "ThereAndBack$Step", name := "walk", desc := "(LThereAndBack;)V" } : Jvm.MethodName)) ∈ lw_all := lw_g (lw_at lw_m8 181 rfl) rfl
theorem q2179 : (Jvm.Cond.selects "ThereAndBack$New" ({ cls := "ThereAndBack$Single", name := "doForward", desc := "(LThereAndBack;)V" } : Jvm.MethodName) ({ cls := "ThereAndBack$New", name := "doForward", desc := "(LThereAndBack;)V" } : Jvm.MethodName)) ∈ lw_all := lw_g (lw_at lw_m9 115 rfl) rfl
theorem q2180 : (Jvm.Cond.instanceMethod ({ cls := "ThereAndBack$New", name := "doForward", desc := "(LThereAndBack;)V" } : Jvm.MethodName)) ∈ lw_all := lw_g (lw_at lw_m9 116 rfl) rfl
theorem q2181 : (Jvm.Cond.code ({ cls := "ThereAndBack$New", name := "doForward", desc := "(LThereAndBack;)V" } : Jvm.MethodName) prog_18_method_2_code (2 : Nat) (Option.none : Option Jvm.ClassFile.FieldType)) ∈ lw_all := lw_g (lw_at lw_m9 117 rfl) rfl
theorem q2182 : (Jvm.Cond.methodLink "ThereAndBack$New" (26 : Nat) ({ cls := "ThereAndBack$New", name := "come", desc := "(LThereAndBack;)V" } : Jvm.MethodName)) ∈ lw_all := lw_g (lw_at lw_m9 118 rfl) rfl
theorem q2183 : (Jvm.Cond.privateMethod ({ cls := "ThereAndBack$New", name := "come", desc := "(LThereAndBack;)V" } : Jvm.MethodName)) ∈ lw_tbl := lw_at lw_m9 119 rfl
theorem q2184 : (Jvm.Cond.instanceMethod ({ cls := "ThereAndBack$New", name := "come", desc := "(LThereAndBack;)V" } : Jvm.MethodName)) ∈ lw_all := lw_g (lw_at lw_m9 120 rfl) rfl
theorem q2185 : (Jvm.Cond.code ({ cls := "ThereAndBack$New", name := "come", desc := "(LThereAndBack;)V" } : Jvm.MethodName) prog_18_method_4_code (4 : Nat) (Option.none : Option Jvm.ClassFile.FieldType)) ∈ lw_all := lw_g (lw_at lw_m9 121 rfl) rfl
theorem q2186 : (Jvm.Cond.methodLink "ThereAndBack$New" (46 : Nat) ({ cls := "ThereAndBack$Expr", name := "eval", desc := "(LThereAndBack;)J" } : Jvm.MethodName)) ∈ lw_all := lw_g (lw_at lw_m9 122 rfl) rfl
theorem q2187 : (Jvm.Cond.constantLong "ThereAndBack$New" (52 : Nat) (12 : Int64)) ∈ lw_all := lw_g (lw_at lw_m9 123 rfl) rfl
theorem q2188 : (Jvm.Cond.methodLinkNest "ThereAndBack$New" (54 : Nat) ({ cls := "ThereAndBack", name := "isIn", desc := "(JJJ)Z" } : Jvm.MethodName) "ThereAndBack") ∈ lw_tbl := lw_at lw_m9 124 rfl
theorem q2189 : (Jvm.Cond.methodLink "ThereAndBack$New" (58 : Nat) ({ cls := "ThereAndBack$Holder", name := "make", desc := "(II)V" } : Jvm.MethodName)) ∈ lw_all := lw_g (lw_at lw_m9 125 rfl) rfl
theorem q2193 : (Jvm.Cond.methodLink "ThereAndBack$New" (30 : Nat) ({ cls := "ThereAndBack$New", name := "end", desc := "(LThereAndBack;)V" } : Jvm.MethodName)) ∈ lw_all := lw_g (lw_at lw_m9 129 rfl) rfl
theorem q2194 : (Jvm.Cond.privateMethod ({ cls := "ThereAndBack$New", name := "end", desc := "(LThereAndBack;)V" } : Jvm.MethodName)) ∈ lw_tbl := lw_at lw_m9 130 rfl
theorem q2195 : (Jvm.Cond.instanceMethod ({ cls := "ThereAndBack$New", name := "end", desc := "(LThereAndBack;)V" } : Jvm.MethodName)) ∈ lw_all := lw_g (lw_at lw_m9 131 rfl) rfl
theorem q2196 : (Jvm.Cond.code ({ cls := "ThereAndBack$New", name := "end", desc := "(LThereAndBack;)V" } : Jvm.MethodName) prog_18_method_5_code (7 : Nat) (Option.none : Option Jvm.ClassFile.FieldType)) ∈ lw_all := lw_g (lw_at lw_m9 132 rfl) rfl
theorem q2197 : (Jvm.Cond.methodLinkNest "ThereAndBack$New" (62 : Nat) ({ cls := "ThereAndBack", name := "rowOf", desc := "(I)LThereAndBack$Holder;" } : Jvm.MethodName) "ThereAndBack") ∈ lw_tbl := lw_at lw_m9 133 rfl
theorem q2198 : (Jvm.Cond.methodLink "ThereAndBack$New" (66 : Nat) ({ cls := "ThereAndBack$Holder", name := "kind", desc := "()I" } : Jvm.MethodName)) ∈ lw_all := lw_g (lw_at lw_m9 134 rfl) rfl
theorem q2199 : (Jvm.Cond.methodLink "ThereAndBack$New" (69 : Nat) ({ cls := "ThereAndBack$Holder", name := "size", desc := "()I" } : Jvm.MethodName)) ∈ lw_all := lw_g (lw_at lw_m9 135 rfl) rfl
theorem q2200 : (Jvm.Cond.methodLink "ThereAndBack$New" (71 : Nat) ({ cls := "ThereAndBack$Holder", name := "get", desc := "(I)J" } : Jvm.MethodName)) ∈ lw_all := lw_g (lw_at lw_m9 136 rfl) rfl
theorem q2232 : (Jvm.Cond.selects "ThereAndBack$New" ({ cls := "ThereAndBack$Single", name := "doBack", desc := "(LThereAndBack;)V" } : Jvm.MethodName) ({ cls := "ThereAndBack$New", name := "doBack", desc := "(LThereAndBack;)V" } : Jvm.MethodName)) ∈ lw_all := lw_g (lw_at lw_m9 168 rfl) rfl
theorem q2233 : (Jvm.Cond.instanceMethod ({ cls := "ThereAndBack$New", name := "doBack", desc := "(LThereAndBack;)V" } : Jvm.MethodName)) ∈ lw_all := lw_g (lw_at lw_m9 169 rfl) rfl
theorem q2234 : (Jvm.Cond.code ({ cls := "ThereAndBack$New", name := "doBack", desc := "(LThereAndBack;)V" } : Jvm.MethodName) prog_18_method_3_code (2 : Nat) (Option.none : Option Jvm.ClassFile.FieldType)) ∈ lw_all := lw_g (lw_at lw_m9 170 rfl) rfl
theorem q3120 : (Jvm.Cond.castable "ThereAndBack$New" "ThereAndBack$Step") ∈ lw_tbl := lw_at lw_m13 96 rfl
theorem q3151 : (Jvm.Cond.castable "ThereAndBack$New" "java/lang/Object") ∈ lw_tbl := lw_at lw_m13 127 rfl
theorem in_X26 : ∀ w ∈ wsX260, w ∈ lw_all := lw_in wsX260 [987, 989, 991, 993] (by decide +kernel) (by decide +kernel)
/-! ThereAndBack$Call -/
set_option maxRecDepth 100000
def RX27 : String := "ThereAndBack$Call"
def TX27 : u_T := fun k => match k with
  | 0 => ("ThereAndBack$Call", "routine", "I", true)
  | _ => ("ThereAndBack$Call", "calls", "Z", true)
def tyX27 : Nat → FieldType := fun k => match k with
  | 0 => .int
  | _ => .boolean
abbrev wsX270 : List Cond := u_ws RX27 TX27 2
theorem nmX27 : ∀ a, a < 2 → ∀ b, b < 2 → a ≠ b → (TX27 a).2.1 ≠ (TX27 b).2.1 := by decide +kernel
theorem tyX27_ok : ∀ k, k < 2 → parseFieldDescriptor (TX27 k).2.2.1 = some (tyX27 k) := by decide +kernel
abbrev cX27_init : ByteArray := prog_3_method_1_code
def yX27_init : MethodName := ⟨RX27, "<init>", "(IZ)V"⟩
def dkwX27_init_0 : List UInt8 := [42, 183, 0, 1, 42, 27, 181, 0, 7, 42, 28, 181, 0, 13, 177]
abbrev dktX27_init_0 : List UInt8 := dkwX27_init_0 ++ []
theorem dksX27_init_0 : cX27_init.data.toList.drop 0 = dktX27_init_0 := by decide +kernel
theorem dX27_init_0 : decode cX27_init 0 = .ok (.aload_n 0, 1) := dk_42 (dk_at dksX27_init_0 0 rfl rfl)
theorem dX27_init_1 : decode cX27_init 1 = .ok (.invokespecial 1, 3) := dk_183 0 1 (dk_at dksX27_init_0 1 rfl rfl)
theorem dX27_init_4 : decode cX27_init 4 = .ok (.aload_n 0, 1) := dk_42 (dk_at dksX27_init_0 4 rfl rfl)
theorem dX27_init_5 : decode cX27_init 5 = .ok (.iload_n 1, 1) := dk_27 (dk_at dksX27_init_0 5 rfl rfl)
theorem dX27_init_6 : decode cX27_init 6 = .ok (.putfield 7, 3) := dk_181 0 7 (dk_at dksX27_init_0 6 rfl rfl)
theorem dX27_init_9 : decode cX27_init 9 = .ok (.aload_n 0, 1) := dk_42 (dk_at dksX27_init_0 9 rfl rfl)
theorem dX27_init_10 : decode cX27_init 10 = .ok (.iload_n 2, 1) := dk_28 (dk_at dksX27_init_0 10 rfl rfl)
theorem dX27_init_11 : decode cX27_init 11 = .ok (.putfield 13, 3) := dk_181 0 13 (dk_at dksX27_init_0 11 rfl rfl)
theorem dX27_init_14 : decode cX27_init 14 = .ok (.return_, 1) := dk_177 (dk_at dksX27_init_0 14 rfl rfl)
abbrev cX27_lay : ByteArray := prog_3_method_2_code
def yX27_lay : MethodName := ⟨RX27, "lay", "(Ljava/util/List;)V"⟩
def dkwX27_lay_0 : List UInt8 := [43, 187, 0, 17, 89, 42, 183, 0, 19, 185, 0, 22, 2, 0, 87, 177]
abbrev dktX27_lay_0 : List UInt8 := dkwX27_lay_0 ++ []
theorem dksX27_lay_0 : cX27_lay.data.toList.drop 0 = dktX27_lay_0 := by decide +kernel
theorem dX27_lay_0 : decode cX27_lay 0 = .ok (.aload_n 1, 1) := dk_43 (dk_at dksX27_lay_0 0 rfl rfl)
theorem dX27_lay_1 : decode cX27_lay 1 = .ok (.new 17, 3) := dk_187 0 17 (dk_at dksX27_lay_0 1 rfl rfl)
theorem dX27_lay_4 : decode cX27_lay 4 = .ok (.dup, 1) := dk_89 (dk_at dksX27_lay_0 4 rfl rfl)
theorem dX27_lay_5 : decode cX27_lay 5 = .ok (.aload_n 0, 1) := dk_42 (dk_at dksX27_lay_0 5 rfl rfl)
theorem dX27_lay_6 : decode cX27_lay 6 = .ok (.invokespecial 19, 3) := dk_183 0 19 (dk_at dksX27_lay_0 6 rfl rfl)
theorem dX27_lay_9 : decode cX27_lay 9 = .ok (.invokeinterface 22 2, 5) := by decide +kernel
theorem dX27_lay_14 : decode cX27_lay 14 = .ok (.pop, 1) := dk_87 (dk_at dksX27_lay_0 14 rfl rfl)
theorem dX27_lay_15 : decode cX27_lay 15 = .ok (.return_, 1) := dk_177 (dk_at dksX27_lay_0 15 rfl rfl)
abbrev cX27_names : ByteArray := prog_3_method_4_code
def yX27_names : MethodName := ⟨RX27, "names", "()I"⟩
theorem dX27_names_0 : decode cX27_names 0 = .ok (.iconst 0, 1) := by decide +kernel
theorem dX27_names_1 : decode cX27_names 1 = .ok (.ireturn, 1) := by decide +kernel
abbrev cX27_print : ByteArray := prog_3_method_3_code
def yX27_print : MethodName := ⟨RX27, "print", "(LThereAndBack;)V"⟩
def dkwX27_print_1 : List UInt8 := [182, 0, 38, 43, 16, 59, 182, 0, 42, 177]
abbrev dktX27_print_1 : List UInt8 := dkwX27_print_1 ++ []
def dkwX27_print_0 : List UInt8 := [43, 42, 180, 0, 13, 153, 0, 8, 18, 28, 167, 0, 5, 18, 30, 182, 0, 32, 43, 42, 180, 0, 7]
abbrev dktX27_print_0 : List UInt8 := dkwX27_print_0 ++ dktX27_print_1
theorem dksX27_print_0 : cX27_print.data.toList.drop 0 = dktX27_print_0 := by decide +kernel
theorem dksX27_print_1 : cX27_print.data.toList.drop 23 = dktX27_print_1 := dk_seg dksX27_print_0 23 rfl rfl
theorem dX27_print_0 : decode cX27_print 0 = .ok (.aload_n 1, 1) := dk_43 (dk_at dksX27_print_0 0 rfl rfl)
theorem dX27_print_1 : decode cX27_print 1 = .ok (.aload_n 0, 1) := dk_42 (dk_at dksX27_print_0 1 rfl rfl)
theorem dX27_print_2 : decode cX27_print 2 = .ok (.getfield 13, 3) := dk_180 0 13 (dk_at dksX27_print_0 2 rfl rfl)
theorem dX27_print_5 : decode cX27_print 5 = .ok (.ifCond .eq 8, 3) := dk_153 0 8 (dk_at dksX27_print_0 5 rfl rfl)
theorem dX27_print_8 : decode cX27_print 8 = .ok (.ldc 28, 2) := dk_18 28 (dk_at dksX27_print_0 8 rfl rfl)
theorem dX27_print_10 : decode cX27_print 10 = .ok (.goto 5, 3) := dk_167 0 5 (dk_at dksX27_print_0 10 rfl rfl)
theorem dX27_print_13 : decode cX27_print 13 = .ok (.ldc 30, 2) := dk_18 30 (dk_at dksX27_print_0 13 rfl rfl)
theorem dX27_print_15 : decode cX27_print 15 = .ok (.invokevirtual 32, 3) := dk_182 0 32 (dk_at dksX27_print_0 15 rfl rfl)
theorem dX27_print_18 : decode cX27_print 18 = .ok (.aload_n 1, 1) := dk_43 (dk_at dksX27_print_0 18 rfl rfl)
theorem dX27_print_19 : decode cX27_print 19 = .ok (.aload_n 0, 1) := dk_42 (dk_at dksX27_print_0 19 rfl rfl)
theorem dX27_print_20 : decode cX27_print 20 = .ok (.getfield 7, 3) := dk_180 0 7 (dk_at dksX27_print_0 20 rfl rfl)
theorem dX27_print_23 : decode cX27_print 23 = .ok (.invokevirtual 38, 3) := dk_182 0 38 (dk_at dksX27_print_1 0 rfl rfl)
theorem dX27_print_26 : decode cX27_print 26 = .ok (.aload_n 1, 1) := dk_43 (dk_at dksX27_print_1 3 rfl rfl)
theorem dX27_print_27 : decode cX27_print 27 = .ok (.bipush 59, 2) := dk_16 59 (dk_at dksX27_print_1 4 rfl rfl)
theorem dX27_print_29 : decode cX27_print 29 = .ok (.invokevirtual 42, 3) := dk_182 0 42 (dk_at dksX27_print_1 6 rfl rfl)
theorem dX27_print_32 : decode cX27_print 32 = .ok (.return_, 1) := dk_177 (dk_at dksX27_print_1 9 rfl rfl)
abbrev cX27_mirror : ByteArray := prog_3_method_5_code
def yX27_mirror : MethodName := ⟨RX27, "mirror", "()LThereAndBack$Step;"⟩
def dkwX27_mirror_0 : List UInt8 := [187, 0, 8, 89, 42, 180, 0, 7, 42, 180, 0, 13, 154, 0, 7, 4, 167, 0, 4, 3, 183, 0, 45, 176]
abbrev dktX27_mirror_0 : List UInt8 := dkwX27_mirror_0 ++ []
theorem dksX27_mirror_0 : cX27_mirror.data.toList.drop 0 = dktX27_mirror_0 := by decide +kernel
theorem dX27_mirror_0 : decode cX27_mirror 0 = .ok (.new 8, 3) := dk_187 0 8 (dk_at dksX27_mirror_0 0 rfl rfl)
theorem dX27_mirror_3 : decode cX27_mirror 3 = .ok (.dup, 1) := dk_89 (dk_at dksX27_mirror_0 3 rfl rfl)
theorem dX27_mirror_4 : decode cX27_mirror 4 = .ok (.aload_n 0, 1) := dk_42 (dk_at dksX27_mirror_0 4 rfl rfl)
theorem dX27_mirror_5 : decode cX27_mirror 5 = .ok (.getfield 7, 3) := dk_180 0 7 (dk_at dksX27_mirror_0 5 rfl rfl)
theorem dX27_mirror_8 : decode cX27_mirror 8 = .ok (.aload_n 0, 1) := dk_42 (dk_at dksX27_mirror_0 8 rfl rfl)
theorem dX27_mirror_9 : decode cX27_mirror 9 = .ok (.getfield 13, 3) := dk_180 0 13 (dk_at dksX27_mirror_0 9 rfl rfl)
theorem dX27_mirror_12 : decode cX27_mirror 12 = .ok (.ifCond .ne 7, 3) := dk_154 0 7 (dk_at dksX27_mirror_0 12 rfl rfl)
theorem dX27_mirror_15 : decode cX27_mirror 15 = .ok (.iconst 1, 1) := dk_4 (dk_at dksX27_mirror_0 15 rfl rfl)
theorem dX27_mirror_16 : decode cX27_mirror 16 = .ok (.goto 4, 3) := dk_167 0 4 (dk_at dksX27_mirror_0 16 rfl rfl)
theorem dX27_mirror_19 : decode cX27_mirror 19 = .ok (.iconst 0, 1) := dk_3 (dk_at dksX27_mirror_0 19 rfl rfl)
theorem dX27_mirror_20 : decode cX27_mirror 20 = .ok (.invokespecial 45, 3) := dk_183 0 45 (dk_at dksX27_mirror_0 20 rfl rfl)
theorem dX27_mirror_23 : decode cX27_mirror 23 = .ok (.areturn, 1) := dk_176 (dk_at dksX27_mirror_0 23 rfl rfl)
theorem q181 : (Jvm.Cond.initialized "ThereAndBack$Call") ∈ lw_all := lw_g (lw_at lw_m1 37 rfl) rfl
theorem q1001 : (Jvm.Cond.instantiable "ThereAndBack$Call" (2 : Nat)) ∈ lw_all := lw_g (lw_at lw_m4 137 rfl) rfl
theorem q1003 : (Jvm.Cond.instanceMethod ({ cls := "ThereAndBack$Call", name := "<init>", desc := "(IZ)V" } : Jvm.MethodName)) ∈ lw_all := lw_g (lw_at lw_m4 139 rfl) rfl
theorem q1004 : (Jvm.Cond.code ({ cls := "ThereAndBack$Call", name := "<init>", desc := "(IZ)V" } : Jvm.MethodName) prog_3_method_1_code (3 : Nat) (Option.none : Option Jvm.ClassFile.FieldType)) ∈ lw_all := lw_g (lw_at lw_m4 140 rfl) rfl
theorem q1005 : (Jvm.Cond.methodLinkNest "ThereAndBack$Call" (1 : Nat) ({ cls := "ThereAndBack$Step", name := "<init>", desc := "()V" } : Jvm.MethodName) "ThereAndBack") ∈ lw_tbl := lw_at lw_m4 141 rfl
theorem q1006 : (Jvm.Cond.fieldLink "ThereAndBack$Call" (7 : Nat) "ThereAndBack$Call" "routine" "I") ∈ lw_all := lw_g (lw_at lw_m4 142 rfl) rfl
theorem q1008 : (Jvm.Cond.fieldLink "ThereAndBack$Call" (13 : Nat) "ThereAndBack$Call" "calls" "Z") ∈ lw_all := lw_g (lw_at lw_m4 144 rfl) rfl
theorem q1011 : (Jvm.Cond.laysFinal "ThereAndBack$Call" "ThereAndBack$Call" "routine" "I") ∈ lw_all := lw_g (lw_at lw_m4 147 rfl) rfl
theorem q1012 : (Jvm.Cond.soleField "ThereAndBack$Call" "routine") ∈ lw_all := lw_g (lw_at lw_m4 148 rfl) rfl
theorem q1013 : (Jvm.Cond.laysFinal "ThereAndBack$Call" "ThereAndBack$Call" "calls" "Z") ∈ lw_all := lw_g (lw_at lw_m4 149 rfl) rfl
theorem q1014 : (Jvm.Cond.soleField "ThereAndBack$Call" "calls") ∈ lw_all := lw_g (lw_at lw_m4 150 rfl) rfl
theorem q1015 : (Jvm.Cond.superclass "ThereAndBack$Call" "ThereAndBack$Step") ∈ lw_all := lw_g (lw_at lw_m4 151 rfl) rfl
theorem q1154 : (Jvm.Cond.selects "ThereAndBack$Call" ({ cls := "java/lang/Object", name := "getClass", desc := "()Ljava/lang/Class;" } : Jvm.MethodName) ({ cls := "java/lang/Object", name := "getClass", desc := "()Ljava/lang/Class;" } : Jvm.MethodName)) ∈ lw_all := lw_g (lw_at lw_m5 50 rfl) rfl
theorem q1251 : (Jvm.Cond.selects "ThereAndBack$Call" ({ cls := "ThereAndBack$Step", name := "lay", desc := "(Ljava/util/List;)V" } : Jvm.MethodName) ({ cls := "ThereAndBack$Call", name := "lay", desc := "(Ljava/util/List;)V" } : Jvm.MethodName)) ∈ lw_all := lw_g (lw_at lw_m5 147 rfl) rfl
theorem q1252 : (Jvm.Cond.instanceMethod ({ cls := "ThereAndBack$Call", name := "lay", desc := "(Ljava/util/List;)V" } : Jvm.MethodName)) ∈ lw_all := lw_g (lw_at lw_m5 148 rfl) rfl
theorem q1253 : (Jvm.Cond.code ({ cls := "ThereAndBack$Call", name := "lay", desc := "(Ljava/util/List;)V" } : Jvm.MethodName) prog_3_method_2_code (2 : Nat) (Option.none : Option Jvm.ClassFile.FieldType)) ∈ lw_all := lw_g (lw_at lw_m5 149 rfl) rfl
theorem q1254 : (Jvm.Cond.classLink "ThereAndBack$Call" (17 : Nat) "ThereAndBack$Enter") ∈ lw_all := lw_g (lw_at lw_m5 150 rfl) rfl
theorem q1256 : (Jvm.Cond.methodLink "ThereAndBack$Call" (19 : Nat) ({ cls := "ThereAndBack$Enter", name := "<init>", desc := "(LThereAndBack$Call;)V" } : Jvm.MethodName)) ∈ lw_all := lw_g (lw_at lw_m5 152 rfl) rfl
theorem q1268 : (Jvm.Cond.interfaceEntry "ThereAndBack$Call" (22 : Nat)) ∈ lw_tbl := lw_at lw_m5 164 rfl
theorem q1269 : (Jvm.Cond.methodLink "ThereAndBack$Call" (22 : Nat) ({ cls := "java/util/List", name := "add", desc := "(Ljava/lang/Object;)Z" } : Jvm.MethodName)) ∈ lw_all := lw_g (lw_at lw_m5 165 rfl) rfl
theorem q1352 : (Jvm.Cond.selects "ThereAndBack$Call" ({ cls := "ThereAndBack$Step", name := "code", desc := "()I" } : Jvm.MethodName) ({ cls := "ThereAndBack$Step", name := "code", desc := "()I" } : Jvm.MethodName)) ∈ lw_all := lw_g (lw_at lw_m6 8 rfl) rfl
theorem q1413 : (Jvm.Cond.selects "ThereAndBack$Call" ({ cls := "ThereAndBack$Step", name := "isOrdinary", desc := "()Z" } : Jvm.MethodName) ({ cls := "ThereAndBack$Step", name := "isOrdinary", desc := "()Z" } : Jvm.MethodName)) ∈ lw_all := lw_g (lw_at lw_m6 69 rfl) rfl
theorem q1432 : (Jvm.Cond.selects "ThereAndBack$Call" ({ cls := "ThereAndBack$Step", name := "braces", desc := "()I" } : Jvm.MethodName) ({ cls := "ThereAndBack$Step", name := "braces", desc := "()I" } : Jvm.MethodName)) ∈ lw_all := lw_g (lw_at lw_m6 88 rfl) rfl
theorem q1479 : (Jvm.Cond.selects "ThereAndBack$Call" ({ cls := "ThereAndBack$Step", name := "names", desc := "()I" } : Jvm.MethodName) ({ cls := "ThereAndBack$Call", name := "names", desc := "()I" } : Jvm.MethodName)) ∈ lw_all := lw_g (lw_at lw_m6 135 rfl) rfl
theorem q1480 : (Jvm.Cond.instanceMethod ({ cls := "ThereAndBack$Call", name := "names", desc := "()I" } : Jvm.MethodName)) ∈ lw_all := lw_g (lw_at lw_m6 136 rfl) rfl
theorem q1481 : (Jvm.Cond.code ({ cls := "ThereAndBack$Call", name := "names", desc := "()I" } : Jvm.MethodName) prog_3_method_4_code (1 : Nat) (Option.some Jvm.ClassFile.FieldType.int)) ∈ lw_all := lw_g (lw_at lw_m6 137 rfl) rfl
theorem q1618 : (Jvm.Cond.selects "ThereAndBack$Call" ({ cls := "ThereAndBack$Step", name := "print", desc := "(LThereAndBack;)V" } : Jvm.MethodName) ({ cls := "ThereAndBack$Call", name := "print", desc := "(LThereAndBack;)V" } : Jvm.MethodName)) ∈ lw_all := lw_g (lw_at lw_m7 34 rfl) rfl
theorem q1619 : (Jvm.Cond.instanceMethod ({ cls := "ThereAndBack$Call", name := "print", desc := "(LThereAndBack;)V" } : Jvm.MethodName)) ∈ lw_all := lw_g (lw_at lw_m7 35 rfl) rfl
theorem q1620 : (Jvm.Cond.code ({ cls := "ThereAndBack$Call", name := "print", desc := "(LThereAndBack;)V" } : Jvm.MethodName) prog_3_method_3_code (2 : Nat) (Option.none : Option Jvm.ClassFile.FieldType)) ∈ lw_all := lw_g (lw_at lw_m7 36 rfl) rfl
theorem q1621 : (Jvm.Cond.stringRef "ThereAndBack$Call" (28 : Nat) "call") ∈ lw_tbl := lw_at lw_m7 37 rfl
theorem q1622 : (Jvm.Cond.stringRef "ThereAndBack$Call" (30 : Nat) "uncall") ∈ lw_tbl := lw_at lw_m7 38 rfl
theorem q1623 : (Jvm.Cond.methodLinkNest "ThereAndBack$Call" (32 : Nat) ({ cls := "ThereAndBack", name := "printWord", desc := "(Ljava/lang/String;)V" } : Jvm.MethodName) "ThereAndBack") ∈ lw_tbl := lw_at lw_m7 39 rfl
theorem q1624 : (Jvm.Cond.methodLinkNest "ThereAndBack$Call" (38 : Nat) ({ cls := "ThereAndBack", name := "printNumber", desc := "(I)V" } : Jvm.MethodName) "ThereAndBack") ∈ lw_tbl := lw_at lw_m7 40 rfl
theorem q1625 : (Jvm.Cond.methodLinkNest "ThereAndBack$Call" (42 : Nat) ({ cls := "ThereAndBack", name := "printBehind", desc := "(I)V" } : Jvm.MethodName) "ThereAndBack") ∈ lw_tbl := lw_at lw_m7 41 rfl
theorem q1759 : (Jvm.Cond.selects "ThereAndBack$Call" ({ cls := "ThereAndBack$Step", name := "mirror", desc := "()LThereAndBack$Step;" } : Jvm.MethodName) ({ cls := "ThereAndBack$Call", name := "mirror", desc := "()LThereAndBack$Step;" } : Jvm.MethodName)) ∈ lw_all := lw_g (lw_at lw_m7 175 rfl) rfl
theorem q1760 : (Jvm.Cond.instanceMethod ({ cls := "ThereAndBack$Call", name := "mirror", desc := "()LThereAndBack$Step;" } : Jvm.MethodName)) ∈ lw_all := lw_g (lw_at lw_m7 176 rfl) rfl
theorem q1761 : (Jvm.Cond.code ({ cls := "ThereAndBack$Call", name := "mirror", desc := "()LThereAndBack$Step;" } : Jvm.MethodName) prog_3_method_5_code (1 : Nat) (Option.some (Jvm.ClassFile.FieldType.object "ThereAndBack$Step"))) ∈ lw_all := lw_g (lw_at lw_m7 177 rfl) rfl
theorem q1762 : (Jvm.Cond.classLink "ThereAndBack$Call" (8 : Nat) "ThereAndBack$Call") ∈ lw_all := lw_g (lw_at lw_m7 178 rfl) rfl
theorem q1763 : (Jvm.Cond.methodLink "ThereAndBack$Call" (45 : Nat) ({ cls := "ThereAndBack$Call", name := "<init>", desc := "(IZ)V" } : Jvm.MethodName)) ∈ lw_all := lw_g (lw_at lw_m7 179 rfl) rfl
theorem q1847 : (Jvm.Cond.selects "ThereAndBack$Call" ({ cls := "ThereAndBack$Step", name := "turn", desc := "(Ljava/util/List;I)V" } : Jvm.MethodName) ({ cls := "ThereAndBack$Step", name := "turn", desc := "(Ljava/util/List;I)V" } : Jvm.MethodName)) ∈ lw_all := lw_g (lw_at lw_m8 23 rfl) rfl
theorem q2000 : (Jvm.Cond.selects "ThereAndBack$Call" ({ cls := "ThereAndBack$Step", name := "walk", desc := "(LThereAndBack;)V" } : Jvm.MethodName) ({ cls := "ThereAndBack$Step", name := "walk", desc := "(LThereAndBack;)V" } : Jvm.MethodName)) ∈ lw_all := lw_g (lw_at lw_m8 176 rfl) rfl
theorem q3115 : (Jvm.Cond.castable "ThereAndBack$Call" "ThereAndBack$Step") ∈ lw_tbl := lw_at lw_m13 91 rfl
theorem q3152 : (Jvm.Cond.castable "ThereAndBack$Call" "java/lang/Object") ∈ lw_tbl := lw_at lw_m13 128 rfl
theorem in_X27 : ∀ w ∈ wsX270, w ∈ lw_all := lw_in wsX270 [1011, 1013] (by decide +kernel) (by decide +kernel)
/-! ThereAndBack$Forked -/
set_option maxRecDepth 100000
def RX28 : String := "ThereAndBack$Forked"
abbrev cX28_init : ByteArray := prog_9_method_1_code
def yX28_init : MethodName := ⟨RX28, "<init>", "(LThereAndBack$Expr;LThereAndBack$Part;LThereAndBack$Part;LThereAndBack$Expr;)V"⟩
def dkwX28_init_1 : List UInt8 := [181, 0, 20, 177]
abbrev dktX28_init_1 : List UInt8 := dkwX28_init_1 ++ []
def dkwX28_init_0 : List UInt8 := [42, 183, 0, 1, 42, 43, 181, 0, 7, 42, 44, 181, 0, 13, 42, 45, 181, 0, 17, 42, 25, 4]
abbrev dktX28_init_0 : List UInt8 := dkwX28_init_0 ++ dktX28_init_1
theorem dksX28_init_0 : cX28_init.data.toList.drop 0 = dktX28_init_0 := by decide +kernel
theorem dksX28_init_1 : cX28_init.data.toList.drop 22 = dktX28_init_1 := dk_seg dksX28_init_0 22 rfl rfl
theorem dX28_init_0 : decode cX28_init 0 = .ok (.aload_n 0, 1) := dk_42 (dk_at dksX28_init_0 0 rfl rfl)
theorem dX28_init_1 : decode cX28_init 1 = .ok (.invokespecial 1, 3) := dk_183 0 1 (dk_at dksX28_init_0 1 rfl rfl)
theorem dX28_init_4 : decode cX28_init 4 = .ok (.aload_n 0, 1) := dk_42 (dk_at dksX28_init_0 4 rfl rfl)
theorem dX28_init_5 : decode cX28_init 5 = .ok (.aload_n 1, 1) := dk_43 (dk_at dksX28_init_0 5 rfl rfl)
theorem dX28_init_6 : decode cX28_init 6 = .ok (.putfield 7, 3) := dk_181 0 7 (dk_at dksX28_init_0 6 rfl rfl)
theorem dX28_init_9 : decode cX28_init 9 = .ok (.aload_n 0, 1) := dk_42 (dk_at dksX28_init_0 9 rfl rfl)
theorem dX28_init_10 : decode cX28_init 10 = .ok (.aload_n 2, 1) := dk_44 (dk_at dksX28_init_0 10 rfl rfl)
theorem dX28_init_11 : decode cX28_init 11 = .ok (.putfield 13, 3) := dk_181 0 13 (dk_at dksX28_init_0 11 rfl rfl)
theorem dX28_init_14 : decode cX28_init 14 = .ok (.aload_n 0, 1) := dk_42 (dk_at dksX28_init_0 14 rfl rfl)
theorem dX28_init_15 : decode cX28_init 15 = .ok (.aload_n 3, 1) := dk_45 (dk_at dksX28_init_0 15 rfl rfl)
theorem dX28_init_16 : decode cX28_init 16 = .ok (.putfield 17, 3) := dk_181 0 17 (dk_at dksX28_init_0 16 rfl rfl)
theorem dX28_init_19 : decode cX28_init 19 = .ok (.aload_n 0, 1) := dk_42 (dk_at dksX28_init_0 19 rfl rfl)
theorem dX28_init_20 : decode cX28_init 20 = .ok (.aload 4, 2) := dk_25 4 (dk_at dksX28_init_0 20 rfl rfl)
theorem dX28_init_22 : decode cX28_init 22 = .ok (.putfield 20, 3) := dk_181 0 20 (dk_at dksX28_init_1 0 rfl rfl)
theorem dX28_init_25 : decode cX28_init 25 = .ok (.return_, 1) := dk_177 (dk_at dksX28_init_1 3 rfl rfl)
abbrev cX28_code : ByteArray := prog_9_method_2_code
def yX28_code : MethodName := ⟨RX28, "code", "()I"⟩
def dkwX28_code_0 : List UInt8 := [6, 42, 180, 0, 13, 182, 0, 23, 96, 42, 180, 0, 17, 182, 0, 23, 96, 172]
abbrev dktX28_code_0 : List UInt8 := dkwX28_code_0 ++ []
theorem dksX28_code_0 : cX28_code.data.toList.drop 0 = dktX28_code_0 := by decide +kernel
theorem dX28_code_0 : decode cX28_code 0 = .ok (.iconst 3, 1) := dk_6 (dk_at dksX28_code_0 0 rfl rfl)
theorem dX28_code_1 : decode cX28_code 1 = .ok (.aload_n 0, 1) := dk_42 (dk_at dksX28_code_0 1 rfl rfl)
theorem dX28_code_2 : decode cX28_code 2 = .ok (.getfield 13, 3) := dk_180 0 13 (dk_at dksX28_code_0 2 rfl rfl)
theorem dX28_code_5 : decode cX28_code 5 = .ok (.invokevirtual 23, 3) := dk_182 0 23 (dk_at dksX28_code_0 5 rfl rfl)
theorem dX28_code_8 : decode cX28_code 8 = .ok (.iadd, 1) := dk_96 (dk_at dksX28_code_0 8 rfl rfl)
theorem dX28_code_9 : decode cX28_code 9 = .ok (.aload_n 0, 1) := dk_42 (dk_at dksX28_code_0 9 rfl rfl)
theorem dX28_code_10 : decode cX28_code 10 = .ok (.getfield 17, 3) := dk_180 0 17 (dk_at dksX28_code_0 10 rfl rfl)
theorem dX28_code_13 : decode cX28_code 13 = .ok (.invokevirtual 23, 3) := dk_182 0 23 (dk_at dksX28_code_0 13 rfl rfl)
theorem dX28_code_16 : decode cX28_code 16 = .ok (.iadd, 1) := dk_96 (dk_at dksX28_code_0 16 rfl rfl)
theorem dX28_code_17 : decode cX28_code 17 = .ok (.ireturn, 1) := dk_172 (dk_at dksX28_code_0 17 rfl rfl)
abbrev cX28_braces : ByteArray := prog_9_method_4_code
def yX28_braces : MethodName := ⟨RX28, "braces", "()I"⟩
def dkwX28_braces_0 : List UInt8 := [4, 42, 180, 0, 13, 182, 0, 35, 42, 180, 0, 17, 182, 0, 35, 184, 0, 38, 96, 172]
abbrev dktX28_braces_0 : List UInt8 := dkwX28_braces_0 ++ []
theorem dksX28_braces_0 : cX28_braces.data.toList.drop 0 = dktX28_braces_0 := by decide +kernel
theorem dX28_braces_0 : decode cX28_braces 0 = .ok (.iconst 1, 1) := dk_4 (dk_at dksX28_braces_0 0 rfl rfl)
theorem dX28_braces_1 : decode cX28_braces 1 = .ok (.aload_n 0, 1) := dk_42 (dk_at dksX28_braces_0 1 rfl rfl)
theorem dX28_braces_2 : decode cX28_braces 2 = .ok (.getfield 13, 3) := dk_180 0 13 (dk_at dksX28_braces_0 2 rfl rfl)
theorem dX28_braces_5 : decode cX28_braces 5 = .ok (.invokevirtual 35, 3) := dk_182 0 35 (dk_at dksX28_braces_0 5 rfl rfl)
theorem dX28_braces_8 : decode cX28_braces 8 = .ok (.aload_n 0, 1) := dk_42 (dk_at dksX28_braces_0 8 rfl rfl)
theorem dX28_braces_9 : decode cX28_braces 9 = .ok (.getfield 17, 3) := dk_180 0 17 (dk_at dksX28_braces_0 9 rfl rfl)
theorem dX28_braces_12 : decode cX28_braces 12 = .ok (.invokevirtual 35, 3) := dk_182 0 35 (dk_at dksX28_braces_0 12 rfl rfl)
theorem dX28_braces_15 : decode cX28_braces 15 = .ok (.invokestatic 38, 3) := dk_184 0 38 (dk_at dksX28_braces_0 15 rfl rfl)
theorem dX28_braces_18 : decode cX28_braces 18 = .ok (.iadd, 1) := dk_96 (dk_at dksX28_braces_0 18 rfl rfl)
theorem dX28_braces_19 : decode cX28_braces 19 = .ok (.ireturn, 1) := dk_172 (dk_at dksX28_braces_0 19 rfl rfl)
abbrev cX28_names : ByteArray := prog_9_method_3_code
def yX28_names : MethodName := ⟨RX28, "names", "()I"⟩
def dkwX28_names_1 : List UInt8 := [180, 0, 20, 182, 0, 29, 128, 172]
abbrev dktX28_names_1 : List UInt8 := dkwX28_names_1 ++ []
def dkwX28_names_0 : List UInt8 := [42, 180, 0, 7, 182, 0, 29, 42, 180, 0, 13, 182, 0, 34, 128, 42, 180, 0, 17, 182, 0, 34, 128, 42]
abbrev dktX28_names_0 : List UInt8 := dkwX28_names_0 ++ dktX28_names_1
theorem dksX28_names_0 : cX28_names.data.toList.drop 0 = dktX28_names_0 := by decide +kernel
theorem dksX28_names_1 : cX28_names.data.toList.drop 24 = dktX28_names_1 := dk_seg dksX28_names_0 24 rfl rfl
theorem dX28_names_0 : decode cX28_names 0 = .ok (.aload_n 0, 1) := dk_42 (dk_at dksX28_names_0 0 rfl rfl)
theorem dX28_names_1 : decode cX28_names 1 = .ok (.getfield 7, 3) := dk_180 0 7 (dk_at dksX28_names_0 1 rfl rfl)
theorem dX28_names_4 : decode cX28_names 4 = .ok (.invokevirtual 29, 3) := dk_182 0 29 (dk_at dksX28_names_0 4 rfl rfl)
theorem dX28_names_7 : decode cX28_names 7 = .ok (.aload_n 0, 1) := dk_42 (dk_at dksX28_names_0 7 rfl rfl)
theorem dX28_names_8 : decode cX28_names 8 = .ok (.getfield 13, 3) := dk_180 0 13 (dk_at dksX28_names_0 8 rfl rfl)
theorem dX28_names_11 : decode cX28_names 11 = .ok (.invokevirtual 34, 3) := dk_182 0 34 (dk_at dksX28_names_0 11 rfl rfl)
theorem dX28_names_14 : decode cX28_names 14 = .ok (.ior, 1) := dk_128 (dk_at dksX28_names_0 14 rfl rfl)
theorem dX28_names_15 : decode cX28_names 15 = .ok (.aload_n 0, 1) := dk_42 (dk_at dksX28_names_0 15 rfl rfl)
theorem dX28_names_16 : decode cX28_names 16 = .ok (.getfield 17, 3) := dk_180 0 17 (dk_at dksX28_names_0 16 rfl rfl)
theorem dX28_names_19 : decode cX28_names 19 = .ok (.invokevirtual 34, 3) := dk_182 0 34 (dk_at dksX28_names_0 19 rfl rfl)
theorem dX28_names_22 : decode cX28_names 22 = .ok (.ior, 1) := dk_128 (dk_at dksX28_names_0 22 rfl rfl)
theorem dX28_names_23 : decode cX28_names 23 = .ok (.aload_n 0, 1) := dk_42 (dk_at dksX28_names_0 23 rfl rfl)
theorem dX28_names_24 : decode cX28_names 24 = .ok (.getfield 20, 3) := dk_180 0 20 (dk_at dksX28_names_1 0 rfl rfl)
theorem dX28_names_27 : decode cX28_names 27 = .ok (.invokevirtual 29, 3) := dk_182 0 29 (dk_at dksX28_names_1 3 rfl rfl)
theorem dX28_names_30 : decode cX28_names 30 = .ok (.ior, 1) := dk_128 (dk_at dksX28_names_1 6 rfl rfl)
theorem dX28_names_31 : decode cX28_names 31 = .ok (.ireturn, 1) := dk_172 (dk_at dksX28_names_1 7 rfl rfl)
abbrev cX28_printBy : ByteArray := prog_9_method_5_code
def yX28_printBy : MethodName := ⟨RX28, "printBy", "(LThereAndBack;Ljava/lang/String;Ljava/lang/String;Ljava/lang/String;)V"⟩
def dkwX28_printBy_2 : List UInt8 := [182, 0, 50, 43, 16, 59, 182, 0, 57, 177]
abbrev dktX28_printBy_2 : List UInt8 := dkwX28_printBy_2 ++ []
def dkwX28_printBy_1 : List UInt8 := [182, 0, 44, 42, 180, 0, 17, 43, 182, 0, 54, 43, 25, 4, 182, 0, 44, 42, 180, 0, 20, 43]
abbrev dktX28_printBy_1 : List UInt8 := dkwX28_printBy_1 ++ dktX28_printBy_2
def dkwX28_printBy_0 : List UInt8 := [43, 44, 182, 0, 44, 42, 180, 0, 7, 43, 182, 0, 50, 42, 180, 0, 13, 43, 182, 0, 54, 43, 45]
abbrev dktX28_printBy_0 : List UInt8 := dkwX28_printBy_0 ++ dktX28_printBy_1
theorem dksX28_printBy_0 : cX28_printBy.data.toList.drop 0 = dktX28_printBy_0 := by decide +kernel
theorem dksX28_printBy_1 : cX28_printBy.data.toList.drop 23 = dktX28_printBy_1 := dk_seg dksX28_printBy_0 23 rfl rfl
theorem dksX28_printBy_2 : cX28_printBy.data.toList.drop 45 = dktX28_printBy_2 := dk_seg dksX28_printBy_1 22 rfl rfl
theorem dX28_printBy_0 : decode cX28_printBy 0 = .ok (.aload_n 1, 1) := dk_43 (dk_at dksX28_printBy_0 0 rfl rfl)
theorem dX28_printBy_1 : decode cX28_printBy 1 = .ok (.aload_n 2, 1) := dk_44 (dk_at dksX28_printBy_0 1 rfl rfl)
theorem dX28_printBy_2 : decode cX28_printBy 2 = .ok (.invokevirtual 44, 3) := dk_182 0 44 (dk_at dksX28_printBy_0 2 rfl rfl)
theorem dX28_printBy_5 : decode cX28_printBy 5 = .ok (.aload_n 0, 1) := dk_42 (dk_at dksX28_printBy_0 5 rfl rfl)
theorem dX28_printBy_6 : decode cX28_printBy 6 = .ok (.getfield 7, 3) := dk_180 0 7 (dk_at dksX28_printBy_0 6 rfl rfl)
theorem dX28_printBy_9 : decode cX28_printBy 9 = .ok (.aload_n 1, 1) := dk_43 (dk_at dksX28_printBy_0 9 rfl rfl)
theorem dX28_printBy_10 : decode cX28_printBy 10 = .ok (.invokevirtual 50, 3) := dk_182 0 50 (dk_at dksX28_printBy_0 10 rfl rfl)
theorem dX28_printBy_13 : decode cX28_printBy 13 = .ok (.aload_n 0, 1) := dk_42 (dk_at dksX28_printBy_0 13 rfl rfl)
theorem dX28_printBy_14 : decode cX28_printBy 14 = .ok (.getfield 13, 3) := dk_180 0 13 (dk_at dksX28_printBy_0 14 rfl rfl)
theorem dX28_printBy_17 : decode cX28_printBy 17 = .ok (.aload_n 1, 1) := dk_43 (dk_at dksX28_printBy_0 17 rfl rfl)
theorem dX28_printBy_18 : decode cX28_printBy 18 = .ok (.invokevirtual 54, 3) := dk_182 0 54 (dk_at dksX28_printBy_0 18 rfl rfl)
theorem dX28_printBy_21 : decode cX28_printBy 21 = .ok (.aload_n 1, 1) := dk_43 (dk_at dksX28_printBy_0 21 rfl rfl)
theorem dX28_printBy_22 : decode cX28_printBy 22 = .ok (.aload_n 3, 1) := dk_45 (dk_at dksX28_printBy_0 22 rfl rfl)
theorem dX28_printBy_23 : decode cX28_printBy 23 = .ok (.invokevirtual 44, 3) := dk_182 0 44 (dk_at dksX28_printBy_1 0 rfl rfl)
theorem dX28_printBy_26 : decode cX28_printBy 26 = .ok (.aload_n 0, 1) := dk_42 (dk_at dksX28_printBy_1 3 rfl rfl)
theorem dX28_printBy_27 : decode cX28_printBy 27 = .ok (.getfield 17, 3) := dk_180 0 17 (dk_at dksX28_printBy_1 4 rfl rfl)
theorem dX28_printBy_30 : decode cX28_printBy 30 = .ok (.aload_n 1, 1) := dk_43 (dk_at dksX28_printBy_1 7 rfl rfl)
theorem dX28_printBy_31 : decode cX28_printBy 31 = .ok (.invokevirtual 54, 3) := dk_182 0 54 (dk_at dksX28_printBy_1 8 rfl rfl)
theorem dX28_printBy_34 : decode cX28_printBy 34 = .ok (.aload_n 1, 1) := dk_43 (dk_at dksX28_printBy_1 11 rfl rfl)
theorem dX28_printBy_35 : decode cX28_printBy 35 = .ok (.aload 4, 2) := dk_25 4 (dk_at dksX28_printBy_1 12 rfl rfl)
theorem dX28_printBy_37 : decode cX28_printBy 37 = .ok (.invokevirtual 44, 3) := dk_182 0 44 (dk_at dksX28_printBy_1 14 rfl rfl)
theorem dX28_printBy_40 : decode cX28_printBy 40 = .ok (.aload_n 0, 1) := dk_42 (dk_at dksX28_printBy_1 17 rfl rfl)
theorem dX28_printBy_41 : decode cX28_printBy 41 = .ok (.getfield 20, 3) := dk_180 0 20 (dk_at dksX28_printBy_1 18 rfl rfl)
theorem dX28_printBy_44 : decode cX28_printBy 44 = .ok (.aload_n 1, 1) := dk_43 (dk_at dksX28_printBy_1 21 rfl rfl)
theorem dX28_printBy_45 : decode cX28_printBy 45 = .ok (.invokevirtual 50, 3) := dk_182 0 50 (dk_at dksX28_printBy_2 0 rfl rfl)
theorem dX28_printBy_48 : decode cX28_printBy 48 = .ok (.aload_n 1, 1) := dk_43 (dk_at dksX28_printBy_2 3 rfl rfl)
theorem dX28_printBy_49 : decode cX28_printBy 49 = .ok (.bipush 59, 2) := dk_16 59 (dk_at dksX28_printBy_2 4 rfl rfl)
theorem dX28_printBy_51 : decode cX28_printBy 51 = .ok (.invokevirtual 57, 3) := dk_182 0 57 (dk_at dksX28_printBy_2 6 rfl rfl)
theorem dX28_printBy_54 : decode cX28_printBy 54 = .ok (.return_, 1) := dk_177 (dk_at dksX28_printBy_2 9 rfl rfl)
theorem q182 : (Jvm.Cond.initialized "ThereAndBack$Forked") ∈ lw_all := lw_g (lw_at lw_m1 38 rfl) rfl
theorem q1032 : (Jvm.Cond.instanceMethod ({ cls := "ThereAndBack$Forked", name := "<init>", desc := "(LThereAndBack$Expr;LThereAndBack$Part;LThereAndBack$Part;LThereAndBack$Expr;)V" } : Jvm.MethodName)) ∈ lw_all := lw_g (lw_at lw_m4 168 rfl) rfl
theorem q1033 : (Jvm.Cond.code ({ cls := "ThereAndBack$Forked", name := "<init>", desc := "(LThereAndBack$Expr;LThereAndBack$Part;LThereAndBack$Part;LThereAndBack$Expr;)V" } : Jvm.MethodName) prog_9_method_1_code (5 : Nat) (Option.none : Option Jvm.ClassFile.FieldType)) ∈ lw_all := lw_g (lw_at lw_m4 169 rfl) rfl
theorem q1034 : (Jvm.Cond.methodLinkNest "ThereAndBack$Forked" (1 : Nat) ({ cls := "ThereAndBack$Step", name := "<init>", desc := "()V" } : Jvm.MethodName) "ThereAndBack") ∈ lw_tbl := lw_at lw_m4 170 rfl
theorem q1035 : (Jvm.Cond.fieldLink "ThereAndBack$Forked" (7 : Nat) "ThereAndBack$Forked" "ahead" "LThereAndBack$Expr;") ∈ lw_all := lw_g (lw_at lw_m4 171 rfl) rfl
theorem q1041 : (Jvm.Cond.fieldLink "ThereAndBack$Forked" (13 : Nat) "ThereAndBack$Forked" "first" "LThereAndBack$Part;") ∈ lw_all := lw_g (lw_at lw_m4 177 rfl) rfl
theorem q1047 : (Jvm.Cond.fieldLink "ThereAndBack$Forked" (17 : Nat) "ThereAndBack$Forked" "second" "LThereAndBack$Part;") ∈ lw_all := lw_g (lw_at lw_m4 183 rfl) rfl
theorem q1053 : (Jvm.Cond.fieldLink "ThereAndBack$Forked" (20 : Nat) "ThereAndBack$Forked" "behind" "LThereAndBack$Expr;") ∈ lw_all := lw_g (lw_at lw_m4 189 rfl) rfl
theorem q1060 : (Jvm.Cond.soleField "ThereAndBack$Forked" "ahead") ∈ lw_all := lw_g (lw_at lw_m4 196 rfl) rfl
theorem q1062 : (Jvm.Cond.soleField "ThereAndBack$Forked" "first") ∈ lw_all := lw_g (lw_at lw_m4 198 rfl) rfl
theorem q1064 : (Jvm.Cond.soleField "ThereAndBack$Forked" "second") ∈ lw_all := lw_g (lw_at lw_m4 200 rfl) rfl
theorem q1066 : (Jvm.Cond.soleField "ThereAndBack$Forked" "behind") ∈ lw_all := lw_g (lw_at lw_m4 202 rfl) rfl
theorem q1355 : (Jvm.Cond.instanceMethod ({ cls := "ThereAndBack$Forked", name := "code", desc := "()I" } : Jvm.MethodName)) ∈ lw_all := lw_g (lw_at lw_m6 11 rfl) rfl
theorem q1356 : (Jvm.Cond.code ({ cls := "ThereAndBack$Forked", name := "code", desc := "()I" } : Jvm.MethodName) prog_9_method_2_code (1 : Nat) (Option.some Jvm.ClassFile.FieldType.int)) ∈ lw_all := lw_g (lw_at lw_m6 12 rfl) rfl
theorem q1357 : (Jvm.Cond.methodLink "ThereAndBack$Forked" (23 : Nat) ({ cls := "ThereAndBack$Part", name := "code", desc := "()I" } : Jvm.MethodName)) ∈ lw_all := lw_g (lw_at lw_m6 13 rfl) rfl
theorem q1435 : (Jvm.Cond.instanceMethod ({ cls := "ThereAndBack$Forked", name := "braces", desc := "()I" } : Jvm.MethodName)) ∈ lw_all := lw_g (lw_at lw_m6 91 rfl) rfl
theorem q1436 : (Jvm.Cond.code ({ cls := "ThereAndBack$Forked", name := "braces", desc := "()I" } : Jvm.MethodName) prog_9_method_4_code (1 : Nat) (Option.some Jvm.ClassFile.FieldType.int)) ∈ lw_all := lw_g (lw_at lw_m6 92 rfl) rfl
theorem q1437 : (Jvm.Cond.methodLink "ThereAndBack$Forked" (35 : Nat) ({ cls := "ThereAndBack$Part", name := "braces", desc := "()I" } : Jvm.MethodName)) ∈ lw_all := lw_g (lw_at lw_m6 93 rfl) rfl
theorem q1438 : (Jvm.Cond.methodLink "ThereAndBack$Forked" (38 : Nat) ({ cls := "java/lang/Math", name := "max", desc := "(II)I" } : Jvm.MethodName)) ∈ lw_all := lw_g (lw_at lw_m6 94 rfl) rfl
theorem q1493 : (Jvm.Cond.instanceMethod ({ cls := "ThereAndBack$Forked", name := "names", desc := "()I" } : Jvm.MethodName)) ∈ lw_all := lw_g (lw_at lw_m6 149 rfl) rfl
theorem q1494 : (Jvm.Cond.code ({ cls := "ThereAndBack$Forked", name := "names", desc := "()I" } : Jvm.MethodName) prog_9_method_3_code (1 : Nat) (Option.some Jvm.ClassFile.FieldType.int)) ∈ lw_all := lw_g (lw_at lw_m6 150 rfl) rfl
theorem q1495 : (Jvm.Cond.methodLink "ThereAndBack$Forked" (29 : Nat) ({ cls := "ThereAndBack$Expr", name := "names", desc := "()I" } : Jvm.MethodName)) ∈ lw_all := lw_g (lw_at lw_m6 151 rfl) rfl
theorem q1496 : (Jvm.Cond.methodLink "ThereAndBack$Forked" (34 : Nat) ({ cls := "ThereAndBack$Part", name := "names", desc := "()I" } : Jvm.MethodName)) ∈ lw_all := lw_g (lw_at lw_m6 152 rfl) rfl
theorem q1653 : (Jvm.Cond.declares ({ cls := "ThereAndBack$Forked", name := "printBy", desc := "(LThereAndBack;Ljava/lang/String;Ljava/lang/String;Ljava/lang/String;)V" } : Jvm.MethodName)) ∈ lw_tbl := lw_at lw_m7 69 rfl
theorem q1655 : (Jvm.Cond.instanceMethod ({ cls := "ThereAndBack$Forked", name := "printBy", desc := "(LThereAndBack;Ljava/lang/String;Ljava/lang/String;Ljava/lang/String;)V" } : Jvm.MethodName)) ∈ lw_all := lw_g (lw_at lw_m7 71 rfl) rfl
theorem q1656 : (Jvm.Cond.code ({ cls := "ThereAndBack$Forked", name := "printBy", desc := "(LThereAndBack;Ljava/lang/String;Ljava/lang/String;Ljava/lang/String;)V" } : Jvm.MethodName) prog_9_method_5_code (5 : Nat) (Option.none : Option Jvm.ClassFile.FieldType)) ∈ lw_all := lw_g (lw_at lw_m7 72 rfl) rfl
theorem q1657 : (Jvm.Cond.methodLinkNest "ThereAndBack$Forked" (44 : Nat) ({ cls := "ThereAndBack", name := "printWord", desc := "(Ljava/lang/String;)V" } : Jvm.MethodName) "ThereAndBack") ∈ lw_tbl := lw_at lw_m7 73 rfl
theorem q1658 : (Jvm.Cond.methodLink "ThereAndBack$Forked" (50 : Nat) ({ cls := "ThereAndBack$Expr", name := "print", desc := "(LThereAndBack;)V" } : Jvm.MethodName)) ∈ lw_all := lw_g (lw_at lw_m7 74 rfl) rfl
theorem q1659 : (Jvm.Cond.methodLink "ThereAndBack$Forked" (54 : Nat) ({ cls := "ThereAndBack$Part", name := "printBraced", desc := "(LThereAndBack;)V" } : Jvm.MethodName)) ∈ lw_all := lw_g (lw_at lw_m7 75 rfl) rfl
theorem q1665 : (Jvm.Cond.methodLinkNest "ThereAndBack$Forked" (57 : Nat) ({ cls := "ThereAndBack", name := "printBehind", desc := "(I)V" } : Jvm.MethodName) "ThereAndBack") ∈ lw_tbl := lw_at lw_m7 81 rfl
/-! ThereAndBack$If -/
set_option maxRecDepth 100000
def RX29 : String := "ThereAndBack$If"
def TX29 : u_T := fun k => match k with
  | 0 => ("ThereAndBack$Forked", "ahead", "LThereAndBack$Expr;", true)
  | 1 => ("ThereAndBack$Forked", "first", "LThereAndBack$Part;", true)
  | 2 => ("ThereAndBack$Forked", "second", "LThereAndBack$Part;", true)
  | _ => ("ThereAndBack$Forked", "behind", "LThereAndBack$Expr;", true)
def tyX29 : Nat → FieldType := fun k => match k with
  | 0 => .object "ThereAndBack$Expr"
  | 1 => .object "ThereAndBack$Part"
  | 2 => .object "ThereAndBack$Part"
  | _ => .object "ThereAndBack$Expr"
abbrev wsX290 : List Cond := u_ws RX29 TX29 4
theorem nmX29 : ∀ a, a < 4 → ∀ b, b < 4 → a ≠ b → (TX29 a).2.1 ≠ (TX29 b).2.1 := by decide +kernel
theorem tyX29_ok : ∀ k, k < 4 → parseFieldDescriptor (TX29 k).2.2.1 = some (tyX29 k) := by decide +kernel
abbrev cX29_init : ByteArray := prog_12_method_1_code
def yX29_init : MethodName := ⟨RX29, "<init>", "(LThereAndBack$Expr;LThereAndBack$Part;LThereAndBack$Part;LThereAndBack$Expr;)V"⟩
def dkwX29_init_0 : List UInt8 := [42, 43, 44, 45, 25, 4, 183, 0, 1, 177]
abbrev dktX29_init_0 : List UInt8 := dkwX29_init_0 ++ []
theorem dksX29_init_0 : cX29_init.data.toList.drop 0 = dktX29_init_0 := by decide +kernel
theorem dX29_init_0 : decode cX29_init 0 = .ok (.aload_n 0, 1) := dk_42 (dk_at dksX29_init_0 0 rfl rfl)
theorem dX29_init_1 : decode cX29_init 1 = .ok (.aload_n 1, 1) := dk_43 (dk_at dksX29_init_0 1 rfl rfl)
theorem dX29_init_2 : decode cX29_init 2 = .ok (.aload_n 2, 1) := dk_44 (dk_at dksX29_init_0 2 rfl rfl)
theorem dX29_init_3 : decode cX29_init 3 = .ok (.aload_n 3, 1) := dk_45 (dk_at dksX29_init_0 3 rfl rfl)
theorem dX29_init_4 : decode cX29_init 4 = .ok (.aload 4, 2) := dk_25 4 (dk_at dksX29_init_0 4 rfl rfl)
theorem dX29_init_6 : decode cX29_init 6 = .ok (.invokespecial 1, 3) := dk_183 0 1 (dk_at dksX29_init_0 6 rfl rfl)
theorem dX29_init_9 : decode cX29_init 9 = .ok (.return_, 1) := dk_177 (dk_at dksX29_init_0 9 rfl rfl)
abbrev cX29_lay : ByteArray := prog_12_method_4_code
def yX29_lay : MethodName := ⟨RX29, "lay", "(Ljava/util/List;)V"⟩
def dkwX29_lay_1 : List UInt8 := [42, 5, 183, 0, 42, 58, 4, 43, 42, 44, 45, 25, 4, 184, 0, 45, 177]
abbrev dktX29_lay_1 : List UInt8 := dkwX29_lay_1 ++ []
def dkwX29_lay_0 : List UInt8 := [187, 0, 40, 89, 42, 3, 183, 0, 42, 77, 187, 0, 40, 89, 42, 4, 183, 0, 42, 78, 187, 0, 40, 89]
abbrev dktX29_lay_0 : List UInt8 := dkwX29_lay_0 ++ dktX29_lay_1
theorem dksX29_lay_0 : cX29_lay.data.toList.drop 0 = dktX29_lay_0 := by decide +kernel
theorem dksX29_lay_1 : cX29_lay.data.toList.drop 24 = dktX29_lay_1 := dk_seg dksX29_lay_0 24 rfl rfl
theorem dX29_lay_0 : decode cX29_lay 0 = .ok (.new 40, 3) := dk_187 0 40 (dk_at dksX29_lay_0 0 rfl rfl)
theorem dX29_lay_3 : decode cX29_lay 3 = .ok (.dup, 1) := dk_89 (dk_at dksX29_lay_0 3 rfl rfl)
theorem dX29_lay_4 : decode cX29_lay 4 = .ok (.aload_n 0, 1) := dk_42 (dk_at dksX29_lay_0 4 rfl rfl)
theorem dX29_lay_5 : decode cX29_lay 5 = .ok (.iconst 0, 1) := dk_3 (dk_at dksX29_lay_0 5 rfl rfl)
theorem dX29_lay_6 : decode cX29_lay 6 = .ok (.invokespecial 42, 3) := dk_183 0 42 (dk_at dksX29_lay_0 6 rfl rfl)
theorem dX29_lay_9 : decode cX29_lay 9 = .ok (.astore_n 2, 1) := dk_77 (dk_at dksX29_lay_0 9 rfl rfl)
theorem dX29_lay_10 : decode cX29_lay 10 = .ok (.new 40, 3) := dk_187 0 40 (dk_at dksX29_lay_0 10 rfl rfl)
theorem dX29_lay_13 : decode cX29_lay 13 = .ok (.dup, 1) := dk_89 (dk_at dksX29_lay_0 13 rfl rfl)
theorem dX29_lay_14 : decode cX29_lay 14 = .ok (.aload_n 0, 1) := dk_42 (dk_at dksX29_lay_0 14 rfl rfl)
theorem dX29_lay_15 : decode cX29_lay 15 = .ok (.iconst 1, 1) := dk_4 (dk_at dksX29_lay_0 15 rfl rfl)
theorem dX29_lay_16 : decode cX29_lay 16 = .ok (.invokespecial 42, 3) := dk_183 0 42 (dk_at dksX29_lay_0 16 rfl rfl)
theorem dX29_lay_19 : decode cX29_lay 19 = .ok (.astore_n 3, 1) := dk_78 (dk_at dksX29_lay_0 19 rfl rfl)
theorem dX29_lay_20 : decode cX29_lay 20 = .ok (.new 40, 3) := dk_187 0 40 (dk_at dksX29_lay_0 20 rfl rfl)
theorem dX29_lay_23 : decode cX29_lay 23 = .ok (.dup, 1) := dk_89 (dk_at dksX29_lay_0 23 rfl rfl)
theorem dX29_lay_24 : decode cX29_lay 24 = .ok (.aload_n 0, 1) := dk_42 (dk_at dksX29_lay_1 0 rfl rfl)
theorem dX29_lay_25 : decode cX29_lay 25 = .ok (.iconst 2, 1) := dk_5 (dk_at dksX29_lay_1 1 rfl rfl)
theorem dX29_lay_26 : decode cX29_lay 26 = .ok (.invokespecial 42, 3) := dk_183 0 42 (dk_at dksX29_lay_1 2 rfl rfl)
theorem dX29_lay_29 : decode cX29_lay 29 = .ok (.astore 4, 2) := dk_58 4 (dk_at dksX29_lay_1 5 rfl rfl)
theorem dX29_lay_31 : decode cX29_lay 31 = .ok (.aload_n 1, 1) := dk_43 (dk_at dksX29_lay_1 7 rfl rfl)
theorem dX29_lay_32 : decode cX29_lay 32 = .ok (.aload_n 0, 1) := dk_42 (dk_at dksX29_lay_1 8 rfl rfl)
theorem dX29_lay_33 : decode cX29_lay 33 = .ok (.aload_n 2, 1) := dk_44 (dk_at dksX29_lay_1 9 rfl rfl)
theorem dX29_lay_34 : decode cX29_lay 34 = .ok (.aload_n 3, 1) := dk_45 (dk_at dksX29_lay_1 10 rfl rfl)
theorem dX29_lay_35 : decode cX29_lay 35 = .ok (.aload 4, 2) := dk_25 4 (dk_at dksX29_lay_1 11 rfl rfl)
theorem dX29_lay_37 : decode cX29_lay 37 = .ok (.invokestatic 45, 3) := dk_184 0 45 (dk_at dksX29_lay_1 13 rfl rfl)
theorem dX29_lay_40 : decode cX29_lay 40 = .ok (.return_, 1) := dk_177 (dk_at dksX29_lay_1 16 rfl rfl)
abbrev cX29_print : ByteArray := prog_12_method_2_code
def yX29_print : MethodName := ⟨RX29, "print", "(LThereAndBack;)V"⟩
def dkwX29_print_0 : List UInt8 := [42, 43, 18, 7, 18, 9, 18, 11, 182, 0, 13, 177]
abbrev dktX29_print_0 : List UInt8 := dkwX29_print_0 ++ []
theorem dksX29_print_0 : cX29_print.data.toList.drop 0 = dktX29_print_0 := by decide +kernel
theorem dX29_print_0 : decode cX29_print 0 = .ok (.aload_n 0, 1) := dk_42 (dk_at dksX29_print_0 0 rfl rfl)
theorem dX29_print_1 : decode cX29_print 1 = .ok (.aload_n 1, 1) := dk_43 (dk_at dksX29_print_0 1 rfl rfl)
theorem dX29_print_2 : decode cX29_print 2 = .ok (.ldc 7, 2) := dk_18 7 (dk_at dksX29_print_0 2 rfl rfl)
theorem dX29_print_4 : decode cX29_print 4 = .ok (.ldc 9, 2) := dk_18 9 (dk_at dksX29_print_0 4 rfl rfl)
theorem dX29_print_6 : decode cX29_print 6 = .ok (.ldc 11, 2) := dk_18 11 (dk_at dksX29_print_0 6 rfl rfl)
theorem dX29_print_8 : decode cX29_print 8 = .ok (.invokevirtual 13, 3) := dk_182 0 13 (dk_at dksX29_print_0 8 rfl rfl)
theorem dX29_print_11 : decode cX29_print 11 = .ok (.return_, 1) := dk_177 (dk_at dksX29_print_0 11 rfl rfl)
abbrev cX29_mirror : ByteArray := prog_12_method_3_code
def yX29_mirror : MethodName := ⟨RX29, "mirror", "()LThereAndBack$Step;"⟩
def dkwX29_mirror_1 : List UInt8 := [180, 0, 36, 183, 0, 39, 176]
abbrev dktX29_mirror_1 : List UInt8 := dkwX29_mirror_1 ++ []
def dkwX29_mirror_0 : List UInt8 := [187, 0, 14, 89, 42, 180, 0, 19, 42, 180, 0, 23, 182, 0, 27, 42, 180, 0, 33, 182, 0, 27, 42]
abbrev dktX29_mirror_0 : List UInt8 := dkwX29_mirror_0 ++ dktX29_mirror_1
theorem dksX29_mirror_0 : cX29_mirror.data.toList.drop 0 = dktX29_mirror_0 := by decide +kernel
theorem dksX29_mirror_1 : cX29_mirror.data.toList.drop 23 = dktX29_mirror_1 := dk_seg dksX29_mirror_0 23 rfl rfl
theorem dX29_mirror_0 : decode cX29_mirror 0 = .ok (.new 14, 3) := dk_187 0 14 (dk_at dksX29_mirror_0 0 rfl rfl)
theorem dX29_mirror_3 : decode cX29_mirror 3 = .ok (.dup, 1) := dk_89 (dk_at dksX29_mirror_0 3 rfl rfl)
theorem dX29_mirror_4 : decode cX29_mirror 4 = .ok (.aload_n 0, 1) := dk_42 (dk_at dksX29_mirror_0 4 rfl rfl)
theorem dX29_mirror_5 : decode cX29_mirror 5 = .ok (.getfield 19, 3) := dk_180 0 19 (dk_at dksX29_mirror_0 5 rfl rfl)
theorem dX29_mirror_8 : decode cX29_mirror 8 = .ok (.aload_n 0, 1) := dk_42 (dk_at dksX29_mirror_0 8 rfl rfl)
theorem dX29_mirror_9 : decode cX29_mirror 9 = .ok (.getfield 23, 3) := dk_180 0 23 (dk_at dksX29_mirror_0 9 rfl rfl)
theorem dX29_mirror_12 : decode cX29_mirror 12 = .ok (.invokevirtual 27, 3) := dk_182 0 27 (dk_at dksX29_mirror_0 12 rfl rfl)
theorem dX29_mirror_15 : decode cX29_mirror 15 = .ok (.aload_n 0, 1) := dk_42 (dk_at dksX29_mirror_0 15 rfl rfl)
theorem dX29_mirror_16 : decode cX29_mirror 16 = .ok (.getfield 33, 3) := dk_180 0 33 (dk_at dksX29_mirror_0 16 rfl rfl)
theorem dX29_mirror_19 : decode cX29_mirror 19 = .ok (.invokevirtual 27, 3) := dk_182 0 27 (dk_at dksX29_mirror_0 19 rfl rfl)
theorem dX29_mirror_22 : decode cX29_mirror 22 = .ok (.aload_n 0, 1) := dk_42 (dk_at dksX29_mirror_0 22 rfl rfl)
theorem dX29_mirror_23 : decode cX29_mirror 23 = .ok (.getfield 36, 3) := dk_180 0 36 (dk_at dksX29_mirror_1 0 rfl rfl)
theorem dX29_mirror_26 : decode cX29_mirror 26 = .ok (.invokespecial 39, 3) := dk_183 0 39 (dk_at dksX29_mirror_1 3 rfl rfl)
theorem dX29_mirror_29 : decode cX29_mirror 29 = .ok (.areturn, 1) := dk_176 (dk_at dksX29_mirror_1 6 rfl rfl)
theorem q183 : (Jvm.Cond.initialized "ThereAndBack$If") ∈ lw_all := lw_g (lw_at lw_m1 39 rfl) rfl
theorem q1027 : (Jvm.Cond.instantiable "ThereAndBack$If" (4 : Nat)) ∈ lw_all := lw_g (lw_at lw_m4 163 rfl) rfl
theorem q1029 : (Jvm.Cond.instanceMethod ({ cls := "ThereAndBack$If", name := "<init>", desc := "(LThereAndBack$Expr;LThereAndBack$Part;LThereAndBack$Part;LThereAndBack$Expr;)V" } : Jvm.MethodName)) ∈ lw_all := lw_g (lw_at lw_m4 165 rfl) rfl
theorem q1030 : (Jvm.Cond.code ({ cls := "ThereAndBack$If", name := "<init>", desc := "(LThereAndBack$Expr;LThereAndBack$Part;LThereAndBack$Part;LThereAndBack$Expr;)V" } : Jvm.MethodName) prog_12_method_1_code (5 : Nat) (Option.none : Option Jvm.ClassFile.FieldType)) ∈ lw_all := lw_g (lw_at lw_m4 166 rfl) rfl
theorem q1031 : (Jvm.Cond.methodLink "ThereAndBack$If" (1 : Nat) ({ cls := "ThereAndBack$Forked", name := "<init>", desc := "(LThereAndBack$Expr;LThereAndBack$Part;LThereAndBack$Part;LThereAndBack$Expr;)V" } : Jvm.MethodName)) ∈ lw_all := lw_g (lw_at lw_m4 167 rfl) rfl
theorem q1038 : (Jvm.Cond.fieldLink "ThereAndBack$If" (36 : Nat) "ThereAndBack$If" "ahead" "LThereAndBack$Expr;") ∈ lw_all := lw_g (lw_at lw_m4 174 rfl) rfl
theorem q1039 : (Jvm.Cond.sameField "ThereAndBack$If" "ThereAndBack$Forked" "ahead" "LThereAndBack$Expr;") ∈ lw_all := lw_g (lw_at lw_m4 175 rfl) rfl
theorem q1045 : (Jvm.Cond.fieldLink "ThereAndBack$If" (23 : Nat) "ThereAndBack$If" "first" "LThereAndBack$Part;") ∈ lw_all := lw_g (lw_at lw_m4 181 rfl) rfl
theorem q1046 : (Jvm.Cond.sameField "ThereAndBack$If" "ThereAndBack$Forked" "first" "LThereAndBack$Part;") ∈ lw_all := lw_g (lw_at lw_m4 182 rfl) rfl
theorem q1051 : (Jvm.Cond.fieldLink "ThereAndBack$If" (33 : Nat) "ThereAndBack$If" "second" "LThereAndBack$Part;") ∈ lw_all := lw_g (lw_at lw_m4 187 rfl) rfl
theorem q1052 : (Jvm.Cond.sameField "ThereAndBack$If" "ThereAndBack$Forked" "second" "LThereAndBack$Part;") ∈ lw_all := lw_g (lw_at lw_m4 188 rfl) rfl
theorem q1056 : (Jvm.Cond.fieldLink "ThereAndBack$If" (19 : Nat) "ThereAndBack$If" "behind" "LThereAndBack$Expr;") ∈ lw_all := lw_g (lw_at lw_m4 192 rfl) rfl
theorem q1057 : (Jvm.Cond.sameField "ThereAndBack$If" "ThereAndBack$Forked" "behind" "LThereAndBack$Expr;") ∈ lw_all := lw_g (lw_at lw_m4 193 rfl) rfl
theorem q1059 : (Jvm.Cond.laysFinal "ThereAndBack$If" "ThereAndBack$Forked" "ahead" "LThereAndBack$Expr;") ∈ lw_all := lw_g (lw_at lw_m4 195 rfl) rfl
theorem q1061 : (Jvm.Cond.laysFinal "ThereAndBack$If" "ThereAndBack$Forked" "first" "LThereAndBack$Part;") ∈ lw_all := lw_g (lw_at lw_m4 197 rfl) rfl
theorem q1063 : (Jvm.Cond.laysFinal "ThereAndBack$If" "ThereAndBack$Forked" "second" "LThereAndBack$Part;") ∈ lw_all := lw_g (lw_at lw_m4 199 rfl) rfl
theorem q1065 : (Jvm.Cond.laysFinal "ThereAndBack$If" "ThereAndBack$Forked" "behind" "LThereAndBack$Expr;") ∈ lw_all := lw_g (lw_at lw_m4 201 rfl) rfl
theorem q1067 : (Jvm.Cond.superclass "ThereAndBack$If" "ThereAndBack$Forked") ∈ lw_all := lw_g (lw_at lw_m4 203 rfl) rfl
theorem q1161 : (Jvm.Cond.selects "ThereAndBack$If" ({ cls := "java/lang/Object", name := "getClass", desc := "()Ljava/lang/Class;" } : Jvm.MethodName) ({ cls := "java/lang/Object", name := "getClass", desc := "()Ljava/lang/Class;" } : Jvm.MethodName)) ∈ lw_all := lw_g (lw_at lw_m5 57 rfl) rfl
theorem q1322 : (Jvm.Cond.selects "ThereAndBack$If" ({ cls := "ThereAndBack$Step", name := "lay", desc := "(Ljava/util/List;)V" } : Jvm.MethodName) ({ cls := "ThereAndBack$If", name := "lay", desc := "(Ljava/util/List;)V" } : Jvm.MethodName)) ∈ lw_all := lw_g (lw_at lw_m5 218 rfl) rfl
theorem q1323 : (Jvm.Cond.instanceMethod ({ cls := "ThereAndBack$If", name := "lay", desc := "(Ljava/util/List;)V" } : Jvm.MethodName)) ∈ lw_all := lw_g (lw_at lw_m5 219 rfl) rfl
theorem q1324 : (Jvm.Cond.code ({ cls := "ThereAndBack$If", name := "lay", desc := "(Ljava/util/List;)V" } : Jvm.MethodName) prog_12_method_4_code (5 : Nat) (Option.none : Option Jvm.ClassFile.FieldType)) ∈ lw_all := lw_g (lw_at lw_m5 220 rfl) rfl
theorem q1325 : (Jvm.Cond.classLink "ThereAndBack$If" (40 : Nat) "ThereAndBack$Corner") ∈ lw_all := lw_g (lw_at lw_m5 221 rfl) rfl
theorem q1326 : (Jvm.Cond.methodLink "ThereAndBack$If" (42 : Nat) ({ cls := "ThereAndBack$Corner", name := "<init>", desc := "(LThereAndBack$Forked;I)V" } : Jvm.MethodName)) ∈ lw_all := lw_g (lw_at lw_m5 222 rfl) rfl
theorem q1327 : (Jvm.Cond.methodLink "ThereAndBack$If" (45 : Nat) ({ cls := "ThereAndBack$Corner", name := "join", desc := "(Ljava/util/List;LThereAndBack$Forked;LThereAndBack$Corner;LThereAndBack$Corner;LThereAndBack$Corner;)V" } : Jvm.MethodName)) ∈ lw_all := lw_g (lw_at lw_m5 223 rfl) rfl
theorem q1358 : (Jvm.Cond.selects "ThereAndBack$If" ({ cls := "ThereAndBack$Step", name := "code", desc := "()I" } : Jvm.MethodName) ({ cls := "ThereAndBack$Forked", name := "code", desc := "()I" } : Jvm.MethodName)) ∈ lw_all := lw_g (lw_at lw_m6 14 rfl) rfl
theorem q1416 : (Jvm.Cond.selects "ThereAndBack$If" ({ cls := "ThereAndBack$Step", name := "isOrdinary", desc := "()Z" } : Jvm.MethodName) ({ cls := "ThereAndBack$Step", name := "isOrdinary", desc := "()Z" } : Jvm.MethodName)) ∈ lw_all := lw_g (lw_at lw_m6 72 rfl) rfl
theorem q1439 : (Jvm.Cond.selects "ThereAndBack$If" ({ cls := "ThereAndBack$Step", name := "braces", desc := "()I" } : Jvm.MethodName) ({ cls := "ThereAndBack$Forked", name := "braces", desc := "()I" } : Jvm.MethodName)) ∈ lw_all := lw_g (lw_at lw_m6 95 rfl) rfl
theorem q1497 : (Jvm.Cond.selects "ThereAndBack$If" ({ cls := "ThereAndBack$Step", name := "names", desc := "()I" } : Jvm.MethodName) ({ cls := "ThereAndBack$Forked", name := "names", desc := "()I" } : Jvm.MethodName)) ∈ lw_all := lw_g (lw_at lw_m6 153 rfl) rfl
theorem q1666 : (Jvm.Cond.selects "ThereAndBack$If" ({ cls := "ThereAndBack$Step", name := "print", desc := "(LThereAndBack;)V" } : Jvm.MethodName) ({ cls := "ThereAndBack$If", name := "print", desc := "(LThereAndBack;)V" } : Jvm.MethodName)) ∈ lw_all := lw_g (lw_at lw_m7 82 rfl) rfl
theorem q1667 : (Jvm.Cond.instanceMethod ({ cls := "ThereAndBack$If", name := "print", desc := "(LThereAndBack;)V" } : Jvm.MethodName)) ∈ lw_all := lw_g (lw_at lw_m7 83 rfl) rfl
theorem q1668 : (Jvm.Cond.code ({ cls := "ThereAndBack$If", name := "print", desc := "(LThereAndBack;)V" } : Jvm.MethodName) prog_12_method_2_code (2 : Nat) (Option.none : Option Jvm.ClassFile.FieldType)) ∈ lw_all := lw_g (lw_at lw_m7 84 rfl) rfl
theorem q1669 : (Jvm.Cond.stringRef "ThereAndBack$If" (7 : Nat) "if") ∈ lw_tbl := lw_at lw_m7 85 rfl
theorem q1670 : (Jvm.Cond.stringRef "ThereAndBack$If" (9 : Nat) "else") ∈ lw_tbl := lw_at lw_m7 86 rfl
theorem q1671 : (Jvm.Cond.stringRef "ThereAndBack$If" (11 : Nat) "fi") ∈ lw_tbl := lw_at lw_m7 87 rfl
theorem q1672 : (Jvm.Cond.methodLink "ThereAndBack$If" (13 : Nat) ({ cls := "ThereAndBack$If", name := "printBy", desc := "(LThereAndBack;Ljava/lang/String;Ljava/lang/String;Ljava/lang/String;)V" } : Jvm.MethodName)) ∈ lw_all := lw_g (lw_at lw_m7 88 rfl) rfl
theorem q1673 : (Jvm.Cond.sameMethod "ThereAndBack$If" "ThereAndBack$Forked" "printBy" "(LThereAndBack;Ljava/lang/String;Ljava/lang/String;Ljava/lang/String;)V") ∈ lw_all := lw_g (lw_at lw_m7 89 rfl) rfl
theorem q1674 : (Jvm.Cond.selects "ThereAndBack$If" ({ cls := "ThereAndBack$If", name := "printBy", desc := "(LThereAndBack;Ljava/lang/String;Ljava/lang/String;Ljava/lang/String;)V" } : Jvm.MethodName) ({ cls := "ThereAndBack$Forked", name := "printBy", desc := "(LThereAndBack;Ljava/lang/String;Ljava/lang/String;Ljava/lang/String;)V" } : Jvm.MethodName)) ∈ lw_all := lw_g (lw_at lw_m7 90 rfl) rfl
theorem q1778 : (Jvm.Cond.selects "ThereAndBack$If" ({ cls := "ThereAndBack$Step", name := "mirror", desc := "()LThereAndBack$Step;" } : Jvm.MethodName) ({ cls := "ThereAndBack$If", name := "mirror", desc := "()LThereAndBack$Step;" } : Jvm.MethodName)) ∈ lw_all := lw_g (lw_at lw_m7 194 rfl) rfl
theorem q1779 : (Jvm.Cond.instanceMethod ({ cls := "ThereAndBack$If", name := "mirror", desc := "()LThereAndBack$Step;" } : Jvm.MethodName)) ∈ lw_all := lw_g (lw_at lw_m7 195 rfl) rfl
theorem q1780 : (Jvm.Cond.code ({ cls := "ThereAndBack$If", name := "mirror", desc := "()LThereAndBack$Step;" } : Jvm.MethodName) prog_12_method_3_code (1 : Nat) (Option.some (Jvm.ClassFile.FieldType.object "ThereAndBack$Step"))) ∈ lw_all := lw_g (lw_at lw_m7 196 rfl) rfl
theorem q1781 : (Jvm.Cond.classLink "ThereAndBack$If" (14 : Nat) "ThereAndBack$If") ∈ lw_all := lw_g (lw_at lw_m7 197 rfl) rfl
theorem q1782 : (Jvm.Cond.methodLink "ThereAndBack$If" (27 : Nat) ({ cls := "ThereAndBack$Part", name := "mirror", desc := "()LThereAndBack$Part;" } : Jvm.MethodName)) ∈ lw_all := lw_g (lw_at lw_m7 198 rfl) rfl
theorem q1783 : (Jvm.Cond.methodLink "ThereAndBack$If" (39 : Nat) ({ cls := "ThereAndBack$If", name := "<init>", desc := "(LThereAndBack$Expr;LThereAndBack$Part;LThereAndBack$Part;LThereAndBack$Expr;)V" } : Jvm.MethodName)) ∈ lw_all := lw_g (lw_at lw_m7 199 rfl) rfl
theorem q1850 : (Jvm.Cond.selects "ThereAndBack$If" ({ cls := "ThereAndBack$Step", name := "turn", desc := "(Ljava/util/List;I)V" } : Jvm.MethodName) ({ cls := "ThereAndBack$Step", name := "turn", desc := "(Ljava/util/List;I)V" } : Jvm.MethodName)) ∈ lw_all := lw_g (lw_at lw_m8 26 rfl) rfl
theorem q2003 : (Jvm.Cond.selects "ThereAndBack$If" ({ cls := "ThereAndBack$Step", name := "walk", desc := "(LThereAndBack;)V" } : Jvm.MethodName) ({ cls := "ThereAndBack$Step", name := "walk", desc := "(LThereAndBack;)V" } : Jvm.MethodName)) ∈ lw_all := lw_g (lw_at lw_m8 179 rfl) rfl
theorem q3118 : (Jvm.Cond.castable "ThereAndBack$If" "ThereAndBack$Step") ∈ lw_tbl := lw_at lw_m13 94 rfl
theorem q3153 : (Jvm.Cond.castable "ThereAndBack$If" "java/lang/Object") ∈ lw_tbl := lw_at lw_m13 129 rfl
theorem in_X29 : ∀ w ∈ wsX290, w ∈ lw_all := lw_in wsX290 [1059, 1061, 1063, 1065] (by decide +kernel) (by decide +kernel)
/-! ThereAndBack$From -/
set_option maxRecDepth 100000
def RX30 : String := "ThereAndBack$From"
def TX30 : u_T := fun k => match k with
  | 0 => ("ThereAndBack$Forked", "ahead", "LThereAndBack$Expr;", true)
  | 1 => ("ThereAndBack$Forked", "first", "LThereAndBack$Part;", true)
  | 2 => ("ThereAndBack$Forked", "second", "LThereAndBack$Part;", true)
  | _ => ("ThereAndBack$Forked", "behind", "LThereAndBack$Expr;", true)
def tyX30 : Nat → FieldType := fun k => match k with
  | 0 => .object "ThereAndBack$Expr"
  | 1 => .object "ThereAndBack$Part"
  | 2 => .object "ThereAndBack$Part"
  | _ => .object "ThereAndBack$Expr"
abbrev wsX300 : List Cond := u_ws RX30 TX30 4
theorem nmX30 : ∀ a, a < 4 → ∀ b, b < 4 → a ≠ b → (TX30 a).2.1 ≠ (TX30 b).2.1 := by decide +kernel
theorem tyX30_ok : ∀ k, k < 4 → parseFieldDescriptor (TX30 k).2.2.1 = some (tyX30 k) := by decide +kernel
abbrev cX30_init : ByteArray := prog_10_method_1_code
def yX30_init : MethodName := ⟨RX30, "<init>", "(LThereAndBack$Expr;LThereAndBack$Part;LThereAndBack$Part;LThereAndBack$Expr;)V"⟩
def dkwX30_init_0 : List UInt8 := [42, 43, 44, 45, 25, 4, 183, 0, 1, 177]
abbrev dktX30_init_0 : List UInt8 := dkwX30_init_0 ++ []
theorem dksX30_init_0 : cX30_init.data.toList.drop 0 = dktX30_init_0 := by decide +kernel
theorem dX30_init_0 : decode cX30_init 0 = .ok (.aload_n 0, 1) := dk_42 (dk_at dksX30_init_0 0 rfl rfl)
theorem dX30_init_1 : decode cX30_init 1 = .ok (.aload_n 1, 1) := dk_43 (dk_at dksX30_init_0 1 rfl rfl)
theorem dX30_init_2 : decode cX30_init 2 = .ok (.aload_n 2, 1) := dk_44 (dk_at dksX30_init_0 2 rfl rfl)
theorem dX30_init_3 : decode cX30_init 3 = .ok (.aload_n 3, 1) := dk_45 (dk_at dksX30_init_0 3 rfl rfl)
theorem dX30_init_4 : decode cX30_init 4 = .ok (.aload 4, 2) := dk_25 4 (dk_at dksX30_init_0 4 rfl rfl)
theorem dX30_init_6 : decode cX30_init 6 = .ok (.invokespecial 1, 3) := dk_183 0 1 (dk_at dksX30_init_0 6 rfl rfl)
theorem dX30_init_9 : decode cX30_init 9 = .ok (.return_, 1) := dk_177 (dk_at dksX30_init_0 9 rfl rfl)
abbrev cX30_lay : ByteArray := prog_10_method_4_code
def yX30_lay : MethodName := ⟨RX30, "lay", "(Ljava/util/List;)V"⟩
def dkwX30_lay_1 : List UInt8 := [42, 8, 183, 0, 42, 58, 4, 43, 42, 44, 45, 25, 4, 184, 0, 45, 177]
abbrev dktX30_lay_1 : List UInt8 := dkwX30_lay_1 ++ []
def dkwX30_lay_0 : List UInt8 := [187, 0, 40, 89, 42, 6, 183, 0, 42, 77, 187, 0, 40, 89, 42, 7, 183, 0, 42, 78, 187, 0, 40, 89]
abbrev dktX30_lay_0 : List UInt8 := dkwX30_lay_0 ++ dktX30_lay_1
theorem dksX30_lay_0 : cX30_lay.data.toList.drop 0 = dktX30_lay_0 := by decide +kernel
theorem dksX30_lay_1 : cX30_lay.data.toList.drop 24 = dktX30_lay_1 := dk_seg dksX30_lay_0 24 rfl rfl
theorem dX30_lay_0 : decode cX30_lay 0 = .ok (.new 40, 3) := dk_187 0 40 (dk_at dksX30_lay_0 0 rfl rfl)
theorem dX30_lay_3 : decode cX30_lay 3 = .ok (.dup, 1) := dk_89 (dk_at dksX30_lay_0 3 rfl rfl)
theorem dX30_lay_4 : decode cX30_lay 4 = .ok (.aload_n 0, 1) := dk_42 (dk_at dksX30_lay_0 4 rfl rfl)
theorem dX30_lay_5 : decode cX30_lay 5 = .ok (.iconst 3, 1) := dk_6 (dk_at dksX30_lay_0 5 rfl rfl)
theorem dX30_lay_6 : decode cX30_lay 6 = .ok (.invokespecial 42, 3) := dk_183 0 42 (dk_at dksX30_lay_0 6 rfl rfl)
theorem dX30_lay_9 : decode cX30_lay 9 = .ok (.astore_n 2, 1) := dk_77 (dk_at dksX30_lay_0 9 rfl rfl)
theorem dX30_lay_10 : decode cX30_lay 10 = .ok (.new 40, 3) := dk_187 0 40 (dk_at dksX30_lay_0 10 rfl rfl)
theorem dX30_lay_13 : decode cX30_lay 13 = .ok (.dup, 1) := dk_89 (dk_at dksX30_lay_0 13 rfl rfl)
theorem dX30_lay_14 : decode cX30_lay 14 = .ok (.aload_n 0, 1) := dk_42 (dk_at dksX30_lay_0 14 rfl rfl)
theorem dX30_lay_15 : decode cX30_lay 15 = .ok (.iconst 4, 1) := dk_7 (dk_at dksX30_lay_0 15 rfl rfl)
theorem dX30_lay_16 : decode cX30_lay 16 = .ok (.invokespecial 42, 3) := dk_183 0 42 (dk_at dksX30_lay_0 16 rfl rfl)
theorem dX30_lay_19 : decode cX30_lay 19 = .ok (.astore_n 3, 1) := dk_78 (dk_at dksX30_lay_0 19 rfl rfl)
theorem dX30_lay_20 : decode cX30_lay 20 = .ok (.new 40, 3) := dk_187 0 40 (dk_at dksX30_lay_0 20 rfl rfl)
theorem dX30_lay_23 : decode cX30_lay 23 = .ok (.dup, 1) := dk_89 (dk_at dksX30_lay_0 23 rfl rfl)
theorem dX30_lay_24 : decode cX30_lay 24 = .ok (.aload_n 0, 1) := dk_42 (dk_at dksX30_lay_1 0 rfl rfl)
theorem dX30_lay_25 : decode cX30_lay 25 = .ok (.iconst 5, 1) := dk_8 (dk_at dksX30_lay_1 1 rfl rfl)
theorem dX30_lay_26 : decode cX30_lay 26 = .ok (.invokespecial 42, 3) := dk_183 0 42 (dk_at dksX30_lay_1 2 rfl rfl)
theorem dX30_lay_29 : decode cX30_lay 29 = .ok (.astore 4, 2) := dk_58 4 (dk_at dksX30_lay_1 5 rfl rfl)
theorem dX30_lay_31 : decode cX30_lay 31 = .ok (.aload_n 1, 1) := dk_43 (dk_at dksX30_lay_1 7 rfl rfl)
theorem dX30_lay_32 : decode cX30_lay 32 = .ok (.aload_n 0, 1) := dk_42 (dk_at dksX30_lay_1 8 rfl rfl)
theorem dX30_lay_33 : decode cX30_lay 33 = .ok (.aload_n 2, 1) := dk_44 (dk_at dksX30_lay_1 9 rfl rfl)
theorem dX30_lay_34 : decode cX30_lay 34 = .ok (.aload_n 3, 1) := dk_45 (dk_at dksX30_lay_1 10 rfl rfl)
theorem dX30_lay_35 : decode cX30_lay 35 = .ok (.aload 4, 2) := dk_25 4 (dk_at dksX30_lay_1 11 rfl rfl)
theorem dX30_lay_37 : decode cX30_lay 37 = .ok (.invokestatic 45, 3) := dk_184 0 45 (dk_at dksX30_lay_1 13 rfl rfl)
theorem dX30_lay_40 : decode cX30_lay 40 = .ok (.return_, 1) := dk_177 (dk_at dksX30_lay_1 16 rfl rfl)
abbrev cX30_print : ByteArray := prog_10_method_2_code
def yX30_print : MethodName := ⟨RX30, "print", "(LThereAndBack;)V"⟩
def dkwX30_print_0 : List UInt8 := [42, 43, 18, 7, 18, 9, 18, 11, 182, 0, 13, 177]
abbrev dktX30_print_0 : List UInt8 := dkwX30_print_0 ++ []
theorem dksX30_print_0 : cX30_print.data.toList.drop 0 = dktX30_print_0 := by decide +kernel
theorem dX30_print_0 : decode cX30_print 0 = .ok (.aload_n 0, 1) := dk_42 (dk_at dksX30_print_0 0 rfl rfl)
theorem dX30_print_1 : decode cX30_print 1 = .ok (.aload_n 1, 1) := dk_43 (dk_at dksX30_print_0 1 rfl rfl)
theorem dX30_print_2 : decode cX30_print 2 = .ok (.ldc 7, 2) := dk_18 7 (dk_at dksX30_print_0 2 rfl rfl)
theorem dX30_print_4 : decode cX30_print 4 = .ok (.ldc 9, 2) := dk_18 9 (dk_at dksX30_print_0 4 rfl rfl)
theorem dX30_print_6 : decode cX30_print 6 = .ok (.ldc 11, 2) := dk_18 11 (dk_at dksX30_print_0 6 rfl rfl)
theorem dX30_print_8 : decode cX30_print 8 = .ok (.invokevirtual 13, 3) := dk_182 0 13 (dk_at dksX30_print_0 8 rfl rfl)
theorem dX30_print_11 : decode cX30_print 11 = .ok (.return_, 1) := dk_177 (dk_at dksX30_print_0 11 rfl rfl)
abbrev cX30_mirror : ByteArray := prog_10_method_3_code
def yX30_mirror : MethodName := ⟨RX30, "mirror", "()LThereAndBack$Step;"⟩
def dkwX30_mirror_1 : List UInt8 := [180, 0, 36, 183, 0, 39, 176]
abbrev dktX30_mirror_1 : List UInt8 := dkwX30_mirror_1 ++ []
def dkwX30_mirror_0 : List UInt8 := [187, 0, 14, 89, 42, 180, 0, 19, 42, 180, 0, 23, 182, 0, 27, 42, 180, 0, 33, 182, 0, 27, 42]
abbrev dktX30_mirror_0 : List UInt8 := dkwX30_mirror_0 ++ dktX30_mirror_1
theorem dksX30_mirror_0 : cX30_mirror.data.toList.drop 0 = dktX30_mirror_0 := by decide +kernel
theorem dksX30_mirror_1 : cX30_mirror.data.toList.drop 23 = dktX30_mirror_1 := dk_seg dksX30_mirror_0 23 rfl rfl
theorem dX30_mirror_0 : decode cX30_mirror 0 = .ok (.new 14, 3) := dk_187 0 14 (dk_at dksX30_mirror_0 0 rfl rfl)
theorem dX30_mirror_3 : decode cX30_mirror 3 = .ok (.dup, 1) := dk_89 (dk_at dksX30_mirror_0 3 rfl rfl)
theorem dX30_mirror_4 : decode cX30_mirror 4 = .ok (.aload_n 0, 1) := dk_42 (dk_at dksX30_mirror_0 4 rfl rfl)
theorem dX30_mirror_5 : decode cX30_mirror 5 = .ok (.getfield 19, 3) := dk_180 0 19 (dk_at dksX30_mirror_0 5 rfl rfl)
theorem dX30_mirror_8 : decode cX30_mirror 8 = .ok (.aload_n 0, 1) := dk_42 (dk_at dksX30_mirror_0 8 rfl rfl)
theorem dX30_mirror_9 : decode cX30_mirror 9 = .ok (.getfield 23, 3) := dk_180 0 23 (dk_at dksX30_mirror_0 9 rfl rfl)
theorem dX30_mirror_12 : decode cX30_mirror 12 = .ok (.invokevirtual 27, 3) := dk_182 0 27 (dk_at dksX30_mirror_0 12 rfl rfl)
theorem dX30_mirror_15 : decode cX30_mirror 15 = .ok (.aload_n 0, 1) := dk_42 (dk_at dksX30_mirror_0 15 rfl rfl)
theorem dX30_mirror_16 : decode cX30_mirror 16 = .ok (.getfield 33, 3) := dk_180 0 33 (dk_at dksX30_mirror_0 16 rfl rfl)
theorem dX30_mirror_19 : decode cX30_mirror 19 = .ok (.invokevirtual 27, 3) := dk_182 0 27 (dk_at dksX30_mirror_0 19 rfl rfl)
theorem dX30_mirror_22 : decode cX30_mirror 22 = .ok (.aload_n 0, 1) := dk_42 (dk_at dksX30_mirror_0 22 rfl rfl)
theorem dX30_mirror_23 : decode cX30_mirror 23 = .ok (.getfield 36, 3) := dk_180 0 36 (dk_at dksX30_mirror_1 0 rfl rfl)
theorem dX30_mirror_26 : decode cX30_mirror 26 = .ok (.invokespecial 39, 3) := dk_183 0 39 (dk_at dksX30_mirror_1 3 rfl rfl)
theorem dX30_mirror_29 : decode cX30_mirror 29 = .ok (.areturn, 1) := dk_176 (dk_at dksX30_mirror_1 6 rfl rfl)
theorem q184 : (Jvm.Cond.initialized "ThereAndBack$From") ∈ lw_all := lw_g (lw_at lw_m1 40 rfl) rfl
theorem q1036 : (Jvm.Cond.fieldLink "ThereAndBack$From" (36 : Nat) "ThereAndBack$From" "ahead" "LThereAndBack$Expr;") ∈ lw_all := lw_g (lw_at lw_m4 172 rfl) rfl
theorem q1037 : (Jvm.Cond.sameField "ThereAndBack$From" "ThereAndBack$Forked" "ahead" "LThereAndBack$Expr;") ∈ lw_all := lw_g (lw_at lw_m4 173 rfl) rfl
theorem q1043 : (Jvm.Cond.fieldLink "ThereAndBack$From" (23 : Nat) "ThereAndBack$From" "first" "LThereAndBack$Part;") ∈ lw_all := lw_g (lw_at lw_m4 179 rfl) rfl
theorem q1044 : (Jvm.Cond.sameField "ThereAndBack$From" "ThereAndBack$Forked" "first" "LThereAndBack$Part;") ∈ lw_all := lw_g (lw_at lw_m4 180 rfl) rfl
theorem q1049 : (Jvm.Cond.fieldLink "ThereAndBack$From" (33 : Nat) "ThereAndBack$From" "second" "LThereAndBack$Part;") ∈ lw_all := lw_g (lw_at lw_m4 185 rfl) rfl
theorem q1050 : (Jvm.Cond.sameField "ThereAndBack$From" "ThereAndBack$Forked" "second" "LThereAndBack$Part;") ∈ lw_all := lw_g (lw_at lw_m4 186 rfl) rfl
theorem q1054 : (Jvm.Cond.fieldLink "ThereAndBack$From" (19 : Nat) "ThereAndBack$From" "behind" "LThereAndBack$Expr;") ∈ lw_all := lw_g (lw_at lw_m4 190 rfl) rfl
theorem q1055 : (Jvm.Cond.sameField "ThereAndBack$From" "ThereAndBack$Forked" "behind" "LThereAndBack$Expr;") ∈ lw_all := lw_g (lw_at lw_m4 191 rfl) rfl
theorem q1071 : (Jvm.Cond.instantiable "ThereAndBack$From" (4 : Nat)) ∈ lw_all := lw_g (lw_at lw_m4 207 rfl) rfl
theorem q1073 : (Jvm.Cond.instanceMethod ({ cls := "ThereAndBack$From", name := "<init>", desc := "(LThereAndBack$Expr;LThereAndBack$Part;LThereAndBack$Part;LThereAndBack$Expr;)V" } : Jvm.MethodName)) ∈ lw_all := lw_g (lw_at lw_m4 209 rfl) rfl
theorem q1074 : (Jvm.Cond.code ({ cls := "ThereAndBack$From", name := "<init>", desc := "(LThereAndBack$Expr;LThereAndBack$Part;LThereAndBack$Part;LThereAndBack$Expr;)V" } : Jvm.MethodName) prog_10_method_1_code (5 : Nat) (Option.none : Option Jvm.ClassFile.FieldType)) ∈ lw_all := lw_g (lw_at lw_m4 210 rfl) rfl
theorem q1075 : (Jvm.Cond.methodLink "ThereAndBack$From" (1 : Nat) ({ cls := "ThereAndBack$Forked", name := "<init>", desc := "(LThereAndBack$Expr;LThereAndBack$Part;LThereAndBack$Part;LThereAndBack$Expr;)V" } : Jvm.MethodName)) ∈ lw_all := lw_g (lw_at lw_m4 211 rfl) rfl
theorem q1076 : (Jvm.Cond.laysFinal "ThereAndBack$From" "ThereAndBack$Forked" "ahead" "LThereAndBack$Expr;") ∈ lw_all := lw_g (lw_at lw_m4 212 rfl) rfl
theorem q1077 : (Jvm.Cond.laysFinal "ThereAndBack$From" "ThereAndBack$Forked" "first" "LThereAndBack$Part;") ∈ lw_all := lw_g (lw_at lw_m4 213 rfl) rfl
theorem q1078 : (Jvm.Cond.laysFinal "ThereAndBack$From" "ThereAndBack$Forked" "second" "LThereAndBack$Part;") ∈ lw_all := lw_g (lw_at lw_m4 214 rfl) rfl
theorem q1079 : (Jvm.Cond.laysFinal "ThereAndBack$From" "ThereAndBack$Forked" "behind" "LThereAndBack$Expr;") ∈ lw_all := lw_g (lw_at lw_m4 215 rfl) rfl
theorem q1080 : (Jvm.Cond.superclass "ThereAndBack$From" "ThereAndBack$Forked") ∈ lw_all := lw_g (lw_at lw_m4 216 rfl) rfl
theorem q1159 : (Jvm.Cond.selects "ThereAndBack$From" ({ cls := "java/lang/Object", name := "getClass", desc := "()Ljava/lang/Class;" } : Jvm.MethodName) ({ cls := "java/lang/Object", name := "getClass", desc := "()Ljava/lang/Class;" } : Jvm.MethodName)) ∈ lw_all := lw_g (lw_at lw_m5 55 rfl) rfl
theorem q1285 : (Jvm.Cond.selects "ThereAndBack$From" ({ cls := "ThereAndBack$Step", name := "lay", desc := "(Ljava/util/List;)V" } : Jvm.MethodName) ({ cls := "ThereAndBack$From", name := "lay", desc := "(Ljava/util/List;)V" } : Jvm.MethodName)) ∈ lw_all := lw_g (lw_at lw_m5 181 rfl) rfl
theorem q1286 : (Jvm.Cond.instanceMethod ({ cls := "ThereAndBack$From", name := "lay", desc := "(Ljava/util/List;)V" } : Jvm.MethodName)) ∈ lw_all := lw_g (lw_at lw_m5 182 rfl) rfl
theorem q1287 : (Jvm.Cond.code ({ cls := "ThereAndBack$From", name := "lay", desc := "(Ljava/util/List;)V" } : Jvm.MethodName) prog_10_method_4_code (5 : Nat) (Option.none : Option Jvm.ClassFile.FieldType)) ∈ lw_all := lw_g (lw_at lw_m5 183 rfl) rfl
theorem q1288 : (Jvm.Cond.classLink "ThereAndBack$From" (40 : Nat) "ThereAndBack$Corner") ∈ lw_all := lw_g (lw_at lw_m5 184 rfl) rfl
theorem q1290 : (Jvm.Cond.methodLink "ThereAndBack$From" (42 : Nat) ({ cls := "ThereAndBack$Corner", name := "<init>", desc := "(LThereAndBack$Forked;I)V" } : Jvm.MethodName)) ∈ lw_all := lw_g (lw_at lw_m5 186 rfl) rfl
theorem q1310 : (Jvm.Cond.methodLink "ThereAndBack$From" (45 : Nat) ({ cls := "ThereAndBack$Corner", name := "join", desc := "(Ljava/util/List;LThereAndBack$Forked;LThereAndBack$Corner;LThereAndBack$Corner;LThereAndBack$Corner;)V" } : Jvm.MethodName)) ∈ lw_all := lw_g (lw_at lw_m5 206 rfl) rfl
theorem q1354 : (Jvm.Cond.selects "ThereAndBack$From" ({ cls := "ThereAndBack$Step", name := "code", desc := "()I" } : Jvm.MethodName) ({ cls := "ThereAndBack$Forked", name := "code", desc := "()I" } : Jvm.MethodName)) ∈ lw_all := lw_g (lw_at lw_m6 10 rfl) rfl
theorem q1415 : (Jvm.Cond.selects "ThereAndBack$From" ({ cls := "ThereAndBack$Step", name := "isOrdinary", desc := "()Z" } : Jvm.MethodName) ({ cls := "ThereAndBack$Step", name := "isOrdinary", desc := "()Z" } : Jvm.MethodName)) ∈ lw_all := lw_g (lw_at lw_m6 71 rfl) rfl
theorem q1434 : (Jvm.Cond.selects "ThereAndBack$From" ({ cls := "ThereAndBack$Step", name := "braces", desc := "()I" } : Jvm.MethodName) ({ cls := "ThereAndBack$Forked", name := "braces", desc := "()I" } : Jvm.MethodName)) ∈ lw_all := lw_g (lw_at lw_m6 90 rfl) rfl
theorem q1492 : (Jvm.Cond.selects "ThereAndBack$From" ({ cls := "ThereAndBack$Step", name := "names", desc := "()I" } : Jvm.MethodName) ({ cls := "ThereAndBack$Forked", name := "names", desc := "()I" } : Jvm.MethodName)) ∈ lw_all := lw_g (lw_at lw_m6 148 rfl) rfl
theorem q1645 : (Jvm.Cond.selects "ThereAndBack$From" ({ cls := "ThereAndBack$Step", name := "print", desc := "(LThereAndBack;)V" } : Jvm.MethodName) ({ cls := "ThereAndBack$From", name := "print", desc := "(LThereAndBack;)V" } : Jvm.MethodName)) ∈ lw_all := lw_g (lw_at lw_m7 61 rfl) rfl
theorem q1646 : (Jvm.Cond.instanceMethod ({ cls := "ThereAndBack$From", name := "print", desc := "(LThereAndBack;)V" } : Jvm.MethodName)) ∈ lw_all := lw_g (lw_at lw_m7 62 rfl) rfl
theorem q1647 : (Jvm.Cond.code ({ cls := "ThereAndBack$From", name := "print", desc := "(LThereAndBack;)V" } : Jvm.MethodName) prog_10_method_2_code (2 : Nat) (Option.none : Option Jvm.ClassFile.FieldType)) ∈ lw_all := lw_g (lw_at lw_m7 63 rfl) rfl
theorem q1648 : (Jvm.Cond.stringRef "ThereAndBack$From" (7 : Nat) "from") ∈ lw_tbl := lw_at lw_m7 64 rfl
theorem q1649 : (Jvm.Cond.stringRef "ThereAndBack$From" (9 : Nat) "loop") ∈ lw_tbl := lw_at lw_m7 65 rfl
theorem q1650 : (Jvm.Cond.stringRef "ThereAndBack$From" (11 : Nat) "until") ∈ lw_tbl := lw_at lw_m7 66 rfl
theorem q1651 : (Jvm.Cond.methodLink "ThereAndBack$From" (13 : Nat) ({ cls := "ThereAndBack$From", name := "printBy", desc := "(LThereAndBack;Ljava/lang/String;Ljava/lang/String;Ljava/lang/String;)V" } : Jvm.MethodName)) ∈ lw_all := lw_g (lw_at lw_m7 67 rfl) rfl
theorem q1652 : (Jvm.Cond.sameMethod "ThereAndBack$From" "ThereAndBack$Forked" "printBy" "(LThereAndBack;Ljava/lang/String;Ljava/lang/String;Ljava/lang/String;)V") ∈ lw_all := lw_g (lw_at lw_m7 68 rfl) rfl
theorem q1654 : (Jvm.Cond.selects "ThereAndBack$From" ({ cls := "ThereAndBack$From", name := "printBy", desc := "(LThereAndBack;Ljava/lang/String;Ljava/lang/String;Ljava/lang/String;)V" } : Jvm.MethodName) ({ cls := "ThereAndBack$Forked", name := "printBy", desc := "(LThereAndBack;Ljava/lang/String;Ljava/lang/String;Ljava/lang/String;)V" } : Jvm.MethodName)) ∈ lw_all := lw_g (lw_at lw_m7 70 rfl) rfl
theorem q1772 : (Jvm.Cond.selects "ThereAndBack$From" ({ cls := "ThereAndBack$Step", name := "mirror", desc := "()LThereAndBack$Step;" } : Jvm.MethodName) ({ cls := "ThereAndBack$From", name := "mirror", desc := "()LThereAndBack$Step;" } : Jvm.MethodName)) ∈ lw_all := lw_g (lw_at lw_m7 188 rfl) rfl
theorem q1773 : (Jvm.Cond.instanceMethod ({ cls := "ThereAndBack$From", name := "mirror", desc := "()LThereAndBack$Step;" } : Jvm.MethodName)) ∈ lw_all := lw_g (lw_at lw_m7 189 rfl) rfl
theorem q1774 : (Jvm.Cond.code ({ cls := "ThereAndBack$From", name := "mirror", desc := "()LThereAndBack$Step;" } : Jvm.MethodName) prog_10_method_3_code (1 : Nat) (Option.some (Jvm.ClassFile.FieldType.object "ThereAndBack$Step"))) ∈ lw_all := lw_g (lw_at lw_m7 190 rfl) rfl
theorem q1775 : (Jvm.Cond.classLink "ThereAndBack$From" (14 : Nat) "ThereAndBack$From") ∈ lw_all := lw_g (lw_at lw_m7 191 rfl) rfl
theorem q1776 : (Jvm.Cond.methodLink "ThereAndBack$From" (27 : Nat) ({ cls := "ThereAndBack$Part", name := "mirror", desc := "()LThereAndBack$Part;" } : Jvm.MethodName)) ∈ lw_all := lw_g (lw_at lw_m7 192 rfl) rfl
theorem q1777 : (Jvm.Cond.methodLink "ThereAndBack$From" (39 : Nat) ({ cls := "ThereAndBack$From", name := "<init>", desc := "(LThereAndBack$Expr;LThereAndBack$Part;LThereAndBack$Part;LThereAndBack$Expr;)V" } : Jvm.MethodName)) ∈ lw_all := lw_g (lw_at lw_m7 193 rfl) rfl
theorem q1849 : (Jvm.Cond.selects "ThereAndBack$From" ({ cls := "ThereAndBack$Step", name := "turn", desc := "(Ljava/util/List;I)V" } : Jvm.MethodName) ({ cls := "ThereAndBack$Step", name := "turn", desc := "(Ljava/util/List;I)V" } : Jvm.MethodName)) ∈ lw_all := lw_g (lw_at lw_m8 25 rfl) rfl
theorem q2002 : (Jvm.Cond.selects "ThereAndBack$From" ({ cls := "ThereAndBack$Step", name := "walk", desc := "(LThereAndBack;)V" } : Jvm.MethodName) ({ cls := "ThereAndBack$Step", name := "walk", desc := "(LThereAndBack;)V" } : Jvm.MethodName)) ∈ lw_all := lw_g (lw_at lw_m8 178 rfl) rfl
theorem q3117 : (Jvm.Cond.castable "ThereAndBack$From" "ThereAndBack$Step") ∈ lw_tbl := lw_at lw_m13 93 rfl
theorem q3154 : (Jvm.Cond.castable "ThereAndBack$From" "java/lang/Object") ∈ lw_tbl := lw_at lw_m13 130 rfl
theorem in_X30 : ∀ w ∈ wsX300, w ∈ lw_all := lw_in wsX300 [1076, 1077, 1078, 1079] (by decide +kernel) (by decide +kernel)
/-! ThereAndBack$While -/
set_option maxRecDepth 100000
def RX31 : String := "ThereAndBack$While"
def TX31 : u_T := fun k => match k with
  | 0 => ("ThereAndBack$While", "test", "LThereAndBack$Expr;", true)
  | _ => ("ThereAndBack$While", "part", "LThereAndBack$Part;", true)
def tyX31 : Nat → FieldType := fun k => match k with
  | 0 => .object "ThereAndBack$Expr"
  | _ => .object "ThereAndBack$Part"
abbrev wsX310 : List Cond := u_ws RX31 TX31 2
theorem nmX31 : ∀ a, a < 2 → ∀ b, b < 2 → a ≠ b → (TX31 a).2.1 ≠ (TX31 b).2.1 := by decide +kernel
theorem tyX31_ok : ∀ k, k < 2 → parseFieldDescriptor (TX31 k).2.2.1 = some (tyX31 k) := by decide +kernel
abbrev cX31_init : ByteArray := prog_36_method_1_code
def yX31_init : MethodName := ⟨RX31, "<init>", "(LThereAndBack$Expr;LThereAndBack$Part;)V"⟩
def dkwX31_init_0 : List UInt8 := [42, 183, 0, 3, 42, 43, 181, 0, 9, 42, 44, 181, 0, 15, 177]
abbrev dktX31_init_0 : List UInt8 := dkwX31_init_0 ++ []
theorem dksX31_init_0 : cX31_init.data.toList.drop 0 = dktX31_init_0 := by decide +kernel
theorem dX31_init_0 : decode cX31_init 0 = .ok (.aload_n 0, 1) := dk_42 (dk_at dksX31_init_0 0 rfl rfl)
theorem dX31_init_1 : decode cX31_init 1 = .ok (.invokespecial 3, 3) := dk_183 0 3 (dk_at dksX31_init_0 1 rfl rfl)
theorem dX31_init_4 : decode cX31_init 4 = .ok (.aload_n 0, 1) := dk_42 (dk_at dksX31_init_0 4 rfl rfl)
theorem dX31_init_5 : decode cX31_init 5 = .ok (.aload_n 1, 1) := dk_43 (dk_at dksX31_init_0 5 rfl rfl)
theorem dX31_init_6 : decode cX31_init 6 = .ok (.putfield 9, 3) := dk_181 0 9 (dk_at dksX31_init_0 6 rfl rfl)
theorem dX31_init_9 : decode cX31_init 9 = .ok (.aload_n 0, 1) := dk_42 (dk_at dksX31_init_0 9 rfl rfl)
theorem dX31_init_10 : decode cX31_init 10 = .ok (.aload_n 2, 1) := dk_44 (dk_at dksX31_init_0 10 rfl rfl)
theorem dX31_init_11 : decode cX31_init 11 = .ok (.putfield 15, 3) := dk_181 0 15 (dk_at dksX31_init_0 11 rfl rfl)
theorem dX31_init_14 : decode cX31_init 14 = .ok (.return_, 1) := dk_177 (dk_at dksX31_init_0 14 rfl rfl)
abbrev cX31_code : ByteArray := prog_36_method_2_code
def yX31_code : MethodName := ⟨RX31, "code", "()I"⟩
def dkwX31_code_0 : List UInt8 := [5, 42, 180, 0, 15, 182, 0, 19, 96, 172]
abbrev dktX31_code_0 : List UInt8 := dkwX31_code_0 ++ []
theorem dksX31_code_0 : cX31_code.data.toList.drop 0 = dktX31_code_0 := by decide +kernel
theorem dX31_code_0 : decode cX31_code 0 = .ok (.iconst 2, 1) := dk_5 (dk_at dksX31_code_0 0 rfl rfl)
theorem dX31_code_1 : decode cX31_code 1 = .ok (.aload_n 0, 1) := dk_42 (dk_at dksX31_code_0 1 rfl rfl)
theorem dX31_code_2 : decode cX31_code 2 = .ok (.getfield 15, 3) := dk_180 0 15 (dk_at dksX31_code_0 2 rfl rfl)
theorem dX31_code_5 : decode cX31_code 5 = .ok (.invokevirtual 19, 3) := dk_182 0 19 (dk_at dksX31_code_0 5 rfl rfl)
theorem dX31_code_8 : decode cX31_code 8 = .ok (.iadd, 1) := dk_96 (dk_at dksX31_code_0 8 rfl rfl)
theorem dX31_code_9 : decode cX31_code 9 = .ok (.ireturn, 1) := dk_172 (dk_at dksX31_code_0 9 rfl rfl)
abbrev cX31_braces : ByteArray := prog_36_method_3_code
def yX31_braces : MethodName := ⟨RX31, "braces", "()I"⟩
def dkwX31_braces_0 : List UInt8 := [4, 42, 180, 0, 15, 182, 0, 25, 96, 172]
abbrev dktX31_braces_0 : List UInt8 := dkwX31_braces_0 ++ []
theorem dksX31_braces_0 : cX31_braces.data.toList.drop 0 = dktX31_braces_0 := by decide +kernel
theorem dX31_braces_0 : decode cX31_braces 0 = .ok (.iconst 1, 1) := dk_4 (dk_at dksX31_braces_0 0 rfl rfl)
theorem dX31_braces_1 : decode cX31_braces 1 = .ok (.aload_n 0, 1) := dk_42 (dk_at dksX31_braces_0 1 rfl rfl)
theorem dX31_braces_2 : decode cX31_braces 2 = .ok (.getfield 15, 3) := dk_180 0 15 (dk_at dksX31_braces_0 2 rfl rfl)
theorem dX31_braces_5 : decode cX31_braces 5 = .ok (.invokevirtual 25, 3) := dk_182 0 25 (dk_at dksX31_braces_0 5 rfl rfl)
theorem dX31_braces_8 : decode cX31_braces 8 = .ok (.iadd, 1) := dk_96 (dk_at dksX31_braces_0 8 rfl rfl)
theorem dX31_braces_9 : decode cX31_braces 9 = .ok (.ireturn, 1) := dk_172 (dk_at dksX31_braces_0 9 rfl rfl)
abbrev cX31_names : ByteArray := prog_36_method_5_code
def yX31_names : MethodName := ⟨RX31, "names", "()I"⟩
def dkwX31_names_0 : List UInt8 := [42, 180, 0, 9, 182, 0, 47, 42, 180, 0, 15, 182, 0, 50, 128, 172]
abbrev dktX31_names_0 : List UInt8 := dkwX31_names_0 ++ []
theorem dksX31_names_0 : cX31_names.data.toList.drop 0 = dktX31_names_0 := by decide +kernel
theorem dX31_names_0 : decode cX31_names 0 = .ok (.aload_n 0, 1) := dk_42 (dk_at dksX31_names_0 0 rfl rfl)
theorem dX31_names_1 : decode cX31_names 1 = .ok (.getfield 9, 3) := dk_180 0 9 (dk_at dksX31_names_0 1 rfl rfl)
theorem dX31_names_4 : decode cX31_names 4 = .ok (.invokevirtual 47, 3) := dk_182 0 47 (dk_at dksX31_names_0 4 rfl rfl)
theorem dX31_names_7 : decode cX31_names 7 = .ok (.aload_n 0, 1) := dk_42 (dk_at dksX31_names_0 7 rfl rfl)
theorem dX31_names_8 : decode cX31_names 8 = .ok (.getfield 15, 3) := dk_180 0 15 (dk_at dksX31_names_0 8 rfl rfl)
theorem dX31_names_11 : decode cX31_names 11 = .ok (.invokevirtual 50, 3) := dk_182 0 50 (dk_at dksX31_names_0 11 rfl rfl)
theorem dX31_names_14 : decode cX31_names 14 = .ok (.ior, 1) := dk_128 (dk_at dksX31_names_0 14 rfl rfl)
theorem dX31_names_15 : decode cX31_names 15 = .ok (.ireturn, 1) := dk_172 (dk_at dksX31_names_0 15 rfl rfl)
abbrev cX31_print : ByteArray := prog_36_method_4_code
def yX31_print : MethodName := ⟨RX31, "print", "(LThereAndBack;)V"⟩
def dkwX31_print_1 : List UInt8 := [16, 59, 182, 0, 43, 177]
abbrev dktX31_print_1 : List UInt8 := dkwX31_print_1 ++ []
def dkwX31_print_0 : List UInt8 := [43, 18, 28, 182, 0, 30, 42, 180, 0, 9, 43, 182, 0, 34, 42, 180, 0, 15, 43, 182, 0, 40, 43]
abbrev dktX31_print_0 : List UInt8 := dkwX31_print_0 ++ dktX31_print_1
theorem dksX31_print_0 : cX31_print.data.toList.drop 0 = dktX31_print_0 := by decide +kernel
theorem dksX31_print_1 : cX31_print.data.toList.drop 23 = dktX31_print_1 := dk_seg dksX31_print_0 23 rfl rfl
theorem dX31_print_0 : decode cX31_print 0 = .ok (.aload_n 1, 1) := dk_43 (dk_at dksX31_print_0 0 rfl rfl)
theorem dX31_print_1 : decode cX31_print 1 = .ok (.ldc 28, 2) := dk_18 28 (dk_at dksX31_print_0 1 rfl rfl)
theorem dX31_print_3 : decode cX31_print 3 = .ok (.invokevirtual 30, 3) := dk_182 0 30 (dk_at dksX31_print_0 3 rfl rfl)
theorem dX31_print_6 : decode cX31_print 6 = .ok (.aload_n 0, 1) := dk_42 (dk_at dksX31_print_0 6 rfl rfl)
theorem dX31_print_7 : decode cX31_print 7 = .ok (.getfield 9, 3) := dk_180 0 9 (dk_at dksX31_print_0 7 rfl rfl)
theorem dX31_print_10 : decode cX31_print 10 = .ok (.aload_n 1, 1) := dk_43 (dk_at dksX31_print_0 10 rfl rfl)
theorem dX31_print_11 : decode cX31_print 11 = .ok (.invokevirtual 34, 3) := dk_182 0 34 (dk_at dksX31_print_0 11 rfl rfl)
theorem dX31_print_14 : decode cX31_print 14 = .ok (.aload_n 0, 1) := dk_42 (dk_at dksX31_print_0 14 rfl rfl)
theorem dX31_print_15 : decode cX31_print 15 = .ok (.getfield 15, 3) := dk_180 0 15 (dk_at dksX31_print_0 15 rfl rfl)
theorem dX31_print_18 : decode cX31_print 18 = .ok (.aload_n 1, 1) := dk_43 (dk_at dksX31_print_0 18 rfl rfl)
theorem dX31_print_19 : decode cX31_print 19 = .ok (.invokevirtual 40, 3) := dk_182 0 40 (dk_at dksX31_print_0 19 rfl rfl)
theorem dX31_print_22 : decode cX31_print 22 = .ok (.aload_n 1, 1) := dk_43 (dk_at dksX31_print_0 22 rfl rfl)
theorem dX31_print_23 : decode cX31_print 23 = .ok (.bipush 59, 2) := dk_16 59 (dk_at dksX31_print_1 0 rfl rfl)
theorem dX31_print_25 : decode cX31_print 25 = .ok (.invokevirtual 43, 3) := dk_182 0 43 (dk_at dksX31_print_1 2 rfl rfl)
theorem dX31_print_28 : decode cX31_print 28 = .ok (.return_, 1) := dk_177 (dk_at dksX31_print_1 5 rfl rfl)
abbrev cX31_turn : ByteArray := prog_36_method_6_code
def yX31_turn : MethodName := ⟨RX31, "turn", "(Ljava/util/List;I)V"⟩
def dkwX31_turn_5 : List UInt8 := [185, 0, 77, 2, 0, 87, 43, 29, 184, 0, 101, 177]
abbrev dktX31_turn_5 : List UInt8 := dkwX31_turn_5 ++ []
def dkwX31_turn_4 : List UInt8 := [184, 0, 93, 187, 0, 20, 89, 183, 0, 97, 25, 4, 42, 180, 0, 9, 184, 0, 93, 183, 0, 98]
abbrev dktX31_turn_4 : List UInt8 := dkwX31_turn_4 ++ dktX31_turn_5
def dkwX31_turn_3 : List UInt8 := [183, 0, 85, 185, 0, 77, 2, 0, 87, 43, 187, 0, 88, 89, 187, 0, 90, 89, 29, 183, 0, 92]
abbrev dktX31_turn_3 : List UInt8 := dkwX31_turn_3 ++ dktX31_turn_4
def dkwX31_turn_2 : List UInt8 := [183, 0, 74, 185, 0, 77, 2, 0, 87, 43, 187, 0, 83, 89, 29, 187, 0, 70, 89, 3, 183, 0, 72, 4]
abbrev dktX31_turn_2 : List UInt8 := dkwX31_turn_2 ++ dktX31_turn_3
def dkwX31_turn_1 : List UInt8 := [187, 0, 63, 89, 187, 0, 65, 89, 29, 3, 1, 183, 0, 67, 3, 187, 0, 70, 89, 4, 183, 0, 72]
abbrev dktX31_turn_1 : List UInt8 := dkwX31_turn_1 ++ dktX31_turn_2
def dkwX31_turn_0 : List UInt8 := [28, 184, 0, 51, 62, 42, 180, 0, 15, 28, 4, 96, 182, 0, 55, 58, 4, 25, 4, 180, 0, 59]
abbrev dktX31_turn_0 : List UInt8 := dkwX31_turn_0 ++ dktX31_turn_1
theorem dksX31_turn_0 : cX31_turn.data.toList.drop 0 = dktX31_turn_0 := by decide +kernel
theorem dksX31_turn_1 : cX31_turn.data.toList.drop 22 = dktX31_turn_1 := dk_seg dksX31_turn_0 22 rfl rfl
theorem dksX31_turn_2 : cX31_turn.data.toList.drop 45 = dktX31_turn_2 := dk_seg dksX31_turn_1 23 rfl rfl
theorem dksX31_turn_3 : cX31_turn.data.toList.drop 69 = dktX31_turn_3 := dk_seg dksX31_turn_2 24 rfl rfl
theorem dksX31_turn_4 : cX31_turn.data.toList.drop 91 = dktX31_turn_4 := dk_seg dksX31_turn_3 22 rfl rfl
theorem dksX31_turn_5 : cX31_turn.data.toList.drop 113 = dktX31_turn_5 := dk_seg dksX31_turn_4 22 rfl rfl
theorem dX31_turn_0 : decode cX31_turn 0 = .ok (.iload_n 2, 1) := dk_28 (dk_at dksX31_turn_0 0 rfl rfl)
theorem dX31_turn_1 : decode cX31_turn 1 = .ok (.invokestatic 51, 3) := dk_184 0 51 (dk_at dksX31_turn_0 1 rfl rfl)
theorem dX31_turn_4 : decode cX31_turn 4 = .ok (.istore_n 3, 1) := dk_62 (dk_at dksX31_turn_0 4 rfl rfl)
theorem dX31_turn_5 : decode cX31_turn 5 = .ok (.aload_n 0, 1) := dk_42 (dk_at dksX31_turn_0 5 rfl rfl)
theorem dX31_turn_6 : decode cX31_turn 6 = .ok (.getfield 15, 3) := dk_180 0 15 (dk_at dksX31_turn_0 6 rfl rfl)
theorem dX31_turn_9 : decode cX31_turn 9 = .ok (.iload_n 2, 1) := dk_28 (dk_at dksX31_turn_0 9 rfl rfl)
theorem dX31_turn_10 : decode cX31_turn 10 = .ok (.iconst 1, 1) := dk_4 (dk_at dksX31_turn_0 10 rfl rfl)
theorem dX31_turn_11 : decode cX31_turn 11 = .ok (.iadd, 1) := dk_96 (dk_at dksX31_turn_0 11 rfl rfl)
theorem dX31_turn_12 : decode cX31_turn 12 = .ok (.invokevirtual 55, 3) := dk_182 0 55 (dk_at dksX31_turn_0 12 rfl rfl)
theorem dX31_turn_15 : decode cX31_turn 15 = .ok (.astore 4, 2) := dk_58 4 (dk_at dksX31_turn_0 15 rfl rfl)
theorem dX31_turn_17 : decode cX31_turn 17 = .ok (.aload 4, 2) := dk_25 4 (dk_at dksX31_turn_0 17 rfl rfl)
theorem dX31_turn_19 : decode cX31_turn 19 = .ok (.getfield 59, 3) := dk_180 0 59 (dk_at dksX31_turn_0 19 rfl rfl)
theorem dX31_turn_22 : decode cX31_turn 22 = .ok (.new 63, 3) := dk_187 0 63 (dk_at dksX31_turn_1 0 rfl rfl)
theorem dX31_turn_25 : decode cX31_turn 25 = .ok (.dup, 1) := dk_89 (dk_at dksX31_turn_1 3 rfl rfl)
theorem dX31_turn_26 : decode cX31_turn 26 = .ok (.new 65, 3) := dk_187 0 65 (dk_at dksX31_turn_1 4 rfl rfl)
theorem dX31_turn_29 : decode cX31_turn 29 = .ok (.dup, 1) := dk_89 (dk_at dksX31_turn_1 7 rfl rfl)
theorem dX31_turn_30 : decode cX31_turn 30 = .ok (.iload_n 3, 1) := dk_29 (dk_at dksX31_turn_1 8 rfl rfl)
theorem dX31_turn_31 : decode cX31_turn 31 = .ok (.iconst 0, 1) := dk_3 (dk_at dksX31_turn_1 9 rfl rfl)
theorem dX31_turn_32 : decode cX31_turn 32 = .ok (.aconst_null, 1) := dk_1 (dk_at dksX31_turn_1 10 rfl rfl)
theorem dX31_turn_33 : decode cX31_turn 33 = .ok (.invokespecial 67, 3) := dk_183 0 67 (dk_at dksX31_turn_1 11 rfl rfl)
theorem dX31_turn_36 : decode cX31_turn 36 = .ok (.iconst 0, 1) := dk_3 (dk_at dksX31_turn_1 14 rfl rfl)
theorem dX31_turn_37 : decode cX31_turn 37 = .ok (.new 70, 3) := dk_187 0 70 (dk_at dksX31_turn_1 15 rfl rfl)
theorem dX31_turn_40 : decode cX31_turn 40 = .ok (.dup, 1) := dk_89 (dk_at dksX31_turn_1 18 rfl rfl)
theorem dX31_turn_41 : decode cX31_turn 41 = .ok (.iconst 1, 1) := dk_4 (dk_at dksX31_turn_1 19 rfl rfl)
theorem dX31_turn_42 : decode cX31_turn 42 = .ok (.invokespecial 72, 3) := dk_183 0 72 (dk_at dksX31_turn_1 20 rfl rfl)
theorem dX31_turn_45 : decode cX31_turn 45 = .ok (.invokespecial 74, 3) := dk_183 0 74 (dk_at dksX31_turn_2 0 rfl rfl)
theorem dX31_turn_48 : decode cX31_turn 48 = .ok (.invokeinterface 77 2, 5) := by decide +kernel
theorem dX31_turn_53 : decode cX31_turn 53 = .ok (.pop, 1) := dk_87 (dk_at dksX31_turn_2 8 rfl rfl)
theorem dX31_turn_54 : decode cX31_turn 54 = .ok (.aload_n 1, 1) := dk_43 (dk_at dksX31_turn_2 9 rfl rfl)
theorem dX31_turn_55 : decode cX31_turn 55 = .ok (.new 83, 3) := dk_187 0 83 (dk_at dksX31_turn_2 10 rfl rfl)
theorem dX31_turn_58 : decode cX31_turn 58 = .ok (.dup, 1) := dk_89 (dk_at dksX31_turn_2 13 rfl rfl)
theorem dX31_turn_59 : decode cX31_turn 59 = .ok (.iload_n 3, 1) := dk_29 (dk_at dksX31_turn_2 14 rfl rfl)
theorem dX31_turn_60 : decode cX31_turn 60 = .ok (.new 70, 3) := dk_187 0 70 (dk_at dksX31_turn_2 15 rfl rfl)
theorem dX31_turn_63 : decode cX31_turn 63 = .ok (.dup, 1) := dk_89 (dk_at dksX31_turn_2 18 rfl rfl)
theorem dX31_turn_64 : decode cX31_turn 64 = .ok (.iconst 0, 1) := dk_3 (dk_at dksX31_turn_2 19 rfl rfl)
theorem dX31_turn_65 : decode cX31_turn 65 = .ok (.invokespecial 72, 3) := dk_183 0 72 (dk_at dksX31_turn_2 20 rfl rfl)
theorem dX31_turn_68 : decode cX31_turn 68 = .ok (.iconst 1, 1) := dk_4 (dk_at dksX31_turn_2 23 rfl rfl)
theorem dX31_turn_69 : decode cX31_turn 69 = .ok (.invokespecial 85, 3) := dk_183 0 85 (dk_at dksX31_turn_3 0 rfl rfl)
theorem dX31_turn_72 : decode cX31_turn 72 = .ok (.invokeinterface 77 2, 5) := by decide +kernel
theorem dX31_turn_77 : decode cX31_turn 77 = .ok (.pop, 1) := dk_87 (dk_at dksX31_turn_3 8 rfl rfl)
theorem dX31_turn_78 : decode cX31_turn 78 = .ok (.aload_n 1, 1) := dk_43 (dk_at dksX31_turn_3 9 rfl rfl)
theorem dX31_turn_79 : decode cX31_turn 79 = .ok (.new 88, 3) := dk_187 0 88 (dk_at dksX31_turn_3 10 rfl rfl)
theorem dX31_turn_82 : decode cX31_turn 82 = .ok (.dup, 1) := dk_89 (dk_at dksX31_turn_3 13 rfl rfl)
theorem dX31_turn_83 : decode cX31_turn 83 = .ok (.new 90, 3) := dk_187 0 90 (dk_at dksX31_turn_3 14 rfl rfl)
theorem dX31_turn_86 : decode cX31_turn 86 = .ok (.dup, 1) := dk_89 (dk_at dksX31_turn_3 17 rfl rfl)
theorem dX31_turn_87 : decode cX31_turn 87 = .ok (.iload_n 3, 1) := dk_29 (dk_at dksX31_turn_3 18 rfl rfl)
theorem dX31_turn_88 : decode cX31_turn 88 = .ok (.invokespecial 92, 3) := dk_183 0 92 (dk_at dksX31_turn_3 19 rfl rfl)
theorem dX31_turn_91 : decode cX31_turn 91 = .ok (.invokestatic 93, 3) := dk_184 0 93 (dk_at dksX31_turn_4 0 rfl rfl)
theorem dX31_turn_94 : decode cX31_turn 94 = .ok (.new 20, 3) := dk_187 0 20 (dk_at dksX31_turn_4 3 rfl rfl)
theorem dX31_turn_97 : decode cX31_turn 97 = .ok (.dup, 1) := dk_89 (dk_at dksX31_turn_4 6 rfl rfl)
theorem dX31_turn_98 : decode cX31_turn 98 = .ok (.invokespecial 97, 3) := dk_183 0 97 (dk_at dksX31_turn_4 7 rfl rfl)
theorem dX31_turn_101 : decode cX31_turn 101 = .ok (.aload 4, 2) := dk_25 4 (dk_at dksX31_turn_4 10 rfl rfl)
theorem dX31_turn_103 : decode cX31_turn 103 = .ok (.aload_n 0, 1) := dk_42 (dk_at dksX31_turn_4 12 rfl rfl)
theorem dX31_turn_104 : decode cX31_turn 104 = .ok (.getfield 9, 3) := dk_180 0 9 (dk_at dksX31_turn_4 13 rfl rfl)
theorem dX31_turn_107 : decode cX31_turn 107 = .ok (.invokestatic 93, 3) := dk_184 0 93 (dk_at dksX31_turn_4 16 rfl rfl)
theorem dX31_turn_110 : decode cX31_turn 110 = .ok (.invokespecial 98, 3) := dk_183 0 98 (dk_at dksX31_turn_4 19 rfl rfl)
theorem dX31_turn_113 : decode cX31_turn 113 = .ok (.invokeinterface 77 2, 5) := by decide +kernel
theorem dX31_turn_118 : decode cX31_turn 118 = .ok (.pop, 1) := dk_87 (dk_at dksX31_turn_5 5 rfl rfl)
theorem dX31_turn_119 : decode cX31_turn 119 = .ok (.aload_n 1, 1) := dk_43 (dk_at dksX31_turn_5 6 rfl rfl)
theorem dX31_turn_120 : decode cX31_turn 120 = .ok (.iload_n 3, 1) := dk_29 (dk_at dksX31_turn_5 7 rfl rfl)
theorem dX31_turn_121 : decode cX31_turn 121 = .ok (.invokestatic 101, 3) := dk_184 0 101 (dk_at dksX31_turn_5 8 rfl rfl)
theorem dX31_turn_124 : decode cX31_turn 124 = .ok (.return_, 1) := dk_177 (dk_at dksX31_turn_5 11 rfl rfl)
abbrev cX31_walk : ByteArray := prog_36_method_7_code
def yX31_walk : MethodName := ⟨RX31, "walk", "(LThereAndBack;)V"⟩
def dkwX31_walk_1 : List UInt8 := [182, 0, 112, 43, 182, 0, 105, 167, 255, 231, 177]
abbrev dktX31_walk_1 : List UInt8 := dkwX31_walk_1 ++ []
def dkwX31_walk_0 : List UInt8 := [43, 182, 0, 105, 42, 180, 0, 9, 43, 182, 0, 108, 9, 148, 153, 0, 18, 42, 180, 0, 15, 43]
abbrev dktX31_walk_0 : List UInt8 := dkwX31_walk_0 ++ dktX31_walk_1
theorem dksX31_walk_0 : cX31_walk.data.toList.drop 0 = dktX31_walk_0 := by decide +kernel
theorem dksX31_walk_1 : cX31_walk.data.toList.drop 22 = dktX31_walk_1 := dk_seg dksX31_walk_0 22 rfl rfl
theorem dX31_walk_0 : decode cX31_walk 0 = .ok (.aload_n 1, 1) := dk_43 (dk_at dksX31_walk_0 0 rfl rfl)
theorem dX31_walk_1 : decode cX31_walk 1 = .ok (.invokevirtual 105, 3) := dk_182 0 105 (dk_at dksX31_walk_0 1 rfl rfl)
theorem dX31_walk_4 : decode cX31_walk 4 = .ok (.aload_n 0, 1) := dk_42 (dk_at dksX31_walk_0 4 rfl rfl)
theorem dX31_walk_5 : decode cX31_walk 5 = .ok (.getfield 9, 3) := dk_180 0 9 (dk_at dksX31_walk_0 5 rfl rfl)
theorem dX31_walk_8 : decode cX31_walk 8 = .ok (.aload_n 1, 1) := dk_43 (dk_at dksX31_walk_0 8 rfl rfl)
theorem dX31_walk_9 : decode cX31_walk 9 = .ok (.invokevirtual 108, 3) := dk_182 0 108 (dk_at dksX31_walk_0 9 rfl rfl)
theorem dX31_walk_12 : decode cX31_walk 12 = .ok (.lconst 0, 1) := dk_9 (dk_at dksX31_walk_0 12 rfl rfl)
theorem dX31_walk_13 : decode cX31_walk 13 = .ok (.lcmp, 1) := dk_148 (dk_at dksX31_walk_0 13 rfl rfl)
theorem dX31_walk_14 : decode cX31_walk 14 = .ok (.ifCond .eq 18, 3) := dk_153 0 18 (dk_at dksX31_walk_0 14 rfl rfl)
theorem dX31_walk_17 : decode cX31_walk 17 = .ok (.aload_n 0, 1) := dk_42 (dk_at dksX31_walk_0 17 rfl rfl)
theorem dX31_walk_18 : decode cX31_walk 18 = .ok (.getfield 15, 3) := dk_180 0 15 (dk_at dksX31_walk_0 18 rfl rfl)
theorem dX31_walk_21 : decode cX31_walk 21 = .ok (.aload_n 1, 1) := dk_43 (dk_at dksX31_walk_0 21 rfl rfl)
theorem dX31_walk_22 : decode cX31_walk 22 = .ok (.invokevirtual 112, 3) := dk_182 0 112 (dk_at dksX31_walk_1 0 rfl rfl)
theorem dX31_walk_25 : decode cX31_walk 25 = .ok (.aload_n 1, 1) := dk_43 (dk_at dksX31_walk_1 3 rfl rfl)
theorem dX31_walk_26 : decode cX31_walk 26 = .ok (.invokevirtual 105, 3) := dk_182 0 105 (dk_at dksX31_walk_1 4 rfl rfl)
theorem dX31_walk_29 : decode cX31_walk 29 = .ok (.goto (-25), 3) := dk_167 255 231 (dk_at dksX31_walk_1 7 rfl rfl)
theorem dX31_walk_32 : decode cX31_walk 32 = .ok (.return_, 1) := dk_177 (dk_at dksX31_walk_1 10 rfl rfl)
theorem q185 : (Jvm.Cond.initialized "ThereAndBack$While") ∈ lw_all := lw_g (lw_at lw_m1 41 rfl) rfl
theorem q547 : (Jvm.Cond.fieldLinkNest "ThereAndBack$While" (59 : Nat) "ThereAndBack$Part" "steps" "Ljava/util/List;" "ThereAndBack") ∈ lw_tbl := lw_at lw_m2 163 rfl
theorem q1086 : (Jvm.Cond.instantiable "ThereAndBack$While" (2 : Nat)) ∈ lw_all := lw_g (lw_at lw_m4 222 rfl) rfl
theorem q1088 : (Jvm.Cond.instanceMethod ({ cls := "ThereAndBack$While", name := "<init>", desc := "(LThereAndBack$Expr;LThereAndBack$Part;)V" } : Jvm.MethodName)) ∈ lw_all := lw_g (lw_at lw_m4 224 rfl) rfl
theorem q1089 : (Jvm.Cond.code ({ cls := "ThereAndBack$While", name := "<init>", desc := "(LThereAndBack$Expr;LThereAndBack$Part;)V" } : Jvm.MethodName) prog_36_method_1_code (3 : Nat) (Option.none : Option Jvm.ClassFile.FieldType)) ∈ lw_all := lw_g (lw_at lw_m4 225 rfl) rfl
theorem q1090 : (Jvm.Cond.methodLinkNest "ThereAndBack$While" (3 : Nat) ({ cls := "ThereAndBack$Ordinary", name := "<init>", desc := "()V" } : Jvm.MethodName) "ThereAndBack") ∈ lw_tbl := lw_at lw_m4 226 rfl
theorem q1091 : (Jvm.Cond.fieldLink "ThereAndBack$While" (9 : Nat) "ThereAndBack$While" "test" "LThereAndBack$Expr;") ∈ lw_all := lw_g (lw_at lw_m4 227 rfl) rfl
theorem q1092 : (Jvm.Cond.fieldLink "ThereAndBack$While" (15 : Nat) "ThereAndBack$While" "part" "LThereAndBack$Part;") ∈ lw_all := lw_g (lw_at lw_m4 228 rfl) rfl
theorem q1093 : (Jvm.Cond.laysFinal "ThereAndBack$While" "ThereAndBack$While" "test" "LThereAndBack$Expr;") ∈ lw_all := lw_g (lw_at lw_m4 229 rfl) rfl
theorem q1094 : (Jvm.Cond.soleField "ThereAndBack$While" "test") ∈ lw_all := lw_g (lw_at lw_m4 230 rfl) rfl
theorem q1095 : (Jvm.Cond.laysFinal "ThereAndBack$While" "ThereAndBack$While" "part" "LThereAndBack$Part;") ∈ lw_all := lw_g (lw_at lw_m4 231 rfl) rfl
theorem q1096 : (Jvm.Cond.soleField "ThereAndBack$While" "part") ∈ lw_all := lw_g (lw_at lw_m4 232 rfl) rfl
theorem q1097 : (Jvm.Cond.superclass "ThereAndBack$While" "ThereAndBack$Ordinary") ∈ lw_all := lw_g (lw_at lw_m4 233 rfl) rfl
theorem q1180 : (Jvm.Cond.selects "ThereAndBack$While" ({ cls := "java/lang/Object", name := "getClass", desc := "()Ljava/lang/Class;" } : Jvm.MethodName) ({ cls := "java/lang/Object", name := "getClass", desc := "()Ljava/lang/Class;" } : Jvm.MethodName)) ∈ lw_all := lw_g (lw_at lw_m5 76 rfl) rfl
theorem q1333 : (Jvm.Cond.selects "ThereAndBack$While" ({ cls := "ThereAndBack$Step", name := "lay", desc := "(Ljava/util/List;)V" } : Jvm.MethodName) ({ cls := "ThereAndBack$Ordinary", name := "lay", desc := "(Ljava/util/List;)V" } : Jvm.MethodName)) ∈ lw_all := lw_g (lw_at lw_m5 229 rfl) rfl
theorem q1367 : (Jvm.Cond.selects "ThereAndBack$While" ({ cls := "ThereAndBack$Step", name := "code", desc := "()I" } : Jvm.MethodName) ({ cls := "ThereAndBack$While", name := "code", desc := "()I" } : Jvm.MethodName)) ∈ lw_all := lw_g (lw_at lw_m6 23 rfl) rfl
theorem q1368 : (Jvm.Cond.instanceMethod ({ cls := "ThereAndBack$While", name := "code", desc := "()I" } : Jvm.MethodName)) ∈ lw_all := lw_g (lw_at lw_m6 24 rfl) rfl
theorem q1369 : (Jvm.Cond.code ({ cls := "ThereAndBack$While", name := "code", desc := "()I" } : Jvm.MethodName) prog_36_method_2_code (1 : Nat) (Option.some Jvm.ClassFile.FieldType.int)) ∈ lw_all := lw_g (lw_at lw_m6 25 rfl) rfl
theorem q1370 : (Jvm.Cond.methodLink "ThereAndBack$While" (19 : Nat) ({ cls := "ThereAndBack$Part", name := "code", desc := "()I" } : Jvm.MethodName)) ∈ lw_all := lw_g (lw_at lw_m6 26 rfl) rfl
theorem q1422 : (Jvm.Cond.selects "ThereAndBack$While" ({ cls := "ThereAndBack$Step", name := "isOrdinary", desc := "()Z" } : Jvm.MethodName) ({ cls := "ThereAndBack$Ordinary", name := "isOrdinary", desc := "()Z" } : Jvm.MethodName)) ∈ lw_all := lw_g (lw_at lw_m6 78 rfl) rfl
theorem q1449 : (Jvm.Cond.selects "ThereAndBack$While" ({ cls := "ThereAndBack$Step", name := "braces", desc := "()I" } : Jvm.MethodName) ({ cls := "ThereAndBack$While", name := "braces", desc := "()I" } : Jvm.MethodName)) ∈ lw_all := lw_g (lw_at lw_m6 105 rfl) rfl
theorem q1450 : (Jvm.Cond.instanceMethod ({ cls := "ThereAndBack$While", name := "braces", desc := "()I" } : Jvm.MethodName)) ∈ lw_all := lw_g (lw_at lw_m6 106 rfl) rfl
theorem q1451 : (Jvm.Cond.code ({ cls := "ThereAndBack$While", name := "braces", desc := "()I" } : Jvm.MethodName) prog_36_method_3_code (1 : Nat) (Option.some Jvm.ClassFile.FieldType.int)) ∈ lw_all := lw_g (lw_at lw_m6 107 rfl) rfl
theorem q1452 : (Jvm.Cond.methodLink "ThereAndBack$While" (25 : Nat) ({ cls := "ThereAndBack$Part", name := "braces", desc := "()I" } : Jvm.MethodName)) ∈ lw_all := lw_g (lw_at lw_m6 108 rfl) rfl
theorem q1518 : (Jvm.Cond.selects "ThereAndBack$While" ({ cls := "ThereAndBack$Step", name := "names", desc := "()I" } : Jvm.MethodName) ({ cls := "ThereAndBack$While", name := "names", desc := "()I" } : Jvm.MethodName)) ∈ lw_all := lw_g (lw_at lw_m6 174 rfl) rfl
theorem q1519 : (Jvm.Cond.instanceMethod ({ cls := "ThereAndBack$While", name := "names", desc := "()I" } : Jvm.MethodName)) ∈ lw_all := lw_g (lw_at lw_m6 175 rfl) rfl
theorem q1520 : (Jvm.Cond.code ({ cls := "ThereAndBack$While", name := "names", desc := "()I" } : Jvm.MethodName) prog_36_method_5_code (1 : Nat) (Option.some Jvm.ClassFile.FieldType.int)) ∈ lw_all := lw_g (lw_at lw_m6 176 rfl) rfl
theorem q1521 : (Jvm.Cond.methodLink "ThereAndBack$While" (47 : Nat) ({ cls := "ThereAndBack$Expr", name := "names", desc := "()I" } : Jvm.MethodName)) ∈ lw_all := lw_g (lw_at lw_m6 177 rfl) rfl
theorem q1522 : (Jvm.Cond.methodLink "ThereAndBack$While" (50 : Nat) ({ cls := "ThereAndBack$Part", name := "names", desc := "()I" } : Jvm.MethodName)) ∈ lw_all := lw_g (lw_at lw_m6 178 rfl) rfl
theorem q1722 : (Jvm.Cond.selects "ThereAndBack$While" ({ cls := "ThereAndBack$Step", name := "print", desc := "(LThereAndBack;)V" } : Jvm.MethodName) ({ cls := "ThereAndBack$While", name := "print", desc := "(LThereAndBack;)V" } : Jvm.MethodName)) ∈ lw_all := lw_g (lw_at lw_m7 138 rfl) rfl
theorem q1723 : (Jvm.Cond.instanceMethod ({ cls := "ThereAndBack$While", name := "print", desc := "(LThereAndBack;)V" } : Jvm.MethodName)) ∈ lw_all := lw_g (lw_at lw_m7 139 rfl) rfl
theorem q1724 : (Jvm.Cond.code ({ cls := "ThereAndBack$While", name := "print", desc := "(LThereAndBack;)V" } : Jvm.MethodName) prog_36_method_4_code (2 : Nat) (Option.none : Option Jvm.ClassFile.FieldType)) ∈ lw_all := lw_g (lw_at lw_m7 140 rfl) rfl
theorem q1725 : (Jvm.Cond.stringRef "ThereAndBack$While" (28 : Nat) "while") ∈ lw_tbl := lw_at lw_m7 141 rfl
theorem q1726 : (Jvm.Cond.methodLinkNest "ThereAndBack$While" (30 : Nat) ({ cls := "ThereAndBack", name := "printWord", desc := "(Ljava/lang/String;)V" } : Jvm.MethodName) "ThereAndBack") ∈ lw_tbl := lw_at lw_m7 142 rfl
theorem q1727 : (Jvm.Cond.methodLink "ThereAndBack$While" (34 : Nat) ({ cls := "ThereAndBack$Expr", name := "print", desc := "(LThereAndBack;)V" } : Jvm.MethodName)) ∈ lw_all := lw_g (lw_at lw_m7 143 rfl) rfl
theorem q1728 : (Jvm.Cond.methodLink "ThereAndBack$While" (40 : Nat) ({ cls := "ThereAndBack$Part", name := "printBraced", desc := "(LThereAndBack;)V" } : Jvm.MethodName)) ∈ lw_all := lw_g (lw_at lw_m7 144 rfl) rfl
theorem q1729 : (Jvm.Cond.methodLinkNest "ThereAndBack$While" (43 : Nat) ({ cls := "ThereAndBack", name := "printBehind", desc := "(I)V" } : Jvm.MethodName) "ThereAndBack") ∈ lw_tbl := lw_at lw_m7 145 rfl
theorem q1803 : (Jvm.Cond.selects "ThereAndBack$While" ({ cls := "ThereAndBack$Step", name := "mirror", desc := "()LThereAndBack$Step;" } : Jvm.MethodName) ({ cls := "ThereAndBack$Ordinary", name := "mirror", desc := "()LThereAndBack$Step;" } : Jvm.MethodName)) ∈ lw_all := lw_g (lw_at lw_m7 219 rfl) rfl
theorem q1879 : (Jvm.Cond.selects "ThereAndBack$While" ({ cls := "ThereAndBack$Step", name := "turn", desc := "(Ljava/util/List;I)V" } : Jvm.MethodName) ({ cls := "ThereAndBack$While", name := "turn", desc := "(Ljava/util/List;I)V" } : Jvm.MethodName)) ∈ lw_all := lw_g (lw_at lw_m8 55 rfl) rfl
theorem q1880 : (Jvm.Cond.instanceMethod ({ cls := "ThereAndBack$While", name := "turn", desc := "(Ljava/util/List;I)V" } : Jvm.MethodName)) ∈ lw_all := lw_g (lw_at lw_m8 56 rfl) rfl
theorem q1881 : (Jvm.Cond.code ({ cls := "ThereAndBack$While", name := "turn", desc := "(Ljava/util/List;I)V" } : Jvm.MethodName) prog_36_method_6_code (5 : Nat) (Option.none : Option Jvm.ClassFile.FieldType)) ∈ lw_all := lw_g (lw_at lw_m8 57 rfl) rfl
theorem q1882 : (Jvm.Cond.methodLink "ThereAndBack$While" (51 : Nat) ({ cls := "ThereAndBack$While", name := "counter", desc := "(I)I" } : Jvm.MethodName)) ∈ lw_all := lw_g (lw_at lw_m8 58 rfl) rfl
theorem q1883 : (Jvm.Cond.sameMethod "ThereAndBack$While" "ThereAndBack$Ordinary" "counter" "(I)I") ∈ lw_all := lw_g (lw_at lw_m8 59 rfl) rfl
theorem q1884 : (Jvm.Cond.methodLink "ThereAndBack$While" (55 : Nat) ({ cls := "ThereAndBack$Part", name := "turned", desc := "(I)LThereAndBack$Part;" } : Jvm.MethodName)) ∈ lw_all := lw_g (lw_at lw_m8 60 rfl) rfl
theorem q1885 : (Jvm.Cond.classLink "ThereAndBack$While" (63 : Nat) "ThereAndBack$Change") ∈ lw_all := lw_g (lw_at lw_m8 61 rfl) rfl
theorem q1886 : (Jvm.Cond.classLink "ThereAndBack$While" (65 : Nat) "ThereAndBack$Place") ∈ lw_all := lw_g (lw_at lw_m8 62 rfl) rfl
theorem q1887 : (Jvm.Cond.methodLink "ThereAndBack$While" (67 : Nat) ({ cls := "ThereAndBack$Place", name := "<init>", desc := "(IILThereAndBack$Expr;)V" } : Jvm.MethodName)) ∈ lw_all := lw_g (lw_at lw_m8 63 rfl) rfl
theorem q1888 : (Jvm.Cond.classLink "ThereAndBack$While" (70 : Nat) "ThereAndBack$Num") ∈ lw_all := lw_g (lw_at lw_m8 64 rfl) rfl
theorem q1889 : (Jvm.Cond.methodLink "ThereAndBack$While" (72 : Nat) ({ cls := "ThereAndBack$Num", name := "<init>", desc := "(I)V" } : Jvm.MethodName)) ∈ lw_all := lw_g (lw_at lw_m8 65 rfl) rfl
theorem q1890 : (Jvm.Cond.methodLink "ThereAndBack$While" (74 : Nat) ({ cls := "ThereAndBack$Change", name := "<init>", desc := "(LThereAndBack$Place;ILThereAndBack$Expr;)V" } : Jvm.MethodName)) ∈ lw_all := lw_g (lw_at lw_m8 66 rfl) rfl
theorem q1891 : (Jvm.Cond.interfaceEntry "ThereAndBack$While" (77 : Nat)) ∈ lw_tbl := lw_at lw_m8 67 rfl
theorem q1892 : (Jvm.Cond.methodLink "ThereAndBack$While" (77 : Nat) ({ cls := "java/util/List", name := "add", desc := "(Ljava/lang/Object;)Z" } : Jvm.MethodName)) ∈ lw_all := lw_g (lw_at lw_m8 68 rfl) rfl
theorem q1893 : (Jvm.Cond.classLink "ThereAndBack$While" (83 : Nat) "ThereAndBack$Let") ∈ lw_all := lw_g (lw_at lw_m8 69 rfl) rfl
theorem q1894 : (Jvm.Cond.methodLink "ThereAndBack$While" (85 : Nat) ({ cls := "ThereAndBack$Let", name := "<init>", desc := "(ILThereAndBack$Expr;Z)V" } : Jvm.MethodName)) ∈ lw_all := lw_g (lw_at lw_m8 70 rfl) rfl
theorem q1895 : (Jvm.Cond.classLink "ThereAndBack$While" (88 : Nat) "ThereAndBack$From") ∈ lw_all := lw_g (lw_at lw_m8 71 rfl) rfl
theorem q1896 : (Jvm.Cond.classLink "ThereAndBack$While" (90 : Nat) "ThereAndBack$Name") ∈ lw_all := lw_g (lw_at lw_m8 72 rfl) rfl
theorem q1897 : (Jvm.Cond.methodLink "ThereAndBack$While" (92 : Nat) ({ cls := "ThereAndBack$Name", name := "<init>", desc := "(I)V" } : Jvm.MethodName)) ∈ lw_all := lw_g (lw_at lw_m8 73 rfl) rfl
theorem q1898 : (Jvm.Cond.methodLink "ThereAndBack$While" (93 : Nat) ({ cls := "ThereAndBack$While", name := "isNought", desc := "(LThereAndBack$Expr;)LThereAndBack$Expr;" } : Jvm.MethodName)) ∈ lw_all := lw_g (lw_at lw_m8 74 rfl) rfl
theorem q1899 : (Jvm.Cond.sameMethod "ThereAndBack$While" "ThereAndBack$Ordinary" "isNought" "(LThereAndBack$Expr;)LThereAndBack$Expr;") ∈ lw_all := lw_g (lw_at lw_m8 75 rfl) rfl
theorem q1900 : (Jvm.Cond.classLink "ThereAndBack$While" (20 : Nat) "ThereAndBack$Part") ∈ lw_all := lw_g (lw_at lw_m8 76 rfl) rfl
theorem q1901 : (Jvm.Cond.methodLinkNest "ThereAndBack$While" (97 : Nat) ({ cls := "ThereAndBack$Part", name := "<init>", desc := "()V" } : Jvm.MethodName) "ThereAndBack") ∈ lw_tbl := lw_at lw_m8 77 rfl
theorem q1902 : (Jvm.Cond.methodLink "ThereAndBack$While" (98 : Nat) ({ cls := "ThereAndBack$From", name := "<init>", desc := "(LThereAndBack$Expr;LThereAndBack$Part;LThereAndBack$Part;LThereAndBack$Expr;)V" } : Jvm.MethodName)) ∈ lw_all := lw_g (lw_at lw_m8 78 rfl) rfl
theorem q1903 : (Jvm.Cond.methodLink "ThereAndBack$While" (101 : Nat) ({ cls := "ThereAndBack$While", name := "keep", desc := "(Ljava/util/List;I)V" } : Jvm.MethodName)) ∈ lw_all := lw_g (lw_at lw_m8 79 rfl) rfl
theorem q1904 : (Jvm.Cond.sameMethod "ThereAndBack$While" "ThereAndBack$Ordinary" "keep" "(Ljava/util/List;I)V") ∈ lw_all := lw_g (lw_at lw_m8 80 rfl) rfl
theorem q2014 : (Jvm.Cond.selects "ThereAndBack$While" ({ cls := "ThereAndBack$Step", name := "walk", desc := "(LThereAndBack;)V" } : Jvm.MethodName) ({ cls := "ThereAndBack$While", name := "walk", desc := "(LThereAndBack;)V" } : Jvm.MethodName)) ∈ lw_all := lw_g (lw_at lw_m8 190 rfl) rfl
theorem q2015 : (Jvm.Cond.instanceMethod ({ cls := "ThereAndBack$While", name := "walk", desc := "(LThereAndBack;)V" } : Jvm.MethodName)) ∈ lw_all := lw_g (lw_at lw_m8 191 rfl) rfl
theorem q2016 : (Jvm.Cond.code ({ cls := "ThereAndBack$While", name := "walk", desc := "(LThereAndBack;)V" } : Jvm.MethodName) prog_36_method_7_code (2 : Nat) (Option.none : Option Jvm.ClassFile.FieldType)) ∈ lw_all := lw_g (lw_at lw_m8 192 rfl) rfl
theorem q2017 : (Jvm.Cond.methodLinkNest "ThereAndBack$While" (105 : Nat) ({ cls := "ThereAndBack", name := "move", desc := "()V" } : Jvm.MethodName) "ThereAndBack") ∈ lw_tbl := lw_at lw_m8 193 rfl
theorem q2018 : (Jvm.Cond.methodLink "ThereAndBack$While" (108 : Nat) ({ cls := "ThereAndBack$Expr", name := "eval", desc := "(LThereAndBack;)J" } : Jvm.MethodName)) ∈ lw_all := lw_g (lw_at lw_m8 194 rfl) rfl
theorem q2019 : (Jvm.Cond.methodLink "ThereAndBack$While" (112 : Nat) ({ cls := "ThereAndBack$Part", name := "walk", desc := "(LThereAndBack;)V" } : Jvm.MethodName)) ∈ lw_all := lw_g (lw_at lw_m8 195 rfl) rfl
theorem q3124 : (Jvm.Cond.castable "ThereAndBack$While" "ThereAndBack$Step") ∈ lw_tbl := lw_at lw_m13 100 rfl
theorem q3155 : (Jvm.Cond.castable "ThereAndBack$While" "java/lang/Object") ∈ lw_tbl := lw_at lw_m13 131 rfl
theorem in_X31 : ∀ w ∈ wsX310, w ∈ lw_all := lw_in wsX310 [1093, 1095] (by decide +kernel) (by decide +kernel)
/-! ThereAndBack$When -/
set_option maxRecDepth 100000
def RX32 : String := "ThereAndBack$When"
def TX32 : u_T := fun k => match k with
  | 0 => ("ThereAndBack$When", "test", "LThereAndBack$Expr;", true)
  | 1 => ("ThereAndBack$When", "first", "LThereAndBack$Part;", true)
  | _ => ("ThereAndBack$When", "second", "LThereAndBack$Part;", true)
def tyX32 : Nat → FieldType := fun k => match k with
  | 0 => .object "ThereAndBack$Expr"
  | 1 => .object "ThereAndBack$Part"
  | _ => .object "ThereAndBack$Part"
abbrev wsX320 : List Cond := u_ws RX32 TX32 3
theorem nmX32 : ∀ a, a < 3 → ∀ b, b < 3 → a ≠ b → (TX32 a).2.1 ≠ (TX32 b).2.1 := by decide +kernel
theorem tyX32_ok : ∀ k, k < 3 → parseFieldDescriptor (TX32 k).2.2.1 = some (tyX32 k) := by decide +kernel
abbrev cX32_init : ByteArray := prog_35_method_1_code
def yX32_init : MethodName := ⟨RX32, "<init>", "(LThereAndBack$Expr;LThereAndBack$Part;LThereAndBack$Part;)V"⟩
def dkwX32_init_0 : List UInt8 := [42, 183, 0, 1, 42, 43, 181, 0, 7, 42, 44, 181, 0, 13, 42, 45, 181, 0, 17, 177]
abbrev dktX32_init_0 : List UInt8 := dkwX32_init_0 ++ []
theorem dksX32_init_0 : cX32_init.data.toList.drop 0 = dktX32_init_0 := by decide +kernel
theorem dX32_init_0 : decode cX32_init 0 = .ok (.aload_n 0, 1) := dk_42 (dk_at dksX32_init_0 0 rfl rfl)
theorem dX32_init_1 : decode cX32_init 1 = .ok (.invokespecial 1, 3) := dk_183 0 1 (dk_at dksX32_init_0 1 rfl rfl)
theorem dX32_init_4 : decode cX32_init 4 = .ok (.aload_n 0, 1) := dk_42 (dk_at dksX32_init_0 4 rfl rfl)
theorem dX32_init_5 : decode cX32_init 5 = .ok (.aload_n 1, 1) := dk_43 (dk_at dksX32_init_0 5 rfl rfl)
theorem dX32_init_6 : decode cX32_init 6 = .ok (.putfield 7, 3) := dk_181 0 7 (dk_at dksX32_init_0 6 rfl rfl)
theorem dX32_init_9 : decode cX32_init 9 = .ok (.aload_n 0, 1) := dk_42 (dk_at dksX32_init_0 9 rfl rfl)
theorem dX32_init_10 : decode cX32_init 10 = .ok (.aload_n 2, 1) := dk_44 (dk_at dksX32_init_0 10 rfl rfl)
theorem dX32_init_11 : decode cX32_init 11 = .ok (.putfield 13, 3) := dk_181 0 13 (dk_at dksX32_init_0 11 rfl rfl)
theorem dX32_init_14 : decode cX32_init 14 = .ok (.aload_n 0, 1) := dk_42 (dk_at dksX32_init_0 14 rfl rfl)
theorem dX32_init_15 : decode cX32_init 15 = .ok (.aload_n 3, 1) := dk_45 (dk_at dksX32_init_0 15 rfl rfl)
theorem dX32_init_16 : decode cX32_init 16 = .ok (.putfield 17, 3) := dk_181 0 17 (dk_at dksX32_init_0 16 rfl rfl)
theorem dX32_init_19 : decode cX32_init 19 = .ok (.return_, 1) := dk_177 (dk_at dksX32_init_0 19 rfl rfl)
abbrev cX32_code : ByteArray := prog_35_method_2_code
def yX32_code : MethodName := ⟨RX32, "code", "()I"⟩
def dkwX32_code_0 : List UInt8 := [6, 42, 180, 0, 13, 182, 0, 20, 96, 42, 180, 0, 17, 182, 0, 20, 96, 172]
abbrev dktX32_code_0 : List UInt8 := dkwX32_code_0 ++ []
theorem dksX32_code_0 : cX32_code.data.toList.drop 0 = dktX32_code_0 := by decide +kernel
theorem dX32_code_0 : decode cX32_code 0 = .ok (.iconst 3, 1) := dk_6 (dk_at dksX32_code_0 0 rfl rfl)
theorem dX32_code_1 : decode cX32_code 1 = .ok (.aload_n 0, 1) := dk_42 (dk_at dksX32_code_0 1 rfl rfl)
theorem dX32_code_2 : decode cX32_code 2 = .ok (.getfield 13, 3) := dk_180 0 13 (dk_at dksX32_code_0 2 rfl rfl)
theorem dX32_code_5 : decode cX32_code 5 = .ok (.invokevirtual 20, 3) := dk_182 0 20 (dk_at dksX32_code_0 5 rfl rfl)
theorem dX32_code_8 : decode cX32_code 8 = .ok (.iadd, 1) := dk_96 (dk_at dksX32_code_0 8 rfl rfl)
theorem dX32_code_9 : decode cX32_code 9 = .ok (.aload_n 0, 1) := dk_42 (dk_at dksX32_code_0 9 rfl rfl)
theorem dX32_code_10 : decode cX32_code 10 = .ok (.getfield 17, 3) := dk_180 0 17 (dk_at dksX32_code_0 10 rfl rfl)
theorem dX32_code_13 : decode cX32_code 13 = .ok (.invokevirtual 20, 3) := dk_182 0 20 (dk_at dksX32_code_0 13 rfl rfl)
theorem dX32_code_16 : decode cX32_code 16 = .ok (.iadd, 1) := dk_96 (dk_at dksX32_code_0 16 rfl rfl)
theorem dX32_code_17 : decode cX32_code 17 = .ok (.ireturn, 1) := dk_172 (dk_at dksX32_code_0 17 rfl rfl)
abbrev cX32_braces : ByteArray := prog_35_method_3_code
def yX32_braces : MethodName := ⟨RX32, "braces", "()I"⟩
def dkwX32_braces_0 : List UInt8 := [4, 42, 180, 0, 13, 182, 0, 26, 42, 180, 0, 17, 182, 0, 26, 184, 0, 29, 96, 172]
abbrev dktX32_braces_0 : List UInt8 := dkwX32_braces_0 ++ []
theorem dksX32_braces_0 : cX32_braces.data.toList.drop 0 = dktX32_braces_0 := by decide +kernel
theorem dX32_braces_0 : decode cX32_braces 0 = .ok (.iconst 1, 1) := dk_4 (dk_at dksX32_braces_0 0 rfl rfl)
theorem dX32_braces_1 : decode cX32_braces 1 = .ok (.aload_n 0, 1) := dk_42 (dk_at dksX32_braces_0 1 rfl rfl)
theorem dX32_braces_2 : decode cX32_braces 2 = .ok (.getfield 13, 3) := dk_180 0 13 (dk_at dksX32_braces_0 2 rfl rfl)
theorem dX32_braces_5 : decode cX32_braces 5 = .ok (.invokevirtual 26, 3) := dk_182 0 26 (dk_at dksX32_braces_0 5 rfl rfl)
theorem dX32_braces_8 : decode cX32_braces 8 = .ok (.aload_n 0, 1) := dk_42 (dk_at dksX32_braces_0 8 rfl rfl)
theorem dX32_braces_9 : decode cX32_braces 9 = .ok (.getfield 17, 3) := dk_180 0 17 (dk_at dksX32_braces_0 9 rfl rfl)
theorem dX32_braces_12 : decode cX32_braces 12 = .ok (.invokevirtual 26, 3) := dk_182 0 26 (dk_at dksX32_braces_0 12 rfl rfl)
theorem dX32_braces_15 : decode cX32_braces 15 = .ok (.invokestatic 29, 3) := dk_184 0 29 (dk_at dksX32_braces_0 15 rfl rfl)
theorem dX32_braces_18 : decode cX32_braces 18 = .ok (.iadd, 1) := dk_96 (dk_at dksX32_braces_0 18 rfl rfl)
theorem dX32_braces_19 : decode cX32_braces 19 = .ok (.ireturn, 1) := dk_172 (dk_at dksX32_braces_0 19 rfl rfl)
abbrev cX32_names : ByteArray := prog_35_method_5_code
def yX32_names : MethodName := ⟨RX32, "names", "()I"⟩
def dkwX32_names_0 : List UInt8 := [42, 180, 0, 7, 182, 0, 58, 42, 180, 0, 13, 182, 0, 61, 128, 42, 180, 0, 17, 182, 0, 61, 128, 172]
abbrev dktX32_names_0 : List UInt8 := dkwX32_names_0 ++ []
theorem dksX32_names_0 : cX32_names.data.toList.drop 0 = dktX32_names_0 := by decide +kernel
theorem dX32_names_0 : decode cX32_names 0 = .ok (.aload_n 0, 1) := dk_42 (dk_at dksX32_names_0 0 rfl rfl)
theorem dX32_names_1 : decode cX32_names 1 = .ok (.getfield 7, 3) := dk_180 0 7 (dk_at dksX32_names_0 1 rfl rfl)
theorem dX32_names_4 : decode cX32_names 4 = .ok (.invokevirtual 58, 3) := dk_182 0 58 (dk_at dksX32_names_0 4 rfl rfl)
theorem dX32_names_7 : decode cX32_names 7 = .ok (.aload_n 0, 1) := dk_42 (dk_at dksX32_names_0 7 rfl rfl)
theorem dX32_names_8 : decode cX32_names 8 = .ok (.getfield 13, 3) := dk_180 0 13 (dk_at dksX32_names_0 8 rfl rfl)
theorem dX32_names_11 : decode cX32_names 11 = .ok (.invokevirtual 61, 3) := dk_182 0 61 (dk_at dksX32_names_0 11 rfl rfl)
theorem dX32_names_14 : decode cX32_names 14 = .ok (.ior, 1) := dk_128 (dk_at dksX32_names_0 14 rfl rfl)
theorem dX32_names_15 : decode cX32_names 15 = .ok (.aload_n 0, 1) := dk_42 (dk_at dksX32_names_0 15 rfl rfl)
theorem dX32_names_16 : decode cX32_names 16 = .ok (.getfield 17, 3) := dk_180 0 17 (dk_at dksX32_names_0 16 rfl rfl)
theorem dX32_names_19 : decode cX32_names 19 = .ok (.invokevirtual 61, 3) := dk_182 0 61 (dk_at dksX32_names_0 19 rfl rfl)
theorem dX32_names_22 : decode cX32_names 22 = .ok (.ior, 1) := dk_128 (dk_at dksX32_names_0 22 rfl rfl)
theorem dX32_names_23 : decode cX32_names 23 = .ok (.ireturn, 1) := dk_172 (dk_at dksX32_names_0 23 rfl rfl)
abbrev cX32_print : ByteArray := prog_35_method_4_code
def yX32_print : MethodName := ⟨RX32, "print", "(LThereAndBack;)V"⟩
def dkwX32_print_1 : List UInt8 := [18, 52, 182, 0, 37, 42, 180, 0, 17, 43, 182, 0, 49, 43, 16, 59, 182, 0, 54, 177]
abbrev dktX32_print_1 : List UInt8 := dkwX32_print_1 ++ []
def dkwX32_print_0 : List UInt8 := [43, 18, 35, 182, 0, 37, 42, 180, 0, 7, 43, 182, 0, 43, 42, 180, 0, 13, 43, 182, 0, 49, 43]
abbrev dktX32_print_0 : List UInt8 := dkwX32_print_0 ++ dktX32_print_1
theorem dksX32_print_0 : cX32_print.data.toList.drop 0 = dktX32_print_0 := by decide +kernel
theorem dksX32_print_1 : cX32_print.data.toList.drop 23 = dktX32_print_1 := dk_seg dksX32_print_0 23 rfl rfl
theorem dX32_print_0 : decode cX32_print 0 = .ok (.aload_n 1, 1) := dk_43 (dk_at dksX32_print_0 0 rfl rfl)
theorem dX32_print_1 : decode cX32_print 1 = .ok (.ldc 35, 2) := dk_18 35 (dk_at dksX32_print_0 1 rfl rfl)
theorem dX32_print_3 : decode cX32_print 3 = .ok (.invokevirtual 37, 3) := dk_182 0 37 (dk_at dksX32_print_0 3 rfl rfl)
theorem dX32_print_6 : decode cX32_print 6 = .ok (.aload_n 0, 1) := dk_42 (dk_at dksX32_print_0 6 rfl rfl)
theorem dX32_print_7 : decode cX32_print 7 = .ok (.getfield 7, 3) := dk_180 0 7 (dk_at dksX32_print_0 7 rfl rfl)
theorem dX32_print_10 : decode cX32_print 10 = .ok (.aload_n 1, 1) := dk_43 (dk_at dksX32_print_0 10 rfl rfl)
theorem dX32_print_11 : decode cX32_print 11 = .ok (.invokevirtual 43, 3) := dk_182 0 43 (dk_at dksX32_print_0 11 rfl rfl)
theorem dX32_print_14 : decode cX32_print 14 = .ok (.aload_n 0, 1) := dk_42 (dk_at dksX32_print_0 14 rfl rfl)
theorem dX32_print_15 : decode cX32_print 15 = .ok (.getfield 13, 3) := dk_180 0 13 (dk_at dksX32_print_0 15 rfl rfl)
theorem dX32_print_18 : decode cX32_print 18 = .ok (.aload_n 1, 1) := dk_43 (dk_at dksX32_print_0 18 rfl rfl)
theorem dX32_print_19 : decode cX32_print 19 = .ok (.invokevirtual 49, 3) := dk_182 0 49 (dk_at dksX32_print_0 19 rfl rfl)
theorem dX32_print_22 : decode cX32_print 22 = .ok (.aload_n 1, 1) := dk_43 (dk_at dksX32_print_0 22 rfl rfl)
theorem dX32_print_23 : decode cX32_print 23 = .ok (.ldc 52, 2) := dk_18 52 (dk_at dksX32_print_1 0 rfl rfl)
theorem dX32_print_25 : decode cX32_print 25 = .ok (.invokevirtual 37, 3) := dk_182 0 37 (dk_at dksX32_print_1 2 rfl rfl)
theorem dX32_print_28 : decode cX32_print 28 = .ok (.aload_n 0, 1) := dk_42 (dk_at dksX32_print_1 5 rfl rfl)
theorem dX32_print_29 : decode cX32_print 29 = .ok (.getfield 17, 3) := dk_180 0 17 (dk_at dksX32_print_1 6 rfl rfl)
theorem dX32_print_32 : decode cX32_print 32 = .ok (.aload_n 1, 1) := dk_43 (dk_at dksX32_print_1 9 rfl rfl)
theorem dX32_print_33 : decode cX32_print 33 = .ok (.invokevirtual 49, 3) := dk_182 0 49 (dk_at dksX32_print_1 10 rfl rfl)
theorem dX32_print_36 : decode cX32_print 36 = .ok (.aload_n 1, 1) := dk_43 (dk_at dksX32_print_1 13 rfl rfl)
theorem dX32_print_37 : decode cX32_print 37 = .ok (.bipush 59, 2) := dk_16 59 (dk_at dksX32_print_1 14 rfl rfl)
theorem dX32_print_39 : decode cX32_print 39 = .ok (.invokevirtual 54, 3) := dk_182 0 54 (dk_at dksX32_print_1 16 rfl rfl)
theorem dX32_print_42 : decode cX32_print 42 = .ok (.return_, 1) := dk_177 (dk_at dksX32_print_1 19 rfl rfl)
abbrev cX32_turn : ByteArray := prog_35_method_6_code
def yX32_turn : MethodName := ⟨RX32, "turn", "(Ljava/util/List;I)V"⟩
def dkwX32_turn_3 : List UInt8 := [183, 0, 85, 184, 0, 68, 183, 0, 91, 185, 0, 75, 2, 0, 87, 43, 29, 184, 0, 94, 177]
abbrev dktX32_turn_3 : List UInt8 := dkwX32_turn_3 ++ []
def dkwX32_turn_2 : List UInt8 := [180, 0, 13, 28, 4, 96, 182, 0, 87, 42, 180, 0, 17, 28, 4, 96, 182, 0, 87, 187, 0, 83, 89, 29]
abbrev dktX32_turn_2 : List UInt8 := dkwX32_turn_2 ++ dktX32_turn_3
def dkwX32_turn_1 : List UInt8 := [185, 0, 75, 2, 0, 87, 43, 187, 0, 81, 89, 187, 0, 83, 89, 29, 183, 0, 85, 184, 0, 68, 42]
abbrev dktX32_turn_1 : List UInt8 := dkwX32_turn_1 ++ dktX32_turn_2
def dkwX32_turn_0 : List UInt8 := [28, 184, 0, 62, 62, 43, 187, 0, 66, 89, 29, 42, 180, 0, 7, 184, 0, 68, 4, 183, 0, 72]
abbrev dktX32_turn_0 : List UInt8 := dkwX32_turn_0 ++ dktX32_turn_1
theorem dksX32_turn_0 : cX32_turn.data.toList.drop 0 = dktX32_turn_0 := by decide +kernel
theorem dksX32_turn_1 : cX32_turn.data.toList.drop 22 = dktX32_turn_1 := dk_seg dksX32_turn_0 22 rfl rfl
theorem dksX32_turn_2 : cX32_turn.data.toList.drop 45 = dktX32_turn_2 := dk_seg dksX32_turn_1 23 rfl rfl
theorem dksX32_turn_3 : cX32_turn.data.toList.drop 69 = dktX32_turn_3 := dk_seg dksX32_turn_2 24 rfl rfl
theorem dX32_turn_0 : decode cX32_turn 0 = .ok (.iload_n 2, 1) := dk_28 (dk_at dksX32_turn_0 0 rfl rfl)
theorem dX32_turn_1 : decode cX32_turn 1 = .ok (.invokestatic 62, 3) := dk_184 0 62 (dk_at dksX32_turn_0 1 rfl rfl)
theorem dX32_turn_4 : decode cX32_turn 4 = .ok (.istore_n 3, 1) := dk_62 (dk_at dksX32_turn_0 4 rfl rfl)
theorem dX32_turn_5 : decode cX32_turn 5 = .ok (.aload_n 1, 1) := dk_43 (dk_at dksX32_turn_0 5 rfl rfl)
theorem dX32_turn_6 : decode cX32_turn 6 = .ok (.new 66, 3) := dk_187 0 66 (dk_at dksX32_turn_0 6 rfl rfl)
theorem dX32_turn_9 : decode cX32_turn 9 = .ok (.dup, 1) := dk_89 (dk_at dksX32_turn_0 9 rfl rfl)
theorem dX32_turn_10 : decode cX32_turn 10 = .ok (.iload_n 3, 1) := dk_29 (dk_at dksX32_turn_0 10 rfl rfl)
theorem dX32_turn_11 : decode cX32_turn 11 = .ok (.aload_n 0, 1) := dk_42 (dk_at dksX32_turn_0 11 rfl rfl)
theorem dX32_turn_12 : decode cX32_turn 12 = .ok (.getfield 7, 3) := dk_180 0 7 (dk_at dksX32_turn_0 12 rfl rfl)
theorem dX32_turn_15 : decode cX32_turn 15 = .ok (.invokestatic 68, 3) := dk_184 0 68 (dk_at dksX32_turn_0 15 rfl rfl)
theorem dX32_turn_18 : decode cX32_turn 18 = .ok (.iconst 1, 1) := dk_4 (dk_at dksX32_turn_0 18 rfl rfl)
theorem dX32_turn_19 : decode cX32_turn 19 = .ok (.invokespecial 72, 3) := dk_183 0 72 (dk_at dksX32_turn_0 19 rfl rfl)
theorem dX32_turn_22 : decode cX32_turn 22 = .ok (.invokeinterface 75 2, 5) := by decide +kernel
theorem dX32_turn_27 : decode cX32_turn 27 = .ok (.pop, 1) := dk_87 (dk_at dksX32_turn_1 5 rfl rfl)
theorem dX32_turn_28 : decode cX32_turn 28 = .ok (.aload_n 1, 1) := dk_43 (dk_at dksX32_turn_1 6 rfl rfl)
theorem dX32_turn_29 : decode cX32_turn 29 = .ok (.new 81, 3) := dk_187 0 81 (dk_at dksX32_turn_1 7 rfl rfl)
theorem dX32_turn_32 : decode cX32_turn 32 = .ok (.dup, 1) := dk_89 (dk_at dksX32_turn_1 10 rfl rfl)
theorem dX32_turn_33 : decode cX32_turn 33 = .ok (.new 83, 3) := dk_187 0 83 (dk_at dksX32_turn_1 11 rfl rfl)
theorem dX32_turn_36 : decode cX32_turn 36 = .ok (.dup, 1) := dk_89 (dk_at dksX32_turn_1 14 rfl rfl)
theorem dX32_turn_37 : decode cX32_turn 37 = .ok (.iload_n 3, 1) := dk_29 (dk_at dksX32_turn_1 15 rfl rfl)
theorem dX32_turn_38 : decode cX32_turn 38 = .ok (.invokespecial 85, 3) := dk_183 0 85 (dk_at dksX32_turn_1 16 rfl rfl)
theorem dX32_turn_41 : decode cX32_turn 41 = .ok (.invokestatic 68, 3) := dk_184 0 68 (dk_at dksX32_turn_1 19 rfl rfl)
theorem dX32_turn_44 : decode cX32_turn 44 = .ok (.aload_n 0, 1) := dk_42 (dk_at dksX32_turn_1 22 rfl rfl)
theorem dX32_turn_45 : decode cX32_turn 45 = .ok (.getfield 13, 3) := dk_180 0 13 (dk_at dksX32_turn_2 0 rfl rfl)
theorem dX32_turn_48 : decode cX32_turn 48 = .ok (.iload_n 2, 1) := dk_28 (dk_at dksX32_turn_2 3 rfl rfl)
theorem dX32_turn_49 : decode cX32_turn 49 = .ok (.iconst 1, 1) := dk_4 (dk_at dksX32_turn_2 4 rfl rfl)
theorem dX32_turn_50 : decode cX32_turn 50 = .ok (.iadd, 1) := dk_96 (dk_at dksX32_turn_2 5 rfl rfl)
theorem dX32_turn_51 : decode cX32_turn 51 = .ok (.invokevirtual 87, 3) := dk_182 0 87 (dk_at dksX32_turn_2 6 rfl rfl)
theorem dX32_turn_54 : decode cX32_turn 54 = .ok (.aload_n 0, 1) := dk_42 (dk_at dksX32_turn_2 9 rfl rfl)
theorem dX32_turn_55 : decode cX32_turn 55 = .ok (.getfield 17, 3) := dk_180 0 17 (dk_at dksX32_turn_2 10 rfl rfl)
theorem dX32_turn_58 : decode cX32_turn 58 = .ok (.iload_n 2, 1) := dk_28 (dk_at dksX32_turn_2 13 rfl rfl)
theorem dX32_turn_59 : decode cX32_turn 59 = .ok (.iconst 1, 1) := dk_4 (dk_at dksX32_turn_2 14 rfl rfl)
theorem dX32_turn_60 : decode cX32_turn 60 = .ok (.iadd, 1) := dk_96 (dk_at dksX32_turn_2 15 rfl rfl)
theorem dX32_turn_61 : decode cX32_turn 61 = .ok (.invokevirtual 87, 3) := dk_182 0 87 (dk_at dksX32_turn_2 16 rfl rfl)
theorem dX32_turn_64 : decode cX32_turn 64 = .ok (.new 83, 3) := dk_187 0 83 (dk_at dksX32_turn_2 19 rfl rfl)
theorem dX32_turn_67 : decode cX32_turn 67 = .ok (.dup, 1) := dk_89 (dk_at dksX32_turn_2 22 rfl rfl)
theorem dX32_turn_68 : decode cX32_turn 68 = .ok (.iload_n 3, 1) := dk_29 (dk_at dksX32_turn_2 23 rfl rfl)
theorem dX32_turn_69 : decode cX32_turn 69 = .ok (.invokespecial 85, 3) := dk_183 0 85 (dk_at dksX32_turn_3 0 rfl rfl)
theorem dX32_turn_72 : decode cX32_turn 72 = .ok (.invokestatic 68, 3) := dk_184 0 68 (dk_at dksX32_turn_3 3 rfl rfl)
theorem dX32_turn_75 : decode cX32_turn 75 = .ok (.invokespecial 91, 3) := dk_183 0 91 (dk_at dksX32_turn_3 6 rfl rfl)
theorem dX32_turn_78 : decode cX32_turn 78 = .ok (.invokeinterface 75 2, 5) := by decide +kernel
theorem dX32_turn_83 : decode cX32_turn 83 = .ok (.pop, 1) := dk_87 (dk_at dksX32_turn_3 14 rfl rfl)
theorem dX32_turn_84 : decode cX32_turn 84 = .ok (.aload_n 1, 1) := dk_43 (dk_at dksX32_turn_3 15 rfl rfl)
theorem dX32_turn_85 : decode cX32_turn 85 = .ok (.iload_n 3, 1) := dk_29 (dk_at dksX32_turn_3 16 rfl rfl)
theorem dX32_turn_86 : decode cX32_turn 86 = .ok (.invokestatic 94, 3) := dk_184 0 94 (dk_at dksX32_turn_3 17 rfl rfl)
theorem dX32_turn_89 : decode cX32_turn 89 = .ok (.return_, 1) := dk_177 (dk_at dksX32_turn_3 20 rfl rfl)
abbrev cX32_walk : ByteArray := prog_35_method_7_code
def yX32_walk : MethodName := ⟨RX32, "walk", "(LThereAndBack;)V"⟩
def dkwX32_walk_1 : List UInt8 := [182, 0, 105, 167, 0, 11, 42, 180, 0, 17, 43, 182, 0, 105, 177]
abbrev dktX32_walk_1 : List UInt8 := dkwX32_walk_1 ++ []
def dkwX32_walk_0 : List UInt8 := [43, 182, 0, 98, 42, 180, 0, 7, 43, 182, 0, 101, 9, 148, 153, 0, 14, 42, 180, 0, 13, 43]
abbrev dktX32_walk_0 : List UInt8 := dkwX32_walk_0 ++ dktX32_walk_1
theorem dksX32_walk_0 : cX32_walk.data.toList.drop 0 = dktX32_walk_0 := by decide +kernel
theorem dksX32_walk_1 : cX32_walk.data.toList.drop 22 = dktX32_walk_1 := dk_seg dksX32_walk_0 22 rfl rfl
theorem dX32_walk_0 : decode cX32_walk 0 = .ok (.aload_n 1, 1) := dk_43 (dk_at dksX32_walk_0 0 rfl rfl)
theorem dX32_walk_1 : decode cX32_walk 1 = .ok (.invokevirtual 98, 3) := dk_182 0 98 (dk_at dksX32_walk_0 1 rfl rfl)
theorem dX32_walk_4 : decode cX32_walk 4 = .ok (.aload_n 0, 1) := dk_42 (dk_at dksX32_walk_0 4 rfl rfl)
theorem dX32_walk_5 : decode cX32_walk 5 = .ok (.getfield 7, 3) := dk_180 0 7 (dk_at dksX32_walk_0 5 rfl rfl)
theorem dX32_walk_8 : decode cX32_walk 8 = .ok (.aload_n 1, 1) := dk_43 (dk_at dksX32_walk_0 8 rfl rfl)
theorem dX32_walk_9 : decode cX32_walk 9 = .ok (.invokevirtual 101, 3) := dk_182 0 101 (dk_at dksX32_walk_0 9 rfl rfl)
theorem dX32_walk_12 : decode cX32_walk 12 = .ok (.lconst 0, 1) := dk_9 (dk_at dksX32_walk_0 12 rfl rfl)
theorem dX32_walk_13 : decode cX32_walk 13 = .ok (.lcmp, 1) := dk_148 (dk_at dksX32_walk_0 13 rfl rfl)
theorem dX32_walk_14 : decode cX32_walk 14 = .ok (.ifCond .eq 14, 3) := dk_153 0 14 (dk_at dksX32_walk_0 14 rfl rfl)
theorem dX32_walk_17 : decode cX32_walk 17 = .ok (.aload_n 0, 1) := dk_42 (dk_at dksX32_walk_0 17 rfl rfl)
theorem dX32_walk_18 : decode cX32_walk 18 = .ok (.getfield 13, 3) := dk_180 0 13 (dk_at dksX32_walk_0 18 rfl rfl)
theorem dX32_walk_21 : decode cX32_walk 21 = .ok (.aload_n 1, 1) := dk_43 (dk_at dksX32_walk_0 21 rfl rfl)
theorem dX32_walk_22 : decode cX32_walk 22 = .ok (.invokevirtual 105, 3) := dk_182 0 105 (dk_at dksX32_walk_1 0 rfl rfl)
theorem dX32_walk_25 : decode cX32_walk 25 = .ok (.goto 11, 3) := dk_167 0 11 (dk_at dksX32_walk_1 3 rfl rfl)
theorem dX32_walk_28 : decode cX32_walk 28 = .ok (.aload_n 0, 1) := dk_42 (dk_at dksX32_walk_1 6 rfl rfl)
theorem dX32_walk_29 : decode cX32_walk 29 = .ok (.getfield 17, 3) := dk_180 0 17 (dk_at dksX32_walk_1 7 rfl rfl)
theorem dX32_walk_32 : decode cX32_walk 32 = .ok (.aload_n 1, 1) := dk_43 (dk_at dksX32_walk_1 10 rfl rfl)
theorem dX32_walk_33 : decode cX32_walk 33 = .ok (.invokevirtual 105, 3) := dk_182 0 105 (dk_at dksX32_walk_1 11 rfl rfl)
theorem dX32_walk_36 : decode cX32_walk 36 = .ok (.return_, 1) := dk_177 (dk_at dksX32_walk_1 14 rfl rfl)
theorem q186 : (Jvm.Cond.initialized "ThereAndBack$When") ∈ lw_all := lw_g (lw_at lw_m1 42 rfl) rfl
theorem q1099 : (Jvm.Cond.instantiable "ThereAndBack$When" (3 : Nat)) ∈ lw_all := lw_g (lw_at lw_m4 235 rfl) rfl
theorem q1101 : (Jvm.Cond.instanceMethod ({ cls := "ThereAndBack$When", name := "<init>", desc := "(LThereAndBack$Expr;LThereAndBack$Part;LThereAndBack$Part;)V" } : Jvm.MethodName)) ∈ lw_all := lw_g (lw_at lw_m4 237 rfl) rfl
theorem q1102 : (Jvm.Cond.code ({ cls := "ThereAndBack$When", name := "<init>", desc := "(LThereAndBack$Expr;LThereAndBack$Part;LThereAndBack$Part;)V" } : Jvm.MethodName) prog_35_method_1_code (4 : Nat) (Option.none : Option Jvm.ClassFile.FieldType)) ∈ lw_all := lw_g (lw_at lw_m4 238 rfl) rfl
theorem q1103 : (Jvm.Cond.methodLinkNest "ThereAndBack$When" (1 : Nat) ({ cls := "ThereAndBack$Ordinary", name := "<init>", desc := "()V" } : Jvm.MethodName) "ThereAndBack") ∈ lw_tbl := lw_at lw_m4 239 rfl
theorem q1104 : (Jvm.Cond.fieldLink "ThereAndBack$When" (7 : Nat) "ThereAndBack$When" "test" "LThereAndBack$Expr;") ∈ lw_all := lw_g (lw_at lw_m5 0 rfl) rfl
theorem q1105 : (Jvm.Cond.fieldLink "ThereAndBack$When" (13 : Nat) "ThereAndBack$When" "first" "LThereAndBack$Part;") ∈ lw_all := lw_g (lw_at lw_m5 1 rfl) rfl
theorem q1106 : (Jvm.Cond.fieldLink "ThereAndBack$When" (17 : Nat) "ThereAndBack$When" "second" "LThereAndBack$Part;") ∈ lw_all := lw_g (lw_at lw_m5 2 rfl) rfl
theorem q1107 : (Jvm.Cond.laysFinal "ThereAndBack$When" "ThereAndBack$When" "test" "LThereAndBack$Expr;") ∈ lw_all := lw_g (lw_at lw_m5 3 rfl) rfl
theorem q1108 : (Jvm.Cond.soleField "ThereAndBack$When" "test") ∈ lw_all := lw_g (lw_at lw_m5 4 rfl) rfl
theorem q1109 : (Jvm.Cond.laysFinal "ThereAndBack$When" "ThereAndBack$When" "first" "LThereAndBack$Part;") ∈ lw_all := lw_g (lw_at lw_m5 5 rfl) rfl
theorem q1110 : (Jvm.Cond.soleField "ThereAndBack$When" "first") ∈ lw_all := lw_g (lw_at lw_m5 6 rfl) rfl
theorem q1111 : (Jvm.Cond.laysFinal "ThereAndBack$When" "ThereAndBack$When" "second" "LThereAndBack$Part;") ∈ lw_all := lw_g (lw_at lw_m5 7 rfl) rfl
theorem q1112 : (Jvm.Cond.soleField "ThereAndBack$When" "second") ∈ lw_all := lw_g (lw_at lw_m5 8 rfl) rfl
theorem q1113 : (Jvm.Cond.superclass "ThereAndBack$When" "ThereAndBack$Ordinary") ∈ lw_all := lw_g (lw_at lw_m5 9 rfl) rfl
theorem q1179 : (Jvm.Cond.selects "ThereAndBack$When" ({ cls := "java/lang/Object", name := "getClass", desc := "()Ljava/lang/Class;" } : Jvm.MethodName) ({ cls := "java/lang/Object", name := "getClass", desc := "()Ljava/lang/Class;" } : Jvm.MethodName)) ∈ lw_all := lw_g (lw_at lw_m5 75 rfl) rfl
theorem q1332 : (Jvm.Cond.selects "ThereAndBack$When" ({ cls := "ThereAndBack$Step", name := "lay", desc := "(Ljava/util/List;)V" } : Jvm.MethodName) ({ cls := "ThereAndBack$Ordinary", name := "lay", desc := "(Ljava/util/List;)V" } : Jvm.MethodName)) ∈ lw_all := lw_g (lw_at lw_m5 228 rfl) rfl
theorem q1363 : (Jvm.Cond.selects "ThereAndBack$When" ({ cls := "ThereAndBack$Step", name := "code", desc := "()I" } : Jvm.MethodName) ({ cls := "ThereAndBack$When", name := "code", desc := "()I" } : Jvm.MethodName)) ∈ lw_all := lw_g (lw_at lw_m6 19 rfl) rfl
theorem q1364 : (Jvm.Cond.instanceMethod ({ cls := "ThereAndBack$When", name := "code", desc := "()I" } : Jvm.MethodName)) ∈ lw_all := lw_g (lw_at lw_m6 20 rfl) rfl
theorem q1365 : (Jvm.Cond.code ({ cls := "ThereAndBack$When", name := "code", desc := "()I" } : Jvm.MethodName) prog_35_method_2_code (1 : Nat) (Option.some Jvm.ClassFile.FieldType.int)) ∈ lw_all := lw_g (lw_at lw_m6 21 rfl) rfl
theorem q1366 : (Jvm.Cond.methodLink "ThereAndBack$When" (20 : Nat) ({ cls := "ThereAndBack$Part", name := "code", desc := "()I" } : Jvm.MethodName)) ∈ lw_all := lw_g (lw_at lw_m6 22 rfl) rfl
theorem q1421 : (Jvm.Cond.selects "ThereAndBack$When" ({ cls := "ThereAndBack$Step", name := "isOrdinary", desc := "()Z" } : Jvm.MethodName) ({ cls := "ThereAndBack$Ordinary", name := "isOrdinary", desc := "()Z" } : Jvm.MethodName)) ∈ lw_all := lw_g (lw_at lw_m6 77 rfl) rfl
theorem q1444 : (Jvm.Cond.selects "ThereAndBack$When" ({ cls := "ThereAndBack$Step", name := "braces", desc := "()I" } : Jvm.MethodName) ({ cls := "ThereAndBack$When", name := "braces", desc := "()I" } : Jvm.MethodName)) ∈ lw_all := lw_g (lw_at lw_m6 100 rfl) rfl
theorem q1445 : (Jvm.Cond.instanceMethod ({ cls := "ThereAndBack$When", name := "braces", desc := "()I" } : Jvm.MethodName)) ∈ lw_all := lw_g (lw_at lw_m6 101 rfl) rfl
theorem q1446 : (Jvm.Cond.code ({ cls := "ThereAndBack$When", name := "braces", desc := "()I" } : Jvm.MethodName) prog_35_method_3_code (1 : Nat) (Option.some Jvm.ClassFile.FieldType.int)) ∈ lw_all := lw_g (lw_at lw_m6 102 rfl) rfl
theorem q1447 : (Jvm.Cond.methodLink "ThereAndBack$When" (26 : Nat) ({ cls := "ThereAndBack$Part", name := "braces", desc := "()I" } : Jvm.MethodName)) ∈ lw_all := lw_g (lw_at lw_m6 103 rfl) rfl
theorem q1448 : (Jvm.Cond.methodLink "ThereAndBack$When" (29 : Nat) ({ cls := "java/lang/Math", name := "max", desc := "(II)I" } : Jvm.MethodName)) ∈ lw_all := lw_g (lw_at lw_m6 104 rfl) rfl
theorem q1513 : (Jvm.Cond.selects "ThereAndBack$When" ({ cls := "ThereAndBack$Step", name := "names", desc := "()I" } : Jvm.MethodName) ({ cls := "ThereAndBack$When", name := "names", desc := "()I" } : Jvm.MethodName)) ∈ lw_all := lw_g (lw_at lw_m6 169 rfl) rfl
theorem q1514 : (Jvm.Cond.instanceMethod ({ cls := "ThereAndBack$When", name := "names", desc := "()I" } : Jvm.MethodName)) ∈ lw_all := lw_g (lw_at lw_m6 170 rfl) rfl
theorem q1515 : (Jvm.Cond.code ({ cls := "ThereAndBack$When", name := "names", desc := "()I" } : Jvm.MethodName) prog_35_method_5_code (1 : Nat) (Option.some Jvm.ClassFile.FieldType.int)) ∈ lw_all := lw_g (lw_at lw_m6 171 rfl) rfl
theorem q1516 : (Jvm.Cond.methodLink "ThereAndBack$When" (58 : Nat) ({ cls := "ThereAndBack$Expr", name := "names", desc := "()I" } : Jvm.MethodName)) ∈ lw_all := lw_g (lw_at lw_m6 172 rfl) rfl
theorem q1517 : (Jvm.Cond.methodLink "ThereAndBack$When" (61 : Nat) ({ cls := "ThereAndBack$Part", name := "names", desc := "()I" } : Jvm.MethodName)) ∈ lw_all := lw_g (lw_at lw_m6 173 rfl) rfl
theorem q1713 : (Jvm.Cond.selects "ThereAndBack$When" ({ cls := "ThereAndBack$Step", name := "print", desc := "(LThereAndBack;)V" } : Jvm.MethodName) ({ cls := "ThereAndBack$When", name := "print", desc := "(LThereAndBack;)V" } : Jvm.MethodName)) ∈ lw_all := lw_g (lw_at lw_m7 129 rfl) rfl
theorem q1714 : (Jvm.Cond.instanceMethod ({ cls := "ThereAndBack$When", name := "print", desc := "(LThereAndBack;)V" } : Jvm.MethodName)) ∈ lw_all := lw_g (lw_at lw_m7 130 rfl) rfl
theorem q1715 : (Jvm.Cond.code ({ cls := "ThereAndBack$When", name := "print", desc := "(LThereAndBack;)V" } : Jvm.MethodName) prog_35_method_4_code (2 : Nat) (Option.none : Option Jvm.ClassFile.FieldType)) ∈ lw_all := lw_g (lw_at lw_m7 131 rfl) rfl
theorem q1716 : (Jvm.Cond.stringRef "ThereAndBack$When" (35 : Nat) "when") ∈ lw_tbl := lw_at lw_m7 132 rfl
theorem q1717 : (Jvm.Cond.methodLinkNest "ThereAndBack$When" (37 : Nat) ({ cls := "ThereAndBack", name := "printWord", desc := "(Ljava/lang/String;)V" } : Jvm.MethodName) "ThereAndBack") ∈ lw_tbl := lw_at lw_m7 133 rfl
theorem q1718 : (Jvm.Cond.methodLink "ThereAndBack$When" (43 : Nat) ({ cls := "ThereAndBack$Expr", name := "print", desc := "(LThereAndBack;)V" } : Jvm.MethodName)) ∈ lw_all := lw_g (lw_at lw_m7 134 rfl) rfl
theorem q1719 : (Jvm.Cond.methodLink "ThereAndBack$When" (49 : Nat) ({ cls := "ThereAndBack$Part", name := "printBraced", desc := "(LThereAndBack;)V" } : Jvm.MethodName)) ∈ lw_all := lw_g (lw_at lw_m7 135 rfl) rfl
theorem q1720 : (Jvm.Cond.stringRef "ThereAndBack$When" (52 : Nat) "else") ∈ lw_tbl := lw_at lw_m7 136 rfl
theorem q1721 : (Jvm.Cond.methodLinkNest "ThereAndBack$When" (54 : Nat) ({ cls := "ThereAndBack", name := "printBehind", desc := "(I)V" } : Jvm.MethodName) "ThereAndBack") ∈ lw_tbl := lw_at lw_m7 137 rfl
theorem q1802 : (Jvm.Cond.selects "ThereAndBack$When" ({ cls := "ThereAndBack$Step", name := "mirror", desc := "()LThereAndBack$Step;" } : Jvm.MethodName) ({ cls := "ThereAndBack$Ordinary", name := "mirror", desc := "()LThereAndBack$Step;" } : Jvm.MethodName)) ∈ lw_all := lw_g (lw_at lw_m7 218 rfl) rfl
theorem q1855 : (Jvm.Cond.selects "ThereAndBack$When" ({ cls := "ThereAndBack$Step", name := "turn", desc := "(Ljava/util/List;I)V" } : Jvm.MethodName) ({ cls := "ThereAndBack$When", name := "turn", desc := "(Ljava/util/List;I)V" } : Jvm.MethodName)) ∈ lw_all := lw_g (lw_at lw_m8 31 rfl) rfl
theorem q1856 : (Jvm.Cond.instanceMethod ({ cls := "ThereAndBack$When", name := "turn", desc := "(Ljava/util/List;I)V" } : Jvm.MethodName)) ∈ lw_all := lw_g (lw_at lw_m8 32 rfl) rfl
theorem q1857 : (Jvm.Cond.code ({ cls := "ThereAndBack$When", name := "turn", desc := "(Ljava/util/List;I)V" } : Jvm.MethodName) prog_35_method_6_code (4 : Nat) (Option.none : Option Jvm.ClassFile.FieldType)) ∈ lw_all := lw_g (lw_at lw_m8 33 rfl) rfl
theorem q1858 : (Jvm.Cond.methodLink "ThereAndBack$When" (62 : Nat) ({ cls := "ThereAndBack$When", name := "counter", desc := "(I)I" } : Jvm.MethodName)) ∈ lw_all := lw_g (lw_at lw_m8 34 rfl) rfl
theorem q1859 : (Jvm.Cond.sameMethod "ThereAndBack$When" "ThereAndBack$Ordinary" "counter" "(I)I") ∈ lw_all := lw_g (lw_at lw_m8 35 rfl) rfl
theorem q1862 : (Jvm.Cond.classLink "ThereAndBack$When" (66 : Nat) "ThereAndBack$Let") ∈ lw_all := lw_g (lw_at lw_m8 38 rfl) rfl
theorem q1863 : (Jvm.Cond.methodLink "ThereAndBack$When" (68 : Nat) ({ cls := "ThereAndBack$When", name := "isNought", desc := "(LThereAndBack$Expr;)LThereAndBack$Expr;" } : Jvm.MethodName)) ∈ lw_all := lw_g (lw_at lw_m8 39 rfl) rfl
theorem q1864 : (Jvm.Cond.sameMethod "ThereAndBack$When" "ThereAndBack$Ordinary" "isNought" "(LThereAndBack$Expr;)LThereAndBack$Expr;") ∈ lw_all := lw_g (lw_at lw_m8 40 rfl) rfl
theorem q1869 : (Jvm.Cond.methodLink "ThereAndBack$When" (72 : Nat) ({ cls := "ThereAndBack$Let", name := "<init>", desc := "(ILThereAndBack$Expr;Z)V" } : Jvm.MethodName)) ∈ lw_all := lw_g (lw_at lw_m8 45 rfl) rfl
theorem q1870 : (Jvm.Cond.interfaceEntry "ThereAndBack$When" (75 : Nat)) ∈ lw_tbl := lw_at lw_m8 46 rfl
theorem q1871 : (Jvm.Cond.methodLink "ThereAndBack$When" (75 : Nat) ({ cls := "java/util/List", name := "add", desc := "(Ljava/lang/Object;)Z" } : Jvm.MethodName)) ∈ lw_all := lw_g (lw_at lw_m8 47 rfl) rfl
theorem q1872 : (Jvm.Cond.classLink "ThereAndBack$When" (81 : Nat) "ThereAndBack$If") ∈ lw_all := lw_g (lw_at lw_m8 48 rfl) rfl
theorem q1873 : (Jvm.Cond.classLink "ThereAndBack$When" (83 : Nat) "ThereAndBack$Name") ∈ lw_all := lw_g (lw_at lw_m8 49 rfl) rfl
theorem q1874 : (Jvm.Cond.methodLink "ThereAndBack$When" (85 : Nat) ({ cls := "ThereAndBack$Name", name := "<init>", desc := "(I)V" } : Jvm.MethodName)) ∈ lw_all := lw_g (lw_at lw_m8 50 rfl) rfl
theorem q1875 : (Jvm.Cond.methodLink "ThereAndBack$When" (87 : Nat) ({ cls := "ThereAndBack$Part", name := "turned", desc := "(I)LThereAndBack$Part;" } : Jvm.MethodName)) ∈ lw_all := lw_g (lw_at lw_m8 51 rfl) rfl
theorem q1876 : (Jvm.Cond.methodLink "ThereAndBack$When" (91 : Nat) ({ cls := "ThereAndBack$If", name := "<init>", desc := "(LThereAndBack$Expr;LThereAndBack$Part;LThereAndBack$Part;LThereAndBack$Expr;)V" } : Jvm.MethodName)) ∈ lw_all := lw_g (lw_at lw_m8 52 rfl) rfl
theorem q1877 : (Jvm.Cond.methodLink "ThereAndBack$When" (94 : Nat) ({ cls := "ThereAndBack$When", name := "keep", desc := "(Ljava/util/List;I)V" } : Jvm.MethodName)) ∈ lw_all := lw_g (lw_at lw_m8 53 rfl) rfl
theorem q1878 : (Jvm.Cond.sameMethod "ThereAndBack$When" "ThereAndBack$Ordinary" "keep" "(Ljava/util/List;I)V") ∈ lw_all := lw_g (lw_at lw_m8 54 rfl) rfl
theorem q2008 : (Jvm.Cond.selects "ThereAndBack$When" ({ cls := "ThereAndBack$Step", name := "walk", desc := "(LThereAndBack;)V" } : Jvm.MethodName) ({ cls := "ThereAndBack$When", name := "walk", desc := "(LThereAndBack;)V" } : Jvm.MethodName)) ∈ lw_all := lw_g (lw_at lw_m8 184 rfl) rfl
theorem q2009 : (Jvm.Cond.instanceMethod ({ cls := "ThereAndBack$When", name := "walk", desc := "(LThereAndBack;)V" } : Jvm.MethodName)) ∈ lw_all := lw_g (lw_at lw_m8 185 rfl) rfl
theorem q2010 : (Jvm.Cond.code ({ cls := "ThereAndBack$When", name := "walk", desc := "(LThereAndBack;)V" } : Jvm.MethodName) prog_35_method_7_code (2 : Nat) (Option.none : Option Jvm.ClassFile.FieldType)) ∈ lw_all := lw_g (lw_at lw_m8 186 rfl) rfl
theorem q2011 : (Jvm.Cond.methodLinkNest "ThereAndBack$When" (98 : Nat) ({ cls := "ThereAndBack", name := "move", desc := "()V" } : Jvm.MethodName) "ThereAndBack") ∈ lw_tbl := lw_at lw_m8 187 rfl
theorem q2012 : (Jvm.Cond.methodLink "ThereAndBack$When" (101 : Nat) ({ cls := "ThereAndBack$Expr", name := "eval", desc := "(LThereAndBack;)J" } : Jvm.MethodName)) ∈ lw_all := lw_g (lw_at lw_m8 188 rfl) rfl
theorem q2013 : (Jvm.Cond.methodLink "ThereAndBack$When" (105 : Nat) ({ cls := "ThereAndBack$Part", name := "walk", desc := "(LThereAndBack;)V" } : Jvm.MethodName)) ∈ lw_all := lw_g (lw_at lw_m8 189 rfl) rfl
theorem q3123 : (Jvm.Cond.castable "ThereAndBack$When" "ThereAndBack$Step") ∈ lw_tbl := lw_at lw_m13 99 rfl
theorem q3156 : (Jvm.Cond.castable "ThereAndBack$When" "java/lang/Object") ∈ lw_tbl := lw_at lw_m13 132 rfl
theorem in_X32 : ∀ w ∈ wsX320, w ∈ lw_all := lw_in wsX320 [1107, 1109, 1111] (by decide +kernel) (by decide +kernel)
/-! ThereAndBack$Routine -/
set_option maxRecDepth 100000
def RX33 : String := "ThereAndBack$Routine"
def TX33 : u_T := fun k => match k with
  | 0 => ("ThereAndBack$Routine", "part", "LThereAndBack$Part;", true)
  | _ => ("ThereAndBack$Routine", "code", "Ljava/util/List;", true)
def tyX33 : Nat → FieldType := fun k => match k with
  | 0 => .object "ThereAndBack$Part"
  | _ => .object "java/util/List"
abbrev wsX330 : List Cond := u_ws RX33 TX33 2
theorem nmX33 : ∀ a, a < 2 → ∀ b, b < 2 → a ≠ b → (TX33 a).2.1 ≠ (TX33 b).2.1 := by decide +kernel
theorem tyX33_ok : ∀ k, k < 2 → parseFieldDescriptor (TX33 k).2.2.1 = some (tyX33 k) := by decide +kernel
abbrev cX33_init : ByteArray := prog_28_method_1_code
def yX33_init : MethodName := ⟨RX33, "<init>", "(LThereAndBack$Part;)V"⟩
def dkwX33_init_1 : List UInt8 := [180, 0, 10, 182, 0, 20, 177]
abbrev dktX33_init_1 : List UInt8 := dkwX33_init_1 ++ []
def dkwX33_init_0 : List UInt8 := [42, 183, 0, 1, 42, 187, 0, 7, 89, 183, 0, 9, 181, 0, 10, 42, 43, 181, 0, 16, 43, 42]
abbrev dktX33_init_0 : List UInt8 := dkwX33_init_0 ++ dktX33_init_1
theorem dksX33_init_0 : cX33_init.data.toList.drop 0 = dktX33_init_0 := by decide +kernel
theorem dksX33_init_1 : cX33_init.data.toList.drop 22 = dktX33_init_1 := dk_seg dksX33_init_0 22 rfl rfl
theorem dX33_init_0 : decode cX33_init 0 = .ok (.aload_n 0, 1) := dk_42 (dk_at dksX33_init_0 0 rfl rfl)
theorem dX33_init_1 : decode cX33_init 1 = .ok (.invokespecial 1, 3) := dk_183 0 1 (dk_at dksX33_init_0 1 rfl rfl)
theorem dX33_init_4 : decode cX33_init 4 = .ok (.aload_n 0, 1) := dk_42 (dk_at dksX33_init_0 4 rfl rfl)
theorem dX33_init_5 : decode cX33_init 5 = .ok (.new 7, 3) := dk_187 0 7 (dk_at dksX33_init_0 5 rfl rfl)
theorem dX33_init_8 : decode cX33_init 8 = .ok (.dup, 1) := dk_89 (dk_at dksX33_init_0 8 rfl rfl)
theorem dX33_init_9 : decode cX33_init 9 = .ok (.invokespecial 9, 3) := dk_183 0 9 (dk_at dksX33_init_0 9 rfl rfl)
theorem dX33_init_12 : decode cX33_init 12 = .ok (.putfield 10, 3) := dk_181 0 10 (dk_at dksX33_init_0 12 rfl rfl)
theorem dX33_init_15 : decode cX33_init 15 = .ok (.aload_n 0, 1) := dk_42 (dk_at dksX33_init_0 15 rfl rfl)
theorem dX33_init_16 : decode cX33_init 16 = .ok (.aload_n 1, 1) := dk_43 (dk_at dksX33_init_0 16 rfl rfl)
theorem dX33_init_17 : decode cX33_init 17 = .ok (.putfield 16, 3) := dk_181 0 16 (dk_at dksX33_init_0 17 rfl rfl)
theorem dX33_init_20 : decode cX33_init 20 = .ok (.aload_n 1, 1) := dk_43 (dk_at dksX33_init_0 20 rfl rfl)
theorem dX33_init_21 : decode cX33_init 21 = .ok (.aload_n 0, 1) := dk_42 (dk_at dksX33_init_0 21 rfl rfl)
theorem dX33_init_22 : decode cX33_init 22 = .ok (.getfield 10, 3) := dk_180 0 10 (dk_at dksX33_init_1 0 rfl rfl)
theorem dX33_init_25 : decode cX33_init 25 = .ok (.invokevirtual 20, 3) := dk_182 0 20 (dk_at dksX33_init_1 3 rfl rfl)
theorem dX33_init_28 : decode cX33_init 28 = .ok (.return_, 1) := dk_177 (dk_at dksX33_init_1 6 rfl rfl)
abbrev cX33_isOrdinary : ByteArray := prog_28_method_2_code
def yX33_isOrdinary : MethodName := ⟨RX33, "isOrdinary", "()Z"⟩
def dkwX33_isOrdinary_1 : List UInt8 := [185, 0, 35, 2, 0, 192, 0, 39, 182, 0, 41, 153, 0, 7, 4, 167, 0, 4, 3, 172]
abbrev dktX33_isOrdinary_1 : List UInt8 := dkwX33_isOrdinary_1 ++ []
def dkwX33_isOrdinary_0 : List UInt8 := [42, 180, 0, 16, 180, 0, 26, 185, 0, 29, 1, 0, 154, 0, 29, 42, 180, 0, 16, 180, 0, 26, 3]
abbrev dktX33_isOrdinary_0 : List UInt8 := dkwX33_isOrdinary_0 ++ dktX33_isOrdinary_1
theorem dksX33_isOrdinary_0 : cX33_isOrdinary.data.toList.drop 0 = dktX33_isOrdinary_0 := by decide +kernel
theorem dksX33_isOrdinary_1 : cX33_isOrdinary.data.toList.drop 23 = dktX33_isOrdinary_1 := dk_seg dksX33_isOrdinary_0 23 rfl rfl
theorem dX33_isOrdinary_0 : decode cX33_isOrdinary 0 = .ok (.aload_n 0, 1) := dk_42 (dk_at dksX33_isOrdinary_0 0 rfl rfl)
theorem dX33_isOrdinary_1 : decode cX33_isOrdinary 1 = .ok (.getfield 16, 3) := dk_180 0 16 (dk_at dksX33_isOrdinary_0 1 rfl rfl)
theorem dX33_isOrdinary_4 : decode cX33_isOrdinary 4 = .ok (.getfield 26, 3) := dk_180 0 26 (dk_at dksX33_isOrdinary_0 4 rfl rfl)
theorem dX33_isOrdinary_7 : decode cX33_isOrdinary 7 = .ok (.invokeinterface 29 1, 5) := by decide +kernel
theorem dX33_isOrdinary_12 : decode cX33_isOrdinary 12 = .ok (.ifCond .ne 29, 3) := dk_154 0 29 (dk_at dksX33_isOrdinary_0 12 rfl rfl)
theorem dX33_isOrdinary_15 : decode cX33_isOrdinary 15 = .ok (.aload_n 0, 1) := dk_42 (dk_at dksX33_isOrdinary_0 15 rfl rfl)
theorem dX33_isOrdinary_16 : decode cX33_isOrdinary 16 = .ok (.getfield 16, 3) := dk_180 0 16 (dk_at dksX33_isOrdinary_0 16 rfl rfl)
theorem dX33_isOrdinary_19 : decode cX33_isOrdinary 19 = .ok (.getfield 26, 3) := dk_180 0 26 (dk_at dksX33_isOrdinary_0 19 rfl rfl)
theorem dX33_isOrdinary_22 : decode cX33_isOrdinary 22 = .ok (.iconst 0, 1) := dk_3 (dk_at dksX33_isOrdinary_0 22 rfl rfl)
theorem dX33_isOrdinary_23 : decode cX33_isOrdinary 23 = .ok (.invokeinterface 35 2, 5) := by decide +kernel
theorem dX33_isOrdinary_28 : decode cX33_isOrdinary 28 = .ok (.checkcast 39, 3) := dk_192 0 39 (dk_at dksX33_isOrdinary_1 5 rfl rfl)
theorem dX33_isOrdinary_31 : decode cX33_isOrdinary 31 = .ok (.invokevirtual 41, 3) := dk_182 0 41 (dk_at dksX33_isOrdinary_1 8 rfl rfl)
theorem dX33_isOrdinary_34 : decode cX33_isOrdinary 34 = .ok (.ifCond .eq 7, 3) := dk_153 0 7 (dk_at dksX33_isOrdinary_1 11 rfl rfl)
theorem dX33_isOrdinary_37 : decode cX33_isOrdinary 37 = .ok (.iconst 1, 1) := dk_4 (dk_at dksX33_isOrdinary_1 14 rfl rfl)
theorem dX33_isOrdinary_38 : decode cX33_isOrdinary 38 = .ok (.goto 4, 3) := dk_167 0 4 (dk_at dksX33_isOrdinary_1 15 rfl rfl)
theorem dX33_isOrdinary_41 : decode cX33_isOrdinary 41 = .ok (.iconst 0, 1) := dk_3 (dk_at dksX33_isOrdinary_1 18 rfl rfl)
theorem dX33_isOrdinary_42 : decode cX33_isOrdinary 42 = .ok (.ireturn, 1) := dk_172 (dk_at dksX33_isOrdinary_1 19 rfl rfl)
theorem q191 : (Jvm.Cond.initialized "ThereAndBack$Routine") ∈ lw_all := lw_g (lw_at lw_m1 47 rfl) rfl
theorem q546 : (Jvm.Cond.fieldLinkNest "ThereAndBack$Routine" (26 : Nat) "ThereAndBack$Part" "steps" "Ljava/util/List;" "ThereAndBack") ∈ lw_tbl := lw_at lw_m2 162 rfl
theorem q1175 : (Jvm.Cond.selects "ThereAndBack$Routine" ({ cls := "java/lang/Object", name := "getClass", desc := "()Ljava/lang/Class;" } : Jvm.MethodName) ({ cls := "java/lang/Object", name := "getClass", desc := "()Ljava/lang/Class;" } : Jvm.MethodName)) ∈ lw_all := lw_g (lw_at lw_m5 71 rfl) rfl
theorem q1207 : (Jvm.Cond.instantiable "ThereAndBack$Routine" (2 : Nat)) ∈ lw_all := lw_g (lw_at lw_m5 103 rfl) rfl
theorem q1209 : (Jvm.Cond.instanceMethod ({ cls := "ThereAndBack$Routine", name := "<init>", desc := "(LThereAndBack$Part;)V" } : Jvm.MethodName)) ∈ lw_all := lw_g (lw_at lw_m5 105 rfl) rfl
theorem q1210 : (Jvm.Cond.code ({ cls := "ThereAndBack$Routine", name := "<init>", desc := "(LThereAndBack$Part;)V" } : Jvm.MethodName) prog_28_method_1_code (2 : Nat) (Option.none : Option Jvm.ClassFile.FieldType)) ∈ lw_all := lw_g (lw_at lw_m5 106 rfl) rfl
theorem q1211 : (Jvm.Cond.methodLink "ThereAndBack$Routine" (1 : Nat) ({ cls := "java/lang/Object", name := "<init>", desc := "()V" } : Jvm.MethodName)) ∈ lw_all := lw_g (lw_at lw_m5 107 rfl) rfl
theorem q1212 : (Jvm.Cond.classLink "ThereAndBack$Routine" (7 : Nat) "java/util/ArrayList") ∈ lw_all := lw_g (lw_at lw_m5 108 rfl) rfl
theorem q1213 : (Jvm.Cond.methodLink "ThereAndBack$Routine" (9 : Nat) ({ cls := "java/util/ArrayList", name := "<init>", desc := "()V" } : Jvm.MethodName)) ∈ lw_all := lw_g (lw_at lw_m5 109 rfl) rfl
theorem q1214 : (Jvm.Cond.methodLink "ThereAndBack$Routine" (20 : Nat) ({ cls := "ThereAndBack$Part", name := "lay", desc := "(Ljava/util/List;)V" } : Jvm.MethodName)) ∈ lw_all := lw_g (lw_at lw_m5 110 rfl) rfl
theorem q1334 : (Jvm.Cond.fieldLink "ThereAndBack$Routine" (16 : Nat) "ThereAndBack$Routine" "part" "LThereAndBack$Part;") ∈ lw_all := lw_g (lw_at lw_m5 230 rfl) rfl
theorem q1336 : (Jvm.Cond.fieldLink "ThereAndBack$Routine" (10 : Nat) "ThereAndBack$Routine" "code" "Ljava/util/List;") ∈ lw_all := lw_g (lw_at lw_m5 232 rfl) rfl
theorem q1339 : (Jvm.Cond.laysFinal "ThereAndBack$Routine" "ThereAndBack$Routine" "part" "LThereAndBack$Part;") ∈ lw_all := lw_g (lw_at lw_m5 235 rfl) rfl
theorem q1340 : (Jvm.Cond.soleField "ThereAndBack$Routine" "part") ∈ lw_all := lw_g (lw_at lw_m5 236 rfl) rfl
theorem q1341 : (Jvm.Cond.laysFinal "ThereAndBack$Routine" "ThereAndBack$Routine" "code" "Ljava/util/List;") ∈ lw_all := lw_g (lw_at lw_m5 237 rfl) rfl
theorem q1342 : (Jvm.Cond.soleField "ThereAndBack$Routine" "code") ∈ lw_all := lw_g (lw_at lw_m5 238 rfl) rfl
theorem q1343 : (Jvm.Cond.superclass "ThereAndBack$Routine" "java/lang/Object") ∈ lw_all := lw_g (lw_at lw_m5 239 rfl) rfl
theorem q1392 : (Jvm.Cond.instanceMethod ({ cls := "ThereAndBack$Routine", name := "isOrdinary", desc := "()Z" } : Jvm.MethodName)) ∈ lw_all := lw_g (lw_at lw_m6 48 rfl) rfl
theorem q1393 : (Jvm.Cond.selects "ThereAndBack$Routine" ({ cls := "ThereAndBack$Routine", name := "isOrdinary", desc := "()Z" } : Jvm.MethodName) ({ cls := "ThereAndBack$Routine", name := "isOrdinary", desc := "()Z" } : Jvm.MethodName)) ∈ lw_all := lw_g (lw_at lw_m6 49 rfl) rfl
theorem q1394 : (Jvm.Cond.code ({ cls := "ThereAndBack$Routine", name := "isOrdinary", desc := "()Z" } : Jvm.MethodName) prog_28_method_2_code (1 : Nat) (Option.some Jvm.ClassFile.FieldType.boolean)) ∈ lw_all := lw_g (lw_at lw_m6 50 rfl) rfl
theorem q1395 : (Jvm.Cond.interfaceEntry "ThereAndBack$Routine" (29 : Nat)) ∈ lw_tbl := lw_at lw_m6 51 rfl
theorem q1396 : (Jvm.Cond.methodLink "ThereAndBack$Routine" (29 : Nat) ({ cls := "java/util/List", name := "isEmpty", desc := "()Z" } : Jvm.MethodName)) ∈ lw_all := lw_g (lw_at lw_m6 52 rfl) rfl
theorem q1404 : (Jvm.Cond.interfaceEntry "ThereAndBack$Routine" (35 : Nat)) ∈ lw_tbl := lw_at lw_m6 60 rfl
theorem q1405 : (Jvm.Cond.methodLink "ThereAndBack$Routine" (35 : Nat) ({ cls := "java/util/List", name := "get", desc := "(I)Ljava/lang/Object;" } : Jvm.MethodName)) ∈ lw_all := lw_g (lw_at lw_m6 61 rfl) rfl
theorem q1406 : (Jvm.Cond.classLink "ThereAndBack$Routine" (39 : Nat) "ThereAndBack$Step") ∈ lw_all := lw_g (lw_at lw_m6 62 rfl) rfl
theorem q1407 : (Jvm.Cond.methodLink "ThereAndBack$Routine" (41 : Nat) ({ cls := "ThereAndBack$Step", name := "isOrdinary", desc := "()Z" } : Jvm.MethodName)) ∈ lw_all := lw_g (lw_at lw_m6 63 rfl) rfl
theorem q3129 : (Jvm.Cond.castable "ThereAndBack$Routine" "java/lang/Object") ∈ lw_tbl := lw_at lw_m13 105 rfl
theorem in_X33 : ∀ w ∈ wsX330, w ∈ lw_all := lw_in wsX330 [1339, 1341] (by decide +kernel) (by decide +kernel)
/-! ThereAndBack$Instruction -/
set_option maxRecDepth 100000
def RX34 : String := "ThereAndBack$Instruction"
abbrev cX34_init : ByteArray := prog_13_method_1_code
def yX34_init : MethodName := ⟨RX34, "<init>", "()V"⟩
theorem dX34_init_0 : decode cX34_init 0 = .ok (.aload_n 0, 1) := by decide +kernel
theorem dX34_init_1 : decode cX34_init 1 = .ok (.invokespecial 1, 3) := by decide +kernel
theorem dX34_init_4 : decode cX34_init 4 = .ok (.return_, 1) := by decide +kernel
theorem q193 : (Jvm.Cond.initialized "ThereAndBack$Instruction") ∈ lw_all := lw_g (lw_at lw_m1 49 rfl) rfl
theorem q1260 : (Jvm.Cond.instanceMethod ({ cls := "ThereAndBack$Instruction", name := "<init>", desc := "()V" } : Jvm.MethodName)) ∈ lw_all := lw_g (lw_at lw_m5 156 rfl) rfl
theorem q1261 : (Jvm.Cond.code ({ cls := "ThereAndBack$Instruction", name := "<init>", desc := "()V" } : Jvm.MethodName) prog_13_method_1_code (1 : Nat) (Option.none : Option Jvm.ClassFile.FieldType)) ∈ lw_all := lw_g (lw_at lw_m5 157 rfl) rfl
theorem q1262 : (Jvm.Cond.methodLink "ThereAndBack$Instruction" (1 : Nat) ({ cls := "java/lang/Object", name := "<init>", desc := "()V" } : Jvm.MethodName)) ∈ lw_all := lw_g (lw_at lw_m5 158 rfl) rfl
theorem q2090 : (Jvm.Cond.declares ({ cls := "ThereAndBack$Instruction", name := "go", desc := "(LThereAndBack;IZ)I" } : Jvm.MethodName)) ∈ lw_tbl := lw_at lw_m9 26 rfl
theorem q2091 : (Jvm.Cond.sameMethod "ThereAndBack$Instruction" "ThereAndBack$Instruction" "go" "(LThereAndBack;IZ)I") ∈ lw_all := lw_g (lw_at lw_m9 27 rfl) rfl
/-! ThereAndBack$Enter -/
set_option maxRecDepth 100000
def RX35 : String := "ThereAndBack$Enter"
def TX35 : u_T := fun k => match k with
  | _ => ("ThereAndBack$Enter", "step", "LThereAndBack$Call;", true)
def tyX35 : Nat → FieldType := fun k => match k with
  | _ => .object "ThereAndBack$Call"
abbrev wsX350 : List Cond := u_ws RX35 TX35 1
theorem nmX35 : ∀ a, a < 1 → ∀ b, b < 1 → a ≠ b → (TX35 a).2.1 ≠ (TX35 b).2.1 := by decide +kernel
theorem tyX35_ok : ∀ k, k < 1 → parseFieldDescriptor (TX35 k).2.2.1 = some (tyX35 k) := by decide +kernel
abbrev cX35_init : ByteArray := prog_7_method_1_code
def yX35_init : MethodName := ⟨RX35, "<init>", "(LThereAndBack$Call;)V"⟩
def dkwX35_init_0 : List UInt8 := [42, 183, 0, 3, 42, 43, 181, 0, 9, 177]
abbrev dktX35_init_0 : List UInt8 := dkwX35_init_0 ++ []
theorem dksX35_init_0 : cX35_init.data.toList.drop 0 = dktX35_init_0 := by decide +kernel
theorem dX35_init_0 : decode cX35_init 0 = .ok (.aload_n 0, 1) := dk_42 (dk_at dksX35_init_0 0 rfl rfl)
theorem dX35_init_1 : decode cX35_init 1 = .ok (.invokespecial 3, 3) := dk_183 0 3 (dk_at dksX35_init_0 1 rfl rfl)
theorem dX35_init_4 : decode cX35_init 4 = .ok (.aload_n 0, 1) := dk_42 (dk_at dksX35_init_0 4 rfl rfl)
theorem dX35_init_5 : decode cX35_init 5 = .ok (.aload_n 1, 1) := dk_43 (dk_at dksX35_init_0 5 rfl rfl)
theorem dX35_init_6 : decode cX35_init 6 = .ok (.putfield 9, 3) := dk_181 0 9 (dk_at dksX35_init_0 6 rfl rfl)
theorem dX35_init_9 : decode cX35_init 9 = .ok (.return_, 1) := dk_177 (dk_at dksX35_init_0 9 rfl rfl)
abbrev cX35_go : ByteArray := prog_7_method_2_code
def yX35_go : MethodName := ⟨RX35, "go", "(LThereAndBack;IZ)I"⟩
def dkwX35_go_6 : List UInt8 := [180, 0, 54, 29, 160, 0, 7, 3, 167, 0, 13, 25, 4, 180, 0, 58, 185, 0, 62, 1, 0, 172]
abbrev dktX35_go_6 : List UInt8 := dkwX35_go_6 ++ []
def dkwX35_go_5 : List UInt8 := [153, 0, 10, 43, 180, 0, 51, 167, 0, 8, 43, 180, 0, 51, 116, 181, 0, 51, 42, 180, 0, 9]
abbrev dktX35_go_5 : List UInt8 := dkwX35_go_5 ++ dktX35_go_6
def dkwX35_go_4 : List UInt8 := [96, 181, 0, 35, 43, 42, 180, 0, 9, 180, 0, 19, 181, 0, 42, 43, 42, 180, 0, 9, 180, 0, 54]
abbrev dktX35_go_4 : List UInt8 := dkwX35_go_4 ++ dktX35_go_5
def dkwX35_go_3 : List UInt8 := [180, 0, 35, 28, 79, 43, 180, 0, 48, 43, 180, 0, 35, 43, 180, 0, 51, 79, 43, 89, 180, 0, 35, 4]
abbrev dktX35_go_3 : List UInt8 := dkwX35_go_3 ++ dktX35_go_4
def dkwX35_go_2 : List UInt8 := [16, 11, 50, 191, 43, 180, 0, 38, 43, 180, 0, 35, 43, 180, 0, 42, 79, 43, 180, 0, 45, 43]
abbrev dktX35_go_2 : List UInt8 := dkwX35_go_2 ++ dktX35_go_3
def dkwX35_go_1 : List UInt8 := [153, 0, 11, 43, 180, 0, 31, 16, 13, 50, 191, 43, 180, 0, 35, 16, 12, 160, 0, 11, 43, 180, 0, 31]
abbrev dktX35_go_1 : List UInt8 := dkwX35_go_1 ++ dktX35_go_2
def dkwX35_go_0 : List UInt8 := [43, 180, 0, 15, 42, 180, 0, 9, 180, 0, 19, 50, 58, 4, 25, 4, 198, 0, 11, 25, 4, 182, 0, 25]
abbrev dktX35_go_0 : List UInt8 := dkwX35_go_0 ++ dktX35_go_1
theorem dksX35_go_0 : cX35_go.data.toList.drop 0 = dktX35_go_0 := by decide +kernel
theorem dksX35_go_1 : cX35_go.data.toList.drop 24 = dktX35_go_1 := dk_seg dksX35_go_0 24 rfl rfl
theorem dksX35_go_2 : cX35_go.data.toList.drop 48 = dktX35_go_2 := dk_seg dksX35_go_1 24 rfl rfl
theorem dksX35_go_3 : cX35_go.data.toList.drop 70 = dktX35_go_3 := dk_seg dksX35_go_2 22 rfl rfl
theorem dksX35_go_4 : cX35_go.data.toList.drop 94 = dktX35_go_4 := dk_seg dksX35_go_3 24 rfl rfl
theorem dksX35_go_5 : cX35_go.data.toList.drop 117 = dktX35_go_5 := dk_seg dksX35_go_4 23 rfl rfl
theorem dksX35_go_6 : cX35_go.data.toList.drop 139 = dktX35_go_6 := dk_seg dksX35_go_5 22 rfl rfl
theorem dX35_go_0 : decode cX35_go 0 = .ok (.aload_n 1, 1) := dk_43 (dk_at dksX35_go_0 0 rfl rfl)
theorem dX35_go_1 : decode cX35_go 1 = .ok (.getfield 15, 3) := dk_180 0 15 (dk_at dksX35_go_0 1 rfl rfl)
theorem dX35_go_4 : decode cX35_go 4 = .ok (.aload_n 0, 1) := dk_42 (dk_at dksX35_go_0 4 rfl rfl)
theorem dX35_go_5 : decode cX35_go 5 = .ok (.getfield 9, 3) := dk_180 0 9 (dk_at dksX35_go_0 5 rfl rfl)
theorem dX35_go_8 : decode cX35_go 8 = .ok (.getfield 19, 3) := dk_180 0 19 (dk_at dksX35_go_0 8 rfl rfl)
theorem dX35_go_11 : decode cX35_go 11 = .ok (.aaload, 1) := dk_50 (dk_at dksX35_go_0 11 rfl rfl)
theorem dX35_go_12 : decode cX35_go 12 = .ok (.astore 4, 2) := dk_58 4 (dk_at dksX35_go_0 12 rfl rfl)
theorem dX35_go_14 : decode cX35_go 14 = .ok (.aload 4, 2) := dk_25 4 (dk_at dksX35_go_0 14 rfl rfl)
theorem dX35_go_16 : decode cX35_go 16 = .ok (.ifnull 11, 3) := dk_198 0 11 (dk_at dksX35_go_0 16 rfl rfl)
theorem dX35_go_19 : decode cX35_go 19 = .ok (.aload 4, 2) := dk_25 4 (dk_at dksX35_go_0 19 rfl rfl)
theorem dX35_go_21 : decode cX35_go 21 = .ok (.invokevirtual 25, 3) := dk_182 0 25 (dk_at dksX35_go_0 21 rfl rfl)
theorem dX35_go_24 : decode cX35_go 24 = .ok (.ifCond .eq 11, 3) := dk_153 0 11 (dk_at dksX35_go_1 0 rfl rfl)
theorem dX35_go_27 : decode cX35_go 27 = .ok (.aload_n 1, 1) := dk_43 (dk_at dksX35_go_1 3 rfl rfl)
theorem dX35_go_28 : decode cX35_go 28 = .ok (.getfield 31, 3) := dk_180 0 31 (dk_at dksX35_go_1 4 rfl rfl)
theorem dX35_go_31 : decode cX35_go 31 = .ok (.bipush 13, 2) := dk_16 13 (dk_at dksX35_go_1 7 rfl rfl)
theorem dX35_go_33 : decode cX35_go 33 = .ok (.aaload, 1) := dk_50 (dk_at dksX35_go_1 9 rfl rfl)
theorem dX35_go_34 : decode cX35_go 34 = .ok (.athrow, 1) := dk_191 (dk_at dksX35_go_1 10 rfl rfl)
theorem dX35_go_35 : decode cX35_go 35 = .ok (.aload_n 1, 1) := dk_43 (dk_at dksX35_go_1 11 rfl rfl)
theorem dX35_go_36 : decode cX35_go 36 = .ok (.getfield 35, 3) := dk_180 0 35 (dk_at dksX35_go_1 12 rfl rfl)
theorem dX35_go_39 : decode cX35_go 39 = .ok (.bipush 12, 2) := dk_16 12 (dk_at dksX35_go_1 15 rfl rfl)
theorem dX35_go_41 : decode cX35_go 41 = .ok (.if_icmp .ne 11, 3) := dk_160 0 11 (dk_at dksX35_go_1 17 rfl rfl)
theorem dX35_go_44 : decode cX35_go 44 = .ok (.aload_n 1, 1) := dk_43 (dk_at dksX35_go_1 20 rfl rfl)
theorem dX35_go_45 : decode cX35_go 45 = .ok (.getfield 31, 3) := dk_180 0 31 (dk_at dksX35_go_1 21 rfl rfl)
theorem dX35_go_48 : decode cX35_go 48 = .ok (.bipush 11, 2) := dk_16 11 (dk_at dksX35_go_2 0 rfl rfl)
theorem dX35_go_50 : decode cX35_go 50 = .ok (.aaload, 1) := dk_50 (dk_at dksX35_go_2 2 rfl rfl)
theorem dX35_go_51 : decode cX35_go 51 = .ok (.athrow, 1) := dk_191 (dk_at dksX35_go_2 3 rfl rfl)
theorem dX35_go_52 : decode cX35_go 52 = .ok (.aload_n 1, 1) := dk_43 (dk_at dksX35_go_2 4 rfl rfl)
theorem dX35_go_53 : decode cX35_go 53 = .ok (.getfield 38, 3) := dk_180 0 38 (dk_at dksX35_go_2 5 rfl rfl)
theorem dX35_go_56 : decode cX35_go 56 = .ok (.aload_n 1, 1) := dk_43 (dk_at dksX35_go_2 8 rfl rfl)
theorem dX35_go_57 : decode cX35_go 57 = .ok (.getfield 35, 3) := dk_180 0 35 (dk_at dksX35_go_2 9 rfl rfl)
theorem dX35_go_60 : decode cX35_go 60 = .ok (.aload_n 1, 1) := dk_43 (dk_at dksX35_go_2 12 rfl rfl)
theorem dX35_go_61 : decode cX35_go 61 = .ok (.getfield 42, 3) := dk_180 0 42 (dk_at dksX35_go_2 13 rfl rfl)
theorem dX35_go_64 : decode cX35_go 64 = .ok (.iastore, 1) := dk_79 (dk_at dksX35_go_2 16 rfl rfl)
theorem dX35_go_65 : decode cX35_go 65 = .ok (.aload_n 1, 1) := dk_43 (dk_at dksX35_go_2 17 rfl rfl)
theorem dX35_go_66 : decode cX35_go 66 = .ok (.getfield 45, 3) := dk_180 0 45 (dk_at dksX35_go_2 18 rfl rfl)
theorem dX35_go_69 : decode cX35_go 69 = .ok (.aload_n 1, 1) := dk_43 (dk_at dksX35_go_2 21 rfl rfl)
theorem dX35_go_70 : decode cX35_go 70 = .ok (.getfield 35, 3) := dk_180 0 35 (dk_at dksX35_go_3 0 rfl rfl)
theorem dX35_go_73 : decode cX35_go 73 = .ok (.iload_n 2, 1) := dk_28 (dk_at dksX35_go_3 3 rfl rfl)
theorem dX35_go_74 : decode cX35_go 74 = .ok (.iastore, 1) := dk_79 (dk_at dksX35_go_3 4 rfl rfl)
theorem dX35_go_75 : decode cX35_go 75 = .ok (.aload_n 1, 1) := dk_43 (dk_at dksX35_go_3 5 rfl rfl)
theorem dX35_go_76 : decode cX35_go 76 = .ok (.getfield 48, 3) := dk_180 0 48 (dk_at dksX35_go_3 6 rfl rfl)
theorem dX35_go_79 : decode cX35_go 79 = .ok (.aload_n 1, 1) := dk_43 (dk_at dksX35_go_3 9 rfl rfl)
theorem dX35_go_80 : decode cX35_go 80 = .ok (.getfield 35, 3) := dk_180 0 35 (dk_at dksX35_go_3 10 rfl rfl)
theorem dX35_go_83 : decode cX35_go 83 = .ok (.aload_n 1, 1) := dk_43 (dk_at dksX35_go_3 13 rfl rfl)
theorem dX35_go_84 : decode cX35_go 84 = .ok (.getfield 51, 3) := dk_180 0 51 (dk_at dksX35_go_3 14 rfl rfl)
theorem dX35_go_87 : decode cX35_go 87 = .ok (.iastore, 1) := dk_79 (dk_at dksX35_go_3 17 rfl rfl)
theorem dX35_go_88 : decode cX35_go 88 = .ok (.aload_n 1, 1) := dk_43 (dk_at dksX35_go_3 18 rfl rfl)
theorem dX35_go_89 : decode cX35_go 89 = .ok (.dup, 1) := dk_89 (dk_at dksX35_go_3 19 rfl rfl)
theorem dX35_go_90 : decode cX35_go 90 = .ok (.getfield 35, 3) := dk_180 0 35 (dk_at dksX35_go_3 20 rfl rfl)
theorem dX35_go_93 : decode cX35_go 93 = .ok (.iconst 1, 1) := dk_4 (dk_at dksX35_go_3 23 rfl rfl)
theorem dX35_go_94 : decode cX35_go 94 = .ok (.iadd, 1) := dk_96 (dk_at dksX35_go_4 0 rfl rfl)
theorem dX35_go_95 : decode cX35_go 95 = .ok (.putfield 35, 3) := dk_181 0 35 (dk_at dksX35_go_4 1 rfl rfl)
theorem dX35_go_98 : decode cX35_go 98 = .ok (.aload_n 1, 1) := dk_43 (dk_at dksX35_go_4 4 rfl rfl)
theorem dX35_go_99 : decode cX35_go 99 = .ok (.aload_n 0, 1) := dk_42 (dk_at dksX35_go_4 5 rfl rfl)
theorem dX35_go_100 : decode cX35_go 100 = .ok (.getfield 9, 3) := dk_180 0 9 (dk_at dksX35_go_4 6 rfl rfl)
theorem dX35_go_103 : decode cX35_go 103 = .ok (.getfield 19, 3) := dk_180 0 19 (dk_at dksX35_go_4 9 rfl rfl)
theorem dX35_go_106 : decode cX35_go 106 = .ok (.putfield 42, 3) := dk_181 0 42 (dk_at dksX35_go_4 12 rfl rfl)
theorem dX35_go_109 : decode cX35_go 109 = .ok (.aload_n 1, 1) := dk_43 (dk_at dksX35_go_4 15 rfl rfl)
theorem dX35_go_110 : decode cX35_go 110 = .ok (.aload_n 0, 1) := dk_42 (dk_at dksX35_go_4 16 rfl rfl)
theorem dX35_go_111 : decode cX35_go 111 = .ok (.getfield 9, 3) := dk_180 0 9 (dk_at dksX35_go_4 17 rfl rfl)
theorem dX35_go_114 : decode cX35_go 114 = .ok (.getfield 54, 3) := dk_180 0 54 (dk_at dksX35_go_4 20 rfl rfl)
theorem dX35_go_117 : decode cX35_go 117 = .ok (.ifCond .eq 10, 3) := dk_153 0 10 (dk_at dksX35_go_5 0 rfl rfl)
theorem dX35_go_120 : decode cX35_go 120 = .ok (.aload_n 1, 1) := dk_43 (dk_at dksX35_go_5 3 rfl rfl)
theorem dX35_go_121 : decode cX35_go 121 = .ok (.getfield 51, 3) := dk_180 0 51 (dk_at dksX35_go_5 4 rfl rfl)
theorem dX35_go_124 : decode cX35_go 124 = .ok (.goto 8, 3) := dk_167 0 8 (dk_at dksX35_go_5 7 rfl rfl)
theorem dX35_go_127 : decode cX35_go 127 = .ok (.aload_n 1, 1) := dk_43 (dk_at dksX35_go_5 10 rfl rfl)
theorem dX35_go_128 : decode cX35_go 128 = .ok (.getfield 51, 3) := dk_180 0 51 (dk_at dksX35_go_5 11 rfl rfl)
theorem dX35_go_131 : decode cX35_go 131 = .ok (.ineg, 1) := dk_116 (dk_at dksX35_go_5 14 rfl rfl)
theorem dX35_go_132 : decode cX35_go 132 = .ok (.putfield 51, 3) := dk_181 0 51 (dk_at dksX35_go_5 15 rfl rfl)
theorem dX35_go_135 : decode cX35_go 135 = .ok (.aload_n 0, 1) := dk_42 (dk_at dksX35_go_5 18 rfl rfl)
theorem dX35_go_136 : decode cX35_go 136 = .ok (.getfield 9, 3) := dk_180 0 9 (dk_at dksX35_go_5 19 rfl rfl)
theorem dX35_go_139 : decode cX35_go 139 = .ok (.getfield 54, 3) := dk_180 0 54 (dk_at dksX35_go_6 0 rfl rfl)
theorem dX35_go_142 : decode cX35_go 142 = .ok (.iload_n 3, 1) := dk_29 (dk_at dksX35_go_6 3 rfl rfl)
theorem dX35_go_143 : decode cX35_go 143 = .ok (.if_icmp .ne 7, 3) := dk_160 0 7 (dk_at dksX35_go_6 4 rfl rfl)
theorem dX35_go_146 : decode cX35_go 146 = .ok (.iconst 0, 1) := dk_3 (dk_at dksX35_go_6 7 rfl rfl)
theorem dX35_go_147 : decode cX35_go 147 = .ok (.goto 13, 3) := dk_167 0 13 (dk_at dksX35_go_6 8 rfl rfl)
theorem dX35_go_150 : decode cX35_go 150 = .ok (.aload 4, 2) := dk_25 4 (dk_at dksX35_go_6 11 rfl rfl)
theorem dX35_go_152 : decode cX35_go 152 = .ok (.getfield 58, 3) := dk_180 0 58 (dk_at dksX35_go_6 13 rfl rfl)
theorem dX35_go_155 : decode cX35_go 155 = .ok (.invokeinterface 62 1, 5) := by decide +kernel
theorem dX35_go_160 : decode cX35_go 160 = .ok (.ireturn, 1) := dk_172 (dk_at dksX35_go_6 21 rfl rfl)
theorem q194 : (Jvm.Cond.initialized "ThereAndBack$Enter") ∈ lw_all := lw_g (lw_at lw_m1 50 rfl) rfl
theorem q338 : (Jvm.Cond.fieldLinkNest "ThereAndBack$Enter" (31 : Nat) "ThereAndBack" "refusals" "[LThereAndBack$Refused;" "ThereAndBack") ∈ lw_tbl := lw_at lw_m1 194 rfl
theorem q347 : (Jvm.Cond.fieldLinkNest "ThereAndBack$Enter" (15 : Nat) "ThereAndBack" "routines" "[LThereAndBack$Routine;" "ThereAndBack") ∈ lw_tbl := lw_at lw_m1 203 rfl
theorem q368 : (Jvm.Cond.fieldLinkNest "ThereAndBack$Enter" (42 : Nat) "ThereAndBack" "runs" "I" "ThereAndBack") ∈ lw_tbl := lw_at lw_m1 224 rfl
theorem q371 : (Jvm.Cond.fieldLinkNest "ThereAndBack$Enter" (51 : Nat) "ThereAndBack" "way" "I" "ThereAndBack") ∈ lw_tbl := lw_at lw_m1 227 rfl
theorem q375 : (Jvm.Cond.fieldLinkNest "ThereAndBack$Enter" (35 : Nat) "ThereAndBack" "frames" "I" "ThereAndBack") ∈ lw_tbl := lw_at lw_m1 231 rfl
theorem q377 : (Jvm.Cond.fieldLinkNest "ThereAndBack$Enter" (38 : Nat) "ThereAndBack" "frameRoutine" "[I" "ThereAndBack") ∈ lw_tbl := lw_at lw_m1 233 rfl
theorem q379 : (Jvm.Cond.fieldLinkNest "ThereAndBack$Enter" (45 : Nat) "ThereAndBack" "frameCode" "[I" "ThereAndBack") ∈ lw_tbl := lw_at lw_m1 235 rfl
theorem q381 : (Jvm.Cond.fieldLinkNest "ThereAndBack$Enter" (48 : Nat) "ThereAndBack" "frameWay" "[I" "ThereAndBack") ∈ lw_tbl := lw_at lw_m1 237 rfl
theorem q1007 : (Jvm.Cond.fieldLinkNest "ThereAndBack$Enter" (19 : Nat) "ThereAndBack$Call" "routine" "I" "ThereAndBack") ∈ lw_tbl := lw_at lw_m4 143 rfl
theorem q1009 : (Jvm.Cond.fieldLinkNest "ThereAndBack$Enter" (54 : Nat) "ThereAndBack$Call" "calls" "Z" "ThereAndBack") ∈ lw_tbl := lw_at lw_m4 145 rfl
theorem q1158 : (Jvm.Cond.selects "ThereAndBack$Enter" ({ cls := "java/lang/Object", name := "getClass", desc := "()Ljava/lang/Class;" } : Jvm.MethodName) ({ cls := "java/lang/Object", name := "getClass", desc := "()Ljava/lang/Class;" } : Jvm.MethodName)) ∈ lw_all := lw_g (lw_at lw_m5 54 rfl) rfl
theorem q1255 : (Jvm.Cond.instantiable "ThereAndBack$Enter" (1 : Nat)) ∈ lw_all := lw_g (lw_at lw_m5 151 rfl) rfl
theorem q1257 : (Jvm.Cond.instanceMethod ({ cls := "ThereAndBack$Enter", name := "<init>", desc := "(LThereAndBack$Call;)V" } : Jvm.MethodName)) ∈ lw_all := lw_g (lw_at lw_m5 153 rfl) rfl
theorem q1258 : (Jvm.Cond.code ({ cls := "ThereAndBack$Enter", name := "<init>", desc := "(LThereAndBack$Call;)V" } : Jvm.MethodName) prog_7_method_1_code (2 : Nat) (Option.none : Option Jvm.ClassFile.FieldType)) ∈ lw_all := lw_g (lw_at lw_m5 154 rfl) rfl
theorem q1259 : (Jvm.Cond.methodLinkNest "ThereAndBack$Enter" (3 : Nat) ({ cls := "ThereAndBack$Instruction", name := "<init>", desc := "()V" } : Jvm.MethodName) "ThereAndBack") ∈ lw_tbl := lw_at lw_m5 155 rfl
theorem q1263 : (Jvm.Cond.fieldLink "ThereAndBack$Enter" (9 : Nat) "ThereAndBack$Enter" "step" "LThereAndBack$Call;") ∈ lw_all := lw_g (lw_at lw_m5 159 rfl) rfl
theorem q1265 : (Jvm.Cond.laysFinal "ThereAndBack$Enter" "ThereAndBack$Enter" "step" "LThereAndBack$Call;") ∈ lw_all := lw_g (lw_at lw_m5 161 rfl) rfl
theorem q1266 : (Jvm.Cond.soleField "ThereAndBack$Enter" "step") ∈ lw_all := lw_g (lw_at lw_m5 162 rfl) rfl
theorem q1267 : (Jvm.Cond.superclass "ThereAndBack$Enter" "ThereAndBack$Instruction") ∈ lw_all := lw_g (lw_at lw_m5 163 rfl) rfl
theorem q1337 : (Jvm.Cond.fieldLinkNest "ThereAndBack$Enter" (58 : Nat) "ThereAndBack$Routine" "code" "Ljava/util/List;" "ThereAndBack") ∈ lw_tbl := lw_at lw_m5 233 rfl
theorem q2108 : (Jvm.Cond.selects "ThereAndBack$Enter" ({ cls := "ThereAndBack$Instruction", name := "go", desc := "(LThereAndBack;IZ)I" } : Jvm.MethodName) ({ cls := "ThereAndBack$Enter", name := "go", desc := "(LThereAndBack;IZ)I" } : Jvm.MethodName)) ∈ lw_all := lw_g (lw_at lw_m9 44 rfl) rfl
theorem q2109 : (Jvm.Cond.instanceMethod ({ cls := "ThereAndBack$Enter", name := "go", desc := "(LThereAndBack;IZ)I" } : Jvm.MethodName)) ∈ lw_all := lw_g (lw_at lw_m9 45 rfl) rfl
theorem q2110 : (Jvm.Cond.code ({ cls := "ThereAndBack$Enter", name := "go", desc := "(LThereAndBack;IZ)I" } : Jvm.MethodName) prog_7_method_2_code (5 : Nat) (Option.some Jvm.ClassFile.FieldType.int)) ∈ lw_all := lw_g (lw_at lw_m9 46 rfl) rfl
theorem q2111 : (Jvm.Cond.methodLink "ThereAndBack$Enter" (25 : Nat) ({ cls := "ThereAndBack$Routine", name := "isOrdinary", desc := "()Z" } : Jvm.MethodName)) ∈ lw_all := lw_g (lw_at lw_m9 47 rfl) rfl
theorem q2112 : (Jvm.Cond.interfaceEntry "ThereAndBack$Enter" (62 : Nat)) ∈ lw_tbl := lw_at lw_m9 48 rfl
theorem q2113 : (Jvm.Cond.methodLink "ThereAndBack$Enter" (62 : Nat) ({ cls := "java/util/List", name := "size", desc := "()I" } : Jvm.MethodName)) ∈ lw_all := lw_g (lw_at lw_m9 49 rfl) rfl
theorem q3126 : (Jvm.Cond.castable "ThereAndBack$Enter" "ThereAndBack$Instruction") ∈ lw_tbl := lw_at lw_m13 102 rfl
theorem q3157 : (Jvm.Cond.castable "ThereAndBack$Enter" "java/lang/Object") ∈ lw_tbl := lw_at lw_m13 133 rfl
theorem in_X35 : ∀ w ∈ wsX350, w ∈ lw_all := lw_in wsX350 [1265] (by decide +kernel) (by decide +kernel)
/-! ThereAndBack$Over -/
set_option maxRecDepth 100000
def RX36 : String := "ThereAndBack$Over"
def TX36 : u_T := fun k => match k with
  | _ => ("ThereAndBack$Over", "step", "LThereAndBack$Single;", true)
def tyX36 : Nat → FieldType := fun k => match k with
  | _ => .object "ThereAndBack$Single"
abbrev wsX360 : List Cond := u_ws RX36 TX36 1
theorem nmX36 : ∀ a, a < 1 → ∀ b, b < 1 → a ≠ b → (TX36 a).2.1 ≠ (TX36 b).2.1 := by decide +kernel
theorem tyX36_ok : ∀ k, k < 1 → parseFieldDescriptor (TX36 k).2.2.1 = some (tyX36 k) := by decide +kernel
abbrev cX36_init : ByteArray := prog_21_method_1_code
def yX36_init : MethodName := ⟨RX36, "<init>", "(LThereAndBack$Single;)V"⟩
def dkwX36_init_0 : List UInt8 := [42, 183, 0, 1, 42, 43, 181, 0, 7, 177]
abbrev dktX36_init_0 : List UInt8 := dkwX36_init_0 ++ []
theorem dksX36_init_0 : cX36_init.data.toList.drop 0 = dktX36_init_0 := by decide +kernel
theorem dX36_init_0 : decode cX36_init 0 = .ok (.aload_n 0, 1) := dk_42 (dk_at dksX36_init_0 0 rfl rfl)
theorem dX36_init_1 : decode cX36_init 1 = .ok (.invokespecial 1, 3) := dk_183 0 1 (dk_at dksX36_init_0 1 rfl rfl)
theorem dX36_init_4 : decode cX36_init 4 = .ok (.aload_n 0, 1) := dk_42 (dk_at dksX36_init_0 4 rfl rfl)
theorem dX36_init_5 : decode cX36_init 5 = .ok (.aload_n 1, 1) := dk_43 (dk_at dksX36_init_0 5 rfl rfl)
theorem dX36_init_6 : decode cX36_init 6 = .ok (.putfield 7, 3) := dk_181 0 7 (dk_at dksX36_init_0 6 rfl rfl)
theorem dX36_init_9 : decode cX36_init 9 = .ok (.return_, 1) := dk_177 (dk_at dksX36_init_0 9 rfl rfl)
abbrev cX36_go : ByteArray := prog_21_method_2_code
def yX36_go : MethodName := ⟨RX36, "go", "(LThereAndBack;IZ)I"⟩
def dkwX36_go_1 : List UInt8 := [28, 172]
abbrev dktX36_go_1 : List UInt8 := dkwX36_go_1 ++ []
def dkwX36_go_0 : List UInt8 := [29, 153, 0, 15, 42, 180, 0, 7, 43, 182, 0, 13, 28, 4, 96, 172, 42, 180, 0, 7, 43, 182, 0, 19]
abbrev dktX36_go_0 : List UInt8 := dkwX36_go_0 ++ dktX36_go_1
theorem dksX36_go_0 : cX36_go.data.toList.drop 0 = dktX36_go_0 := by decide +kernel
theorem dksX36_go_1 : cX36_go.data.toList.drop 24 = dktX36_go_1 := dk_seg dksX36_go_0 24 rfl rfl
theorem dX36_go_0 : decode cX36_go 0 = .ok (.iload_n 3, 1) := dk_29 (dk_at dksX36_go_0 0 rfl rfl)
theorem dX36_go_1 : decode cX36_go 1 = .ok (.ifCond .eq 15, 3) := dk_153 0 15 (dk_at dksX36_go_0 1 rfl rfl)
theorem dX36_go_4 : decode cX36_go 4 = .ok (.aload_n 0, 1) := dk_42 (dk_at dksX36_go_0 4 rfl rfl)
theorem dX36_go_5 : decode cX36_go 5 = .ok (.getfield 7, 3) := dk_180 0 7 (dk_at dksX36_go_0 5 rfl rfl)
theorem dX36_go_8 : decode cX36_go 8 = .ok (.aload_n 1, 1) := dk_43 (dk_at dksX36_go_0 8 rfl rfl)
theorem dX36_go_9 : decode cX36_go 9 = .ok (.invokevirtual 13, 3) := dk_182 0 13 (dk_at dksX36_go_0 9 rfl rfl)
theorem dX36_go_12 : decode cX36_go 12 = .ok (.iload_n 2, 1) := dk_28 (dk_at dksX36_go_0 12 rfl rfl)
theorem dX36_go_13 : decode cX36_go 13 = .ok (.iconst 1, 1) := dk_4 (dk_at dksX36_go_0 13 rfl rfl)
theorem dX36_go_14 : decode cX36_go 14 = .ok (.iadd, 1) := dk_96 (dk_at dksX36_go_0 14 rfl rfl)
theorem dX36_go_15 : decode cX36_go 15 = .ok (.ireturn, 1) := dk_172 (dk_at dksX36_go_0 15 rfl rfl)
theorem dX36_go_16 : decode cX36_go 16 = .ok (.aload_n 0, 1) := dk_42 (dk_at dksX36_go_0 16 rfl rfl)
theorem dX36_go_17 : decode cX36_go 17 = .ok (.getfield 7, 3) := dk_180 0 7 (dk_at dksX36_go_0 17 rfl rfl)
theorem dX36_go_20 : decode cX36_go 20 = .ok (.aload_n 1, 1) := dk_43 (dk_at dksX36_go_0 20 rfl rfl)
theorem dX36_go_21 : decode cX36_go 21 = .ok (.invokevirtual 19, 3) := dk_182 0 19 (dk_at dksX36_go_0 21 rfl rfl)
theorem dX36_go_24 : decode cX36_go 24 = .ok (.iload_n 2, 1) := dk_28 (dk_at dksX36_go_1 0 rfl rfl)
theorem dX36_go_25 : decode cX36_go 25 = .ok (.ireturn, 1) := dk_172 (dk_at dksX36_go_1 1 rfl rfl)
theorem q195 : (Jvm.Cond.initialized "ThereAndBack$Over") ∈ lw_all := lw_g (lw_at lw_m1 51 rfl) rfl
theorem q1168 : (Jvm.Cond.selects "ThereAndBack$Over" ({ cls := "java/lang/Object", name := "getClass", desc := "()Ljava/lang/Class;" } : Jvm.MethodName) ({ cls := "java/lang/Object", name := "getClass", desc := "()Ljava/lang/Class;" } : Jvm.MethodName)) ∈ lw_all := lw_g (lw_at lw_m5 64 rfl) rfl
theorem q1274 : (Jvm.Cond.instantiable "ThereAndBack$Over" (1 : Nat)) ∈ lw_all := lw_g (lw_at lw_m5 170 rfl) rfl
theorem q1276 : (Jvm.Cond.instanceMethod ({ cls := "ThereAndBack$Over", name := "<init>", desc := "(LThereAndBack$Single;)V" } : Jvm.MethodName)) ∈ lw_all := lw_g (lw_at lw_m5 172 rfl) rfl
theorem q1277 : (Jvm.Cond.code ({ cls := "ThereAndBack$Over", name := "<init>", desc := "(LThereAndBack$Single;)V" } : Jvm.MethodName) prog_21_method_1_code (2 : Nat) (Option.none : Option Jvm.ClassFile.FieldType)) ∈ lw_all := lw_g (lw_at lw_m5 173 rfl) rfl
theorem q1278 : (Jvm.Cond.methodLinkNest "ThereAndBack$Over" (1 : Nat) ({ cls := "ThereAndBack$Instruction", name := "<init>", desc := "()V" } : Jvm.MethodName) "ThereAndBack") ∈ lw_tbl := lw_at lw_m5 174 rfl
theorem q1279 : (Jvm.Cond.fieldLink "ThereAndBack$Over" (7 : Nat) "ThereAndBack$Over" "step" "LThereAndBack$Single;") ∈ lw_all := lw_g (lw_at lw_m5 175 rfl) rfl
theorem q1280 : (Jvm.Cond.laysFinal "ThereAndBack$Over" "ThereAndBack$Over" "step" "LThereAndBack$Single;") ∈ lw_all := lw_g (lw_at lw_m5 176 rfl) rfl
theorem q1281 : (Jvm.Cond.soleField "ThereAndBack$Over" "step") ∈ lw_all := lw_g (lw_at lw_m5 177 rfl) rfl
theorem q1282 : (Jvm.Cond.superclass "ThereAndBack$Over" "ThereAndBack$Instruction") ∈ lw_all := lw_g (lw_at lw_m5 178 rfl) rfl
theorem q2114 : (Jvm.Cond.selects "ThereAndBack$Over" ({ cls := "ThereAndBack$Instruction", name := "go", desc := "(LThereAndBack;IZ)I" } : Jvm.MethodName) ({ cls := "ThereAndBack$Over", name := "go", desc := "(LThereAndBack;IZ)I" } : Jvm.MethodName)) ∈ lw_all := lw_g (lw_at lw_m9 50 rfl) rfl
theorem q2115 : (Jvm.Cond.instanceMethod ({ cls := "ThereAndBack$Over", name := "go", desc := "(LThereAndBack;IZ)I" } : Jvm.MethodName)) ∈ lw_all := lw_g (lw_at lw_m9 51 rfl) rfl
theorem q2116 : (Jvm.Cond.code ({ cls := "ThereAndBack$Over", name := "go", desc := "(LThereAndBack;IZ)I" } : Jvm.MethodName) prog_21_method_2_code (4 : Nat) (Option.some Jvm.ClassFile.FieldType.int)) ∈ lw_all := lw_g (lw_at lw_m9 52 rfl) rfl
theorem q2117 : (Jvm.Cond.methodLink "ThereAndBack$Over" (13 : Nat) ({ cls := "ThereAndBack$Single", name := "doForward", desc := "(LThereAndBack;)V" } : Jvm.MethodName)) ∈ lw_all := lw_g (lw_at lw_m9 53 rfl) rfl
theorem q2223 : (Jvm.Cond.methodLink "ThereAndBack$Over" (19 : Nat) ({ cls := "ThereAndBack$Single", name := "doBack", desc := "(LThereAndBack;)V" } : Jvm.MethodName)) ∈ lw_all := lw_g (lw_at lw_m9 159 rfl) rfl
theorem q3127 : (Jvm.Cond.castable "ThereAndBack$Over" "ThereAndBack$Instruction") ∈ lw_tbl := lw_at lw_m13 103 rfl
theorem q3158 : (Jvm.Cond.castable "ThereAndBack$Over" "java/lang/Object") ∈ lw_tbl := lw_at lw_m13 134 rfl
theorem in_X36 : ∀ w ∈ wsX360, w ∈ lw_all := lw_in wsX360 [1280] (by decide +kernel) (by decide +kernel)
/-! ThereAndBack$Corner -/
set_option maxRecDepth 100000
def RX37 : String := "ThereAndBack$Corner"
def TX37 : u_T := fun k => match k with
  | 0 => ("ThereAndBack$Corner", "step", "LThereAndBack$Forked;", true)
  | 1 => ("ThereAndBack$Corner", "what", "I", true)
  | 2 => ("ThereAndBack$Corner", "i", "I", false)
  | 3 => ("ThereAndBack$Corner", "j", "I", false)
  | _ => ("ThereAndBack$Corner", "k", "I", false)
def tyX37 : Nat → FieldType := fun k => match k with
  | 0 => .object "ThereAndBack$Forked"
  | 1 => .int
  | 2 => .int
  | 3 => .int
  | _ => .int
abbrev wsX370 : List Cond := u_ws RX37 TX37 5
theorem nmX37 : ∀ a, a < 5 → ∀ b, b < 5 → a ≠ b → (TX37 a).2.1 ≠ (TX37 b).2.1 := by decide +kernel
theorem tyX37_ok : ∀ k, k < 5 → parseFieldDescriptor (TX37 k).2.2.1 = some (tyX37 k) := by decide +kernel
abbrev cX37_init : ByteArray := prog_6_method_1_code
def yX37_init : MethodName := ⟨RX37, "<init>", "(LThereAndBack$Forked;I)V"⟩
def dkwX37_init_0 : List UInt8 := [42, 183, 0, 3, 42, 43, 181, 0, 9, 42, 28, 181, 0, 15, 177]
abbrev dktX37_init_0 : List UInt8 := dkwX37_init_0 ++ []
theorem dksX37_init_0 : cX37_init.data.toList.drop 0 = dktX37_init_0 := by decide +kernel
theorem dX37_init_0 : decode cX37_init 0 = .ok (.aload_n 0, 1) := dk_42 (dk_at dksX37_init_0 0 rfl rfl)
theorem dX37_init_1 : decode cX37_init 1 = .ok (.invokespecial 3, 3) := dk_183 0 3 (dk_at dksX37_init_0 1 rfl rfl)
theorem dX37_init_4 : decode cX37_init 4 = .ok (.aload_n 0, 1) := dk_42 (dk_at dksX37_init_0 4 rfl rfl)
theorem dX37_init_5 : decode cX37_init 5 = .ok (.aload_n 1, 1) := dk_43 (dk_at dksX37_init_0 5 rfl rfl)
theorem dX37_init_6 : decode cX37_init 6 = .ok (.putfield 9, 3) := dk_181 0 9 (dk_at dksX37_init_0 6 rfl rfl)
theorem dX37_init_9 : decode cX37_init 9 = .ok (.aload_n 0, 1) := dk_42 (dk_at dksX37_init_0 9 rfl rfl)
theorem dX37_init_10 : decode cX37_init 10 = .ok (.iload_n 2, 1) := dk_28 (dk_at dksX37_init_0 10 rfl rfl)
theorem dX37_init_11 : decode cX37_init 11 = .ok (.putfield 15, 3) := dk_181 0 15 (dk_at dksX37_init_0 11 rfl rfl)
theorem dX37_init_14 : decode cX37_init 14 = .ok (.return_, 1) := dk_177 (dk_at dksX37_init_0 14 rfl rfl)
abbrev cX37_join : ByteArray := prog_6_method_2_code
def yX37_join : MethodName := ⟨RX37, "join", "(Ljava/util/List;LThereAndBack$Forked;LThereAndBack$Corner;LThereAndBack$Corner;LThereAndBack$Corner;)V"⟩
def dkwX37_join_4 : List UInt8 := [177]
abbrev dktX37_join_4 : List UInt8 := dkwX37_join_4 ++ []
def dkwX37_join_3 : List UInt8 := [182, 0, 44, 45, 21, 5, 21, 6, 21, 7, 182, 0, 44, 25, 4, 21, 5, 21, 6, 21, 7, 182, 0, 44]
abbrev dktX37_join_3 : List UInt8 := dkwX37_join_3 ++ dktX37_join_4
def dkwX37_join_2 : List UInt8 := [42, 185, 0, 19, 1, 0, 54, 7, 42, 25, 4, 185, 0, 25, 2, 0, 87, 44, 21, 5, 21, 6, 21, 7]
abbrev dktX37_join_2 : List UInt8 := dkwX37_join_2 ++ dktX37_join_3
def dkwX37_join_1 : List UInt8 := [42, 185, 0, 19, 1, 0, 54, 6, 42, 45, 185, 0, 25, 2, 0, 87, 43, 180, 0, 41, 42, 182, 0, 35]
abbrev dktX37_join_1 : List UInt8 := dkwX37_join_1 ++ dktX37_join_2
def dkwX37_join_0 : List UInt8 := [42, 185, 0, 19, 1, 0, 54, 5, 42, 44, 185, 0, 25, 2, 0, 87, 43, 180, 0, 29, 42, 182, 0, 35]
abbrev dktX37_join_0 : List UInt8 := dkwX37_join_0 ++ dktX37_join_1
theorem dksX37_join_0 : cX37_join.data.toList.drop 0 = dktX37_join_0 := by decide +kernel
theorem dksX37_join_1 : cX37_join.data.toList.drop 24 = dktX37_join_1 := dk_seg dksX37_join_0 24 rfl rfl
theorem dksX37_join_2 : cX37_join.data.toList.drop 48 = dktX37_join_2 := dk_seg dksX37_join_1 24 rfl rfl
theorem dksX37_join_3 : cX37_join.data.toList.drop 72 = dktX37_join_3 := dk_seg dksX37_join_2 24 rfl rfl
theorem dksX37_join_4 : cX37_join.data.toList.drop 96 = dktX37_join_4 := dk_seg dksX37_join_3 24 rfl rfl
theorem dX37_join_0 : decode cX37_join 0 = .ok (.aload_n 0, 1) := dk_42 (dk_at dksX37_join_0 0 rfl rfl)
theorem dX37_join_1 : decode cX37_join 1 = .ok (.invokeinterface 19 1, 5) := by decide +kernel
theorem dX37_join_6 : decode cX37_join 6 = .ok (.istore 5, 2) := dk_54 5 (dk_at dksX37_join_0 6 rfl rfl)
theorem dX37_join_8 : decode cX37_join 8 = .ok (.aload_n 0, 1) := dk_42 (dk_at dksX37_join_0 8 rfl rfl)
theorem dX37_join_9 : decode cX37_join 9 = .ok (.aload_n 2, 1) := dk_44 (dk_at dksX37_join_0 9 rfl rfl)
theorem dX37_join_10 : decode cX37_join 10 = .ok (.invokeinterface 25 2, 5) := by decide +kernel
theorem dX37_join_15 : decode cX37_join 15 = .ok (.pop, 1) := dk_87 (dk_at dksX37_join_0 15 rfl rfl)
theorem dX37_join_16 : decode cX37_join 16 = .ok (.aload_n 1, 1) := dk_43 (dk_at dksX37_join_0 16 rfl rfl)
theorem dX37_join_17 : decode cX37_join 17 = .ok (.getfield 29, 3) := dk_180 0 29 (dk_at dksX37_join_0 17 rfl rfl)
theorem dX37_join_20 : decode cX37_join 20 = .ok (.aload_n 0, 1) := dk_42 (dk_at dksX37_join_0 20 rfl rfl)
theorem dX37_join_21 : decode cX37_join 21 = .ok (.invokevirtual 35, 3) := dk_182 0 35 (dk_at dksX37_join_0 21 rfl rfl)
theorem dX37_join_24 : decode cX37_join 24 = .ok (.aload_n 0, 1) := dk_42 (dk_at dksX37_join_1 0 rfl rfl)
theorem dX37_join_25 : decode cX37_join 25 = .ok (.invokeinterface 19 1, 5) := by decide +kernel
theorem dX37_join_30 : decode cX37_join 30 = .ok (.istore 6, 2) := dk_54 6 (dk_at dksX37_join_1 6 rfl rfl)
theorem dX37_join_32 : decode cX37_join 32 = .ok (.aload_n 0, 1) := dk_42 (dk_at dksX37_join_1 8 rfl rfl)
theorem dX37_join_33 : decode cX37_join 33 = .ok (.aload_n 3, 1) := dk_45 (dk_at dksX37_join_1 9 rfl rfl)
theorem dX37_join_34 : decode cX37_join 34 = .ok (.invokeinterface 25 2, 5) := by decide +kernel
theorem dX37_join_39 : decode cX37_join 39 = .ok (.pop, 1) := dk_87 (dk_at dksX37_join_1 15 rfl rfl)
theorem dX37_join_40 : decode cX37_join 40 = .ok (.aload_n 1, 1) := dk_43 (dk_at dksX37_join_1 16 rfl rfl)
theorem dX37_join_41 : decode cX37_join 41 = .ok (.getfield 41, 3) := dk_180 0 41 (dk_at dksX37_join_1 17 rfl rfl)
theorem dX37_join_44 : decode cX37_join 44 = .ok (.aload_n 0, 1) := dk_42 (dk_at dksX37_join_1 20 rfl rfl)
theorem dX37_join_45 : decode cX37_join 45 = .ok (.invokevirtual 35, 3) := dk_182 0 35 (dk_at dksX37_join_1 21 rfl rfl)
theorem dX37_join_48 : decode cX37_join 48 = .ok (.aload_n 0, 1) := dk_42 (dk_at dksX37_join_2 0 rfl rfl)
theorem dX37_join_49 : decode cX37_join 49 = .ok (.invokeinterface 19 1, 5) := by decide +kernel
theorem dX37_join_54 : decode cX37_join 54 = .ok (.istore 7, 2) := dk_54 7 (dk_at dksX37_join_2 6 rfl rfl)
theorem dX37_join_56 : decode cX37_join 56 = .ok (.aload_n 0, 1) := dk_42 (dk_at dksX37_join_2 8 rfl rfl)
theorem dX37_join_57 : decode cX37_join 57 = .ok (.aload 4, 2) := dk_25 4 (dk_at dksX37_join_2 9 rfl rfl)
theorem dX37_join_59 : decode cX37_join 59 = .ok (.invokeinterface 25 2, 5) := by decide +kernel
theorem dX37_join_64 : decode cX37_join 64 = .ok (.pop, 1) := dk_87 (dk_at dksX37_join_2 16 rfl rfl)
theorem dX37_join_65 : decode cX37_join 65 = .ok (.aload_n 2, 1) := dk_44 (dk_at dksX37_join_2 17 rfl rfl)
theorem dX37_join_66 : decode cX37_join 66 = .ok (.iload 5, 2) := dk_21 5 (dk_at dksX37_join_2 18 rfl rfl)
theorem dX37_join_68 : decode cX37_join 68 = .ok (.iload 6, 2) := dk_21 6 (dk_at dksX37_join_2 20 rfl rfl)
theorem dX37_join_70 : decode cX37_join 70 = .ok (.iload 7, 2) := dk_21 7 (dk_at dksX37_join_2 22 rfl rfl)
theorem dX37_join_72 : decode cX37_join 72 = .ok (.invokevirtual 44, 3) := dk_182 0 44 (dk_at dksX37_join_3 0 rfl rfl)
theorem dX37_join_75 : decode cX37_join 75 = .ok (.aload_n 3, 1) := dk_45 (dk_at dksX37_join_3 3 rfl rfl)
theorem dX37_join_76 : decode cX37_join 76 = .ok (.iload 5, 2) := dk_21 5 (dk_at dksX37_join_3 4 rfl rfl)
theorem dX37_join_78 : decode cX37_join 78 = .ok (.iload 6, 2) := dk_21 6 (dk_at dksX37_join_3 6 rfl rfl)
theorem dX37_join_80 : decode cX37_join 80 = .ok (.iload 7, 2) := dk_21 7 (dk_at dksX37_join_3 8 rfl rfl)
theorem dX37_join_82 : decode cX37_join 82 = .ok (.invokevirtual 44, 3) := dk_182 0 44 (dk_at dksX37_join_3 10 rfl rfl)
theorem dX37_join_85 : decode cX37_join 85 = .ok (.aload 4, 2) := dk_25 4 (dk_at dksX37_join_3 13 rfl rfl)
theorem dX37_join_87 : decode cX37_join 87 = .ok (.iload 5, 2) := dk_21 5 (dk_at dksX37_join_3 15 rfl rfl)
theorem dX37_join_89 : decode cX37_join 89 = .ok (.iload 6, 2) := dk_21 6 (dk_at dksX37_join_3 17 rfl rfl)
theorem dX37_join_91 : decode cX37_join 91 = .ok (.iload 7, 2) := dk_21 7 (dk_at dksX37_join_3 19 rfl rfl)
theorem dX37_join_93 : decode cX37_join 93 = .ok (.invokevirtual 44, 3) := dk_182 0 44 (dk_at dksX37_join_3 21 rfl rfl)
theorem dX37_join_96 : decode cX37_join 96 = .ok (.return_, 1) := dk_177 (dk_at dksX37_join_4 0 rfl rfl)
abbrev cX37_know : ByteArray := prog_6_method_3_code
def yX37_know : MethodName := ⟨RX37, "know", "(III)V"⟩
def dkwX37_know_0 : List UInt8 := [42, 27, 181, 0, 48, 42, 28, 181, 0, 51, 42, 29, 181, 0, 54, 177]
abbrev dktX37_know_0 : List UInt8 := dkwX37_know_0 ++ []
theorem dksX37_know_0 : cX37_know.data.toList.drop 0 = dktX37_know_0 := by decide +kernel
theorem dX37_know_0 : decode cX37_know 0 = .ok (.aload_n 0, 1) := dk_42 (dk_at dksX37_know_0 0 rfl rfl)
theorem dX37_know_1 : decode cX37_know 1 = .ok (.iload_n 1, 1) := dk_27 (dk_at dksX37_know_0 1 rfl rfl)
theorem dX37_know_2 : decode cX37_know 2 = .ok (.putfield 48, 3) := dk_181 0 48 (dk_at dksX37_know_0 2 rfl rfl)
theorem dX37_know_5 : decode cX37_know 5 = .ok (.aload_n 0, 1) := dk_42 (dk_at dksX37_know_0 5 rfl rfl)
theorem dX37_know_6 : decode cX37_know 6 = .ok (.iload_n 2, 1) := dk_28 (dk_at dksX37_know_0 6 rfl rfl)
theorem dX37_know_7 : decode cX37_know 7 = .ok (.putfield 51, 3) := dk_181 0 51 (dk_at dksX37_know_0 7 rfl rfl)
theorem dX37_know_10 : decode cX37_know 10 = .ok (.aload_n 0, 1) := dk_42 (dk_at dksX37_know_0 10 rfl rfl)
theorem dX37_know_11 : decode cX37_know 11 = .ok (.iload_n 3, 1) := dk_29 (dk_at dksX37_know_0 11 rfl rfl)
theorem dX37_know_12 : decode cX37_know 12 = .ok (.putfield 54, 3) := dk_181 0 54 (dk_at dksX37_know_0 12 rfl rfl)
theorem dX37_know_15 : decode cX37_know 15 = .ok (.return_, 1) := dk_177 (dk_at dksX37_know_0 15 rfl rfl)
abbrev cX37_go : ByteArray := prog_6_method_5_code
def yX37_go : MethodName := ⟨RX37, "go", "(LThereAndBack;IZ)I"⟩
def dkwX37_go_5 : List UInt8 := [42, 43, 21, 5, 182, 0, 78, 172]
abbrev dktX37_go_5 : List UInt8 := dkwX37_go_5 ++ []
def dkwX37_go_4 : List UInt8 := [153, 0, 7, 4, 167, 0, 4, 3, 54, 5, 29, 153, 0, 13, 42, 43, 21, 5, 182, 0, 74, 167, 0, 10]
abbrev dktX37_go_4 : List UInt8 := dkwX37_go_4 ++ dktX37_go_5
def dkwX37_go_3 : List UInt8 := [180, 0, 9, 180, 0, 61, 167, 0, 10, 42, 180, 0, 9, 180, 0, 65, 43, 182, 0, 68, 9, 148]
abbrev dktX37_go_3 : List UInt8 := dkwX37_go_3 ++ dktX37_go_4
def dkwX37_go_2 : List UInt8 := [159, 0, 11, 42, 180, 0, 15, 6, 160, 0, 7, 4, 167, 0, 4, 3, 54, 4, 21, 4, 153, 0, 13, 42]
abbrev dktX37_go_2 : List UInt8 := dkwX37_go_2 ++ dktX37_go_3
def dkwX37_go_1 : List UInt8 := [160, 0, 7, 4, 167, 0, 35, 3, 167, 0, 31, 42, 180, 0, 15, 153, 0, 19, 42, 180, 0, 15, 4]
abbrev dktX37_go_1 : List UInt8 := dkwX37_go_1 ++ dktX37_go_2
def dkwX37_go_0 : List UInt8 := [29, 153, 0, 34, 42, 180, 0, 15, 153, 0, 19, 42, 180, 0, 15, 6, 159, 0, 11, 42, 180, 0, 15, 8]
abbrev dktX37_go_0 : List UInt8 := dkwX37_go_0 ++ dktX37_go_1
theorem dksX37_go_0 : cX37_go.data.toList.drop 0 = dktX37_go_0 := by decide +kernel
theorem dksX37_go_1 : cX37_go.data.toList.drop 24 = dktX37_go_1 := dk_seg dksX37_go_0 24 rfl rfl
theorem dksX37_go_2 : cX37_go.data.toList.drop 47 = dktX37_go_2 := dk_seg dksX37_go_1 23 rfl rfl
theorem dksX37_go_3 : cX37_go.data.toList.drop 71 = dktX37_go_3 := dk_seg dksX37_go_2 24 rfl rfl
theorem dksX37_go_4 : cX37_go.data.toList.drop 93 = dktX37_go_4 := dk_seg dksX37_go_3 22 rfl rfl
theorem dksX37_go_5 : cX37_go.data.toList.drop 117 = dktX37_go_5 := dk_seg dksX37_go_4 24 rfl rfl
theorem dX37_go_0 : decode cX37_go 0 = .ok (.iload_n 3, 1) := dk_29 (dk_at dksX37_go_0 0 rfl rfl)
theorem dX37_go_1 : decode cX37_go 1 = .ok (.ifCond .eq 34, 3) := dk_153 0 34 (dk_at dksX37_go_0 1 rfl rfl)
theorem dX37_go_4 : decode cX37_go 4 = .ok (.aload_n 0, 1) := dk_42 (dk_at dksX37_go_0 4 rfl rfl)
theorem dX37_go_5 : decode cX37_go 5 = .ok (.getfield 15, 3) := dk_180 0 15 (dk_at dksX37_go_0 5 rfl rfl)
theorem dX37_go_8 : decode cX37_go 8 = .ok (.ifCond .eq 19, 3) := dk_153 0 19 (dk_at dksX37_go_0 8 rfl rfl)
theorem dX37_go_11 : decode cX37_go 11 = .ok (.aload_n 0, 1) := dk_42 (dk_at dksX37_go_0 11 rfl rfl)
theorem dX37_go_12 : decode cX37_go 12 = .ok (.getfield 15, 3) := dk_180 0 15 (dk_at dksX37_go_0 12 rfl rfl)
theorem dX37_go_15 : decode cX37_go 15 = .ok (.iconst 3, 1) := dk_6 (dk_at dksX37_go_0 15 rfl rfl)
theorem dX37_go_16 : decode cX37_go 16 = .ok (.if_icmp .eq 11, 3) := dk_159 0 11 (dk_at dksX37_go_0 16 rfl rfl)
theorem dX37_go_19 : decode cX37_go 19 = .ok (.aload_n 0, 1) := dk_42 (dk_at dksX37_go_0 19 rfl rfl)
theorem dX37_go_20 : decode cX37_go 20 = .ok (.getfield 15, 3) := dk_180 0 15 (dk_at dksX37_go_0 20 rfl rfl)
theorem dX37_go_23 : decode cX37_go 23 = .ok (.iconst 5, 1) := dk_8 (dk_at dksX37_go_0 23 rfl rfl)
theorem dX37_go_24 : decode cX37_go 24 = .ok (.if_icmp .ne 7, 3) := dk_160 0 7 (dk_at dksX37_go_1 0 rfl rfl)
theorem dX37_go_27 : decode cX37_go 27 = .ok (.iconst 1, 1) := dk_4 (dk_at dksX37_go_1 3 rfl rfl)
theorem dX37_go_28 : decode cX37_go 28 = .ok (.goto 35, 3) := dk_167 0 35 (dk_at dksX37_go_1 4 rfl rfl)
theorem dX37_go_31 : decode cX37_go 31 = .ok (.iconst 0, 1) := dk_3 (dk_at dksX37_go_1 7 rfl rfl)
theorem dX37_go_32 : decode cX37_go 32 = .ok (.goto 31, 3) := dk_167 0 31 (dk_at dksX37_go_1 8 rfl rfl)
theorem dX37_go_35 : decode cX37_go 35 = .ok (.aload_n 0, 1) := dk_42 (dk_at dksX37_go_1 11 rfl rfl)
theorem dX37_go_36 : decode cX37_go 36 = .ok (.getfield 15, 3) := dk_180 0 15 (dk_at dksX37_go_1 12 rfl rfl)
theorem dX37_go_39 : decode cX37_go 39 = .ok (.ifCond .eq 19, 3) := dk_153 0 19 (dk_at dksX37_go_1 15 rfl rfl)
theorem dX37_go_42 : decode cX37_go 42 = .ok (.aload_n 0, 1) := dk_42 (dk_at dksX37_go_1 18 rfl rfl)
theorem dX37_go_43 : decode cX37_go 43 = .ok (.getfield 15, 3) := dk_180 0 15 (dk_at dksX37_go_1 19 rfl rfl)
theorem dX37_go_46 : decode cX37_go 46 = .ok (.iconst 1, 1) := dk_4 (dk_at dksX37_go_1 22 rfl rfl)
theorem dX37_go_47 : decode cX37_go 47 = .ok (.if_icmp .eq 11, 3) := dk_159 0 11 (dk_at dksX37_go_2 0 rfl rfl)
theorem dX37_go_50 : decode cX37_go 50 = .ok (.aload_n 0, 1) := dk_42 (dk_at dksX37_go_2 3 rfl rfl)
theorem dX37_go_51 : decode cX37_go 51 = .ok (.getfield 15, 3) := dk_180 0 15 (dk_at dksX37_go_2 4 rfl rfl)
theorem dX37_go_54 : decode cX37_go 54 = .ok (.iconst 3, 1) := dk_6 (dk_at dksX37_go_2 7 rfl rfl)
theorem dX37_go_55 : decode cX37_go 55 = .ok (.if_icmp .ne 7, 3) := dk_160 0 7 (dk_at dksX37_go_2 8 rfl rfl)
theorem dX37_go_58 : decode cX37_go 58 = .ok (.iconst 1, 1) := dk_4 (dk_at dksX37_go_2 11 rfl rfl)
theorem dX37_go_59 : decode cX37_go 59 = .ok (.goto 4, 3) := dk_167 0 4 (dk_at dksX37_go_2 12 rfl rfl)
theorem dX37_go_62 : decode cX37_go 62 = .ok (.iconst 0, 1) := dk_3 (dk_at dksX37_go_2 15 rfl rfl)
theorem dX37_go_63 : decode cX37_go 63 = .ok (.istore 4, 2) := dk_54 4 (dk_at dksX37_go_2 16 rfl rfl)
theorem dX37_go_65 : decode cX37_go 65 = .ok (.iload 4, 2) := dk_21 4 (dk_at dksX37_go_2 18 rfl rfl)
theorem dX37_go_67 : decode cX37_go 67 = .ok (.ifCond .eq 13, 3) := dk_153 0 13 (dk_at dksX37_go_2 20 rfl rfl)
theorem dX37_go_70 : decode cX37_go 70 = .ok (.aload_n 0, 1) := dk_42 (dk_at dksX37_go_2 23 rfl rfl)
theorem dX37_go_71 : decode cX37_go 71 = .ok (.getfield 9, 3) := dk_180 0 9 (dk_at dksX37_go_3 0 rfl rfl)
theorem dX37_go_74 : decode cX37_go 74 = .ok (.getfield 61, 3) := dk_180 0 61 (dk_at dksX37_go_3 3 rfl rfl)
theorem dX37_go_77 : decode cX37_go 77 = .ok (.goto 10, 3) := dk_167 0 10 (dk_at dksX37_go_3 6 rfl rfl)
theorem dX37_go_80 : decode cX37_go 80 = .ok (.aload_n 0, 1) := dk_42 (dk_at dksX37_go_3 9 rfl rfl)
theorem dX37_go_81 : decode cX37_go 81 = .ok (.getfield 9, 3) := dk_180 0 9 (dk_at dksX37_go_3 10 rfl rfl)
theorem dX37_go_84 : decode cX37_go 84 = .ok (.getfield 65, 3) := dk_180 0 65 (dk_at dksX37_go_3 13 rfl rfl)
theorem dX37_go_87 : decode cX37_go 87 = .ok (.aload_n 1, 1) := dk_43 (dk_at dksX37_go_3 16 rfl rfl)
theorem dX37_go_88 : decode cX37_go 88 = .ok (.invokevirtual 68, 3) := dk_182 0 68 (dk_at dksX37_go_3 17 rfl rfl)
theorem dX37_go_91 : decode cX37_go 91 = .ok (.lconst 0, 1) := dk_9 (dk_at dksX37_go_3 20 rfl rfl)
theorem dX37_go_92 : decode cX37_go 92 = .ok (.lcmp, 1) := dk_148 (dk_at dksX37_go_3 21 rfl rfl)
theorem dX37_go_93 : decode cX37_go 93 = .ok (.ifCond .eq 7, 3) := dk_153 0 7 (dk_at dksX37_go_4 0 rfl rfl)
theorem dX37_go_96 : decode cX37_go 96 = .ok (.iconst 1, 1) := dk_4 (dk_at dksX37_go_4 3 rfl rfl)
theorem dX37_go_97 : decode cX37_go 97 = .ok (.goto 4, 3) := dk_167 0 4 (dk_at dksX37_go_4 4 rfl rfl)
theorem dX37_go_100 : decode cX37_go 100 = .ok (.iconst 0, 1) := dk_3 (dk_at dksX37_go_4 7 rfl rfl)
theorem dX37_go_101 : decode cX37_go 101 = .ok (.istore 5, 2) := dk_54 5 (dk_at dksX37_go_4 8 rfl rfl)
theorem dX37_go_103 : decode cX37_go 103 = .ok (.iload_n 3, 1) := dk_29 (dk_at dksX37_go_4 10 rfl rfl)
theorem dX37_go_104 : decode cX37_go 104 = .ok (.ifCond .eq 13, 3) := dk_153 0 13 (dk_at dksX37_go_4 11 rfl rfl)
theorem dX37_go_107 : decode cX37_go 107 = .ok (.aload_n 0, 1) := dk_42 (dk_at dksX37_go_4 14 rfl rfl)
theorem dX37_go_108 : decode cX37_go 108 = .ok (.aload_n 1, 1) := dk_43 (dk_at dksX37_go_4 15 rfl rfl)
theorem dX37_go_109 : decode cX37_go 109 = .ok (.iload 5, 2) := dk_21 5 (dk_at dksX37_go_4 16 rfl rfl)
theorem dX37_go_111 : decode cX37_go 111 = .ok (.invokevirtual 74, 3) := dk_182 0 74 (dk_at dksX37_go_4 18 rfl rfl)
theorem dX37_go_114 : decode cX37_go 114 = .ok (.goto 10, 3) := dk_167 0 10 (dk_at dksX37_go_4 21 rfl rfl)
theorem dX37_go_117 : decode cX37_go 117 = .ok (.aload_n 0, 1) := dk_42 (dk_at dksX37_go_5 0 rfl rfl)
theorem dX37_go_118 : decode cX37_go 118 = .ok (.aload_n 1, 1) := dk_43 (dk_at dksX37_go_5 1 rfl rfl)
theorem dX37_go_119 : decode cX37_go 119 = .ok (.iload 5, 2) := dk_21 5 (dk_at dksX37_go_5 2 rfl rfl)
theorem dX37_go_121 : decode cX37_go 121 = .ok (.invokevirtual 78, 3) := dk_182 0 78 (dk_at dksX37_go_5 4 rfl rfl)
theorem dX37_go_124 : decode cX37_go 124 = .ok (.ireturn, 1) := dk_172 (dk_at dksX37_go_5 7 rfl rfl)
abbrev cX37_goForward : ByteArray := prog_6_method_6_code
def yX37_goForward : MethodName := ⟨RX37, "goForward", "(LThereAndBack;Z)I"⟩
def dkwX37_goForward_6 : List UInt8 := [167, 0, 4, 3, 42, 180, 0, 48, 4, 96, 182, 0, 81, 172]
abbrev dktX37_goForward_6 : List UInt8 := dkwX37_goForward_6 ++ []
def dkwX37_goForward_5 : List UInt8 := [180, 0, 54, 4, 96, 167, 0, 9, 42, 180, 0, 51, 4, 96, 172, 42, 43, 28, 154, 0, 7, 4]
abbrev dktX37_goForward_5 : List UInt8 := dkwX37_goForward_5 ++ dktX37_goForward_6
def dkwX37_goForward_4 : List UInt8 := [4, 96, 182, 0, 81, 172, 42, 43, 28, 42, 180, 0, 48, 4, 96, 182, 0, 81, 172, 28, 153, 0, 12, 42]
abbrev dktX37_goForward_4 : List UInt8 := dkwX37_goForward_4 ++ dktX37_goForward_5
def dkwX37_goForward_3 : List UInt8 := [180, 0, 54, 4, 96, 182, 0, 81, 172, 42, 43, 28, 154, 0, 7, 4, 167, 0, 4, 3, 42, 180, 0, 54]
abbrev dktX37_goForward_3 : List UInt8 := dkwX37_goForward_3 ++ dktX37_goForward_4
def dkwX37_goForward_2 : List UInt8 := [28, 153, 0, 12, 42, 180, 0, 48, 4, 96, 167, 0, 9, 42, 180, 0, 51, 4, 96, 172, 42, 43, 28, 42]
abbrev dktX37_goForward_2 : List UInt8 := dkwX37_goForward_2 ++ dktX37_goForward_3
def dkwX37_goForward_1 : List UInt8 := [170, 0, 0, 0, 0, 0, 0, 123, 0, 0, 0, 0, 0, 0, 0, 4, 0, 0, 0, 36, 0, 0, 0, 56, 0, 0, 0, 69, 0, 0, 0, 90, 0, 0, 0, 103]
abbrev dktX37_goForward_1 : List UInt8 := dkwX37_goForward_1 ++ dktX37_goForward_2
def dkwX37_goForward_0 : List UInt8 := [42, 180, 0, 15]
abbrev dktX37_goForward_0 : List UInt8 := dkwX37_goForward_0 ++ dktX37_goForward_1
theorem dksX37_goForward_0 : cX37_goForward.data.toList.drop 0 = dktX37_goForward_0 := by decide +kernel
theorem dksX37_goForward_1 : cX37_goForward.data.toList.drop 4 = dktX37_goForward_1 := dk_seg dksX37_goForward_0 4 rfl rfl
theorem dksX37_goForward_2 : cX37_goForward.data.toList.drop 40 = dktX37_goForward_2 := dk_seg dksX37_goForward_1 36 rfl rfl
theorem dksX37_goForward_3 : cX37_goForward.data.toList.drop 64 = dktX37_goForward_3 := dk_seg dksX37_goForward_2 24 rfl rfl
theorem dksX37_goForward_4 : cX37_goForward.data.toList.drop 88 = dktX37_goForward_4 := dk_seg dksX37_goForward_3 24 rfl rfl
theorem dksX37_goForward_5 : cX37_goForward.data.toList.drop 112 = dktX37_goForward_5 := dk_seg dksX37_goForward_4 24 rfl rfl
theorem dksX37_goForward_6 : cX37_goForward.data.toList.drop 134 = dktX37_goForward_6 := dk_seg dksX37_goForward_5 22 rfl rfl
theorem dX37_goForward_0 : decode cX37_goForward 0 = .ok (.aload_n 0, 1) := dk_42 (dk_at dksX37_goForward_0 0 rfl rfl)
theorem dX37_goForward_1 : decode cX37_goForward 1 = .ok (.getfield 15, 3) := dk_180 0 15 (dk_at dksX37_goForward_0 1 rfl rfl)
theorem dX37_goForward_4 : decode cX37_goForward 4 = .ok (.tableswitch 123 0 4 #[36, 56, 69, 90, 103], 36) := by decide +kernel
theorem dX37_goForward_40 : decode cX37_goForward 40 = .ok (.iload_n 2, 1) := dk_28 (dk_at dksX37_goForward_2 0 rfl rfl)
theorem dX37_goForward_41 : decode cX37_goForward 41 = .ok (.ifCond .eq 12, 3) := dk_153 0 12 (dk_at dksX37_goForward_2 1 rfl rfl)
theorem dX37_goForward_44 : decode cX37_goForward 44 = .ok (.aload_n 0, 1) := dk_42 (dk_at dksX37_goForward_2 4 rfl rfl)
theorem dX37_goForward_45 : decode cX37_goForward 45 = .ok (.getfield 48, 3) := dk_180 0 48 (dk_at dksX37_goForward_2 5 rfl rfl)
theorem dX37_goForward_48 : decode cX37_goForward 48 = .ok (.iconst 1, 1) := dk_4 (dk_at dksX37_goForward_2 8 rfl rfl)
theorem dX37_goForward_49 : decode cX37_goForward 49 = .ok (.iadd, 1) := dk_96 (dk_at dksX37_goForward_2 9 rfl rfl)
theorem dX37_goForward_50 : decode cX37_goForward 50 = .ok (.goto 9, 3) := dk_167 0 9 (dk_at dksX37_goForward_2 10 rfl rfl)
theorem dX37_goForward_53 : decode cX37_goForward 53 = .ok (.aload_n 0, 1) := dk_42 (dk_at dksX37_goForward_2 13 rfl rfl)
theorem dX37_goForward_54 : decode cX37_goForward 54 = .ok (.getfield 51, 3) := dk_180 0 51 (dk_at dksX37_goForward_2 14 rfl rfl)
theorem dX37_goForward_57 : decode cX37_goForward 57 = .ok (.iconst 1, 1) := dk_4 (dk_at dksX37_goForward_2 17 rfl rfl)
theorem dX37_goForward_58 : decode cX37_goForward 58 = .ok (.iadd, 1) := dk_96 (dk_at dksX37_goForward_2 18 rfl rfl)
theorem dX37_goForward_59 : decode cX37_goForward 59 = .ok (.ireturn, 1) := dk_172 (dk_at dksX37_goForward_2 19 rfl rfl)
theorem dX37_goForward_60 : decode cX37_goForward 60 = .ok (.aload_n 0, 1) := dk_42 (dk_at dksX37_goForward_2 20 rfl rfl)
theorem dX37_goForward_61 : decode cX37_goForward 61 = .ok (.aload_n 1, 1) := dk_43 (dk_at dksX37_goForward_2 21 rfl rfl)
theorem dX37_goForward_62 : decode cX37_goForward 62 = .ok (.iload_n 2, 1) := dk_28 (dk_at dksX37_goForward_2 22 rfl rfl)
theorem dX37_goForward_63 : decode cX37_goForward 63 = .ok (.aload_n 0, 1) := dk_42 (dk_at dksX37_goForward_2 23 rfl rfl)
theorem dX37_goForward_64 : decode cX37_goForward 64 = .ok (.getfield 54, 3) := dk_180 0 54 (dk_at dksX37_goForward_3 0 rfl rfl)
theorem dX37_goForward_67 : decode cX37_goForward 67 = .ok (.iconst 1, 1) := dk_4 (dk_at dksX37_goForward_3 3 rfl rfl)
theorem dX37_goForward_68 : decode cX37_goForward 68 = .ok (.iadd, 1) := dk_96 (dk_at dksX37_goForward_3 4 rfl rfl)
theorem dX37_goForward_69 : decode cX37_goForward 69 = .ok (.invokevirtual 81, 3) := dk_182 0 81 (dk_at dksX37_goForward_3 5 rfl rfl)
theorem dX37_goForward_72 : decode cX37_goForward 72 = .ok (.ireturn, 1) := dk_172 (dk_at dksX37_goForward_3 8 rfl rfl)
theorem dX37_goForward_73 : decode cX37_goForward 73 = .ok (.aload_n 0, 1) := dk_42 (dk_at dksX37_goForward_3 9 rfl rfl)
theorem dX37_goForward_74 : decode cX37_goForward 74 = .ok (.aload_n 1, 1) := dk_43 (dk_at dksX37_goForward_3 10 rfl rfl)
theorem dX37_goForward_75 : decode cX37_goForward 75 = .ok (.iload_n 2, 1) := dk_28 (dk_at dksX37_goForward_3 11 rfl rfl)
theorem dX37_goForward_76 : decode cX37_goForward 76 = .ok (.ifCond .ne 7, 3) := dk_154 0 7 (dk_at dksX37_goForward_3 12 rfl rfl)
theorem dX37_goForward_79 : decode cX37_goForward 79 = .ok (.iconst 1, 1) := dk_4 (dk_at dksX37_goForward_3 15 rfl rfl)
theorem dX37_goForward_80 : decode cX37_goForward 80 = .ok (.goto 4, 3) := dk_167 0 4 (dk_at dksX37_goForward_3 16 rfl rfl)
theorem dX37_goForward_83 : decode cX37_goForward 83 = .ok (.iconst 0, 1) := dk_3 (dk_at dksX37_goForward_3 19 rfl rfl)
theorem dX37_goForward_84 : decode cX37_goForward 84 = .ok (.aload_n 0, 1) := dk_42 (dk_at dksX37_goForward_3 20 rfl rfl)
theorem dX37_goForward_85 : decode cX37_goForward 85 = .ok (.getfield 54, 3) := dk_180 0 54 (dk_at dksX37_goForward_3 21 rfl rfl)
theorem dX37_goForward_88 : decode cX37_goForward 88 = .ok (.iconst 1, 1) := dk_4 (dk_at dksX37_goForward_4 0 rfl rfl)
theorem dX37_goForward_89 : decode cX37_goForward 89 = .ok (.iadd, 1) := dk_96 (dk_at dksX37_goForward_4 1 rfl rfl)
theorem dX37_goForward_90 : decode cX37_goForward 90 = .ok (.invokevirtual 81, 3) := dk_182 0 81 (dk_at dksX37_goForward_4 2 rfl rfl)
theorem dX37_goForward_93 : decode cX37_goForward 93 = .ok (.ireturn, 1) := dk_172 (dk_at dksX37_goForward_4 5 rfl rfl)
theorem dX37_goForward_94 : decode cX37_goForward 94 = .ok (.aload_n 0, 1) := dk_42 (dk_at dksX37_goForward_4 6 rfl rfl)
theorem dX37_goForward_95 : decode cX37_goForward 95 = .ok (.aload_n 1, 1) := dk_43 (dk_at dksX37_goForward_4 7 rfl rfl)
theorem dX37_goForward_96 : decode cX37_goForward 96 = .ok (.iload_n 2, 1) := dk_28 (dk_at dksX37_goForward_4 8 rfl rfl)
theorem dX37_goForward_97 : decode cX37_goForward 97 = .ok (.aload_n 0, 1) := dk_42 (dk_at dksX37_goForward_4 9 rfl rfl)
theorem dX37_goForward_98 : decode cX37_goForward 98 = .ok (.getfield 48, 3) := dk_180 0 48 (dk_at dksX37_goForward_4 10 rfl rfl)
theorem dX37_goForward_101 : decode cX37_goForward 101 = .ok (.iconst 1, 1) := dk_4 (dk_at dksX37_goForward_4 13 rfl rfl)
theorem dX37_goForward_102 : decode cX37_goForward 102 = .ok (.iadd, 1) := dk_96 (dk_at dksX37_goForward_4 14 rfl rfl)
theorem dX37_goForward_103 : decode cX37_goForward 103 = .ok (.invokevirtual 81, 3) := dk_182 0 81 (dk_at dksX37_goForward_4 15 rfl rfl)
theorem dX37_goForward_106 : decode cX37_goForward 106 = .ok (.ireturn, 1) := dk_172 (dk_at dksX37_goForward_4 18 rfl rfl)
theorem dX37_goForward_107 : decode cX37_goForward 107 = .ok (.iload_n 2, 1) := dk_28 (dk_at dksX37_goForward_4 19 rfl rfl)
theorem dX37_goForward_108 : decode cX37_goForward 108 = .ok (.ifCond .eq 12, 3) := dk_153 0 12 (dk_at dksX37_goForward_4 20 rfl rfl)
theorem dX37_goForward_111 : decode cX37_goForward 111 = .ok (.aload_n 0, 1) := dk_42 (dk_at dksX37_goForward_4 23 rfl rfl)
theorem dX37_goForward_112 : decode cX37_goForward 112 = .ok (.getfield 54, 3) := dk_180 0 54 (dk_at dksX37_goForward_5 0 rfl rfl)
theorem dX37_goForward_115 : decode cX37_goForward 115 = .ok (.iconst 1, 1) := dk_4 (dk_at dksX37_goForward_5 3 rfl rfl)
theorem dX37_goForward_116 : decode cX37_goForward 116 = .ok (.iadd, 1) := dk_96 (dk_at dksX37_goForward_5 4 rfl rfl)
theorem dX37_goForward_117 : decode cX37_goForward 117 = .ok (.goto 9, 3) := dk_167 0 9 (dk_at dksX37_goForward_5 5 rfl rfl)
theorem dX37_goForward_120 : decode cX37_goForward 120 = .ok (.aload_n 0, 1) := dk_42 (dk_at dksX37_goForward_5 8 rfl rfl)
theorem dX37_goForward_121 : decode cX37_goForward 121 = .ok (.getfield 51, 3) := dk_180 0 51 (dk_at dksX37_goForward_5 9 rfl rfl)
theorem dX37_goForward_124 : decode cX37_goForward 124 = .ok (.iconst 1, 1) := dk_4 (dk_at dksX37_goForward_5 12 rfl rfl)
theorem dX37_goForward_125 : decode cX37_goForward 125 = .ok (.iadd, 1) := dk_96 (dk_at dksX37_goForward_5 13 rfl rfl)
theorem dX37_goForward_126 : decode cX37_goForward 126 = .ok (.ireturn, 1) := dk_172 (dk_at dksX37_goForward_5 14 rfl rfl)
theorem dX37_goForward_127 : decode cX37_goForward 127 = .ok (.aload_n 0, 1) := dk_42 (dk_at dksX37_goForward_5 15 rfl rfl)
theorem dX37_goForward_128 : decode cX37_goForward 128 = .ok (.aload_n 1, 1) := dk_43 (dk_at dksX37_goForward_5 16 rfl rfl)
theorem dX37_goForward_129 : decode cX37_goForward 129 = .ok (.iload_n 2, 1) := dk_28 (dk_at dksX37_goForward_5 17 rfl rfl)
theorem dX37_goForward_130 : decode cX37_goForward 130 = .ok (.ifCond .ne 7, 3) := dk_154 0 7 (dk_at dksX37_goForward_5 18 rfl rfl)
theorem dX37_goForward_133 : decode cX37_goForward 133 = .ok (.iconst 1, 1) := dk_4 (dk_at dksX37_goForward_5 21 rfl rfl)
theorem dX37_goForward_134 : decode cX37_goForward 134 = .ok (.goto 4, 3) := dk_167 0 4 (dk_at dksX37_goForward_6 0 rfl rfl)
theorem dX37_goForward_137 : decode cX37_goForward 137 = .ok (.iconst 0, 1) := dk_3 (dk_at dksX37_goForward_6 3 rfl rfl)
theorem dX37_goForward_138 : decode cX37_goForward 138 = .ok (.aload_n 0, 1) := dk_42 (dk_at dksX37_goForward_6 4 rfl rfl)
theorem dX37_goForward_139 : decode cX37_goForward 139 = .ok (.getfield 48, 3) := dk_180 0 48 (dk_at dksX37_goForward_6 5 rfl rfl)
theorem dX37_goForward_142 : decode cX37_goForward 142 = .ok (.iconst 1, 1) := dk_4 (dk_at dksX37_goForward_6 8 rfl rfl)
theorem dX37_goForward_143 : decode cX37_goForward 143 = .ok (.iadd, 1) := dk_96 (dk_at dksX37_goForward_6 9 rfl rfl)
theorem dX37_goForward_144 : decode cX37_goForward 144 = .ok (.invokevirtual 81, 3) := dk_182 0 81 (dk_at dksX37_goForward_6 10 rfl rfl)
theorem dX37_goForward_147 : decode cX37_goForward 147 = .ok (.ireturn, 1) := dk_172 (dk_at dksX37_goForward_6 13 rfl rfl)
abbrev cX37_must : ByteArray := prog_6_method_4_code
def yX37_must : MethodName := ⟨RX37, "must", "(LThereAndBack;ZI)I"⟩
def dkwX37_must_0 : List UInt8 := [28, 154, 0, 11, 43, 180, 0, 57, 16, 15, 50, 191, 29, 172]
abbrev dktX37_must_0 : List UInt8 := dkwX37_must_0 ++ []
theorem dksX37_must_0 : cX37_must.data.toList.drop 0 = dktX37_must_0 := by decide +kernel
theorem dX37_must_0 : decode cX37_must 0 = .ok (.iload_n 2, 1) := dk_28 (dk_at dksX37_must_0 0 rfl rfl)
theorem dX37_must_1 : decode cX37_must 1 = .ok (.ifCond .ne 11, 3) := dk_154 0 11 (dk_at dksX37_must_0 1 rfl rfl)
theorem dX37_must_4 : decode cX37_must 4 = .ok (.aload_n 1, 1) := dk_43 (dk_at dksX37_must_0 4 rfl rfl)
theorem dX37_must_5 : decode cX37_must 5 = .ok (.getfield 57, 3) := dk_180 0 57 (dk_at dksX37_must_0 5 rfl rfl)
theorem dX37_must_8 : decode cX37_must 8 = .ok (.bipush 15, 2) := dk_16 15 (dk_at dksX37_must_0 8 rfl rfl)
theorem dX37_must_10 : decode cX37_must 10 = .ok (.aaload, 1) := dk_50 (dk_at dksX37_must_0 10 rfl rfl)
theorem dX37_must_11 : decode cX37_must 11 = .ok (.athrow, 1) := dk_191 (dk_at dksX37_must_0 11 rfl rfl)
theorem dX37_must_12 : decode cX37_must 12 = .ok (.iload_n 3, 1) := dk_29 (dk_at dksX37_must_0 12 rfl rfl)
theorem dX37_must_13 : decode cX37_must 13 = .ok (.ireturn, 1) := dk_172 (dk_at dksX37_must_0 13 rfl rfl)
abbrev cX37_goBack : ByteArray := prog_6_method_7_code
def yX37_goBack : MethodName := ⟨RX37, "goBack", "(LThereAndBack;Z)I"⟩
def dkwX37_goBack_5 : List UInt8 := [167, 0, 4, 3, 42, 180, 0, 51, 182, 0, 81, 172, 42, 43, 28, 42, 180, 0, 51, 182, 0, 81, 172]
abbrev dktX37_goBack_5 : List UInt8 := dkwX37_goBack_5 ++ []
def dkwX37_goBack_4 : List UInt8 := [153, 0, 10, 42, 180, 0, 48, 167, 0, 7, 42, 180, 0, 54, 172, 42, 43, 28, 154, 0, 7, 4]
abbrev dktX37_goBack_4 : List UInt8 := dkwX37_goBack_4 ++ dktX37_goBack_5
def dkwX37_goBack_3 : List UInt8 := [180, 0, 48, 182, 0, 81, 172, 28, 153, 0, 10, 42, 180, 0, 51, 167, 0, 7, 42, 180, 0, 54, 172, 28]
abbrev dktX37_goBack_3 : List UInt8 := dkwX37_goBack_3 ++ dktX37_goBack_4
def dkwX37_goBack_2 : List UInt8 := [42, 43, 28, 42, 180, 0, 48, 182, 0, 81, 172, 42, 43, 28, 154, 0, 7, 4, 167, 0, 4, 3, 42]
abbrev dktX37_goBack_2 : List UInt8 := dkwX37_goBack_2 ++ dktX37_goBack_3
def dkwX37_goBack_1 : List UInt8 := [170, 0, 0, 0, 0, 0, 0, 117, 0, 0, 0, 0, 0, 0, 0, 4, 0, 0, 0, 36, 0, 0, 0, 47, 0, 0, 0, 66, 0, 0, 0, 82, 0, 0, 0, 98]
abbrev dktX37_goBack_1 : List UInt8 := dkwX37_goBack_1 ++ dktX37_goBack_2
def dkwX37_goBack_0 : List UInt8 := [42, 180, 0, 15]
abbrev dktX37_goBack_0 : List UInt8 := dkwX37_goBack_0 ++ dktX37_goBack_1
theorem dksX37_goBack_0 : cX37_goBack.data.toList.drop 0 = dktX37_goBack_0 := by decide +kernel
theorem dksX37_goBack_1 : cX37_goBack.data.toList.drop 4 = dktX37_goBack_1 := dk_seg dksX37_goBack_0 4 rfl rfl
theorem dksX37_goBack_2 : cX37_goBack.data.toList.drop 40 = dktX37_goBack_2 := dk_seg dksX37_goBack_1 36 rfl rfl
theorem dksX37_goBack_3 : cX37_goBack.data.toList.drop 63 = dktX37_goBack_3 := dk_seg dksX37_goBack_2 23 rfl rfl
theorem dksX37_goBack_4 : cX37_goBack.data.toList.drop 87 = dktX37_goBack_4 := dk_seg dksX37_goBack_3 24 rfl rfl
theorem dksX37_goBack_5 : cX37_goBack.data.toList.drop 109 = dktX37_goBack_5 := dk_seg dksX37_goBack_4 22 rfl rfl
theorem dX37_goBack_0 : decode cX37_goBack 0 = .ok (.aload_n 0, 1) := dk_42 (dk_at dksX37_goBack_0 0 rfl rfl)
theorem dX37_goBack_1 : decode cX37_goBack 1 = .ok (.getfield 15, 3) := dk_180 0 15 (dk_at dksX37_goBack_0 1 rfl rfl)
theorem dX37_goBack_4 : decode cX37_goBack 4 = .ok (.tableswitch 117 0 4 #[36, 47, 66, 82, 98], 36) := by decide +kernel
theorem dX37_goBack_40 : decode cX37_goBack 40 = .ok (.aload_n 0, 1) := dk_42 (dk_at dksX37_goBack_2 0 rfl rfl)
theorem dX37_goBack_41 : decode cX37_goBack 41 = .ok (.aload_n 1, 1) := dk_43 (dk_at dksX37_goBack_2 1 rfl rfl)
theorem dX37_goBack_42 : decode cX37_goBack 42 = .ok (.iload_n 2, 1) := dk_28 (dk_at dksX37_goBack_2 2 rfl rfl)
theorem dX37_goBack_43 : decode cX37_goBack 43 = .ok (.aload_n 0, 1) := dk_42 (dk_at dksX37_goBack_2 3 rfl rfl)
theorem dX37_goBack_44 : decode cX37_goBack 44 = .ok (.getfield 48, 3) := dk_180 0 48 (dk_at dksX37_goBack_2 4 rfl rfl)
theorem dX37_goBack_47 : decode cX37_goBack 47 = .ok (.invokevirtual 81, 3) := dk_182 0 81 (dk_at dksX37_goBack_2 7 rfl rfl)
theorem dX37_goBack_50 : decode cX37_goBack 50 = .ok (.ireturn, 1) := dk_172 (dk_at dksX37_goBack_2 10 rfl rfl)
theorem dX37_goBack_51 : decode cX37_goBack 51 = .ok (.aload_n 0, 1) := dk_42 (dk_at dksX37_goBack_2 11 rfl rfl)
theorem dX37_goBack_52 : decode cX37_goBack 52 = .ok (.aload_n 1, 1) := dk_43 (dk_at dksX37_goBack_2 12 rfl rfl)
theorem dX37_goBack_53 : decode cX37_goBack 53 = .ok (.iload_n 2, 1) := dk_28 (dk_at dksX37_goBack_2 13 rfl rfl)
theorem dX37_goBack_54 : decode cX37_goBack 54 = .ok (.ifCond .ne 7, 3) := dk_154 0 7 (dk_at dksX37_goBack_2 14 rfl rfl)
theorem dX37_goBack_57 : decode cX37_goBack 57 = .ok (.iconst 1, 1) := dk_4 (dk_at dksX37_goBack_2 17 rfl rfl)
theorem dX37_goBack_58 : decode cX37_goBack 58 = .ok (.goto 4, 3) := dk_167 0 4 (dk_at dksX37_goBack_2 18 rfl rfl)
theorem dX37_goBack_61 : decode cX37_goBack 61 = .ok (.iconst 0, 1) := dk_3 (dk_at dksX37_goBack_2 21 rfl rfl)
theorem dX37_goBack_62 : decode cX37_goBack 62 = .ok (.aload_n 0, 1) := dk_42 (dk_at dksX37_goBack_2 22 rfl rfl)
theorem dX37_goBack_63 : decode cX37_goBack 63 = .ok (.getfield 48, 3) := dk_180 0 48 (dk_at dksX37_goBack_3 0 rfl rfl)
theorem dX37_goBack_66 : decode cX37_goBack 66 = .ok (.invokevirtual 81, 3) := dk_182 0 81 (dk_at dksX37_goBack_3 3 rfl rfl)
theorem dX37_goBack_69 : decode cX37_goBack 69 = .ok (.ireturn, 1) := dk_172 (dk_at dksX37_goBack_3 6 rfl rfl)
theorem dX37_goBack_70 : decode cX37_goBack 70 = .ok (.iload_n 2, 1) := dk_28 (dk_at dksX37_goBack_3 7 rfl rfl)
theorem dX37_goBack_71 : decode cX37_goBack 71 = .ok (.ifCond .eq 10, 3) := dk_153 0 10 (dk_at dksX37_goBack_3 8 rfl rfl)
theorem dX37_goBack_74 : decode cX37_goBack 74 = .ok (.aload_n 0, 1) := dk_42 (dk_at dksX37_goBack_3 11 rfl rfl)
theorem dX37_goBack_75 : decode cX37_goBack 75 = .ok (.getfield 51, 3) := dk_180 0 51 (dk_at dksX37_goBack_3 12 rfl rfl)
theorem dX37_goBack_78 : decode cX37_goBack 78 = .ok (.goto 7, 3) := dk_167 0 7 (dk_at dksX37_goBack_3 15 rfl rfl)
theorem dX37_goBack_81 : decode cX37_goBack 81 = .ok (.aload_n 0, 1) := dk_42 (dk_at dksX37_goBack_3 18 rfl rfl)
theorem dX37_goBack_82 : decode cX37_goBack 82 = .ok (.getfield 54, 3) := dk_180 0 54 (dk_at dksX37_goBack_3 19 rfl rfl)
theorem dX37_goBack_85 : decode cX37_goBack 85 = .ok (.ireturn, 1) := dk_172 (dk_at dksX37_goBack_3 22 rfl rfl)
theorem dX37_goBack_86 : decode cX37_goBack 86 = .ok (.iload_n 2, 1) := dk_28 (dk_at dksX37_goBack_3 23 rfl rfl)
theorem dX37_goBack_87 : decode cX37_goBack 87 = .ok (.ifCond .eq 10, 3) := dk_153 0 10 (dk_at dksX37_goBack_4 0 rfl rfl)
theorem dX37_goBack_90 : decode cX37_goBack 90 = .ok (.aload_n 0, 1) := dk_42 (dk_at dksX37_goBack_4 3 rfl rfl)
theorem dX37_goBack_91 : decode cX37_goBack 91 = .ok (.getfield 48, 3) := dk_180 0 48 (dk_at dksX37_goBack_4 4 rfl rfl)
theorem dX37_goBack_94 : decode cX37_goBack 94 = .ok (.goto 7, 3) := dk_167 0 7 (dk_at dksX37_goBack_4 7 rfl rfl)
theorem dX37_goBack_97 : decode cX37_goBack 97 = .ok (.aload_n 0, 1) := dk_42 (dk_at dksX37_goBack_4 10 rfl rfl)
theorem dX37_goBack_98 : decode cX37_goBack 98 = .ok (.getfield 54, 3) := dk_180 0 54 (dk_at dksX37_goBack_4 11 rfl rfl)
theorem dX37_goBack_101 : decode cX37_goBack 101 = .ok (.ireturn, 1) := dk_172 (dk_at dksX37_goBack_4 14 rfl rfl)
theorem dX37_goBack_102 : decode cX37_goBack 102 = .ok (.aload_n 0, 1) := dk_42 (dk_at dksX37_goBack_4 15 rfl rfl)
theorem dX37_goBack_103 : decode cX37_goBack 103 = .ok (.aload_n 1, 1) := dk_43 (dk_at dksX37_goBack_4 16 rfl rfl)
theorem dX37_goBack_104 : decode cX37_goBack 104 = .ok (.iload_n 2, 1) := dk_28 (dk_at dksX37_goBack_4 17 rfl rfl)
theorem dX37_goBack_105 : decode cX37_goBack 105 = .ok (.ifCond .ne 7, 3) := dk_154 0 7 (dk_at dksX37_goBack_4 18 rfl rfl)
theorem dX37_goBack_108 : decode cX37_goBack 108 = .ok (.iconst 1, 1) := dk_4 (dk_at dksX37_goBack_4 21 rfl rfl)
theorem dX37_goBack_109 : decode cX37_goBack 109 = .ok (.goto 4, 3) := dk_167 0 4 (dk_at dksX37_goBack_5 0 rfl rfl)
theorem dX37_goBack_112 : decode cX37_goBack 112 = .ok (.iconst 0, 1) := dk_3 (dk_at dksX37_goBack_5 3 rfl rfl)
theorem dX37_goBack_113 : decode cX37_goBack 113 = .ok (.aload_n 0, 1) := dk_42 (dk_at dksX37_goBack_5 4 rfl rfl)
theorem dX37_goBack_114 : decode cX37_goBack 114 = .ok (.getfield 51, 3) := dk_180 0 51 (dk_at dksX37_goBack_5 5 rfl rfl)
theorem dX37_goBack_117 : decode cX37_goBack 117 = .ok (.invokevirtual 81, 3) := dk_182 0 81 (dk_at dksX37_goBack_5 8 rfl rfl)
theorem dX37_goBack_120 : decode cX37_goBack 120 = .ok (.ireturn, 1) := dk_172 (dk_at dksX37_goBack_5 11 rfl rfl)
theorem dX37_goBack_121 : decode cX37_goBack 121 = .ok (.aload_n 0, 1) := dk_42 (dk_at dksX37_goBack_5 12 rfl rfl)
theorem dX37_goBack_122 : decode cX37_goBack 122 = .ok (.aload_n 1, 1) := dk_43 (dk_at dksX37_goBack_5 13 rfl rfl)
theorem dX37_goBack_123 : decode cX37_goBack 123 = .ok (.iload_n 2, 1) := dk_28 (dk_at dksX37_goBack_5 14 rfl rfl)
theorem dX37_goBack_124 : decode cX37_goBack 124 = .ok (.aload_n 0, 1) := dk_42 (dk_at dksX37_goBack_5 15 rfl rfl)
theorem dX37_goBack_125 : decode cX37_goBack 125 = .ok (.getfield 51, 3) := dk_180 0 51 (dk_at dksX37_goBack_5 16 rfl rfl)
theorem dX37_goBack_128 : decode cX37_goBack 128 = .ok (.invokevirtual 81, 3) := dk_182 0 81 (dk_at dksX37_goBack_5 19 rfl rfl)
theorem dX37_goBack_131 : decode cX37_goBack 131 = .ok (.ireturn, 1) := dk_172 (dk_at dksX37_goBack_5 22 rfl rfl)
theorem q196 : (Jvm.Cond.initialized "ThereAndBack$Corner") ∈ lw_all := lw_g (lw_at lw_m1 52 rfl) rfl
theorem q342 : (Jvm.Cond.fieldLinkNest "ThereAndBack$Corner" (57 : Nat) "ThereAndBack" "refusals" "[LThereAndBack$Refused;" "ThereAndBack") ∈ lw_tbl := lw_at lw_m1 198 rfl
theorem q1040 : (Jvm.Cond.fieldLink "ThereAndBack$Corner" (61 : Nat) "ThereAndBack$Forked" "ahead" "LThereAndBack$Expr;") ∈ lw_all := lw_g (lw_at lw_m4 176 rfl) rfl
theorem q1042 : (Jvm.Cond.fieldLink "ThereAndBack$Corner" (29 : Nat) "ThereAndBack$Forked" "first" "LThereAndBack$Part;") ∈ lw_all := lw_g (lw_at lw_m4 178 rfl) rfl
theorem q1048 : (Jvm.Cond.fieldLink "ThereAndBack$Corner" (41 : Nat) "ThereAndBack$Forked" "second" "LThereAndBack$Part;") ∈ lw_all := lw_g (lw_at lw_m4 184 rfl) rfl
theorem q1058 : (Jvm.Cond.fieldLink "ThereAndBack$Corner" (65 : Nat) "ThereAndBack$Forked" "behind" "LThereAndBack$Expr;") ∈ lw_all := lw_g (lw_at lw_m4 194 rfl) rfl
theorem q1157 : (Jvm.Cond.selects "ThereAndBack$Corner" ({ cls := "java/lang/Object", name := "getClass", desc := "()Ljava/lang/Class;" } : Jvm.MethodName) ({ cls := "java/lang/Object", name := "getClass", desc := "()Ljava/lang/Class;" } : Jvm.MethodName)) ∈ lw_all := lw_g (lw_at lw_m5 53 rfl) rfl
theorem q1289 : (Jvm.Cond.instantiable "ThereAndBack$Corner" (5 : Nat)) ∈ lw_all := lw_g (lw_at lw_m5 185 rfl) rfl
theorem q1291 : (Jvm.Cond.instanceMethod ({ cls := "ThereAndBack$Corner", name := "<init>", desc := "(LThereAndBack$Forked;I)V" } : Jvm.MethodName)) ∈ lw_all := lw_g (lw_at lw_m5 187 rfl) rfl
theorem q1292 : (Jvm.Cond.code ({ cls := "ThereAndBack$Corner", name := "<init>", desc := "(LThereAndBack$Forked;I)V" } : Jvm.MethodName) prog_6_method_1_code (3 : Nat) (Option.none : Option Jvm.ClassFile.FieldType)) ∈ lw_all := lw_g (lw_at lw_m5 188 rfl) rfl
theorem q1293 : (Jvm.Cond.methodLinkNest "ThereAndBack$Corner" (3 : Nat) ({ cls := "ThereAndBack$Instruction", name := "<init>", desc := "()V" } : Jvm.MethodName) "ThereAndBack") ∈ lw_tbl := lw_at lw_m5 189 rfl
theorem q1294 : (Jvm.Cond.fieldLink "ThereAndBack$Corner" (9 : Nat) "ThereAndBack$Corner" "step" "LThereAndBack$Forked;") ∈ lw_all := lw_g (lw_at lw_m5 190 rfl) rfl
theorem q1295 : (Jvm.Cond.fieldLink "ThereAndBack$Corner" (15 : Nat) "ThereAndBack$Corner" "what" "I") ∈ lw_all := lw_g (lw_at lw_m5 191 rfl) rfl
theorem q1296 : (Jvm.Cond.fieldLink "ThereAndBack$Corner" (48 : Nat) "ThereAndBack$Corner" "i" "I") ∈ lw_all := lw_g (lw_at lw_m5 192 rfl) rfl
theorem q1297 : (Jvm.Cond.fieldLink "ThereAndBack$Corner" (51 : Nat) "ThereAndBack$Corner" "j" "I") ∈ lw_all := lw_g (lw_at lw_m5 193 rfl) rfl
theorem q1298 : (Jvm.Cond.fieldLink "ThereAndBack$Corner" (54 : Nat) "ThereAndBack$Corner" "k" "I") ∈ lw_all := lw_g (lw_at lw_m5 194 rfl) rfl
theorem q1299 : (Jvm.Cond.laysFinal "ThereAndBack$Corner" "ThereAndBack$Corner" "step" "LThereAndBack$Forked;") ∈ lw_all := lw_g (lw_at lw_m5 195 rfl) rfl
theorem q1300 : (Jvm.Cond.soleField "ThereAndBack$Corner" "step") ∈ lw_all := lw_g (lw_at lw_m5 196 rfl) rfl
theorem q1301 : (Jvm.Cond.laysFinal "ThereAndBack$Corner" "ThereAndBack$Corner" "what" "I") ∈ lw_all := lw_g (lw_at lw_m5 197 rfl) rfl
theorem q1302 : (Jvm.Cond.soleField "ThereAndBack$Corner" "what") ∈ lw_all := lw_g (lw_at lw_m5 198 rfl) rfl
theorem q1303 : (Jvm.Cond.lays "ThereAndBack$Corner" "ThereAndBack$Corner" "i" "I") ∈ lw_all := lw_g (lw_at lw_m5 199 rfl) rfl
theorem q1304 : (Jvm.Cond.soleField "ThereAndBack$Corner" "i") ∈ lw_all := lw_g (lw_at lw_m5 200 rfl) rfl
theorem q1305 : (Jvm.Cond.lays "ThereAndBack$Corner" "ThereAndBack$Corner" "j" "I") ∈ lw_all := lw_g (lw_at lw_m5 201 rfl) rfl
theorem q1306 : (Jvm.Cond.soleField "ThereAndBack$Corner" "j") ∈ lw_all := lw_g (lw_at lw_m5 202 rfl) rfl
theorem q1307 : (Jvm.Cond.lays "ThereAndBack$Corner" "ThereAndBack$Corner" "k" "I") ∈ lw_all := lw_g (lw_at lw_m5 203 rfl) rfl
theorem q1308 : (Jvm.Cond.soleField "ThereAndBack$Corner" "k") ∈ lw_all := lw_g (lw_at lw_m5 204 rfl) rfl
theorem q1309 : (Jvm.Cond.superclass "ThereAndBack$Corner" "ThereAndBack$Instruction") ∈ lw_all := lw_g (lw_at lw_m5 205 rfl) rfl
theorem q1311 : (Jvm.Cond.static ({ cls := "ThereAndBack$Corner", name := "join", desc := "(Ljava/util/List;LThereAndBack$Forked;LThereAndBack$Corner;LThereAndBack$Corner;LThereAndBack$Corner;)V" } : Jvm.MethodName)) ∈ lw_all := lw_g (lw_at lw_m5 207 rfl) rfl
theorem q1312 : (Jvm.Cond.code ({ cls := "ThereAndBack$Corner", name := "join", desc := "(Ljava/util/List;LThereAndBack$Forked;LThereAndBack$Corner;LThereAndBack$Corner;LThereAndBack$Corner;)V" } : Jvm.MethodName) prog_6_method_2_code (8 : Nat) (Option.none : Option Jvm.ClassFile.FieldType)) ∈ lw_all := lw_g (lw_at lw_m5 208 rfl) rfl
theorem q1313 : (Jvm.Cond.interfaceEntry "ThereAndBack$Corner" (19 : Nat)) ∈ lw_tbl := lw_at lw_m5 209 rfl
theorem q1314 : (Jvm.Cond.methodLink "ThereAndBack$Corner" (19 : Nat) ({ cls := "java/util/List", name := "size", desc := "()I" } : Jvm.MethodName)) ∈ lw_all := lw_g (lw_at lw_m5 210 rfl) rfl
theorem q1315 : (Jvm.Cond.interfaceEntry "ThereAndBack$Corner" (25 : Nat)) ∈ lw_tbl := lw_at lw_m5 211 rfl
theorem q1316 : (Jvm.Cond.methodLink "ThereAndBack$Corner" (25 : Nat) ({ cls := "java/util/List", name := "add", desc := "(Ljava/lang/Object;)Z" } : Jvm.MethodName)) ∈ lw_all := lw_g (lw_at lw_m5 212 rfl) rfl
theorem q1317 : (Jvm.Cond.methodLink "ThereAndBack$Corner" (35 : Nat) ({ cls := "ThereAndBack$Part", name := "lay", desc := "(Ljava/util/List;)V" } : Jvm.MethodName)) ∈ lw_all := lw_g (lw_at lw_m5 213 rfl) rfl
theorem q1318 : (Jvm.Cond.methodLink "ThereAndBack$Corner" (44 : Nat) ({ cls := "ThereAndBack$Corner", name := "know", desc := "(III)V" } : Jvm.MethodName)) ∈ lw_all := lw_g (lw_at lw_m5 214 rfl) rfl
theorem q1319 : (Jvm.Cond.privateMethod ({ cls := "ThereAndBack$Corner", name := "know", desc := "(III)V" } : Jvm.MethodName)) ∈ lw_tbl := lw_at lw_m5 215 rfl
theorem q1320 : (Jvm.Cond.instanceMethod ({ cls := "ThereAndBack$Corner", name := "know", desc := "(III)V" } : Jvm.MethodName)) ∈ lw_all := lw_g (lw_at lw_m5 216 rfl) rfl
theorem q1321 : (Jvm.Cond.code ({ cls := "ThereAndBack$Corner", name := "know", desc := "(III)V" } : Jvm.MethodName) prog_6_method_3_code (4 : Nat) (Option.none : Option Jvm.ClassFile.FieldType)) ∈ lw_all := lw_g (lw_at lw_m5 217 rfl) rfl
theorem q2092 : (Jvm.Cond.selects "ThereAndBack$Corner" ({ cls := "ThereAndBack$Instruction", name := "go", desc := "(LThereAndBack;IZ)I" } : Jvm.MethodName) ({ cls := "ThereAndBack$Corner", name := "go", desc := "(LThereAndBack;IZ)I" } : Jvm.MethodName)) ∈ lw_all := lw_g (lw_at lw_m9 28 rfl) rfl
theorem q2093 : (Jvm.Cond.instanceMethod ({ cls := "ThereAndBack$Corner", name := "go", desc := "(LThereAndBack;IZ)I" } : Jvm.MethodName)) ∈ lw_all := lw_g (lw_at lw_m9 29 rfl) rfl
theorem q2094 : (Jvm.Cond.code ({ cls := "ThereAndBack$Corner", name := "go", desc := "(LThereAndBack;IZ)I" } : Jvm.MethodName) prog_6_method_5_code (6 : Nat) (Option.some Jvm.ClassFile.FieldType.int)) ∈ lw_all := lw_g (lw_at lw_m9 30 rfl) rfl
theorem q2095 : (Jvm.Cond.methodLink "ThereAndBack$Corner" (68 : Nat) ({ cls := "ThereAndBack$Expr", name := "eval", desc := "(LThereAndBack;)J" } : Jvm.MethodName)) ∈ lw_all := lw_g (lw_at lw_m9 31 rfl) rfl
theorem q2096 : (Jvm.Cond.methodLink "ThereAndBack$Corner" (74 : Nat) ({ cls := "ThereAndBack$Corner", name := "goForward", desc := "(LThereAndBack;Z)I" } : Jvm.MethodName)) ∈ lw_all := lw_g (lw_at lw_m9 32 rfl) rfl
theorem q2097 : (Jvm.Cond.privateMethod ({ cls := "ThereAndBack$Corner", name := "goForward", desc := "(LThereAndBack;Z)I" } : Jvm.MethodName)) ∈ lw_tbl := lw_at lw_m9 33 rfl
theorem q2098 : (Jvm.Cond.instanceMethod ({ cls := "ThereAndBack$Corner", name := "goForward", desc := "(LThereAndBack;Z)I" } : Jvm.MethodName)) ∈ lw_all := lw_g (lw_at lw_m9 34 rfl) rfl
theorem q2099 : (Jvm.Cond.code ({ cls := "ThereAndBack$Corner", name := "goForward", desc := "(LThereAndBack;Z)I" } : Jvm.MethodName) prog_6_method_6_code (3 : Nat) (Option.some Jvm.ClassFile.FieldType.int)) ∈ lw_all := lw_g (lw_at lw_m9 35 rfl) rfl
theorem q2100 : (Jvm.Cond.methodLink "ThereAndBack$Corner" (81 : Nat) ({ cls := "ThereAndBack$Corner", name := "must", desc := "(LThereAndBack;ZI)I" } : Jvm.MethodName)) ∈ lw_all := lw_g (lw_at lw_m9 36 rfl) rfl
theorem q2101 : (Jvm.Cond.privateMethod ({ cls := "ThereAndBack$Corner", name := "must", desc := "(LThereAndBack;ZI)I" } : Jvm.MethodName)) ∈ lw_tbl := lw_at lw_m9 37 rfl
theorem q2102 : (Jvm.Cond.instanceMethod ({ cls := "ThereAndBack$Corner", name := "must", desc := "(LThereAndBack;ZI)I" } : Jvm.MethodName)) ∈ lw_all := lw_g (lw_at lw_m9 38 rfl) rfl
theorem q2103 : (Jvm.Cond.code ({ cls := "ThereAndBack$Corner", name := "must", desc := "(LThereAndBack;ZI)I" } : Jvm.MethodName) prog_6_method_4_code (4 : Nat) (Option.some Jvm.ClassFile.FieldType.int)) ∈ lw_all := lw_g (lw_at lw_m9 39 rfl) rfl
theorem q2104 : (Jvm.Cond.methodLink "ThereAndBack$Corner" (78 : Nat) ({ cls := "ThereAndBack$Corner", name := "goBack", desc := "(LThereAndBack;Z)I" } : Jvm.MethodName)) ∈ lw_all := lw_g (lw_at lw_m9 40 rfl) rfl
theorem q2105 : (Jvm.Cond.privateMethod ({ cls := "ThereAndBack$Corner", name := "goBack", desc := "(LThereAndBack;Z)I" } : Jvm.MethodName)) ∈ lw_tbl := lw_at lw_m9 41 rfl
theorem q2106 : (Jvm.Cond.instanceMethod ({ cls := "ThereAndBack$Corner", name := "goBack", desc := "(LThereAndBack;Z)I" } : Jvm.MethodName)) ∈ lw_all := lw_g (lw_at lw_m9 42 rfl) rfl
theorem q2107 : (Jvm.Cond.code ({ cls := "ThereAndBack$Corner", name := "goBack", desc := "(LThereAndBack;Z)I" } : Jvm.MethodName) prog_6_method_7_code (3 : Nat) (Option.some Jvm.ClassFile.FieldType.int)) ∈ lw_all := lw_g (lw_at lw_m9 43 rfl) rfl
theorem q3125 : (Jvm.Cond.castable "ThereAndBack$Corner" "ThereAndBack$Instruction") ∈ lw_tbl := lw_at lw_m13 101 rfl
theorem q3159 : (Jvm.Cond.castable "ThereAndBack$Corner" "java/lang/Object") ∈ lw_tbl := lw_at lw_m13 135 rfl
theorem in_X37 : ∀ w ∈ wsX370, w ∈ lw_all := lw_in wsX370 [1299, 1301, 1303, 1305, 1307] (by decide +kernel) (by decide +kernel)
