/-! java/lang/Throwable -/
set_option maxRecDepth 100000
def RJ0 : String := "java/lang/Throwable"
def TJ0 : u_T := fun k => match k with
  | 0 => ("java/lang/Throwable", "cause", "Ljava/lang/Throwable;", false)
  | 1 => ("java/lang/Throwable", "stackTrace", "[Ljava/lang/StackTraceElement;", false)
  | 2 => ("java/lang/Throwable", "suppressedExceptions", "Ljava/util/List;", false)
  | 3 => ("java/lang/Throwable", "detailMessage", "Ljava/lang/String;", false)
  | _ => ("java/lang/Throwable", "backtrace", "Ljava/lang/Object;", false)
def tyJ0 : Nat → FieldType := fun k => match k with
  | 0 => .object "java/lang/Throwable"
  | 1 => .array (.object "java/lang/StackTraceElement")
  | 2 => .object "java/util/List"
  | 3 => .object "java/lang/String"
  | _ => .object "java/lang/Object"
abbrev wsJ00 : List Cond := u_ws RJ0 TJ0 5
theorem nmJ0 : ∀ a, a < 5 → ∀ b, b < 5 → a ≠ b → (TJ0 a).2.1 ≠ (TJ0 b).2.1 := by decide +kernel
theorem tyJ0_ok : ∀ k, k < 5 → parseFieldDescriptor (TJ0 k).2.2.1 = some (tyJ0 k) := by decide +kernel
abbrev cJ0_init : ByteArray := prog_55_method_1_code
def yJ0_init : MethodName := ⟨RJ0, "<init>", "()V"⟩
def dkwJ0_init_1 : List UInt8 := [182, 0, 27, 87, 177]
abbrev dktJ0_init_1 : List UInt8 := dkwJ0_init_1 ++ []
def dkwJ0_init_0 : List UInt8 := [42, 183, 0, 1, 42, 42, 181, 0, 7, 42, 178, 0, 13, 181, 0, 17, 42, 178, 0, 20, 181, 0, 24, 42]
abbrev dktJ0_init_0 : List UInt8 := dkwJ0_init_0 ++ dktJ0_init_1
theorem dksJ0_init_0 : cJ0_init.data.toList.drop 0 = dktJ0_init_0 := by decide +kernel
theorem dksJ0_init_1 : cJ0_init.data.toList.drop 24 = dktJ0_init_1 := dk_seg dksJ0_init_0 24 rfl rfl
theorem dJ0_init_0 : decode cJ0_init 0 = .ok (.aload_n 0, 1) := dk_42 (dk_at dksJ0_init_0 0 rfl rfl)
theorem dJ0_init_1 : decode cJ0_init 1 = .ok (.invokespecial 1, 3) := dk_183 0 1 (dk_at dksJ0_init_0 1 rfl rfl)
theorem dJ0_init_4 : decode cJ0_init 4 = .ok (.aload_n 0, 1) := dk_42 (dk_at dksJ0_init_0 4 rfl rfl)
theorem dJ0_init_5 : decode cJ0_init 5 = .ok (.aload_n 0, 1) := dk_42 (dk_at dksJ0_init_0 5 rfl rfl)
theorem dJ0_init_6 : decode cJ0_init 6 = .ok (.putfield 7, 3) := dk_181 0 7 (dk_at dksJ0_init_0 6 rfl rfl)
theorem dJ0_init_9 : decode cJ0_init 9 = .ok (.aload_n 0, 1) := dk_42 (dk_at dksJ0_init_0 9 rfl rfl)
theorem dJ0_init_10 : decode cJ0_init 10 = .ok (.getstatic 13, 3) := dk_178 0 13 (dk_at dksJ0_init_0 10 rfl rfl)
theorem dJ0_init_13 : decode cJ0_init 13 = .ok (.putfield 17, 3) := dk_181 0 17 (dk_at dksJ0_init_0 13 rfl rfl)
theorem dJ0_init_16 : decode cJ0_init 16 = .ok (.aload_n 0, 1) := dk_42 (dk_at dksJ0_init_0 16 rfl rfl)
theorem dJ0_init_17 : decode cJ0_init 17 = .ok (.getstatic 20, 3) := dk_178 0 20 (dk_at dksJ0_init_0 17 rfl rfl)
theorem dJ0_init_20 : decode cJ0_init 20 = .ok (.putfield 24, 3) := dk_181 0 24 (dk_at dksJ0_init_0 20 rfl rfl)
theorem dJ0_init_23 : decode cJ0_init 23 = .ok (.aload_n 0, 1) := dk_42 (dk_at dksJ0_init_0 23 rfl rfl)
theorem dJ0_init_24 : decode cJ0_init 24 = .ok (.invokevirtual 27, 3) := dk_182 0 27 (dk_at dksJ0_init_1 0 rfl rfl)
theorem dJ0_init_27 : decode cJ0_init 27 = .ok (.pop, 1) := dk_87 (dk_at dksJ0_init_1 3 rfl rfl)
theorem dJ0_init_28 : decode cJ0_init 28 = .ok (.return_, 1) := dk_177 (dk_at dksJ0_init_1 4 rfl rfl)
abbrev cJ0_init_2 : ByteArray := prog_55_method_5_code
def yJ0_init_2 : MethodName := ⟨RJ0, "<init>", "(Ljava/lang/String;Ljava/lang/Throwable;ZZ)V"⟩
def dkwJ0_init_2_2 : List UInt8 := [44, 181, 0, 7, 29, 154, 0, 8, 42, 1, 181, 0, 24, 177]
abbrev dktJ0_init_2_2 : List UInt8 := dkwJ0_init_2_2 ++ []
def dkwJ0_init_2_1 : List UInt8 := [21, 4, 153, 0, 11, 42, 182, 0, 27, 87, 167, 0, 8, 42, 1, 181, 0, 17, 42, 43, 181, 0, 31, 42]
abbrev dktJ0_init_2_1 : List UInt8 := dkwJ0_init_2_1 ++ dktJ0_init_2_2
def dkwJ0_init_2_0 : List UInt8 := [42, 183, 0, 1, 42, 42, 181, 0, 7, 42, 178, 0, 13, 181, 0, 17, 42, 178, 0, 20, 181, 0, 24]
abbrev dktJ0_init_2_0 : List UInt8 := dkwJ0_init_2_0 ++ dktJ0_init_2_1
theorem dksJ0_init_2_0 : cJ0_init_2.data.toList.drop 0 = dktJ0_init_2_0 := by decide +kernel
theorem dksJ0_init_2_1 : cJ0_init_2.data.toList.drop 23 = dktJ0_init_2_1 := dk_seg dksJ0_init_2_0 23 rfl rfl
theorem dksJ0_init_2_2 : cJ0_init_2.data.toList.drop 47 = dktJ0_init_2_2 := dk_seg dksJ0_init_2_1 24 rfl rfl
theorem dJ0_init_2_0 : decode cJ0_init_2 0 = .ok (.aload_n 0, 1) := dk_42 (dk_at dksJ0_init_2_0 0 rfl rfl)
theorem dJ0_init_2_1 : decode cJ0_init_2 1 = .ok (.invokespecial 1, 3) := dk_183 0 1 (dk_at dksJ0_init_2_0 1 rfl rfl)
theorem dJ0_init_2_4 : decode cJ0_init_2 4 = .ok (.aload_n 0, 1) := dk_42 (dk_at dksJ0_init_2_0 4 rfl rfl)
theorem dJ0_init_2_5 : decode cJ0_init_2 5 = .ok (.aload_n 0, 1) := dk_42 (dk_at dksJ0_init_2_0 5 rfl rfl)
theorem dJ0_init_2_6 : decode cJ0_init_2 6 = .ok (.putfield 7, 3) := dk_181 0 7 (dk_at dksJ0_init_2_0 6 rfl rfl)
theorem dJ0_init_2_9 : decode cJ0_init_2 9 = .ok (.aload_n 0, 1) := dk_42 (dk_at dksJ0_init_2_0 9 rfl rfl)
theorem dJ0_init_2_10 : decode cJ0_init_2 10 = .ok (.getstatic 13, 3) := dk_178 0 13 (dk_at dksJ0_init_2_0 10 rfl rfl)
theorem dJ0_init_2_13 : decode cJ0_init_2 13 = .ok (.putfield 17, 3) := dk_181 0 17 (dk_at dksJ0_init_2_0 13 rfl rfl)
theorem dJ0_init_2_16 : decode cJ0_init_2 16 = .ok (.aload_n 0, 1) := dk_42 (dk_at dksJ0_init_2_0 16 rfl rfl)
theorem dJ0_init_2_17 : decode cJ0_init_2 17 = .ok (.getstatic 20, 3) := dk_178 0 20 (dk_at dksJ0_init_2_0 17 rfl rfl)
theorem dJ0_init_2_20 : decode cJ0_init_2 20 = .ok (.putfield 24, 3) := dk_181 0 24 (dk_at dksJ0_init_2_0 20 rfl rfl)
theorem dJ0_init_2_23 : decode cJ0_init_2 23 = .ok (.iload 4, 2) := dk_21 4 (dk_at dksJ0_init_2_1 0 rfl rfl)
theorem dJ0_init_2_25 : decode cJ0_init_2 25 = .ok (.ifCond .eq 11, 3) := dk_153 0 11 (dk_at dksJ0_init_2_1 2 rfl rfl)
theorem dJ0_init_2_28 : decode cJ0_init_2 28 = .ok (.aload_n 0, 1) := dk_42 (dk_at dksJ0_init_2_1 5 rfl rfl)
theorem dJ0_init_2_29 : decode cJ0_init_2 29 = .ok (.invokevirtual 27, 3) := dk_182 0 27 (dk_at dksJ0_init_2_1 6 rfl rfl)
theorem dJ0_init_2_32 : decode cJ0_init_2 32 = .ok (.pop, 1) := dk_87 (dk_at dksJ0_init_2_1 9 rfl rfl)
theorem dJ0_init_2_33 : decode cJ0_init_2 33 = .ok (.goto 8, 3) := dk_167 0 8 (dk_at dksJ0_init_2_1 10 rfl rfl)
theorem dJ0_init_2_36 : decode cJ0_init_2 36 = .ok (.aload_n 0, 1) := dk_42 (dk_at dksJ0_init_2_1 13 rfl rfl)
theorem dJ0_init_2_37 : decode cJ0_init_2 37 = .ok (.aconst_null, 1) := dk_1 (dk_at dksJ0_init_2_1 14 rfl rfl)
theorem dJ0_init_2_38 : decode cJ0_init_2 38 = .ok (.putfield 17, 3) := dk_181 0 17 (dk_at dksJ0_init_2_1 15 rfl rfl)
theorem dJ0_init_2_41 : decode cJ0_init_2 41 = .ok (.aload_n 0, 1) := dk_42 (dk_at dksJ0_init_2_1 18 rfl rfl)
theorem dJ0_init_2_42 : decode cJ0_init_2 42 = .ok (.aload_n 1, 1) := dk_43 (dk_at dksJ0_init_2_1 19 rfl rfl)
theorem dJ0_init_2_43 : decode cJ0_init_2 43 = .ok (.putfield 31, 3) := dk_181 0 31 (dk_at dksJ0_init_2_1 20 rfl rfl)
theorem dJ0_init_2_46 : decode cJ0_init_2 46 = .ok (.aload_n 0, 1) := dk_42 (dk_at dksJ0_init_2_1 23 rfl rfl)
theorem dJ0_init_2_47 : decode cJ0_init_2 47 = .ok (.aload_n 2, 1) := dk_44 (dk_at dksJ0_init_2_2 0 rfl rfl)
theorem dJ0_init_2_48 : decode cJ0_init_2 48 = .ok (.putfield 7, 3) := dk_181 0 7 (dk_at dksJ0_init_2_2 1 rfl rfl)
theorem dJ0_init_2_51 : decode cJ0_init_2 51 = .ok (.iload_n 3, 1) := dk_29 (dk_at dksJ0_init_2_2 4 rfl rfl)
theorem dJ0_init_2_52 : decode cJ0_init_2 52 = .ok (.ifCond .ne 8, 3) := dk_154 0 8 (dk_at dksJ0_init_2_2 5 rfl rfl)
theorem dJ0_init_2_55 : decode cJ0_init_2 55 = .ok (.aload_n 0, 1) := dk_42 (dk_at dksJ0_init_2_2 8 rfl rfl)
theorem dJ0_init_2_56 : decode cJ0_init_2 56 = .ok (.aconst_null, 1) := dk_1 (dk_at dksJ0_init_2_2 9 rfl rfl)
theorem dJ0_init_2_57 : decode cJ0_init_2 57 = .ok (.putfield 24, 3) := dk_181 0 24 (dk_at dksJ0_init_2_2 10 rfl rfl)
theorem dJ0_init_2_60 : decode cJ0_init_2 60 = .ok (.return_, 1) := dk_177 (dk_at dksJ0_init_2_2 13 rfl rfl)
abbrev cJ0_init_3 : ByteArray := prog_55_method_2_code
def yJ0_init_3 : MethodName := ⟨RJ0, "<init>", "(Ljava/lang/String;)V"⟩
def dkwJ0_init_3_1 : List UInt8 := [182, 0, 27, 87, 42, 43, 181, 0, 31, 177]
abbrev dktJ0_init_3_1 : List UInt8 := dkwJ0_init_3_1 ++ []
def dkwJ0_init_3_0 : List UInt8 := [42, 183, 0, 1, 42, 42, 181, 0, 7, 42, 178, 0, 13, 181, 0, 17, 42, 178, 0, 20, 181, 0, 24, 42]
abbrev dktJ0_init_3_0 : List UInt8 := dkwJ0_init_3_0 ++ dktJ0_init_3_1
theorem dksJ0_init_3_0 : cJ0_init_3.data.toList.drop 0 = dktJ0_init_3_0 := by decide +kernel
theorem dksJ0_init_3_1 : cJ0_init_3.data.toList.drop 24 = dktJ0_init_3_1 := dk_seg dksJ0_init_3_0 24 rfl rfl
theorem dJ0_init_3_0 : decode cJ0_init_3 0 = .ok (.aload_n 0, 1) := dk_42 (dk_at dksJ0_init_3_0 0 rfl rfl)
theorem dJ0_init_3_1 : decode cJ0_init_3 1 = .ok (.invokespecial 1, 3) := dk_183 0 1 (dk_at dksJ0_init_3_0 1 rfl rfl)
theorem dJ0_init_3_4 : decode cJ0_init_3 4 = .ok (.aload_n 0, 1) := dk_42 (dk_at dksJ0_init_3_0 4 rfl rfl)
theorem dJ0_init_3_5 : decode cJ0_init_3 5 = .ok (.aload_n 0, 1) := dk_42 (dk_at dksJ0_init_3_0 5 rfl rfl)
theorem dJ0_init_3_6 : decode cJ0_init_3 6 = .ok (.putfield 7, 3) := dk_181 0 7 (dk_at dksJ0_init_3_0 6 rfl rfl)
theorem dJ0_init_3_9 : decode cJ0_init_3 9 = .ok (.aload_n 0, 1) := dk_42 (dk_at dksJ0_init_3_0 9 rfl rfl)
theorem dJ0_init_3_10 : decode cJ0_init_3 10 = .ok (.getstatic 13, 3) := dk_178 0 13 (dk_at dksJ0_init_3_0 10 rfl rfl)
theorem dJ0_init_3_13 : decode cJ0_init_3 13 = .ok (.putfield 17, 3) := dk_181 0 17 (dk_at dksJ0_init_3_0 13 rfl rfl)
theorem dJ0_init_3_16 : decode cJ0_init_3 16 = .ok (.aload_n 0, 1) := dk_42 (dk_at dksJ0_init_3_0 16 rfl rfl)
theorem dJ0_init_3_17 : decode cJ0_init_3 17 = .ok (.getstatic 20, 3) := dk_178 0 20 (dk_at dksJ0_init_3_0 17 rfl rfl)
theorem dJ0_init_3_20 : decode cJ0_init_3 20 = .ok (.putfield 24, 3) := dk_181 0 24 (dk_at dksJ0_init_3_0 20 rfl rfl)
theorem dJ0_init_3_23 : decode cJ0_init_3 23 = .ok (.aload_n 0, 1) := dk_42 (dk_at dksJ0_init_3_0 23 rfl rfl)
theorem dJ0_init_3_24 : decode cJ0_init_3 24 = .ok (.invokevirtual 27, 3) := dk_182 0 27 (dk_at dksJ0_init_3_1 0 rfl rfl)
theorem dJ0_init_3_27 : decode cJ0_init_3 27 = .ok (.pop, 1) := dk_87 (dk_at dksJ0_init_3_1 3 rfl rfl)
theorem dJ0_init_3_28 : decode cJ0_init_3 28 = .ok (.aload_n 0, 1) := dk_42 (dk_at dksJ0_init_3_1 4 rfl rfl)
theorem dJ0_init_3_29 : decode cJ0_init_3 29 = .ok (.aload_n 1, 1) := dk_43 (dk_at dksJ0_init_3_1 5 rfl rfl)
theorem dJ0_init_3_30 : decode cJ0_init_3 30 = .ok (.putfield 31, 3) := dk_181 0 31 (dk_at dksJ0_init_3_1 6 rfl rfl)
theorem dJ0_init_3_33 : decode cJ0_init_3 33 = .ok (.return_, 1) := dk_177 (dk_at dksJ0_init_3_1 9 rfl rfl)
theorem q146 : (Jvm.Cond.initialized "java/lang/Throwable") ∈ lw_all := lw_g (lw_at lw_m1 2 rfl) rfl
theorem q216 : (Jvm.Cond.declares ({ cls := "java/lang/Throwable", name := "<init>", desc := "()V" } : Jvm.MethodName)) ∈ lw_tbl := lw_at lw_m1 72 rfl
theorem q217 : (Jvm.Cond.declares ({ cls := "java/lang/Throwable", name := "<init>", desc := "(Ljava/lang/String;)V" } : Jvm.MethodName)) ∈ lw_tbl := lw_at lw_m1 73 rfl
theorem q221 : (Jvm.Cond.lays "java/lang/Throwable" "java/lang/Throwable" "cause" "Ljava/lang/Throwable;") ∈ lw_all := lw_g (lw_at lw_m1 77 rfl) rfl
theorem q223 : (Jvm.Cond.lays "java/lang/Throwable" "java/lang/Throwable" "stackTrace" "[Ljava/lang/StackTraceElement;") ∈ lw_all := lw_g (lw_at lw_m1 79 rfl) rfl
theorem q225 : (Jvm.Cond.lays "java/lang/Throwable" "java/lang/Throwable" "suppressedExceptions" "Ljava/util/List;") ∈ lw_all := lw_g (lw_at lw_m1 81 rfl) rfl
theorem q227 : (Jvm.Cond.lays "java/lang/Throwable" "java/lang/Throwable" "detailMessage" "Ljava/lang/String;") ∈ lw_all := lw_g (lw_at lw_m1 83 rfl) rfl
theorem q229 : (Jvm.Cond.lays "java/lang/Throwable" "java/lang/Throwable" "backtrace" "Ljava/lang/Object;") ∈ lw_all := lw_g (lw_at lw_m1 85 rfl) rfl
theorem q230 : (Jvm.Cond.fieldLink "java/lang/Throwable" (198 : Nat) "java/lang/Throwable" "backtrace" "Ljava/lang/Object;") ∈ lw_all := lw_g (lw_at lw_m1 86 rfl) rfl
theorem q231 : (Jvm.Cond.superclass "java/lang/Throwable" "java/lang/Object") ∈ lw_all := lw_g (lw_at lw_m1 87 rfl) rfl
theorem q232 : (Jvm.Cond.instanceMethod ({ cls := "java/lang/Throwable", name := "<init>", desc := "()V" } : Jvm.MethodName)) ∈ lw_all := lw_g (lw_at lw_m1 88 rfl) rfl
theorem q233 : (Jvm.Cond.code ({ cls := "java/lang/Throwable", name := "<init>", desc := "()V" } : Jvm.MethodName) prog_55_method_1_code (1 : Nat) (Option.none : Option Jvm.ClassFile.FieldType)) ∈ lw_all := lw_g (lw_at lw_m1 89 rfl) rfl
theorem q234 : (Jvm.Cond.methodLink "java/lang/Throwable" (1 : Nat) ({ cls := "java/lang/Object", name := "<init>", desc := "()V" } : Jvm.MethodName)) ∈ lw_all := lw_g (lw_at lw_m1 90 rfl) rfl
theorem q235 : (Jvm.Cond.fieldLink "java/lang/Throwable" (13 : Nat) "java/lang/Throwable" "UNASSIGNED_STACK" "[Ljava/lang/StackTraceElement;") ∈ lw_all := lw_g (lw_at lw_m1 91 rfl) rfl
theorem q236 : (Jvm.Cond.laysStatic "java/lang/Throwable" "UNASSIGNED_STACK" "[Ljava/lang/StackTraceElement;") ∈ lw_tbl := lw_at lw_m1 92 rfl
theorem q237 : (Jvm.Cond.fieldLink "java/lang/Throwable" (20 : Nat) "java/lang/Throwable" "SUPPRESSED_SENTINEL" "Ljava/util/List;") ∈ lw_all := lw_g (lw_at lw_m1 93 rfl) rfl
theorem q238 : (Jvm.Cond.laysStatic "java/lang/Throwable" "SUPPRESSED_SENTINEL" "Ljava/util/List;") ∈ lw_tbl := lw_at lw_m1 94 rfl
theorem q239 : (Jvm.Cond.methodLink "java/lang/Throwable" (27 : Nat) ({ cls := "java/lang/Throwable", name := "fillInStackTrace", desc := "()Ljava/lang/Throwable;" } : Jvm.MethodName)) ∈ lw_all := lw_g (lw_at lw_m1 95 rfl) rfl
theorem q240 : (Jvm.Cond.instanceMethod ({ cls := "java/lang/Throwable", name := "fillInStackTrace", desc := "()Ljava/lang/Throwable;" } : Jvm.MethodName)) ∈ lw_all := lw_g (lw_at lw_m1 96 rfl) rfl
theorem q241 : (Jvm.Cond.sameMethod "java/lang/Throwable" "java/lang/Throwable" "fillInStackTrace" "()Ljava/lang/Throwable;") ∈ lw_all := lw_g (lw_at lw_m1 97 rfl) rfl
theorem q256 : (Jvm.Cond.declares ({ cls := "java/lang/Throwable", name := "fillInStackTrace", desc := "()Ljava/lang/Throwable;" } : Jvm.MethodName)) ∈ lw_tbl := lw_at lw_m1 112 rfl
theorem q260 : (Jvm.Cond.codeSync ({ cls := "java/lang/Throwable", name := "fillInStackTrace", desc := "()Ljava/lang/Throwable;" } : Jvm.MethodName) prog_55_method_18_code (1 : Nat) (Option.some (Jvm.ClassFile.FieldType.object "java/lang/Throwable"))) ∈ lw_all := lw_g (lw_at lw_m1 116 rfl) rfl
theorem q261 : (Jvm.Cond.methodLink "java/lang/Throwable" (202 : Nat) ({ cls := "java/lang/Throwable", name := "fillInStackTrace", desc := "(I)Ljava/lang/Throwable;" } : Jvm.MethodName)) ∈ lw_all := lw_g (lw_at lw_m1 117 rfl) rfl
theorem q262 : (Jvm.Cond.privateMethod ({ cls := "java/lang/Throwable", name := "fillInStackTrace", desc := "(I)Ljava/lang/Throwable;" } : Jvm.MethodName)) ∈ lw_tbl := lw_at lw_m1 118 rfl
theorem q263 : (Jvm.Cond.instanceMethod ({ cls := "java/lang/Throwable", name := "fillInStackTrace", desc := "(I)Ljava/lang/Throwable;" } : Jvm.MethodName)) ∈ lw_all := lw_g (lw_at lw_m1 119 rfl) rfl
theorem q264 : (Jvm.Cond.instantiable "java/lang/Throwable" (6 : Nat)) ∈ lw_all := lw_g (lw_at lw_m1 120 rfl) rfl
theorem q265 : (Jvm.Cond.native ({ cls := "java/lang/Throwable", name := "fillInStackTrace", desc := "(I)Ljava/lang/Throwable;" } : Jvm.MethodName)) ∈ lw_all := lw_g (lw_at lw_m1 121 rfl) rfl
theorem q273 : (Jvm.Cond.instanceMethod ({ cls := "java/lang/Throwable", name := "<init>", desc := "(Ljava/lang/String;Ljava/lang/Throwable;ZZ)V" } : Jvm.MethodName)) ∈ lw_all := lw_g (lw_at lw_m1 129 rfl) rfl
theorem q274 : (Jvm.Cond.code ({ cls := "java/lang/Throwable", name := "<init>", desc := "(Ljava/lang/String;Ljava/lang/Throwable;ZZ)V" } : Jvm.MethodName) prog_55_method_5_code (5 : Nat) (Option.none : Option Jvm.ClassFile.FieldType)) ∈ lw_all := lw_g (lw_at lw_m1 130 rfl) rfl
theorem q275 : (Jvm.Cond.fieldLink "java/lang/Throwable" (198 : Nat) "java/lang/Throwable" "backtrace" "Ljava/lang/Object;") ∈ lw_all := lw_g (lw_at lw_m1 131 rfl) rfl
theorem q276 : (Jvm.Cond.fieldLink "java/lang/Throwable" (31 : Nat) "java/lang/Throwable" "detailMessage" "Ljava/lang/String;") ∈ lw_all := lw_g (lw_at lw_m1 132 rfl) rfl
theorem q277 : (Jvm.Cond.fieldLink "java/lang/Throwable" (7 : Nat) "java/lang/Throwable" "cause" "Ljava/lang/Throwable;") ∈ lw_all := lw_g (lw_at lw_m1 133 rfl) rfl
theorem q278 : (Jvm.Cond.fieldLink "java/lang/Throwable" (17 : Nat) "java/lang/Throwable" "stackTrace" "[Ljava/lang/StackTraceElement;") ∈ lw_all := lw_g (lw_at lw_m1 134 rfl) rfl
theorem q279 : (Jvm.Cond.fieldLink "java/lang/Throwable" (24 : Nat) "java/lang/Throwable" "suppressedExceptions" "Ljava/util/List;") ∈ lw_all := lw_g (lw_at lw_m1 135 rfl) rfl
theorem q280 : (Jvm.Cond.soleField "java/lang/Throwable" "backtrace") ∈ lw_all := lw_g (lw_at lw_m1 136 rfl) rfl
theorem q281 : (Jvm.Cond.soleField "java/lang/Throwable" "detailMessage") ∈ lw_all := lw_g (lw_at lw_m1 137 rfl) rfl
theorem q282 : (Jvm.Cond.soleField "java/lang/Throwable" "cause") ∈ lw_all := lw_g (lw_at lw_m1 138 rfl) rfl
theorem q283 : (Jvm.Cond.soleField "java/lang/Throwable" "stackTrace") ∈ lw_all := lw_g (lw_at lw_m1 139 rfl) rfl
theorem q285 : (Jvm.Cond.soleField "java/lang/Throwable" "depth") ∈ lw_all := lw_g (lw_at lw_m1 141 rfl) rfl
theorem q286 : (Jvm.Cond.soleField "java/lang/Throwable" "suppressedExceptions") ∈ lw_all := lw_g (lw_at lw_m1 142 rfl) rfl
theorem q2291 : (Jvm.Cond.instanceMethod ({ cls := "java/lang/Throwable", name := "<init>", desc := "(Ljava/lang/String;)V" } : Jvm.MethodName)) ∈ lw_all := lw_g (lw_at lw_m9 227 rfl) rfl
theorem q2292 : (Jvm.Cond.code ({ cls := "java/lang/Throwable", name := "<init>", desc := "(Ljava/lang/String;)V" } : Jvm.MethodName) prog_55_method_2_code (2 : Nat) (Option.none : Option Jvm.ClassFile.FieldType)) ∈ lw_all := lw_g (lw_at lw_m9 228 rfl) rfl
theorem q3110 : (Jvm.Cond.sameMethod "java/lang/Throwable" "java/lang/Throwable" "fillInStackTrace" "(I)Ljava/lang/Throwable;") ∈ lw_all := lw_g (lw_at lw_m13 86 rfl) rfl
theorem q3164 : (Jvm.Cond.castable "java/lang/Throwable" "java/lang/Object") ∈ lw_tbl := lw_at lw_m13 140 rfl
theorem in_J0 : ∀ w ∈ wsJ00, w ∈ lw_all := lw_in wsJ00 [221, 223, 225, 227, 229] (by decide +kernel) (by decide +kernel)
/-! java/lang/Exception -/
set_option maxRecDepth 100000
def RJ1 : String := "java/lang/Exception"
abbrev cJ1_init : ByteArray := prog_44_method_5_code
def yJ1_init : MethodName := ⟨RJ1, "<init>", "(Ljava/lang/String;Ljava/lang/Throwable;ZZ)V"⟩
def dkwJ1_init_0 : List UInt8 := [42, 43, 44, 29, 21, 4, 183, 0, 16, 177]
abbrev dktJ1_init_0 : List UInt8 := dkwJ1_init_0 ++ []
theorem dksJ1_init_0 : cJ1_init.data.toList.drop 0 = dktJ1_init_0 := by decide +kernel
theorem dJ1_init_0 : decode cJ1_init 0 = .ok (.aload_n 0, 1) := dk_42 (dk_at dksJ1_init_0 0 rfl rfl)
theorem dJ1_init_1 : decode cJ1_init 1 = .ok (.aload_n 1, 1) := dk_43 (dk_at dksJ1_init_0 1 rfl rfl)
theorem dJ1_init_2 : decode cJ1_init 2 = .ok (.aload_n 2, 1) := dk_44 (dk_at dksJ1_init_0 2 rfl rfl)
theorem dJ1_init_3 : decode cJ1_init 3 = .ok (.iload_n 3, 1) := dk_29 (dk_at dksJ1_init_0 3 rfl rfl)
theorem dJ1_init_4 : decode cJ1_init 4 = .ok (.iload 4, 2) := dk_21 4 (dk_at dksJ1_init_0 4 rfl rfl)
theorem dJ1_init_6 : decode cJ1_init 6 = .ok (.invokespecial 16, 3) := dk_183 0 16 (dk_at dksJ1_init_0 6 rfl rfl)
theorem dJ1_init_9 : decode cJ1_init 9 = .ok (.return_, 1) := dk_177 (dk_at dksJ1_init_0 9 rfl rfl)
abbrev cJ1_init_2 : ByteArray := prog_44_method_2_code
def yJ1_init_2 : MethodName := ⟨RJ1, "<init>", "(Ljava/lang/String;)V"⟩
def dkwJ1_init_2_0 : List UInt8 := [42, 43, 183, 0, 7, 177]
abbrev dktJ1_init_2_0 : List UInt8 := dkwJ1_init_2_0 ++ []
theorem dksJ1_init_2_0 : cJ1_init_2.data.toList.drop 0 = dktJ1_init_2_0 := by decide +kernel
theorem dJ1_init_2_0 : decode cJ1_init_2 0 = .ok (.aload_n 0, 1) := dk_42 (dk_at dksJ1_init_2_0 0 rfl rfl)
theorem dJ1_init_2_1 : decode cJ1_init_2 1 = .ok (.aload_n 1, 1) := dk_43 (dk_at dksJ1_init_2_0 1 rfl rfl)
theorem dJ1_init_2_2 : decode cJ1_init_2 2 = .ok (.invokespecial 7, 3) := dk_183 0 7 (dk_at dksJ1_init_2_0 2 rfl rfl)
theorem dJ1_init_2_5 : decode cJ1_init_2 5 = .ok (.return_, 1) := dk_177 (dk_at dksJ1_init_2_0 5 rfl rfl)
abbrev cJ1_init_3 : ByteArray := prog_44_method_1_code
def yJ1_init_3 : MethodName := ⟨RJ1, "<init>", "()V"⟩
theorem dJ1_init_3_0 : decode cJ1_init_3 0 = .ok (.aload_n 0, 1) := by decide +kernel
theorem dJ1_init_3_1 : decode cJ1_init_3 1 = .ok (.invokespecial 1, 3) := by decide +kernel
theorem dJ1_init_3_4 : decode cJ1_init_3 4 = .ok (.return_, 1) := by decide +kernel
theorem q147 : (Jvm.Cond.initialized "java/lang/Exception") ∈ lw_all := lw_g (lw_at lw_m1 3 rfl) rfl
theorem q214 : (Jvm.Cond.declares ({ cls := "java/lang/Exception", name := "<init>", desc := "()V" } : Jvm.MethodName)) ∈ lw_tbl := lw_at lw_m1 70 rfl
theorem q215 : (Jvm.Cond.declares ({ cls := "java/lang/Exception", name := "<init>", desc := "(Ljava/lang/String;)V" } : Jvm.MethodName)) ∈ lw_tbl := lw_at lw_m1 71 rfl
theorem q259 : (Jvm.Cond.superclass "java/lang/Exception" "java/lang/Throwable") ∈ lw_all := lw_g (lw_at lw_m1 115 rfl) rfl
theorem q270 : (Jvm.Cond.instanceMethod ({ cls := "java/lang/Exception", name := "<init>", desc := "(Ljava/lang/String;Ljava/lang/Throwable;ZZ)V" } : Jvm.MethodName)) ∈ lw_all := lw_g (lw_at lw_m1 126 rfl) rfl
theorem q271 : (Jvm.Cond.code ({ cls := "java/lang/Exception", name := "<init>", desc := "(Ljava/lang/String;Ljava/lang/Throwable;ZZ)V" } : Jvm.MethodName) prog_44_method_5_code (5 : Nat) (Option.none : Option Jvm.ClassFile.FieldType)) ∈ lw_all := lw_g (lw_at lw_m1 127 rfl) rfl
theorem q272 : (Jvm.Cond.methodLink "java/lang/Exception" (16 : Nat) ({ cls := "java/lang/Throwable", name := "<init>", desc := "(Ljava/lang/String;Ljava/lang/Throwable;ZZ)V" } : Jvm.MethodName)) ∈ lw_all := lw_g (lw_at lw_m1 128 rfl) rfl
theorem q2288 : (Jvm.Cond.instanceMethod ({ cls := "java/lang/Exception", name := "<init>", desc := "(Ljava/lang/String;)V" } : Jvm.MethodName)) ∈ lw_all := lw_g (lw_at lw_m9 224 rfl) rfl
theorem q2289 : (Jvm.Cond.code ({ cls := "java/lang/Exception", name := "<init>", desc := "(Ljava/lang/String;)V" } : Jvm.MethodName) prog_44_method_2_code (2 : Nat) (Option.none : Option Jvm.ClassFile.FieldType)) ∈ lw_all := lw_g (lw_at lw_m9 225 rfl) rfl
theorem q2290 : (Jvm.Cond.methodLink "java/lang/Exception" (7 : Nat) ({ cls := "java/lang/Throwable", name := "<init>", desc := "(Ljava/lang/String;)V" } : Jvm.MethodName)) ∈ lw_all := lw_g (lw_at lw_m9 226 rfl) rfl
theorem q2332 : (Jvm.Cond.instanceMethod ({ cls := "java/lang/Exception", name := "<init>", desc := "()V" } : Jvm.MethodName)) ∈ lw_all := lw_g (lw_at lw_m10 28 rfl) rfl
theorem q2333 : (Jvm.Cond.code ({ cls := "java/lang/Exception", name := "<init>", desc := "()V" } : Jvm.MethodName) prog_44_method_1_code (1 : Nat) (Option.none : Option Jvm.ClassFile.FieldType)) ∈ lw_all := lw_g (lw_at lw_m10 29 rfl) rfl
theorem q2334 : (Jvm.Cond.methodLink "java/lang/Exception" (1 : Nat) ({ cls := "java/lang/Throwable", name := "<init>", desc := "()V" } : Jvm.MethodName)) ∈ lw_all := lw_g (lw_at lw_m10 30 rfl) rfl
/-! java/lang/Math -/
set_option maxRecDepth 100000
def RJ10 : String := "java/lang/Math"
abbrev cJ10_max : ByteArray := prog_47_method_65_code
def yJ10_max : MethodName := ⟨RJ10, "max", "(II)I"⟩
def dkwJ10_max_0 : List UInt8 := [26, 27, 161, 0, 7, 26, 167, 0, 4, 27, 172]
abbrev dktJ10_max_0 : List UInt8 := dkwJ10_max_0 ++ []
theorem dksJ10_max_0 : cJ10_max.data.toList.drop 0 = dktJ10_max_0 := by decide +kernel
theorem dJ10_max_0 : decode cJ10_max 0 = .ok (.iload_n 0, 1) := dk_26 (dk_at dksJ10_max_0 0 rfl rfl)
theorem dJ10_max_1 : decode cJ10_max 1 = .ok (.iload_n 1, 1) := dk_27 (dk_at dksJ10_max_0 1 rfl rfl)
theorem dJ10_max_2 : decode cJ10_max 2 = .ok (.if_icmp .lt 7, 3) := dk_161 0 7 (dk_at dksJ10_max_0 2 rfl rfl)
theorem dJ10_max_5 : decode cJ10_max 5 = .ok (.iload_n 0, 1) := dk_26 (dk_at dksJ10_max_0 5 rfl rfl)
theorem dJ10_max_6 : decode cJ10_max 6 = .ok (.goto 4, 3) := dk_167 0 4 (dk_at dksJ10_max_0 6 rfl rfl)
theorem dJ10_max_9 : decode cJ10_max 9 = .ok (.iload_n 1, 1) := dk_27 (dk_at dksJ10_max_0 9 rfl rfl)
theorem dJ10_max_10 : decode cJ10_max 10 = .ok (.ireturn, 1) := dk_172 (dk_at dksJ10_max_0 10 rfl rfl)
abbrev cJ10_min : ByteArray := prog_47_method_69_code
def yJ10_min : MethodName := ⟨RJ10, "min", "(II)I"⟩
def dkwJ10_min_0 : List UInt8 := [26, 27, 163, 0, 7, 26, 167, 0, 4, 27, 172]
abbrev dktJ10_min_0 : List UInt8 := dkwJ10_min_0 ++ []
theorem dksJ10_min_0 : cJ10_min.data.toList.drop 0 = dktJ10_min_0 := by decide +kernel
theorem dJ10_min_0 : decode cJ10_min 0 = .ok (.iload_n 0, 1) := dk_26 (dk_at dksJ10_min_0 0 rfl rfl)
theorem dJ10_min_1 : decode cJ10_min 1 = .ok (.iload_n 1, 1) := dk_27 (dk_at dksJ10_min_0 1 rfl rfl)
theorem dJ10_min_2 : decode cJ10_min 2 = .ok (.if_icmp .gt 7, 3) := dk_163 0 7 (dk_at dksJ10_min_0 2 rfl rfl)
theorem dJ10_min_5 : decode cJ10_min 5 = .ok (.iload_n 0, 1) := dk_26 (dk_at dksJ10_min_0 5 rfl rfl)
theorem dJ10_min_6 : decode cJ10_min 6 = .ok (.goto 4, 3) := dk_167 0 4 (dk_at dksJ10_min_0 6 rfl rfl)
theorem dJ10_min_9 : decode cJ10_min 9 = .ok (.iload_n 1, 1) := dk_27 (dk_at dksJ10_min_0 9 rfl rfl)
theorem dJ10_min_10 : decode cJ10_min 10 = .ok (.ireturn, 1) := dk_172 (dk_at dksJ10_min_0 10 rfl rfl)
abbrev cJ10_abs : ByteArray := prog_47_method_59_code
def yJ10_abs : MethodName := ⟨RJ10, "abs", "(I)I"⟩
def dkwJ10_abs_0 : List UInt8 := [26, 156, 0, 8, 26, 116, 167, 0, 4, 26, 172]
abbrev dktJ10_abs_0 : List UInt8 := dkwJ10_abs_0 ++ []
theorem dksJ10_abs_0 : cJ10_abs.data.toList.drop 0 = dktJ10_abs_0 := by decide +kernel
theorem dJ10_abs_0 : decode cJ10_abs 0 = .ok (.iload_n 0, 1) := dk_26 (dk_at dksJ10_abs_0 0 rfl rfl)
theorem dJ10_abs_1 : decode cJ10_abs 1 = .ok (.ifCond .ge 8, 3) := dk_156 0 8 (dk_at dksJ10_abs_0 1 rfl rfl)
theorem dJ10_abs_4 : decode cJ10_abs 4 = .ok (.iload_n 0, 1) := dk_26 (dk_at dksJ10_abs_0 4 rfl rfl)
theorem dJ10_abs_5 : decode cJ10_abs 5 = .ok (.ineg, 1) := dk_116 (dk_at dksJ10_abs_0 5 rfl rfl)
theorem dJ10_abs_6 : decode cJ10_abs 6 = .ok (.goto 4, 3) := dk_167 0 4 (dk_at dksJ10_abs_0 6 rfl rfl)
theorem dJ10_abs_9 : decode cJ10_abs 9 = .ok (.iload_n 0, 1) := dk_26 (dk_at dksJ10_abs_0 9 rfl rfl)
theorem dJ10_abs_10 : decode cJ10_abs 10 = .ok (.ireturn, 1) := dk_172 (dk_at dksJ10_abs_0 10 rfl rfl)
abbrev cJ10_abs_2 : ByteArray := prog_47_method_61_code
def yJ10_abs_2 : MethodName := ⟨RJ10, "abs", "(J)J"⟩
def dkwJ10_abs_2_0 : List UInt8 := [30, 9, 148, 156, 0, 8, 30, 117, 167, 0, 4, 30, 173]
abbrev dktJ10_abs_2_0 : List UInt8 := dkwJ10_abs_2_0 ++ []
theorem dksJ10_abs_2_0 : cJ10_abs_2.data.toList.drop 0 = dktJ10_abs_2_0 := by decide +kernel
theorem dJ10_abs_2_0 : decode cJ10_abs_2 0 = .ok (.lload_n 0, 1) := dk_30 (dk_at dksJ10_abs_2_0 0 rfl rfl)
theorem dJ10_abs_2_1 : decode cJ10_abs_2 1 = .ok (.lconst 0, 1) := dk_9 (dk_at dksJ10_abs_2_0 1 rfl rfl)
theorem dJ10_abs_2_2 : decode cJ10_abs_2 2 = .ok (.lcmp, 1) := dk_148 (dk_at dksJ10_abs_2_0 2 rfl rfl)
theorem dJ10_abs_2_3 : decode cJ10_abs_2 3 = .ok (.ifCond .ge 8, 3) := dk_156 0 8 (dk_at dksJ10_abs_2_0 3 rfl rfl)
theorem dJ10_abs_2_6 : decode cJ10_abs_2 6 = .ok (.lload_n 0, 1) := dk_30 (dk_at dksJ10_abs_2_0 6 rfl rfl)
theorem dJ10_abs_2_7 : decode cJ10_abs_2 7 = .ok (.lneg, 1) := dk_117 (dk_at dksJ10_abs_2_0 7 rfl rfl)
theorem dJ10_abs_2_8 : decode cJ10_abs_2 8 = .ok (.goto 4, 3) := dk_167 0 4 (dk_at dksJ10_abs_2_0 8 rfl rfl)
theorem dJ10_abs_2_11 : decode cJ10_abs_2 11 = .ok (.lload_n 0, 1) := dk_30 (dk_at dksJ10_abs_2_0 11 rfl rfl)
theorem dJ10_abs_2_12 : decode cJ10_abs_2 12 = .ok (.lreturn, 1) := dk_173 (dk_at dksJ10_abs_2_0 12 rfl rfl)
theorem q188 : (Jvm.Cond.initialized "java/lang/Math") ∈ lw_all := lw_g (lw_at lw_m1 44 rfl) rfl
theorem q1140 : (Jvm.Cond.static ({ cls := "java/lang/Math", name := "max", desc := "(II)I" } : Jvm.MethodName)) ∈ lw_all := lw_g (lw_at lw_m5 36 rfl) rfl
theorem q1141 : (Jvm.Cond.code ({ cls := "java/lang/Math", name := "max", desc := "(II)I" } : Jvm.MethodName) prog_47_method_65_code (2 : Nat) (Option.some Jvm.ClassFile.FieldType.int)) ∈ lw_all := lw_g (lw_at lw_m5 37 rfl) rfl
theorem q1196 : (Jvm.Cond.static ({ cls := "java/lang/Math", name := "min", desc := "(II)I" } : Jvm.MethodName)) ∈ lw_all := lw_g (lw_at lw_m5 92 rfl) rfl
theorem q1197 : (Jvm.Cond.code ({ cls := "java/lang/Math", name := "min", desc := "(II)I" } : Jvm.MethodName) prog_47_method_69_code (2 : Nat) (Option.some Jvm.ClassFile.FieldType.int)) ∈ lw_all := lw_g (lw_at lw_m5 93 rfl) rfl
theorem q2253 : (Jvm.Cond.static ({ cls := "java/lang/Math", name := "abs", desc := "(I)I" } : Jvm.MethodName)) ∈ lw_all := lw_g (lw_at lw_m9 189 rfl) rfl
theorem q2254 : (Jvm.Cond.code ({ cls := "java/lang/Math", name := "abs", desc := "(I)I" } : Jvm.MethodName) prog_47_method_59_code (1 : Nat) (Option.some Jvm.ClassFile.FieldType.int)) ∈ lw_all := lw_g (lw_at lw_m9 190 rfl) rfl
theorem q2260 : (Jvm.Cond.static ({ cls := "java/lang/Math", name := "abs", desc := "(J)J" } : Jvm.MethodName)) ∈ lw_all := lw_g (lw_at lw_m9 196 rfl) rfl
theorem q2261 : (Jvm.Cond.code ({ cls := "java/lang/Math", name := "abs", desc := "(J)J" } : Jvm.MethodName) prog_47_method_61_code (2 : Nat) (Option.some Jvm.ClassFile.FieldType.long)) ∈ lw_all := lw_g (lw_at lw_m9 197 rfl) rfl
/-! java/util/Arrays -/
set_option maxRecDepth 100000
def RJ11 : String := "java/util/Arrays"
abbrev cJ11_copyOf : ByteArray := prog_59_method_119_code
def yJ11_copyOf : MethodName := ⟨RJ11, "copyOf", "([Ljava/lang/Object;I)[Ljava/lang/Object;"⟩
def dkwJ11_copyOf_0 : List UInt8 := [42, 27, 42, 182, 0, 86, 184, 1, 44, 176]
abbrev dktJ11_copyOf_0 : List UInt8 := dkwJ11_copyOf_0 ++ []
theorem dksJ11_copyOf_0 : cJ11_copyOf.data.toList.drop 0 = dktJ11_copyOf_0 := by decide +kernel
theorem dJ11_copyOf_0 : decode cJ11_copyOf 0 = .ok (.aload_n 0, 1) := dk_42 (dk_at dksJ11_copyOf_0 0 rfl rfl)
theorem dJ11_copyOf_1 : decode cJ11_copyOf 1 = .ok (.iload_n 1, 1) := dk_27 (dk_at dksJ11_copyOf_0 1 rfl rfl)
theorem dJ11_copyOf_2 : decode cJ11_copyOf 2 = .ok (.aload_n 0, 1) := dk_42 (dk_at dksJ11_copyOf_0 2 rfl rfl)
theorem dJ11_copyOf_3 : decode cJ11_copyOf 3 = .ok (.invokevirtual 86, 3) := dk_182 0 86 (dk_at dksJ11_copyOf_0 3 rfl rfl)
theorem dJ11_copyOf_6 : decode cJ11_copyOf 6 = .ok (.invokestatic 300, 3) := dk_184 1 44 (dk_at dksJ11_copyOf_0 6 rfl rfl)
theorem dJ11_copyOf_9 : decode cJ11_copyOf 9 = .ok (.areturn, 1) := dk_176 (dk_at dksJ11_copyOf_0 9 rfl rfl)
abbrev cJ11_copyOf_2 : ByteArray := prog_59_method_120_code
def yJ11_copyOf_2 : MethodName := ⟨RJ11, "copyOf", "([Ljava/lang/Object;ILjava/lang/Class;)[Ljava/lang/Object;"⟩
def dkwJ11_copyOf_2_1 : List UInt8 := [78, 42, 3, 45, 3, 42, 190, 27, 184, 1, 48, 184, 0, 150, 45, 176]
abbrev dktJ11_copyOf_2_1 : List UInt8 := dkwJ11_copyOf_2_1 ++ []
def dkwJ11_copyOf_2_0 : List UInt8 := [44, 18, 110, 166, 0, 10, 27, 189, 0, 2, 167, 0, 14, 44, 182, 0, 90, 27, 184, 0, 95, 192, 0, 110]
abbrev dktJ11_copyOf_2_0 : List UInt8 := dkwJ11_copyOf_2_0 ++ dktJ11_copyOf_2_1
theorem dksJ11_copyOf_2_0 : cJ11_copyOf_2.data.toList.drop 0 = dktJ11_copyOf_2_0 := by decide +kernel
theorem dksJ11_copyOf_2_1 : cJ11_copyOf_2.data.toList.drop 24 = dktJ11_copyOf_2_1 := dk_seg dksJ11_copyOf_2_0 24 rfl rfl
theorem dJ11_copyOf_2_0 : decode cJ11_copyOf_2 0 = .ok (.aload_n 2, 1) := dk_44 (dk_at dksJ11_copyOf_2_0 0 rfl rfl)
theorem dJ11_copyOf_2_1 : decode cJ11_copyOf_2 1 = .ok (.ldc 110, 2) := dk_18 110 (dk_at dksJ11_copyOf_2_0 1 rfl rfl)
theorem dJ11_copyOf_2_3 : decode cJ11_copyOf_2 3 = .ok (.if_acmp .ne 10, 3) := dk_166 0 10 (dk_at dksJ11_copyOf_2_0 3 rfl rfl)
theorem dJ11_copyOf_2_6 : decode cJ11_copyOf_2 6 = .ok (.iload_n 1, 1) := dk_27 (dk_at dksJ11_copyOf_2_0 6 rfl rfl)
theorem dJ11_copyOf_2_7 : decode cJ11_copyOf_2 7 = .ok (.anewarray 2, 3) := dk_189 0 2 (dk_at dksJ11_copyOf_2_0 7 rfl rfl)
theorem dJ11_copyOf_2_10 : decode cJ11_copyOf_2 10 = .ok (.goto 14, 3) := dk_167 0 14 (dk_at dksJ11_copyOf_2_0 10 rfl rfl)
theorem dJ11_copyOf_2_13 : decode cJ11_copyOf_2 13 = .ok (.aload_n 2, 1) := dk_44 (dk_at dksJ11_copyOf_2_0 13 rfl rfl)
theorem dJ11_copyOf_2_14 : decode cJ11_copyOf_2 14 = .ok (.invokevirtual 90, 3) := dk_182 0 90 (dk_at dksJ11_copyOf_2_0 14 rfl rfl)
theorem dJ11_copyOf_2_17 : decode cJ11_copyOf_2 17 = .ok (.iload_n 1, 1) := dk_27 (dk_at dksJ11_copyOf_2_0 17 rfl rfl)
theorem dJ11_copyOf_2_18 : decode cJ11_copyOf_2 18 = .ok (.invokestatic 95, 3) := dk_184 0 95 (dk_at dksJ11_copyOf_2_0 18 rfl rfl)
theorem dJ11_copyOf_2_21 : decode cJ11_copyOf_2 21 = .ok (.checkcast 110, 3) := dk_192 0 110 (dk_at dksJ11_copyOf_2_0 21 rfl rfl)
theorem dJ11_copyOf_2_24 : decode cJ11_copyOf_2 24 = .ok (.astore_n 3, 1) := dk_78 (dk_at dksJ11_copyOf_2_1 0 rfl rfl)
theorem dJ11_copyOf_2_25 : decode cJ11_copyOf_2 25 = .ok (.aload_n 0, 1) := dk_42 (dk_at dksJ11_copyOf_2_1 1 rfl rfl)
theorem dJ11_copyOf_2_26 : decode cJ11_copyOf_2 26 = .ok (.iconst 0, 1) := dk_3 (dk_at dksJ11_copyOf_2_1 2 rfl rfl)
theorem dJ11_copyOf_2_27 : decode cJ11_copyOf_2 27 = .ok (.aload_n 3, 1) := dk_45 (dk_at dksJ11_copyOf_2_1 3 rfl rfl)
theorem dJ11_copyOf_2_28 : decode cJ11_copyOf_2 28 = .ok (.iconst 0, 1) := dk_3 (dk_at dksJ11_copyOf_2_1 4 rfl rfl)
theorem dJ11_copyOf_2_29 : decode cJ11_copyOf_2 29 = .ok (.aload_n 0, 1) := dk_42 (dk_at dksJ11_copyOf_2_1 5 rfl rfl)
theorem dJ11_copyOf_2_30 : decode cJ11_copyOf_2 30 = .ok (.arraylength, 1) := dk_190 (dk_at dksJ11_copyOf_2_1 6 rfl rfl)
theorem dJ11_copyOf_2_31 : decode cJ11_copyOf_2 31 = .ok (.iload_n 1, 1) := dk_27 (dk_at dksJ11_copyOf_2_1 7 rfl rfl)
theorem dJ11_copyOf_2_32 : decode cJ11_copyOf_2 32 = .ok (.invokestatic 304, 3) := dk_184 1 48 (dk_at dksJ11_copyOf_2_1 8 rfl rfl)
theorem dJ11_copyOf_2_35 : decode cJ11_copyOf_2 35 = .ok (.invokestatic 150, 3) := dk_184 0 150 (dk_at dksJ11_copyOf_2_1 11 rfl rfl)
theorem dJ11_copyOf_2_38 : decode cJ11_copyOf_2 38 = .ok (.aload_n 3, 1) := dk_45 (dk_at dksJ11_copyOf_2_1 14 rfl rfl)
theorem dJ11_copyOf_2_39 : decode cJ11_copyOf_2 39 = .ok (.areturn, 1) := dk_176 (dk_at dksJ11_copyOf_2_1 15 rfl rfl)
theorem q189 : (Jvm.Cond.initialized "java/util/Arrays") ∈ lw_all := lw_g (lw_at lw_m1 45 rfl) rfl
theorem q1147 : (Jvm.Cond.static ({ cls := "java/util/Arrays", name := "copyOf", desc := "([Ljava/lang/Object;I)[Ljava/lang/Object;" } : Jvm.MethodName)) ∈ lw_all := lw_g (lw_at lw_m5 43 rfl) rfl
theorem q1148 : (Jvm.Cond.code ({ cls := "java/util/Arrays", name := "copyOf", desc := "([Ljava/lang/Object;I)[Ljava/lang/Object;" } : Jvm.MethodName) prog_59_method_119_code (2 : Nat) (Option.some (Jvm.ClassFile.FieldType.array (Jvm.ClassFile.FieldType.object "java/lang/Object")))) ∈ lw_all := lw_g (lw_at lw_m5 44 rfl) rfl
theorem q1149 : (Jvm.Cond.methodLink "java/util/Arrays" (86 : Nat) ({ cls := "java/lang/Object", name := "getClass", desc := "()Ljava/lang/Class;" } : Jvm.MethodName)) ∈ lw_all := lw_g (lw_at lw_m5 45 rfl) rfl
theorem q1189 : (Jvm.Cond.methodLink "java/util/Arrays" (300 : Nat) ({ cls := "java/util/Arrays", name := "copyOf", desc := "([Ljava/lang/Object;ILjava/lang/Class;)[Ljava/lang/Object;" } : Jvm.MethodName)) ∈ lw_all := lw_g (lw_at lw_m5 85 rfl) rfl
theorem q1190 : (Jvm.Cond.static ({ cls := "java/util/Arrays", name := "copyOf", desc := "([Ljava/lang/Object;ILjava/lang/Class;)[Ljava/lang/Object;" } : Jvm.MethodName)) ∈ lw_all := lw_g (lw_at lw_m5 86 rfl) rfl
theorem q1191 : (Jvm.Cond.code ({ cls := "java/util/Arrays", name := "copyOf", desc := "([Ljava/lang/Object;ILjava/lang/Class;)[Ljava/lang/Object;" } : Jvm.MethodName) prog_59_method_120_code (4 : Nat) (Option.some (Jvm.ClassFile.FieldType.array (Jvm.ClassFile.FieldType.object "java/lang/Object")))) ∈ lw_all := lw_g (lw_at lw_m5 87 rfl) rfl
theorem q1192 : (Jvm.Cond.classLink "java/util/Arrays" (110 : Nat) "[Ljava/lang/Object;") ∈ lw_all := lw_g (lw_at lw_m5 88 rfl) rfl
theorem q1194 : (Jvm.Cond.classLink "java/util/Arrays" (2 : Nat) "java/lang/Object") ∈ lw_all := lw_g (lw_at lw_m5 90 rfl) rfl
theorem q1195 : (Jvm.Cond.methodLink "java/util/Arrays" (304 : Nat) ({ cls := "java/lang/Math", name := "min", desc := "(II)I" } : Jvm.MethodName)) ∈ lw_all := lw_g (lw_at lw_m5 91 rfl) rfl
theorem q1198 : (Jvm.Cond.methodLink "java/util/Arrays" (150 : Nat) ({ cls := "java/lang/System", name := "arraycopy", desc := "(Ljava/lang/Object;ILjava/lang/Object;II)V" } : Jvm.MethodName)) ∈ lw_all := lw_g (lw_at lw_m5 94 rfl) rfl
/-! java/util/Objects -/
set_option maxRecDepth 100000
def RJ12 : String := "java/util/Objects"
abbrev cJ12_checkIndex : ByteArray := prog_62_method_17_code
def yJ12_checkIndex : MethodName := ⟨RJ12, "checkIndex", "(II)I"⟩
def dkwJ12_checkIndex_0 : List UInt8 := [26, 27, 1, 184, 0, 105, 172]
abbrev dktJ12_checkIndex_0 : List UInt8 := dkwJ12_checkIndex_0 ++ []
theorem dksJ12_checkIndex_0 : cJ12_checkIndex.data.toList.drop 0 = dktJ12_checkIndex_0 := by decide +kernel
theorem dJ12_checkIndex_0 : decode cJ12_checkIndex 0 = .ok (.iload_n 0, 1) := dk_26 (dk_at dksJ12_checkIndex_0 0 rfl rfl)
theorem dJ12_checkIndex_1 : decode cJ12_checkIndex 1 = .ok (.iload_n 1, 1) := dk_27 (dk_at dksJ12_checkIndex_0 1 rfl rfl)
theorem dJ12_checkIndex_2 : decode cJ12_checkIndex 2 = .ok (.aconst_null, 1) := dk_1 (dk_at dksJ12_checkIndex_0 2 rfl rfl)
theorem dJ12_checkIndex_3 : decode cJ12_checkIndex 3 = .ok (.invokestatic 105, 3) := dk_184 0 105 (dk_at dksJ12_checkIndex_0 3 rfl rfl)
theorem dJ12_checkIndex_6 : decode cJ12_checkIndex 6 = .ok (.ireturn, 1) := dk_172 (dk_at dksJ12_checkIndex_0 6 rfl rfl)
theorem q192 : (Jvm.Cond.initialized "java/util/Objects") ∈ lw_all := lw_g (lw_at lw_m1 48 rfl) rfl
theorem q1237 : (Jvm.Cond.static ({ cls := "java/util/Objects", name := "checkIndex", desc := "(II)I" } : Jvm.MethodName)) ∈ lw_all := lw_g (lw_at lw_m5 133 rfl) rfl
theorem q1238 : (Jvm.Cond.code ({ cls := "java/util/Objects", name := "checkIndex", desc := "(II)I" } : Jvm.MethodName) prog_62_method_17_code (2 : Nat) (Option.some Jvm.ClassFile.FieldType.int)) ∈ lw_all := lw_g (lw_at lw_m5 134 rfl) rfl
theorem q1239 : (Jvm.Cond.methodLink "java/util/Objects" (105 : Nat) ({ cls := "jdk/internal/util/Preconditions", name := "checkIndex", desc := "(IILjava/util/function/BiFunction;)I" } : Jvm.MethodName)) ∈ lw_all := lw_g (lw_at lw_m5 135 rfl) rfl
/-! java/lang/RuntimeException -/
set_option maxRecDepth 100000
def RJ13 : String := "java/lang/RuntimeException"
abbrev cJ13_init : ByteArray := prog_50_method_2_code
def yJ13_init : MethodName := ⟨RJ13, "<init>", "(Ljava/lang/String;)V"⟩
def dkwJ13_init_0 : List UInt8 := [42, 43, 183, 0, 7, 177]
abbrev dktJ13_init_0 : List UInt8 := dkwJ13_init_0 ++ []
theorem dksJ13_init_0 : cJ13_init.data.toList.drop 0 = dktJ13_init_0 := by decide +kernel
theorem dJ13_init_0 : decode cJ13_init 0 = .ok (.aload_n 0, 1) := dk_42 (dk_at dksJ13_init_0 0 rfl rfl)
theorem dJ13_init_1 : decode cJ13_init 1 = .ok (.aload_n 1, 1) := dk_43 (dk_at dksJ13_init_0 1 rfl rfl)
theorem dJ13_init_2 : decode cJ13_init 2 = .ok (.invokespecial 7, 3) := dk_183 0 7 (dk_at dksJ13_init_0 2 rfl rfl)
theorem dJ13_init_5 : decode cJ13_init 5 = .ok (.return_, 1) := dk_177 (dk_at dksJ13_init_0 5 rfl rfl)
abbrev cJ13_init_2 : ByteArray := prog_50_method_1_code
def yJ13_init_2 : MethodName := ⟨RJ13, "<init>", "()V"⟩
theorem dJ13_init_2_0 : decode cJ13_init_2 0 = .ok (.aload_n 0, 1) := by decide +kernel
theorem dJ13_init_2_1 : decode cJ13_init_2 1 = .ok (.invokespecial 1, 3) := by decide +kernel
theorem dJ13_init_2_4 : decode cJ13_init_2 4 = .ok (.return_, 1) := by decide +kernel
theorem q197 : (Jvm.Cond.initialized "java/lang/RuntimeException") ∈ lw_all := lw_g (lw_at lw_m1 53 rfl) rfl
theorem q255 : (Jvm.Cond.sameMethod "java/lang/RuntimeException" "java/lang/Throwable" "fillInStackTrace" "()Ljava/lang/Throwable;") ∈ lw_all := lw_g (lw_at lw_m1 111 rfl) rfl
theorem q258 : (Jvm.Cond.superclass "java/lang/RuntimeException" "java/lang/Exception") ∈ lw_all := lw_g (lw_at lw_m1 114 rfl) rfl
theorem q2285 : (Jvm.Cond.instanceMethod ({ cls := "java/lang/RuntimeException", name := "<init>", desc := "(Ljava/lang/String;)V" } : Jvm.MethodName)) ∈ lw_all := lw_g (lw_at lw_m9 221 rfl) rfl
theorem q2286 : (Jvm.Cond.code ({ cls := "java/lang/RuntimeException", name := "<init>", desc := "(Ljava/lang/String;)V" } : Jvm.MethodName) prog_50_method_2_code (2 : Nat) (Option.none : Option Jvm.ClassFile.FieldType)) ∈ lw_all := lw_g (lw_at lw_m9 222 rfl) rfl
theorem q2287 : (Jvm.Cond.methodLink "java/lang/RuntimeException" (7 : Nat) ({ cls := "java/lang/Exception", name := "<init>", desc := "(Ljava/lang/String;)V" } : Jvm.MethodName)) ∈ lw_all := lw_g (lw_at lw_m9 223 rfl) rfl
theorem q2301 : (Jvm.Cond.declares ({ cls := "java/lang/RuntimeException", name := "<init>", desc := "()V" } : Jvm.MethodName)) ∈ lw_tbl := lw_at lw_m9 237 rfl
theorem q2302 : (Jvm.Cond.declares ({ cls := "java/lang/RuntimeException", name := "<init>", desc := "(Ljava/lang/String;)V" } : Jvm.MethodName)) ∈ lw_tbl := lw_at lw_m9 238 rfl
theorem q2329 : (Jvm.Cond.instanceMethod ({ cls := "java/lang/RuntimeException", name := "<init>", desc := "()V" } : Jvm.MethodName)) ∈ lw_all := lw_g (lw_at lw_m10 25 rfl) rfl
theorem q2330 : (Jvm.Cond.code ({ cls := "java/lang/RuntimeException", name := "<init>", desc := "()V" } : Jvm.MethodName) prog_50_method_1_code (1 : Nat) (Option.none : Option Jvm.ClassFile.FieldType)) ∈ lw_all := lw_g (lw_at lw_m10 26 rfl) rfl
theorem q2331 : (Jvm.Cond.methodLink "java/lang/RuntimeException" (1 : Nat) ({ cls := "java/lang/Exception", name := "<init>", desc := "()V" } : Jvm.MethodName)) ∈ lw_all := lw_g (lw_at lw_m10 27 rfl) rfl
theorem q2349 : (Jvm.Cond.castable "java/lang/RuntimeException" "java/lang/Throwable") ∈ lw_tbl := lw_at lw_m10 45 rfl
/-! java/lang/NegativeArraySizeException -/
set_option maxRecDepth 100000
def RJ14 : String := "java/lang/NegativeArraySizeException"
def TJ14 : u_T := fun k => match k with
  | 0 => ("java/lang/Throwable", "backtrace", "Ljava/lang/Object;", false)
  | 1 => ("java/lang/Throwable", "detailMessage", "Ljava/lang/String;", false)
  | 2 => ("java/lang/Throwable", "cause", "Ljava/lang/Throwable;", false)
  | 3 => ("java/lang/Throwable", "stackTrace", "[Ljava/lang/StackTraceElement;", false)
  | 4 => ("java/lang/Throwable", "depth", "I", false)
  | _ => ("java/lang/Throwable", "suppressedExceptions", "Ljava/util/List;", false)
def tyJ14 : Nat → FieldType := fun k => match k with
  | 0 => .object "java/lang/Object"
  | 1 => .object "java/lang/String"
  | 2 => .object "java/lang/Throwable"
  | 3 => .array (.object "java/lang/StackTraceElement")
  | 4 => .int
  | _ => .object "java/util/List"
abbrev wsJ140 : List Cond := u_ws RJ14 TJ14 6
theorem nmJ14 : ∀ a, a < 6 → ∀ b, b < 6 → a ≠ b → (TJ14 a).2.1 ≠ (TJ14 b).2.1 := by decide +kernel
theorem tyJ14_ok : ∀ k, k < 6 → parseFieldDescriptor (TJ14 k).2.2.1 = some (tyJ14 k) := by decide +kernel
abbrev cJ14_init : ByteArray := prog_48_method_2_code
def yJ14_init : MethodName := ⟨RJ14, "<init>", "(Ljava/lang/String;)V"⟩
def dkwJ14_init_0 : List UInt8 := [42, 43, 183, 0, 7, 177]
abbrev dktJ14_init_0 : List UInt8 := dkwJ14_init_0 ++ []
theorem dksJ14_init_0 : cJ14_init.data.toList.drop 0 = dktJ14_init_0 := by decide +kernel
theorem dJ14_init_0 : decode cJ14_init 0 = .ok (.aload_n 0, 1) := dk_42 (dk_at dksJ14_init_0 0 rfl rfl)
theorem dJ14_init_1 : decode cJ14_init 1 = .ok (.aload_n 1, 1) := dk_43 (dk_at dksJ14_init_0 1 rfl rfl)
theorem dJ14_init_2 : decode cJ14_init 2 = .ok (.invokespecial 7, 3) := dk_183 0 7 (dk_at dksJ14_init_0 2 rfl rfl)
theorem dJ14_init_5 : decode cJ14_init 5 = .ok (.return_, 1) := dk_177 (dk_at dksJ14_init_0 5 rfl rfl)
theorem q198 : (Jvm.Cond.initialized "java/lang/NegativeArraySizeException") ∈ lw_all := lw_g (lw_at lw_m1 54 rfl) rfl
theorem q245 : (Jvm.Cond.selects "java/lang/NegativeArraySizeException" ({ cls := "java/lang/Throwable", name := "fillInStackTrace", desc := "()Ljava/lang/Throwable;" } : Jvm.MethodName) ({ cls := "java/lang/Throwable", name := "fillInStackTrace", desc := "()Ljava/lang/Throwable;" } : Jvm.MethodName)) ∈ lw_all := lw_g (lw_at lw_m1 101 rfl) rfl
theorem q1185 : (Jvm.Cond.selects "java/lang/NegativeArraySizeException" ({ cls := "java/lang/Object", name := "getClass", desc := "()Ljava/lang/Class;" } : Jvm.MethodName) ({ cls := "java/lang/Object", name := "getClass", desc := "()Ljava/lang/Class;" } : Jvm.MethodName)) ∈ lw_all := lw_g (lw_at lw_m5 81 rfl) rfl
theorem q2281 : (Jvm.Cond.instantiable "java/lang/NegativeArraySizeException" (6 : Nat)) ∈ lw_all := lw_g (lw_at lw_m9 217 rfl) rfl
theorem q2282 : (Jvm.Cond.instanceMethod ({ cls := "java/lang/NegativeArraySizeException", name := "<init>", desc := "(Ljava/lang/String;)V" } : Jvm.MethodName)) ∈ lw_all := lw_g (lw_at lw_m9 218 rfl) rfl
theorem q2283 : (Jvm.Cond.code ({ cls := "java/lang/NegativeArraySizeException", name := "<init>", desc := "(Ljava/lang/String;)V" } : Jvm.MethodName) prog_48_method_2_code (2 : Nat) (Option.none : Option Jvm.ClassFile.FieldType)) ∈ lw_all := lw_g (lw_at lw_m9 219 rfl) rfl
theorem q2284 : (Jvm.Cond.methodLink "java/lang/NegativeArraySizeException" (7 : Nat) ({ cls := "java/lang/RuntimeException", name := "<init>", desc := "(Ljava/lang/String;)V" } : Jvm.MethodName)) ∈ lw_all := lw_g (lw_at lw_m9 220 rfl) rfl
theorem q2293 : (Jvm.Cond.lays "java/lang/NegativeArraySizeException" "java/lang/Throwable" "backtrace" "Ljava/lang/Object;") ∈ lw_all := lw_g (lw_at lw_m9 229 rfl) rfl
theorem q2294 : (Jvm.Cond.lays "java/lang/NegativeArraySizeException" "java/lang/Throwable" "detailMessage" "Ljava/lang/String;") ∈ lw_all := lw_g (lw_at lw_m9 230 rfl) rfl
theorem q2295 : (Jvm.Cond.lays "java/lang/NegativeArraySizeException" "java/lang/Throwable" "cause" "Ljava/lang/Throwable;") ∈ lw_all := lw_g (lw_at lw_m9 231 rfl) rfl
theorem q2296 : (Jvm.Cond.lays "java/lang/NegativeArraySizeException" "java/lang/Throwable" "stackTrace" "[Ljava/lang/StackTraceElement;") ∈ lw_all := lw_g (lw_at lw_m9 232 rfl) rfl
theorem q2297 : (Jvm.Cond.lays "java/lang/NegativeArraySizeException" "java/lang/Throwable" "depth" "I") ∈ lw_all := lw_g (lw_at lw_m9 233 rfl) rfl
theorem q2298 : (Jvm.Cond.lays "java/lang/NegativeArraySizeException" "java/lang/Throwable" "suppressedExceptions" "Ljava/util/List;") ∈ lw_all := lw_g (lw_at lw_m9 234 rfl) rfl
theorem q2299 : (Jvm.Cond.superclass "java/lang/NegativeArraySizeException" "java/lang/RuntimeException") ∈ lw_all := lw_g (lw_at lw_m9 235 rfl) rfl
theorem q2300 : (Jvm.Cond.castable "java/lang/NegativeArraySizeException" "java/lang/NegativeArraySizeException") ∈ lw_tbl := lw_at lw_m9 236 rfl
theorem q2303 : (Jvm.Cond.selects "java/lang/NegativeArraySizeException" ({ cls := "java/lang/Throwable", name := "fillInStackTrace", desc := "(I)Ljava/lang/Throwable;" } : Jvm.MethodName) ({ cls := "java/lang/Throwable", name := "fillInStackTrace", desc := "(I)Ljava/lang/Throwable;" } : Jvm.MethodName)) ∈ lw_all := lw_g (lw_at lw_m9 239 rfl) rfl
theorem q3160 : (Jvm.Cond.castable "java/lang/NegativeArraySizeException" "java/lang/Object") ∈ lw_tbl := lw_at lw_m13 136 rfl
theorem in_J14 : ∀ w ∈ wsJ140, w ∈ lw_all := lw_in wsJ140 [2293, 2294, 2295, 2296, 2297, 2298] (by decide +kernel) (by decide +kernel)
/-! java/lang/NullPointerException -/
set_option maxRecDepth 100000
def RJ15 : String := "java/lang/NullPointerException"
def TJ15 : u_T := fun k => match k with
  | 0 => ("java/lang/Throwable", "backtrace", "Ljava/lang/Object;", false)
  | 1 => ("java/lang/Throwable", "detailMessage", "Ljava/lang/String;", false)
  | 2 => ("java/lang/Throwable", "cause", "Ljava/lang/Throwable;", false)
  | 3 => ("java/lang/Throwable", "stackTrace", "[Ljava/lang/StackTraceElement;", false)
  | 4 => ("java/lang/Throwable", "depth", "I", false)
  | 5 => ("java/lang/Throwable", "suppressedExceptions", "Ljava/util/List;", false)
  | 6 => ("java/lang/NullPointerException", "extendedMessageState", "I", false)
  | _ => ("java/lang/NullPointerException", "extendedMessage", "Ljava/lang/String;", false)
def tyJ15 : Nat → FieldType := fun k => match k with
  | 0 => .object "java/lang/Object"
  | 1 => .object "java/lang/String"
  | 2 => .object "java/lang/Throwable"
  | 3 => .array (.object "java/lang/StackTraceElement")
  | 4 => .int
  | 5 => .object "java/util/List"
  | 6 => .int
  | _ => .object "java/lang/String"
abbrev wsJ150 : List Cond := u_ws RJ15 TJ15 8
theorem nmJ15 : ∀ a, a < 8 → ∀ b, b < 8 → a ≠ b → (TJ15 a).2.1 ≠ (TJ15 b).2.1 := by decide +kernel
theorem tyJ15_ok : ∀ k, k < 8 → parseFieldDescriptor (TJ15 k).2.2.1 = some (tyJ15 k) := by decide +kernel
abbrev cJ15_init : ByteArray := prog_49_method_1_code
def yJ15_init : MethodName := ⟨RJ15, "<init>", "()V"⟩
theorem dJ15_init_0 : decode cJ15_init 0 = .ok (.aload_n 0, 1) := by decide +kernel
theorem dJ15_init_1 : decode cJ15_init 1 = .ok (.invokespecial 1, 3) := by decide +kernel
theorem dJ15_init_4 : decode cJ15_init 4 = .ok (.return_, 1) := by decide +kernel
theorem q199 : (Jvm.Cond.initialized "java/lang/NullPointerException") ∈ lw_all := lw_g (lw_at lw_m1 55 rfl) rfl
theorem q246 : (Jvm.Cond.selects "java/lang/NullPointerException" ({ cls := "java/lang/Throwable", name := "fillInStackTrace", desc := "()Ljava/lang/Throwable;" } : Jvm.MethodName) ({ cls := "java/lang/NullPointerException", name := "fillInStackTrace", desc := "()Ljava/lang/Throwable;" } : Jvm.MethodName)) ∈ lw_all := lw_g (lw_at lw_m1 102 rfl) rfl
theorem q247 : (Jvm.Cond.instanceMethod ({ cls := "java/lang/NullPointerException", name := "fillInStackTrace", desc := "()Ljava/lang/Throwable;" } : Jvm.MethodName)) ∈ lw_all := lw_g (lw_at lw_m1 103 rfl) rfl
theorem q248 : (Jvm.Cond.codeSync ({ cls := "java/lang/NullPointerException", name := "fillInStackTrace", desc := "()Ljava/lang/Throwable;" } : Jvm.MethodName) prog_49_method_3_code (1 : Nat) (Option.some (Jvm.ClassFile.FieldType.object "java/lang/Throwable"))) ∈ lw_all := lw_g (lw_at lw_m1 104 rfl) rfl
theorem q249 : (Jvm.Cond.methodLink "java/lang/NullPointerException" (16 : Nat) ({ cls := "java/lang/NullPointerException", name := "getExtendedNPEMessage", desc := "()Ljava/lang/String;" } : Jvm.MethodName)) ∈ lw_all := lw_g (lw_at lw_m1 105 rfl) rfl
theorem q250 : (Jvm.Cond.privateMethod ({ cls := "java/lang/NullPointerException", name := "getExtendedNPEMessage", desc := "()Ljava/lang/String;" } : Jvm.MethodName)) ∈ lw_tbl := lw_at lw_m1 106 rfl
theorem q251 : (Jvm.Cond.instanceMethod ({ cls := "java/lang/NullPointerException", name := "getExtendedNPEMessage", desc := "()Ljava/lang/String;" } : Jvm.MethodName)) ∈ lw_all := lw_g (lw_at lw_m1 107 rfl) rfl
theorem q252 : (Jvm.Cond.instantiable "java/lang/NullPointerException" (8 : Nat)) ∈ lw_all := lw_g (lw_at lw_m1 108 rfl) rfl
theorem q253 : (Jvm.Cond.native ({ cls := "java/lang/NullPointerException", name := "getExtendedNPEMessage", desc := "()Ljava/lang/String;" } : Jvm.MethodName)) ∈ lw_all := lw_g (lw_at lw_m1 109 rfl) rfl
theorem q254 : (Jvm.Cond.methodLink "java/lang/NullPointerException" (24 : Nat) ({ cls := "java/lang/RuntimeException", name := "fillInStackTrace", desc := "()Ljava/lang/Throwable;" } : Jvm.MethodName)) ∈ lw_all := lw_g (lw_at lw_m1 110 rfl) rfl
theorem q257 : (Jvm.Cond.superclass "java/lang/NullPointerException" "java/lang/RuntimeException") ∈ lw_all := lw_g (lw_at lw_m1 113 rfl) rfl
theorem q1186 : (Jvm.Cond.selects "java/lang/NullPointerException" ({ cls := "java/lang/Object", name := "getClass", desc := "()Ljava/lang/Class;" } : Jvm.MethodName) ({ cls := "java/lang/Object", name := "getClass", desc := "()Ljava/lang/Class;" } : Jvm.MethodName)) ∈ lw_all := lw_g (lw_at lw_m5 82 rfl) rfl
theorem q2326 : (Jvm.Cond.instanceMethod ({ cls := "java/lang/NullPointerException", name := "<init>", desc := "()V" } : Jvm.MethodName)) ∈ lw_all := lw_g (lw_at lw_m10 22 rfl) rfl
theorem q2327 : (Jvm.Cond.code ({ cls := "java/lang/NullPointerException", name := "<init>", desc := "()V" } : Jvm.MethodName) prog_49_method_1_code (1 : Nat) (Option.none : Option Jvm.ClassFile.FieldType)) ∈ lw_all := lw_g (lw_at lw_m10 23 rfl) rfl
theorem q2328 : (Jvm.Cond.methodLink "java/lang/NullPointerException" (1 : Nat) ({ cls := "java/lang/RuntimeException", name := "<init>", desc := "()V" } : Jvm.MethodName)) ∈ lw_all := lw_g (lw_at lw_m10 24 rfl) rfl
theorem q2335 : (Jvm.Cond.fieldLink "java/lang/NullPointerException" (10 : Nat) "java/lang/NullPointerException" "extendedMessageState" "I") ∈ lw_all := lw_g (lw_at lw_m10 31 rfl) rfl
theorem q2336 : (Jvm.Cond.fieldLink "java/lang/NullPointerException" (20 : Nat) "java/lang/NullPointerException" "extendedMessage" "Ljava/lang/String;") ∈ lw_all := lw_g (lw_at lw_m10 32 rfl) rfl
theorem q2337 : (Jvm.Cond.lays "java/lang/NullPointerException" "java/lang/NullPointerException" "extendedMessageState" "I") ∈ lw_all := lw_g (lw_at lw_m10 33 rfl) rfl
theorem q2338 : (Jvm.Cond.soleField "java/lang/NullPointerException" "extendedMessageState") ∈ lw_all := lw_g (lw_at lw_m10 34 rfl) rfl
theorem q2339 : (Jvm.Cond.lays "java/lang/NullPointerException" "java/lang/NullPointerException" "extendedMessage" "Ljava/lang/String;") ∈ lw_all := lw_g (lw_at lw_m10 35 rfl) rfl
theorem q2340 : (Jvm.Cond.soleField "java/lang/NullPointerException" "extendedMessage") ∈ lw_all := lw_g (lw_at lw_m10 36 rfl) rfl
theorem q2341 : (Jvm.Cond.lays "java/lang/NullPointerException" "java/lang/Throwable" "backtrace" "Ljava/lang/Object;") ∈ lw_all := lw_g (lw_at lw_m10 37 rfl) rfl
theorem q2342 : (Jvm.Cond.lays "java/lang/NullPointerException" "java/lang/Throwable" "detailMessage" "Ljava/lang/String;") ∈ lw_all := lw_g (lw_at lw_m10 38 rfl) rfl
theorem q2343 : (Jvm.Cond.lays "java/lang/NullPointerException" "java/lang/Throwable" "cause" "Ljava/lang/Throwable;") ∈ lw_all := lw_g (lw_at lw_m10 39 rfl) rfl
theorem q2344 : (Jvm.Cond.lays "java/lang/NullPointerException" "java/lang/Throwable" "stackTrace" "[Ljava/lang/StackTraceElement;") ∈ lw_all := lw_g (lw_at lw_m10 40 rfl) rfl
theorem q2345 : (Jvm.Cond.lays "java/lang/NullPointerException" "java/lang/Throwable" "depth" "I") ∈ lw_all := lw_g (lw_at lw_m10 41 rfl) rfl
theorem q2346 : (Jvm.Cond.lays "java/lang/NullPointerException" "java/lang/Throwable" "suppressedExceptions" "Ljava/util/List;") ∈ lw_all := lw_g (lw_at lw_m10 42 rfl) rfl
theorem q2347 : (Jvm.Cond.castable "java/lang/NullPointerException" "java/lang/NullPointerException") ∈ lw_tbl := lw_at lw_m10 43 rfl
theorem q2348 : (Jvm.Cond.selects "java/lang/NullPointerException" ({ cls := "java/lang/Throwable", name := "fillInStackTrace", desc := "(I)Ljava/lang/Throwable;" } : Jvm.MethodName) ({ cls := "java/lang/Throwable", name := "fillInStackTrace", desc := "(I)Ljava/lang/Throwable;" } : Jvm.MethodName)) ∈ lw_all := lw_g (lw_at lw_m10 44 rfl) rfl
theorem q3161 : (Jvm.Cond.castable "java/lang/NullPointerException" "java/lang/Object") ∈ lw_tbl := lw_at lw_m13 137 rfl
theorem in_J15 : ∀ w ∈ wsJ150, w ∈ lw_all := lw_in wsJ150 [2341, 2342, 2343, 2344, 2345, 2346, 2337, 2339] (by decide +kernel) (by decide +kernel)
/-! java/lang/ClassCastException -/
set_option maxRecDepth 100000
def RJ16 : String := "java/lang/ClassCastException"
def TJ16 : u_T := fun k => match k with
  | 0 => ("java/lang/Throwable", "backtrace", "Ljava/lang/Object;", false)
  | 1 => ("java/lang/Throwable", "detailMessage", "Ljava/lang/String;", false)
  | 2 => ("java/lang/Throwable", "cause", "Ljava/lang/Throwable;", false)
  | 3 => ("java/lang/Throwable", "stackTrace", "[Ljava/lang/StackTraceElement;", false)
  | 4 => ("java/lang/Throwable", "depth", "I", false)
  | _ => ("java/lang/Throwable", "suppressedExceptions", "Ljava/util/List;", false)
def tyJ16 : Nat → FieldType := fun k => match k with
  | 0 => .object "java/lang/Object"
  | 1 => .object "java/lang/String"
  | 2 => .object "java/lang/Throwable"
  | 3 => .array (.object "java/lang/StackTraceElement")
  | 4 => .int
  | _ => .object "java/util/List"
abbrev wsJ160 : List Cond := u_ws RJ16 TJ16 6
theorem nmJ16 : ∀ a, a < 6 → ∀ b, b < 6 → a ≠ b → (TJ16 a).2.1 ≠ (TJ16 b).2.1 := by decide +kernel
theorem tyJ16_ok : ∀ k, k < 6 → parseFieldDescriptor (TJ16 k).2.2.1 = some (tyJ16 k) := by decide +kernel
abbrev cJ16_init : ByteArray := prog_42_method_2_code
def yJ16_init : MethodName := ⟨RJ16, "<init>", "(Ljava/lang/String;)V"⟩
def dkwJ16_init_0 : List UInt8 := [42, 43, 183, 0, 7, 177]
abbrev dktJ16_init_0 : List UInt8 := dkwJ16_init_0 ++ []
theorem dksJ16_init_0 : cJ16_init.data.toList.drop 0 = dktJ16_init_0 := by decide +kernel
theorem dJ16_init_0 : decode cJ16_init 0 = .ok (.aload_n 0, 1) := dk_42 (dk_at dksJ16_init_0 0 rfl rfl)
theorem dJ16_init_1 : decode cJ16_init 1 = .ok (.aload_n 1, 1) := dk_43 (dk_at dksJ16_init_0 1 rfl rfl)
theorem dJ16_init_2 : decode cJ16_init 2 = .ok (.invokespecial 7, 3) := dk_183 0 7 (dk_at dksJ16_init_0 2 rfl rfl)
theorem dJ16_init_5 : decode cJ16_init 5 = .ok (.return_, 1) := dk_177 (dk_at dksJ16_init_0 5 rfl rfl)
theorem q200 : (Jvm.Cond.initialized "java/lang/ClassCastException") ∈ lw_all := lw_g (lw_at lw_m1 56 rfl) rfl
theorem q244 : (Jvm.Cond.selects "java/lang/ClassCastException" ({ cls := "java/lang/Throwable", name := "fillInStackTrace", desc := "()Ljava/lang/Throwable;" } : Jvm.MethodName) ({ cls := "java/lang/Throwable", name := "fillInStackTrace", desc := "()Ljava/lang/Throwable;" } : Jvm.MethodName)) ∈ lw_all := lw_g (lw_at lw_m1 100 rfl) rfl
theorem q1184 : (Jvm.Cond.selects "java/lang/ClassCastException" ({ cls := "java/lang/Object", name := "getClass", desc := "()Ljava/lang/Class;" } : Jvm.MethodName) ({ cls := "java/lang/Object", name := "getClass", desc := "()Ljava/lang/Class;" } : Jvm.MethodName)) ∈ lw_all := lw_g (lw_at lw_m5 80 rfl) rfl
theorem q2351 : (Jvm.Cond.instantiable "java/lang/ClassCastException" (6 : Nat)) ∈ lw_all := lw_g (lw_at lw_m10 47 rfl) rfl
theorem q2352 : (Jvm.Cond.instanceMethod ({ cls := "java/lang/ClassCastException", name := "<init>", desc := "(Ljava/lang/String;)V" } : Jvm.MethodName)) ∈ lw_all := lw_g (lw_at lw_m10 48 rfl) rfl
theorem q2353 : (Jvm.Cond.code ({ cls := "java/lang/ClassCastException", name := "<init>", desc := "(Ljava/lang/String;)V" } : Jvm.MethodName) prog_42_method_2_code (2 : Nat) (Option.none : Option Jvm.ClassFile.FieldType)) ∈ lw_all := lw_g (lw_at lw_m10 49 rfl) rfl
theorem q2354 : (Jvm.Cond.methodLink "java/lang/ClassCastException" (7 : Nat) ({ cls := "java/lang/RuntimeException", name := "<init>", desc := "(Ljava/lang/String;)V" } : Jvm.MethodName)) ∈ lw_all := lw_g (lw_at lw_m10 50 rfl) rfl
theorem q2355 : (Jvm.Cond.lays "java/lang/ClassCastException" "java/lang/Throwable" "backtrace" "Ljava/lang/Object;") ∈ lw_all := lw_g (lw_at lw_m10 51 rfl) rfl
theorem q2356 : (Jvm.Cond.lays "java/lang/ClassCastException" "java/lang/Throwable" "detailMessage" "Ljava/lang/String;") ∈ lw_all := lw_g (lw_at lw_m10 52 rfl) rfl
theorem q2357 : (Jvm.Cond.lays "java/lang/ClassCastException" "java/lang/Throwable" "cause" "Ljava/lang/Throwable;") ∈ lw_all := lw_g (lw_at lw_m10 53 rfl) rfl
theorem q2358 : (Jvm.Cond.lays "java/lang/ClassCastException" "java/lang/Throwable" "stackTrace" "[Ljava/lang/StackTraceElement;") ∈ lw_all := lw_g (lw_at lw_m10 54 rfl) rfl
theorem q2359 : (Jvm.Cond.lays "java/lang/ClassCastException" "java/lang/Throwable" "depth" "I") ∈ lw_all := lw_g (lw_at lw_m10 55 rfl) rfl
theorem q2360 : (Jvm.Cond.lays "java/lang/ClassCastException" "java/lang/Throwable" "suppressedExceptions" "Ljava/util/List;") ∈ lw_all := lw_g (lw_at lw_m10 56 rfl) rfl
theorem q2361 : (Jvm.Cond.superclass "java/lang/ClassCastException" "java/lang/RuntimeException") ∈ lw_all := lw_g (lw_at lw_m10 57 rfl) rfl
theorem q2362 : (Jvm.Cond.castable "java/lang/ClassCastException" "java/lang/ClassCastException") ∈ lw_tbl := lw_at lw_m10 58 rfl
theorem q2363 : (Jvm.Cond.selects "java/lang/ClassCastException" ({ cls := "java/lang/Throwable", name := "fillInStackTrace", desc := "(I)Ljava/lang/Throwable;" } : Jvm.MethodName) ({ cls := "java/lang/Throwable", name := "fillInStackTrace", desc := "(I)Ljava/lang/Throwable;" } : Jvm.MethodName)) ∈ lw_all := lw_g (lw_at lw_m10 59 rfl) rfl
theorem q3162 : (Jvm.Cond.castable "java/lang/ClassCastException" "java/lang/Object") ∈ lw_tbl := lw_at lw_m13 138 rfl
theorem in_J16 : ∀ w ∈ wsJ160, w ∈ lw_all := lw_in wsJ160 [2355, 2356, 2357, 2358, 2359, 2360] (by decide +kernel) (by decide +kernel)
/-! java/lang/IndexOutOfBoundsException -/
set_option maxRecDepth 100000
def RJ17 : String := "java/lang/IndexOutOfBoundsException"
abbrev cJ17_init : ByteArray := prog_45_method_2_code
def yJ17_init : MethodName := ⟨RJ17, "<init>", "(Ljava/lang/String;)V"⟩
def dkwJ17_init_0 : List UInt8 := [42, 43, 183, 0, 7, 177]
abbrev dktJ17_init_0 : List UInt8 := dkwJ17_init_0 ++ []
theorem dksJ17_init_0 : cJ17_init.data.toList.drop 0 = dktJ17_init_0 := by decide +kernel
theorem dJ17_init_0 : decode cJ17_init 0 = .ok (.aload_n 0, 1) := dk_42 (dk_at dksJ17_init_0 0 rfl rfl)
theorem dJ17_init_1 : decode cJ17_init 1 = .ok (.aload_n 1, 1) := dk_43 (dk_at dksJ17_init_0 1 rfl rfl)
theorem dJ17_init_2 : decode cJ17_init 2 = .ok (.invokespecial 7, 3) := dk_183 0 7 (dk_at dksJ17_init_0 2 rfl rfl)
theorem dJ17_init_5 : decode cJ17_init 5 = .ok (.return_, 1) := dk_177 (dk_at dksJ17_init_0 5 rfl rfl)
theorem q201 : (Jvm.Cond.initialized "java/lang/IndexOutOfBoundsException") ∈ lw_all := lw_g (lw_at lw_m1 57 rfl) rfl
theorem q2369 : (Jvm.Cond.instanceMethod ({ cls := "java/lang/IndexOutOfBoundsException", name := "<init>", desc := "(Ljava/lang/String;)V" } : Jvm.MethodName)) ∈ lw_all := lw_g (lw_at lw_m10 65 rfl) rfl
theorem q2370 : (Jvm.Cond.code ({ cls := "java/lang/IndexOutOfBoundsException", name := "<init>", desc := "(Ljava/lang/String;)V" } : Jvm.MethodName) prog_45_method_2_code (2 : Nat) (Option.none : Option Jvm.ClassFile.FieldType)) ∈ lw_all := lw_g (lw_at lw_m10 66 rfl) rfl
theorem q2371 : (Jvm.Cond.methodLink "java/lang/IndexOutOfBoundsException" (7 : Nat) ({ cls := "java/lang/RuntimeException", name := "<init>", desc := "(Ljava/lang/String;)V" } : Jvm.MethodName)) ∈ lw_all := lw_g (lw_at lw_m10 67 rfl) rfl
theorem q2380 : (Jvm.Cond.declares ({ cls := "java/lang/IndexOutOfBoundsException", name := "<init>", desc := "()V" } : Jvm.MethodName)) ∈ lw_tbl := lw_at lw_m10 76 rfl
theorem q2381 : (Jvm.Cond.declares ({ cls := "java/lang/IndexOutOfBoundsException", name := "<init>", desc := "(Ljava/lang/String;)V" } : Jvm.MethodName)) ∈ lw_tbl := lw_at lw_m10 77 rfl
/-! java/lang/ArrayIndexOutOfBoundsException -/
set_option maxRecDepth 100000
def RJ18 : String := "java/lang/ArrayIndexOutOfBoundsException"
def TJ18 : u_T := fun k => match k with
  | 0 => ("java/lang/Throwable", "backtrace", "Ljava/lang/Object;", false)
  | 1 => ("java/lang/Throwable", "detailMessage", "Ljava/lang/String;", false)
  | 2 => ("java/lang/Throwable", "cause", "Ljava/lang/Throwable;", false)
  | 3 => ("java/lang/Throwable", "stackTrace", "[Ljava/lang/StackTraceElement;", false)
  | 4 => ("java/lang/Throwable", "depth", "I", false)
  | _ => ("java/lang/Throwable", "suppressedExceptions", "Ljava/util/List;", false)
def tyJ18 : Nat → FieldType := fun k => match k with
  | 0 => .object "java/lang/Object"
  | 1 => .object "java/lang/String"
  | 2 => .object "java/lang/Throwable"
  | 3 => .array (.object "java/lang/StackTraceElement")
  | 4 => .int
  | _ => .object "java/util/List"
abbrev wsJ180 : List Cond := u_ws RJ18 TJ18 6
theorem nmJ18 : ∀ a, a < 6 → ∀ b, b < 6 → a ≠ b → (TJ18 a).2.1 ≠ (TJ18 b).2.1 := by decide +kernel
theorem tyJ18_ok : ∀ k, k < 6 → parseFieldDescriptor (TJ18 k).2.2.1 = some (tyJ18 k) := by decide +kernel
abbrev cJ18_init : ByteArray := prog_41_method_2_code
def yJ18_init : MethodName := ⟨RJ18, "<init>", "(Ljava/lang/String;)V"⟩
def dkwJ18_init_0 : List UInt8 := [42, 43, 183, 0, 7, 177]
abbrev dktJ18_init_0 : List UInt8 := dkwJ18_init_0 ++ []
theorem dksJ18_init_0 : cJ18_init.data.toList.drop 0 = dktJ18_init_0 := by decide +kernel
theorem dJ18_init_0 : decode cJ18_init 0 = .ok (.aload_n 0, 1) := dk_42 (dk_at dksJ18_init_0 0 rfl rfl)
theorem dJ18_init_1 : decode cJ18_init 1 = .ok (.aload_n 1, 1) := dk_43 (dk_at dksJ18_init_0 1 rfl rfl)
theorem dJ18_init_2 : decode cJ18_init 2 = .ok (.invokespecial 7, 3) := dk_183 0 7 (dk_at dksJ18_init_0 2 rfl rfl)
theorem dJ18_init_5 : decode cJ18_init 5 = .ok (.return_, 1) := dk_177 (dk_at dksJ18_init_0 5 rfl rfl)
theorem q202 : (Jvm.Cond.initialized "java/lang/ArrayIndexOutOfBoundsException") ∈ lw_all := lw_g (lw_at lw_m1 58 rfl) rfl
theorem q243 : (Jvm.Cond.selects "java/lang/ArrayIndexOutOfBoundsException" ({ cls := "java/lang/Throwable", name := "fillInStackTrace", desc := "()Ljava/lang/Throwable;" } : Jvm.MethodName) ({ cls := "java/lang/Throwable", name := "fillInStackTrace", desc := "()Ljava/lang/Throwable;" } : Jvm.MethodName)) ∈ lw_all := lw_g (lw_at lw_m1 99 rfl) rfl
theorem q1183 : (Jvm.Cond.selects "java/lang/ArrayIndexOutOfBoundsException" ({ cls := "java/lang/Object", name := "getClass", desc := "()Ljava/lang/Class;" } : Jvm.MethodName) ({ cls := "java/lang/Object", name := "getClass", desc := "()Ljava/lang/Class;" } : Jvm.MethodName)) ∈ lw_all := lw_g (lw_at lw_m5 79 rfl) rfl
theorem q2365 : (Jvm.Cond.instantiable "java/lang/ArrayIndexOutOfBoundsException" (6 : Nat)) ∈ lw_all := lw_g (lw_at lw_m10 61 rfl) rfl
theorem q2366 : (Jvm.Cond.instanceMethod ({ cls := "java/lang/ArrayIndexOutOfBoundsException", name := "<init>", desc := "(Ljava/lang/String;)V" } : Jvm.MethodName)) ∈ lw_all := lw_g (lw_at lw_m10 62 rfl) rfl
theorem q2367 : (Jvm.Cond.code ({ cls := "java/lang/ArrayIndexOutOfBoundsException", name := "<init>", desc := "(Ljava/lang/String;)V" } : Jvm.MethodName) prog_41_method_2_code (2 : Nat) (Option.none : Option Jvm.ClassFile.FieldType)) ∈ lw_all := lw_g (lw_at lw_m10 63 rfl) rfl
theorem q2368 : (Jvm.Cond.methodLink "java/lang/ArrayIndexOutOfBoundsException" (7 : Nat) ({ cls := "java/lang/IndexOutOfBoundsException", name := "<init>", desc := "(Ljava/lang/String;)V" } : Jvm.MethodName)) ∈ lw_all := lw_g (lw_at lw_m10 64 rfl) rfl
theorem q2372 : (Jvm.Cond.lays "java/lang/ArrayIndexOutOfBoundsException" "java/lang/Throwable" "backtrace" "Ljava/lang/Object;") ∈ lw_all := lw_g (lw_at lw_m10 68 rfl) rfl
theorem q2373 : (Jvm.Cond.lays "java/lang/ArrayIndexOutOfBoundsException" "java/lang/Throwable" "detailMessage" "Ljava/lang/String;") ∈ lw_all := lw_g (lw_at lw_m10 69 rfl) rfl
theorem q2374 : (Jvm.Cond.lays "java/lang/ArrayIndexOutOfBoundsException" "java/lang/Throwable" "cause" "Ljava/lang/Throwable;") ∈ lw_all := lw_g (lw_at lw_m10 70 rfl) rfl
theorem q2375 : (Jvm.Cond.lays "java/lang/ArrayIndexOutOfBoundsException" "java/lang/Throwable" "stackTrace" "[Ljava/lang/StackTraceElement;") ∈ lw_all := lw_g (lw_at lw_m10 71 rfl) rfl
theorem q2376 : (Jvm.Cond.lays "java/lang/ArrayIndexOutOfBoundsException" "java/lang/Throwable" "depth" "I") ∈ lw_all := lw_g (lw_at lw_m10 72 rfl) rfl
theorem q2377 : (Jvm.Cond.lays "java/lang/ArrayIndexOutOfBoundsException" "java/lang/Throwable" "suppressedExceptions" "Ljava/util/List;") ∈ lw_all := lw_g (lw_at lw_m10 73 rfl) rfl
theorem q2378 : (Jvm.Cond.superclass "java/lang/ArrayIndexOutOfBoundsException" "java/lang/IndexOutOfBoundsException") ∈ lw_all := lw_g (lw_at lw_m10 74 rfl) rfl
theorem q2379 : (Jvm.Cond.castable "java/lang/ArrayIndexOutOfBoundsException" "java/lang/ArrayIndexOutOfBoundsException") ∈ lw_tbl := lw_at lw_m10 75 rfl
theorem q2382 : (Jvm.Cond.selects "java/lang/ArrayIndexOutOfBoundsException" ({ cls := "java/lang/Throwable", name := "fillInStackTrace", desc := "(I)Ljava/lang/Throwable;" } : Jvm.MethodName) ({ cls := "java/lang/Throwable", name := "fillInStackTrace", desc := "(I)Ljava/lang/Throwable;" } : Jvm.MethodName)) ∈ lw_all := lw_g (lw_at lw_m10 78 rfl) rfl
theorem q3113 : (Jvm.Cond.castable "java/lang/ArrayIndexOutOfBoundsException" "java/lang/IndexOutOfBoundsException") ∈ lw_tbl := lw_at lw_m13 89 rfl
theorem q3163 : (Jvm.Cond.castable "java/lang/ArrayIndexOutOfBoundsException" "java/lang/Object") ∈ lw_tbl := lw_at lw_m13 139 rfl
theorem in_J18 : ∀ w ∈ wsJ180, w ∈ lw_all := lw_in wsJ180 [2372, 2373, 2374, 2375, 2376, 2377] (by decide +kernel) (by decide +kernel)
/-! java/lang/Object -/
set_option maxRecDepth 100000
def RJ19 : String := "java/lang/Object"
abbrev cJ19_init : ByteArray := object_method_1_code
def yJ19_init : MethodName := ⟨RJ19, "<init>", "()V"⟩
theorem dJ19_init_0 : decode cJ19_init 0 = .ok (.return_, 1) := by decide +kernel
theorem q209 : (Jvm.Cond.instanceMethod ({ cls := "java/lang/Object", name := "<init>", desc := "()V" } : Jvm.MethodName)) ∈ lw_all := lw_g (lw_at lw_m1 65 rfl) rfl
theorem q210 : (Jvm.Cond.code ({ cls := "java/lang/Object", name := "<init>", desc := "()V" } : Jvm.MethodName) object_method_1_code (1 : Nat) (Option.none : Option Jvm.ClassFile.FieldType)) ∈ lw_all := lw_g (lw_at lw_m1 66 rfl) rfl
theorem q1150 : (Jvm.Cond.instanceMethod ({ cls := "java/lang/Object", name := "getClass", desc := "()Ljava/lang/Class;" } : Jvm.MethodName)) ∈ lw_all := lw_g (lw_at lw_m5 46 rfl) rfl
theorem q1151 : (Jvm.Cond.sameMethod "java/lang/Object" "java/lang/Object" "getClass" "()Ljava/lang/Class;") ∈ lw_all := lw_g (lw_at lw_m5 47 rfl) rfl
theorem q1188 : (Jvm.Cond.native ({ cls := "java/lang/Object", name := "getClass", desc := "()Ljava/lang/Class;" } : Jvm.MethodName)) ∈ lw_all := lw_g (lw_at lw_m5 84 rfl) rfl
theorem q3168 : (Jvm.Cond.declares ({ cls := "java/lang/Object", name := "getClass", desc := "()Ljava/lang/Class;" } : Jvm.MethodName)) ∈ lw_tbl := lw_at lw_m13 144 rfl
/-! java/util/AbstractCollection -/
set_option maxRecDepth 100000
def RJ2 : String := "java/util/AbstractCollection"
abbrev cJ2_init : ByteArray := prog_56_method_1_code
def yJ2_init : MethodName := ⟨RJ2, "<init>", "()V"⟩
theorem dJ2_init_0 : decode cJ2_init 0 = .ok (.aload_n 0, 1) := by decide +kernel
theorem dJ2_init_1 : decode cJ2_init 1 = .ok (.invokespecial 1, 3) := by decide +kernel
theorem dJ2_init_4 : decode cJ2_init 4 = .ok (.return_, 1) := by decide +kernel
theorem q153 : (Jvm.Cond.initialized "java/util/AbstractCollection") ∈ lw_all := lw_g (lw_at lw_m1 9 rfl) rfl
theorem q528 : (Jvm.Cond.instanceMethod ({ cls := "java/util/AbstractCollection", name := "<init>", desc := "()V" } : Jvm.MethodName)) ∈ lw_all := lw_g (lw_at lw_m2 144 rfl) rfl
theorem q529 : (Jvm.Cond.code ({ cls := "java/util/AbstractCollection", name := "<init>", desc := "()V" } : Jvm.MethodName) prog_56_method_1_code (1 : Nat) (Option.none : Option Jvm.ClassFile.FieldType)) ∈ lw_all := lw_g (lw_at lw_m2 145 rfl) rfl
theorem q530 : (Jvm.Cond.methodLink "java/util/AbstractCollection" (1 : Nat) ({ cls := "java/lang/Object", name := "<init>", desc := "()V" } : Jvm.MethodName)) ∈ lw_all := lw_g (lw_at lw_m2 146 rfl) rfl
/-! java/util/AbstractList -/
set_option maxRecDepth 100000
def RJ3 : String := "java/util/AbstractList"
abbrev cJ3_init : ByteArray := prog_57_method_1_code
def yJ3_init : MethodName := ⟨RJ3, "<init>", "()V"⟩
def dkwJ3_init_0 : List UInt8 := [42, 183, 0, 1, 42, 3, 181, 0, 7, 177]
abbrev dktJ3_init_0 : List UInt8 := dkwJ3_init_0 ++ []
theorem dksJ3_init_0 : cJ3_init.data.toList.drop 0 = dktJ3_init_0 := by decide +kernel
theorem dJ3_init_0 : decode cJ3_init 0 = .ok (.aload_n 0, 1) := dk_42 (dk_at dksJ3_init_0 0 rfl rfl)
theorem dJ3_init_1 : decode cJ3_init 1 = .ok (.invokespecial 1, 3) := dk_183 0 1 (dk_at dksJ3_init_0 1 rfl rfl)
theorem dJ3_init_4 : decode cJ3_init 4 = .ok (.aload_n 0, 1) := dk_42 (dk_at dksJ3_init_0 4 rfl rfl)
theorem dJ3_init_5 : decode cJ3_init 5 = .ok (.iconst 0, 1) := dk_3 (dk_at dksJ3_init_0 5 rfl rfl)
theorem dJ3_init_6 : decode cJ3_init 6 = .ok (.putfield 7, 3) := dk_181 0 7 (dk_at dksJ3_init_0 6 rfl rfl)
theorem dJ3_init_9 : decode cJ3_init 9 = .ok (.return_, 1) := dk_177 (dk_at dksJ3_init_0 9 rfl rfl)
theorem q154 : (Jvm.Cond.initialized "java/util/AbstractList") ∈ lw_all := lw_g (lw_at lw_m1 10 rfl) rfl
theorem q525 : (Jvm.Cond.instanceMethod ({ cls := "java/util/AbstractList", name := "<init>", desc := "()V" } : Jvm.MethodName)) ∈ lw_all := lw_g (lw_at lw_m2 141 rfl) rfl
theorem q526 : (Jvm.Cond.code ({ cls := "java/util/AbstractList", name := "<init>", desc := "()V" } : Jvm.MethodName) prog_57_method_1_code (1 : Nat) (Option.none : Option Jvm.ClassFile.FieldType)) ∈ lw_all := lw_g (lw_at lw_m2 142 rfl) rfl
theorem q527 : (Jvm.Cond.methodLink "java/util/AbstractList" (1 : Nat) ({ cls := "java/util/AbstractCollection", name := "<init>", desc := "()V" } : Jvm.MethodName)) ∈ lw_all := lw_g (lw_at lw_m2 143 rfl) rfl
theorem q535 : (Jvm.Cond.fieldLink "java/util/AbstractList" (7 : Nat) "java/util/AbstractList" "modCount" "I") ∈ lw_all := lw_g (lw_at lw_m2 151 rfl) rfl
theorem q543 : (Jvm.Cond.soleField "java/util/AbstractList" "modCount") ∈ lw_all := lw_g (lw_at lw_m2 159 rfl) rfl
/-! java/util/ArrayList -/
set_option maxRecDepth 100000
def RJ4 : String := "java/util/ArrayList"
def TJ4 : u_T := fun k => match k with
  | 0 => ("java/util/AbstractList", "modCount", "I", false)
  | 1 => ("java/util/ArrayList", "elementData", "[Ljava/lang/Object;", false)
  | _ => ("java/util/ArrayList", "size", "I", false)
def tyJ4 : Nat → FieldType := fun k => match k with
  | 0 => .int
  | 1 => .array (.object "java/lang/Object")
  | _ => .int
abbrev wsJ40 : List Cond := u_ws RJ4 TJ4 3
theorem nmJ4 : ∀ a, a < 3 → ∀ b, b < 3 → a ≠ b → (TJ4 a).2.1 ≠ (TJ4 b).2.1 := by decide +kernel
theorem tyJ4_ok : ∀ k, k < 3 → parseFieldDescriptor (TJ4 k).2.2.1 = some (tyJ4 k) := by decide +kernel
abbrev cJ4_init : ByteArray := prog_58_method_2_code
def yJ4_init : MethodName := ⟨RJ4, "<init>", "()V"⟩
def dkwJ4_init_0 : List UInt8 := [42, 183, 0, 1, 42, 178, 0, 39, 181, 0, 9, 177]
abbrev dktJ4_init_0 : List UInt8 := dkwJ4_init_0 ++ []
theorem dksJ4_init_0 : cJ4_init.data.toList.drop 0 = dktJ4_init_0 := by decide +kernel
theorem dJ4_init_0 : decode cJ4_init 0 = .ok (.aload_n 0, 1) := dk_42 (dk_at dksJ4_init_0 0 rfl rfl)
theorem dJ4_init_1 : decode cJ4_init 1 = .ok (.invokespecial 1, 3) := dk_183 0 1 (dk_at dksJ4_init_0 1 rfl rfl)
theorem dJ4_init_4 : decode cJ4_init 4 = .ok (.aload_n 0, 1) := dk_42 (dk_at dksJ4_init_0 4 rfl rfl)
theorem dJ4_init_5 : decode cJ4_init 5 = .ok (.getstatic 39, 3) := dk_178 0 39 (dk_at dksJ4_init_0 5 rfl rfl)
theorem dJ4_init_8 : decode cJ4_init 8 = .ok (.putfield 9, 3) := dk_181 0 9 (dk_at dksJ4_init_0 8 rfl rfl)
theorem dJ4_init_11 : decode cJ4_init 11 = .ok (.return_, 1) := dk_177 (dk_at dksJ4_init_0 11 rfl rfl)
abbrev cJ4_add : ByteArray := prog_58_method_25_code
def yJ4_add : MethodName := ⟨RJ4, "add", "(Ljava/lang/Object;)Z"⟩
def dkwJ4_add_1 : List UInt8 := [172]
abbrev dktJ4_add_1 : List UInt8 := dkwJ4_add_1 ++ []
def dkwJ4_add_0 : List UInt8 := [42, 89, 180, 0, 63, 4, 96, 181, 0, 63, 42, 43, 42, 180, 0, 9, 42, 180, 0, 48, 182, 0, 131, 4]
abbrev dktJ4_add_0 : List UInt8 := dkwJ4_add_0 ++ dktJ4_add_1
theorem dksJ4_add_0 : cJ4_add.data.toList.drop 0 = dktJ4_add_0 := by decide +kernel
theorem dksJ4_add_1 : cJ4_add.data.toList.drop 24 = dktJ4_add_1 := dk_seg dksJ4_add_0 24 rfl rfl
theorem dJ4_add_0 : decode cJ4_add 0 = .ok (.aload_n 0, 1) := dk_42 (dk_at dksJ4_add_0 0 rfl rfl)
theorem dJ4_add_1 : decode cJ4_add 1 = .ok (.dup, 1) := dk_89 (dk_at dksJ4_add_0 1 rfl rfl)
theorem dJ4_add_2 : decode cJ4_add 2 = .ok (.getfield 63, 3) := dk_180 0 63 (dk_at dksJ4_add_0 2 rfl rfl)
theorem dJ4_add_5 : decode cJ4_add 5 = .ok (.iconst 1, 1) := dk_4 (dk_at dksJ4_add_0 5 rfl rfl)
theorem dJ4_add_6 : decode cJ4_add 6 = .ok (.iadd, 1) := dk_96 (dk_at dksJ4_add_0 6 rfl rfl)
theorem dJ4_add_7 : decode cJ4_add 7 = .ok (.putfield 63, 3) := dk_181 0 63 (dk_at dksJ4_add_0 7 rfl rfl)
theorem dJ4_add_10 : decode cJ4_add 10 = .ok (.aload_n 0, 1) := dk_42 (dk_at dksJ4_add_0 10 rfl rfl)
theorem dJ4_add_11 : decode cJ4_add 11 = .ok (.aload_n 1, 1) := dk_43 (dk_at dksJ4_add_0 11 rfl rfl)
theorem dJ4_add_12 : decode cJ4_add 12 = .ok (.aload_n 0, 1) := dk_42 (dk_at dksJ4_add_0 12 rfl rfl)
theorem dJ4_add_13 : decode cJ4_add 13 = .ok (.getfield 9, 3) := dk_180 0 9 (dk_at dksJ4_add_0 13 rfl rfl)
theorem dJ4_add_16 : decode cJ4_add 16 = .ok (.aload_n 0, 1) := dk_42 (dk_at dksJ4_add_0 16 rfl rfl)
theorem dJ4_add_17 : decode cJ4_add 17 = .ok (.getfield 48, 3) := dk_180 0 48 (dk_at dksJ4_add_0 17 rfl rfl)
theorem dJ4_add_20 : decode cJ4_add 20 = .ok (.invokevirtual 131, 3) := dk_182 0 131 (dk_at dksJ4_add_0 20 rfl rfl)
theorem dJ4_add_23 : decode cJ4_add 23 = .ok (.iconst 1, 1) := dk_4 (dk_at dksJ4_add_0 23 rfl rfl)
theorem dJ4_add_24 : decode cJ4_add 24 = .ok (.ireturn, 1) := dk_172 (dk_at dksJ4_add_1 0 rfl rfl)
abbrev cJ4_add_2 : ByteArray := prog_58_method_24_code
def yJ4_add_2 : MethodName := ⟨RJ4, "add", "(Ljava/lang/Object;[Ljava/lang/Object;I)V"⟩
def dkwJ4_add_2_0 : List UInt8 := [29, 44, 190, 160, 0, 8, 42, 182, 0, 129, 77, 44, 29, 43, 83, 42, 29, 4, 96, 181, 0, 48, 177]
abbrev dktJ4_add_2_0 : List UInt8 := dkwJ4_add_2_0 ++ []
theorem dksJ4_add_2_0 : cJ4_add_2.data.toList.drop 0 = dktJ4_add_2_0 := by decide +kernel
theorem dJ4_add_2_0 : decode cJ4_add_2 0 = .ok (.iload_n 3, 1) := dk_29 (dk_at dksJ4_add_2_0 0 rfl rfl)
theorem dJ4_add_2_1 : decode cJ4_add_2 1 = .ok (.aload_n 2, 1) := dk_44 (dk_at dksJ4_add_2_0 1 rfl rfl)
theorem dJ4_add_2_2 : decode cJ4_add_2 2 = .ok (.arraylength, 1) := dk_190 (dk_at dksJ4_add_2_0 2 rfl rfl)
theorem dJ4_add_2_3 : decode cJ4_add_2 3 = .ok (.if_icmp .ne 8, 3) := dk_160 0 8 (dk_at dksJ4_add_2_0 3 rfl rfl)
theorem dJ4_add_2_6 : decode cJ4_add_2 6 = .ok (.aload_n 0, 1) := dk_42 (dk_at dksJ4_add_2_0 6 rfl rfl)
theorem dJ4_add_2_7 : decode cJ4_add_2 7 = .ok (.invokevirtual 129, 3) := dk_182 0 129 (dk_at dksJ4_add_2_0 7 rfl rfl)
theorem dJ4_add_2_10 : decode cJ4_add_2 10 = .ok (.astore_n 2, 1) := dk_77 (dk_at dksJ4_add_2_0 10 rfl rfl)
theorem dJ4_add_2_11 : decode cJ4_add_2 11 = .ok (.aload_n 2, 1) := dk_44 (dk_at dksJ4_add_2_0 11 rfl rfl)
theorem dJ4_add_2_12 : decode cJ4_add_2 12 = .ok (.iload_n 3, 1) := dk_29 (dk_at dksJ4_add_2_0 12 rfl rfl)
theorem dJ4_add_2_13 : decode cJ4_add_2 13 = .ok (.aload_n 1, 1) := dk_43 (dk_at dksJ4_add_2_0 13 rfl rfl)
theorem dJ4_add_2_14 : decode cJ4_add_2 14 = .ok (.aastore, 1) := dk_83 (dk_at dksJ4_add_2_0 14 rfl rfl)
theorem dJ4_add_2_15 : decode cJ4_add_2 15 = .ok (.aload_n 0, 1) := dk_42 (dk_at dksJ4_add_2_0 15 rfl rfl)
theorem dJ4_add_2_16 : decode cJ4_add_2 16 = .ok (.iload_n 3, 1) := dk_29 (dk_at dksJ4_add_2_0 16 rfl rfl)
theorem dJ4_add_2_17 : decode cJ4_add_2 17 = .ok (.iconst 1, 1) := dk_4 (dk_at dksJ4_add_2_0 17 rfl rfl)
theorem dJ4_add_2_18 : decode cJ4_add_2 18 = .ok (.iadd, 1) := dk_96 (dk_at dksJ4_add_2_0 18 rfl rfl)
theorem dJ4_add_2_19 : decode cJ4_add_2 19 = .ok (.putfield 48, 3) := dk_181 0 48 (dk_at dksJ4_add_2_0 19 rfl rfl)
theorem dJ4_add_2_22 : decode cJ4_add_2 22 = .ok (.return_, 1) := dk_177 (dk_at dksJ4_add_2_0 22 rfl rfl)
abbrev cJ4_grow : ByteArray := prog_58_method_7_code
def yJ4_grow : MethodName := ⟨RJ4, "grow", "()[Ljava/lang/Object;"⟩
def dkwJ4_grow_0 : List UInt8 := [42, 42, 180, 0, 48, 4, 96, 182, 0, 69, 176]
abbrev dktJ4_grow_0 : List UInt8 := dkwJ4_grow_0 ++ []
theorem dksJ4_grow_0 : cJ4_grow.data.toList.drop 0 = dktJ4_grow_0 := by decide +kernel
theorem dJ4_grow_0 : decode cJ4_grow 0 = .ok (.aload_n 0, 1) := dk_42 (dk_at dksJ4_grow_0 0 rfl rfl)
theorem dJ4_grow_1 : decode cJ4_grow 1 = .ok (.aload_n 0, 1) := dk_42 (dk_at dksJ4_grow_0 1 rfl rfl)
theorem dJ4_grow_2 : decode cJ4_grow 2 = .ok (.getfield 48, 3) := dk_180 0 48 (dk_at dksJ4_grow_0 2 rfl rfl)
theorem dJ4_grow_5 : decode cJ4_grow 5 = .ok (.iconst 1, 1) := dk_4 (dk_at dksJ4_grow_0 5 rfl rfl)
theorem dJ4_grow_6 : decode cJ4_grow 6 = .ok (.iadd, 1) := dk_96 (dk_at dksJ4_grow_0 6 rfl rfl)
theorem dJ4_grow_7 : decode cJ4_grow 7 = .ok (.invokevirtual 69, 3) := dk_182 0 69 (dk_at dksJ4_grow_0 7 rfl rfl)
theorem dJ4_grow_10 : decode cJ4_grow 10 = .ok (.areturn, 1) := dk_176 (dk_at dksJ4_grow_0 10 rfl rfl)
abbrev cJ4_grow_2 : ByteArray := prog_58_method_6_code
def yJ4_grow_2 : MethodName := ⟨RJ4, "grow", "(I)[Ljava/lang/Object;"⟩
def dkwJ4_grow_2_2 : List UInt8 := [27, 184, 0, 79, 189, 0, 7, 90, 181, 0, 9, 176]
abbrev dktJ4_grow_2_2 : List UInt8 := dkwJ4_grow_2_2 ++ []
def dkwJ4_grow_2_1 : List UInt8 := [28, 4, 122, 184, 0, 73, 62, 42, 42, 180, 0, 9, 29, 184, 0, 66, 90, 181, 0, 9, 176, 42, 16, 10]
abbrev dktJ4_grow_2_1 : List UInt8 := dkwJ4_grow_2_1 ++ dktJ4_grow_2_2
def dkwJ4_grow_2_0 : List UInt8 := [42, 180, 0, 9, 190, 61, 28, 157, 0, 13, 42, 180, 0, 9, 178, 0, 39, 165, 0, 28, 28, 27, 28, 100]
abbrev dktJ4_grow_2_0 : List UInt8 := dkwJ4_grow_2_0 ++ dktJ4_grow_2_1
theorem dksJ4_grow_2_0 : cJ4_grow_2.data.toList.drop 0 = dktJ4_grow_2_0 := by decide +kernel
theorem dksJ4_grow_2_1 : cJ4_grow_2.data.toList.drop 24 = dktJ4_grow_2_1 := dk_seg dksJ4_grow_2_0 24 rfl rfl
theorem dksJ4_grow_2_2 : cJ4_grow_2.data.toList.drop 48 = dktJ4_grow_2_2 := dk_seg dksJ4_grow_2_1 24 rfl rfl
theorem dJ4_grow_2_0 : decode cJ4_grow_2 0 = .ok (.aload_n 0, 1) := dk_42 (dk_at dksJ4_grow_2_0 0 rfl rfl)
theorem dJ4_grow_2_1 : decode cJ4_grow_2 1 = .ok (.getfield 9, 3) := dk_180 0 9 (dk_at dksJ4_grow_2_0 1 rfl rfl)
theorem dJ4_grow_2_4 : decode cJ4_grow_2 4 = .ok (.arraylength, 1) := dk_190 (dk_at dksJ4_grow_2_0 4 rfl rfl)
theorem dJ4_grow_2_5 : decode cJ4_grow_2 5 = .ok (.istore_n 2, 1) := dk_61 (dk_at dksJ4_grow_2_0 5 rfl rfl)
theorem dJ4_grow_2_6 : decode cJ4_grow_2 6 = .ok (.iload_n 2, 1) := dk_28 (dk_at dksJ4_grow_2_0 6 rfl rfl)
theorem dJ4_grow_2_7 : decode cJ4_grow_2 7 = .ok (.ifCond .gt 13, 3) := dk_157 0 13 (dk_at dksJ4_grow_2_0 7 rfl rfl)
theorem dJ4_grow_2_10 : decode cJ4_grow_2 10 = .ok (.aload_n 0, 1) := dk_42 (dk_at dksJ4_grow_2_0 10 rfl rfl)
theorem dJ4_grow_2_11 : decode cJ4_grow_2 11 = .ok (.getfield 9, 3) := dk_180 0 9 (dk_at dksJ4_grow_2_0 11 rfl rfl)
theorem dJ4_grow_2_14 : decode cJ4_grow_2 14 = .ok (.getstatic 39, 3) := dk_178 0 39 (dk_at dksJ4_grow_2_0 14 rfl rfl)
theorem dJ4_grow_2_17 : decode cJ4_grow_2 17 = .ok (.if_acmp .eq 28, 3) := dk_165 0 28 (dk_at dksJ4_grow_2_0 17 rfl rfl)
theorem dJ4_grow_2_20 : decode cJ4_grow_2 20 = .ok (.iload_n 2, 1) := dk_28 (dk_at dksJ4_grow_2_0 20 rfl rfl)
theorem dJ4_grow_2_21 : decode cJ4_grow_2 21 = .ok (.iload_n 1, 1) := dk_27 (dk_at dksJ4_grow_2_0 21 rfl rfl)
theorem dJ4_grow_2_22 : decode cJ4_grow_2 22 = .ok (.iload_n 2, 1) := dk_28 (dk_at dksJ4_grow_2_0 22 rfl rfl)
theorem dJ4_grow_2_23 : decode cJ4_grow_2 23 = .ok (.isub, 1) := dk_100 (dk_at dksJ4_grow_2_0 23 rfl rfl)
theorem dJ4_grow_2_24 : decode cJ4_grow_2 24 = .ok (.iload_n 2, 1) := dk_28 (dk_at dksJ4_grow_2_1 0 rfl rfl)
theorem dJ4_grow_2_25 : decode cJ4_grow_2 25 = .ok (.iconst 1, 1) := dk_4 (dk_at dksJ4_grow_2_1 1 rfl rfl)
theorem dJ4_grow_2_26 : decode cJ4_grow_2 26 = .ok (.ishr, 1) := dk_122 (dk_at dksJ4_grow_2_1 2 rfl rfl)
theorem dJ4_grow_2_27 : decode cJ4_grow_2 27 = .ok (.invokestatic 73, 3) := dk_184 0 73 (dk_at dksJ4_grow_2_1 3 rfl rfl)
theorem dJ4_grow_2_30 : decode cJ4_grow_2 30 = .ok (.istore_n 3, 1) := dk_62 (dk_at dksJ4_grow_2_1 6 rfl rfl)
theorem dJ4_grow_2_31 : decode cJ4_grow_2 31 = .ok (.aload_n 0, 1) := dk_42 (dk_at dksJ4_grow_2_1 7 rfl rfl)
theorem dJ4_grow_2_32 : decode cJ4_grow_2 32 = .ok (.aload_n 0, 1) := dk_42 (dk_at dksJ4_grow_2_1 8 rfl rfl)
theorem dJ4_grow_2_33 : decode cJ4_grow_2 33 = .ok (.getfield 9, 3) := dk_180 0 9 (dk_at dksJ4_grow_2_1 9 rfl rfl)
theorem dJ4_grow_2_36 : decode cJ4_grow_2 36 = .ok (.iload_n 3, 1) := dk_29 (dk_at dksJ4_grow_2_1 12 rfl rfl)
theorem dJ4_grow_2_37 : decode cJ4_grow_2 37 = .ok (.invokestatic 66, 3) := dk_184 0 66 (dk_at dksJ4_grow_2_1 13 rfl rfl)
theorem dJ4_grow_2_40 : decode cJ4_grow_2 40 = .ok (.dup_x1, 1) := dk_90 (dk_at dksJ4_grow_2_1 16 rfl rfl)
theorem dJ4_grow_2_41 : decode cJ4_grow_2 41 = .ok (.putfield 9, 3) := dk_181 0 9 (dk_at dksJ4_grow_2_1 17 rfl rfl)
theorem dJ4_grow_2_44 : decode cJ4_grow_2 44 = .ok (.areturn, 1) := dk_176 (dk_at dksJ4_grow_2_1 20 rfl rfl)
theorem dJ4_grow_2_45 : decode cJ4_grow_2 45 = .ok (.aload_n 0, 1) := dk_42 (dk_at dksJ4_grow_2_1 21 rfl rfl)
theorem dJ4_grow_2_46 : decode cJ4_grow_2 46 = .ok (.bipush 10, 2) := dk_16 10 (dk_at dksJ4_grow_2_1 22 rfl rfl)
theorem dJ4_grow_2_48 : decode cJ4_grow_2 48 = .ok (.iload_n 1, 1) := dk_27 (dk_at dksJ4_grow_2_2 0 rfl rfl)
theorem dJ4_grow_2_49 : decode cJ4_grow_2 49 = .ok (.invokestatic 79, 3) := dk_184 0 79 (dk_at dksJ4_grow_2_2 1 rfl rfl)
theorem dJ4_grow_2_52 : decode cJ4_grow_2 52 = .ok (.anewarray 7, 3) := dk_189 0 7 (dk_at dksJ4_grow_2_2 4 rfl rfl)
theorem dJ4_grow_2_55 : decode cJ4_grow_2 55 = .ok (.dup_x1, 1) := dk_90 (dk_at dksJ4_grow_2_2 7 rfl rfl)
theorem dJ4_grow_2_56 : decode cJ4_grow_2 56 = .ok (.putfield 9, 3) := dk_181 0 9 (dk_at dksJ4_grow_2_2 8 rfl rfl)
theorem dJ4_grow_2_59 : decode cJ4_grow_2 59 = .ok (.areturn, 1) := dk_176 (dk_at dksJ4_grow_2_2 11 rfl rfl)
abbrev cJ4_size : ByteArray := prog_58_method_8_code
def yJ4_size : MethodName := ⟨RJ4, "size", "()I"⟩
theorem dJ4_size_0 : decode cJ4_size 0 = .ok (.aload_n 0, 1) := by decide +kernel
theorem dJ4_size_1 : decode cJ4_size 1 = .ok (.getfield 48, 3) := by decide +kernel
theorem dJ4_size_4 : decode cJ4_size 4 = .ok (.ireturn, 1) := by decide +kernel
abbrev cJ4_get : ByteArray := prog_58_method_20_code
def yJ4_get : MethodName := ⟨RJ4, "get", "(I)Ljava/lang/Object;"⟩
def dkwJ4_get_0 : List UInt8 := [27, 42, 180, 0, 48, 184, 0, 118, 87, 42, 27, 182, 0, 123, 176]
abbrev dktJ4_get_0 : List UInt8 := dkwJ4_get_0 ++ []
theorem dksJ4_get_0 : cJ4_get.data.toList.drop 0 = dktJ4_get_0 := by decide +kernel
theorem dJ4_get_0 : decode cJ4_get 0 = .ok (.iload_n 1, 1) := dk_27 (dk_at dksJ4_get_0 0 rfl rfl)
theorem dJ4_get_1 : decode cJ4_get 1 = .ok (.aload_n 0, 1) := dk_42 (dk_at dksJ4_get_0 1 rfl rfl)
theorem dJ4_get_2 : decode cJ4_get 2 = .ok (.getfield 48, 3) := dk_180 0 48 (dk_at dksJ4_get_0 2 rfl rfl)
theorem dJ4_get_5 : decode cJ4_get 5 = .ok (.invokestatic 118, 3) := dk_184 0 118 (dk_at dksJ4_get_0 5 rfl rfl)
theorem dJ4_get_8 : decode cJ4_get 8 = .ok (.pop, 1) := dk_87 (dk_at dksJ4_get_0 8 rfl rfl)
theorem dJ4_get_9 : decode cJ4_get 9 = .ok (.aload_n 0, 1) := dk_42 (dk_at dksJ4_get_0 9 rfl rfl)
theorem dJ4_get_10 : decode cJ4_get 10 = .ok (.iload_n 1, 1) := dk_27 (dk_at dksJ4_get_0 10 rfl rfl)
theorem dJ4_get_11 : decode cJ4_get 11 = .ok (.invokevirtual 123, 3) := dk_182 0 123 (dk_at dksJ4_get_0 11 rfl rfl)
theorem dJ4_get_14 : decode cJ4_get 14 = .ok (.areturn, 1) := dk_176 (dk_at dksJ4_get_0 14 rfl rfl)
abbrev cJ4_elementData : ByteArray := prog_58_method_18_code
def yJ4_elementData : MethodName := ⟨RJ4, "elementData", "(I)Ljava/lang/Object;"⟩
def dkwJ4_elementData_0 : List UInt8 := [42, 180, 0, 9, 27, 50, 176]
abbrev dktJ4_elementData_0 : List UInt8 := dkwJ4_elementData_0 ++ []
theorem dksJ4_elementData_0 : cJ4_elementData.data.toList.drop 0 = dktJ4_elementData_0 := by decide +kernel
theorem dJ4_elementData_0 : decode cJ4_elementData 0 = .ok (.aload_n 0, 1) := dk_42 (dk_at dksJ4_elementData_0 0 rfl rfl)
theorem dJ4_elementData_1 : decode cJ4_elementData 1 = .ok (.getfield 9, 3) := dk_180 0 9 (dk_at dksJ4_elementData_0 1 rfl rfl)
theorem dJ4_elementData_4 : decode cJ4_elementData 4 = .ok (.iload_n 1, 1) := dk_27 (dk_at dksJ4_elementData_0 4 rfl rfl)
theorem dJ4_elementData_5 : decode cJ4_elementData 5 = .ok (.aaload, 1) := dk_50 (dk_at dksJ4_elementData_0 5 rfl rfl)
theorem dJ4_elementData_6 : decode cJ4_elementData 6 = .ok (.areturn, 1) := dk_176 (dk_at dksJ4_elementData_0 6 rfl rfl)
abbrev cJ4_isEmpty : ByteArray := prog_58_method_9_code
def yJ4_isEmpty : MethodName := ⟨RJ4, "isEmpty", "()Z"⟩
def dkwJ4_isEmpty_0 : List UInt8 := [42, 180, 0, 48, 154, 0, 7, 4, 167, 0, 4, 3, 172]
abbrev dktJ4_isEmpty_0 : List UInt8 := dkwJ4_isEmpty_0 ++ []
theorem dksJ4_isEmpty_0 : cJ4_isEmpty.data.toList.drop 0 = dktJ4_isEmpty_0 := by decide +kernel
theorem dJ4_isEmpty_0 : decode cJ4_isEmpty 0 = .ok (.aload_n 0, 1) := dk_42 (dk_at dksJ4_isEmpty_0 0 rfl rfl)
theorem dJ4_isEmpty_1 : decode cJ4_isEmpty 1 = .ok (.getfield 48, 3) := dk_180 0 48 (dk_at dksJ4_isEmpty_0 1 rfl rfl)
theorem dJ4_isEmpty_4 : decode cJ4_isEmpty 4 = .ok (.ifCond .ne 7, 3) := dk_154 0 7 (dk_at dksJ4_isEmpty_0 4 rfl rfl)
theorem dJ4_isEmpty_7 : decode cJ4_isEmpty 7 = .ok (.iconst 1, 1) := dk_4 (dk_at dksJ4_isEmpty_0 7 rfl rfl)
theorem dJ4_isEmpty_8 : decode cJ4_isEmpty 8 = .ok (.goto 4, 3) := dk_167 0 4 (dk_at dksJ4_isEmpty_0 8 rfl rfl)
theorem dJ4_isEmpty_11 : decode cJ4_isEmpty 11 = .ok (.iconst 0, 1) := dk_3 (dk_at dksJ4_isEmpty_0 11 rfl rfl)
theorem dJ4_isEmpty_12 : decode cJ4_isEmpty 12 = .ok (.ireturn, 1) := dk_172 (dk_at dksJ4_isEmpty_0 12 rfl rfl)
theorem q155 : (Jvm.Cond.initialized "java/util/ArrayList") ∈ lw_all := lw_g (lw_at lw_m1 11 rfl) rfl
theorem q520 : (Jvm.Cond.instantiable "java/util/ArrayList" (3 : Nat)) ∈ lw_all := lw_g (lw_at lw_m2 136 rfl) rfl
theorem q522 : (Jvm.Cond.instanceMethod ({ cls := "java/util/ArrayList", name := "<init>", desc := "()V" } : Jvm.MethodName)) ∈ lw_all := lw_g (lw_at lw_m2 138 rfl) rfl
theorem q523 : (Jvm.Cond.code ({ cls := "java/util/ArrayList", name := "<init>", desc := "()V" } : Jvm.MethodName) prog_58_method_2_code (1 : Nat) (Option.none : Option Jvm.ClassFile.FieldType)) ∈ lw_all := lw_g (lw_at lw_m2 139 rfl) rfl
theorem q524 : (Jvm.Cond.methodLink "java/util/ArrayList" (1 : Nat) ({ cls := "java/util/AbstractList", name := "<init>", desc := "()V" } : Jvm.MethodName)) ∈ lw_all := lw_g (lw_at lw_m2 140 rfl) rfl
theorem q531 : (Jvm.Cond.fieldLink "java/util/ArrayList" (39 : Nat) "java/util/ArrayList" "DEFAULTCAPACITY_EMPTY_ELEMENTDATA" "[Ljava/lang/Object;") ∈ lw_all := lw_g (lw_at lw_m2 147 rfl) rfl
theorem q532 : (Jvm.Cond.laysStatic "java/util/ArrayList" "DEFAULTCAPACITY_EMPTY_ELEMENTDATA" "[Ljava/lang/Object;") ∈ lw_tbl := lw_at lw_m2 148 rfl
theorem q533 : (Jvm.Cond.fieldLink "java/util/ArrayList" (9 : Nat) "java/util/ArrayList" "elementData" "[Ljava/lang/Object;") ∈ lw_all := lw_g (lw_at lw_m2 149 rfl) rfl
theorem q534 : (Jvm.Cond.fieldLink "java/util/ArrayList" (48 : Nat) "java/util/ArrayList" "size" "I") ∈ lw_all := lw_g (lw_at lw_m2 150 rfl) rfl
theorem q536 : (Jvm.Cond.fieldLink "java/util/ArrayList" (63 : Nat) "java/util/ArrayList" "modCount" "I") ∈ lw_all := lw_g (lw_at lw_m2 152 rfl) rfl
theorem q537 : (Jvm.Cond.sameField "java/util/ArrayList" "java/util/AbstractList" "modCount" "I") ∈ lw_all := lw_g (lw_at lw_m2 153 rfl) rfl
theorem q538 : (Jvm.Cond.lays "java/util/ArrayList" "java/util/ArrayList" "elementData" "[Ljava/lang/Object;") ∈ lw_all := lw_g (lw_at lw_m2 154 rfl) rfl
theorem q539 : (Jvm.Cond.soleField "java/util/ArrayList" "elementData") ∈ lw_all := lw_g (lw_at lw_m2 155 rfl) rfl
theorem q540 : (Jvm.Cond.lays "java/util/ArrayList" "java/util/ArrayList" "size" "I") ∈ lw_all := lw_g (lw_at lw_m2 156 rfl) rfl
theorem q541 : (Jvm.Cond.soleField "java/util/ArrayList" "size") ∈ lw_all := lw_g (lw_at lw_m2 157 rfl) rfl
theorem q542 : (Jvm.Cond.lays "java/util/ArrayList" "java/util/AbstractList" "modCount" "I") ∈ lw_all := lw_g (lw_at lw_m2 158 rfl) rfl
theorem q544 : (Jvm.Cond.superclass "java/util/ArrayList" "java/util/AbstractList") ∈ lw_all := lw_g (lw_at lw_m2 160 rfl) rfl
theorem q1118 : (Jvm.Cond.castable "java/util/ArrayList" "java/util/List") ∈ lw_tbl := lw_at lw_m5 14 rfl
theorem q1119 : (Jvm.Cond.selects "java/util/ArrayList" ({ cls := "java/util/List", name := "add", desc := "(Ljava/lang/Object;)Z" } : Jvm.MethodName) ({ cls := "java/util/ArrayList", name := "add", desc := "(Ljava/lang/Object;)Z" } : Jvm.MethodName)) ∈ lw_all := lw_g (lw_at lw_m5 15 rfl) rfl
theorem q1120 : (Jvm.Cond.unhidden "java/util/ArrayList" "add" "(Ljava/lang/Object;)Z") ∈ lw_tbl := lw_at lw_m5 16 rfl
theorem q1121 : (Jvm.Cond.instanceMethod ({ cls := "java/util/ArrayList", name := "add", desc := "(Ljava/lang/Object;)Z" } : Jvm.MethodName)) ∈ lw_all := lw_g (lw_at lw_m5 17 rfl) rfl
theorem q1122 : (Jvm.Cond.publicMethod ({ cls := "java/util/ArrayList", name := "add", desc := "(Ljava/lang/Object;)Z" } : Jvm.MethodName)) ∈ lw_tbl := lw_at lw_m5 18 rfl
theorem q1123 : (Jvm.Cond.code ({ cls := "java/util/ArrayList", name := "add", desc := "(Ljava/lang/Object;)Z" } : Jvm.MethodName) prog_58_method_25_code (2 : Nat) (Option.some Jvm.ClassFile.FieldType.boolean)) ∈ lw_all := lw_g (lw_at lw_m5 19 rfl) rfl
theorem q1124 : (Jvm.Cond.methodLink "java/util/ArrayList" (131 : Nat) ({ cls := "java/util/ArrayList", name := "add", desc := "(Ljava/lang/Object;[Ljava/lang/Object;I)V" } : Jvm.MethodName)) ∈ lw_all := lw_g (lw_at lw_m5 20 rfl) rfl
theorem q1125 : (Jvm.Cond.privateMethod ({ cls := "java/util/ArrayList", name := "add", desc := "(Ljava/lang/Object;[Ljava/lang/Object;I)V" } : Jvm.MethodName)) ∈ lw_tbl := lw_at lw_m5 21 rfl
theorem q1126 : (Jvm.Cond.instanceMethod ({ cls := "java/util/ArrayList", name := "add", desc := "(Ljava/lang/Object;[Ljava/lang/Object;I)V" } : Jvm.MethodName)) ∈ lw_all := lw_g (lw_at lw_m5 22 rfl) rfl
theorem q1127 : (Jvm.Cond.code ({ cls := "java/util/ArrayList", name := "add", desc := "(Ljava/lang/Object;[Ljava/lang/Object;I)V" } : Jvm.MethodName) prog_58_method_24_code (4 : Nat) (Option.none : Option Jvm.ClassFile.FieldType)) ∈ lw_all := lw_g (lw_at lw_m5 23 rfl) rfl
theorem q1128 : (Jvm.Cond.methodLink "java/util/ArrayList" (129 : Nat) ({ cls := "java/util/ArrayList", name := "grow", desc := "()[Ljava/lang/Object;" } : Jvm.MethodName)) ∈ lw_all := lw_g (lw_at lw_m5 24 rfl) rfl
theorem q1129 : (Jvm.Cond.privateMethod ({ cls := "java/util/ArrayList", name := "grow", desc := "()[Ljava/lang/Object;" } : Jvm.MethodName)) ∈ lw_tbl := lw_at lw_m5 25 rfl
theorem q1130 : (Jvm.Cond.instanceMethod ({ cls := "java/util/ArrayList", name := "grow", desc := "()[Ljava/lang/Object;" } : Jvm.MethodName)) ∈ lw_all := lw_g (lw_at lw_m5 26 rfl) rfl
theorem q1131 : (Jvm.Cond.code ({ cls := "java/util/ArrayList", name := "grow", desc := "()[Ljava/lang/Object;" } : Jvm.MethodName) prog_58_method_7_code (1 : Nat) (Option.some (Jvm.ClassFile.FieldType.array (Jvm.ClassFile.FieldType.object "java/lang/Object")))) ∈ lw_all := lw_g (lw_at lw_m5 27 rfl) rfl
theorem q1132 : (Jvm.Cond.methodLink "java/util/ArrayList" (69 : Nat) ({ cls := "java/util/ArrayList", name := "grow", desc := "(I)[Ljava/lang/Object;" } : Jvm.MethodName)) ∈ lw_all := lw_g (lw_at lw_m5 28 rfl) rfl
theorem q1133 : (Jvm.Cond.privateMethod ({ cls := "java/util/ArrayList", name := "grow", desc := "(I)[Ljava/lang/Object;" } : Jvm.MethodName)) ∈ lw_tbl := lw_at lw_m5 29 rfl
theorem q1134 : (Jvm.Cond.instanceMethod ({ cls := "java/util/ArrayList", name := "grow", desc := "(I)[Ljava/lang/Object;" } : Jvm.MethodName)) ∈ lw_all := lw_g (lw_at lw_m5 30 rfl) rfl
theorem q1135 : (Jvm.Cond.code ({ cls := "java/util/ArrayList", name := "grow", desc := "(I)[Ljava/lang/Object;" } : Jvm.MethodName) prog_58_method_6_code (4 : Nat) (Option.some (Jvm.ClassFile.FieldType.array (Jvm.ClassFile.FieldType.object "java/lang/Object")))) ∈ lw_all := lw_g (lw_at lw_m5 31 rfl) rfl
theorem q1136 : (Jvm.Cond.methodLink "java/util/ArrayList" (73 : Nat) ({ cls := "jdk/internal/util/ArraysSupport", name := "newLength", desc := "(III)I" } : Jvm.MethodName)) ∈ lw_all := lw_g (lw_at lw_m5 32 rfl) rfl
theorem q1146 : (Jvm.Cond.methodLink "java/util/ArrayList" (66 : Nat) ({ cls := "java/util/Arrays", name := "copyOf", desc := "([Ljava/lang/Object;I)[Ljava/lang/Object;" } : Jvm.MethodName)) ∈ lw_all := lw_g (lw_at lw_m5 42 rfl) rfl
theorem q1187 : (Jvm.Cond.selects "java/util/ArrayList" ({ cls := "java/lang/Object", name := "getClass", desc := "()Ljava/lang/Class;" } : Jvm.MethodName) ({ cls := "java/lang/Object", name := "getClass", desc := "()Ljava/lang/Class;" } : Jvm.MethodName)) ∈ lw_all := lw_g (lw_at lw_m5 83 rfl) rfl
theorem q1201 : (Jvm.Cond.methodLink "java/util/ArrayList" (79 : Nat) ({ cls := "java/lang/Math", name := "max", desc := "(II)I" } : Jvm.MethodName)) ∈ lw_all := lw_g (lw_at lw_m5 97 rfl) rfl
theorem q1202 : (Jvm.Cond.classLink "java/util/ArrayList" (7 : Nat) "java/lang/Object") ∈ lw_all := lw_g (lw_at lw_m5 98 rfl) rfl
theorem q1222 : (Jvm.Cond.selects "java/util/ArrayList" ({ cls := "java/util/List", name := "size", desc := "()I" } : Jvm.MethodName) ({ cls := "java/util/ArrayList", name := "size", desc := "()I" } : Jvm.MethodName)) ∈ lw_all := lw_g (lw_at lw_m5 118 rfl) rfl
theorem q1223 : (Jvm.Cond.unhidden "java/util/ArrayList" "size" "()I") ∈ lw_tbl := lw_at lw_m5 119 rfl
theorem q1224 : (Jvm.Cond.instanceMethod ({ cls := "java/util/ArrayList", name := "size", desc := "()I" } : Jvm.MethodName)) ∈ lw_all := lw_g (lw_at lw_m5 120 rfl) rfl
theorem q1225 : (Jvm.Cond.publicMethod ({ cls := "java/util/ArrayList", name := "size", desc := "()I" } : Jvm.MethodName)) ∈ lw_tbl := lw_at lw_m5 121 rfl
theorem q1226 : (Jvm.Cond.code ({ cls := "java/util/ArrayList", name := "size", desc := "()I" } : Jvm.MethodName) prog_58_method_8_code (1 : Nat) (Option.some Jvm.ClassFile.FieldType.int)) ∈ lw_all := lw_g (lw_at lw_m5 122 rfl) rfl
theorem q1231 : (Jvm.Cond.selects "java/util/ArrayList" ({ cls := "java/util/List", name := "get", desc := "(I)Ljava/lang/Object;" } : Jvm.MethodName) ({ cls := "java/util/ArrayList", name := "get", desc := "(I)Ljava/lang/Object;" } : Jvm.MethodName)) ∈ lw_all := lw_g (lw_at lw_m5 127 rfl) rfl
theorem q1232 : (Jvm.Cond.unhidden "java/util/ArrayList" "get" "(I)Ljava/lang/Object;") ∈ lw_tbl := lw_at lw_m5 128 rfl
theorem q1233 : (Jvm.Cond.instanceMethod ({ cls := "java/util/ArrayList", name := "get", desc := "(I)Ljava/lang/Object;" } : Jvm.MethodName)) ∈ lw_all := lw_g (lw_at lw_m5 129 rfl) rfl
theorem q1234 : (Jvm.Cond.publicMethod ({ cls := "java/util/ArrayList", name := "get", desc := "(I)Ljava/lang/Object;" } : Jvm.MethodName)) ∈ lw_tbl := lw_at lw_m5 130 rfl
theorem q1235 : (Jvm.Cond.code ({ cls := "java/util/ArrayList", name := "get", desc := "(I)Ljava/lang/Object;" } : Jvm.MethodName) prog_58_method_20_code (2 : Nat) (Option.some (Jvm.ClassFile.FieldType.object "java/lang/Object"))) ∈ lw_all := lw_g (lw_at lw_m5 131 rfl) rfl
theorem q1236 : (Jvm.Cond.methodLink "java/util/ArrayList" (118 : Nat) ({ cls := "java/util/Objects", name := "checkIndex", desc := "(II)I" } : Jvm.MethodName)) ∈ lw_all := lw_g (lw_at lw_m5 132 rfl) rfl
theorem q1240 : (Jvm.Cond.methodLink "java/util/ArrayList" (123 : Nat) ({ cls := "java/util/ArrayList", name := "elementData", desc := "(I)Ljava/lang/Object;" } : Jvm.MethodName)) ∈ lw_all := lw_g (lw_at lw_m5 136 rfl) rfl
theorem q1241 : (Jvm.Cond.instanceMethod ({ cls := "java/util/ArrayList", name := "elementData", desc := "(I)Ljava/lang/Object;" } : Jvm.MethodName)) ∈ lw_all := lw_g (lw_at lw_m5 137 rfl) rfl
theorem q1242 : (Jvm.Cond.selects "java/util/ArrayList" ({ cls := "java/util/ArrayList", name := "elementData", desc := "(I)Ljava/lang/Object;" } : Jvm.MethodName) ({ cls := "java/util/ArrayList", name := "elementData", desc := "(I)Ljava/lang/Object;" } : Jvm.MethodName)) ∈ lw_all := lw_g (lw_at lw_m5 138 rfl) rfl
theorem q1243 : (Jvm.Cond.code ({ cls := "java/util/ArrayList", name := "elementData", desc := "(I)Ljava/lang/Object;" } : Jvm.MethodName) prog_58_method_18_code (2 : Nat) (Option.some (Jvm.ClassFile.FieldType.object "java/lang/Object"))) ∈ lw_all := lw_g (lw_at lw_m5 139 rfl) rfl
theorem q1399 : (Jvm.Cond.selects "java/util/ArrayList" ({ cls := "java/util/List", name := "isEmpty", desc := "()Z" } : Jvm.MethodName) ({ cls := "java/util/ArrayList", name := "isEmpty", desc := "()Z" } : Jvm.MethodName)) ∈ lw_all := lw_g (lw_at lw_m6 55 rfl) rfl
theorem q1400 : (Jvm.Cond.unhidden "java/util/ArrayList" "isEmpty" "()Z") ∈ lw_tbl := lw_at lw_m6 56 rfl
theorem q1401 : (Jvm.Cond.instanceMethod ({ cls := "java/util/ArrayList", name := "isEmpty", desc := "()Z" } : Jvm.MethodName)) ∈ lw_all := lw_g (lw_at lw_m6 57 rfl) rfl
theorem q1402 : (Jvm.Cond.publicMethod ({ cls := "java/util/ArrayList", name := "isEmpty", desc := "()Z" } : Jvm.MethodName)) ∈ lw_tbl := lw_at lw_m6 58 rfl
theorem q1403 : (Jvm.Cond.code ({ cls := "java/util/ArrayList", name := "isEmpty", desc := "()Z" } : Jvm.MethodName) prog_58_method_9_code (1 : Nat) (Option.some Jvm.ClassFile.FieldType.boolean)) ∈ lw_all := lw_g (lw_at lw_m6 59 rfl) rfl
theorem q3135 : (Jvm.Cond.castable "java/util/ArrayList" "java/lang/Object") ∈ lw_tbl := lw_at lw_m13 111 rfl
theorem in_J4 : ∀ w ∈ wsJ40, w ∈ lw_all := lw_in wsJ40 [542, 538, 540] (by decide +kernel) (by decide +kernel)
/-! java/lang/String -/
set_option maxRecDepth 100000
def RJ5 : String := "java/lang/String"
def TJ5 : u_T := fun k => match k with
  | 0 => ("java/lang/String", "value", "[B", true)
  | _ => ("java/lang/String", "coder", "B", true)
def tyJ5 : Nat → FieldType := fun k => match k with
  | 0 => .array .byte
  | _ => .byte
abbrev wsJ50 : List Cond := u_ws RJ5 TJ5 2
theorem nmJ5 : ∀ a, a < 2 → ∀ b, b < 2 → a ≠ b → (TJ5 a).2.1 ≠ (TJ5 b).2.1 := by decide +kernel
theorem tyJ5_ok : ∀ k, k < 2 → parseFieldDescriptor (TJ5 k).2.2.1 = some (tyJ5 k) := by decide +kernel
abbrev cJ5_length : ByteArray := prog_51_method_54_code
def yJ5_length : MethodName := ⟨RJ5, "length", "()I"⟩
def dkwJ5_length_0 : List UInt8 := [42, 180, 0, 9, 190, 42, 182, 1, 79, 122, 172]
abbrev dktJ5_length_0 : List UInt8 := dkwJ5_length_0 ++ []
theorem dksJ5_length_0 : cJ5_length.data.toList.drop 0 = dktJ5_length_0 := by decide +kernel
theorem dJ5_length_0 : decode cJ5_length 0 = .ok (.aload_n 0, 1) := dk_42 (dk_at dksJ5_length_0 0 rfl rfl)
theorem dJ5_length_1 : decode cJ5_length 1 = .ok (.getfield 9, 3) := dk_180 0 9 (dk_at dksJ5_length_0 1 rfl rfl)
theorem dJ5_length_4 : decode cJ5_length 4 = .ok (.arraylength, 1) := dk_190 (dk_at dksJ5_length_0 4 rfl rfl)
theorem dJ5_length_5 : decode cJ5_length 5 = .ok (.aload_n 0, 1) := dk_42 (dk_at dksJ5_length_0 5 rfl rfl)
theorem dJ5_length_6 : decode cJ5_length 6 = .ok (.invokevirtual 335, 3) := dk_182 1 79 (dk_at dksJ5_length_0 6 rfl rfl)
theorem dJ5_length_9 : decode cJ5_length 9 = .ok (.ishr, 1) := dk_122 (dk_at dksJ5_length_0 9 rfl rfl)
theorem dJ5_length_10 : decode cJ5_length 10 = .ok (.ireturn, 1) := dk_172 (dk_at dksJ5_length_0 10 rfl rfl)
abbrev cJ5_coder : ByteArray := prog_51_method_152_code
def yJ5_coder : MethodName := ⟨RJ5, "coder", "()B"⟩
def dkwJ5_coder_0 : List UInt8 := [178, 0, 38, 153, 0, 10, 42, 180, 0, 15, 167, 0, 4, 4, 172]
abbrev dktJ5_coder_0 : List UInt8 := dkwJ5_coder_0 ++ []
theorem dksJ5_coder_0 : cJ5_coder.data.toList.drop 0 = dktJ5_coder_0 := by decide +kernel
theorem dJ5_coder_0 : decode cJ5_coder 0 = .ok (.getstatic 38, 3) := dk_178 0 38 (dk_at dksJ5_coder_0 0 rfl rfl)
theorem dJ5_coder_3 : decode cJ5_coder 3 = .ok (.ifCond .eq 10, 3) := dk_153 0 10 (dk_at dksJ5_coder_0 3 rfl rfl)
theorem dJ5_coder_6 : decode cJ5_coder 6 = .ok (.aload_n 0, 1) := dk_42 (dk_at dksJ5_coder_0 6 rfl rfl)
theorem dJ5_coder_7 : decode cJ5_coder 7 = .ok (.getfield 15, 3) := dk_180 0 15 (dk_at dksJ5_coder_0 7 rfl rfl)
theorem dJ5_coder_10 : decode cJ5_coder 10 = .ok (.goto 4, 3) := dk_167 0 4 (dk_at dksJ5_coder_0 10 rfl rfl)
theorem dJ5_coder_13 : decode cJ5_coder 13 = .ok (.iconst 1, 1) := dk_4 (dk_at dksJ5_coder_0 13 rfl rfl)
theorem dJ5_coder_14 : decode cJ5_coder 14 = .ok (.ireturn, 1) := dk_172 (dk_at dksJ5_coder_0 14 rfl rfl)
abbrev cJ5_charAt : ByteArray := prog_51_method_56_code
def yJ5_charAt : MethodName := ⟨RJ5, "charAt", "(I)C"⟩
def dkwJ5_charAt_1 : List UInt8 := [172]
abbrev dktJ5_charAt_1 : List UInt8 := dkwJ5_charAt_1 ++ []
def dkwJ5_charAt_0 : List UInt8 := [42, 182, 1, 236, 153, 0, 12, 42, 180, 0, 9, 27, 184, 1, 239, 172, 42, 180, 0, 9, 27, 184, 1, 242]
abbrev dktJ5_charAt_0 : List UInt8 := dkwJ5_charAt_0 ++ dktJ5_charAt_1
theorem dksJ5_charAt_0 : cJ5_charAt.data.toList.drop 0 = dktJ5_charAt_0 := by decide +kernel
theorem dksJ5_charAt_1 : cJ5_charAt.data.toList.drop 24 = dktJ5_charAt_1 := dk_seg dksJ5_charAt_0 24 rfl rfl
theorem dJ5_charAt_0 : decode cJ5_charAt 0 = .ok (.aload_n 0, 1) := dk_42 (dk_at dksJ5_charAt_0 0 rfl rfl)
theorem dJ5_charAt_1 : decode cJ5_charAt 1 = .ok (.invokevirtual 492, 3) := dk_182 1 236 (dk_at dksJ5_charAt_0 1 rfl rfl)
theorem dJ5_charAt_4 : decode cJ5_charAt 4 = .ok (.ifCond .eq 12, 3) := dk_153 0 12 (dk_at dksJ5_charAt_0 4 rfl rfl)
theorem dJ5_charAt_7 : decode cJ5_charAt 7 = .ok (.aload_n 0, 1) := dk_42 (dk_at dksJ5_charAt_0 7 rfl rfl)
theorem dJ5_charAt_8 : decode cJ5_charAt 8 = .ok (.getfield 9, 3) := dk_180 0 9 (dk_at dksJ5_charAt_0 8 rfl rfl)
theorem dJ5_charAt_11 : decode cJ5_charAt 11 = .ok (.iload_n 1, 1) := dk_27 (dk_at dksJ5_charAt_0 11 rfl rfl)
theorem dJ5_charAt_12 : decode cJ5_charAt 12 = .ok (.invokestatic 495, 3) := dk_184 1 239 (dk_at dksJ5_charAt_0 12 rfl rfl)
theorem dJ5_charAt_15 : decode cJ5_charAt 15 = .ok (.ireturn, 1) := dk_172 (dk_at dksJ5_charAt_0 15 rfl rfl)
theorem dJ5_charAt_16 : decode cJ5_charAt 16 = .ok (.aload_n 0, 1) := dk_42 (dk_at dksJ5_charAt_0 16 rfl rfl)
theorem dJ5_charAt_17 : decode cJ5_charAt 17 = .ok (.getfield 9, 3) := dk_180 0 9 (dk_at dksJ5_charAt_0 17 rfl rfl)
theorem dJ5_charAt_20 : decode cJ5_charAt 20 = .ok (.iload_n 1, 1) := dk_27 (dk_at dksJ5_charAt_0 20 rfl rfl)
theorem dJ5_charAt_21 : decode cJ5_charAt 21 = .ok (.invokestatic 498, 3) := dk_184 1 242 (dk_at dksJ5_charAt_0 21 rfl rfl)
theorem dJ5_charAt_24 : decode cJ5_charAt 24 = .ok (.ireturn, 1) := dk_172 (dk_at dksJ5_charAt_1 0 rfl rfl)
abbrev cJ5_isLatin1 : ByteArray := prog_51_method_154_code
def yJ5_isLatin1 : MethodName := ⟨RJ5, "isLatin1", "()Z"⟩
def dkwJ5_isLatin1_0 : List UInt8 := [178, 0, 38, 153, 0, 14, 42, 180, 0, 15, 154, 0, 7, 4, 167, 0, 4, 3, 172]
abbrev dktJ5_isLatin1_0 : List UInt8 := dkwJ5_isLatin1_0 ++ []
theorem dksJ5_isLatin1_0 : cJ5_isLatin1.data.toList.drop 0 = dktJ5_isLatin1_0 := by decide +kernel
theorem dJ5_isLatin1_0 : decode cJ5_isLatin1 0 = .ok (.getstatic 38, 3) := dk_178 0 38 (dk_at dksJ5_isLatin1_0 0 rfl rfl)
theorem dJ5_isLatin1_3 : decode cJ5_isLatin1 3 = .ok (.ifCond .eq 14, 3) := dk_153 0 14 (dk_at dksJ5_isLatin1_0 3 rfl rfl)
theorem dJ5_isLatin1_6 : decode cJ5_isLatin1 6 = .ok (.aload_n 0, 1) := dk_42 (dk_at dksJ5_isLatin1_0 6 rfl rfl)
theorem dJ5_isLatin1_7 : decode cJ5_isLatin1 7 = .ok (.getfield 15, 3) := dk_180 0 15 (dk_at dksJ5_isLatin1_0 7 rfl rfl)
theorem dJ5_isLatin1_10 : decode cJ5_isLatin1 10 = .ok (.ifCond .ne 7, 3) := dk_154 0 7 (dk_at dksJ5_isLatin1_0 10 rfl rfl)
theorem dJ5_isLatin1_13 : decode cJ5_isLatin1 13 = .ok (.iconst 1, 1) := dk_4 (dk_at dksJ5_isLatin1_0 13 rfl rfl)
theorem dJ5_isLatin1_14 : decode cJ5_isLatin1 14 = .ok (.goto 4, 3) := dk_167 0 4 (dk_at dksJ5_isLatin1_0 14 rfl rfl)
theorem dJ5_isLatin1_17 : decode cJ5_isLatin1 17 = .ok (.iconst 0, 1) := dk_3 (dk_at dksJ5_isLatin1_0 17 rfl rfl)
theorem dJ5_isLatin1_18 : decode cJ5_isLatin1 18 = .ok (.ireturn, 1) := dk_172 (dk_at dksJ5_isLatin1_0 18 rfl rfl)
abbrev cJ5_checkIndex : ByteArray := prog_51_method_155_code
def yJ5_checkIndex : MethodName := ⟨RJ5, "checkIndex", "(II)V"⟩
def dkwJ5_checkIndex_0 : List UInt8 := [26, 27, 178, 4, 29, 184, 4, 35, 87, 177]
abbrev dktJ5_checkIndex_0 : List UInt8 := dkwJ5_checkIndex_0 ++ []
theorem dksJ5_checkIndex_0 : cJ5_checkIndex.data.toList.drop 0 = dktJ5_checkIndex_0 := by decide +kernel
theorem dJ5_checkIndex_0 : decode cJ5_checkIndex 0 = .ok (.iload_n 0, 1) := dk_26 (dk_at dksJ5_checkIndex_0 0 rfl rfl)
theorem dJ5_checkIndex_1 : decode cJ5_checkIndex 1 = .ok (.iload_n 1, 1) := dk_27 (dk_at dksJ5_checkIndex_0 1 rfl rfl)
theorem dJ5_checkIndex_2 : decode cJ5_checkIndex 2 = .ok (.getstatic 1053, 3) := dk_178 4 29 (dk_at dksJ5_checkIndex_0 2 rfl rfl)
theorem dJ5_checkIndex_5 : decode cJ5_checkIndex 5 = .ok (.invokestatic 1059, 3) := dk_184 4 35 (dk_at dksJ5_checkIndex_0 5 rfl rfl)
theorem dJ5_checkIndex_8 : decode cJ5_checkIndex 8 = .ok (.pop, 1) := dk_87 (dk_at dksJ5_checkIndex_0 8 rfl rfl)
theorem dJ5_checkIndex_9 : decode cJ5_checkIndex 9 = .ok (.return_, 1) := dk_177 (dk_at dksJ5_checkIndex_0 9 rfl rfl)
theorem q156 : (Jvm.Cond.initialized "java/lang/String") ∈ lw_all := lw_g (lw_at lw_m1 12 rfl) rfl
theorem q570 : (Jvm.Cond.instanceMethod ({ cls := "java/lang/String", name := "length", desc := "()I" } : Jvm.MethodName)) ∈ lw_all := lw_g (lw_at lw_m2 186 rfl) rfl
theorem q571 : (Jvm.Cond.selects "java/lang/String" ({ cls := "java/lang/String", name := "length", desc := "()I" } : Jvm.MethodName) ({ cls := "java/lang/String", name := "length", desc := "()I" } : Jvm.MethodName)) ∈ lw_all := lw_g (lw_at lw_m2 187 rfl) rfl
theorem q572 : (Jvm.Cond.code ({ cls := "java/lang/String", name := "length", desc := "()I" } : Jvm.MethodName) prog_51_method_54_code (1 : Nat) (Option.some Jvm.ClassFile.FieldType.int)) ∈ lw_all := lw_g (lw_at lw_m2 188 rfl) rfl
theorem q573 : (Jvm.Cond.methodLink "java/lang/String" (335 : Nat) ({ cls := "java/lang/String", name := "coder", desc := "()B" } : Jvm.MethodName)) ∈ lw_all := lw_g (lw_at lw_m2 189 rfl) rfl
theorem q574 : (Jvm.Cond.instanceMethod ({ cls := "java/lang/String", name := "coder", desc := "()B" } : Jvm.MethodName)) ∈ lw_all := lw_g (lw_at lw_m2 190 rfl) rfl
theorem q575 : (Jvm.Cond.selects "java/lang/String" ({ cls := "java/lang/String", name := "coder", desc := "()B" } : Jvm.MethodName) ({ cls := "java/lang/String", name := "coder", desc := "()B" } : Jvm.MethodName)) ∈ lw_all := lw_g (lw_at lw_m2 191 rfl) rfl
theorem q576 : (Jvm.Cond.code ({ cls := "java/lang/String", name := "coder", desc := "()B" } : Jvm.MethodName) prog_51_method_152_code (1 : Nat) (Option.some Jvm.ClassFile.FieldType.byte)) ∈ lw_all := lw_g (lw_at lw_m2 192 rfl) rfl
theorem q577 : (Jvm.Cond.fieldLink "java/lang/String" (38 : Nat) "java/lang/String" "COMPACT_STRINGS" "Z") ∈ lw_all := lw_g (lw_at lw_m2 193 rfl) rfl
theorem q578 : (Jvm.Cond.laysStatic "java/lang/String" "COMPACT_STRINGS" "Z") ∈ lw_tbl := lw_at lw_m2 194 rfl
theorem q580 : (Jvm.Cond.instanceMethod ({ cls := "java/lang/String", name := "charAt", desc := "(I)C" } : Jvm.MethodName)) ∈ lw_all := lw_g (lw_at lw_m2 196 rfl) rfl
theorem q581 : (Jvm.Cond.selects "java/lang/String" ({ cls := "java/lang/String", name := "charAt", desc := "(I)C" } : Jvm.MethodName) ({ cls := "java/lang/String", name := "charAt", desc := "(I)C" } : Jvm.MethodName)) ∈ lw_all := lw_g (lw_at lw_m2 197 rfl) rfl
theorem q582 : (Jvm.Cond.code ({ cls := "java/lang/String", name := "charAt", desc := "(I)C" } : Jvm.MethodName) prog_51_method_56_code (2 : Nat) (Option.some Jvm.ClassFile.FieldType.char)) ∈ lw_all := lw_g (lw_at lw_m2 198 rfl) rfl
theorem q583 : (Jvm.Cond.methodLink "java/lang/String" (492 : Nat) ({ cls := "java/lang/String", name := "isLatin1", desc := "()Z" } : Jvm.MethodName)) ∈ lw_all := lw_g (lw_at lw_m2 199 rfl) rfl
theorem q584 : (Jvm.Cond.instanceMethod ({ cls := "java/lang/String", name := "isLatin1", desc := "()Z" } : Jvm.MethodName)) ∈ lw_all := lw_g (lw_at lw_m2 200 rfl) rfl
theorem q585 : (Jvm.Cond.selects "java/lang/String" ({ cls := "java/lang/String", name := "isLatin1", desc := "()Z" } : Jvm.MethodName) ({ cls := "java/lang/String", name := "isLatin1", desc := "()Z" } : Jvm.MethodName)) ∈ lw_all := lw_g (lw_at lw_m2 201 rfl) rfl
theorem q586 : (Jvm.Cond.code ({ cls := "java/lang/String", name := "isLatin1", desc := "()Z" } : Jvm.MethodName) prog_51_method_154_code (1 : Nat) (Option.some Jvm.ClassFile.FieldType.boolean)) ∈ lw_all := lw_g (lw_at lw_m2 202 rfl) rfl
theorem q587 : (Jvm.Cond.methodLink "java/lang/String" (495 : Nat) ({ cls := "java/lang/StringLatin1", name := "charAt", desc := "([BI)C" } : Jvm.MethodName)) ∈ lw_all := lw_g (lw_at lw_m2 203 rfl) rfl
theorem q591 : (Jvm.Cond.static ({ cls := "java/lang/String", name := "checkIndex", desc := "(II)V" } : Jvm.MethodName)) ∈ lw_all := lw_g (lw_at lw_m2 207 rfl) rfl
theorem q592 : (Jvm.Cond.code ({ cls := "java/lang/String", name := "checkIndex", desc := "(II)V" } : Jvm.MethodName) prog_51_method_155_code (2 : Nat) (Option.none : Option Jvm.ClassFile.FieldType)) ∈ lw_all := lw_g (lw_at lw_m2 208 rfl) rfl
theorem q593 : (Jvm.Cond.fieldLink "java/lang/String" (1053 : Nat) "jdk/internal/util/Preconditions" "SIOOBE_FORMATTER" "Ljava/util/function/BiFunction;") ∈ lw_all := lw_g (lw_at lw_m2 209 rfl) rfl
theorem q595 : (Jvm.Cond.methodLink "java/lang/String" (1059 : Nat) ({ cls := "jdk/internal/util/Preconditions", name := "checkIndex", desc := "(IILjava/util/function/BiFunction;)I" } : Jvm.MethodName)) ∈ lw_all := lw_g (lw_at lw_m2 211 rfl) rfl
theorem q598 : (Jvm.Cond.methodLink "java/lang/String" (498 : Nat) ({ cls := "java/lang/StringUTF16", name := "charAt", desc := "([BI)C" } : Jvm.MethodName)) ∈ lw_all := lw_g (lw_at lw_m2 214 rfl) rfl
theorem q2304 : (Jvm.Cond.instantiable "java/lang/String" (4 : Nat)) ∈ lw_all := lw_g (lw_at lw_m10 0 rfl) rfl
theorem q2305 : (Jvm.Cond.laysFinal "java/lang/String" "java/lang/String" "value" "[B") ∈ lw_all := lw_g (lw_at lw_m10 1 rfl) rfl
theorem q2306 : (Jvm.Cond.soleField "java/lang/String" "value") ∈ lw_all := lw_g (lw_at lw_m10 2 rfl) rfl
theorem q2307 : (Jvm.Cond.laysFinal "java/lang/String" "java/lang/String" "coder" "B") ∈ lw_all := lw_g (lw_at lw_m10 3 rfl) rfl
theorem q2308 : (Jvm.Cond.soleField "java/lang/String" "coder") ∈ lw_all := lw_g (lw_at lw_m10 4 rfl) rfl
theorem q3165 : (Jvm.Cond.castable "java/lang/String" "java/lang/Object") ∈ lw_tbl := lw_at lw_m13 141 rfl
theorem q3179 : (Jvm.Cond.fieldLink "java/lang/String" (9 : Nat) "java/lang/String" "value" "[B") ∈ lw_all := lw_g (lw_at lw_m13 155 rfl) rfl
theorem q3180 : (Jvm.Cond.fieldLink "java/lang/String" (15 : Nat) "java/lang/String" "coder" "B") ∈ lw_all := lw_g (lw_at lw_m13 156 rfl) rfl
theorem in_J5 : ∀ w ∈ wsJ50, w ∈ lw_all := lw_in wsJ50 [2305, 2307] (by decide +kernel) (by decide +kernel)
/-! java/lang/StringLatin1 -/
set_option maxRecDepth 100000
def RJ6 : String := "java/lang/StringLatin1"
abbrev cJ6_charAt : ByteArray := prog_52_method_2_code
def yJ6_charAt : MethodName := ⟨RJ6, "charAt", "([BI)C"⟩
def dkwJ6_charAt_0 : List UInt8 := [27, 42, 190, 184, 0, 9, 42, 27, 51, 17, 0, 255, 126, 146, 172]
abbrev dktJ6_charAt_0 : List UInt8 := dkwJ6_charAt_0 ++ []
theorem dksJ6_charAt_0 : cJ6_charAt.data.toList.drop 0 = dktJ6_charAt_0 := by decide +kernel
theorem dJ6_charAt_0 : decode cJ6_charAt 0 = .ok (.iload_n 1, 1) := dk_27 (dk_at dksJ6_charAt_0 0 rfl rfl)
theorem dJ6_charAt_1 : decode cJ6_charAt 1 = .ok (.aload_n 0, 1) := dk_42 (dk_at dksJ6_charAt_0 1 rfl rfl)
theorem dJ6_charAt_2 : decode cJ6_charAt 2 = .ok (.arraylength, 1) := dk_190 (dk_at dksJ6_charAt_0 2 rfl rfl)
theorem dJ6_charAt_3 : decode cJ6_charAt 3 = .ok (.invokestatic 9, 3) := dk_184 0 9 (dk_at dksJ6_charAt_0 3 rfl rfl)
theorem dJ6_charAt_6 : decode cJ6_charAt 6 = .ok (.aload_n 0, 1) := dk_42 (dk_at dksJ6_charAt_0 6 rfl rfl)
theorem dJ6_charAt_7 : decode cJ6_charAt 7 = .ok (.iload_n 1, 1) := dk_27 (dk_at dksJ6_charAt_0 7 rfl rfl)
theorem dJ6_charAt_8 : decode cJ6_charAt 8 = .ok (.baload, 1) := dk_51 (dk_at dksJ6_charAt_0 8 rfl rfl)
theorem dJ6_charAt_9 : decode cJ6_charAt 9 = .ok (.sipush 255, 3) := dk_17 0 255 (dk_at dksJ6_charAt_0 9 rfl rfl)
theorem dJ6_charAt_12 : decode cJ6_charAt 12 = .ok (.iand, 1) := dk_126 (dk_at dksJ6_charAt_0 12 rfl rfl)
theorem dJ6_charAt_13 : decode cJ6_charAt 13 = .ok (.i2c, 1) := dk_146 (dk_at dksJ6_charAt_0 13 rfl rfl)
theorem dJ6_charAt_14 : decode cJ6_charAt 14 = .ok (.ireturn, 1) := dk_172 (dk_at dksJ6_charAt_0 14 rfl rfl)
theorem q157 : (Jvm.Cond.initialized "java/lang/StringLatin1") ∈ lw_all := lw_g (lw_at lw_m1 13 rfl) rfl
theorem q588 : (Jvm.Cond.static ({ cls := "java/lang/StringLatin1", name := "charAt", desc := "([BI)C" } : Jvm.MethodName)) ∈ lw_all := lw_g (lw_at lw_m2 204 rfl) rfl
theorem q589 : (Jvm.Cond.code ({ cls := "java/lang/StringLatin1", name := "charAt", desc := "([BI)C" } : Jvm.MethodName) prog_52_method_2_code (2 : Nat) (Option.some Jvm.ClassFile.FieldType.char)) ∈ lw_all := lw_g (lw_at lw_m2 205 rfl) rfl
theorem q590 : (Jvm.Cond.methodLink "java/lang/StringLatin1" (9 : Nat) ({ cls := "java/lang/String", name := "checkIndex", desc := "(II)V" } : Jvm.MethodName)) ∈ lw_all := lw_g (lw_at lw_m2 206 rfl) rfl
/-! jdk/internal/util/Preconditions -/
set_option maxRecDepth 100000
def RJ7 : String := "jdk/internal/util/Preconditions"
abbrev cJ7_checkIndex : ByteArray := prog_66_method_11_code
def yJ7_checkIndex : MethodName := ⟨RJ7, "checkIndex", "(IILjava/util/function/BiFunction;)I"⟩
def dkwJ7_checkIndex_0 : List UInt8 := [26, 155, 0, 8, 26, 27, 161, 0, 10, 44, 26, 27, 184, 0, 95, 191, 26, 172]
abbrev dktJ7_checkIndex_0 : List UInt8 := dkwJ7_checkIndex_0 ++ []
theorem dksJ7_checkIndex_0 : cJ7_checkIndex.data.toList.drop 0 = dktJ7_checkIndex_0 := by decide +kernel
theorem dJ7_checkIndex_0 : decode cJ7_checkIndex 0 = .ok (.iload_n 0, 1) := dk_26 (dk_at dksJ7_checkIndex_0 0 rfl rfl)
theorem dJ7_checkIndex_1 : decode cJ7_checkIndex 1 = .ok (.ifCond .lt 8, 3) := dk_155 0 8 (dk_at dksJ7_checkIndex_0 1 rfl rfl)
theorem dJ7_checkIndex_4 : decode cJ7_checkIndex 4 = .ok (.iload_n 0, 1) := dk_26 (dk_at dksJ7_checkIndex_0 4 rfl rfl)
theorem dJ7_checkIndex_5 : decode cJ7_checkIndex 5 = .ok (.iload_n 1, 1) := dk_27 (dk_at dksJ7_checkIndex_0 5 rfl rfl)
theorem dJ7_checkIndex_6 : decode cJ7_checkIndex 6 = .ok (.if_icmp .lt 10, 3) := dk_161 0 10 (dk_at dksJ7_checkIndex_0 6 rfl rfl)
theorem dJ7_checkIndex_9 : decode cJ7_checkIndex 9 = .ok (.aload_n 2, 1) := dk_44 (dk_at dksJ7_checkIndex_0 9 rfl rfl)
theorem dJ7_checkIndex_10 : decode cJ7_checkIndex 10 = .ok (.iload_n 0, 1) := dk_26 (dk_at dksJ7_checkIndex_0 10 rfl rfl)
theorem dJ7_checkIndex_11 : decode cJ7_checkIndex 11 = .ok (.iload_n 1, 1) := dk_27 (dk_at dksJ7_checkIndex_0 11 rfl rfl)
theorem dJ7_checkIndex_12 : decode cJ7_checkIndex 12 = .ok (.invokestatic 95, 3) := dk_184 0 95 (dk_at dksJ7_checkIndex_0 12 rfl rfl)
theorem dJ7_checkIndex_15 : decode cJ7_checkIndex 15 = .ok (.athrow, 1) := dk_191 (dk_at dksJ7_checkIndex_0 15 rfl rfl)
theorem dJ7_checkIndex_16 : decode cJ7_checkIndex 16 = .ok (.iload_n 0, 1) := dk_26 (dk_at dksJ7_checkIndex_0 16 rfl rfl)
theorem dJ7_checkIndex_17 : decode cJ7_checkIndex 17 = .ok (.ireturn, 1) := dk_172 (dk_at dksJ7_checkIndex_0 17 rfl rfl)
theorem q158 : (Jvm.Cond.initialized "jdk/internal/util/Preconditions") ∈ lw_all := lw_g (lw_at lw_m1 14 rfl) rfl
theorem q594 : (Jvm.Cond.laysStatic "jdk/internal/util/Preconditions" "SIOOBE_FORMATTER" "Ljava/util/function/BiFunction;") ∈ lw_tbl := lw_at lw_m2 210 rfl
theorem q596 : (Jvm.Cond.static ({ cls := "jdk/internal/util/Preconditions", name := "checkIndex", desc := "(IILjava/util/function/BiFunction;)I" } : Jvm.MethodName)) ∈ lw_all := lw_g (lw_at lw_m2 212 rfl) rfl
theorem q597 : (Jvm.Cond.code ({ cls := "jdk/internal/util/Preconditions", name := "checkIndex", desc := "(IILjava/util/function/BiFunction;)I" } : Jvm.MethodName) prog_66_method_11_code (3 : Nat) (Option.some Jvm.ClassFile.FieldType.int)) ∈ lw_all := lw_g (lw_at lw_m2 213 rfl) rfl
/-! java/lang/StringUTF16 -/
set_option maxRecDepth 100000
def RJ8 : String := "java/lang/StringUTF16"
abbrev cJ8_charAt : ByteArray := prog_53_method_83_code
def yJ8_charAt : MethodName := ⟨RJ8, "charAt", "([BI)C"⟩
def dkwJ8_charAt_0 : List UInt8 := [27, 42, 184, 0, 67, 42, 27, 184, 0, 71, 172]
abbrev dktJ8_charAt_0 : List UInt8 := dkwJ8_charAt_0 ++ []
theorem dksJ8_charAt_0 : cJ8_charAt.data.toList.drop 0 = dktJ8_charAt_0 := by decide +kernel
theorem dJ8_charAt_0 : decode cJ8_charAt 0 = .ok (.iload_n 1, 1) := dk_27 (dk_at dksJ8_charAt_0 0 rfl rfl)
theorem dJ8_charAt_1 : decode cJ8_charAt 1 = .ok (.aload_n 0, 1) := dk_42 (dk_at dksJ8_charAt_0 1 rfl rfl)
theorem dJ8_charAt_2 : decode cJ8_charAt 2 = .ok (.invokestatic 67, 3) := dk_184 0 67 (dk_at dksJ8_charAt_0 2 rfl rfl)
theorem dJ8_charAt_5 : decode cJ8_charAt 5 = .ok (.aload_n 0, 1) := dk_42 (dk_at dksJ8_charAt_0 5 rfl rfl)
theorem dJ8_charAt_6 : decode cJ8_charAt 6 = .ok (.iload_n 1, 1) := dk_27 (dk_at dksJ8_charAt_0 6 rfl rfl)
theorem dJ8_charAt_7 : decode cJ8_charAt 7 = .ok (.invokestatic 71, 3) := dk_184 0 71 (dk_at dksJ8_charAt_0 7 rfl rfl)
theorem dJ8_charAt_10 : decode cJ8_charAt 10 = .ok (.ireturn, 1) := dk_172 (dk_at dksJ8_charAt_0 10 rfl rfl)
abbrev cJ8_checkIndex : ByteArray := prog_53_method_91_code
def yJ8_checkIndex : MethodName := ⟨RJ8, "checkIndex", "(I[B)V"⟩
def dkwJ8_checkIndex_0 : List UInt8 := [26, 43, 184, 0, 48, 184, 1, 158, 177]
abbrev dktJ8_checkIndex_0 : List UInt8 := dkwJ8_checkIndex_0 ++ []
theorem dksJ8_checkIndex_0 : cJ8_checkIndex.data.toList.drop 0 = dktJ8_checkIndex_0 := by decide +kernel
theorem dJ8_checkIndex_0 : decode cJ8_checkIndex 0 = .ok (.iload_n 0, 1) := dk_26 (dk_at dksJ8_checkIndex_0 0 rfl rfl)
theorem dJ8_checkIndex_1 : decode cJ8_checkIndex 1 = .ok (.aload_n 1, 1) := dk_43 (dk_at dksJ8_checkIndex_0 1 rfl rfl)
theorem dJ8_checkIndex_2 : decode cJ8_checkIndex 2 = .ok (.invokestatic 48, 3) := dk_184 0 48 (dk_at dksJ8_checkIndex_0 2 rfl rfl)
theorem dJ8_checkIndex_5 : decode cJ8_checkIndex 5 = .ok (.invokestatic 414, 3) := dk_184 1 158 (dk_at dksJ8_checkIndex_0 5 rfl rfl)
theorem dJ8_checkIndex_8 : decode cJ8_checkIndex 8 = .ok (.return_, 1) := dk_177 (dk_at dksJ8_checkIndex_0 8 rfl rfl)
abbrev cJ8_length : ByteArray := prog_53_method_6_code
def yJ8_length : MethodName := ⟨RJ8, "length", "([B)I"⟩
def dkwJ8_length_0 : List UInt8 := [42, 190, 4, 122, 172]
abbrev dktJ8_length_0 : List UInt8 := dkwJ8_length_0 ++ []
theorem dksJ8_length_0 : cJ8_length.data.toList.drop 0 = dktJ8_length_0 := by decide +kernel
theorem dJ8_length_0 : decode cJ8_length 0 = .ok (.aload_n 0, 1) := dk_42 (dk_at dksJ8_length_0 0 rfl rfl)
theorem dJ8_length_1 : decode cJ8_length 1 = .ok (.arraylength, 1) := dk_190 (dk_at dksJ8_length_0 1 rfl rfl)
theorem dJ8_length_2 : decode cJ8_length 2 = .ok (.iconst 1, 1) := dk_4 (dk_at dksJ8_length_0 2 rfl rfl)
theorem dJ8_length_3 : decode cJ8_length 3 = .ok (.ishr, 1) := dk_122 (dk_at dksJ8_length_0 3 rfl rfl)
theorem dJ8_length_4 : decode cJ8_length 4 = .ok (.ireturn, 1) := dk_172 (dk_at dksJ8_length_0 4 rfl rfl)
abbrev cJ8_getChar : ByteArray := prog_53_method_5_code
def yJ8_getChar : MethodName := ⟨RJ8, "getChar", "([BI)C"⟩
def dkwJ8_getChar_2 : List UInt8 := [51, 17, 0, 255, 126, 178, 0, 63, 120, 128, 146, 172]
abbrev dktJ8_getChar_2 : List UInt8 := dkwJ8_getChar_2 ++ []
def dkwJ8_getChar_1 : List UInt8 := [183, 0, 56, 191, 27, 4, 120, 60, 42, 27, 132, 1, 1, 51, 17, 0, 255, 126, 178, 0, 59, 120, 42, 27]
abbrev dktJ8_getChar_1 : List UInt8 := dkwJ8_getChar_1 ++ dktJ8_getChar_2
def dkwJ8_getChar_0 : List UInt8 := [178, 0, 44, 154, 0, 25, 27, 155, 0, 11, 27, 42, 184, 0, 48, 161, 0, 13, 187, 0, 52, 89, 18, 54]
abbrev dktJ8_getChar_0 : List UInt8 := dkwJ8_getChar_0 ++ dktJ8_getChar_1
theorem dksJ8_getChar_0 : cJ8_getChar.data.toList.drop 0 = dktJ8_getChar_0 := by decide +kernel
theorem dksJ8_getChar_1 : cJ8_getChar.data.toList.drop 24 = dktJ8_getChar_1 := dk_seg dksJ8_getChar_0 24 rfl rfl
theorem dksJ8_getChar_2 : cJ8_getChar.data.toList.drop 48 = dktJ8_getChar_2 := dk_seg dksJ8_getChar_1 24 rfl rfl
theorem dJ8_getChar_0 : decode cJ8_getChar 0 = .ok (.getstatic 44, 3) := dk_178 0 44 (dk_at dksJ8_getChar_0 0 rfl rfl)
theorem dJ8_getChar_3 : decode cJ8_getChar 3 = .ok (.ifCond .ne 25, 3) := dk_154 0 25 (dk_at dksJ8_getChar_0 3 rfl rfl)
theorem dJ8_getChar_6 : decode cJ8_getChar 6 = .ok (.iload_n 1, 1) := dk_27 (dk_at dksJ8_getChar_0 6 rfl rfl)
theorem dJ8_getChar_7 : decode cJ8_getChar 7 = .ok (.ifCond .lt 11, 3) := dk_155 0 11 (dk_at dksJ8_getChar_0 7 rfl rfl)
theorem dJ8_getChar_10 : decode cJ8_getChar 10 = .ok (.iload_n 1, 1) := dk_27 (dk_at dksJ8_getChar_0 10 rfl rfl)
theorem dJ8_getChar_11 : decode cJ8_getChar 11 = .ok (.aload_n 0, 1) := dk_42 (dk_at dksJ8_getChar_0 11 rfl rfl)
theorem dJ8_getChar_12 : decode cJ8_getChar 12 = .ok (.invokestatic 48, 3) := dk_184 0 48 (dk_at dksJ8_getChar_0 12 rfl rfl)
theorem dJ8_getChar_15 : decode cJ8_getChar 15 = .ok (.if_icmp .lt 13, 3) := dk_161 0 13 (dk_at dksJ8_getChar_0 15 rfl rfl)
theorem dJ8_getChar_18 : decode cJ8_getChar 18 = .ok (.new 52, 3) := dk_187 0 52 (dk_at dksJ8_getChar_0 18 rfl rfl)
theorem dJ8_getChar_21 : decode cJ8_getChar 21 = .ok (.dup, 1) := dk_89 (dk_at dksJ8_getChar_0 21 rfl rfl)
theorem dJ8_getChar_22 : decode cJ8_getChar 22 = .ok (.ldc 54, 2) := dk_18 54 (dk_at dksJ8_getChar_0 22 rfl rfl)
theorem dJ8_getChar_24 : decode cJ8_getChar 24 = .ok (.invokespecial 56, 3) := dk_183 0 56 (dk_at dksJ8_getChar_1 0 rfl rfl)
theorem dJ8_getChar_27 : decode cJ8_getChar 27 = .ok (.athrow, 1) := dk_191 (dk_at dksJ8_getChar_1 3 rfl rfl)
theorem dJ8_getChar_28 : decode cJ8_getChar 28 = .ok (.iload_n 1, 1) := dk_27 (dk_at dksJ8_getChar_1 4 rfl rfl)
theorem dJ8_getChar_29 : decode cJ8_getChar 29 = .ok (.iconst 1, 1) := dk_4 (dk_at dksJ8_getChar_1 5 rfl rfl)
theorem dJ8_getChar_30 : decode cJ8_getChar 30 = .ok (.ishl, 1) := dk_120 (dk_at dksJ8_getChar_1 6 rfl rfl)
theorem dJ8_getChar_31 : decode cJ8_getChar 31 = .ok (.istore_n 1, 1) := dk_60 (dk_at dksJ8_getChar_1 7 rfl rfl)
theorem dJ8_getChar_32 : decode cJ8_getChar 32 = .ok (.aload_n 0, 1) := dk_42 (dk_at dksJ8_getChar_1 8 rfl rfl)
theorem dJ8_getChar_33 : decode cJ8_getChar 33 = .ok (.iload_n 1, 1) := dk_27 (dk_at dksJ8_getChar_1 9 rfl rfl)
theorem dJ8_getChar_34 : decode cJ8_getChar 34 = .ok (.iinc 1 1, 3) := dk_132 1 1 (dk_at dksJ8_getChar_1 10 rfl rfl)
theorem dJ8_getChar_37 : decode cJ8_getChar 37 = .ok (.baload, 1) := dk_51 (dk_at dksJ8_getChar_1 13 rfl rfl)
theorem dJ8_getChar_38 : decode cJ8_getChar 38 = .ok (.sipush 255, 3) := dk_17 0 255 (dk_at dksJ8_getChar_1 14 rfl rfl)
theorem dJ8_getChar_41 : decode cJ8_getChar 41 = .ok (.iand, 1) := dk_126 (dk_at dksJ8_getChar_1 17 rfl rfl)
theorem dJ8_getChar_42 : decode cJ8_getChar 42 = .ok (.getstatic 59, 3) := dk_178 0 59 (dk_at dksJ8_getChar_1 18 rfl rfl)
theorem dJ8_getChar_45 : decode cJ8_getChar 45 = .ok (.ishl, 1) := dk_120 (dk_at dksJ8_getChar_1 21 rfl rfl)
theorem dJ8_getChar_46 : decode cJ8_getChar 46 = .ok (.aload_n 0, 1) := dk_42 (dk_at dksJ8_getChar_1 22 rfl rfl)
theorem dJ8_getChar_47 : decode cJ8_getChar 47 = .ok (.iload_n 1, 1) := dk_27 (dk_at dksJ8_getChar_1 23 rfl rfl)
theorem dJ8_getChar_48 : decode cJ8_getChar 48 = .ok (.baload, 1) := dk_51 (dk_at dksJ8_getChar_2 0 rfl rfl)
theorem dJ8_getChar_49 : decode cJ8_getChar 49 = .ok (.sipush 255, 3) := dk_17 0 255 (dk_at dksJ8_getChar_2 1 rfl rfl)
theorem dJ8_getChar_52 : decode cJ8_getChar 52 = .ok (.iand, 1) := dk_126 (dk_at dksJ8_getChar_2 4 rfl rfl)
theorem dJ8_getChar_53 : decode cJ8_getChar 53 = .ok (.getstatic 63, 3) := dk_178 0 63 (dk_at dksJ8_getChar_2 5 rfl rfl)
theorem dJ8_getChar_56 : decode cJ8_getChar 56 = .ok (.ishl, 1) := dk_120 (dk_at dksJ8_getChar_2 8 rfl rfl)
theorem dJ8_getChar_57 : decode cJ8_getChar 57 = .ok (.ior, 1) := dk_128 (dk_at dksJ8_getChar_2 9 rfl rfl)
theorem dJ8_getChar_58 : decode cJ8_getChar 58 = .ok (.i2c, 1) := dk_146 (dk_at dksJ8_getChar_2 10 rfl rfl)
theorem dJ8_getChar_59 : decode cJ8_getChar 59 = .ok (.ireturn, 1) := dk_172 (dk_at dksJ8_getChar_2 11 rfl rfl)
theorem q159 : (Jvm.Cond.initialized "java/lang/StringUTF16") ∈ lw_all := lw_g (lw_at lw_m1 15 rfl) rfl
theorem q599 : (Jvm.Cond.static ({ cls := "java/lang/StringUTF16", name := "charAt", desc := "([BI)C" } : Jvm.MethodName)) ∈ lw_all := lw_g (lw_at lw_m2 215 rfl) rfl
theorem q600 : (Jvm.Cond.code ({ cls := "java/lang/StringUTF16", name := "charAt", desc := "([BI)C" } : Jvm.MethodName) prog_53_method_83_code (2 : Nat) (Option.some Jvm.ClassFile.FieldType.char)) ∈ lw_all := lw_g (lw_at lw_m2 216 rfl) rfl
theorem q601 : (Jvm.Cond.methodLink "java/lang/StringUTF16" (67 : Nat) ({ cls := "java/lang/StringUTF16", name := "checkIndex", desc := "(I[B)V" } : Jvm.MethodName)) ∈ lw_all := lw_g (lw_at lw_m2 217 rfl) rfl
theorem q602 : (Jvm.Cond.static ({ cls := "java/lang/StringUTF16", name := "checkIndex", desc := "(I[B)V" } : Jvm.MethodName)) ∈ lw_all := lw_g (lw_at lw_m2 218 rfl) rfl
theorem q603 : (Jvm.Cond.code ({ cls := "java/lang/StringUTF16", name := "checkIndex", desc := "(I[B)V" } : Jvm.MethodName) prog_53_method_91_code (2 : Nat) (Option.none : Option Jvm.ClassFile.FieldType)) ∈ lw_all := lw_g (lw_at lw_m2 219 rfl) rfl
theorem q604 : (Jvm.Cond.methodLink "java/lang/StringUTF16" (48 : Nat) ({ cls := "java/lang/StringUTF16", name := "length", desc := "([B)I" } : Jvm.MethodName)) ∈ lw_all := lw_g (lw_at lw_m2 220 rfl) rfl
theorem q605 : (Jvm.Cond.static ({ cls := "java/lang/StringUTF16", name := "length", desc := "([B)I" } : Jvm.MethodName)) ∈ lw_all := lw_g (lw_at lw_m2 221 rfl) rfl
theorem q606 : (Jvm.Cond.code ({ cls := "java/lang/StringUTF16", name := "length", desc := "([B)I" } : Jvm.MethodName) prog_53_method_6_code (1 : Nat) (Option.some Jvm.ClassFile.FieldType.int)) ∈ lw_all := lw_g (lw_at lw_m2 222 rfl) rfl
theorem q607 : (Jvm.Cond.methodLink "java/lang/StringUTF16" (414 : Nat) ({ cls := "java/lang/String", name := "checkIndex", desc := "(II)V" } : Jvm.MethodName)) ∈ lw_all := lw_g (lw_at lw_m2 223 rfl) rfl
theorem q608 : (Jvm.Cond.methodLink "java/lang/StringUTF16" (71 : Nat) ({ cls := "java/lang/StringUTF16", name := "getChar", desc := "([BI)C" } : Jvm.MethodName)) ∈ lw_all := lw_g (lw_at lw_m2 224 rfl) rfl
theorem q609 : (Jvm.Cond.static ({ cls := "java/lang/StringUTF16", name := "getChar", desc := "([BI)C" } : Jvm.MethodName)) ∈ lw_all := lw_g (lw_at lw_m2 225 rfl) rfl
theorem q610 : (Jvm.Cond.code ({ cls := "java/lang/StringUTF16", name := "getChar", desc := "([BI)C" } : Jvm.MethodName) prog_53_method_5_code (2 : Nat) (Option.some Jvm.ClassFile.FieldType.char)) ∈ lw_all := lw_g (lw_at lw_m2 226 rfl) rfl
theorem q611 : (Jvm.Cond.fieldLink "java/lang/StringUTF16" (44 : Nat) "java/lang/StringUTF16" "$assertionsDisabled" "Z") ∈ lw_all := lw_g (lw_at lw_m2 227 rfl) rfl
theorem q612 : (Jvm.Cond.laysStatic "java/lang/StringUTF16" "$assertionsDisabled" "Z") ∈ lw_tbl := lw_at lw_m2 228 rfl
theorem q613 : (Jvm.Cond.fieldLink "java/lang/StringUTF16" (59 : Nat) "java/lang/StringUTF16" "HI_BYTE_SHIFT" "I") ∈ lw_all := lw_g (lw_at lw_m2 229 rfl) rfl
theorem q614 : (Jvm.Cond.laysStatic "java/lang/StringUTF16" "HI_BYTE_SHIFT" "I") ∈ lw_tbl := lw_at lw_m2 230 rfl
theorem q615 : (Jvm.Cond.fieldLink "java/lang/StringUTF16" (63 : Nat) "java/lang/StringUTF16" "LO_BYTE_SHIFT" "I") ∈ lw_all := lw_g (lw_at lw_m2 231 rfl) rfl
theorem q616 : (Jvm.Cond.laysStatic "java/lang/StringUTF16" "LO_BYTE_SHIFT" "I") ∈ lw_tbl := lw_at lw_m2 232 rfl
/-! jdk/internal/util/ArraysSupport -/
set_option maxRecDepth 100000
def RJ9 : String := "jdk/internal/util/ArraysSupport"
abbrev cJ9_newLength : ByteArray := prog_65_method_27_code
def yJ9_newLength : MethodName := ⟨RJ9, "newLength", "(III)I"⟩
def dkwJ9_newLength_1 : List UInt8 := [184, 0, 201, 172]
abbrev dktJ9_newLength_1 : List UInt8 := dkwJ9_newLength_1 ++ []
def dkwJ9_newLength_0 : List UInt8 := [26, 27, 28, 184, 0, 194, 96, 62, 3, 29, 162, 0, 11, 29, 18, 200, 163, 0, 5, 29, 172, 26, 27]
abbrev dktJ9_newLength_0 : List UInt8 := dkwJ9_newLength_0 ++ dktJ9_newLength_1
theorem dksJ9_newLength_0 : cJ9_newLength.data.toList.drop 0 = dktJ9_newLength_0 := by decide +kernel
theorem dksJ9_newLength_1 : cJ9_newLength.data.toList.drop 23 = dktJ9_newLength_1 := dk_seg dksJ9_newLength_0 23 rfl rfl
theorem dJ9_newLength_0 : decode cJ9_newLength 0 = .ok (.iload_n 0, 1) := dk_26 (dk_at dksJ9_newLength_0 0 rfl rfl)
theorem dJ9_newLength_1 : decode cJ9_newLength 1 = .ok (.iload_n 1, 1) := dk_27 (dk_at dksJ9_newLength_0 1 rfl rfl)
theorem dJ9_newLength_2 : decode cJ9_newLength 2 = .ok (.iload_n 2, 1) := dk_28 (dk_at dksJ9_newLength_0 2 rfl rfl)
theorem dJ9_newLength_3 : decode cJ9_newLength 3 = .ok (.invokestatic 194, 3) := dk_184 0 194 (dk_at dksJ9_newLength_0 3 rfl rfl)
theorem dJ9_newLength_6 : decode cJ9_newLength 6 = .ok (.iadd, 1) := dk_96 (dk_at dksJ9_newLength_0 6 rfl rfl)
theorem dJ9_newLength_7 : decode cJ9_newLength 7 = .ok (.istore_n 3, 1) := dk_62 (dk_at dksJ9_newLength_0 7 rfl rfl)
theorem dJ9_newLength_8 : decode cJ9_newLength 8 = .ok (.iconst 0, 1) := dk_3 (dk_at dksJ9_newLength_0 8 rfl rfl)
theorem dJ9_newLength_9 : decode cJ9_newLength 9 = .ok (.iload_n 3, 1) := dk_29 (dk_at dksJ9_newLength_0 9 rfl rfl)
theorem dJ9_newLength_10 : decode cJ9_newLength 10 = .ok (.if_icmp .ge 11, 3) := dk_162 0 11 (dk_at dksJ9_newLength_0 10 rfl rfl)
theorem dJ9_newLength_13 : decode cJ9_newLength 13 = .ok (.iload_n 3, 1) := dk_29 (dk_at dksJ9_newLength_0 13 rfl rfl)
theorem dJ9_newLength_14 : decode cJ9_newLength 14 = .ok (.ldc 200, 2) := dk_18 200 (dk_at dksJ9_newLength_0 14 rfl rfl)
theorem dJ9_newLength_16 : decode cJ9_newLength 16 = .ok (.if_icmp .gt 5, 3) := dk_163 0 5 (dk_at dksJ9_newLength_0 16 rfl rfl)
theorem dJ9_newLength_19 : decode cJ9_newLength 19 = .ok (.iload_n 3, 1) := dk_29 (dk_at dksJ9_newLength_0 19 rfl rfl)
theorem dJ9_newLength_20 : decode cJ9_newLength 20 = .ok (.ireturn, 1) := dk_172 (dk_at dksJ9_newLength_0 20 rfl rfl)
theorem dJ9_newLength_21 : decode cJ9_newLength 21 = .ok (.iload_n 0, 1) := dk_26 (dk_at dksJ9_newLength_0 21 rfl rfl)
theorem dJ9_newLength_22 : decode cJ9_newLength 22 = .ok (.iload_n 1, 1) := dk_27 (dk_at dksJ9_newLength_0 22 rfl rfl)
theorem dJ9_newLength_23 : decode cJ9_newLength 23 = .ok (.invokestatic 201, 3) := dk_184 0 201 (dk_at dksJ9_newLength_1 0 rfl rfl)
theorem dJ9_newLength_26 : decode cJ9_newLength 26 = .ok (.ireturn, 1) := dk_172 (dk_at dksJ9_newLength_1 3 rfl rfl)
abbrev cJ9_hugeLength : ByteArray := prog_65_method_28_code
def yJ9_hugeLength : MethodName := ⟨RJ9, "hugeLength", "(II)I"⟩
def dkwJ9_hugeLength_2 : List UInt8 := [191, 28, 18, 200, 163, 0, 6, 18, 200, 172, 28, 172]
abbrev dktJ9_hugeLength_2 : List UInt8 := dkwJ9_hugeLength_2 ++ []
def dkwJ9_hugeLength_1 : List UInt8 := [26, 182, 0, 98, 18, 208, 182, 0, 94, 27, 182, 0, 98, 18, 210, 182, 0, 94, 182, 0, 101, 183, 0, 212]
abbrev dktJ9_hugeLength_1 : List UInt8 := dkwJ9_hugeLength_1 ++ dktJ9_hugeLength_2
def dkwJ9_hugeLength_0 : List UInt8 := [26, 27, 96, 61, 28, 156, 0, 44, 187, 0, 204, 89, 187, 0, 89, 89, 183, 0, 91, 18, 206, 182, 0, 94]
abbrev dktJ9_hugeLength_0 : List UInt8 := dkwJ9_hugeLength_0 ++ dktJ9_hugeLength_1
theorem dksJ9_hugeLength_0 : cJ9_hugeLength.data.toList.drop 0 = dktJ9_hugeLength_0 := by decide +kernel
theorem dksJ9_hugeLength_1 : cJ9_hugeLength.data.toList.drop 24 = dktJ9_hugeLength_1 := dk_seg dksJ9_hugeLength_0 24 rfl rfl
theorem dksJ9_hugeLength_2 : cJ9_hugeLength.data.toList.drop 48 = dktJ9_hugeLength_2 := dk_seg dksJ9_hugeLength_1 24 rfl rfl
theorem dJ9_hugeLength_0 : decode cJ9_hugeLength 0 = .ok (.iload_n 0, 1) := dk_26 (dk_at dksJ9_hugeLength_0 0 rfl rfl)
theorem dJ9_hugeLength_1 : decode cJ9_hugeLength 1 = .ok (.iload_n 1, 1) := dk_27 (dk_at dksJ9_hugeLength_0 1 rfl rfl)
theorem dJ9_hugeLength_2 : decode cJ9_hugeLength 2 = .ok (.iadd, 1) := dk_96 (dk_at dksJ9_hugeLength_0 2 rfl rfl)
theorem dJ9_hugeLength_3 : decode cJ9_hugeLength 3 = .ok (.istore_n 2, 1) := dk_61 (dk_at dksJ9_hugeLength_0 3 rfl rfl)
theorem dJ9_hugeLength_4 : decode cJ9_hugeLength 4 = .ok (.iload_n 2, 1) := dk_28 (dk_at dksJ9_hugeLength_0 4 rfl rfl)
theorem dJ9_hugeLength_5 : decode cJ9_hugeLength 5 = .ok (.ifCond .ge 44, 3) := dk_156 0 44 (dk_at dksJ9_hugeLength_0 5 rfl rfl)
theorem dJ9_hugeLength_8 : decode cJ9_hugeLength 8 = .ok (.new 204, 3) := dk_187 0 204 (dk_at dksJ9_hugeLength_0 8 rfl rfl)
theorem dJ9_hugeLength_11 : decode cJ9_hugeLength 11 = .ok (.dup, 1) := dk_89 (dk_at dksJ9_hugeLength_0 11 rfl rfl)
theorem dJ9_hugeLength_12 : decode cJ9_hugeLength 12 = .ok (.new 89, 3) := dk_187 0 89 (dk_at dksJ9_hugeLength_0 12 rfl rfl)
theorem dJ9_hugeLength_15 : decode cJ9_hugeLength 15 = .ok (.dup, 1) := dk_89 (dk_at dksJ9_hugeLength_0 15 rfl rfl)
theorem dJ9_hugeLength_16 : decode cJ9_hugeLength 16 = .ok (.invokespecial 91, 3) := dk_183 0 91 (dk_at dksJ9_hugeLength_0 16 rfl rfl)
theorem dJ9_hugeLength_19 : decode cJ9_hugeLength 19 = .ok (.ldc 206, 2) := dk_18 206 (dk_at dksJ9_hugeLength_0 19 rfl rfl)
theorem dJ9_hugeLength_21 : decode cJ9_hugeLength 21 = .ok (.invokevirtual 94, 3) := dk_182 0 94 (dk_at dksJ9_hugeLength_0 21 rfl rfl)
theorem dJ9_hugeLength_24 : decode cJ9_hugeLength 24 = .ok (.iload_n 0, 1) := dk_26 (dk_at dksJ9_hugeLength_1 0 rfl rfl)
theorem dJ9_hugeLength_25 : decode cJ9_hugeLength 25 = .ok (.invokevirtual 98, 3) := dk_182 0 98 (dk_at dksJ9_hugeLength_1 1 rfl rfl)
theorem dJ9_hugeLength_28 : decode cJ9_hugeLength 28 = .ok (.ldc 208, 2) := dk_18 208 (dk_at dksJ9_hugeLength_1 4 rfl rfl)
theorem dJ9_hugeLength_30 : decode cJ9_hugeLength 30 = .ok (.invokevirtual 94, 3) := dk_182 0 94 (dk_at dksJ9_hugeLength_1 6 rfl rfl)
theorem dJ9_hugeLength_33 : decode cJ9_hugeLength 33 = .ok (.iload_n 1, 1) := dk_27 (dk_at dksJ9_hugeLength_1 9 rfl rfl)
theorem dJ9_hugeLength_34 : decode cJ9_hugeLength 34 = .ok (.invokevirtual 98, 3) := dk_182 0 98 (dk_at dksJ9_hugeLength_1 10 rfl rfl)
theorem dJ9_hugeLength_37 : decode cJ9_hugeLength 37 = .ok (.ldc 210, 2) := dk_18 210 (dk_at dksJ9_hugeLength_1 13 rfl rfl)
theorem dJ9_hugeLength_39 : decode cJ9_hugeLength 39 = .ok (.invokevirtual 94, 3) := dk_182 0 94 (dk_at dksJ9_hugeLength_1 15 rfl rfl)
theorem dJ9_hugeLength_42 : decode cJ9_hugeLength 42 = .ok (.invokevirtual 101, 3) := dk_182 0 101 (dk_at dksJ9_hugeLength_1 18 rfl rfl)
theorem dJ9_hugeLength_45 : decode cJ9_hugeLength 45 = .ok (.invokespecial 212, 3) := dk_183 0 212 (dk_at dksJ9_hugeLength_1 21 rfl rfl)
theorem dJ9_hugeLength_48 : decode cJ9_hugeLength 48 = .ok (.athrow, 1) := dk_191 (dk_at dksJ9_hugeLength_2 0 rfl rfl)
theorem dJ9_hugeLength_49 : decode cJ9_hugeLength 49 = .ok (.iload_n 2, 1) := dk_28 (dk_at dksJ9_hugeLength_2 1 rfl rfl)
theorem dJ9_hugeLength_50 : decode cJ9_hugeLength 50 = .ok (.ldc 200, 2) := dk_18 200 (dk_at dksJ9_hugeLength_2 2 rfl rfl)
theorem dJ9_hugeLength_52 : decode cJ9_hugeLength 52 = .ok (.if_icmp .gt 6, 3) := dk_163 0 6 (dk_at dksJ9_hugeLength_2 4 rfl rfl)
theorem dJ9_hugeLength_55 : decode cJ9_hugeLength 55 = .ok (.ldc 200, 2) := dk_18 200 (dk_at dksJ9_hugeLength_2 7 rfl rfl)
theorem dJ9_hugeLength_57 : decode cJ9_hugeLength 57 = .ok (.ireturn, 1) := dk_172 (dk_at dksJ9_hugeLength_2 9 rfl rfl)
theorem dJ9_hugeLength_58 : decode cJ9_hugeLength 58 = .ok (.iload_n 2, 1) := dk_28 (dk_at dksJ9_hugeLength_2 10 rfl rfl)
theorem dJ9_hugeLength_59 : decode cJ9_hugeLength 59 = .ok (.ireturn, 1) := dk_172 (dk_at dksJ9_hugeLength_2 11 rfl rfl)
theorem q187 : (Jvm.Cond.initialized "jdk/internal/util/ArraysSupport") ∈ lw_all := lw_g (lw_at lw_m1 43 rfl) rfl
theorem q1137 : (Jvm.Cond.static ({ cls := "jdk/internal/util/ArraysSupport", name := "newLength", desc := "(III)I" } : Jvm.MethodName)) ∈ lw_all := lw_g (lw_at lw_m5 33 rfl) rfl
theorem q1138 : (Jvm.Cond.code ({ cls := "jdk/internal/util/ArraysSupport", name := "newLength", desc := "(III)I" } : Jvm.MethodName) prog_65_method_27_code (4 : Nat) (Option.some Jvm.ClassFile.FieldType.int)) ∈ lw_all := lw_g (lw_at lw_m5 34 rfl) rfl
theorem q1139 : (Jvm.Cond.methodLink "jdk/internal/util/ArraysSupport" (194 : Nat) ({ cls := "java/lang/Math", name := "max", desc := "(II)I" } : Jvm.MethodName)) ∈ lw_all := lw_g (lw_at lw_m5 35 rfl) rfl
theorem q1142 : (Jvm.Cond.constant "jdk/internal/util/ArraysSupport" (200 : Nat) (2147483639 : Int32)) ∈ lw_all := lw_g (lw_at lw_m5 38 rfl) rfl
theorem q1143 : (Jvm.Cond.methodLink "jdk/internal/util/ArraysSupport" (201 : Nat) ({ cls := "jdk/internal/util/ArraysSupport", name := "hugeLength", desc := "(II)I" } : Jvm.MethodName)) ∈ lw_all := lw_g (lw_at lw_m5 39 rfl) rfl
theorem q1144 : (Jvm.Cond.static ({ cls := "jdk/internal/util/ArraysSupport", name := "hugeLength", desc := "(II)I" } : Jvm.MethodName)) ∈ lw_all := lw_g (lw_at lw_m5 40 rfl) rfl
theorem q1145 : (Jvm.Cond.code ({ cls := "jdk/internal/util/ArraysSupport", name := "hugeLength", desc := "(II)I" } : Jvm.MethodName) prog_65_method_28_code (3 : Nat) (Option.some Jvm.ClassFile.FieldType.int)) ∈ lw_all := lw_g (lw_at lw_m5 41 rfl) rfl
/-! the law's own entry -/
set_option maxRecDepth 100000
abbrev cL_law : ByteArray := code
def dkwL_law_50 : List UInt8 := [159, 0, 5, 3, 172, 132, 3, 6, 167, 250, 243, 4, 172]
abbrev dktL_law_50 : List UInt8 := dkwL_law_50 ++ []
def dkwL_law_49 : List UInt8 := [96, 46, 42, 29, 5, 96, 46, 182, 0, 163, 44, 42, 29, 4, 96, 46, 42, 29, 5, 96, 46, 182, 0, 166]
abbrev dktL_law_49 : List UInt8 := dkwL_law_49 ++ dktL_law_50
def dkwL_law_48 : List UInt8 := [96, 46, 42, 29, 7, 96, 46, 42, 29, 8, 96, 46, 182, 0, 162, 159, 0, 38, 3, 172, 43, 42, 29, 4]
abbrev dktL_law_48 : List UInt8 := dkwL_law_48 ++ dktL_law_49
def dkwL_law_47 : List UInt8 := [96, 46, 42, 29, 8, 96, 46, 182, 0, 158, 44, 42, 29, 4, 96, 46, 42, 29, 5, 96, 46, 42, 29, 6]
abbrev dktL_law_47 : List UInt8 := dkwL_law_47 ++ dktL_law_48
def dkwL_law_46 : List UInt8 := [159, 0, 101, 3, 172, 43, 42, 29, 4, 96, 46, 42, 29, 5, 96, 46, 42, 29, 6, 96, 46, 42, 29, 7]
abbrev dktL_law_46 : List UInt8 := dkwL_law_46 ++ dktL_law_47
def dkwL_law_45 : List UInt8 := [46, 42, 29, 6, 96, 46, 182, 0, 153, 148, 153, 0, 114, 3, 172, 43, 182, 0, 154, 44, 182, 0, 157]
abbrev dktL_law_45 : List UInt8 := dkwL_law_45 ++ dktL_law_46
def dkwL_law_44 : List UInt8 := [46, 42, 29, 5, 96, 46, 42, 29, 6, 96, 46, 182, 0, 149, 44, 42, 29, 4, 96, 46, 42, 29, 5, 96]
abbrev dktL_law_44 : List UInt8 := dkwL_law_44 ++ dktL_law_45
def dkwL_law_43 : List UInt8 := [42, 29, 8, 96, 46, 133, 20, 0, 13, 127, 129, 182, 0, 148, 159, 0, 158, 3, 172, 43, 42, 29, 4, 96]
abbrev dktL_law_43 : List UInt8 := dkwL_law_43 ++ dktL_law_44
def dkwL_law_42 : List UInt8 := [42, 29, 4, 96, 46, 42, 29, 5, 96, 46, 42, 29, 6, 96, 46, 42, 29, 7, 96, 46, 133, 16, 32, 121]
abbrev dktL_law_42 : List UInt8 := dkwL_law_42 ++ dktL_law_43
def dkwL_law_41 : List UInt8 := [42, 29, 7, 96, 46, 133, 16, 32, 121, 42, 29, 8, 96, 46, 133, 20, 0, 13, 127, 129, 182, 0, 144, 44]
abbrev dktL_law_41 : List UInt8 := dkwL_law_41 ++ dktL_law_42
def dkwL_law_40 : List UInt8 := [182, 0, 143, 159, 0, 241, 3, 172, 43, 42, 29, 4, 96, 46, 42, 29, 5, 96, 46, 42, 29, 6, 96, 46]
abbrev dktL_law_40 : List UInt8 := dkwL_law_40 ++ dktL_law_41
def dkwL_law_39 : List UInt8 := [29, 4, 96, 46, 42, 29, 5, 96, 46, 182, 0, 140, 44, 42, 29, 4, 96, 46, 42, 29, 5, 96, 46]
abbrev dktL_law_39 : List UInt8 := dkwL_law_39 ++ dktL_law_40
def dkwL_law_38 : List UInt8 := [182, 0, 136, 44, 42, 29, 4, 96, 46, 42, 29, 5, 96, 46, 182, 0, 139, 159, 1, 18, 3, 172, 43, 42]
abbrev dktL_law_38 : List UInt8 := dkwL_law_38 ++ dktL_law_39
def dkwL_law_37 : List UInt8 := [6, 96, 46, 182, 0, 135, 159, 1, 51, 3, 172, 43, 42, 29, 4, 96, 46, 42, 29, 5, 96, 46]
abbrev dktL_law_37 : List UInt8 := dkwL_law_37 ++ dktL_law_38
def dkwL_law_36 : List UInt8 := [5, 96, 46, 42, 29, 6, 96, 46, 182, 0, 131, 44, 42, 29, 4, 96, 46, 42, 29, 5, 96, 46, 42, 29]
abbrev dktL_law_36 : List UInt8 := dkwL_law_36 ++ dktL_law_37
def dkwL_law_35 : List UInt8 := [3, 172, 43, 182, 0, 126, 44, 182, 0, 130, 148, 153, 1, 94, 3, 172, 43, 42, 29, 4, 96, 46, 42, 29]
abbrev dktL_law_35 : List UInt8 := dkwL_law_35 ++ dktL_law_36
def dkwL_law_34 : List UInt8 := [29, 5, 96, 46, 182, 0, 122, 44, 42, 29, 4, 96, 46, 42, 29, 5, 96, 46, 182, 0, 125, 159, 1, 108]
abbrev dktL_law_34 : List UInt8 := dkwL_law_34 ++ dktL_law_35
def dkwL_law_33 : List UInt8 := [182, 0, 118, 44, 42, 29, 4, 96, 46, 182, 0, 121, 159, 1, 141, 3, 172, 43, 42, 29, 4, 96, 46, 42]
abbrev dktL_law_33 : List UInt8 := dkwL_law_33 ++ dktL_law_34
def dkwL_law_32 : List UInt8 := [182, 0, 114, 44, 42, 29, 4, 96, 46, 182, 0, 117, 159, 1, 164, 3, 172, 43, 42, 29, 4, 96, 46]
abbrev dktL_law_32 : List UInt8 := dkwL_law_32 ++ dktL_law_33
def dkwL_law_31 : List UInt8 := [182, 0, 110, 44, 42, 29, 4, 96, 46, 182, 0, 113, 159, 1, 187, 3, 172, 43, 42, 29, 4, 96, 46]
abbrev dktL_law_31 : List UInt8 := dkwL_law_31 ++ dktL_law_32
def dkwL_law_30 : List UInt8 := [153, 0, 7, 4, 167, 0, 4, 3, 182, 0, 109, 159, 1, 210, 3, 172, 43, 42, 29, 4, 96, 46]
abbrev dktL_law_30 : List UInt8 := dkwL_law_30 ++ dktL_law_31
def dkwL_law_29 : List UInt8 := [43, 42, 29, 4, 96, 46, 153, 0, 7, 4, 167, 0, 4, 3, 182, 0, 105, 44, 42, 29, 4, 96, 46]
abbrev dktL_law_29 : List UInt8 := dkwL_law_29 ++ dktL_law_30
def dkwL_law_28 : List UInt8 := [4, 96, 46, 42, 29, 5, 96, 46, 153, 0, 7, 4, 167, 0, 4, 3, 182, 0, 104, 159, 1, 249, 3, 172]
abbrev dktL_law_28 : List UInt8 := dkwL_law_28 ++ dktL_law_29
def dkwL_law_27 : List UInt8 := [42, 29, 4, 96, 46, 42, 29, 5, 96, 46, 153, 0, 7, 4, 167, 0, 4, 3, 182, 0, 100, 44, 42, 29]
abbrev dktL_law_27 : List UInt8 := dkwL_law_27 ++ dktL_law_28
def dkwL_law_26 : List UInt8 := [46, 182, 0, 96, 44, 42, 29, 4, 96, 46, 42, 29, 5, 96, 46, 182, 0, 99, 159, 2, 42, 3, 172, 43]
abbrev dktL_law_26 : List UInt8 := dkwL_law_26 ++ dktL_law_27
def dkwL_law_25 : List UInt8 := [44, 42, 29, 4, 96, 46, 182, 0, 95, 159, 2, 75, 3, 172, 43, 42, 29, 4, 96, 46, 42, 29, 5, 96]
abbrev dktL_law_25 : List UInt8 := dkwL_law_25 ++ dktL_law_26
def dkwL_law_24 : List UInt8 := [46, 42, 29, 5, 96, 46, 182, 0, 91, 148, 153, 2, 98, 3, 172, 43, 42, 29, 4, 96, 46, 182, 0, 92]
abbrev dktL_law_24 : List UInt8 := dkwL_law_24 ++ dktL_law_25
def dkwL_law_23 : List UInt8 := [159, 2, 132, 3, 172, 43, 42, 29, 4, 96, 46, 42, 29, 5, 96, 46, 182, 0, 87, 44, 42, 29, 4, 96]
abbrev dktL_law_23 : List UInt8 := dkwL_law_23 ++ dktL_law_24
def dkwL_law_22 : List UInt8 := [96, 46, 42, 29, 5, 96, 46, 182, 0, 83, 44, 42, 29, 4, 96, 46, 42, 29, 5, 96, 46, 182, 0, 86]
abbrev dktL_law_22 : List UInt8 := dkwL_law_22 ++ dktL_law_23
def dkwL_law_21 : List UInt8 := [4, 96, 46, 182, 0, 79, 44, 42, 29, 4, 96, 46, 182, 0, 82, 159, 2, 165, 3, 172, 43, 42, 29, 4]
abbrev dktL_law_21 : List UInt8 := dkwL_law_21 ++ dktL_law_22
def dkwL_law_20 : List UInt8 := [29, 4, 96, 46, 182, 0, 75, 44, 42, 29, 4, 96, 46, 182, 0, 78, 159, 2, 188, 3, 172, 43, 42, 29]
abbrev dktL_law_20 : List UInt8 := dkwL_law_20 ++ dktL_law_21
def dkwL_law_19 : List UInt8 := [182, 0, 71, 44, 42, 29, 4, 96, 46, 42, 29, 5, 96, 46, 182, 0, 74, 159, 2, 211, 3, 172, 43, 42]
abbrev dktL_law_19 : List UInt8 := dkwL_law_19 ++ dktL_law_20
def dkwL_law_18 : List UInt8 := [182, 0, 67, 44, 182, 0, 70, 159, 2, 244, 3, 172, 43, 42, 29, 4, 96, 46, 42, 29, 5, 96, 46]
abbrev dktL_law_18 : List UInt8 := dkwL_law_18 ++ dktL_law_19
def dkwL_law_17 : List UInt8 := [46, 182, 0, 63, 44, 42, 29, 4, 96, 46, 42, 29, 5, 96, 46, 182, 0, 66, 159, 3, 1, 3, 172, 43]
abbrev dktL_law_17 : List UInt8 := dkwL_law_17 ++ dktL_law_18
def dkwL_law_16 : List UInt8 := [46, 42, 29, 5, 96, 46, 182, 0, 62, 159, 3, 34, 3, 172, 43, 42, 29, 4, 96, 46, 42, 29, 5, 96]
abbrev dktL_law_16 : List UInt8 := dkwL_law_16 ++ dktL_law_17
def dkwL_law_15 : List UInt8 := [159, 3, 67, 3, 172, 43, 42, 29, 4, 96, 46, 42, 29, 5, 96, 46, 182, 0, 59, 44, 42, 29, 4, 96]
abbrev dktL_law_15 : List UInt8 := dkwL_law_15 ++ dktL_law_16
def dkwL_law_14 : List UInt8 := [42, 29, 5, 96, 46, 182, 0, 55, 44, 42, 29, 4, 96, 46, 42, 29, 5, 96, 46, 182, 0, 58]
abbrev dktL_law_14 : List UInt8 := dkwL_law_14 ++ dktL_law_15
def dkwL_law_13 : List UInt8 := [42, 29, 4, 96, 46, 42, 29, 5, 96, 46, 182, 0, 54, 159, 3, 100, 3, 172, 43, 42, 29, 4, 96, 46]
abbrev dktL_law_13 : List UInt8 := dkwL_law_13 ++ dktL_law_14
def dkwL_law_12 : List UInt8 := [44, 182, 0, 50, 159, 3, 133, 3, 172, 43, 42, 29, 4, 96, 46, 42, 29, 5, 96, 46, 182, 0, 51, 44]
abbrev dktL_law_12 : List UInt8 := dkwL_law_12 ++ dktL_law_13
def dkwL_law_11 : List UInt8 := [4, 96, 46, 182, 0, 42, 44, 42, 29, 4, 96, 46, 182, 0, 45, 159, 3, 146, 3, 172, 43, 182, 0, 46]
abbrev dktL_law_11 : List UInt8 := dkwL_law_11 ++ dktL_law_12
def dkwL_law_10 : List UInt8 := [29, 4, 96, 46, 182, 0, 38, 44, 42, 29, 4, 96, 46, 182, 0, 41, 159, 3, 169, 3, 172, 43, 42, 29]
abbrev dktL_law_10 : List UInt8 := dkwL_law_10 ++ dktL_law_11
def dkwL_law_9 : List UInt8 := [182, 0, 33, 44, 42, 29, 4, 96, 46, 42, 29, 5, 96, 46, 182, 0, 37, 159, 3, 192, 3, 172, 43, 42]
abbrev dktL_law_9 : List UInt8 := dkwL_law_9 ++ dktL_law_10
def dkwL_law_8 : List UInt8 := [29, 4, 96, 46, 182, 0, 32, 159, 3, 225, 3, 172, 43, 42, 29, 4, 96, 46, 42, 29, 5, 96, 46]
abbrev dktL_law_8 : List UInt8 := dkwL_law_8 ++ dktL_law_9
def dkwL_law_7 : List UInt8 := [42, 29, 4, 96, 46, 182, 0, 28, 159, 3, 248, 3, 172, 43, 42, 29, 4, 96, 46, 182, 0, 29, 44, 42]
abbrev dktL_law_7 : List UInt8 := dkwL_law_7 ++ dktL_law_8
def dkwL_law_6 : List UInt8 := [44, 42, 29, 4, 96, 46, 182, 0, 24, 159, 4, 15, 3, 172, 43, 42, 29, 4, 96, 46, 182, 0, 25, 44]
abbrev dktL_law_6 : List UInt8 := dkwL_law_6 ++ dktL_law_7
def dkwL_law_5 : List UInt8 := [127, 129, 42, 29, 6, 96, 46, 182, 0, 19, 159, 4, 38, 3, 172, 43, 42, 29, 4, 96, 46, 182, 0, 20]
abbrev dktL_law_5 : List UInt8 := dkwL_law_5 ++ dktL_law_6
def dkwL_law_4 : List UInt8 := [96, 46, 182, 0, 15, 44, 42, 29, 4, 96, 46, 133, 16, 32, 121, 42, 29, 5, 96, 46, 133, 20, 0, 13]
abbrev dktL_law_4 : List UInt8 := dkwL_law_4 ++ dktL_law_5
def dkwL_law_3 : List UInt8 := [43, 42, 29, 4, 96, 46, 133, 16, 32, 121, 42, 29, 5, 96, 46, 133, 20, 0, 13, 127, 129, 42, 29, 6]
abbrev dktL_law_3 : List UInt8 := dkwL_law_3 ++ dktL_law_4
def dkwL_law_2 : List UInt8 := [170, 0, 0, 0, 0, 4, 251, 0, 0, 0, 0, 0, 0, 0, 34, 0, 0, 0, 155, 0, 0, 0, 218, 0, 0, 0, 241, 0, 0, 1, 8, 0, 0, 1, 31, 0, 0, 1, 64, 0, 0, 1, 87, 0, 0, 1, 110, 0, 0, 1, 123, 0, 0, 1, 156, 0, 0, 1, 189, 0, 0, 1, 222, 0, 0, 1, 255, 0, 0, 2, 12, 0, 0, 2, 45, 0, 0, 2, 68, 0, 0, 2, 91, 0, 0, 2, 124, 0, 0, 2, 158, 0, 0, 2, 181, 0, 0, 2, 214, 0, 0, 3, 7, 0, 0, 3, 46, 0, 0, 3, 69, 0, 0, 3, 92, 0, 0, 3, 115, 0, 0, 3, 148, 0, 0, 3, 162, 0, 0, 3, 205, 0, 0, 3, 238, 0, 0, 4, 15, 0, 0, 4, 98, 0, 0, 4, 142, 0, 0, 4, 155, 0, 0, 4, 218]
abbrev dktL_law_2 : List UInt8 := dkwL_law_2 ++ dktL_law_3
def dkwL_law_1 : List UInt8 := [163, 5, 10, 42, 29, 46, 16, 63, 126]
abbrev dktL_law_1 : List UInt8 := dkwL_law_1 ++ dktL_law_2
def dkwL_law_0 : List UInt8 := [187, 0, 7, 89, 183, 0, 9, 76, 187, 0, 10, 89, 183, 0, 12, 77, 3, 62, 29, 42, 190, 16, 6, 100]
abbrev dktL_law_0 : List UInt8 := dkwL_law_0 ++ dktL_law_1
theorem dksL_law_0 : cL_law.data.toList.drop 0 = dktL_law_0 := by decide +kernel
theorem dksL_law_1 : cL_law.data.toList.drop 24 = dktL_law_1 := dk_seg dksL_law_0 24 rfl rfl
theorem dksL_law_2 : cL_law.data.toList.drop 33 = dktL_law_2 := dk_seg dksL_law_1 9 rfl rfl
theorem dksL_law_3 : cL_law.data.toList.drop 188 = dktL_law_3 := dk_seg dksL_law_2 155 rfl rfl
theorem dksL_law_4 : cL_law.data.toList.drop 212 = dktL_law_4 := dk_seg dksL_law_3 24 rfl rfl
theorem dksL_law_5 : cL_law.data.toList.drop 236 = dktL_law_5 := dk_seg dksL_law_4 24 rfl rfl
theorem dksL_law_6 : cL_law.data.toList.drop 260 = dktL_law_6 := dk_seg dksL_law_5 24 rfl rfl
theorem dksL_law_7 : cL_law.data.toList.drop 284 = dktL_law_7 := dk_seg dksL_law_6 24 rfl rfl
theorem dksL_law_8 : cL_law.data.toList.drop 308 = dktL_law_8 := dk_seg dksL_law_7 24 rfl rfl
theorem dksL_law_9 : cL_law.data.toList.drop 331 = dktL_law_9 := dk_seg dksL_law_8 23 rfl rfl
theorem dksL_law_10 : cL_law.data.toList.drop 355 = dktL_law_10 := dk_seg dksL_law_9 24 rfl rfl
theorem dksL_law_11 : cL_law.data.toList.drop 379 = dktL_law_11 := dk_seg dksL_law_10 24 rfl rfl
theorem dksL_law_12 : cL_law.data.toList.drop 403 = dktL_law_12 := dk_seg dksL_law_11 24 rfl rfl
theorem dksL_law_13 : cL_law.data.toList.drop 427 = dktL_law_13 := dk_seg dksL_law_12 24 rfl rfl
theorem dksL_law_14 : cL_law.data.toList.drop 451 = dktL_law_14 := dk_seg dksL_law_13 24 rfl rfl
theorem dksL_law_15 : cL_law.data.toList.drop 473 = dktL_law_15 := dk_seg dksL_law_14 22 rfl rfl
theorem dksL_law_16 : cL_law.data.toList.drop 497 = dktL_law_16 := dk_seg dksL_law_15 24 rfl rfl
theorem dksL_law_17 : cL_law.data.toList.drop 521 = dktL_law_17 := dk_seg dksL_law_16 24 rfl rfl
theorem dksL_law_18 : cL_law.data.toList.drop 545 = dktL_law_18 := dk_seg dksL_law_17 24 rfl rfl
theorem dksL_law_19 : cL_law.data.toList.drop 568 = dktL_law_19 := dk_seg dksL_law_18 23 rfl rfl
theorem dksL_law_20 : cL_law.data.toList.drop 592 = dktL_law_20 := dk_seg dksL_law_19 24 rfl rfl
theorem dksL_law_21 : cL_law.data.toList.drop 616 = dktL_law_21 := dk_seg dksL_law_20 24 rfl rfl
theorem dksL_law_22 : cL_law.data.toList.drop 640 = dktL_law_22 := dk_seg dksL_law_21 24 rfl rfl
theorem dksL_law_23 : cL_law.data.toList.drop 664 = dktL_law_23 := dk_seg dksL_law_22 24 rfl rfl
theorem dksL_law_24 : cL_law.data.toList.drop 688 = dktL_law_24 := dk_seg dksL_law_23 24 rfl rfl
theorem dksL_law_25 : cL_law.data.toList.drop 712 = dktL_law_25 := dk_seg dksL_law_24 24 rfl rfl
theorem dksL_law_26 : cL_law.data.toList.drop 736 = dktL_law_26 := dk_seg dksL_law_25 24 rfl rfl
theorem dksL_law_27 : cL_law.data.toList.drop 760 = dktL_law_27 := dk_seg dksL_law_26 24 rfl rfl
theorem dksL_law_28 : cL_law.data.toList.drop 784 = dktL_law_28 := dk_seg dksL_law_27 24 rfl rfl
theorem dksL_law_29 : cL_law.data.toList.drop 808 = dktL_law_29 := dk_seg dksL_law_28 24 rfl rfl
theorem dksL_law_30 : cL_law.data.toList.drop 831 = dktL_law_30 := dk_seg dksL_law_29 23 rfl rfl
theorem dksL_law_31 : cL_law.data.toList.drop 853 = dktL_law_31 := dk_seg dksL_law_30 22 rfl rfl
theorem dksL_law_32 : cL_law.data.toList.drop 876 = dktL_law_32 := dk_seg dksL_law_31 23 rfl rfl
theorem dksL_law_33 : cL_law.data.toList.drop 899 = dktL_law_33 := dk_seg dksL_law_32 23 rfl rfl
theorem dksL_law_34 : cL_law.data.toList.drop 923 = dktL_law_34 := dk_seg dksL_law_33 24 rfl rfl
theorem dksL_law_35 : cL_law.data.toList.drop 947 = dktL_law_35 := dk_seg dksL_law_34 24 rfl rfl
theorem dksL_law_36 : cL_law.data.toList.drop 971 = dktL_law_36 := dk_seg dksL_law_35 24 rfl rfl
theorem dksL_law_37 : cL_law.data.toList.drop 995 = dktL_law_37 := dk_seg dksL_law_36 24 rfl rfl
theorem dksL_law_38 : cL_law.data.toList.drop 1017 = dktL_law_38 := dk_seg dksL_law_37 22 rfl rfl
theorem dksL_law_39 : cL_law.data.toList.drop 1041 = dktL_law_39 := dk_seg dksL_law_38 24 rfl rfl
theorem dksL_law_40 : cL_law.data.toList.drop 1064 = dktL_law_40 := dk_seg dksL_law_39 23 rfl rfl
theorem dksL_law_41 : cL_law.data.toList.drop 1088 = dktL_law_41 := dk_seg dksL_law_40 24 rfl rfl
theorem dksL_law_42 : cL_law.data.toList.drop 1112 = dktL_law_42 := dk_seg dksL_law_41 24 rfl rfl
theorem dksL_law_43 : cL_law.data.toList.drop 1136 = dktL_law_43 := dk_seg dksL_law_42 24 rfl rfl
theorem dksL_law_44 : cL_law.data.toList.drop 1160 = dktL_law_44 := dk_seg dksL_law_43 24 rfl rfl
theorem dksL_law_45 : cL_law.data.toList.drop 1184 = dktL_law_45 := dk_seg dksL_law_44 24 rfl rfl
theorem dksL_law_46 : cL_law.data.toList.drop 1207 = dktL_law_46 := dk_seg dksL_law_45 23 rfl rfl
theorem dksL_law_47 : cL_law.data.toList.drop 1231 = dktL_law_47 := dk_seg dksL_law_46 24 rfl rfl
theorem dksL_law_48 : cL_law.data.toList.drop 1255 = dktL_law_48 := dk_seg dksL_law_47 24 rfl rfl
theorem dksL_law_49 : cL_law.data.toList.drop 1279 = dktL_law_49 := dk_seg dksL_law_48 24 rfl rfl
theorem dksL_law_50 : cL_law.data.toList.drop 1303 = dktL_law_50 := dk_seg dksL_law_49 24 rfl rfl
theorem dL_law_0 : decode cL_law 0 = .ok (.new 7, 3) := dk_187 0 7 (dk_at dksL_law_0 0 rfl rfl)
theorem dL_law_3 : decode cL_law 3 = .ok (.dup, 1) := dk_89 (dk_at dksL_law_0 3 rfl rfl)
theorem dL_law_4 : decode cL_law 4 = .ok (.invokespecial 9, 3) := dk_183 0 9 (dk_at dksL_law_0 4 rfl rfl)
theorem dL_law_7 : decode cL_law 7 = .ok (.astore_n 1, 1) := dk_76 (dk_at dksL_law_0 7 rfl rfl)
theorem dL_law_8 : decode cL_law 8 = .ok (.new 10, 3) := dk_187 0 10 (dk_at dksL_law_0 8 rfl rfl)
theorem dL_law_11 : decode cL_law 11 = .ok (.dup, 1) := dk_89 (dk_at dksL_law_0 11 rfl rfl)
theorem dL_law_12 : decode cL_law 12 = .ok (.invokespecial 12, 3) := dk_183 0 12 (dk_at dksL_law_0 12 rfl rfl)
theorem dL_law_15 : decode cL_law 15 = .ok (.astore_n 2, 1) := dk_77 (dk_at dksL_law_0 15 rfl rfl)
theorem dL_law_16 : decode cL_law 16 = .ok (.iconst 0, 1) := dk_3 (dk_at dksL_law_0 16 rfl rfl)
theorem dL_law_17 : decode cL_law 17 = .ok (.istore_n 3, 1) := dk_62 (dk_at dksL_law_0 17 rfl rfl)
theorem dL_law_18 : decode cL_law 18 = .ok (.iload_n 3, 1) := dk_29 (dk_at dksL_law_0 18 rfl rfl)
theorem dL_law_19 : decode cL_law 19 = .ok (.aload_n 0, 1) := dk_42 (dk_at dksL_law_0 19 rfl rfl)
theorem dL_law_20 : decode cL_law 20 = .ok (.arraylength, 1) := dk_190 (dk_at dksL_law_0 20 rfl rfl)
theorem dL_law_21 : decode cL_law 21 = .ok (.bipush 6, 2) := dk_16 6 (dk_at dksL_law_0 21 rfl rfl)
theorem dL_law_23 : decode cL_law 23 = .ok (.isub, 1) := dk_100 (dk_at dksL_law_0 23 rfl rfl)
theorem dL_law_24 : decode cL_law 24 = .ok (.if_icmp .gt 1290, 3) := dk_163 5 10 (dk_at dksL_law_1 0 rfl rfl)
theorem dL_law_27 : decode cL_law 27 = .ok (.aload_n 0, 1) := dk_42 (dk_at dksL_law_1 3 rfl rfl)
theorem dL_law_28 : decode cL_law 28 = .ok (.iload_n 3, 1) := dk_29 (dk_at dksL_law_1 4 rfl rfl)
theorem dL_law_29 : decode cL_law 29 = .ok (.iaload, 1) := dk_46 (dk_at dksL_law_1 5 rfl rfl)
theorem dL_law_30 : decode cL_law 30 = .ok (.bipush 63, 2) := dk_16 63 (dk_at dksL_law_1 6 rfl rfl)
theorem dL_law_32 : decode cL_law 32 = .ok (.iand, 1) := dk_126 (dk_at dksL_law_1 8 rfl rfl)
theorem dL_law_33 : decode cL_law 33 = .ok (.tableswitch 1275 0 34 #[155, 218, 241, 264, 287, 320, 343, 366, 379, 412, 445, 478, 511, 524, 557, 580, 603, 636, 670, 693, 726, 775, 814, 837, 860, 883, 916, 930, 973, 1006, 1039, 1122, 1166, 1179, 1242], 155) := by decide +kernel
theorem dL_law_188 : decode cL_law 188 = .ok (.aload_n 1, 1) := dk_43 (dk_at dksL_law_3 0 rfl rfl)
theorem dL_law_189 : decode cL_law 189 = .ok (.aload_n 0, 1) := dk_42 (dk_at dksL_law_3 1 rfl rfl)
theorem dL_law_190 : decode cL_law 190 = .ok (.iload_n 3, 1) := dk_29 (dk_at dksL_law_3 2 rfl rfl)
theorem dL_law_191 : decode cL_law 191 = .ok (.iconst 1, 1) := dk_4 (dk_at dksL_law_3 3 rfl rfl)
theorem dL_law_192 : decode cL_law 192 = .ok (.iadd, 1) := dk_96 (dk_at dksL_law_3 4 rfl rfl)
theorem dL_law_193 : decode cL_law 193 = .ok (.iaload, 1) := dk_46 (dk_at dksL_law_3 5 rfl rfl)
theorem dL_law_194 : decode cL_law 194 = .ok (.i2l, 1) := dk_133 (dk_at dksL_law_3 6 rfl rfl)
theorem dL_law_195 : decode cL_law 195 = .ok (.bipush 32, 2) := dk_16 32 (dk_at dksL_law_3 7 rfl rfl)
theorem dL_law_197 : decode cL_law 197 = .ok (.lshl, 1) := dk_121 (dk_at dksL_law_3 9 rfl rfl)
theorem dL_law_198 : decode cL_law 198 = .ok (.aload_n 0, 1) := dk_42 (dk_at dksL_law_3 10 rfl rfl)
theorem dL_law_199 : decode cL_law 199 = .ok (.iload_n 3, 1) := dk_29 (dk_at dksL_law_3 11 rfl rfl)
theorem dL_law_200 : decode cL_law 200 = .ok (.iconst 2, 1) := dk_5 (dk_at dksL_law_3 12 rfl rfl)
theorem dL_law_201 : decode cL_law 201 = .ok (.iadd, 1) := dk_96 (dk_at dksL_law_3 13 rfl rfl)
theorem dL_law_202 : decode cL_law 202 = .ok (.iaload, 1) := dk_46 (dk_at dksL_law_3 14 rfl rfl)
theorem dL_law_203 : decode cL_law 203 = .ok (.i2l, 1) := dk_133 (dk_at dksL_law_3 15 rfl rfl)
theorem dL_law_204 : decode cL_law 204 = .ok (.ldc2_w 13, 3) := dk_20 0 13 (dk_at dksL_law_3 16 rfl rfl)
theorem dL_law_207 : decode cL_law 207 = .ok (.land, 1) := dk_127 (dk_at dksL_law_3 19 rfl rfl)
theorem dL_law_208 : decode cL_law 208 = .ok (.lor, 1) := dk_129 (dk_at dksL_law_3 20 rfl rfl)
theorem dL_law_209 : decode cL_law 209 = .ok (.aload_n 0, 1) := dk_42 (dk_at dksL_law_3 21 rfl rfl)
theorem dL_law_210 : decode cL_law 210 = .ok (.iload_n 3, 1) := dk_29 (dk_at dksL_law_3 22 rfl rfl)
theorem dL_law_211 : decode cL_law 211 = .ok (.iconst 3, 1) := dk_6 (dk_at dksL_law_3 23 rfl rfl)
theorem dL_law_212 : decode cL_law 212 = .ok (.iadd, 1) := dk_96 (dk_at dksL_law_4 0 rfl rfl)
theorem dL_law_213 : decode cL_law 213 = .ok (.iaload, 1) := dk_46 (dk_at dksL_law_4 1 rfl rfl)
theorem dL_law_214 : decode cL_law 214 = .ok (.invokevirtual 15, 3) := dk_182 0 15 (dk_at dksL_law_4 2 rfl rfl)
theorem dL_law_217 : decode cL_law 217 = .ok (.aload_n 2, 1) := dk_44 (dk_at dksL_law_4 5 rfl rfl)
theorem dL_law_218 : decode cL_law 218 = .ok (.aload_n 0, 1) := dk_42 (dk_at dksL_law_4 6 rfl rfl)
theorem dL_law_219 : decode cL_law 219 = .ok (.iload_n 3, 1) := dk_29 (dk_at dksL_law_4 7 rfl rfl)
theorem dL_law_220 : decode cL_law 220 = .ok (.iconst 1, 1) := dk_4 (dk_at dksL_law_4 8 rfl rfl)
theorem dL_law_221 : decode cL_law 221 = .ok (.iadd, 1) := dk_96 (dk_at dksL_law_4 9 rfl rfl)
theorem dL_law_222 : decode cL_law 222 = .ok (.iaload, 1) := dk_46 (dk_at dksL_law_4 10 rfl rfl)
theorem dL_law_223 : decode cL_law 223 = .ok (.i2l, 1) := dk_133 (dk_at dksL_law_4 11 rfl rfl)
theorem dL_law_224 : decode cL_law 224 = .ok (.bipush 32, 2) := dk_16 32 (dk_at dksL_law_4 12 rfl rfl)
theorem dL_law_226 : decode cL_law 226 = .ok (.lshl, 1) := dk_121 (dk_at dksL_law_4 14 rfl rfl)
theorem dL_law_227 : decode cL_law 227 = .ok (.aload_n 0, 1) := dk_42 (dk_at dksL_law_4 15 rfl rfl)
theorem dL_law_228 : decode cL_law 228 = .ok (.iload_n 3, 1) := dk_29 (dk_at dksL_law_4 16 rfl rfl)
theorem dL_law_229 : decode cL_law 229 = .ok (.iconst 2, 1) := dk_5 (dk_at dksL_law_4 17 rfl rfl)
theorem dL_law_230 : decode cL_law 230 = .ok (.iadd, 1) := dk_96 (dk_at dksL_law_4 18 rfl rfl)
theorem dL_law_231 : decode cL_law 231 = .ok (.iaload, 1) := dk_46 (dk_at dksL_law_4 19 rfl rfl)
theorem dL_law_232 : decode cL_law 232 = .ok (.i2l, 1) := dk_133 (dk_at dksL_law_4 20 rfl rfl)
theorem dL_law_233 : decode cL_law 233 = .ok (.ldc2_w 13, 3) := dk_20 0 13 (dk_at dksL_law_4 21 rfl rfl)
theorem dL_law_236 : decode cL_law 236 = .ok (.land, 1) := dk_127 (dk_at dksL_law_5 0 rfl rfl)
theorem dL_law_237 : decode cL_law 237 = .ok (.lor, 1) := dk_129 (dk_at dksL_law_5 1 rfl rfl)
theorem dL_law_238 : decode cL_law 238 = .ok (.aload_n 0, 1) := dk_42 (dk_at dksL_law_5 2 rfl rfl)
theorem dL_law_239 : decode cL_law 239 = .ok (.iload_n 3, 1) := dk_29 (dk_at dksL_law_5 3 rfl rfl)
theorem dL_law_240 : decode cL_law 240 = .ok (.iconst 3, 1) := dk_6 (dk_at dksL_law_5 4 rfl rfl)
theorem dL_law_241 : decode cL_law 241 = .ok (.iadd, 1) := dk_96 (dk_at dksL_law_5 5 rfl rfl)
theorem dL_law_242 : decode cL_law 242 = .ok (.iaload, 1) := dk_46 (dk_at dksL_law_5 6 rfl rfl)
theorem dL_law_243 : decode cL_law 243 = .ok (.invokevirtual 19, 3) := dk_182 0 19 (dk_at dksL_law_5 7 rfl rfl)
theorem dL_law_246 : decode cL_law 246 = .ok (.if_icmp .eq 1062, 3) := dk_159 4 38 (dk_at dksL_law_5 10 rfl rfl)
theorem dL_law_249 : decode cL_law 249 = .ok (.iconst 0, 1) := dk_3 (dk_at dksL_law_5 13 rfl rfl)
theorem dL_law_250 : decode cL_law 250 = .ok (.ireturn, 1) := dk_172 (dk_at dksL_law_5 14 rfl rfl)
theorem dL_law_251 : decode cL_law 251 = .ok (.aload_n 1, 1) := dk_43 (dk_at dksL_law_5 15 rfl rfl)
theorem dL_law_252 : decode cL_law 252 = .ok (.aload_n 0, 1) := dk_42 (dk_at dksL_law_5 16 rfl rfl)
theorem dL_law_253 : decode cL_law 253 = .ok (.iload_n 3, 1) := dk_29 (dk_at dksL_law_5 17 rfl rfl)
theorem dL_law_254 : decode cL_law 254 = .ok (.iconst 1, 1) := dk_4 (dk_at dksL_law_5 18 rfl rfl)
theorem dL_law_255 : decode cL_law 255 = .ok (.iadd, 1) := dk_96 (dk_at dksL_law_5 19 rfl rfl)
theorem dL_law_256 : decode cL_law 256 = .ok (.iaload, 1) := dk_46 (dk_at dksL_law_5 20 rfl rfl)
theorem dL_law_257 : decode cL_law 257 = .ok (.invokevirtual 20, 3) := dk_182 0 20 (dk_at dksL_law_5 21 rfl rfl)
theorem dL_law_260 : decode cL_law 260 = .ok (.aload_n 2, 1) := dk_44 (dk_at dksL_law_6 0 rfl rfl)
theorem dL_law_261 : decode cL_law 261 = .ok (.aload_n 0, 1) := dk_42 (dk_at dksL_law_6 1 rfl rfl)
theorem dL_law_262 : decode cL_law 262 = .ok (.iload_n 3, 1) := dk_29 (dk_at dksL_law_6 2 rfl rfl)
theorem dL_law_263 : decode cL_law 263 = .ok (.iconst 1, 1) := dk_4 (dk_at dksL_law_6 3 rfl rfl)
theorem dL_law_264 : decode cL_law 264 = .ok (.iadd, 1) := dk_96 (dk_at dksL_law_6 4 rfl rfl)
theorem dL_law_265 : decode cL_law 265 = .ok (.iaload, 1) := dk_46 (dk_at dksL_law_6 5 rfl rfl)
theorem dL_law_266 : decode cL_law 266 = .ok (.invokevirtual 24, 3) := dk_182 0 24 (dk_at dksL_law_6 6 rfl rfl)
theorem dL_law_269 : decode cL_law 269 = .ok (.if_icmp .eq 1039, 3) := dk_159 4 15 (dk_at dksL_law_6 9 rfl rfl)
theorem dL_law_272 : decode cL_law 272 = .ok (.iconst 0, 1) := dk_3 (dk_at dksL_law_6 12 rfl rfl)
theorem dL_law_273 : decode cL_law 273 = .ok (.ireturn, 1) := dk_172 (dk_at dksL_law_6 13 rfl rfl)
theorem dL_law_274 : decode cL_law 274 = .ok (.aload_n 1, 1) := dk_43 (dk_at dksL_law_6 14 rfl rfl)
theorem dL_law_275 : decode cL_law 275 = .ok (.aload_n 0, 1) := dk_42 (dk_at dksL_law_6 15 rfl rfl)
theorem dL_law_276 : decode cL_law 276 = .ok (.iload_n 3, 1) := dk_29 (dk_at dksL_law_6 16 rfl rfl)
theorem dL_law_277 : decode cL_law 277 = .ok (.iconst 1, 1) := dk_4 (dk_at dksL_law_6 17 rfl rfl)
theorem dL_law_278 : decode cL_law 278 = .ok (.iadd, 1) := dk_96 (dk_at dksL_law_6 18 rfl rfl)
theorem dL_law_279 : decode cL_law 279 = .ok (.iaload, 1) := dk_46 (dk_at dksL_law_6 19 rfl rfl)
theorem dL_law_280 : decode cL_law 280 = .ok (.invokevirtual 25, 3) := dk_182 0 25 (dk_at dksL_law_6 20 rfl rfl)
theorem dL_law_283 : decode cL_law 283 = .ok (.aload_n 2, 1) := dk_44 (dk_at dksL_law_6 23 rfl rfl)
theorem dL_law_284 : decode cL_law 284 = .ok (.aload_n 0, 1) := dk_42 (dk_at dksL_law_7 0 rfl rfl)
theorem dL_law_285 : decode cL_law 285 = .ok (.iload_n 3, 1) := dk_29 (dk_at dksL_law_7 1 rfl rfl)
theorem dL_law_286 : decode cL_law 286 = .ok (.iconst 1, 1) := dk_4 (dk_at dksL_law_7 2 rfl rfl)
theorem dL_law_287 : decode cL_law 287 = .ok (.iadd, 1) := dk_96 (dk_at dksL_law_7 3 rfl rfl)
theorem dL_law_288 : decode cL_law 288 = .ok (.iaload, 1) := dk_46 (dk_at dksL_law_7 4 rfl rfl)
theorem dL_law_289 : decode cL_law 289 = .ok (.invokevirtual 28, 3) := dk_182 0 28 (dk_at dksL_law_7 5 rfl rfl)
theorem dL_law_292 : decode cL_law 292 = .ok (.if_icmp .eq 1016, 3) := dk_159 3 248 (dk_at dksL_law_7 8 rfl rfl)
theorem dL_law_295 : decode cL_law 295 = .ok (.iconst 0, 1) := dk_3 (dk_at dksL_law_7 11 rfl rfl)
theorem dL_law_296 : decode cL_law 296 = .ok (.ireturn, 1) := dk_172 (dk_at dksL_law_7 12 rfl rfl)
theorem dL_law_297 : decode cL_law 297 = .ok (.aload_n 1, 1) := dk_43 (dk_at dksL_law_7 13 rfl rfl)
theorem dL_law_298 : decode cL_law 298 = .ok (.aload_n 0, 1) := dk_42 (dk_at dksL_law_7 14 rfl rfl)
theorem dL_law_299 : decode cL_law 299 = .ok (.iload_n 3, 1) := dk_29 (dk_at dksL_law_7 15 rfl rfl)
theorem dL_law_300 : decode cL_law 300 = .ok (.iconst 1, 1) := dk_4 (dk_at dksL_law_7 16 rfl rfl)
theorem dL_law_301 : decode cL_law 301 = .ok (.iadd, 1) := dk_96 (dk_at dksL_law_7 17 rfl rfl)
theorem dL_law_302 : decode cL_law 302 = .ok (.iaload, 1) := dk_46 (dk_at dksL_law_7 18 rfl rfl)
theorem dL_law_303 : decode cL_law 303 = .ok (.invokevirtual 29, 3) := dk_182 0 29 (dk_at dksL_law_7 19 rfl rfl)
theorem dL_law_306 : decode cL_law 306 = .ok (.aload_n 2, 1) := dk_44 (dk_at dksL_law_7 22 rfl rfl)
theorem dL_law_307 : decode cL_law 307 = .ok (.aload_n 0, 1) := dk_42 (dk_at dksL_law_7 23 rfl rfl)
theorem dL_law_308 : decode cL_law 308 = .ok (.iload_n 3, 1) := dk_29 (dk_at dksL_law_8 0 rfl rfl)
theorem dL_law_309 : decode cL_law 309 = .ok (.iconst 1, 1) := dk_4 (dk_at dksL_law_8 1 rfl rfl)
theorem dL_law_310 : decode cL_law 310 = .ok (.iadd, 1) := dk_96 (dk_at dksL_law_8 2 rfl rfl)
theorem dL_law_311 : decode cL_law 311 = .ok (.iaload, 1) := dk_46 (dk_at dksL_law_8 3 rfl rfl)
theorem dL_law_312 : decode cL_law 312 = .ok (.invokevirtual 32, 3) := dk_182 0 32 (dk_at dksL_law_8 4 rfl rfl)
theorem dL_law_315 : decode cL_law 315 = .ok (.if_icmp .eq 993, 3) := dk_159 3 225 (dk_at dksL_law_8 7 rfl rfl)
theorem dL_law_318 : decode cL_law 318 = .ok (.iconst 0, 1) := dk_3 (dk_at dksL_law_8 10 rfl rfl)
theorem dL_law_319 : decode cL_law 319 = .ok (.ireturn, 1) := dk_172 (dk_at dksL_law_8 11 rfl rfl)
theorem dL_law_320 : decode cL_law 320 = .ok (.aload_n 1, 1) := dk_43 (dk_at dksL_law_8 12 rfl rfl)
theorem dL_law_321 : decode cL_law 321 = .ok (.aload_n 0, 1) := dk_42 (dk_at dksL_law_8 13 rfl rfl)
theorem dL_law_322 : decode cL_law 322 = .ok (.iload_n 3, 1) := dk_29 (dk_at dksL_law_8 14 rfl rfl)
theorem dL_law_323 : decode cL_law 323 = .ok (.iconst 1, 1) := dk_4 (dk_at dksL_law_8 15 rfl rfl)
theorem dL_law_324 : decode cL_law 324 = .ok (.iadd, 1) := dk_96 (dk_at dksL_law_8 16 rfl rfl)
theorem dL_law_325 : decode cL_law 325 = .ok (.iaload, 1) := dk_46 (dk_at dksL_law_8 17 rfl rfl)
theorem dL_law_326 : decode cL_law 326 = .ok (.aload_n 0, 1) := dk_42 (dk_at dksL_law_8 18 rfl rfl)
theorem dL_law_327 : decode cL_law 327 = .ok (.iload_n 3, 1) := dk_29 (dk_at dksL_law_8 19 rfl rfl)
theorem dL_law_328 : decode cL_law 328 = .ok (.iconst 2, 1) := dk_5 (dk_at dksL_law_8 20 rfl rfl)
theorem dL_law_329 : decode cL_law 329 = .ok (.iadd, 1) := dk_96 (dk_at dksL_law_8 21 rfl rfl)
theorem dL_law_330 : decode cL_law 330 = .ok (.iaload, 1) := dk_46 (dk_at dksL_law_8 22 rfl rfl)
theorem dL_law_331 : decode cL_law 331 = .ok (.invokevirtual 33, 3) := dk_182 0 33 (dk_at dksL_law_9 0 rfl rfl)
theorem dL_law_334 : decode cL_law 334 = .ok (.aload_n 2, 1) := dk_44 (dk_at dksL_law_9 3 rfl rfl)
theorem dL_law_335 : decode cL_law 335 = .ok (.aload_n 0, 1) := dk_42 (dk_at dksL_law_9 4 rfl rfl)
theorem dL_law_336 : decode cL_law 336 = .ok (.iload_n 3, 1) := dk_29 (dk_at dksL_law_9 5 rfl rfl)
theorem dL_law_337 : decode cL_law 337 = .ok (.iconst 1, 1) := dk_4 (dk_at dksL_law_9 6 rfl rfl)
theorem dL_law_338 : decode cL_law 338 = .ok (.iadd, 1) := dk_96 (dk_at dksL_law_9 7 rfl rfl)
theorem dL_law_339 : decode cL_law 339 = .ok (.iaload, 1) := dk_46 (dk_at dksL_law_9 8 rfl rfl)
theorem dL_law_340 : decode cL_law 340 = .ok (.aload_n 0, 1) := dk_42 (dk_at dksL_law_9 9 rfl rfl)
theorem dL_law_341 : decode cL_law 341 = .ok (.iload_n 3, 1) := dk_29 (dk_at dksL_law_9 10 rfl rfl)
theorem dL_law_342 : decode cL_law 342 = .ok (.iconst 2, 1) := dk_5 (dk_at dksL_law_9 11 rfl rfl)
theorem dL_law_343 : decode cL_law 343 = .ok (.iadd, 1) := dk_96 (dk_at dksL_law_9 12 rfl rfl)
theorem dL_law_344 : decode cL_law 344 = .ok (.iaload, 1) := dk_46 (dk_at dksL_law_9 13 rfl rfl)
theorem dL_law_345 : decode cL_law 345 = .ok (.invokevirtual 37, 3) := dk_182 0 37 (dk_at dksL_law_9 14 rfl rfl)
theorem dL_law_348 : decode cL_law 348 = .ok (.if_icmp .eq 960, 3) := dk_159 3 192 (dk_at dksL_law_9 17 rfl rfl)
theorem dL_law_351 : decode cL_law 351 = .ok (.iconst 0, 1) := dk_3 (dk_at dksL_law_9 20 rfl rfl)
theorem dL_law_352 : decode cL_law 352 = .ok (.ireturn, 1) := dk_172 (dk_at dksL_law_9 21 rfl rfl)
theorem dL_law_353 : decode cL_law 353 = .ok (.aload_n 1, 1) := dk_43 (dk_at dksL_law_9 22 rfl rfl)
theorem dL_law_354 : decode cL_law 354 = .ok (.aload_n 0, 1) := dk_42 (dk_at dksL_law_9 23 rfl rfl)
theorem dL_law_355 : decode cL_law 355 = .ok (.iload_n 3, 1) := dk_29 (dk_at dksL_law_10 0 rfl rfl)
theorem dL_law_356 : decode cL_law 356 = .ok (.iconst 1, 1) := dk_4 (dk_at dksL_law_10 1 rfl rfl)
theorem dL_law_357 : decode cL_law 357 = .ok (.iadd, 1) := dk_96 (dk_at dksL_law_10 2 rfl rfl)
theorem dL_law_358 : decode cL_law 358 = .ok (.iaload, 1) := dk_46 (dk_at dksL_law_10 3 rfl rfl)
theorem dL_law_359 : decode cL_law 359 = .ok (.invokevirtual 38, 3) := dk_182 0 38 (dk_at dksL_law_10 4 rfl rfl)
theorem dL_law_362 : decode cL_law 362 = .ok (.aload_n 2, 1) := dk_44 (dk_at dksL_law_10 7 rfl rfl)
theorem dL_law_363 : decode cL_law 363 = .ok (.aload_n 0, 1) := dk_42 (dk_at dksL_law_10 8 rfl rfl)
theorem dL_law_364 : decode cL_law 364 = .ok (.iload_n 3, 1) := dk_29 (dk_at dksL_law_10 9 rfl rfl)
theorem dL_law_365 : decode cL_law 365 = .ok (.iconst 1, 1) := dk_4 (dk_at dksL_law_10 10 rfl rfl)
theorem dL_law_366 : decode cL_law 366 = .ok (.iadd, 1) := dk_96 (dk_at dksL_law_10 11 rfl rfl)
theorem dL_law_367 : decode cL_law 367 = .ok (.iaload, 1) := dk_46 (dk_at dksL_law_10 12 rfl rfl)
theorem dL_law_368 : decode cL_law 368 = .ok (.invokevirtual 41, 3) := dk_182 0 41 (dk_at dksL_law_10 13 rfl rfl)
theorem dL_law_371 : decode cL_law 371 = .ok (.if_icmp .eq 937, 3) := dk_159 3 169 (dk_at dksL_law_10 16 rfl rfl)
theorem dL_law_374 : decode cL_law 374 = .ok (.iconst 0, 1) := dk_3 (dk_at dksL_law_10 19 rfl rfl)
theorem dL_law_375 : decode cL_law 375 = .ok (.ireturn, 1) := dk_172 (dk_at dksL_law_10 20 rfl rfl)
theorem dL_law_376 : decode cL_law 376 = .ok (.aload_n 1, 1) := dk_43 (dk_at dksL_law_10 21 rfl rfl)
theorem dL_law_377 : decode cL_law 377 = .ok (.aload_n 0, 1) := dk_42 (dk_at dksL_law_10 22 rfl rfl)
theorem dL_law_378 : decode cL_law 378 = .ok (.iload_n 3, 1) := dk_29 (dk_at dksL_law_10 23 rfl rfl)
theorem dL_law_379 : decode cL_law 379 = .ok (.iconst 1, 1) := dk_4 (dk_at dksL_law_11 0 rfl rfl)
theorem dL_law_380 : decode cL_law 380 = .ok (.iadd, 1) := dk_96 (dk_at dksL_law_11 1 rfl rfl)
theorem dL_law_381 : decode cL_law 381 = .ok (.iaload, 1) := dk_46 (dk_at dksL_law_11 2 rfl rfl)
theorem dL_law_382 : decode cL_law 382 = .ok (.invokevirtual 42, 3) := dk_182 0 42 (dk_at dksL_law_11 3 rfl rfl)
theorem dL_law_385 : decode cL_law 385 = .ok (.aload_n 2, 1) := dk_44 (dk_at dksL_law_11 6 rfl rfl)
theorem dL_law_386 : decode cL_law 386 = .ok (.aload_n 0, 1) := dk_42 (dk_at dksL_law_11 7 rfl rfl)
theorem dL_law_387 : decode cL_law 387 = .ok (.iload_n 3, 1) := dk_29 (dk_at dksL_law_11 8 rfl rfl)
theorem dL_law_388 : decode cL_law 388 = .ok (.iconst 1, 1) := dk_4 (dk_at dksL_law_11 9 rfl rfl)
theorem dL_law_389 : decode cL_law 389 = .ok (.iadd, 1) := dk_96 (dk_at dksL_law_11 10 rfl rfl)
theorem dL_law_390 : decode cL_law 390 = .ok (.iaload, 1) := dk_46 (dk_at dksL_law_11 11 rfl rfl)
theorem dL_law_391 : decode cL_law 391 = .ok (.invokevirtual 45, 3) := dk_182 0 45 (dk_at dksL_law_11 12 rfl rfl)
theorem dL_law_394 : decode cL_law 394 = .ok (.if_icmp .eq 914, 3) := dk_159 3 146 (dk_at dksL_law_11 15 rfl rfl)
theorem dL_law_397 : decode cL_law 397 = .ok (.iconst 0, 1) := dk_3 (dk_at dksL_law_11 18 rfl rfl)
theorem dL_law_398 : decode cL_law 398 = .ok (.ireturn, 1) := dk_172 (dk_at dksL_law_11 19 rfl rfl)
theorem dL_law_399 : decode cL_law 399 = .ok (.aload_n 1, 1) := dk_43 (dk_at dksL_law_11 20 rfl rfl)
theorem dL_law_400 : decode cL_law 400 = .ok (.invokevirtual 46, 3) := dk_182 0 46 (dk_at dksL_law_11 21 rfl rfl)
theorem dL_law_403 : decode cL_law 403 = .ok (.aload_n 2, 1) := dk_44 (dk_at dksL_law_12 0 rfl rfl)
theorem dL_law_404 : decode cL_law 404 = .ok (.invokevirtual 50, 3) := dk_182 0 50 (dk_at dksL_law_12 1 rfl rfl)
theorem dL_law_407 : decode cL_law 407 = .ok (.if_icmp .eq 901, 3) := dk_159 3 133 (dk_at dksL_law_12 4 rfl rfl)
theorem dL_law_410 : decode cL_law 410 = .ok (.iconst 0, 1) := dk_3 (dk_at dksL_law_12 7 rfl rfl)
theorem dL_law_411 : decode cL_law 411 = .ok (.ireturn, 1) := dk_172 (dk_at dksL_law_12 8 rfl rfl)
theorem dL_law_412 : decode cL_law 412 = .ok (.aload_n 1, 1) := dk_43 (dk_at dksL_law_12 9 rfl rfl)
theorem dL_law_413 : decode cL_law 413 = .ok (.aload_n 0, 1) := dk_42 (dk_at dksL_law_12 10 rfl rfl)
theorem dL_law_414 : decode cL_law 414 = .ok (.iload_n 3, 1) := dk_29 (dk_at dksL_law_12 11 rfl rfl)
theorem dL_law_415 : decode cL_law 415 = .ok (.iconst 1, 1) := dk_4 (dk_at dksL_law_12 12 rfl rfl)
theorem dL_law_416 : decode cL_law 416 = .ok (.iadd, 1) := dk_96 (dk_at dksL_law_12 13 rfl rfl)
theorem dL_law_417 : decode cL_law 417 = .ok (.iaload, 1) := dk_46 (dk_at dksL_law_12 14 rfl rfl)
theorem dL_law_418 : decode cL_law 418 = .ok (.aload_n 0, 1) := dk_42 (dk_at dksL_law_12 15 rfl rfl)
theorem dL_law_419 : decode cL_law 419 = .ok (.iload_n 3, 1) := dk_29 (dk_at dksL_law_12 16 rfl rfl)
theorem dL_law_420 : decode cL_law 420 = .ok (.iconst 2, 1) := dk_5 (dk_at dksL_law_12 17 rfl rfl)
theorem dL_law_421 : decode cL_law 421 = .ok (.iadd, 1) := dk_96 (dk_at dksL_law_12 18 rfl rfl)
theorem dL_law_422 : decode cL_law 422 = .ok (.iaload, 1) := dk_46 (dk_at dksL_law_12 19 rfl rfl)
theorem dL_law_423 : decode cL_law 423 = .ok (.invokevirtual 51, 3) := dk_182 0 51 (dk_at dksL_law_12 20 rfl rfl)
theorem dL_law_426 : decode cL_law 426 = .ok (.aload_n 2, 1) := dk_44 (dk_at dksL_law_12 23 rfl rfl)
theorem dL_law_427 : decode cL_law 427 = .ok (.aload_n 0, 1) := dk_42 (dk_at dksL_law_13 0 rfl rfl)
theorem dL_law_428 : decode cL_law 428 = .ok (.iload_n 3, 1) := dk_29 (dk_at dksL_law_13 1 rfl rfl)
theorem dL_law_429 : decode cL_law 429 = .ok (.iconst 1, 1) := dk_4 (dk_at dksL_law_13 2 rfl rfl)
theorem dL_law_430 : decode cL_law 430 = .ok (.iadd, 1) := dk_96 (dk_at dksL_law_13 3 rfl rfl)
theorem dL_law_431 : decode cL_law 431 = .ok (.iaload, 1) := dk_46 (dk_at dksL_law_13 4 rfl rfl)
theorem dL_law_432 : decode cL_law 432 = .ok (.aload_n 0, 1) := dk_42 (dk_at dksL_law_13 5 rfl rfl)
theorem dL_law_433 : decode cL_law 433 = .ok (.iload_n 3, 1) := dk_29 (dk_at dksL_law_13 6 rfl rfl)
theorem dL_law_434 : decode cL_law 434 = .ok (.iconst 2, 1) := dk_5 (dk_at dksL_law_13 7 rfl rfl)
theorem dL_law_435 : decode cL_law 435 = .ok (.iadd, 1) := dk_96 (dk_at dksL_law_13 8 rfl rfl)
theorem dL_law_436 : decode cL_law 436 = .ok (.iaload, 1) := dk_46 (dk_at dksL_law_13 9 rfl rfl)
theorem dL_law_437 : decode cL_law 437 = .ok (.invokevirtual 54, 3) := dk_182 0 54 (dk_at dksL_law_13 10 rfl rfl)
theorem dL_law_440 : decode cL_law 440 = .ok (.if_icmp .eq 868, 3) := dk_159 3 100 (dk_at dksL_law_13 13 rfl rfl)
theorem dL_law_443 : decode cL_law 443 = .ok (.iconst 0, 1) := dk_3 (dk_at dksL_law_13 16 rfl rfl)
theorem dL_law_444 : decode cL_law 444 = .ok (.ireturn, 1) := dk_172 (dk_at dksL_law_13 17 rfl rfl)
theorem dL_law_445 : decode cL_law 445 = .ok (.aload_n 1, 1) := dk_43 (dk_at dksL_law_13 18 rfl rfl)
theorem dL_law_446 : decode cL_law 446 = .ok (.aload_n 0, 1) := dk_42 (dk_at dksL_law_13 19 rfl rfl)
theorem dL_law_447 : decode cL_law 447 = .ok (.iload_n 3, 1) := dk_29 (dk_at dksL_law_13 20 rfl rfl)
theorem dL_law_448 : decode cL_law 448 = .ok (.iconst 1, 1) := dk_4 (dk_at dksL_law_13 21 rfl rfl)
theorem dL_law_449 : decode cL_law 449 = .ok (.iadd, 1) := dk_96 (dk_at dksL_law_13 22 rfl rfl)
theorem dL_law_450 : decode cL_law 450 = .ok (.iaload, 1) := dk_46 (dk_at dksL_law_13 23 rfl rfl)
theorem dL_law_451 : decode cL_law 451 = .ok (.aload_n 0, 1) := dk_42 (dk_at dksL_law_14 0 rfl rfl)
theorem dL_law_452 : decode cL_law 452 = .ok (.iload_n 3, 1) := dk_29 (dk_at dksL_law_14 1 rfl rfl)
theorem dL_law_453 : decode cL_law 453 = .ok (.iconst 2, 1) := dk_5 (dk_at dksL_law_14 2 rfl rfl)
theorem dL_law_454 : decode cL_law 454 = .ok (.iadd, 1) := dk_96 (dk_at dksL_law_14 3 rfl rfl)
theorem dL_law_455 : decode cL_law 455 = .ok (.iaload, 1) := dk_46 (dk_at dksL_law_14 4 rfl rfl)
theorem dL_law_456 : decode cL_law 456 = .ok (.invokevirtual 55, 3) := dk_182 0 55 (dk_at dksL_law_14 5 rfl rfl)
theorem dL_law_459 : decode cL_law 459 = .ok (.aload_n 2, 1) := dk_44 (dk_at dksL_law_14 8 rfl rfl)
theorem dL_law_460 : decode cL_law 460 = .ok (.aload_n 0, 1) := dk_42 (dk_at dksL_law_14 9 rfl rfl)
theorem dL_law_461 : decode cL_law 461 = .ok (.iload_n 3, 1) := dk_29 (dk_at dksL_law_14 10 rfl rfl)
theorem dL_law_462 : decode cL_law 462 = .ok (.iconst 1, 1) := dk_4 (dk_at dksL_law_14 11 rfl rfl)
theorem dL_law_463 : decode cL_law 463 = .ok (.iadd, 1) := dk_96 (dk_at dksL_law_14 12 rfl rfl)
theorem dL_law_464 : decode cL_law 464 = .ok (.iaload, 1) := dk_46 (dk_at dksL_law_14 13 rfl rfl)
theorem dL_law_465 : decode cL_law 465 = .ok (.aload_n 0, 1) := dk_42 (dk_at dksL_law_14 14 rfl rfl)
theorem dL_law_466 : decode cL_law 466 = .ok (.iload_n 3, 1) := dk_29 (dk_at dksL_law_14 15 rfl rfl)
theorem dL_law_467 : decode cL_law 467 = .ok (.iconst 2, 1) := dk_5 (dk_at dksL_law_14 16 rfl rfl)
theorem dL_law_468 : decode cL_law 468 = .ok (.iadd, 1) := dk_96 (dk_at dksL_law_14 17 rfl rfl)
theorem dL_law_469 : decode cL_law 469 = .ok (.iaload, 1) := dk_46 (dk_at dksL_law_14 18 rfl rfl)
theorem dL_law_470 : decode cL_law 470 = .ok (.invokevirtual 58, 3) := dk_182 0 58 (dk_at dksL_law_14 19 rfl rfl)
theorem dL_law_473 : decode cL_law 473 = .ok (.if_icmp .eq 835, 3) := dk_159 3 67 (dk_at dksL_law_15 0 rfl rfl)
theorem dL_law_476 : decode cL_law 476 = .ok (.iconst 0, 1) := dk_3 (dk_at dksL_law_15 3 rfl rfl)
theorem dL_law_477 : decode cL_law 477 = .ok (.ireturn, 1) := dk_172 (dk_at dksL_law_15 4 rfl rfl)
theorem dL_law_478 : decode cL_law 478 = .ok (.aload_n 1, 1) := dk_43 (dk_at dksL_law_15 5 rfl rfl)
theorem dL_law_479 : decode cL_law 479 = .ok (.aload_n 0, 1) := dk_42 (dk_at dksL_law_15 6 rfl rfl)
theorem dL_law_480 : decode cL_law 480 = .ok (.iload_n 3, 1) := dk_29 (dk_at dksL_law_15 7 rfl rfl)
theorem dL_law_481 : decode cL_law 481 = .ok (.iconst 1, 1) := dk_4 (dk_at dksL_law_15 8 rfl rfl)
theorem dL_law_482 : decode cL_law 482 = .ok (.iadd, 1) := dk_96 (dk_at dksL_law_15 9 rfl rfl)
theorem dL_law_483 : decode cL_law 483 = .ok (.iaload, 1) := dk_46 (dk_at dksL_law_15 10 rfl rfl)
theorem dL_law_484 : decode cL_law 484 = .ok (.aload_n 0, 1) := dk_42 (dk_at dksL_law_15 11 rfl rfl)
theorem dL_law_485 : decode cL_law 485 = .ok (.iload_n 3, 1) := dk_29 (dk_at dksL_law_15 12 rfl rfl)
theorem dL_law_486 : decode cL_law 486 = .ok (.iconst 2, 1) := dk_5 (dk_at dksL_law_15 13 rfl rfl)
theorem dL_law_487 : decode cL_law 487 = .ok (.iadd, 1) := dk_96 (dk_at dksL_law_15 14 rfl rfl)
theorem dL_law_488 : decode cL_law 488 = .ok (.iaload, 1) := dk_46 (dk_at dksL_law_15 15 rfl rfl)
theorem dL_law_489 : decode cL_law 489 = .ok (.invokevirtual 59, 3) := dk_182 0 59 (dk_at dksL_law_15 16 rfl rfl)
theorem dL_law_492 : decode cL_law 492 = .ok (.aload_n 2, 1) := dk_44 (dk_at dksL_law_15 19 rfl rfl)
theorem dL_law_493 : decode cL_law 493 = .ok (.aload_n 0, 1) := dk_42 (dk_at dksL_law_15 20 rfl rfl)
theorem dL_law_494 : decode cL_law 494 = .ok (.iload_n 3, 1) := dk_29 (dk_at dksL_law_15 21 rfl rfl)
theorem dL_law_495 : decode cL_law 495 = .ok (.iconst 1, 1) := dk_4 (dk_at dksL_law_15 22 rfl rfl)
theorem dL_law_496 : decode cL_law 496 = .ok (.iadd, 1) := dk_96 (dk_at dksL_law_15 23 rfl rfl)
theorem dL_law_497 : decode cL_law 497 = .ok (.iaload, 1) := dk_46 (dk_at dksL_law_16 0 rfl rfl)
theorem dL_law_498 : decode cL_law 498 = .ok (.aload_n 0, 1) := dk_42 (dk_at dksL_law_16 1 rfl rfl)
theorem dL_law_499 : decode cL_law 499 = .ok (.iload_n 3, 1) := dk_29 (dk_at dksL_law_16 2 rfl rfl)
theorem dL_law_500 : decode cL_law 500 = .ok (.iconst 2, 1) := dk_5 (dk_at dksL_law_16 3 rfl rfl)
theorem dL_law_501 : decode cL_law 501 = .ok (.iadd, 1) := dk_96 (dk_at dksL_law_16 4 rfl rfl)
theorem dL_law_502 : decode cL_law 502 = .ok (.iaload, 1) := dk_46 (dk_at dksL_law_16 5 rfl rfl)
theorem dL_law_503 : decode cL_law 503 = .ok (.invokevirtual 62, 3) := dk_182 0 62 (dk_at dksL_law_16 6 rfl rfl)
theorem dL_law_506 : decode cL_law 506 = .ok (.if_icmp .eq 802, 3) := dk_159 3 34 (dk_at dksL_law_16 9 rfl rfl)
theorem dL_law_509 : decode cL_law 509 = .ok (.iconst 0, 1) := dk_3 (dk_at dksL_law_16 12 rfl rfl)
theorem dL_law_510 : decode cL_law 510 = .ok (.ireturn, 1) := dk_172 (dk_at dksL_law_16 13 rfl rfl)
theorem dL_law_511 : decode cL_law 511 = .ok (.aload_n 1, 1) := dk_43 (dk_at dksL_law_16 14 rfl rfl)
theorem dL_law_512 : decode cL_law 512 = .ok (.aload_n 0, 1) := dk_42 (dk_at dksL_law_16 15 rfl rfl)
theorem dL_law_513 : decode cL_law 513 = .ok (.iload_n 3, 1) := dk_29 (dk_at dksL_law_16 16 rfl rfl)
theorem dL_law_514 : decode cL_law 514 = .ok (.iconst 1, 1) := dk_4 (dk_at dksL_law_16 17 rfl rfl)
theorem dL_law_515 : decode cL_law 515 = .ok (.iadd, 1) := dk_96 (dk_at dksL_law_16 18 rfl rfl)
theorem dL_law_516 : decode cL_law 516 = .ok (.iaload, 1) := dk_46 (dk_at dksL_law_16 19 rfl rfl)
theorem dL_law_517 : decode cL_law 517 = .ok (.aload_n 0, 1) := dk_42 (dk_at dksL_law_16 20 rfl rfl)
theorem dL_law_518 : decode cL_law 518 = .ok (.iload_n 3, 1) := dk_29 (dk_at dksL_law_16 21 rfl rfl)
theorem dL_law_519 : decode cL_law 519 = .ok (.iconst 2, 1) := dk_5 (dk_at dksL_law_16 22 rfl rfl)
theorem dL_law_520 : decode cL_law 520 = .ok (.iadd, 1) := dk_96 (dk_at dksL_law_16 23 rfl rfl)
theorem dL_law_521 : decode cL_law 521 = .ok (.iaload, 1) := dk_46 (dk_at dksL_law_17 0 rfl rfl)
theorem dL_law_522 : decode cL_law 522 = .ok (.invokevirtual 63, 3) := dk_182 0 63 (dk_at dksL_law_17 1 rfl rfl)
theorem dL_law_525 : decode cL_law 525 = .ok (.aload_n 2, 1) := dk_44 (dk_at dksL_law_17 4 rfl rfl)
theorem dL_law_526 : decode cL_law 526 = .ok (.aload_n 0, 1) := dk_42 (dk_at dksL_law_17 5 rfl rfl)
theorem dL_law_527 : decode cL_law 527 = .ok (.iload_n 3, 1) := dk_29 (dk_at dksL_law_17 6 rfl rfl)
theorem dL_law_528 : decode cL_law 528 = .ok (.iconst 1, 1) := dk_4 (dk_at dksL_law_17 7 rfl rfl)
theorem dL_law_529 : decode cL_law 529 = .ok (.iadd, 1) := dk_96 (dk_at dksL_law_17 8 rfl rfl)
theorem dL_law_530 : decode cL_law 530 = .ok (.iaload, 1) := dk_46 (dk_at dksL_law_17 9 rfl rfl)
theorem dL_law_531 : decode cL_law 531 = .ok (.aload_n 0, 1) := dk_42 (dk_at dksL_law_17 10 rfl rfl)
theorem dL_law_532 : decode cL_law 532 = .ok (.iload_n 3, 1) := dk_29 (dk_at dksL_law_17 11 rfl rfl)
theorem dL_law_533 : decode cL_law 533 = .ok (.iconst 2, 1) := dk_5 (dk_at dksL_law_17 12 rfl rfl)
theorem dL_law_534 : decode cL_law 534 = .ok (.iadd, 1) := dk_96 (dk_at dksL_law_17 13 rfl rfl)
theorem dL_law_535 : decode cL_law 535 = .ok (.iaload, 1) := dk_46 (dk_at dksL_law_17 14 rfl rfl)
theorem dL_law_536 : decode cL_law 536 = .ok (.invokevirtual 66, 3) := dk_182 0 66 (dk_at dksL_law_17 15 rfl rfl)
theorem dL_law_539 : decode cL_law 539 = .ok (.if_icmp .eq 769, 3) := dk_159 3 1 (dk_at dksL_law_17 18 rfl rfl)
theorem dL_law_542 : decode cL_law 542 = .ok (.iconst 0, 1) := dk_3 (dk_at dksL_law_17 21 rfl rfl)
theorem dL_law_543 : decode cL_law 543 = .ok (.ireturn, 1) := dk_172 (dk_at dksL_law_17 22 rfl rfl)
theorem dL_law_544 : decode cL_law 544 = .ok (.aload_n 1, 1) := dk_43 (dk_at dksL_law_17 23 rfl rfl)
theorem dL_law_545 : decode cL_law 545 = .ok (.invokevirtual 67, 3) := dk_182 0 67 (dk_at dksL_law_18 0 rfl rfl)
theorem dL_law_548 : decode cL_law 548 = .ok (.aload_n 2, 1) := dk_44 (dk_at dksL_law_18 3 rfl rfl)
theorem dL_law_549 : decode cL_law 549 = .ok (.invokevirtual 70, 3) := dk_182 0 70 (dk_at dksL_law_18 4 rfl rfl)
theorem dL_law_552 : decode cL_law 552 = .ok (.if_icmp .eq 756, 3) := dk_159 2 244 (dk_at dksL_law_18 7 rfl rfl)
theorem dL_law_555 : decode cL_law 555 = .ok (.iconst 0, 1) := dk_3 (dk_at dksL_law_18 10 rfl rfl)
theorem dL_law_556 : decode cL_law 556 = .ok (.ireturn, 1) := dk_172 (dk_at dksL_law_18 11 rfl rfl)
theorem dL_law_557 : decode cL_law 557 = .ok (.aload_n 1, 1) := dk_43 (dk_at dksL_law_18 12 rfl rfl)
theorem dL_law_558 : decode cL_law 558 = .ok (.aload_n 0, 1) := dk_42 (dk_at dksL_law_18 13 rfl rfl)
theorem dL_law_559 : decode cL_law 559 = .ok (.iload_n 3, 1) := dk_29 (dk_at dksL_law_18 14 rfl rfl)
theorem dL_law_560 : decode cL_law 560 = .ok (.iconst 1, 1) := dk_4 (dk_at dksL_law_18 15 rfl rfl)
theorem dL_law_561 : decode cL_law 561 = .ok (.iadd, 1) := dk_96 (dk_at dksL_law_18 16 rfl rfl)
theorem dL_law_562 : decode cL_law 562 = .ok (.iaload, 1) := dk_46 (dk_at dksL_law_18 17 rfl rfl)
theorem dL_law_563 : decode cL_law 563 = .ok (.aload_n 0, 1) := dk_42 (dk_at dksL_law_18 18 rfl rfl)
theorem dL_law_564 : decode cL_law 564 = .ok (.iload_n 3, 1) := dk_29 (dk_at dksL_law_18 19 rfl rfl)
theorem dL_law_565 : decode cL_law 565 = .ok (.iconst 2, 1) := dk_5 (dk_at dksL_law_18 20 rfl rfl)
theorem dL_law_566 : decode cL_law 566 = .ok (.iadd, 1) := dk_96 (dk_at dksL_law_18 21 rfl rfl)
theorem dL_law_567 : decode cL_law 567 = .ok (.iaload, 1) := dk_46 (dk_at dksL_law_18 22 rfl rfl)
theorem dL_law_568 : decode cL_law 568 = .ok (.invokevirtual 71, 3) := dk_182 0 71 (dk_at dksL_law_19 0 rfl rfl)
theorem dL_law_571 : decode cL_law 571 = .ok (.aload_n 2, 1) := dk_44 (dk_at dksL_law_19 3 rfl rfl)
theorem dL_law_572 : decode cL_law 572 = .ok (.aload_n 0, 1) := dk_42 (dk_at dksL_law_19 4 rfl rfl)
theorem dL_law_573 : decode cL_law 573 = .ok (.iload_n 3, 1) := dk_29 (dk_at dksL_law_19 5 rfl rfl)
theorem dL_law_574 : decode cL_law 574 = .ok (.iconst 1, 1) := dk_4 (dk_at dksL_law_19 6 rfl rfl)
theorem dL_law_575 : decode cL_law 575 = .ok (.iadd, 1) := dk_96 (dk_at dksL_law_19 7 rfl rfl)
theorem dL_law_576 : decode cL_law 576 = .ok (.iaload, 1) := dk_46 (dk_at dksL_law_19 8 rfl rfl)
theorem dL_law_577 : decode cL_law 577 = .ok (.aload_n 0, 1) := dk_42 (dk_at dksL_law_19 9 rfl rfl)
theorem dL_law_578 : decode cL_law 578 = .ok (.iload_n 3, 1) := dk_29 (dk_at dksL_law_19 10 rfl rfl)
theorem dL_law_579 : decode cL_law 579 = .ok (.iconst 2, 1) := dk_5 (dk_at dksL_law_19 11 rfl rfl)
theorem dL_law_580 : decode cL_law 580 = .ok (.iadd, 1) := dk_96 (dk_at dksL_law_19 12 rfl rfl)
theorem dL_law_581 : decode cL_law 581 = .ok (.iaload, 1) := dk_46 (dk_at dksL_law_19 13 rfl rfl)
theorem dL_law_582 : decode cL_law 582 = .ok (.invokevirtual 74, 3) := dk_182 0 74 (dk_at dksL_law_19 14 rfl rfl)
theorem dL_law_585 : decode cL_law 585 = .ok (.if_icmp .eq 723, 3) := dk_159 2 211 (dk_at dksL_law_19 17 rfl rfl)
theorem dL_law_588 : decode cL_law 588 = .ok (.iconst 0, 1) := dk_3 (dk_at dksL_law_19 20 rfl rfl)
theorem dL_law_589 : decode cL_law 589 = .ok (.ireturn, 1) := dk_172 (dk_at dksL_law_19 21 rfl rfl)
theorem dL_law_590 : decode cL_law 590 = .ok (.aload_n 1, 1) := dk_43 (dk_at dksL_law_19 22 rfl rfl)
theorem dL_law_591 : decode cL_law 591 = .ok (.aload_n 0, 1) := dk_42 (dk_at dksL_law_19 23 rfl rfl)
theorem dL_law_592 : decode cL_law 592 = .ok (.iload_n 3, 1) := dk_29 (dk_at dksL_law_20 0 rfl rfl)
theorem dL_law_593 : decode cL_law 593 = .ok (.iconst 1, 1) := dk_4 (dk_at dksL_law_20 1 rfl rfl)
theorem dL_law_594 : decode cL_law 594 = .ok (.iadd, 1) := dk_96 (dk_at dksL_law_20 2 rfl rfl)
theorem dL_law_595 : decode cL_law 595 = .ok (.iaload, 1) := dk_46 (dk_at dksL_law_20 3 rfl rfl)
theorem dL_law_596 : decode cL_law 596 = .ok (.invokevirtual 75, 3) := dk_182 0 75 (dk_at dksL_law_20 4 rfl rfl)
theorem dL_law_599 : decode cL_law 599 = .ok (.aload_n 2, 1) := dk_44 (dk_at dksL_law_20 7 rfl rfl)
theorem dL_law_600 : decode cL_law 600 = .ok (.aload_n 0, 1) := dk_42 (dk_at dksL_law_20 8 rfl rfl)
theorem dL_law_601 : decode cL_law 601 = .ok (.iload_n 3, 1) := dk_29 (dk_at dksL_law_20 9 rfl rfl)
theorem dL_law_602 : decode cL_law 602 = .ok (.iconst 1, 1) := dk_4 (dk_at dksL_law_20 10 rfl rfl)
theorem dL_law_603 : decode cL_law 603 = .ok (.iadd, 1) := dk_96 (dk_at dksL_law_20 11 rfl rfl)
theorem dL_law_604 : decode cL_law 604 = .ok (.iaload, 1) := dk_46 (dk_at dksL_law_20 12 rfl rfl)
theorem dL_law_605 : decode cL_law 605 = .ok (.invokevirtual 78, 3) := dk_182 0 78 (dk_at dksL_law_20 13 rfl rfl)
theorem dL_law_608 : decode cL_law 608 = .ok (.if_icmp .eq 700, 3) := dk_159 2 188 (dk_at dksL_law_20 16 rfl rfl)
theorem dL_law_611 : decode cL_law 611 = .ok (.iconst 0, 1) := dk_3 (dk_at dksL_law_20 19 rfl rfl)
theorem dL_law_612 : decode cL_law 612 = .ok (.ireturn, 1) := dk_172 (dk_at dksL_law_20 20 rfl rfl)
theorem dL_law_613 : decode cL_law 613 = .ok (.aload_n 1, 1) := dk_43 (dk_at dksL_law_20 21 rfl rfl)
theorem dL_law_614 : decode cL_law 614 = .ok (.aload_n 0, 1) := dk_42 (dk_at dksL_law_20 22 rfl rfl)
theorem dL_law_615 : decode cL_law 615 = .ok (.iload_n 3, 1) := dk_29 (dk_at dksL_law_20 23 rfl rfl)
theorem dL_law_616 : decode cL_law 616 = .ok (.iconst 1, 1) := dk_4 (dk_at dksL_law_21 0 rfl rfl)
theorem dL_law_617 : decode cL_law 617 = .ok (.iadd, 1) := dk_96 (dk_at dksL_law_21 1 rfl rfl)
theorem dL_law_618 : decode cL_law 618 = .ok (.iaload, 1) := dk_46 (dk_at dksL_law_21 2 rfl rfl)
theorem dL_law_619 : decode cL_law 619 = .ok (.invokevirtual 79, 3) := dk_182 0 79 (dk_at dksL_law_21 3 rfl rfl)
theorem dL_law_622 : decode cL_law 622 = .ok (.aload_n 2, 1) := dk_44 (dk_at dksL_law_21 6 rfl rfl)
theorem dL_law_623 : decode cL_law 623 = .ok (.aload_n 0, 1) := dk_42 (dk_at dksL_law_21 7 rfl rfl)
theorem dL_law_624 : decode cL_law 624 = .ok (.iload_n 3, 1) := dk_29 (dk_at dksL_law_21 8 rfl rfl)
theorem dL_law_625 : decode cL_law 625 = .ok (.iconst 1, 1) := dk_4 (dk_at dksL_law_21 9 rfl rfl)
theorem dL_law_626 : decode cL_law 626 = .ok (.iadd, 1) := dk_96 (dk_at dksL_law_21 10 rfl rfl)
theorem dL_law_627 : decode cL_law 627 = .ok (.iaload, 1) := dk_46 (dk_at dksL_law_21 11 rfl rfl)
theorem dL_law_628 : decode cL_law 628 = .ok (.invokevirtual 82, 3) := dk_182 0 82 (dk_at dksL_law_21 12 rfl rfl)
theorem dL_law_631 : decode cL_law 631 = .ok (.if_icmp .eq 677, 3) := dk_159 2 165 (dk_at dksL_law_21 15 rfl rfl)
theorem dL_law_634 : decode cL_law 634 = .ok (.iconst 0, 1) := dk_3 (dk_at dksL_law_21 18 rfl rfl)
theorem dL_law_635 : decode cL_law 635 = .ok (.ireturn, 1) := dk_172 (dk_at dksL_law_21 19 rfl rfl)
theorem dL_law_636 : decode cL_law 636 = .ok (.aload_n 1, 1) := dk_43 (dk_at dksL_law_21 20 rfl rfl)
theorem dL_law_637 : decode cL_law 637 = .ok (.aload_n 0, 1) := dk_42 (dk_at dksL_law_21 21 rfl rfl)
theorem dL_law_638 : decode cL_law 638 = .ok (.iload_n 3, 1) := dk_29 (dk_at dksL_law_21 22 rfl rfl)
theorem dL_law_639 : decode cL_law 639 = .ok (.iconst 1, 1) := dk_4 (dk_at dksL_law_21 23 rfl rfl)
theorem dL_law_640 : decode cL_law 640 = .ok (.iadd, 1) := dk_96 (dk_at dksL_law_22 0 rfl rfl)
theorem dL_law_641 : decode cL_law 641 = .ok (.iaload, 1) := dk_46 (dk_at dksL_law_22 1 rfl rfl)
theorem dL_law_642 : decode cL_law 642 = .ok (.aload_n 0, 1) := dk_42 (dk_at dksL_law_22 2 rfl rfl)
theorem dL_law_643 : decode cL_law 643 = .ok (.iload_n 3, 1) := dk_29 (dk_at dksL_law_22 3 rfl rfl)
theorem dL_law_644 : decode cL_law 644 = .ok (.iconst 2, 1) := dk_5 (dk_at dksL_law_22 4 rfl rfl)
theorem dL_law_645 : decode cL_law 645 = .ok (.iadd, 1) := dk_96 (dk_at dksL_law_22 5 rfl rfl)
theorem dL_law_646 : decode cL_law 646 = .ok (.iaload, 1) := dk_46 (dk_at dksL_law_22 6 rfl rfl)
theorem dL_law_647 : decode cL_law 647 = .ok (.invokevirtual 83, 3) := dk_182 0 83 (dk_at dksL_law_22 7 rfl rfl)
theorem dL_law_650 : decode cL_law 650 = .ok (.aload_n 2, 1) := dk_44 (dk_at dksL_law_22 10 rfl rfl)
theorem dL_law_651 : decode cL_law 651 = .ok (.aload_n 0, 1) := dk_42 (dk_at dksL_law_22 11 rfl rfl)
theorem dL_law_652 : decode cL_law 652 = .ok (.iload_n 3, 1) := dk_29 (dk_at dksL_law_22 12 rfl rfl)
theorem dL_law_653 : decode cL_law 653 = .ok (.iconst 1, 1) := dk_4 (dk_at dksL_law_22 13 rfl rfl)
theorem dL_law_654 : decode cL_law 654 = .ok (.iadd, 1) := dk_96 (dk_at dksL_law_22 14 rfl rfl)
theorem dL_law_655 : decode cL_law 655 = .ok (.iaload, 1) := dk_46 (dk_at dksL_law_22 15 rfl rfl)
theorem dL_law_656 : decode cL_law 656 = .ok (.aload_n 0, 1) := dk_42 (dk_at dksL_law_22 16 rfl rfl)
theorem dL_law_657 : decode cL_law 657 = .ok (.iload_n 3, 1) := dk_29 (dk_at dksL_law_22 17 rfl rfl)
theorem dL_law_658 : decode cL_law 658 = .ok (.iconst 2, 1) := dk_5 (dk_at dksL_law_22 18 rfl rfl)
theorem dL_law_659 : decode cL_law 659 = .ok (.iadd, 1) := dk_96 (dk_at dksL_law_22 19 rfl rfl)
theorem dL_law_660 : decode cL_law 660 = .ok (.iaload, 1) := dk_46 (dk_at dksL_law_22 20 rfl rfl)
theorem dL_law_661 : decode cL_law 661 = .ok (.invokevirtual 86, 3) := dk_182 0 86 (dk_at dksL_law_22 21 rfl rfl)
theorem dL_law_664 : decode cL_law 664 = .ok (.if_icmp .eq 644, 3) := dk_159 2 132 (dk_at dksL_law_23 0 rfl rfl)
theorem dL_law_667 : decode cL_law 667 = .ok (.iconst 0, 1) := dk_3 (dk_at dksL_law_23 3 rfl rfl)
theorem dL_law_668 : decode cL_law 668 = .ok (.ireturn, 1) := dk_172 (dk_at dksL_law_23 4 rfl rfl)
theorem dL_law_669 : decode cL_law 669 = .ok (.aload_n 1, 1) := dk_43 (dk_at dksL_law_23 5 rfl rfl)
theorem dL_law_670 : decode cL_law 670 = .ok (.aload_n 0, 1) := dk_42 (dk_at dksL_law_23 6 rfl rfl)
theorem dL_law_671 : decode cL_law 671 = .ok (.iload_n 3, 1) := dk_29 (dk_at dksL_law_23 7 rfl rfl)
theorem dL_law_672 : decode cL_law 672 = .ok (.iconst 1, 1) := dk_4 (dk_at dksL_law_23 8 rfl rfl)
theorem dL_law_673 : decode cL_law 673 = .ok (.iadd, 1) := dk_96 (dk_at dksL_law_23 9 rfl rfl)
theorem dL_law_674 : decode cL_law 674 = .ok (.iaload, 1) := dk_46 (dk_at dksL_law_23 10 rfl rfl)
theorem dL_law_675 : decode cL_law 675 = .ok (.aload_n 0, 1) := dk_42 (dk_at dksL_law_23 11 rfl rfl)
theorem dL_law_676 : decode cL_law 676 = .ok (.iload_n 3, 1) := dk_29 (dk_at dksL_law_23 12 rfl rfl)
theorem dL_law_677 : decode cL_law 677 = .ok (.iconst 2, 1) := dk_5 (dk_at dksL_law_23 13 rfl rfl)
theorem dL_law_678 : decode cL_law 678 = .ok (.iadd, 1) := dk_96 (dk_at dksL_law_23 14 rfl rfl)
theorem dL_law_679 : decode cL_law 679 = .ok (.iaload, 1) := dk_46 (dk_at dksL_law_23 15 rfl rfl)
theorem dL_law_680 : decode cL_law 680 = .ok (.invokevirtual 87, 3) := dk_182 0 87 (dk_at dksL_law_23 16 rfl rfl)
theorem dL_law_683 : decode cL_law 683 = .ok (.aload_n 2, 1) := dk_44 (dk_at dksL_law_23 19 rfl rfl)
theorem dL_law_684 : decode cL_law 684 = .ok (.aload_n 0, 1) := dk_42 (dk_at dksL_law_23 20 rfl rfl)
theorem dL_law_685 : decode cL_law 685 = .ok (.iload_n 3, 1) := dk_29 (dk_at dksL_law_23 21 rfl rfl)
theorem dL_law_686 : decode cL_law 686 = .ok (.iconst 1, 1) := dk_4 (dk_at dksL_law_23 22 rfl rfl)
theorem dL_law_687 : decode cL_law 687 = .ok (.iadd, 1) := dk_96 (dk_at dksL_law_23 23 rfl rfl)
theorem dL_law_688 : decode cL_law 688 = .ok (.iaload, 1) := dk_46 (dk_at dksL_law_24 0 rfl rfl)
theorem dL_law_689 : decode cL_law 689 = .ok (.aload_n 0, 1) := dk_42 (dk_at dksL_law_24 1 rfl rfl)
theorem dL_law_690 : decode cL_law 690 = .ok (.iload_n 3, 1) := dk_29 (dk_at dksL_law_24 2 rfl rfl)
theorem dL_law_691 : decode cL_law 691 = .ok (.iconst 2, 1) := dk_5 (dk_at dksL_law_24 3 rfl rfl)
theorem dL_law_692 : decode cL_law 692 = .ok (.iadd, 1) := dk_96 (dk_at dksL_law_24 4 rfl rfl)
theorem dL_law_693 : decode cL_law 693 = .ok (.iaload, 1) := dk_46 (dk_at dksL_law_24 5 rfl rfl)
theorem dL_law_694 : decode cL_law 694 = .ok (.invokevirtual 91, 3) := dk_182 0 91 (dk_at dksL_law_24 6 rfl rfl)
theorem dL_law_697 : decode cL_law 697 = .ok (.lcmp, 1) := dk_148 (dk_at dksL_law_24 9 rfl rfl)
theorem dL_law_698 : decode cL_law 698 = .ok (.ifCond .eq 610, 3) := dk_153 2 98 (dk_at dksL_law_24 10 rfl rfl)
theorem dL_law_701 : decode cL_law 701 = .ok (.iconst 0, 1) := dk_3 (dk_at dksL_law_24 13 rfl rfl)
theorem dL_law_702 : decode cL_law 702 = .ok (.ireturn, 1) := dk_172 (dk_at dksL_law_24 14 rfl rfl)
theorem dL_law_703 : decode cL_law 703 = .ok (.aload_n 1, 1) := dk_43 (dk_at dksL_law_24 15 rfl rfl)
theorem dL_law_704 : decode cL_law 704 = .ok (.aload_n 0, 1) := dk_42 (dk_at dksL_law_24 16 rfl rfl)
theorem dL_law_705 : decode cL_law 705 = .ok (.iload_n 3, 1) := dk_29 (dk_at dksL_law_24 17 rfl rfl)
theorem dL_law_706 : decode cL_law 706 = .ok (.iconst 1, 1) := dk_4 (dk_at dksL_law_24 18 rfl rfl)
theorem dL_law_707 : decode cL_law 707 = .ok (.iadd, 1) := dk_96 (dk_at dksL_law_24 19 rfl rfl)
theorem dL_law_708 : decode cL_law 708 = .ok (.iaload, 1) := dk_46 (dk_at dksL_law_24 20 rfl rfl)
theorem dL_law_709 : decode cL_law 709 = .ok (.invokevirtual 92, 3) := dk_182 0 92 (dk_at dksL_law_24 21 rfl rfl)
theorem dL_law_712 : decode cL_law 712 = .ok (.aload_n 2, 1) := dk_44 (dk_at dksL_law_25 0 rfl rfl)
theorem dL_law_713 : decode cL_law 713 = .ok (.aload_n 0, 1) := dk_42 (dk_at dksL_law_25 1 rfl rfl)
theorem dL_law_714 : decode cL_law 714 = .ok (.iload_n 3, 1) := dk_29 (dk_at dksL_law_25 2 rfl rfl)
theorem dL_law_715 : decode cL_law 715 = .ok (.iconst 1, 1) := dk_4 (dk_at dksL_law_25 3 rfl rfl)
theorem dL_law_716 : decode cL_law 716 = .ok (.iadd, 1) := dk_96 (dk_at dksL_law_25 4 rfl rfl)
theorem dL_law_717 : decode cL_law 717 = .ok (.iaload, 1) := dk_46 (dk_at dksL_law_25 5 rfl rfl)
theorem dL_law_718 : decode cL_law 718 = .ok (.invokevirtual 95, 3) := dk_182 0 95 (dk_at dksL_law_25 6 rfl rfl)
theorem dL_law_721 : decode cL_law 721 = .ok (.if_icmp .eq 587, 3) := dk_159 2 75 (dk_at dksL_law_25 9 rfl rfl)
theorem dL_law_724 : decode cL_law 724 = .ok (.iconst 0, 1) := dk_3 (dk_at dksL_law_25 12 rfl rfl)
theorem dL_law_725 : decode cL_law 725 = .ok (.ireturn, 1) := dk_172 (dk_at dksL_law_25 13 rfl rfl)
theorem dL_law_726 : decode cL_law 726 = .ok (.aload_n 1, 1) := dk_43 (dk_at dksL_law_25 14 rfl rfl)
theorem dL_law_727 : decode cL_law 727 = .ok (.aload_n 0, 1) := dk_42 (dk_at dksL_law_25 15 rfl rfl)
theorem dL_law_728 : decode cL_law 728 = .ok (.iload_n 3, 1) := dk_29 (dk_at dksL_law_25 16 rfl rfl)
theorem dL_law_729 : decode cL_law 729 = .ok (.iconst 1, 1) := dk_4 (dk_at dksL_law_25 17 rfl rfl)
theorem dL_law_730 : decode cL_law 730 = .ok (.iadd, 1) := dk_96 (dk_at dksL_law_25 18 rfl rfl)
theorem dL_law_731 : decode cL_law 731 = .ok (.iaload, 1) := dk_46 (dk_at dksL_law_25 19 rfl rfl)
theorem dL_law_732 : decode cL_law 732 = .ok (.aload_n 0, 1) := dk_42 (dk_at dksL_law_25 20 rfl rfl)
theorem dL_law_733 : decode cL_law 733 = .ok (.iload_n 3, 1) := dk_29 (dk_at dksL_law_25 21 rfl rfl)
theorem dL_law_734 : decode cL_law 734 = .ok (.iconst 2, 1) := dk_5 (dk_at dksL_law_25 22 rfl rfl)
theorem dL_law_735 : decode cL_law 735 = .ok (.iadd, 1) := dk_96 (dk_at dksL_law_25 23 rfl rfl)
theorem dL_law_736 : decode cL_law 736 = .ok (.iaload, 1) := dk_46 (dk_at dksL_law_26 0 rfl rfl)
theorem dL_law_737 : decode cL_law 737 = .ok (.invokevirtual 96, 3) := dk_182 0 96 (dk_at dksL_law_26 1 rfl rfl)
theorem dL_law_740 : decode cL_law 740 = .ok (.aload_n 2, 1) := dk_44 (dk_at dksL_law_26 4 rfl rfl)
theorem dL_law_741 : decode cL_law 741 = .ok (.aload_n 0, 1) := dk_42 (dk_at dksL_law_26 5 rfl rfl)
theorem dL_law_742 : decode cL_law 742 = .ok (.iload_n 3, 1) := dk_29 (dk_at dksL_law_26 6 rfl rfl)
theorem dL_law_743 : decode cL_law 743 = .ok (.iconst 1, 1) := dk_4 (dk_at dksL_law_26 7 rfl rfl)
theorem dL_law_744 : decode cL_law 744 = .ok (.iadd, 1) := dk_96 (dk_at dksL_law_26 8 rfl rfl)
theorem dL_law_745 : decode cL_law 745 = .ok (.iaload, 1) := dk_46 (dk_at dksL_law_26 9 rfl rfl)
theorem dL_law_746 : decode cL_law 746 = .ok (.aload_n 0, 1) := dk_42 (dk_at dksL_law_26 10 rfl rfl)
theorem dL_law_747 : decode cL_law 747 = .ok (.iload_n 3, 1) := dk_29 (dk_at dksL_law_26 11 rfl rfl)
theorem dL_law_748 : decode cL_law 748 = .ok (.iconst 2, 1) := dk_5 (dk_at dksL_law_26 12 rfl rfl)
theorem dL_law_749 : decode cL_law 749 = .ok (.iadd, 1) := dk_96 (dk_at dksL_law_26 13 rfl rfl)
theorem dL_law_750 : decode cL_law 750 = .ok (.iaload, 1) := dk_46 (dk_at dksL_law_26 14 rfl rfl)
theorem dL_law_751 : decode cL_law 751 = .ok (.invokevirtual 99, 3) := dk_182 0 99 (dk_at dksL_law_26 15 rfl rfl)
theorem dL_law_754 : decode cL_law 754 = .ok (.if_icmp .eq 554, 3) := dk_159 2 42 (dk_at dksL_law_26 18 rfl rfl)
theorem dL_law_757 : decode cL_law 757 = .ok (.iconst 0, 1) := dk_3 (dk_at dksL_law_26 21 rfl rfl)
theorem dL_law_758 : decode cL_law 758 = .ok (.ireturn, 1) := dk_172 (dk_at dksL_law_26 22 rfl rfl)
theorem dL_law_759 : decode cL_law 759 = .ok (.aload_n 1, 1) := dk_43 (dk_at dksL_law_26 23 rfl rfl)
theorem dL_law_760 : decode cL_law 760 = .ok (.aload_n 0, 1) := dk_42 (dk_at dksL_law_27 0 rfl rfl)
theorem dL_law_761 : decode cL_law 761 = .ok (.iload_n 3, 1) := dk_29 (dk_at dksL_law_27 1 rfl rfl)
theorem dL_law_762 : decode cL_law 762 = .ok (.iconst 1, 1) := dk_4 (dk_at dksL_law_27 2 rfl rfl)
theorem dL_law_763 : decode cL_law 763 = .ok (.iadd, 1) := dk_96 (dk_at dksL_law_27 3 rfl rfl)
theorem dL_law_764 : decode cL_law 764 = .ok (.iaload, 1) := dk_46 (dk_at dksL_law_27 4 rfl rfl)
theorem dL_law_765 : decode cL_law 765 = .ok (.aload_n 0, 1) := dk_42 (dk_at dksL_law_27 5 rfl rfl)
theorem dL_law_766 : decode cL_law 766 = .ok (.iload_n 3, 1) := dk_29 (dk_at dksL_law_27 6 rfl rfl)
theorem dL_law_767 : decode cL_law 767 = .ok (.iconst 2, 1) := dk_5 (dk_at dksL_law_27 7 rfl rfl)
theorem dL_law_768 : decode cL_law 768 = .ok (.iadd, 1) := dk_96 (dk_at dksL_law_27 8 rfl rfl)
theorem dL_law_769 : decode cL_law 769 = .ok (.iaload, 1) := dk_46 (dk_at dksL_law_27 9 rfl rfl)
theorem dL_law_770 : decode cL_law 770 = .ok (.ifCond .eq 7, 3) := dk_153 0 7 (dk_at dksL_law_27 10 rfl rfl)
theorem dL_law_773 : decode cL_law 773 = .ok (.iconst 1, 1) := dk_4 (dk_at dksL_law_27 13 rfl rfl)
theorem dL_law_774 : decode cL_law 774 = .ok (.goto 4, 3) := dk_167 0 4 (dk_at dksL_law_27 14 rfl rfl)
theorem dL_law_777 : decode cL_law 777 = .ok (.iconst 0, 1) := dk_3 (dk_at dksL_law_27 17 rfl rfl)
theorem dL_law_778 : decode cL_law 778 = .ok (.invokevirtual 100, 3) := dk_182 0 100 (dk_at dksL_law_27 18 rfl rfl)
theorem dL_law_781 : decode cL_law 781 = .ok (.aload_n 2, 1) := dk_44 (dk_at dksL_law_27 21 rfl rfl)
theorem dL_law_782 : decode cL_law 782 = .ok (.aload_n 0, 1) := dk_42 (dk_at dksL_law_27 22 rfl rfl)
theorem dL_law_783 : decode cL_law 783 = .ok (.iload_n 3, 1) := dk_29 (dk_at dksL_law_27 23 rfl rfl)
theorem dL_law_784 : decode cL_law 784 = .ok (.iconst 1, 1) := dk_4 (dk_at dksL_law_28 0 rfl rfl)
theorem dL_law_785 : decode cL_law 785 = .ok (.iadd, 1) := dk_96 (dk_at dksL_law_28 1 rfl rfl)
theorem dL_law_786 : decode cL_law 786 = .ok (.iaload, 1) := dk_46 (dk_at dksL_law_28 2 rfl rfl)
theorem dL_law_787 : decode cL_law 787 = .ok (.aload_n 0, 1) := dk_42 (dk_at dksL_law_28 3 rfl rfl)
theorem dL_law_788 : decode cL_law 788 = .ok (.iload_n 3, 1) := dk_29 (dk_at dksL_law_28 4 rfl rfl)
theorem dL_law_789 : decode cL_law 789 = .ok (.iconst 2, 1) := dk_5 (dk_at dksL_law_28 5 rfl rfl)
theorem dL_law_790 : decode cL_law 790 = .ok (.iadd, 1) := dk_96 (dk_at dksL_law_28 6 rfl rfl)
theorem dL_law_791 : decode cL_law 791 = .ok (.iaload, 1) := dk_46 (dk_at dksL_law_28 7 rfl rfl)
theorem dL_law_792 : decode cL_law 792 = .ok (.ifCond .eq 7, 3) := dk_153 0 7 (dk_at dksL_law_28 8 rfl rfl)
theorem dL_law_795 : decode cL_law 795 = .ok (.iconst 1, 1) := dk_4 (dk_at dksL_law_28 11 rfl rfl)
theorem dL_law_796 : decode cL_law 796 = .ok (.goto 4, 3) := dk_167 0 4 (dk_at dksL_law_28 12 rfl rfl)
theorem dL_law_799 : decode cL_law 799 = .ok (.iconst 0, 1) := dk_3 (dk_at dksL_law_28 15 rfl rfl)
theorem dL_law_800 : decode cL_law 800 = .ok (.invokevirtual 104, 3) := dk_182 0 104 (dk_at dksL_law_28 16 rfl rfl)
theorem dL_law_803 : decode cL_law 803 = .ok (.if_icmp .eq 505, 3) := dk_159 1 249 (dk_at dksL_law_28 19 rfl rfl)
theorem dL_law_806 : decode cL_law 806 = .ok (.iconst 0, 1) := dk_3 (dk_at dksL_law_28 22 rfl rfl)
theorem dL_law_807 : decode cL_law 807 = .ok (.ireturn, 1) := dk_172 (dk_at dksL_law_28 23 rfl rfl)
theorem dL_law_808 : decode cL_law 808 = .ok (.aload_n 1, 1) := dk_43 (dk_at dksL_law_29 0 rfl rfl)
theorem dL_law_809 : decode cL_law 809 = .ok (.aload_n 0, 1) := dk_42 (dk_at dksL_law_29 1 rfl rfl)
theorem dL_law_810 : decode cL_law 810 = .ok (.iload_n 3, 1) := dk_29 (dk_at dksL_law_29 2 rfl rfl)
theorem dL_law_811 : decode cL_law 811 = .ok (.iconst 1, 1) := dk_4 (dk_at dksL_law_29 3 rfl rfl)
theorem dL_law_812 : decode cL_law 812 = .ok (.iadd, 1) := dk_96 (dk_at dksL_law_29 4 rfl rfl)
theorem dL_law_813 : decode cL_law 813 = .ok (.iaload, 1) := dk_46 (dk_at dksL_law_29 5 rfl rfl)
theorem dL_law_814 : decode cL_law 814 = .ok (.ifCond .eq 7, 3) := dk_153 0 7 (dk_at dksL_law_29 6 rfl rfl)
theorem dL_law_817 : decode cL_law 817 = .ok (.iconst 1, 1) := dk_4 (dk_at dksL_law_29 9 rfl rfl)
theorem dL_law_818 : decode cL_law 818 = .ok (.goto 4, 3) := dk_167 0 4 (dk_at dksL_law_29 10 rfl rfl)
theorem dL_law_821 : decode cL_law 821 = .ok (.iconst 0, 1) := dk_3 (dk_at dksL_law_29 13 rfl rfl)
theorem dL_law_822 : decode cL_law 822 = .ok (.invokevirtual 105, 3) := dk_182 0 105 (dk_at dksL_law_29 14 rfl rfl)
theorem dL_law_825 : decode cL_law 825 = .ok (.aload_n 2, 1) := dk_44 (dk_at dksL_law_29 17 rfl rfl)
theorem dL_law_826 : decode cL_law 826 = .ok (.aload_n 0, 1) := dk_42 (dk_at dksL_law_29 18 rfl rfl)
theorem dL_law_827 : decode cL_law 827 = .ok (.iload_n 3, 1) := dk_29 (dk_at dksL_law_29 19 rfl rfl)
theorem dL_law_828 : decode cL_law 828 = .ok (.iconst 1, 1) := dk_4 (dk_at dksL_law_29 20 rfl rfl)
theorem dL_law_829 : decode cL_law 829 = .ok (.iadd, 1) := dk_96 (dk_at dksL_law_29 21 rfl rfl)
theorem dL_law_830 : decode cL_law 830 = .ok (.iaload, 1) := dk_46 (dk_at dksL_law_29 22 rfl rfl)
theorem dL_law_831 : decode cL_law 831 = .ok (.ifCond .eq 7, 3) := dk_153 0 7 (dk_at dksL_law_30 0 rfl rfl)
theorem dL_law_834 : decode cL_law 834 = .ok (.iconst 1, 1) := dk_4 (dk_at dksL_law_30 3 rfl rfl)
theorem dL_law_835 : decode cL_law 835 = .ok (.goto 4, 3) := dk_167 0 4 (dk_at dksL_law_30 4 rfl rfl)
theorem dL_law_838 : decode cL_law 838 = .ok (.iconst 0, 1) := dk_3 (dk_at dksL_law_30 7 rfl rfl)
theorem dL_law_839 : decode cL_law 839 = .ok (.invokevirtual 109, 3) := dk_182 0 109 (dk_at dksL_law_30 8 rfl rfl)
theorem dL_law_842 : decode cL_law 842 = .ok (.if_icmp .eq 466, 3) := dk_159 1 210 (dk_at dksL_law_30 11 rfl rfl)
theorem dL_law_845 : decode cL_law 845 = .ok (.iconst 0, 1) := dk_3 (dk_at dksL_law_30 14 rfl rfl)
theorem dL_law_846 : decode cL_law 846 = .ok (.ireturn, 1) := dk_172 (dk_at dksL_law_30 15 rfl rfl)
theorem dL_law_847 : decode cL_law 847 = .ok (.aload_n 1, 1) := dk_43 (dk_at dksL_law_30 16 rfl rfl)
theorem dL_law_848 : decode cL_law 848 = .ok (.aload_n 0, 1) := dk_42 (dk_at dksL_law_30 17 rfl rfl)
theorem dL_law_849 : decode cL_law 849 = .ok (.iload_n 3, 1) := dk_29 (dk_at dksL_law_30 18 rfl rfl)
theorem dL_law_850 : decode cL_law 850 = .ok (.iconst 1, 1) := dk_4 (dk_at dksL_law_30 19 rfl rfl)
theorem dL_law_851 : decode cL_law 851 = .ok (.iadd, 1) := dk_96 (dk_at dksL_law_30 20 rfl rfl)
theorem dL_law_852 : decode cL_law 852 = .ok (.iaload, 1) := dk_46 (dk_at dksL_law_30 21 rfl rfl)
theorem dL_law_853 : decode cL_law 853 = .ok (.invokevirtual 110, 3) := dk_182 0 110 (dk_at dksL_law_31 0 rfl rfl)
theorem dL_law_856 : decode cL_law 856 = .ok (.aload_n 2, 1) := dk_44 (dk_at dksL_law_31 3 rfl rfl)
theorem dL_law_857 : decode cL_law 857 = .ok (.aload_n 0, 1) := dk_42 (dk_at dksL_law_31 4 rfl rfl)
theorem dL_law_858 : decode cL_law 858 = .ok (.iload_n 3, 1) := dk_29 (dk_at dksL_law_31 5 rfl rfl)
theorem dL_law_859 : decode cL_law 859 = .ok (.iconst 1, 1) := dk_4 (dk_at dksL_law_31 6 rfl rfl)
theorem dL_law_860 : decode cL_law 860 = .ok (.iadd, 1) := dk_96 (dk_at dksL_law_31 7 rfl rfl)
theorem dL_law_861 : decode cL_law 861 = .ok (.iaload, 1) := dk_46 (dk_at dksL_law_31 8 rfl rfl)
theorem dL_law_862 : decode cL_law 862 = .ok (.invokevirtual 113, 3) := dk_182 0 113 (dk_at dksL_law_31 9 rfl rfl)
theorem dL_law_865 : decode cL_law 865 = .ok (.if_icmp .eq 443, 3) := dk_159 1 187 (dk_at dksL_law_31 12 rfl rfl)
theorem dL_law_868 : decode cL_law 868 = .ok (.iconst 0, 1) := dk_3 (dk_at dksL_law_31 15 rfl rfl)
theorem dL_law_869 : decode cL_law 869 = .ok (.ireturn, 1) := dk_172 (dk_at dksL_law_31 16 rfl rfl)
theorem dL_law_870 : decode cL_law 870 = .ok (.aload_n 1, 1) := dk_43 (dk_at dksL_law_31 17 rfl rfl)
theorem dL_law_871 : decode cL_law 871 = .ok (.aload_n 0, 1) := dk_42 (dk_at dksL_law_31 18 rfl rfl)
theorem dL_law_872 : decode cL_law 872 = .ok (.iload_n 3, 1) := dk_29 (dk_at dksL_law_31 19 rfl rfl)
theorem dL_law_873 : decode cL_law 873 = .ok (.iconst 1, 1) := dk_4 (dk_at dksL_law_31 20 rfl rfl)
theorem dL_law_874 : decode cL_law 874 = .ok (.iadd, 1) := dk_96 (dk_at dksL_law_31 21 rfl rfl)
theorem dL_law_875 : decode cL_law 875 = .ok (.iaload, 1) := dk_46 (dk_at dksL_law_31 22 rfl rfl)
theorem dL_law_876 : decode cL_law 876 = .ok (.invokevirtual 114, 3) := dk_182 0 114 (dk_at dksL_law_32 0 rfl rfl)
theorem dL_law_879 : decode cL_law 879 = .ok (.aload_n 2, 1) := dk_44 (dk_at dksL_law_32 3 rfl rfl)
theorem dL_law_880 : decode cL_law 880 = .ok (.aload_n 0, 1) := dk_42 (dk_at dksL_law_32 4 rfl rfl)
theorem dL_law_881 : decode cL_law 881 = .ok (.iload_n 3, 1) := dk_29 (dk_at dksL_law_32 5 rfl rfl)
theorem dL_law_882 : decode cL_law 882 = .ok (.iconst 1, 1) := dk_4 (dk_at dksL_law_32 6 rfl rfl)
theorem dL_law_883 : decode cL_law 883 = .ok (.iadd, 1) := dk_96 (dk_at dksL_law_32 7 rfl rfl)
theorem dL_law_884 : decode cL_law 884 = .ok (.iaload, 1) := dk_46 (dk_at dksL_law_32 8 rfl rfl)
theorem dL_law_885 : decode cL_law 885 = .ok (.invokevirtual 117, 3) := dk_182 0 117 (dk_at dksL_law_32 9 rfl rfl)
theorem dL_law_888 : decode cL_law 888 = .ok (.if_icmp .eq 420, 3) := dk_159 1 164 (dk_at dksL_law_32 12 rfl rfl)
theorem dL_law_891 : decode cL_law 891 = .ok (.iconst 0, 1) := dk_3 (dk_at dksL_law_32 15 rfl rfl)
theorem dL_law_892 : decode cL_law 892 = .ok (.ireturn, 1) := dk_172 (dk_at dksL_law_32 16 rfl rfl)
theorem dL_law_893 : decode cL_law 893 = .ok (.aload_n 1, 1) := dk_43 (dk_at dksL_law_32 17 rfl rfl)
theorem dL_law_894 : decode cL_law 894 = .ok (.aload_n 0, 1) := dk_42 (dk_at dksL_law_32 18 rfl rfl)
theorem dL_law_895 : decode cL_law 895 = .ok (.iload_n 3, 1) := dk_29 (dk_at dksL_law_32 19 rfl rfl)
theorem dL_law_896 : decode cL_law 896 = .ok (.iconst 1, 1) := dk_4 (dk_at dksL_law_32 20 rfl rfl)
theorem dL_law_897 : decode cL_law 897 = .ok (.iadd, 1) := dk_96 (dk_at dksL_law_32 21 rfl rfl)
theorem dL_law_898 : decode cL_law 898 = .ok (.iaload, 1) := dk_46 (dk_at dksL_law_32 22 rfl rfl)
theorem dL_law_899 : decode cL_law 899 = .ok (.invokevirtual 118, 3) := dk_182 0 118 (dk_at dksL_law_33 0 rfl rfl)
theorem dL_law_902 : decode cL_law 902 = .ok (.aload_n 2, 1) := dk_44 (dk_at dksL_law_33 3 rfl rfl)
theorem dL_law_903 : decode cL_law 903 = .ok (.aload_n 0, 1) := dk_42 (dk_at dksL_law_33 4 rfl rfl)
theorem dL_law_904 : decode cL_law 904 = .ok (.iload_n 3, 1) := dk_29 (dk_at dksL_law_33 5 rfl rfl)
theorem dL_law_905 : decode cL_law 905 = .ok (.iconst 1, 1) := dk_4 (dk_at dksL_law_33 6 rfl rfl)
theorem dL_law_906 : decode cL_law 906 = .ok (.iadd, 1) := dk_96 (dk_at dksL_law_33 7 rfl rfl)
theorem dL_law_907 : decode cL_law 907 = .ok (.iaload, 1) := dk_46 (dk_at dksL_law_33 8 rfl rfl)
theorem dL_law_908 : decode cL_law 908 = .ok (.invokevirtual 121, 3) := dk_182 0 121 (dk_at dksL_law_33 9 rfl rfl)
theorem dL_law_911 : decode cL_law 911 = .ok (.if_icmp .eq 397, 3) := dk_159 1 141 (dk_at dksL_law_33 12 rfl rfl)
theorem dL_law_914 : decode cL_law 914 = .ok (.iconst 0, 1) := dk_3 (dk_at dksL_law_33 15 rfl rfl)
theorem dL_law_915 : decode cL_law 915 = .ok (.ireturn, 1) := dk_172 (dk_at dksL_law_33 16 rfl rfl)
theorem dL_law_916 : decode cL_law 916 = .ok (.aload_n 1, 1) := dk_43 (dk_at dksL_law_33 17 rfl rfl)
theorem dL_law_917 : decode cL_law 917 = .ok (.aload_n 0, 1) := dk_42 (dk_at dksL_law_33 18 rfl rfl)
theorem dL_law_918 : decode cL_law 918 = .ok (.iload_n 3, 1) := dk_29 (dk_at dksL_law_33 19 rfl rfl)
theorem dL_law_919 : decode cL_law 919 = .ok (.iconst 1, 1) := dk_4 (dk_at dksL_law_33 20 rfl rfl)
theorem dL_law_920 : decode cL_law 920 = .ok (.iadd, 1) := dk_96 (dk_at dksL_law_33 21 rfl rfl)
theorem dL_law_921 : decode cL_law 921 = .ok (.iaload, 1) := dk_46 (dk_at dksL_law_33 22 rfl rfl)
theorem dL_law_922 : decode cL_law 922 = .ok (.aload_n 0, 1) := dk_42 (dk_at dksL_law_33 23 rfl rfl)
theorem dL_law_923 : decode cL_law 923 = .ok (.iload_n 3, 1) := dk_29 (dk_at dksL_law_34 0 rfl rfl)
theorem dL_law_924 : decode cL_law 924 = .ok (.iconst 2, 1) := dk_5 (dk_at dksL_law_34 1 rfl rfl)
theorem dL_law_925 : decode cL_law 925 = .ok (.iadd, 1) := dk_96 (dk_at dksL_law_34 2 rfl rfl)
theorem dL_law_926 : decode cL_law 926 = .ok (.iaload, 1) := dk_46 (dk_at dksL_law_34 3 rfl rfl)
theorem dL_law_927 : decode cL_law 927 = .ok (.invokevirtual 122, 3) := dk_182 0 122 (dk_at dksL_law_34 4 rfl rfl)
theorem dL_law_930 : decode cL_law 930 = .ok (.aload_n 2, 1) := dk_44 (dk_at dksL_law_34 7 rfl rfl)
theorem dL_law_931 : decode cL_law 931 = .ok (.aload_n 0, 1) := dk_42 (dk_at dksL_law_34 8 rfl rfl)
theorem dL_law_932 : decode cL_law 932 = .ok (.iload_n 3, 1) := dk_29 (dk_at dksL_law_34 9 rfl rfl)
theorem dL_law_933 : decode cL_law 933 = .ok (.iconst 1, 1) := dk_4 (dk_at dksL_law_34 10 rfl rfl)
theorem dL_law_934 : decode cL_law 934 = .ok (.iadd, 1) := dk_96 (dk_at dksL_law_34 11 rfl rfl)
theorem dL_law_935 : decode cL_law 935 = .ok (.iaload, 1) := dk_46 (dk_at dksL_law_34 12 rfl rfl)
theorem dL_law_936 : decode cL_law 936 = .ok (.aload_n 0, 1) := dk_42 (dk_at dksL_law_34 13 rfl rfl)
theorem dL_law_937 : decode cL_law 937 = .ok (.iload_n 3, 1) := dk_29 (dk_at dksL_law_34 14 rfl rfl)
theorem dL_law_938 : decode cL_law 938 = .ok (.iconst 2, 1) := dk_5 (dk_at dksL_law_34 15 rfl rfl)
theorem dL_law_939 : decode cL_law 939 = .ok (.iadd, 1) := dk_96 (dk_at dksL_law_34 16 rfl rfl)
theorem dL_law_940 : decode cL_law 940 = .ok (.iaload, 1) := dk_46 (dk_at dksL_law_34 17 rfl rfl)
theorem dL_law_941 : decode cL_law 941 = .ok (.invokevirtual 125, 3) := dk_182 0 125 (dk_at dksL_law_34 18 rfl rfl)
theorem dL_law_944 : decode cL_law 944 = .ok (.if_icmp .eq 364, 3) := dk_159 1 108 (dk_at dksL_law_34 21 rfl rfl)
theorem dL_law_947 : decode cL_law 947 = .ok (.iconst 0, 1) := dk_3 (dk_at dksL_law_35 0 rfl rfl)
theorem dL_law_948 : decode cL_law 948 = .ok (.ireturn, 1) := dk_172 (dk_at dksL_law_35 1 rfl rfl)
theorem dL_law_949 : decode cL_law 949 = .ok (.aload_n 1, 1) := dk_43 (dk_at dksL_law_35 2 rfl rfl)
theorem dL_law_950 : decode cL_law 950 = .ok (.invokevirtual 126, 3) := dk_182 0 126 (dk_at dksL_law_35 3 rfl rfl)
theorem dL_law_953 : decode cL_law 953 = .ok (.aload_n 2, 1) := dk_44 (dk_at dksL_law_35 6 rfl rfl)
theorem dL_law_954 : decode cL_law 954 = .ok (.invokevirtual 130, 3) := dk_182 0 130 (dk_at dksL_law_35 7 rfl rfl)
theorem dL_law_957 : decode cL_law 957 = .ok (.lcmp, 1) := dk_148 (dk_at dksL_law_35 10 rfl rfl)
theorem dL_law_958 : decode cL_law 958 = .ok (.ifCond .eq 350, 3) := dk_153 1 94 (dk_at dksL_law_35 11 rfl rfl)
theorem dL_law_961 : decode cL_law 961 = .ok (.iconst 0, 1) := dk_3 (dk_at dksL_law_35 14 rfl rfl)
theorem dL_law_962 : decode cL_law 962 = .ok (.ireturn, 1) := dk_172 (dk_at dksL_law_35 15 rfl rfl)
theorem dL_law_963 : decode cL_law 963 = .ok (.aload_n 1, 1) := dk_43 (dk_at dksL_law_35 16 rfl rfl)
theorem dL_law_964 : decode cL_law 964 = .ok (.aload_n 0, 1) := dk_42 (dk_at dksL_law_35 17 rfl rfl)
theorem dL_law_965 : decode cL_law 965 = .ok (.iload_n 3, 1) := dk_29 (dk_at dksL_law_35 18 rfl rfl)
theorem dL_law_966 : decode cL_law 966 = .ok (.iconst 1, 1) := dk_4 (dk_at dksL_law_35 19 rfl rfl)
theorem dL_law_967 : decode cL_law 967 = .ok (.iadd, 1) := dk_96 (dk_at dksL_law_35 20 rfl rfl)
theorem dL_law_968 : decode cL_law 968 = .ok (.iaload, 1) := dk_46 (dk_at dksL_law_35 21 rfl rfl)
theorem dL_law_969 : decode cL_law 969 = .ok (.aload_n 0, 1) := dk_42 (dk_at dksL_law_35 22 rfl rfl)
theorem dL_law_970 : decode cL_law 970 = .ok (.iload_n 3, 1) := dk_29 (dk_at dksL_law_35 23 rfl rfl)
theorem dL_law_971 : decode cL_law 971 = .ok (.iconst 2, 1) := dk_5 (dk_at dksL_law_36 0 rfl rfl)
theorem dL_law_972 : decode cL_law 972 = .ok (.iadd, 1) := dk_96 (dk_at dksL_law_36 1 rfl rfl)
theorem dL_law_973 : decode cL_law 973 = .ok (.iaload, 1) := dk_46 (dk_at dksL_law_36 2 rfl rfl)
theorem dL_law_974 : decode cL_law 974 = .ok (.aload_n 0, 1) := dk_42 (dk_at dksL_law_36 3 rfl rfl)
theorem dL_law_975 : decode cL_law 975 = .ok (.iload_n 3, 1) := dk_29 (dk_at dksL_law_36 4 rfl rfl)
theorem dL_law_976 : decode cL_law 976 = .ok (.iconst 3, 1) := dk_6 (dk_at dksL_law_36 5 rfl rfl)
theorem dL_law_977 : decode cL_law 977 = .ok (.iadd, 1) := dk_96 (dk_at dksL_law_36 6 rfl rfl)
theorem dL_law_978 : decode cL_law 978 = .ok (.iaload, 1) := dk_46 (dk_at dksL_law_36 7 rfl rfl)
theorem dL_law_979 : decode cL_law 979 = .ok (.invokevirtual 131, 3) := dk_182 0 131 (dk_at dksL_law_36 8 rfl rfl)
theorem dL_law_982 : decode cL_law 982 = .ok (.aload_n 2, 1) := dk_44 (dk_at dksL_law_36 11 rfl rfl)
theorem dL_law_983 : decode cL_law 983 = .ok (.aload_n 0, 1) := dk_42 (dk_at dksL_law_36 12 rfl rfl)
theorem dL_law_984 : decode cL_law 984 = .ok (.iload_n 3, 1) := dk_29 (dk_at dksL_law_36 13 rfl rfl)
theorem dL_law_985 : decode cL_law 985 = .ok (.iconst 1, 1) := dk_4 (dk_at dksL_law_36 14 rfl rfl)
theorem dL_law_986 : decode cL_law 986 = .ok (.iadd, 1) := dk_96 (dk_at dksL_law_36 15 rfl rfl)
theorem dL_law_987 : decode cL_law 987 = .ok (.iaload, 1) := dk_46 (dk_at dksL_law_36 16 rfl rfl)
theorem dL_law_988 : decode cL_law 988 = .ok (.aload_n 0, 1) := dk_42 (dk_at dksL_law_36 17 rfl rfl)
theorem dL_law_989 : decode cL_law 989 = .ok (.iload_n 3, 1) := dk_29 (dk_at dksL_law_36 18 rfl rfl)
theorem dL_law_990 : decode cL_law 990 = .ok (.iconst 2, 1) := dk_5 (dk_at dksL_law_36 19 rfl rfl)
theorem dL_law_991 : decode cL_law 991 = .ok (.iadd, 1) := dk_96 (dk_at dksL_law_36 20 rfl rfl)
theorem dL_law_992 : decode cL_law 992 = .ok (.iaload, 1) := dk_46 (dk_at dksL_law_36 21 rfl rfl)
theorem dL_law_993 : decode cL_law 993 = .ok (.aload_n 0, 1) := dk_42 (dk_at dksL_law_36 22 rfl rfl)
theorem dL_law_994 : decode cL_law 994 = .ok (.iload_n 3, 1) := dk_29 (dk_at dksL_law_36 23 rfl rfl)
theorem dL_law_995 : decode cL_law 995 = .ok (.iconst 3, 1) := dk_6 (dk_at dksL_law_37 0 rfl rfl)
theorem dL_law_996 : decode cL_law 996 = .ok (.iadd, 1) := dk_96 (dk_at dksL_law_37 1 rfl rfl)
theorem dL_law_997 : decode cL_law 997 = .ok (.iaload, 1) := dk_46 (dk_at dksL_law_37 2 rfl rfl)
theorem dL_law_998 : decode cL_law 998 = .ok (.invokevirtual 135, 3) := dk_182 0 135 (dk_at dksL_law_37 3 rfl rfl)
theorem dL_law_1001 : decode cL_law 1001 = .ok (.if_icmp .eq 307, 3) := dk_159 1 51 (dk_at dksL_law_37 6 rfl rfl)
theorem dL_law_1004 : decode cL_law 1004 = .ok (.iconst 0, 1) := dk_3 (dk_at dksL_law_37 9 rfl rfl)
theorem dL_law_1005 : decode cL_law 1005 = .ok (.ireturn, 1) := dk_172 (dk_at dksL_law_37 10 rfl rfl)
theorem dL_law_1006 : decode cL_law 1006 = .ok (.aload_n 1, 1) := dk_43 (dk_at dksL_law_37 11 rfl rfl)
theorem dL_law_1007 : decode cL_law 1007 = .ok (.aload_n 0, 1) := dk_42 (dk_at dksL_law_37 12 rfl rfl)
theorem dL_law_1008 : decode cL_law 1008 = .ok (.iload_n 3, 1) := dk_29 (dk_at dksL_law_37 13 rfl rfl)
theorem dL_law_1009 : decode cL_law 1009 = .ok (.iconst 1, 1) := dk_4 (dk_at dksL_law_37 14 rfl rfl)
theorem dL_law_1010 : decode cL_law 1010 = .ok (.iadd, 1) := dk_96 (dk_at dksL_law_37 15 rfl rfl)
theorem dL_law_1011 : decode cL_law 1011 = .ok (.iaload, 1) := dk_46 (dk_at dksL_law_37 16 rfl rfl)
theorem dL_law_1012 : decode cL_law 1012 = .ok (.aload_n 0, 1) := dk_42 (dk_at dksL_law_37 17 rfl rfl)
theorem dL_law_1013 : decode cL_law 1013 = .ok (.iload_n 3, 1) := dk_29 (dk_at dksL_law_37 18 rfl rfl)
theorem dL_law_1014 : decode cL_law 1014 = .ok (.iconst 2, 1) := dk_5 (dk_at dksL_law_37 19 rfl rfl)
theorem dL_law_1015 : decode cL_law 1015 = .ok (.iadd, 1) := dk_96 (dk_at dksL_law_37 20 rfl rfl)
theorem dL_law_1016 : decode cL_law 1016 = .ok (.iaload, 1) := dk_46 (dk_at dksL_law_37 21 rfl rfl)
theorem dL_law_1017 : decode cL_law 1017 = .ok (.invokevirtual 136, 3) := dk_182 0 136 (dk_at dksL_law_38 0 rfl rfl)
theorem dL_law_1020 : decode cL_law 1020 = .ok (.aload_n 2, 1) := dk_44 (dk_at dksL_law_38 3 rfl rfl)
theorem dL_law_1021 : decode cL_law 1021 = .ok (.aload_n 0, 1) := dk_42 (dk_at dksL_law_38 4 rfl rfl)
theorem dL_law_1022 : decode cL_law 1022 = .ok (.iload_n 3, 1) := dk_29 (dk_at dksL_law_38 5 rfl rfl)
theorem dL_law_1023 : decode cL_law 1023 = .ok (.iconst 1, 1) := dk_4 (dk_at dksL_law_38 6 rfl rfl)
theorem dL_law_1024 : decode cL_law 1024 = .ok (.iadd, 1) := dk_96 (dk_at dksL_law_38 7 rfl rfl)
theorem dL_law_1025 : decode cL_law 1025 = .ok (.iaload, 1) := dk_46 (dk_at dksL_law_38 8 rfl rfl)
theorem dL_law_1026 : decode cL_law 1026 = .ok (.aload_n 0, 1) := dk_42 (dk_at dksL_law_38 9 rfl rfl)
theorem dL_law_1027 : decode cL_law 1027 = .ok (.iload_n 3, 1) := dk_29 (dk_at dksL_law_38 10 rfl rfl)
theorem dL_law_1028 : decode cL_law 1028 = .ok (.iconst 2, 1) := dk_5 (dk_at dksL_law_38 11 rfl rfl)
theorem dL_law_1029 : decode cL_law 1029 = .ok (.iadd, 1) := dk_96 (dk_at dksL_law_38 12 rfl rfl)
theorem dL_law_1030 : decode cL_law 1030 = .ok (.iaload, 1) := dk_46 (dk_at dksL_law_38 13 rfl rfl)
theorem dL_law_1031 : decode cL_law 1031 = .ok (.invokevirtual 139, 3) := dk_182 0 139 (dk_at dksL_law_38 14 rfl rfl)
theorem dL_law_1034 : decode cL_law 1034 = .ok (.if_icmp .eq 274, 3) := dk_159 1 18 (dk_at dksL_law_38 17 rfl rfl)
theorem dL_law_1037 : decode cL_law 1037 = .ok (.iconst 0, 1) := dk_3 (dk_at dksL_law_38 20 rfl rfl)
theorem dL_law_1038 : decode cL_law 1038 = .ok (.ireturn, 1) := dk_172 (dk_at dksL_law_38 21 rfl rfl)
theorem dL_law_1039 : decode cL_law 1039 = .ok (.aload_n 1, 1) := dk_43 (dk_at dksL_law_38 22 rfl rfl)
theorem dL_law_1040 : decode cL_law 1040 = .ok (.aload_n 0, 1) := dk_42 (dk_at dksL_law_38 23 rfl rfl)
theorem dL_law_1041 : decode cL_law 1041 = .ok (.iload_n 3, 1) := dk_29 (dk_at dksL_law_39 0 rfl rfl)
theorem dL_law_1042 : decode cL_law 1042 = .ok (.iconst 1, 1) := dk_4 (dk_at dksL_law_39 1 rfl rfl)
theorem dL_law_1043 : decode cL_law 1043 = .ok (.iadd, 1) := dk_96 (dk_at dksL_law_39 2 rfl rfl)
theorem dL_law_1044 : decode cL_law 1044 = .ok (.iaload, 1) := dk_46 (dk_at dksL_law_39 3 rfl rfl)
theorem dL_law_1045 : decode cL_law 1045 = .ok (.aload_n 0, 1) := dk_42 (dk_at dksL_law_39 4 rfl rfl)
theorem dL_law_1046 : decode cL_law 1046 = .ok (.iload_n 3, 1) := dk_29 (dk_at dksL_law_39 5 rfl rfl)
theorem dL_law_1047 : decode cL_law 1047 = .ok (.iconst 2, 1) := dk_5 (dk_at dksL_law_39 6 rfl rfl)
theorem dL_law_1048 : decode cL_law 1048 = .ok (.iadd, 1) := dk_96 (dk_at dksL_law_39 7 rfl rfl)
theorem dL_law_1049 : decode cL_law 1049 = .ok (.iaload, 1) := dk_46 (dk_at dksL_law_39 8 rfl rfl)
theorem dL_law_1050 : decode cL_law 1050 = .ok (.invokevirtual 140, 3) := dk_182 0 140 (dk_at dksL_law_39 9 rfl rfl)
theorem dL_law_1053 : decode cL_law 1053 = .ok (.aload_n 2, 1) := dk_44 (dk_at dksL_law_39 12 rfl rfl)
theorem dL_law_1054 : decode cL_law 1054 = .ok (.aload_n 0, 1) := dk_42 (dk_at dksL_law_39 13 rfl rfl)
theorem dL_law_1055 : decode cL_law 1055 = .ok (.iload_n 3, 1) := dk_29 (dk_at dksL_law_39 14 rfl rfl)
theorem dL_law_1056 : decode cL_law 1056 = .ok (.iconst 1, 1) := dk_4 (dk_at dksL_law_39 15 rfl rfl)
theorem dL_law_1057 : decode cL_law 1057 = .ok (.iadd, 1) := dk_96 (dk_at dksL_law_39 16 rfl rfl)
theorem dL_law_1058 : decode cL_law 1058 = .ok (.iaload, 1) := dk_46 (dk_at dksL_law_39 17 rfl rfl)
theorem dL_law_1059 : decode cL_law 1059 = .ok (.aload_n 0, 1) := dk_42 (dk_at dksL_law_39 18 rfl rfl)
theorem dL_law_1060 : decode cL_law 1060 = .ok (.iload_n 3, 1) := dk_29 (dk_at dksL_law_39 19 rfl rfl)
theorem dL_law_1061 : decode cL_law 1061 = .ok (.iconst 2, 1) := dk_5 (dk_at dksL_law_39 20 rfl rfl)
theorem dL_law_1062 : decode cL_law 1062 = .ok (.iadd, 1) := dk_96 (dk_at dksL_law_39 21 rfl rfl)
theorem dL_law_1063 : decode cL_law 1063 = .ok (.iaload, 1) := dk_46 (dk_at dksL_law_39 22 rfl rfl)
theorem dL_law_1064 : decode cL_law 1064 = .ok (.invokevirtual 143, 3) := dk_182 0 143 (dk_at dksL_law_40 0 rfl rfl)
theorem dL_law_1067 : decode cL_law 1067 = .ok (.if_icmp .eq 241, 3) := dk_159 0 241 (dk_at dksL_law_40 3 rfl rfl)
theorem dL_law_1070 : decode cL_law 1070 = .ok (.iconst 0, 1) := dk_3 (dk_at dksL_law_40 6 rfl rfl)
theorem dL_law_1071 : decode cL_law 1071 = .ok (.ireturn, 1) := dk_172 (dk_at dksL_law_40 7 rfl rfl)
theorem dL_law_1072 : decode cL_law 1072 = .ok (.aload_n 1, 1) := dk_43 (dk_at dksL_law_40 8 rfl rfl)
theorem dL_law_1073 : decode cL_law 1073 = .ok (.aload_n 0, 1) := dk_42 (dk_at dksL_law_40 9 rfl rfl)
theorem dL_law_1074 : decode cL_law 1074 = .ok (.iload_n 3, 1) := dk_29 (dk_at dksL_law_40 10 rfl rfl)
theorem dL_law_1075 : decode cL_law 1075 = .ok (.iconst 1, 1) := dk_4 (dk_at dksL_law_40 11 rfl rfl)
theorem dL_law_1076 : decode cL_law 1076 = .ok (.iadd, 1) := dk_96 (dk_at dksL_law_40 12 rfl rfl)
theorem dL_law_1077 : decode cL_law 1077 = .ok (.iaload, 1) := dk_46 (dk_at dksL_law_40 13 rfl rfl)
theorem dL_law_1078 : decode cL_law 1078 = .ok (.aload_n 0, 1) := dk_42 (dk_at dksL_law_40 14 rfl rfl)
theorem dL_law_1079 : decode cL_law 1079 = .ok (.iload_n 3, 1) := dk_29 (dk_at dksL_law_40 15 rfl rfl)
theorem dL_law_1080 : decode cL_law 1080 = .ok (.iconst 2, 1) := dk_5 (dk_at dksL_law_40 16 rfl rfl)
theorem dL_law_1081 : decode cL_law 1081 = .ok (.iadd, 1) := dk_96 (dk_at dksL_law_40 17 rfl rfl)
theorem dL_law_1082 : decode cL_law 1082 = .ok (.iaload, 1) := dk_46 (dk_at dksL_law_40 18 rfl rfl)
theorem dL_law_1083 : decode cL_law 1083 = .ok (.aload_n 0, 1) := dk_42 (dk_at dksL_law_40 19 rfl rfl)
theorem dL_law_1084 : decode cL_law 1084 = .ok (.iload_n 3, 1) := dk_29 (dk_at dksL_law_40 20 rfl rfl)
theorem dL_law_1085 : decode cL_law 1085 = .ok (.iconst 3, 1) := dk_6 (dk_at dksL_law_40 21 rfl rfl)
theorem dL_law_1086 : decode cL_law 1086 = .ok (.iadd, 1) := dk_96 (dk_at dksL_law_40 22 rfl rfl)
theorem dL_law_1087 : decode cL_law 1087 = .ok (.iaload, 1) := dk_46 (dk_at dksL_law_40 23 rfl rfl)
theorem dL_law_1088 : decode cL_law 1088 = .ok (.aload_n 0, 1) := dk_42 (dk_at dksL_law_41 0 rfl rfl)
theorem dL_law_1089 : decode cL_law 1089 = .ok (.iload_n 3, 1) := dk_29 (dk_at dksL_law_41 1 rfl rfl)
theorem dL_law_1090 : decode cL_law 1090 = .ok (.iconst 4, 1) := dk_7 (dk_at dksL_law_41 2 rfl rfl)
theorem dL_law_1091 : decode cL_law 1091 = .ok (.iadd, 1) := dk_96 (dk_at dksL_law_41 3 rfl rfl)
theorem dL_law_1092 : decode cL_law 1092 = .ok (.iaload, 1) := dk_46 (dk_at dksL_law_41 4 rfl rfl)
theorem dL_law_1093 : decode cL_law 1093 = .ok (.i2l, 1) := dk_133 (dk_at dksL_law_41 5 rfl rfl)
theorem dL_law_1094 : decode cL_law 1094 = .ok (.bipush 32, 2) := dk_16 32 (dk_at dksL_law_41 6 rfl rfl)
theorem dL_law_1096 : decode cL_law 1096 = .ok (.lshl, 1) := dk_121 (dk_at dksL_law_41 8 rfl rfl)
theorem dL_law_1097 : decode cL_law 1097 = .ok (.aload_n 0, 1) := dk_42 (dk_at dksL_law_41 9 rfl rfl)
theorem dL_law_1098 : decode cL_law 1098 = .ok (.iload_n 3, 1) := dk_29 (dk_at dksL_law_41 10 rfl rfl)
theorem dL_law_1099 : decode cL_law 1099 = .ok (.iconst 5, 1) := dk_8 (dk_at dksL_law_41 11 rfl rfl)
theorem dL_law_1100 : decode cL_law 1100 = .ok (.iadd, 1) := dk_96 (dk_at dksL_law_41 12 rfl rfl)
theorem dL_law_1101 : decode cL_law 1101 = .ok (.iaload, 1) := dk_46 (dk_at dksL_law_41 13 rfl rfl)
theorem dL_law_1102 : decode cL_law 1102 = .ok (.i2l, 1) := dk_133 (dk_at dksL_law_41 14 rfl rfl)
theorem dL_law_1103 : decode cL_law 1103 = .ok (.ldc2_w 13, 3) := dk_20 0 13 (dk_at dksL_law_41 15 rfl rfl)
theorem dL_law_1106 : decode cL_law 1106 = .ok (.land, 1) := dk_127 (dk_at dksL_law_41 18 rfl rfl)
theorem dL_law_1107 : decode cL_law 1107 = .ok (.lor, 1) := dk_129 (dk_at dksL_law_41 19 rfl rfl)
theorem dL_law_1108 : decode cL_law 1108 = .ok (.invokevirtual 144, 3) := dk_182 0 144 (dk_at dksL_law_41 20 rfl rfl)
theorem dL_law_1111 : decode cL_law 1111 = .ok (.aload_n 2, 1) := dk_44 (dk_at dksL_law_41 23 rfl rfl)
theorem dL_law_1112 : decode cL_law 1112 = .ok (.aload_n 0, 1) := dk_42 (dk_at dksL_law_42 0 rfl rfl)
theorem dL_law_1113 : decode cL_law 1113 = .ok (.iload_n 3, 1) := dk_29 (dk_at dksL_law_42 1 rfl rfl)
theorem dL_law_1114 : decode cL_law 1114 = .ok (.iconst 1, 1) := dk_4 (dk_at dksL_law_42 2 rfl rfl)
theorem dL_law_1115 : decode cL_law 1115 = .ok (.iadd, 1) := dk_96 (dk_at dksL_law_42 3 rfl rfl)
theorem dL_law_1116 : decode cL_law 1116 = .ok (.iaload, 1) := dk_46 (dk_at dksL_law_42 4 rfl rfl)
theorem dL_law_1117 : decode cL_law 1117 = .ok (.aload_n 0, 1) := dk_42 (dk_at dksL_law_42 5 rfl rfl)
theorem dL_law_1118 : decode cL_law 1118 = .ok (.iload_n 3, 1) := dk_29 (dk_at dksL_law_42 6 rfl rfl)
theorem dL_law_1119 : decode cL_law 1119 = .ok (.iconst 2, 1) := dk_5 (dk_at dksL_law_42 7 rfl rfl)
theorem dL_law_1120 : decode cL_law 1120 = .ok (.iadd, 1) := dk_96 (dk_at dksL_law_42 8 rfl rfl)
theorem dL_law_1121 : decode cL_law 1121 = .ok (.iaload, 1) := dk_46 (dk_at dksL_law_42 9 rfl rfl)
theorem dL_law_1122 : decode cL_law 1122 = .ok (.aload_n 0, 1) := dk_42 (dk_at dksL_law_42 10 rfl rfl)
theorem dL_law_1123 : decode cL_law 1123 = .ok (.iload_n 3, 1) := dk_29 (dk_at dksL_law_42 11 rfl rfl)
theorem dL_law_1124 : decode cL_law 1124 = .ok (.iconst 3, 1) := dk_6 (dk_at dksL_law_42 12 rfl rfl)
theorem dL_law_1125 : decode cL_law 1125 = .ok (.iadd, 1) := dk_96 (dk_at dksL_law_42 13 rfl rfl)
theorem dL_law_1126 : decode cL_law 1126 = .ok (.iaload, 1) := dk_46 (dk_at dksL_law_42 14 rfl rfl)
theorem dL_law_1127 : decode cL_law 1127 = .ok (.aload_n 0, 1) := dk_42 (dk_at dksL_law_42 15 rfl rfl)
theorem dL_law_1128 : decode cL_law 1128 = .ok (.iload_n 3, 1) := dk_29 (dk_at dksL_law_42 16 rfl rfl)
theorem dL_law_1129 : decode cL_law 1129 = .ok (.iconst 4, 1) := dk_7 (dk_at dksL_law_42 17 rfl rfl)
theorem dL_law_1130 : decode cL_law 1130 = .ok (.iadd, 1) := dk_96 (dk_at dksL_law_42 18 rfl rfl)
theorem dL_law_1131 : decode cL_law 1131 = .ok (.iaload, 1) := dk_46 (dk_at dksL_law_42 19 rfl rfl)
theorem dL_law_1132 : decode cL_law 1132 = .ok (.i2l, 1) := dk_133 (dk_at dksL_law_42 20 rfl rfl)
theorem dL_law_1133 : decode cL_law 1133 = .ok (.bipush 32, 2) := dk_16 32 (dk_at dksL_law_42 21 rfl rfl)
theorem dL_law_1135 : decode cL_law 1135 = .ok (.lshl, 1) := dk_121 (dk_at dksL_law_42 23 rfl rfl)
theorem dL_law_1136 : decode cL_law 1136 = .ok (.aload_n 0, 1) := dk_42 (dk_at dksL_law_43 0 rfl rfl)
theorem dL_law_1137 : decode cL_law 1137 = .ok (.iload_n 3, 1) := dk_29 (dk_at dksL_law_43 1 rfl rfl)
theorem dL_law_1138 : decode cL_law 1138 = .ok (.iconst 5, 1) := dk_8 (dk_at dksL_law_43 2 rfl rfl)
theorem dL_law_1139 : decode cL_law 1139 = .ok (.iadd, 1) := dk_96 (dk_at dksL_law_43 3 rfl rfl)
theorem dL_law_1140 : decode cL_law 1140 = .ok (.iaload, 1) := dk_46 (dk_at dksL_law_43 4 rfl rfl)
theorem dL_law_1141 : decode cL_law 1141 = .ok (.i2l, 1) := dk_133 (dk_at dksL_law_43 5 rfl rfl)
theorem dL_law_1142 : decode cL_law 1142 = .ok (.ldc2_w 13, 3) := dk_20 0 13 (dk_at dksL_law_43 6 rfl rfl)
theorem dL_law_1145 : decode cL_law 1145 = .ok (.land, 1) := dk_127 (dk_at dksL_law_43 9 rfl rfl)
theorem dL_law_1146 : decode cL_law 1146 = .ok (.lor, 1) := dk_129 (dk_at dksL_law_43 10 rfl rfl)
theorem dL_law_1147 : decode cL_law 1147 = .ok (.invokevirtual 148, 3) := dk_182 0 148 (dk_at dksL_law_43 11 rfl rfl)
theorem dL_law_1150 : decode cL_law 1150 = .ok (.if_icmp .eq 158, 3) := dk_159 0 158 (dk_at dksL_law_43 14 rfl rfl)
theorem dL_law_1153 : decode cL_law 1153 = .ok (.iconst 0, 1) := dk_3 (dk_at dksL_law_43 17 rfl rfl)
theorem dL_law_1154 : decode cL_law 1154 = .ok (.ireturn, 1) := dk_172 (dk_at dksL_law_43 18 rfl rfl)
theorem dL_law_1155 : decode cL_law 1155 = .ok (.aload_n 1, 1) := dk_43 (dk_at dksL_law_43 19 rfl rfl)
theorem dL_law_1156 : decode cL_law 1156 = .ok (.aload_n 0, 1) := dk_42 (dk_at dksL_law_43 20 rfl rfl)
theorem dL_law_1157 : decode cL_law 1157 = .ok (.iload_n 3, 1) := dk_29 (dk_at dksL_law_43 21 rfl rfl)
theorem dL_law_1158 : decode cL_law 1158 = .ok (.iconst 1, 1) := dk_4 (dk_at dksL_law_43 22 rfl rfl)
theorem dL_law_1159 : decode cL_law 1159 = .ok (.iadd, 1) := dk_96 (dk_at dksL_law_43 23 rfl rfl)
theorem dL_law_1160 : decode cL_law 1160 = .ok (.iaload, 1) := dk_46 (dk_at dksL_law_44 0 rfl rfl)
theorem dL_law_1161 : decode cL_law 1161 = .ok (.aload_n 0, 1) := dk_42 (dk_at dksL_law_44 1 rfl rfl)
theorem dL_law_1162 : decode cL_law 1162 = .ok (.iload_n 3, 1) := dk_29 (dk_at dksL_law_44 2 rfl rfl)
theorem dL_law_1163 : decode cL_law 1163 = .ok (.iconst 2, 1) := dk_5 (dk_at dksL_law_44 3 rfl rfl)
theorem dL_law_1164 : decode cL_law 1164 = .ok (.iadd, 1) := dk_96 (dk_at dksL_law_44 4 rfl rfl)
theorem dL_law_1165 : decode cL_law 1165 = .ok (.iaload, 1) := dk_46 (dk_at dksL_law_44 5 rfl rfl)
theorem dL_law_1166 : decode cL_law 1166 = .ok (.aload_n 0, 1) := dk_42 (dk_at dksL_law_44 6 rfl rfl)
theorem dL_law_1167 : decode cL_law 1167 = .ok (.iload_n 3, 1) := dk_29 (dk_at dksL_law_44 7 rfl rfl)
theorem dL_law_1168 : decode cL_law 1168 = .ok (.iconst 3, 1) := dk_6 (dk_at dksL_law_44 8 rfl rfl)
theorem dL_law_1169 : decode cL_law 1169 = .ok (.iadd, 1) := dk_96 (dk_at dksL_law_44 9 rfl rfl)
theorem dL_law_1170 : decode cL_law 1170 = .ok (.iaload, 1) := dk_46 (dk_at dksL_law_44 10 rfl rfl)
theorem dL_law_1171 : decode cL_law 1171 = .ok (.invokevirtual 149, 3) := dk_182 0 149 (dk_at dksL_law_44 11 rfl rfl)
theorem dL_law_1174 : decode cL_law 1174 = .ok (.aload_n 2, 1) := dk_44 (dk_at dksL_law_44 14 rfl rfl)
theorem dL_law_1175 : decode cL_law 1175 = .ok (.aload_n 0, 1) := dk_42 (dk_at dksL_law_44 15 rfl rfl)
theorem dL_law_1176 : decode cL_law 1176 = .ok (.iload_n 3, 1) := dk_29 (dk_at dksL_law_44 16 rfl rfl)
theorem dL_law_1177 : decode cL_law 1177 = .ok (.iconst 1, 1) := dk_4 (dk_at dksL_law_44 17 rfl rfl)
theorem dL_law_1178 : decode cL_law 1178 = .ok (.iadd, 1) := dk_96 (dk_at dksL_law_44 18 rfl rfl)
theorem dL_law_1179 : decode cL_law 1179 = .ok (.iaload, 1) := dk_46 (dk_at dksL_law_44 19 rfl rfl)
theorem dL_law_1180 : decode cL_law 1180 = .ok (.aload_n 0, 1) := dk_42 (dk_at dksL_law_44 20 rfl rfl)
theorem dL_law_1181 : decode cL_law 1181 = .ok (.iload_n 3, 1) := dk_29 (dk_at dksL_law_44 21 rfl rfl)
theorem dL_law_1182 : decode cL_law 1182 = .ok (.iconst 2, 1) := dk_5 (dk_at dksL_law_44 22 rfl rfl)
theorem dL_law_1183 : decode cL_law 1183 = .ok (.iadd, 1) := dk_96 (dk_at dksL_law_44 23 rfl rfl)
theorem dL_law_1184 : decode cL_law 1184 = .ok (.iaload, 1) := dk_46 (dk_at dksL_law_45 0 rfl rfl)
theorem dL_law_1185 : decode cL_law 1185 = .ok (.aload_n 0, 1) := dk_42 (dk_at dksL_law_45 1 rfl rfl)
theorem dL_law_1186 : decode cL_law 1186 = .ok (.iload_n 3, 1) := dk_29 (dk_at dksL_law_45 2 rfl rfl)
theorem dL_law_1187 : decode cL_law 1187 = .ok (.iconst 3, 1) := dk_6 (dk_at dksL_law_45 3 rfl rfl)
theorem dL_law_1188 : decode cL_law 1188 = .ok (.iadd, 1) := dk_96 (dk_at dksL_law_45 4 rfl rfl)
theorem dL_law_1189 : decode cL_law 1189 = .ok (.iaload, 1) := dk_46 (dk_at dksL_law_45 5 rfl rfl)
theorem dL_law_1190 : decode cL_law 1190 = .ok (.invokevirtual 153, 3) := dk_182 0 153 (dk_at dksL_law_45 6 rfl rfl)
theorem dL_law_1193 : decode cL_law 1193 = .ok (.lcmp, 1) := dk_148 (dk_at dksL_law_45 9 rfl rfl)
theorem dL_law_1194 : decode cL_law 1194 = .ok (.ifCond .eq 114, 3) := dk_153 0 114 (dk_at dksL_law_45 10 rfl rfl)
theorem dL_law_1197 : decode cL_law 1197 = .ok (.iconst 0, 1) := dk_3 (dk_at dksL_law_45 13 rfl rfl)
theorem dL_law_1198 : decode cL_law 1198 = .ok (.ireturn, 1) := dk_172 (dk_at dksL_law_45 14 rfl rfl)
theorem dL_law_1199 : decode cL_law 1199 = .ok (.aload_n 1, 1) := dk_43 (dk_at dksL_law_45 15 rfl rfl)
theorem dL_law_1200 : decode cL_law 1200 = .ok (.invokevirtual 154, 3) := dk_182 0 154 (dk_at dksL_law_45 16 rfl rfl)
theorem dL_law_1203 : decode cL_law 1203 = .ok (.aload_n 2, 1) := dk_44 (dk_at dksL_law_45 19 rfl rfl)
theorem dL_law_1204 : decode cL_law 1204 = .ok (.invokevirtual 157, 3) := dk_182 0 157 (dk_at dksL_law_45 20 rfl rfl)
theorem dL_law_1207 : decode cL_law 1207 = .ok (.if_icmp .eq 101, 3) := dk_159 0 101 (dk_at dksL_law_46 0 rfl rfl)
theorem dL_law_1210 : decode cL_law 1210 = .ok (.iconst 0, 1) := dk_3 (dk_at dksL_law_46 3 rfl rfl)
theorem dL_law_1211 : decode cL_law 1211 = .ok (.ireturn, 1) := dk_172 (dk_at dksL_law_46 4 rfl rfl)
theorem dL_law_1212 : decode cL_law 1212 = .ok (.aload_n 1, 1) := dk_43 (dk_at dksL_law_46 5 rfl rfl)
theorem dL_law_1213 : decode cL_law 1213 = .ok (.aload_n 0, 1) := dk_42 (dk_at dksL_law_46 6 rfl rfl)
theorem dL_law_1214 : decode cL_law 1214 = .ok (.iload_n 3, 1) := dk_29 (dk_at dksL_law_46 7 rfl rfl)
theorem dL_law_1215 : decode cL_law 1215 = .ok (.iconst 1, 1) := dk_4 (dk_at dksL_law_46 8 rfl rfl)
theorem dL_law_1216 : decode cL_law 1216 = .ok (.iadd, 1) := dk_96 (dk_at dksL_law_46 9 rfl rfl)
theorem dL_law_1217 : decode cL_law 1217 = .ok (.iaload, 1) := dk_46 (dk_at dksL_law_46 10 rfl rfl)
theorem dL_law_1218 : decode cL_law 1218 = .ok (.aload_n 0, 1) := dk_42 (dk_at dksL_law_46 11 rfl rfl)
theorem dL_law_1219 : decode cL_law 1219 = .ok (.iload_n 3, 1) := dk_29 (dk_at dksL_law_46 12 rfl rfl)
theorem dL_law_1220 : decode cL_law 1220 = .ok (.iconst 2, 1) := dk_5 (dk_at dksL_law_46 13 rfl rfl)
theorem dL_law_1221 : decode cL_law 1221 = .ok (.iadd, 1) := dk_96 (dk_at dksL_law_46 14 rfl rfl)
theorem dL_law_1222 : decode cL_law 1222 = .ok (.iaload, 1) := dk_46 (dk_at dksL_law_46 15 rfl rfl)
theorem dL_law_1223 : decode cL_law 1223 = .ok (.aload_n 0, 1) := dk_42 (dk_at dksL_law_46 16 rfl rfl)
theorem dL_law_1224 : decode cL_law 1224 = .ok (.iload_n 3, 1) := dk_29 (dk_at dksL_law_46 17 rfl rfl)
theorem dL_law_1225 : decode cL_law 1225 = .ok (.iconst 3, 1) := dk_6 (dk_at dksL_law_46 18 rfl rfl)
theorem dL_law_1226 : decode cL_law 1226 = .ok (.iadd, 1) := dk_96 (dk_at dksL_law_46 19 rfl rfl)
theorem dL_law_1227 : decode cL_law 1227 = .ok (.iaload, 1) := dk_46 (dk_at dksL_law_46 20 rfl rfl)
theorem dL_law_1228 : decode cL_law 1228 = .ok (.aload_n 0, 1) := dk_42 (dk_at dksL_law_46 21 rfl rfl)
theorem dL_law_1229 : decode cL_law 1229 = .ok (.iload_n 3, 1) := dk_29 (dk_at dksL_law_46 22 rfl rfl)
theorem dL_law_1230 : decode cL_law 1230 = .ok (.iconst 4, 1) := dk_7 (dk_at dksL_law_46 23 rfl rfl)
theorem dL_law_1231 : decode cL_law 1231 = .ok (.iadd, 1) := dk_96 (dk_at dksL_law_47 0 rfl rfl)
theorem dL_law_1232 : decode cL_law 1232 = .ok (.iaload, 1) := dk_46 (dk_at dksL_law_47 1 rfl rfl)
theorem dL_law_1233 : decode cL_law 1233 = .ok (.aload_n 0, 1) := dk_42 (dk_at dksL_law_47 2 rfl rfl)
theorem dL_law_1234 : decode cL_law 1234 = .ok (.iload_n 3, 1) := dk_29 (dk_at dksL_law_47 3 rfl rfl)
theorem dL_law_1235 : decode cL_law 1235 = .ok (.iconst 5, 1) := dk_8 (dk_at dksL_law_47 4 rfl rfl)
theorem dL_law_1236 : decode cL_law 1236 = .ok (.iadd, 1) := dk_96 (dk_at dksL_law_47 5 rfl rfl)
theorem dL_law_1237 : decode cL_law 1237 = .ok (.iaload, 1) := dk_46 (dk_at dksL_law_47 6 rfl rfl)
theorem dL_law_1238 : decode cL_law 1238 = .ok (.invokevirtual 158, 3) := dk_182 0 158 (dk_at dksL_law_47 7 rfl rfl)
theorem dL_law_1241 : decode cL_law 1241 = .ok (.aload_n 2, 1) := dk_44 (dk_at dksL_law_47 10 rfl rfl)
theorem dL_law_1242 : decode cL_law 1242 = .ok (.aload_n 0, 1) := dk_42 (dk_at dksL_law_47 11 rfl rfl)
theorem dL_law_1243 : decode cL_law 1243 = .ok (.iload_n 3, 1) := dk_29 (dk_at dksL_law_47 12 rfl rfl)
theorem dL_law_1244 : decode cL_law 1244 = .ok (.iconst 1, 1) := dk_4 (dk_at dksL_law_47 13 rfl rfl)
theorem dL_law_1245 : decode cL_law 1245 = .ok (.iadd, 1) := dk_96 (dk_at dksL_law_47 14 rfl rfl)
theorem dL_law_1246 : decode cL_law 1246 = .ok (.iaload, 1) := dk_46 (dk_at dksL_law_47 15 rfl rfl)
theorem dL_law_1247 : decode cL_law 1247 = .ok (.aload_n 0, 1) := dk_42 (dk_at dksL_law_47 16 rfl rfl)
theorem dL_law_1248 : decode cL_law 1248 = .ok (.iload_n 3, 1) := dk_29 (dk_at dksL_law_47 17 rfl rfl)
theorem dL_law_1249 : decode cL_law 1249 = .ok (.iconst 2, 1) := dk_5 (dk_at dksL_law_47 18 rfl rfl)
theorem dL_law_1250 : decode cL_law 1250 = .ok (.iadd, 1) := dk_96 (dk_at dksL_law_47 19 rfl rfl)
theorem dL_law_1251 : decode cL_law 1251 = .ok (.iaload, 1) := dk_46 (dk_at dksL_law_47 20 rfl rfl)
theorem dL_law_1252 : decode cL_law 1252 = .ok (.aload_n 0, 1) := dk_42 (dk_at dksL_law_47 21 rfl rfl)
theorem dL_law_1253 : decode cL_law 1253 = .ok (.iload_n 3, 1) := dk_29 (dk_at dksL_law_47 22 rfl rfl)
theorem dL_law_1254 : decode cL_law 1254 = .ok (.iconst 3, 1) := dk_6 (dk_at dksL_law_47 23 rfl rfl)
theorem dL_law_1255 : decode cL_law 1255 = .ok (.iadd, 1) := dk_96 (dk_at dksL_law_48 0 rfl rfl)
theorem dL_law_1256 : decode cL_law 1256 = .ok (.iaload, 1) := dk_46 (dk_at dksL_law_48 1 rfl rfl)
theorem dL_law_1257 : decode cL_law 1257 = .ok (.aload_n 0, 1) := dk_42 (dk_at dksL_law_48 2 rfl rfl)
theorem dL_law_1258 : decode cL_law 1258 = .ok (.iload_n 3, 1) := dk_29 (dk_at dksL_law_48 3 rfl rfl)
theorem dL_law_1259 : decode cL_law 1259 = .ok (.iconst 4, 1) := dk_7 (dk_at dksL_law_48 4 rfl rfl)
theorem dL_law_1260 : decode cL_law 1260 = .ok (.iadd, 1) := dk_96 (dk_at dksL_law_48 5 rfl rfl)
theorem dL_law_1261 : decode cL_law 1261 = .ok (.iaload, 1) := dk_46 (dk_at dksL_law_48 6 rfl rfl)
theorem dL_law_1262 : decode cL_law 1262 = .ok (.aload_n 0, 1) := dk_42 (dk_at dksL_law_48 7 rfl rfl)
theorem dL_law_1263 : decode cL_law 1263 = .ok (.iload_n 3, 1) := dk_29 (dk_at dksL_law_48 8 rfl rfl)
theorem dL_law_1264 : decode cL_law 1264 = .ok (.iconst 5, 1) := dk_8 (dk_at dksL_law_48 9 rfl rfl)
theorem dL_law_1265 : decode cL_law 1265 = .ok (.iadd, 1) := dk_96 (dk_at dksL_law_48 10 rfl rfl)
theorem dL_law_1266 : decode cL_law 1266 = .ok (.iaload, 1) := dk_46 (dk_at dksL_law_48 11 rfl rfl)
theorem dL_law_1267 : decode cL_law 1267 = .ok (.invokevirtual 162, 3) := dk_182 0 162 (dk_at dksL_law_48 12 rfl rfl)
theorem dL_law_1270 : decode cL_law 1270 = .ok (.if_icmp .eq 38, 3) := dk_159 0 38 (dk_at dksL_law_48 15 rfl rfl)
theorem dL_law_1273 : decode cL_law 1273 = .ok (.iconst 0, 1) := dk_3 (dk_at dksL_law_48 18 rfl rfl)
theorem dL_law_1274 : decode cL_law 1274 = .ok (.ireturn, 1) := dk_172 (dk_at dksL_law_48 19 rfl rfl)
theorem dL_law_1275 : decode cL_law 1275 = .ok (.aload_n 1, 1) := dk_43 (dk_at dksL_law_48 20 rfl rfl)
theorem dL_law_1276 : decode cL_law 1276 = .ok (.aload_n 0, 1) := dk_42 (dk_at dksL_law_48 21 rfl rfl)
theorem dL_law_1277 : decode cL_law 1277 = .ok (.iload_n 3, 1) := dk_29 (dk_at dksL_law_48 22 rfl rfl)
theorem dL_law_1278 : decode cL_law 1278 = .ok (.iconst 1, 1) := dk_4 (dk_at dksL_law_48 23 rfl rfl)
theorem dL_law_1279 : decode cL_law 1279 = .ok (.iadd, 1) := dk_96 (dk_at dksL_law_49 0 rfl rfl)
theorem dL_law_1280 : decode cL_law 1280 = .ok (.iaload, 1) := dk_46 (dk_at dksL_law_49 1 rfl rfl)
theorem dL_law_1281 : decode cL_law 1281 = .ok (.aload_n 0, 1) := dk_42 (dk_at dksL_law_49 2 rfl rfl)
theorem dL_law_1282 : decode cL_law 1282 = .ok (.iload_n 3, 1) := dk_29 (dk_at dksL_law_49 3 rfl rfl)
theorem dL_law_1283 : decode cL_law 1283 = .ok (.iconst 2, 1) := dk_5 (dk_at dksL_law_49 4 rfl rfl)
theorem dL_law_1284 : decode cL_law 1284 = .ok (.iadd, 1) := dk_96 (dk_at dksL_law_49 5 rfl rfl)
theorem dL_law_1285 : decode cL_law 1285 = .ok (.iaload, 1) := dk_46 (dk_at dksL_law_49 6 rfl rfl)
theorem dL_law_1286 : decode cL_law 1286 = .ok (.invokevirtual 163, 3) := dk_182 0 163 (dk_at dksL_law_49 7 rfl rfl)
theorem dL_law_1289 : decode cL_law 1289 = .ok (.aload_n 2, 1) := dk_44 (dk_at dksL_law_49 10 rfl rfl)
theorem dL_law_1290 : decode cL_law 1290 = .ok (.aload_n 0, 1) := dk_42 (dk_at dksL_law_49 11 rfl rfl)
theorem dL_law_1291 : decode cL_law 1291 = .ok (.iload_n 3, 1) := dk_29 (dk_at dksL_law_49 12 rfl rfl)
theorem dL_law_1292 : decode cL_law 1292 = .ok (.iconst 1, 1) := dk_4 (dk_at dksL_law_49 13 rfl rfl)
theorem dL_law_1293 : decode cL_law 1293 = .ok (.iadd, 1) := dk_96 (dk_at dksL_law_49 14 rfl rfl)
theorem dL_law_1294 : decode cL_law 1294 = .ok (.iaload, 1) := dk_46 (dk_at dksL_law_49 15 rfl rfl)
theorem dL_law_1295 : decode cL_law 1295 = .ok (.aload_n 0, 1) := dk_42 (dk_at dksL_law_49 16 rfl rfl)
theorem dL_law_1296 : decode cL_law 1296 = .ok (.iload_n 3, 1) := dk_29 (dk_at dksL_law_49 17 rfl rfl)
theorem dL_law_1297 : decode cL_law 1297 = .ok (.iconst 2, 1) := dk_5 (dk_at dksL_law_49 18 rfl rfl)
theorem dL_law_1298 : decode cL_law 1298 = .ok (.iadd, 1) := dk_96 (dk_at dksL_law_49 19 rfl rfl)
theorem dL_law_1299 : decode cL_law 1299 = .ok (.iaload, 1) := dk_46 (dk_at dksL_law_49 20 rfl rfl)
theorem dL_law_1300 : decode cL_law 1300 = .ok (.invokevirtual 166, 3) := dk_182 0 166 (dk_at dksL_law_49 21 rfl rfl)
theorem dL_law_1303 : decode cL_law 1303 = .ok (.if_icmp .eq 5, 3) := dk_159 0 5 (dk_at dksL_law_50 0 rfl rfl)
theorem dL_law_1306 : decode cL_law 1306 = .ok (.iconst 0, 1) := dk_3 (dk_at dksL_law_50 3 rfl rfl)
theorem dL_law_1307 : decode cL_law 1307 = .ok (.ireturn, 1) := dk_172 (dk_at dksL_law_50 4 rfl rfl)
theorem dL_law_1308 : decode cL_law 1308 = .ok (.iinc 3 6, 3) := dk_132 3 6 (dk_at dksL_law_50 5 rfl rfl)
theorem dL_law_1311 : decode cL_law 1311 = .ok (.goto (-1293), 3) := dk_167 250 243 (dk_at dksL_law_50 8 rfl rfl)
theorem dL_law_1314 : decode cL_law 1314 = .ok (.iconst 1, 1) := dk_4 (dk_at dksL_law_50 11 rfl rfl)
theorem dL_law_1315 : decode cL_law 1315 = .ok (.ireturn, 1) := dk_172 (dk_at dksL_law_50 12 rfl rfl)
theorem q144 : (Jvm.Cond.initialized "ThereAndBackLaw") ∈ lw_all := lw_g (lw_at lw_m1 0 rfl) rfl
set_option maxRecDepth 100000
theorem q203 : (Jvm.Cond.classLink "ThereAndBackLaw" (7 : Nat) "ThereAndBack") ∈ lw_all := lw_g (lw_at lw_m1 59 rfl) rfl
theorem q205 : (Jvm.Cond.methodLink "ThereAndBackLaw" (9 : Nat) ({ cls := "ThereAndBack", name := "<init>", desc := "()V" } : Jvm.MethodName)) ∈ lw_all := lw_g (lw_at lw_m1 61 rfl) rfl
theorem q476 : (Jvm.Cond.methodLink "ThereAndBackLaw" (15 : Nat) ({ cls := "ThereAndBack", name := "type", desc := "(JI)I" } : Jvm.MethodName)) ∈ lw_all := lw_g (lw_at lw_m2 92 rfl) rfl
theorem q487 : (Jvm.Cond.methodLink "ThereAndBackLaw" (20 : Nat) ({ cls := "ThereAndBack", name := "read", desc := "(I)I" } : Jvm.MethodName)) ∈ lw_all := lw_g (lw_at lw_m2 103 rfl) rfl
theorem q1372 : (Jvm.Cond.methodLink "ThereAndBackLaw" (25 : Nat) ({ cls := "ThereAndBack", name := "fault", desc := "(I)I" } : Jvm.MethodName)) ∈ lw_all := lw_g (lw_at lw_m6 28 rfl) rfl
theorem q1376 : (Jvm.Cond.methodLink "ThereAndBackLaw" (29 : Nat) ({ cls := "ThereAndBack", name := "drop", desc := "(I)I" } : Jvm.MethodName)) ∈ lw_all := lw_g (lw_at lw_m6 32 rfl) rfl
theorem q1384 : (Jvm.Cond.methodLink "ThereAndBackLaw" (33 : Nat) ({ cls := "ThereAndBack", name := "told", desc := "(II)I" } : Jvm.MethodName)) ∈ lw_all := lw_g (lw_at lw_m6 40 rfl) rfl
theorem q1523 : (Jvm.Cond.methodLink "ThereAndBackLaw" (38 : Nat) ({ cls := "ThereAndBack", name := "print", desc := "(I)I" } : Jvm.MethodName)) ∈ lw_all := lw_g (lw_at lw_m6 179 rfl) rfl
theorem q1731 : (Jvm.Cond.methodLink "ThereAndBackLaw" (42 : Nat) ({ cls := "ThereAndBack", name := "out", desc := "(I)I" } : Jvm.MethodName)) ∈ lw_all := lw_g (lw_at lw_m7 147 rfl) rfl
theorem q1735 : (Jvm.Cond.methodLink "ThereAndBackLaw" (46 : Nat) ({ cls := "ThereAndBack", name := "take", desc := "()I" } : Jvm.MethodName)) ∈ lw_all := lw_g (lw_at lw_m7 151 rfl) rfl
theorem q1739 : (Jvm.Cond.methodLink "ThereAndBackLaw" (51 : Nat) ({ cls := "ThereAndBack", name := "same", desc := "(II)I" } : Jvm.MethodName)) ∈ lw_all := lw_g (lw_at lw_m7 155 rfl) rfl
theorem q1743 : (Jvm.Cond.methodLink "ThereAndBackLaw" (55 : Nat) ({ cls := "ThereAndBack", name := "mirror", desc := "(II)I" } : Jvm.MethodName)) ∈ lw_all := lw_g (lw_at lw_m7 159 rfl) rfl
theorem q1806 : (Jvm.Cond.methodLink "ThereAndBackLaw" (59 : Nat) ({ cls := "ThereAndBack", name := "turn", desc := "(II)I" } : Jvm.MethodName)) ∈ lw_all := lw_g (lw_at lw_m7 222 rfl) rfl
theorem q1908 : (Jvm.Cond.methodLink "ThereAndBackLaw" (63 : Nat) ({ cls := "ThereAndBack", name := "walk", desc := "(II)I" } : Jvm.MethodName)) ∈ lw_all := lw_g (lw_at lw_m8 84 rfl) rfl
theorem q2021 : (Jvm.Cond.methodLink "ThereAndBackLaw" (67 : Nat) ({ cls := "ThereAndBack", name := "wipe", desc := "()I" } : Jvm.MethodName)) ∈ lw_all := lw_g (lw_at lw_m8 197 rfl) rfl
theorem q2025 : (Jvm.Cond.methodLink "ThereAndBackLaw" (71 : Nat) ({ cls := "ThereAndBack", name := "give", desc := "(II)I" } : Jvm.MethodName)) ∈ lw_all := lw_g (lw_at lw_m8 201 rfl) rfl
theorem q2033 : (Jvm.Cond.methodLink "ThereAndBackLaw" (75 : Nat) ({ cls := "ThereAndBack", name := "has", desc := "(I)I" } : Jvm.MethodName)) ∈ lw_all := lw_g (lw_at lw_m8 209 rfl) rfl
theorem q2037 : (Jvm.Cond.methodLink "ThereAndBackLaw" (79 : Nat) ({ cls := "ThereAndBack", name := "value", desc := "(I)I" } : Jvm.MethodName)) ∈ lw_all := lw_g (lw_at lw_m8 213 rfl) rfl
theorem q2041 : (Jvm.Cond.methodLink "ThereAndBackLaw" (83 : Nat) ({ cls := "ThereAndBack", name := "row", desc := "(II)I" } : Jvm.MethodName)) ∈ lw_all := lw_g (lw_at lw_m8 217 rfl) rfl
theorem q2053 : (Jvm.Cond.methodLink "ThereAndBackLaw" (87 : Nat) ({ cls := "ThereAndBack", name := "item", desc := "(II)J" } : Jvm.MethodName)) ∈ lw_all := lw_g (lw_at lw_m8 229 rfl) rfl
theorem q2057 : (Jvm.Cond.methodLink "ThereAndBackLaw" (92 : Nat) ({ cls := "ThereAndBack", name := "height", desc := "(I)I" } : Jvm.MethodName)) ∈ lw_all := lw_g (lw_at lw_m8 233 rfl) rfl
theorem q2062 : (Jvm.Cond.methodLink "ThereAndBackLaw" (96 : Nat) ({ cls := "ThereAndBack", name := "piled", desc := "(II)I" } : Jvm.MethodName)) ∈ lw_all := lw_g (lw_at lw_m8 238 rfl) rfl
theorem q2066 : (Jvm.Cond.methodLink "ThereAndBackLaw" (100 : Nat) ({ cls := "ThereAndBack", name := "begin", desc := "(IZ)I" } : Jvm.MethodName)) ∈ lw_all := lw_g (lw_at lw_m9 2 rfl) rfl
theorem q2070 : (Jvm.Cond.methodLink "ThereAndBackLaw" (105 : Nat) ({ cls := "ThereAndBack", name := "go", desc := "(Z)I" } : Jvm.MethodName)) ∈ lw_all := lw_g (lw_at lw_m9 6 rfl) rfl
theorem q2246 : (Jvm.Cond.methodLink "ThereAndBackLaw" (110 : Nat) ({ cls := "ThereAndBack", name := "run", desc := "(I)I" } : Jvm.MethodName)) ∈ lw_all := lw_g (lw_at lw_m9 182 rfl) rfl
theorem q2255 : (Jvm.Cond.methodLink "ThereAndBackLaw" (114 : Nat) ({ cls := "ThereAndBack", name := "goTo", desc := "(I)I" } : Jvm.MethodName)) ∈ lw_all := lw_g (lw_at lw_m9 191 rfl) rfl
theorem q2262 : (Jvm.Cond.methodLink "ThereAndBackLaw" (118 : Nat) ({ cls := "ThereAndBack", name := "at", desc := "(I)I" } : Jvm.MethodName)) ∈ lw_all := lw_g (lw_at lw_m9 198 rfl) rfl
theorem q2266 : (Jvm.Cond.methodLink "ThereAndBackLaw" (122 : Nat) ({ cls := "ThereAndBack", name := "frame", desc := "(II)I" } : Jvm.MethodName)) ∈ lw_all := lw_g (lw_at lw_m9 202 rfl) rfl
theorem q2270 : (Jvm.Cond.methodLink "ThereAndBackLaw" (126 : Nat) ({ cls := "ThereAndBack", name := "digest", desc := "()J" } : Jvm.MethodName)) ∈ lw_all := lw_g (lw_at lw_m9 206 rfl) rfl
theorem q2276 : (Jvm.Cond.methodLink "ThereAndBackLaw" (131 : Nat) ({ cls := "ThereAndBack", name := "lay", desc := "(III)I" } : Jvm.MethodName)) ∈ lw_all := lw_g (lw_at lw_m9 212 rfl) rfl
theorem q2313 : (Jvm.Cond.methodLink "ThereAndBackLaw" (136 : Nat) ({ cls := "ThereAndBack", name := "lift", desc := "(II)I" } : Jvm.MethodName)) ∈ lw_all := lw_g (lw_at lw_m10 9 rfl) rfl
theorem q2317 : (Jvm.Cond.methodLink "ThereAndBackLaw" (140 : Nat) ({ cls := "ThereAndBack", name := "put", desc := "(II)I" } : Jvm.MethodName)) ∈ lw_all := lw_g (lw_at lw_m10 13 rfl) rfl
theorem q2321 : (Jvm.Cond.methodLink "ThereAndBackLaw" (144 : Nat) ({ cls := "ThereAndBack", name := "set", desc := "(IIIJ)I" } : Jvm.MethodName)) ∈ lw_all := lw_g (lw_at lw_m10 17 rfl) rfl
theorem q2391 : (Jvm.Cond.methodLink "ThereAndBackLaw" (149 : Nat) ({ cls := "ThereAndBack", name := "get", desc := "(III)J" } : Jvm.MethodName)) ∈ lw_all := lw_g (lw_at lw_m10 87 rfl) rfl
theorem q2398 : (Jvm.Cond.methodLink "ThereAndBackLaw" (154 : Nat) ({ cls := "ThereAndBack", name := "failed", desc := "()I" } : Jvm.MethodName)) ∈ lw_all := lw_g (lw_at lw_m10 94 rfl) rfl
theorem q2402 : (Jvm.Cond.methodLink "ThereAndBackLaw" (158 : Nat) ({ cls := "ThereAndBack", name := "copy", desc := "(IIIII)I" } : Jvm.MethodName)) ∈ lw_all := lw_g (lw_at lw_m10 98 rfl) rfl
theorem q2407 : (Jvm.Cond.methodLink "ThereAndBackLaw" (163 : Nat) ({ cls := "ThereAndBack", name := "alike", desc := "(II)I" } : Jvm.MethodName)) ∈ lw_all := lw_g (lw_at lw_m10 103 rfl) rfl
theorem q2411 : (Jvm.Cond.methodLink "ThereAndBackLaw" (19 : Nat) ({ cls := "ThereAndBackModel", name := "type", desc := "(JI)I" } : Jvm.MethodName)) ∈ lw_all := lw_g (lw_at lw_m10 107 rfl) rfl
theorem q2419 : (Jvm.Cond.methodLink "ThereAndBackLaw" (24 : Nat) ({ cls := "ThereAndBackModel", name := "read", desc := "(I)I" } : Jvm.MethodName)) ∈ lw_all := lw_g (lw_at lw_m10 115 rfl) rfl
theorem q2563 : (Jvm.Cond.methodLink "ThereAndBackLaw" (28 : Nat) ({ cls := "ThereAndBackModel", name := "fault", desc := "(I)I" } : Jvm.MethodName)) ∈ lw_all := lw_g (lw_at lw_m11 19 rfl) rfl
theorem q2567 : (Jvm.Cond.methodLink "ThereAndBackLaw" (32 : Nat) ({ cls := "ThereAndBackModel", name := "drop", desc := "(I)I" } : Jvm.MethodName)) ∈ lw_all := lw_g (lw_at lw_m11 23 rfl) rfl
theorem q2571 : (Jvm.Cond.methodLink "ThereAndBackLaw" (37 : Nat) ({ cls := "ThereAndBackModel", name := "told", desc := "(II)I" } : Jvm.MethodName)) ∈ lw_all := lw_g (lw_at lw_m11 27 rfl) rfl
theorem q2575 : (Jvm.Cond.methodLink "ThereAndBackLaw" (41 : Nat) ({ cls := "ThereAndBackModel", name := "print", desc := "(I)I" } : Jvm.MethodName)) ∈ lw_all := lw_g (lw_at lw_m11 31 rfl) rfl
theorem q2587 : (Jvm.Cond.methodLink "ThereAndBackLaw" (45 : Nat) ({ cls := "ThereAndBackModel", name := "out", desc := "(I)I" } : Jvm.MethodName)) ∈ lw_all := lw_g (lw_at lw_m11 43 rfl) rfl
theorem q2591 : (Jvm.Cond.methodLink "ThereAndBackLaw" (50 : Nat) ({ cls := "ThereAndBackModel", name := "take", desc := "()I" } : Jvm.MethodName)) ∈ lw_all := lw_g (lw_at lw_m11 47 rfl) rfl
theorem q2595 : (Jvm.Cond.methodLink "ThereAndBackLaw" (54 : Nat) ({ cls := "ThereAndBackModel", name := "same", desc := "(II)I" } : Jvm.MethodName)) ∈ lw_all := lw_g (lw_at lw_m11 51 rfl) rfl
theorem q2599 : (Jvm.Cond.methodLink "ThereAndBackLaw" (58 : Nat) ({ cls := "ThereAndBackModel", name := "mirror", desc := "(II)I" } : Jvm.MethodName)) ∈ lw_all := lw_g (lw_at lw_m11 55 rfl) rfl
theorem q2626 : (Jvm.Cond.methodLink "ThereAndBackLaw" (62 : Nat) ({ cls := "ThereAndBackModel", name := "turn", desc := "(II)I" } : Jvm.MethodName)) ∈ lw_all := lw_g (lw_at lw_m11 82 rfl) rfl
theorem q2677 : (Jvm.Cond.classLink "ThereAndBackLaw" (10 : Nat) "ThereAndBackModel") ∈ lw_all := lw_g (lw_at lw_m11 133 rfl) rfl
theorem q2678 : (Jvm.Cond.methodLink "ThereAndBackLaw" (12 : Nat) ({ cls := "ThereAndBackModel", name := "<init>", desc := "()V" } : Jvm.MethodName)) ∈ lw_all := lw_g (lw_at lw_m11 134 rfl) rfl
theorem q2880 : (Jvm.Cond.methodLink "ThereAndBackLaw" (104 : Nat) ({ cls := "ThereAndBackModel", name := "begin", desc := "(IZ)I" } : Jvm.MethodName)) ∈ lw_all := lw_g (lw_at lw_m12 96 rfl) rfl
theorem q2884 : (Jvm.Cond.methodLink "ThereAndBackLaw" (109 : Nat) ({ cls := "ThereAndBackModel", name := "go", desc := "(Z)I" } : Jvm.MethodName)) ∈ lw_all := lw_g (lw_at lw_m12 100 rfl) rfl
theorem q3002 : (Jvm.Cond.methodLink "ThereAndBackLaw" (113 : Nat) ({ cls := "ThereAndBackModel", name := "run", desc := "(I)I" } : Jvm.MethodName)) ∈ lw_all := lw_g (lw_at lw_m12 218 rfl) rfl
theorem q3010 : (Jvm.Cond.methodLink "ThereAndBackLaw" (117 : Nat) ({ cls := "ThereAndBackModel", name := "goTo", desc := "(I)I" } : Jvm.MethodName)) ∈ lw_all := lw_g (lw_at lw_m12 226 rfl) rfl
theorem q3016 : (Jvm.Cond.methodLink "ThereAndBackLaw" (121 : Nat) ({ cls := "ThereAndBackModel", name := "at", desc := "(I)I" } : Jvm.MethodName)) ∈ lw_all := lw_g (lw_at lw_m12 232 rfl) rfl
theorem q3020 : (Jvm.Cond.methodLink "ThereAndBackLaw" (125 : Nat) ({ cls := "ThereAndBackModel", name := "frame", desc := "(II)I" } : Jvm.MethodName)) ∈ lw_all := lw_g (lw_at lw_m12 236 rfl) rfl
theorem q3024 : (Jvm.Cond.methodLink "ThereAndBackLaw" (66 : Nat) ({ cls := "ThereAndBackModel", name := "walk", desc := "(II)I" } : Jvm.MethodName)) ∈ lw_all := lw_g (lw_at lw_m13 0 rfl) rfl
theorem q3028 : (Jvm.Cond.methodLink "ThereAndBackLaw" (70 : Nat) ({ cls := "ThereAndBackModel", name := "wipe", desc := "()I" } : Jvm.MethodName)) ∈ lw_all := lw_g (lw_at lw_m13 4 rfl) rfl
theorem q3032 : (Jvm.Cond.methodLink "ThereAndBackLaw" (74 : Nat) ({ cls := "ThereAndBackModel", name := "give", desc := "(II)I" } : Jvm.MethodName)) ∈ lw_all := lw_g (lw_at lw_m13 8 rfl) rfl
theorem q3036 : (Jvm.Cond.methodLink "ThereAndBackLaw" (78 : Nat) ({ cls := "ThereAndBackModel", name := "has", desc := "(I)I" } : Jvm.MethodName)) ∈ lw_all := lw_g (lw_at lw_m13 12 rfl) rfl
theorem q3040 : (Jvm.Cond.methodLink "ThereAndBackLaw" (82 : Nat) ({ cls := "ThereAndBackModel", name := "value", desc := "(I)I" } : Jvm.MethodName)) ∈ lw_all := lw_g (lw_at lw_m13 16 rfl) rfl
theorem q3044 : (Jvm.Cond.methodLink "ThereAndBackLaw" (86 : Nat) ({ cls := "ThereAndBackModel", name := "row", desc := "(II)I" } : Jvm.MethodName)) ∈ lw_all := lw_g (lw_at lw_m13 20 rfl) rfl
theorem q3048 : (Jvm.Cond.methodLink "ThereAndBackLaw" (91 : Nat) ({ cls := "ThereAndBackModel", name := "item", desc := "(II)J" } : Jvm.MethodName)) ∈ lw_all := lw_g (lw_at lw_m13 24 rfl) rfl
theorem q3052 : (Jvm.Cond.methodLink "ThereAndBackLaw" (95 : Nat) ({ cls := "ThereAndBackModel", name := "height", desc := "(I)I" } : Jvm.MethodName)) ∈ lw_all := lw_g (lw_at lw_m13 28 rfl) rfl
theorem q3056 : (Jvm.Cond.methodLink "ThereAndBackLaw" (99 : Nat) ({ cls := "ThereAndBackModel", name := "piled", desc := "(II)I" } : Jvm.MethodName)) ∈ lw_all := lw_g (lw_at lw_m13 32 rfl) rfl
theorem q3060 : (Jvm.Cond.methodLink "ThereAndBackLaw" (130 : Nat) ({ cls := "ThereAndBackModel", name := "digest", desc := "()J" } : Jvm.MethodName)) ∈ lw_all := lw_g (lw_at lw_m13 36 rfl) rfl
theorem q3070 : (Jvm.Cond.methodLink "ThereAndBackLaw" (135 : Nat) ({ cls := "ThereAndBackModel", name := "lay", desc := "(III)I" } : Jvm.MethodName)) ∈ lw_all := lw_g (lw_at lw_m13 46 rfl) rfl
theorem q3077 : (Jvm.Cond.methodLink "ThereAndBackLaw" (139 : Nat) ({ cls := "ThereAndBackModel", name := "lift", desc := "(II)I" } : Jvm.MethodName)) ∈ lw_all := lw_g (lw_at lw_m13 53 rfl) rfl
theorem q3081 : (Jvm.Cond.methodLink "ThereAndBackLaw" (143 : Nat) ({ cls := "ThereAndBackModel", name := "put", desc := "(II)I" } : Jvm.MethodName)) ∈ lw_all := lw_g (lw_at lw_m13 57 rfl) rfl
theorem q3085 : (Jvm.Cond.methodLink "ThereAndBackLaw" (148 : Nat) ({ cls := "ThereAndBackModel", name := "set", desc := "(IIIJ)I" } : Jvm.MethodName)) ∈ lw_all := lw_g (lw_at lw_m13 61 rfl) rfl
theorem q3093 : (Jvm.Cond.methodLink "ThereAndBackLaw" (153 : Nat) ({ cls := "ThereAndBackModel", name := "get", desc := "(III)J" } : Jvm.MethodName)) ∈ lw_all := lw_g (lw_at lw_m13 69 rfl) rfl
theorem q3097 : (Jvm.Cond.methodLink "ThereAndBackLaw" (157 : Nat) ({ cls := "ThereAndBackModel", name := "failed", desc := "()I" } : Jvm.MethodName)) ∈ lw_all := lw_g (lw_at lw_m13 73 rfl) rfl
theorem q3101 : (Jvm.Cond.methodLink "ThereAndBackLaw" (162 : Nat) ({ cls := "ThereAndBackModel", name := "copy", desc := "(IIIII)I" } : Jvm.MethodName)) ∈ lw_all := lw_g (lw_at lw_m13 77 rfl) rfl
theorem q3105 : (Jvm.Cond.methodLink "ThereAndBackLaw" (166 : Nat) ({ cls := "ThereAndBackModel", name := "alike", desc := "(II)I" } : Jvm.MethodName)) ∈ lw_all := lw_g (lw_at lw_m13 81 rfl) rfl
theorem q3109 : (Jvm.Cond.constantLong "ThereAndBackLaw" (13 : Nat) (4294967295 : Int64)) ∈ lw_all := lw_g (lw_at lw_m13 85 rfl) rfl
theorem q3169 : (Jvm.Cond.castable "[B" "java/lang/Object") ∈ lw_tbl := lw_at lw_m13 145 rfl
set_option maxRecDepth 100000
theorem q3178 : (Jvm.Cond.castable "[C" "java/lang/Object") ∈ lw_tbl := lw_at lw_m13 154 rfl
set_option maxRecDepth 100000
theorem q3174 : (Jvm.Cond.castable "[I" "java/lang/Object") ∈ lw_tbl := lw_at lw_m13 150 rfl
set_option maxRecDepth 100000
theorem q3176 : (Jvm.Cond.castable "[J" "java/lang/Object") ∈ lw_tbl := lw_at lw_m13 152 rfl
set_option maxRecDepth 100000
theorem q3172 : (Jvm.Cond.castable "[LThereAndBack$Holder;" "java/lang/Object") ∈ lw_tbl := lw_at lw_m13 148 rfl
set_option maxRecDepth 100000
theorem q3170 : (Jvm.Cond.castable "[LThereAndBack$Refused;" "java/lang/Object") ∈ lw_tbl := lw_at lw_m13 146 rfl
set_option maxRecDepth 100000
theorem q3171 : (Jvm.Cond.castable "[LThereAndBack$Routine;" "java/lang/Object") ∈ lw_tbl := lw_at lw_m13 147 rfl
set_option maxRecDepth 100000
theorem q3166 : (Jvm.Cond.sameMethod "[Ljava/lang/Object;" "java/lang/Object" "getClass" "()Ljava/lang/Class;") ∈ lw_all := lw_g (lw_at lw_m13 142 rfl) rfl
set_option maxRecDepth 100000
theorem q3167 : (Jvm.Cond.selects "[Ljava/lang/Object;" ({ cls := "java/lang/Object", name := "getClass", desc := "()Ljava/lang/Class;" } : Jvm.MethodName) ({ cls := "java/lang/Object", name := "getClass", desc := "()Ljava/lang/Class;" } : Jvm.MethodName)) ∈ lw_all := lw_g (lw_at lw_m13 143 rfl) rfl
theorem q3175 : (Jvm.Cond.castable "[Ljava/lang/Object;" "java/lang/Object") ∈ lw_tbl := lw_at lw_m13 151 rfl
theorem q3177 : (Jvm.Cond.castable "[S" "java/lang/Object") ∈ lw_tbl := lw_at lw_m13 153 rfl
set_option maxRecDepth 100000
theorem q3173 : (Jvm.Cond.castable "[Z" "java/lang/Object") ∈ lw_tbl := lw_at lw_m13 149 rfl
set_option maxRecDepth 100000
theorem q190 : (Jvm.Cond.initialized "java/lang/System") ∈ lw_all := lw_g (lw_at lw_m1 46 rfl) rfl
set_option maxRecDepth 100000
theorem q1199 : (Jvm.Cond.static ({ cls := "java/lang/System", name := "arraycopy", desc := "(Ljava/lang/Object;ILjava/lang/Object;II)V" } : Jvm.MethodName)) ∈ lw_all := lw_g (lw_at lw_m5 95 rfl) rfl
theorem q1200 : (Jvm.Cond.native ({ cls := "java/lang/System", name := "arraycopy", desc := "(Ljava/lang/Object;ILjava/lang/Object;II)V" } : Jvm.MethodName)) ∈ lw_all := lw_g (lw_at lw_m5 96 rfl) rfl
theorem q1116 : (Jvm.Cond.interfaceMethod "java/util/List" "java/util/List" "add" "(Ljava/lang/Object;)Z") ∈ lw_tbl := lw_at lw_m5 12 rfl
set_option maxRecDepth 100000
theorem q1117 : (Jvm.Cond.declares ({ cls := "java/util/List", name := "add", desc := "(Ljava/lang/Object;)Z" } : Jvm.MethodName)) ∈ lw_tbl := lw_at lw_m5 13 rfl
theorem q1220 : (Jvm.Cond.interfaceMethod "java/util/List" "java/util/List" "size" "()I") ∈ lw_tbl := lw_at lw_m5 116 rfl
theorem q1221 : (Jvm.Cond.declares ({ cls := "java/util/List", name := "size", desc := "()I" } : Jvm.MethodName)) ∈ lw_tbl := lw_at lw_m5 117 rfl
theorem q1229 : (Jvm.Cond.interfaceMethod "java/util/List" "java/util/List" "get" "(I)Ljava/lang/Object;") ∈ lw_tbl := lw_at lw_m5 125 rfl
theorem q1230 : (Jvm.Cond.declares ({ cls := "java/util/List", name := "get", desc := "(I)Ljava/lang/Object;" } : Jvm.MethodName)) ∈ lw_tbl := lw_at lw_m5 126 rfl
theorem q1397 : (Jvm.Cond.interfaceMethod "java/util/List" "java/util/List" "isEmpty" "()Z") ∈ lw_tbl := lw_at lw_m6 53 rfl
theorem q1398 : (Jvm.Cond.declares ({ cls := "java/util/List", name := "isEmpty", desc := "()Z" } : Jvm.MethodName)) ∈ lw_tbl := lw_at lw_m6 54 rfl
theorem q288 : (Jvm.Cond.arrayClass Jvm.ClassFile.FieldType.byte) ∈ lw_all := lw_g (lw_at lw_m1 144 rfl) rfl
set_option maxRecDepth 100000
theorem q290 : (Jvm.Cond.arrayOver (Jvm.ClassFile.FieldType.object "ThereAndBack$Refused")) ∈ lw_tbl := lw_at lw_m1 146 rfl
theorem q292 : (Jvm.Cond.arrayOver (Jvm.ClassFile.FieldType.object "ThereAndBack$Routine")) ∈ lw_tbl := lw_at lw_m1 148 rfl
theorem q294 : (Jvm.Cond.arrayOver (Jvm.ClassFile.FieldType.object "ThereAndBack$Holder")) ∈ lw_tbl := lw_at lw_m1 150 rfl
theorem q313 : (Jvm.Cond.arrayClass Jvm.ClassFile.FieldType.boolean) ∈ lw_all := lw_g (lw_at lw_m1 169 rfl) rfl
theorem q314 : (Jvm.Cond.arrayClass Jvm.ClassFile.FieldType.int) ∈ lw_all := lw_g (lw_at lw_m1 170 rfl) rfl
theorem q1193 : (Jvm.Cond.arrayOver (Jvm.ClassFile.FieldType.object "java/lang/Object")) ∈ lw_tbl := lw_at lw_m5 89 rfl
theorem q2243 : (Jvm.Cond.arrayClass Jvm.ClassFile.FieldType.long) ∈ lw_all := lw_g (lw_at lw_m9 179 rfl) rfl
theorem q2244 : (Jvm.Cond.arrayClass Jvm.ClassFile.FieldType.short) ∈ lw_all := lw_g (lw_at lw_m9 180 rfl) rfl
theorem q2245 : (Jvm.Cond.arrayClass Jvm.ClassFile.FieldType.char) ∈ lw_all := lw_g (lw_at lw_m9 181 rfl) rfl
