/-! java/lang/Throwable -/
set_option maxRecDepth 100000
def RJ0 : String := "java/lang/Throwable"
def TJ0 : u_T := fun k => match k with
  | 0 => ("java/lang/Throwable", "cause", "Ljava/lang/Throwable;", false)
  | 1 => ("java/lang/Throwable", "stackTrace", "[Ljava/lang/StackTraceElement;", false)
  | 2 => ("java/lang/Throwable", "suppressedExceptions", "Ljava/util/List;", false)
  | 3 => ("java/lang/Throwable", "detailMessage", "Ljava/lang/String;", false)
  | _ => ("java/lang/Throwable", "backtrace", "Ljava/lang/Object;", false)
def tyJ0 : Nat → FieldType := fun k => match k with
  | 0 => .object "java/lang/Throwable"
  | 1 => .array (.object "java/lang/StackTraceElement")
  | 2 => .object "java/util/List"
  | 3 => .object "java/lang/String"
  | _ => .object "java/lang/Object"
abbrev wsJ00 : List Cond := u_ws RJ0 TJ0 5
theorem nmJ0 : ∀ a, a < 5 → ∀ b, b < 5 → a ≠ b → (TJ0 a).2.1 ≠ (TJ0 b).2.1 := by decide +kernel
theorem tyJ0_ok : ∀ k, k < 5 → parseFieldDescriptor (TJ0 k).2.2.1 = some (tyJ0 k) := by decide +kernel
abbrev cJ0_init : ByteArray := prog_33_method_1_code
def yJ0_init : MethodName := ⟨RJ0, "<init>", "()V"⟩
def dkwJ0_init_1 : List UInt8 := [182, 0, 27, 87, 177]
abbrev dktJ0_init_1 : List UInt8 := dkwJ0_init_1 ++ []
def dkwJ0_init_0 : List UInt8 := [42, 183, 0, 1, 42, 42, 181, 0, 7, 42, 178, 0, 13, 181, 0, 17, 42, 178, 0, 20, 181, 0, 24, 42]
abbrev dktJ0_init_0 : List UInt8 := dkwJ0_init_0 ++ dktJ0_init_1
theorem dksJ0_init_0 : cJ0_init.data.toList.drop 0 = dktJ0_init_0 := by decide +kernel
theorem dksJ0_init_1 : cJ0_init.data.toList.drop 24 = dktJ0_init_1 := dk_seg dksJ0_init_0 24 rfl rfl
theorem dJ0_init_0 : decode cJ0_init 0 = .ok (.aload_n 0, 1) := dk_42 (dk_at dksJ0_init_0 0 rfl rfl)
theorem dJ0_init_1 : decode cJ0_init 1 = .ok (.invokespecial 1, 3) := dk_183 0 1 (dk_at dksJ0_init_0 1 rfl rfl)
theorem dJ0_init_4 : decode cJ0_init 4 = .ok (.aload_n 0, 1) := dk_42 (dk_at dksJ0_init_0 4 rfl rfl)
theorem dJ0_init_5 : decode cJ0_init 5 = .ok (.aload_n 0, 1) := dk_42 (dk_at dksJ0_init_0 5 rfl rfl)
theorem dJ0_init_6 : decode cJ0_init 6 = .ok (.putfield 7, 3) := dk_181 0 7 (dk_at dksJ0_init_0 6 rfl rfl)
theorem dJ0_init_9 : decode cJ0_init 9 = .ok (.aload_n 0, 1) := dk_42 (dk_at dksJ0_init_0 9 rfl rfl)
theorem dJ0_init_10 : decode cJ0_init 10 = .ok (.getstatic 13, 3) := dk_178 0 13 (dk_at dksJ0_init_0 10 rfl rfl)
theorem dJ0_init_13 : decode cJ0_init 13 = .ok (.putfield 17, 3) := dk_181 0 17 (dk_at dksJ0_init_0 13 rfl rfl)
theorem dJ0_init_16 : decode cJ0_init 16 = .ok (.aload_n 0, 1) := dk_42 (dk_at dksJ0_init_0 16 rfl rfl)
theorem dJ0_init_17 : decode cJ0_init 17 = .ok (.getstatic 20, 3) := dk_178 0 20 (dk_at dksJ0_init_0 17 rfl rfl)
theorem dJ0_init_20 : decode cJ0_init 20 = .ok (.putfield 24, 3) := dk_181 0 24 (dk_at dksJ0_init_0 20 rfl rfl)
theorem dJ0_init_23 : decode cJ0_init 23 = .ok (.aload_n 0, 1) := dk_42 (dk_at dksJ0_init_0 23 rfl rfl)
theorem dJ0_init_24 : decode cJ0_init 24 = .ok (.invokevirtual 27, 3) := dk_182 0 27 (dk_at dksJ0_init_1 0 rfl rfl)
theorem dJ0_init_27 : decode cJ0_init 27 = .ok (.pop, 1) := dk_87 (dk_at dksJ0_init_1 3 rfl rfl)
theorem dJ0_init_28 : decode cJ0_init 28 = .ok (.return_, 1) := dk_177 (dk_at dksJ0_init_1 4 rfl rfl)
abbrev cJ0_init_2 : ByteArray := prog_33_method_5_code
def yJ0_init_2 : MethodName := ⟨RJ0, "<init>", "(Ljava/lang/String;Ljava/lang/Throwable;ZZ)V"⟩
def dkwJ0_init_2_2 : List UInt8 := [44, 181, 0, 7, 29, 154, 0, 8, 42, 1, 181, 0, 24, 177]
abbrev dktJ0_init_2_2 : List UInt8 := dkwJ0_init_2_2 ++ []
def dkwJ0_init_2_1 : List UInt8 := [21, 4, 153, 0, 11, 42, 182, 0, 27, 87, 167, 0, 8, 42, 1, 181, 0, 17, 42, 43, 181, 0, 31, 42]
abbrev dktJ0_init_2_1 : List UInt8 := dkwJ0_init_2_1 ++ dktJ0_init_2_2
def dkwJ0_init_2_0 : List UInt8 := [42, 183, 0, 1, 42, 42, 181, 0, 7, 42, 178, 0, 13, 181, 0, 17, 42, 178, 0, 20, 181, 0, 24]
abbrev dktJ0_init_2_0 : List UInt8 := dkwJ0_init_2_0 ++ dktJ0_init_2_1
theorem dksJ0_init_2_0 : cJ0_init_2.data.toList.drop 0 = dktJ0_init_2_0 := by decide +kernel
theorem dksJ0_init_2_1 : cJ0_init_2.data.toList.drop 23 = dktJ0_init_2_1 := dk_seg dksJ0_init_2_0 23 rfl rfl
theorem dksJ0_init_2_2 : cJ0_init_2.data.toList.drop 47 = dktJ0_init_2_2 := dk_seg dksJ0_init_2_1 24 rfl rfl
theorem dJ0_init_2_0 : decode cJ0_init_2 0 = .ok (.aload_n 0, 1) := dk_42 (dk_at dksJ0_init_2_0 0 rfl rfl)
theorem dJ0_init_2_1 : decode cJ0_init_2 1 = .ok (.invokespecial 1, 3) := dk_183 0 1 (dk_at dksJ0_init_2_0 1 rfl rfl)
theorem dJ0_init_2_4 : decode cJ0_init_2 4 = .ok (.aload_n 0, 1) := dk_42 (dk_at dksJ0_init_2_0 4 rfl rfl)
theorem dJ0_init_2_5 : decode cJ0_init_2 5 = .ok (.aload_n 0, 1) := dk_42 (dk_at dksJ0_init_2_0 5 rfl rfl)
theorem dJ0_init_2_6 : decode cJ0_init_2 6 = .ok (.putfield 7, 3) := dk_181 0 7 (dk_at dksJ0_init_2_0 6 rfl rfl)
theorem dJ0_init_2_9 : decode cJ0_init_2 9 = .ok (.aload_n 0, 1) := dk_42 (dk_at dksJ0_init_2_0 9 rfl rfl)
theorem dJ0_init_2_10 : decode cJ0_init_2 10 = .ok (.getstatic 13, 3) := dk_178 0 13 (dk_at dksJ0_init_2_0 10 rfl rfl)
theorem dJ0_init_2_13 : decode cJ0_init_2 13 = .ok (.putfield 17, 3) := dk_181 0 17 (dk_at dksJ0_init_2_0 13 rfl rfl)
theorem dJ0_init_2_16 : decode cJ0_init_2 16 = .ok (.aload_n 0, 1) := dk_42 (dk_at dksJ0_init_2_0 16 rfl rfl)
theorem dJ0_init_2_17 : decode cJ0_init_2 17 = .ok (.getstatic 20, 3) := dk_178 0 20 (dk_at dksJ0_init_2_0 17 rfl rfl)
theorem dJ0_init_2_20 : decode cJ0_init_2 20 = .ok (.putfield 24, 3) := dk_181 0 24 (dk_at dksJ0_init_2_0 20 rfl rfl)
theorem dJ0_init_2_23 : decode cJ0_init_2 23 = .ok (.iload 4, 2) := dk_21 4 (dk_at dksJ0_init_2_1 0 rfl rfl)
theorem dJ0_init_2_25 : decode cJ0_init_2 25 = .ok (.ifCond .eq 11, 3) := dk_153 0 11 (dk_at dksJ0_init_2_1 2 rfl rfl)
theorem dJ0_init_2_28 : decode cJ0_init_2 28 = .ok (.aload_n 0, 1) := dk_42 (dk_at dksJ0_init_2_1 5 rfl rfl)
theorem dJ0_init_2_29 : decode cJ0_init_2 29 = .ok (.invokevirtual 27, 3) := dk_182 0 27 (dk_at dksJ0_init_2_1 6 rfl rfl)
theorem dJ0_init_2_32 : decode cJ0_init_2 32 = .ok (.pop, 1) := dk_87 (dk_at dksJ0_init_2_1 9 rfl rfl)
theorem dJ0_init_2_33 : decode cJ0_init_2 33 = .ok (.goto 8, 3) := dk_167 0 8 (dk_at dksJ0_init_2_1 10 rfl rfl)
theorem dJ0_init_2_36 : decode cJ0_init_2 36 = .ok (.aload_n 0, 1) := dk_42 (dk_at dksJ0_init_2_1 13 rfl rfl)
theorem dJ0_init_2_37 : decode cJ0_init_2 37 = .ok (.aconst_null, 1) := dk_1 (dk_at dksJ0_init_2_1 14 rfl rfl)
theorem dJ0_init_2_38 : decode cJ0_init_2 38 = .ok (.putfield 17, 3) := dk_181 0 17 (dk_at dksJ0_init_2_1 15 rfl rfl)
theorem dJ0_init_2_41 : decode cJ0_init_2 41 = .ok (.aload_n 0, 1) := dk_42 (dk_at dksJ0_init_2_1 18 rfl rfl)
theorem dJ0_init_2_42 : decode cJ0_init_2 42 = .ok (.aload_n 1, 1) := dk_43 (dk_at dksJ0_init_2_1 19 rfl rfl)
theorem dJ0_init_2_43 : decode cJ0_init_2 43 = .ok (.putfield 31, 3) := dk_181 0 31 (dk_at dksJ0_init_2_1 20 rfl rfl)
theorem dJ0_init_2_46 : decode cJ0_init_2 46 = .ok (.aload_n 0, 1) := dk_42 (dk_at dksJ0_init_2_1 23 rfl rfl)
theorem dJ0_init_2_47 : decode cJ0_init_2 47 = .ok (.aload_n 2, 1) := dk_44 (dk_at dksJ0_init_2_2 0 rfl rfl)
theorem dJ0_init_2_48 : decode cJ0_init_2 48 = .ok (.putfield 7, 3) := dk_181 0 7 (dk_at dksJ0_init_2_2 1 rfl rfl)
theorem dJ0_init_2_51 : decode cJ0_init_2 51 = .ok (.iload_n 3, 1) := dk_29 (dk_at dksJ0_init_2_2 4 rfl rfl)
theorem dJ0_init_2_52 : decode cJ0_init_2 52 = .ok (.ifCond .ne 8, 3) := dk_154 0 8 (dk_at dksJ0_init_2_2 5 rfl rfl)
theorem dJ0_init_2_55 : decode cJ0_init_2 55 = .ok (.aload_n 0, 1) := dk_42 (dk_at dksJ0_init_2_2 8 rfl rfl)
theorem dJ0_init_2_56 : decode cJ0_init_2 56 = .ok (.aconst_null, 1) := dk_1 (dk_at dksJ0_init_2_2 9 rfl rfl)
theorem dJ0_init_2_57 : decode cJ0_init_2 57 = .ok (.putfield 24, 3) := dk_181 0 24 (dk_at dksJ0_init_2_2 10 rfl rfl)
theorem dJ0_init_2_60 : decode cJ0_init_2 60 = .ok (.return_, 1) := dk_177 (dk_at dksJ0_init_2_2 13 rfl rfl)
abbrev cJ0_init_3 : ByteArray := prog_33_method_2_code
def yJ0_init_3 : MethodName := ⟨RJ0, "<init>", "(Ljava/lang/String;)V"⟩
def dkwJ0_init_3_1 : List UInt8 := [182, 0, 27, 87, 42, 43, 181, 0, 31, 177]
abbrev dktJ0_init_3_1 : List UInt8 := dkwJ0_init_3_1 ++ []
def dkwJ0_init_3_0 : List UInt8 := [42, 183, 0, 1, 42, 42, 181, 0, 7, 42, 178, 0, 13, 181, 0, 17, 42, 178, 0, 20, 181, 0, 24, 42]
abbrev dktJ0_init_3_0 : List UInt8 := dkwJ0_init_3_0 ++ dktJ0_init_3_1
theorem dksJ0_init_3_0 : cJ0_init_3.data.toList.drop 0 = dktJ0_init_3_0 := by decide +kernel
theorem dksJ0_init_3_1 : cJ0_init_3.data.toList.drop 24 = dktJ0_init_3_1 := dk_seg dksJ0_init_3_0 24 rfl rfl
theorem dJ0_init_3_0 : decode cJ0_init_3 0 = .ok (.aload_n 0, 1) := dk_42 (dk_at dksJ0_init_3_0 0 rfl rfl)
theorem dJ0_init_3_1 : decode cJ0_init_3 1 = .ok (.invokespecial 1, 3) := dk_183 0 1 (dk_at dksJ0_init_3_0 1 rfl rfl)
theorem dJ0_init_3_4 : decode cJ0_init_3 4 = .ok (.aload_n 0, 1) := dk_42 (dk_at dksJ0_init_3_0 4 rfl rfl)
theorem dJ0_init_3_5 : decode cJ0_init_3 5 = .ok (.aload_n 0, 1) := dk_42 (dk_at dksJ0_init_3_0 5 rfl rfl)
theorem dJ0_init_3_6 : decode cJ0_init_3 6 = .ok (.putfield 7, 3) := dk_181 0 7 (dk_at dksJ0_init_3_0 6 rfl rfl)
theorem dJ0_init_3_9 : decode cJ0_init_3 9 = .ok (.aload_n 0, 1) := dk_42 (dk_at dksJ0_init_3_0 9 rfl rfl)
theorem dJ0_init_3_10 : decode cJ0_init_3 10 = .ok (.getstatic 13, 3) := dk_178 0 13 (dk_at dksJ0_init_3_0 10 rfl rfl)
theorem dJ0_init_3_13 : decode cJ0_init_3 13 = .ok (.putfield 17, 3) := dk_181 0 17 (dk_at dksJ0_init_3_0 13 rfl rfl)
theorem dJ0_init_3_16 : decode cJ0_init_3 16 = .ok (.aload_n 0, 1) := dk_42 (dk_at dksJ0_init_3_0 16 rfl rfl)
theorem dJ0_init_3_17 : decode cJ0_init_3 17 = .ok (.getstatic 20, 3) := dk_178 0 20 (dk_at dksJ0_init_3_0 17 rfl rfl)
theorem dJ0_init_3_20 : decode cJ0_init_3 20 = .ok (.putfield 24, 3) := dk_181 0 24 (dk_at dksJ0_init_3_0 20 rfl rfl)
theorem dJ0_init_3_23 : decode cJ0_init_3 23 = .ok (.aload_n 0, 1) := dk_42 (dk_at dksJ0_init_3_0 23 rfl rfl)
theorem dJ0_init_3_24 : decode cJ0_init_3 24 = .ok (.invokevirtual 27, 3) := dk_182 0 27 (dk_at dksJ0_init_3_1 0 rfl rfl)
theorem dJ0_init_3_27 : decode cJ0_init_3 27 = .ok (.pop, 1) := dk_87 (dk_at dksJ0_init_3_1 3 rfl rfl)
theorem dJ0_init_3_28 : decode cJ0_init_3 28 = .ok (.aload_n 0, 1) := dk_42 (dk_at dksJ0_init_3_1 4 rfl rfl)
theorem dJ0_init_3_29 : decode cJ0_init_3 29 = .ok (.aload_n 1, 1) := dk_43 (dk_at dksJ0_init_3_1 5 rfl rfl)
theorem dJ0_init_3_30 : decode cJ0_init_3 30 = .ok (.putfield 31, 3) := dk_181 0 31 (dk_at dksJ0_init_3_1 6 rfl rfl)
theorem dJ0_init_3_33 : decode cJ0_init_3 33 = .ok (.return_, 1) := dk_177 (dk_at dksJ0_init_3_1 9 rfl rfl)
theorem q146 : (Jvm.Cond.initialized "java/lang/Throwable") ∈ lw_all := lw_g (lw_at lw_m1 3 rfl) rfl
theorem q201 : (Jvm.Cond.declares ({ cls := "java/lang/Throwable", name := "<init>", desc := "()V" } : Jvm.MethodName)) ∈ lw_tbl := lw_at lw_m1 58 rfl
theorem q202 : (Jvm.Cond.declares ({ cls := "java/lang/Throwable", name := "<init>", desc := "(Ljava/lang/String;)V" } : Jvm.MethodName)) ∈ lw_tbl := lw_at lw_m1 59 rfl
theorem q206 : (Jvm.Cond.lays "java/lang/Throwable" "java/lang/Throwable" "cause" "Ljava/lang/Throwable;") ∈ lw_all := lw_g (lw_at lw_m1 63 rfl) rfl
theorem q208 : (Jvm.Cond.lays "java/lang/Throwable" "java/lang/Throwable" "stackTrace" "[Ljava/lang/StackTraceElement;") ∈ lw_all := lw_g (lw_at lw_m1 65 rfl) rfl
theorem q210 : (Jvm.Cond.lays "java/lang/Throwable" "java/lang/Throwable" "suppressedExceptions" "Ljava/util/List;") ∈ lw_all := lw_g (lw_at lw_m1 67 rfl) rfl
theorem q212 : (Jvm.Cond.lays "java/lang/Throwable" "java/lang/Throwable" "detailMessage" "Ljava/lang/String;") ∈ lw_all := lw_g (lw_at lw_m1 69 rfl) rfl
theorem q214 : (Jvm.Cond.lays "java/lang/Throwable" "java/lang/Throwable" "backtrace" "Ljava/lang/Object;") ∈ lw_all := lw_g (lw_at lw_m1 71 rfl) rfl
theorem q215 : (Jvm.Cond.fieldLink "java/lang/Throwable" (198 : Nat) "java/lang/Throwable" "backtrace" "Ljava/lang/Object;") ∈ lw_all := lw_g (lw_at lw_m1 72 rfl) rfl
theorem q216 : (Jvm.Cond.superclass "java/lang/Throwable" "java/lang/Object") ∈ lw_all := lw_g (lw_at lw_m1 73 rfl) rfl
theorem q217 : (Jvm.Cond.instanceMethod ({ cls := "java/lang/Throwable", name := "<init>", desc := "()V" } : Jvm.MethodName)) ∈ lw_all := lw_g (lw_at lw_m1 74 rfl) rfl
theorem q218 : (Jvm.Cond.code ({ cls := "java/lang/Throwable", name := "<init>", desc := "()V" } : Jvm.MethodName) prog_33_method_1_code (1 : Nat) (Option.none : Option Jvm.ClassFile.FieldType)) ∈ lw_all := lw_g (lw_at lw_m1 75 rfl) rfl
theorem q219 : (Jvm.Cond.methodLink "java/lang/Throwable" (1 : Nat) ({ cls := "java/lang/Object", name := "<init>", desc := "()V" } : Jvm.MethodName)) ∈ lw_all := lw_g (lw_at lw_m1 76 rfl) rfl
theorem q220 : (Jvm.Cond.fieldLink "java/lang/Throwable" (13 : Nat) "java/lang/Throwable" "UNASSIGNED_STACK" "[Ljava/lang/StackTraceElement;") ∈ lw_all := lw_g (lw_at lw_m1 77 rfl) rfl
theorem q221 : (Jvm.Cond.laysStatic "java/lang/Throwable" "UNASSIGNED_STACK" "[Ljava/lang/StackTraceElement;") ∈ lw_tbl := lw_at lw_m1 78 rfl
theorem q222 : (Jvm.Cond.fieldLink "java/lang/Throwable" (20 : Nat) "java/lang/Throwable" "SUPPRESSED_SENTINEL" "Ljava/util/List;") ∈ lw_all := lw_g (lw_at lw_m1 79 rfl) rfl
theorem q223 : (Jvm.Cond.laysStatic "java/lang/Throwable" "SUPPRESSED_SENTINEL" "Ljava/util/List;") ∈ lw_tbl := lw_at lw_m1 80 rfl
theorem q224 : (Jvm.Cond.methodLink "java/lang/Throwable" (27 : Nat) ({ cls := "java/lang/Throwable", name := "fillInStackTrace", desc := "()Ljava/lang/Throwable;" } : Jvm.MethodName)) ∈ lw_all := lw_g (lw_at lw_m1 81 rfl) rfl
theorem q225 : (Jvm.Cond.instanceMethod ({ cls := "java/lang/Throwable", name := "fillInStackTrace", desc := "()Ljava/lang/Throwable;" } : Jvm.MethodName)) ∈ lw_all := lw_g (lw_at lw_m1 82 rfl) rfl
theorem q226 : (Jvm.Cond.sameMethod "java/lang/Throwable" "java/lang/Throwable" "fillInStackTrace" "()Ljava/lang/Throwable;") ∈ lw_all := lw_g (lw_at lw_m1 83 rfl) rfl
theorem q230 : (Jvm.Cond.codeSync ({ cls := "java/lang/Throwable", name := "fillInStackTrace", desc := "()Ljava/lang/Throwable;" } : Jvm.MethodName) prog_33_method_18_code (1 : Nat) (Option.some (Jvm.ClassFile.FieldType.object "java/lang/Throwable"))) ∈ lw_all := lw_g (lw_at lw_m1 87 rfl) rfl
theorem q231 : (Jvm.Cond.methodLink "java/lang/Throwable" (202 : Nat) ({ cls := "java/lang/Throwable", name := "fillInStackTrace", desc := "(I)Ljava/lang/Throwable;" } : Jvm.MethodName)) ∈ lw_all := lw_g (lw_at lw_m1 88 rfl) rfl
theorem q232 : (Jvm.Cond.privateMethod ({ cls := "java/lang/Throwable", name := "fillInStackTrace", desc := "(I)Ljava/lang/Throwable;" } : Jvm.MethodName)) ∈ lw_tbl := lw_at lw_m1 89 rfl
theorem q233 : (Jvm.Cond.instanceMethod ({ cls := "java/lang/Throwable", name := "fillInStackTrace", desc := "(I)Ljava/lang/Throwable;" } : Jvm.MethodName)) ∈ lw_all := lw_g (lw_at lw_m1 90 rfl) rfl
theorem q234 : (Jvm.Cond.instantiable "java/lang/Throwable" (6 : Nat)) ∈ lw_all := lw_g (lw_at lw_m1 91 rfl) rfl
theorem q235 : (Jvm.Cond.native ({ cls := "java/lang/Throwable", name := "fillInStackTrace", desc := "(I)Ljava/lang/Throwable;" } : Jvm.MethodName)) ∈ lw_all := lw_g (lw_at lw_m1 92 rfl) rfl
theorem q243 : (Jvm.Cond.instanceMethod ({ cls := "java/lang/Throwable", name := "<init>", desc := "(Ljava/lang/String;Ljava/lang/Throwable;ZZ)V" } : Jvm.MethodName)) ∈ lw_all := lw_g (lw_at lw_m1 100 rfl) rfl
theorem q244 : (Jvm.Cond.code ({ cls := "java/lang/Throwable", name := "<init>", desc := "(Ljava/lang/String;Ljava/lang/Throwable;ZZ)V" } : Jvm.MethodName) prog_33_method_5_code (5 : Nat) (Option.none : Option Jvm.ClassFile.FieldType)) ∈ lw_all := lw_g (lw_at lw_m1 101 rfl) rfl
theorem q249 : (Jvm.Cond.fieldLink "java/lang/Throwable" (198 : Nat) "java/lang/Throwable" "backtrace" "Ljava/lang/Object;") ∈ lw_all := lw_g (lw_at lw_m1 106 rfl) rfl
theorem q250 : (Jvm.Cond.fieldLink "java/lang/Throwable" (31 : Nat) "java/lang/Throwable" "detailMessage" "Ljava/lang/String;") ∈ lw_all := lw_g (lw_at lw_m1 107 rfl) rfl
theorem q251 : (Jvm.Cond.fieldLink "java/lang/Throwable" (7 : Nat) "java/lang/Throwable" "cause" "Ljava/lang/Throwable;") ∈ lw_all := lw_g (lw_at lw_m1 108 rfl) rfl
theorem q252 : (Jvm.Cond.fieldLink "java/lang/Throwable" (17 : Nat) "java/lang/Throwable" "stackTrace" "[Ljava/lang/StackTraceElement;") ∈ lw_all := lw_g (lw_at lw_m1 109 rfl) rfl
theorem q253 : (Jvm.Cond.fieldLink "java/lang/Throwable" (24 : Nat) "java/lang/Throwable" "suppressedExceptions" "Ljava/util/List;") ∈ lw_all := lw_g (lw_at lw_m1 110 rfl) rfl
theorem q258 : (Jvm.Cond.soleField "java/lang/Throwable" "backtrace") ∈ lw_all := lw_g (lw_at lw_m1 115 rfl) rfl
theorem q259 : (Jvm.Cond.soleField "java/lang/Throwable" "detailMessage") ∈ lw_all := lw_g (lw_at lw_m1 116 rfl) rfl
theorem q260 : (Jvm.Cond.soleField "java/lang/Throwable" "cause") ∈ lw_all := lw_g (lw_at lw_m1 117 rfl) rfl
theorem q261 : (Jvm.Cond.soleField "java/lang/Throwable" "stackTrace") ∈ lw_all := lw_g (lw_at lw_m1 118 rfl) rfl
theorem q263 : (Jvm.Cond.soleField "java/lang/Throwable" "depth") ∈ lw_all := lw_g (lw_at lw_m1 120 rfl) rfl
theorem q264 : (Jvm.Cond.soleField "java/lang/Throwable" "suppressedExceptions") ∈ lw_all := lw_g (lw_at lw_m1 121 rfl) rfl
theorem q601 : (Jvm.Cond.instanceMethod ({ cls := "java/lang/Throwable", name := "<init>", desc := "(Ljava/lang/String;)V" } : Jvm.MethodName)) ∈ lw_all := lw_g (lw_at lw_m2 218 rfl) rfl
theorem q602 : (Jvm.Cond.code ({ cls := "java/lang/Throwable", name := "<init>", desc := "(Ljava/lang/String;)V" } : Jvm.MethodName) prog_33_method_2_code (2 : Nat) (Option.none : Option Jvm.ClassFile.FieldType)) ∈ lw_all := lw_g (lw_at lw_m2 219 rfl) rfl
theorem q2288 : (Jvm.Cond.sameMethod "java/lang/Throwable" "java/lang/Throwable" "fillInStackTrace" "(I)Ljava/lang/Throwable;") ∈ lw_all := lw_g (lw_at lw_m9 225 rfl) rfl
theorem in_J0 : ∀ w ∈ wsJ00, w ∈ lw_all := lw_in wsJ00 [206, 208, 210, 212, 214] (by decide +kernel) (by decide +kernel)

/-! java/lang/Exception -/
set_option maxRecDepth 100000
def RJ1 : String := "java/lang/Exception"
abbrev cJ1_init : ByteArray := prog_23_method_5_code
def yJ1_init : MethodName := ⟨RJ1, "<init>", "(Ljava/lang/String;Ljava/lang/Throwable;ZZ)V"⟩
def dkwJ1_init_0 : List UInt8 := [42, 43, 44, 29, 21, 4, 183, 0, 16, 177]
abbrev dktJ1_init_0 : List UInt8 := dkwJ1_init_0 ++ []
theorem dksJ1_init_0 : cJ1_init.data.toList.drop 0 = dktJ1_init_0 := by decide +kernel
theorem dJ1_init_0 : decode cJ1_init 0 = .ok (.aload_n 0, 1) := dk_42 (dk_at dksJ1_init_0 0 rfl rfl)
theorem dJ1_init_1 : decode cJ1_init 1 = .ok (.aload_n 1, 1) := dk_43 (dk_at dksJ1_init_0 1 rfl rfl)
theorem dJ1_init_2 : decode cJ1_init 2 = .ok (.aload_n 2, 1) := dk_44 (dk_at dksJ1_init_0 2 rfl rfl)
theorem dJ1_init_3 : decode cJ1_init 3 = .ok (.iload_n 3, 1) := dk_29 (dk_at dksJ1_init_0 3 rfl rfl)
theorem dJ1_init_4 : decode cJ1_init 4 = .ok (.iload 4, 2) := dk_21 4 (dk_at dksJ1_init_0 4 rfl rfl)
theorem dJ1_init_6 : decode cJ1_init 6 = .ok (.invokespecial 16, 3) := dk_183 0 16 (dk_at dksJ1_init_0 6 rfl rfl)
theorem dJ1_init_9 : decode cJ1_init 9 = .ok (.return_, 1) := dk_177 (dk_at dksJ1_init_0 9 rfl rfl)
abbrev cJ1_init_2 : ByteArray := prog_23_method_2_code
def yJ1_init_2 : MethodName := ⟨RJ1, "<init>", "(Ljava/lang/String;)V"⟩
def dkwJ1_init_2_0 : List UInt8 := [42, 43, 183, 0, 7, 177]
abbrev dktJ1_init_2_0 : List UInt8 := dkwJ1_init_2_0 ++ []
theorem dksJ1_init_2_0 : cJ1_init_2.data.toList.drop 0 = dktJ1_init_2_0 := by decide +kernel
theorem dJ1_init_2_0 : decode cJ1_init_2 0 = .ok (.aload_n 0, 1) := dk_42 (dk_at dksJ1_init_2_0 0 rfl rfl)
theorem dJ1_init_2_1 : decode cJ1_init_2 1 = .ok (.aload_n 1, 1) := dk_43 (dk_at dksJ1_init_2_0 1 rfl rfl)
theorem dJ1_init_2_2 : decode cJ1_init_2 2 = .ok (.invokespecial 7, 3) := dk_183 0 7 (dk_at dksJ1_init_2_0 2 rfl rfl)
theorem dJ1_init_2_5 : decode cJ1_init_2 5 = .ok (.return_, 1) := dk_177 (dk_at dksJ1_init_2_0 5 rfl rfl)
theorem q147 : (Jvm.Cond.initialized "java/lang/Exception") ∈ lw_all := lw_g (lw_at lw_m1 4 rfl) rfl
theorem q199 : (Jvm.Cond.declares ({ cls := "java/lang/Exception", name := "<init>", desc := "()V" } : Jvm.MethodName)) ∈ lw_tbl := lw_at lw_m1 56 rfl
theorem q200 : (Jvm.Cond.declares ({ cls := "java/lang/Exception", name := "<init>", desc := "(Ljava/lang/String;)V" } : Jvm.MethodName)) ∈ lw_tbl := lw_at lw_m1 57 rfl
theorem q240 : (Jvm.Cond.instanceMethod ({ cls := "java/lang/Exception", name := "<init>", desc := "(Ljava/lang/String;Ljava/lang/Throwable;ZZ)V" } : Jvm.MethodName)) ∈ lw_all := lw_g (lw_at lw_m1 97 rfl) rfl
theorem q241 : (Jvm.Cond.code ({ cls := "java/lang/Exception", name := "<init>", desc := "(Ljava/lang/String;Ljava/lang/Throwable;ZZ)V" } : Jvm.MethodName) prog_23_method_5_code (5 : Nat) (Option.none : Option Jvm.ClassFile.FieldType)) ∈ lw_all := lw_g (lw_at lw_m1 98 rfl) rfl
theorem q242 : (Jvm.Cond.methodLink "java/lang/Exception" (16 : Nat) ({ cls := "java/lang/Throwable", name := "<init>", desc := "(Ljava/lang/String;Ljava/lang/Throwable;ZZ)V" } : Jvm.MethodName)) ∈ lw_all := lw_g (lw_at lw_m1 99 rfl) rfl
theorem q598 : (Jvm.Cond.instanceMethod ({ cls := "java/lang/Exception", name := "<init>", desc := "(Ljava/lang/String;)V" } : Jvm.MethodName)) ∈ lw_all := lw_g (lw_at lw_m2 215 rfl) rfl
theorem q599 : (Jvm.Cond.code ({ cls := "java/lang/Exception", name := "<init>", desc := "(Ljava/lang/String;)V" } : Jvm.MethodName) prog_23_method_2_code (2 : Nat) (Option.none : Option Jvm.ClassFile.FieldType)) ∈ lw_all := lw_g (lw_at lw_m2 216 rfl) rfl
theorem q600 : (Jvm.Cond.methodLink "java/lang/Exception" (7 : Nat) ({ cls := "java/lang/Throwable", name := "<init>", desc := "(Ljava/lang/String;)V" } : Jvm.MethodName)) ∈ lw_all := lw_g (lw_at lw_m2 217 rfl) rfl

/-! java/lang/RuntimeException -/
set_option maxRecDepth 100000
def RJ2 : String := "java/lang/RuntimeException"
abbrev cJ2_init : ByteArray := prog_28_method_2_code
def yJ2_init : MethodName := ⟨RJ2, "<init>", "(Ljava/lang/String;)V"⟩
def dkwJ2_init_0 : List UInt8 := [42, 43, 183, 0, 7, 177]
abbrev dktJ2_init_0 : List UInt8 := dkwJ2_init_0 ++ []
theorem dksJ2_init_0 : cJ2_init.data.toList.drop 0 = dktJ2_init_0 := by decide +kernel
theorem dJ2_init_0 : decode cJ2_init 0 = .ok (.aload_n 0, 1) := dk_42 (dk_at dksJ2_init_0 0 rfl rfl)
theorem dJ2_init_1 : decode cJ2_init 1 = .ok (.aload_n 1, 1) := dk_43 (dk_at dksJ2_init_0 1 rfl rfl)
theorem dJ2_init_2 : decode cJ2_init 2 = .ok (.invokespecial 7, 3) := dk_183 0 7 (dk_at dksJ2_init_0 2 rfl rfl)
theorem dJ2_init_5 : decode cJ2_init 5 = .ok (.return_, 1) := dk_177 (dk_at dksJ2_init_0 5 rfl rfl)
theorem q156 : (Jvm.Cond.initialized "java/lang/RuntimeException") ∈ lw_all := lw_g (lw_at lw_m1 13 rfl) rfl
theorem q595 : (Jvm.Cond.instanceMethod ({ cls := "java/lang/RuntimeException", name := "<init>", desc := "(Ljava/lang/String;)V" } : Jvm.MethodName)) ∈ lw_all := lw_g (lw_at lw_m2 212 rfl) rfl
theorem q596 : (Jvm.Cond.code ({ cls := "java/lang/RuntimeException", name := "<init>", desc := "(Ljava/lang/String;)V" } : Jvm.MethodName) prog_28_method_2_code (2 : Nat) (Option.none : Option Jvm.ClassFile.FieldType)) ∈ lw_all := lw_g (lw_at lw_m2 213 rfl) rfl
theorem q597 : (Jvm.Cond.methodLink "java/lang/RuntimeException" (7 : Nat) ({ cls := "java/lang/Exception", name := "<init>", desc := "(Ljava/lang/String;)V" } : Jvm.MethodName)) ∈ lw_all := lw_g (lw_at lw_m2 214 rfl) rfl
theorem q611 : (Jvm.Cond.declares ({ cls := "java/lang/RuntimeException", name := "<init>", desc := "()V" } : Jvm.MethodName)) ∈ lw_tbl := lw_at lw_m2 228 rfl
theorem q612 : (Jvm.Cond.declares ({ cls := "java/lang/RuntimeException", name := "<init>", desc := "(Ljava/lang/String;)V" } : Jvm.MethodName)) ∈ lw_tbl := lw_at lw_m2 229 rfl

/-! java/lang/NegativeArraySizeException -/
set_option maxRecDepth 100000
def RJ3 : String := "java/lang/NegativeArraySizeException"
def TJ3 : u_T := fun k => match k with
  | 0 => ("java/lang/Throwable", "backtrace", "Ljava/lang/Object;", false)
  | 1 => ("java/lang/Throwable", "detailMessage", "Ljava/lang/String;", false)
  | 2 => ("java/lang/Throwable", "cause", "Ljava/lang/Throwable;", false)
  | 3 => ("java/lang/Throwable", "stackTrace", "[Ljava/lang/StackTraceElement;", false)
  | 4 => ("java/lang/Throwable", "depth", "I", false)
  | _ => ("java/lang/Throwable", "suppressedExceptions", "Ljava/util/List;", false)
def tyJ3 : Nat → FieldType := fun k => match k with
  | 0 => .object "java/lang/Object"
  | 1 => .object "java/lang/String"
  | 2 => .object "java/lang/Throwable"
  | 3 => .array (.object "java/lang/StackTraceElement")
  | 4 => .int
  | _ => .object "java/util/List"
abbrev wsJ30 : List Cond := u_ws RJ3 TJ3 6
theorem nmJ3 : ∀ a, a < 6 → ∀ b, b < 6 → a ≠ b → (TJ3 a).2.1 ≠ (TJ3 b).2.1 := by decide +kernel
theorem tyJ3_ok : ∀ k, k < 6 → parseFieldDescriptor (TJ3 k).2.2.1 = some (tyJ3 k) := by decide +kernel
abbrev cJ3_init : ByteArray := prog_27_method_2_code
def yJ3_init : MethodName := ⟨RJ3, "<init>", "(Ljava/lang/String;)V"⟩
def dkwJ3_init_0 : List UInt8 := [42, 43, 183, 0, 7, 177]
abbrev dktJ3_init_0 : List UInt8 := dkwJ3_init_0 ++ []
theorem dksJ3_init_0 : cJ3_init.data.toList.drop 0 = dktJ3_init_0 := by decide +kernel
theorem dJ3_init_0 : decode cJ3_init 0 = .ok (.aload_n 0, 1) := dk_42 (dk_at dksJ3_init_0 0 rfl rfl)
theorem dJ3_init_1 : decode cJ3_init 1 = .ok (.aload_n 1, 1) := dk_43 (dk_at dksJ3_init_0 1 rfl rfl)
theorem dJ3_init_2 : decode cJ3_init 2 = .ok (.invokespecial 7, 3) := dk_183 0 7 (dk_at dksJ3_init_0 2 rfl rfl)
theorem dJ3_init_5 : decode cJ3_init 5 = .ok (.return_, 1) := dk_177 (dk_at dksJ3_init_0 5 rfl rfl)
theorem q157 : (Jvm.Cond.initialized "java/lang/NegativeArraySizeException") ∈ lw_all := lw_g (lw_at lw_m1 14 rfl) rfl
theorem q229 : (Jvm.Cond.selects "java/lang/NegativeArraySizeException" ({ cls := "java/lang/Throwable", name := "fillInStackTrace", desc := "()Ljava/lang/Throwable;" } : Jvm.MethodName) ({ cls := "java/lang/Throwable", name := "fillInStackTrace", desc := "()Ljava/lang/Throwable;" } : Jvm.MethodName)) ∈ lw_all := lw_g (lw_at lw_m1 86 rfl) rfl
theorem q591 : (Jvm.Cond.instantiable "java/lang/NegativeArraySizeException" (6 : Nat)) ∈ lw_all := lw_g (lw_at lw_m2 208 rfl) rfl
theorem q592 : (Jvm.Cond.instanceMethod ({ cls := "java/lang/NegativeArraySizeException", name := "<init>", desc := "(Ljava/lang/String;)V" } : Jvm.MethodName)) ∈ lw_all := lw_g (lw_at lw_m2 209 rfl) rfl
theorem q593 : (Jvm.Cond.code ({ cls := "java/lang/NegativeArraySizeException", name := "<init>", desc := "(Ljava/lang/String;)V" } : Jvm.MethodName) prog_27_method_2_code (2 : Nat) (Option.none : Option Jvm.ClassFile.FieldType)) ∈ lw_all := lw_g (lw_at lw_m2 210 rfl) rfl
theorem q594 : (Jvm.Cond.methodLink "java/lang/NegativeArraySizeException" (7 : Nat) ({ cls := "java/lang/RuntimeException", name := "<init>", desc := "(Ljava/lang/String;)V" } : Jvm.MethodName)) ∈ lw_all := lw_g (lw_at lw_m2 211 rfl) rfl
theorem q603 : (Jvm.Cond.lays "java/lang/NegativeArraySizeException" "java/lang/Throwable" "backtrace" "Ljava/lang/Object;") ∈ lw_all := lw_g (lw_at lw_m2 220 rfl) rfl
theorem q604 : (Jvm.Cond.lays "java/lang/NegativeArraySizeException" "java/lang/Throwable" "detailMessage" "Ljava/lang/String;") ∈ lw_all := lw_g (lw_at lw_m2 221 rfl) rfl
theorem q605 : (Jvm.Cond.lays "java/lang/NegativeArraySizeException" "java/lang/Throwable" "cause" "Ljava/lang/Throwable;") ∈ lw_all := lw_g (lw_at lw_m2 222 rfl) rfl
theorem q606 : (Jvm.Cond.lays "java/lang/NegativeArraySizeException" "java/lang/Throwable" "stackTrace" "[Ljava/lang/StackTraceElement;") ∈ lw_all := lw_g (lw_at lw_m2 223 rfl) rfl
theorem q607 : (Jvm.Cond.lays "java/lang/NegativeArraySizeException" "java/lang/Throwable" "depth" "I") ∈ lw_all := lw_g (lw_at lw_m2 224 rfl) rfl
theorem q608 : (Jvm.Cond.lays "java/lang/NegativeArraySizeException" "java/lang/Throwable" "suppressedExceptions" "Ljava/util/List;") ∈ lw_all := lw_g (lw_at lw_m2 225 rfl) rfl
theorem q609 : (Jvm.Cond.superclass "java/lang/NegativeArraySizeException" "java/lang/RuntimeException") ∈ lw_all := lw_g (lw_at lw_m2 226 rfl) rfl
theorem q610 : (Jvm.Cond.castable "java/lang/NegativeArraySizeException" "java/lang/NegativeArraySizeException") ∈ lw_tbl := lw_at lw_m2 227 rfl
theorem q613 : (Jvm.Cond.selects "java/lang/NegativeArraySizeException" ({ cls := "java/lang/Throwable", name := "fillInStackTrace", desc := "(I)Ljava/lang/Throwable;" } : Jvm.MethodName) ({ cls := "java/lang/Throwable", name := "fillInStackTrace", desc := "(I)Ljava/lang/Throwable;" } : Jvm.MethodName)) ∈ lw_all := lw_g (lw_at lw_m2 230 rfl) rfl
theorem in_J3 : ∀ w ∈ wsJ30, w ∈ lw_all := lw_in wsJ30 [603, 604, 605, 606, 607, 608] (by decide +kernel) (by decide +kernel)

/-! java/lang/String -/
set_option maxRecDepth 100000
def RJ4 : String := "java/lang/String"
def TJ4 : u_T := fun k => match k with
  | 0 => ("java/lang/String", "value", "[B", true)
  | _ => ("java/lang/String", "coder", "B", true)
def tyJ4 : Nat → FieldType := fun k => match k with
  | 0 => .array .byte
  | _ => .byte
abbrev wsJ40 : List Cond := u_ws RJ4 TJ4 2
theorem nmJ4 : ∀ a, a < 2 → ∀ b, b < 2 → a ≠ b → (TJ4 a).2.1 ≠ (TJ4 b).2.1 := by decide +kernel
theorem tyJ4_ok : ∀ k, k < 2 → parseFieldDescriptor (TJ4 k).2.2.1 = some (tyJ4 k) := by decide +kernel
abbrev cJ4_length : ByteArray := prog_29_method_54_code
def yJ4_length : MethodName := ⟨RJ4, "length", "()I"⟩
def dkwJ4_length_0 : List UInt8 := [42, 180, 0, 9, 190, 42, 182, 1, 79, 122, 172]
abbrev dktJ4_length_0 : List UInt8 := dkwJ4_length_0 ++ []
theorem dksJ4_length_0 : cJ4_length.data.toList.drop 0 = dktJ4_length_0 := by decide +kernel
theorem dJ4_length_0 : decode cJ4_length 0 = .ok (.aload_n 0, 1) := dk_42 (dk_at dksJ4_length_0 0 rfl rfl)
theorem dJ4_length_1 : decode cJ4_length 1 = .ok (.getfield 9, 3) := dk_180 0 9 (dk_at dksJ4_length_0 1 rfl rfl)
theorem dJ4_length_4 : decode cJ4_length 4 = .ok (.arraylength, 1) := dk_190 (dk_at dksJ4_length_0 4 rfl rfl)
theorem dJ4_length_5 : decode cJ4_length 5 = .ok (.aload_n 0, 1) := dk_42 (dk_at dksJ4_length_0 5 rfl rfl)
theorem dJ4_length_6 : decode cJ4_length 6 = .ok (.invokevirtual 335, 3) := dk_182 1 79 (dk_at dksJ4_length_0 6 rfl rfl)
theorem dJ4_length_9 : decode cJ4_length 9 = .ok (.ishr, 1) := dk_122 (dk_at dksJ4_length_0 9 rfl rfl)
theorem dJ4_length_10 : decode cJ4_length 10 = .ok (.ireturn, 1) := dk_172 (dk_at dksJ4_length_0 10 rfl rfl)
abbrev cJ4_coder : ByteArray := prog_29_method_152_code
def yJ4_coder : MethodName := ⟨RJ4, "coder", "()B"⟩
def dkwJ4_coder_0 : List UInt8 := [178, 0, 38, 153, 0, 10, 42, 180, 0, 15, 167, 0, 4, 4, 172]
abbrev dktJ4_coder_0 : List UInt8 := dkwJ4_coder_0 ++ []
theorem dksJ4_coder_0 : cJ4_coder.data.toList.drop 0 = dktJ4_coder_0 := by decide +kernel
theorem dJ4_coder_0 : decode cJ4_coder 0 = .ok (.getstatic 38, 3) := dk_178 0 38 (dk_at dksJ4_coder_0 0 rfl rfl)
theorem dJ4_coder_3 : decode cJ4_coder 3 = .ok (.ifCond .eq 10, 3) := dk_153 0 10 (dk_at dksJ4_coder_0 3 rfl rfl)
theorem dJ4_coder_6 : decode cJ4_coder 6 = .ok (.aload_n 0, 1) := dk_42 (dk_at dksJ4_coder_0 6 rfl rfl)
theorem dJ4_coder_7 : decode cJ4_coder 7 = .ok (.getfield 15, 3) := dk_180 0 15 (dk_at dksJ4_coder_0 7 rfl rfl)
theorem dJ4_coder_10 : decode cJ4_coder 10 = .ok (.goto 4, 3) := dk_167 0 4 (dk_at dksJ4_coder_0 10 rfl rfl)
theorem dJ4_coder_13 : decode cJ4_coder 13 = .ok (.iconst 1, 1) := dk_4 (dk_at dksJ4_coder_0 13 rfl rfl)
theorem dJ4_coder_14 : decode cJ4_coder 14 = .ok (.ireturn, 1) := dk_172 (dk_at dksJ4_coder_0 14 rfl rfl)
abbrev cJ4_charAt : ByteArray := prog_29_method_56_code
def yJ4_charAt : MethodName := ⟨RJ4, "charAt", "(I)C"⟩
def dkwJ4_charAt_1 : List UInt8 := [172]
abbrev dktJ4_charAt_1 : List UInt8 := dkwJ4_charAt_1 ++ []
def dkwJ4_charAt_0 : List UInt8 := [42, 182, 1, 236, 153, 0, 12, 42, 180, 0, 9, 27, 184, 1, 239, 172, 42, 180, 0, 9, 27, 184, 1, 242]
abbrev dktJ4_charAt_0 : List UInt8 := dkwJ4_charAt_0 ++ dktJ4_charAt_1
theorem dksJ4_charAt_0 : cJ4_charAt.data.toList.drop 0 = dktJ4_charAt_0 := by decide +kernel
theorem dksJ4_charAt_1 : cJ4_charAt.data.toList.drop 24 = dktJ4_charAt_1 := dk_seg dksJ4_charAt_0 24 rfl rfl
theorem dJ4_charAt_0 : decode cJ4_charAt 0 = .ok (.aload_n 0, 1) := dk_42 (dk_at dksJ4_charAt_0 0 rfl rfl)
theorem dJ4_charAt_1 : decode cJ4_charAt 1 = .ok (.invokevirtual 492, 3) := dk_182 1 236 (dk_at dksJ4_charAt_0 1 rfl rfl)
theorem dJ4_charAt_4 : decode cJ4_charAt 4 = .ok (.ifCond .eq 12, 3) := dk_153 0 12 (dk_at dksJ4_charAt_0 4 rfl rfl)
theorem dJ4_charAt_7 : decode cJ4_charAt 7 = .ok (.aload_n 0, 1) := dk_42 (dk_at dksJ4_charAt_0 7 rfl rfl)
theorem dJ4_charAt_8 : decode cJ4_charAt 8 = .ok (.getfield 9, 3) := dk_180 0 9 (dk_at dksJ4_charAt_0 8 rfl rfl)
theorem dJ4_charAt_11 : decode cJ4_charAt 11 = .ok (.iload_n 1, 1) := dk_27 (dk_at dksJ4_charAt_0 11 rfl rfl)
theorem dJ4_charAt_12 : decode cJ4_charAt 12 = .ok (.invokestatic 495, 3) := dk_184 1 239 (dk_at dksJ4_charAt_0 12 rfl rfl)
theorem dJ4_charAt_15 : decode cJ4_charAt 15 = .ok (.ireturn, 1) := dk_172 (dk_at dksJ4_charAt_0 15 rfl rfl)
theorem dJ4_charAt_16 : decode cJ4_charAt 16 = .ok (.aload_n 0, 1) := dk_42 (dk_at dksJ4_charAt_0 16 rfl rfl)
theorem dJ4_charAt_17 : decode cJ4_charAt 17 = .ok (.getfield 9, 3) := dk_180 0 9 (dk_at dksJ4_charAt_0 17 rfl rfl)
theorem dJ4_charAt_20 : decode cJ4_charAt 20 = .ok (.iload_n 1, 1) := dk_27 (dk_at dksJ4_charAt_0 20 rfl rfl)
theorem dJ4_charAt_21 : decode cJ4_charAt 21 = .ok (.invokestatic 498, 3) := dk_184 1 242 (dk_at dksJ4_charAt_0 21 rfl rfl)
theorem dJ4_charAt_24 : decode cJ4_charAt 24 = .ok (.ireturn, 1) := dk_172 (dk_at dksJ4_charAt_1 0 rfl rfl)
abbrev cJ4_isLatin1 : ByteArray := prog_29_method_154_code
def yJ4_isLatin1 : MethodName := ⟨RJ4, "isLatin1", "()Z"⟩
def dkwJ4_isLatin1_0 : List UInt8 := [178, 0, 38, 153, 0, 14, 42, 180, 0, 15, 154, 0, 7, 4, 167, 0, 4, 3, 172]
abbrev dktJ4_isLatin1_0 : List UInt8 := dkwJ4_isLatin1_0 ++ []
theorem dksJ4_isLatin1_0 : cJ4_isLatin1.data.toList.drop 0 = dktJ4_isLatin1_0 := by decide +kernel
theorem dJ4_isLatin1_0 : decode cJ4_isLatin1 0 = .ok (.getstatic 38, 3) := dk_178 0 38 (dk_at dksJ4_isLatin1_0 0 rfl rfl)
theorem dJ4_isLatin1_3 : decode cJ4_isLatin1 3 = .ok (.ifCond .eq 14, 3) := dk_153 0 14 (dk_at dksJ4_isLatin1_0 3 rfl rfl)
theorem dJ4_isLatin1_6 : decode cJ4_isLatin1 6 = .ok (.aload_n 0, 1) := dk_42 (dk_at dksJ4_isLatin1_0 6 rfl rfl)
theorem dJ4_isLatin1_7 : decode cJ4_isLatin1 7 = .ok (.getfield 15, 3) := dk_180 0 15 (dk_at dksJ4_isLatin1_0 7 rfl rfl)
theorem dJ4_isLatin1_10 : decode cJ4_isLatin1 10 = .ok (.ifCond .ne 7, 3) := dk_154 0 7 (dk_at dksJ4_isLatin1_0 10 rfl rfl)
theorem dJ4_isLatin1_13 : decode cJ4_isLatin1 13 = .ok (.iconst 1, 1) := dk_4 (dk_at dksJ4_isLatin1_0 13 rfl rfl)
theorem dJ4_isLatin1_14 : decode cJ4_isLatin1 14 = .ok (.goto 4, 3) := dk_167 0 4 (dk_at dksJ4_isLatin1_0 14 rfl rfl)
theorem dJ4_isLatin1_17 : decode cJ4_isLatin1 17 = .ok (.iconst 0, 1) := dk_3 (dk_at dksJ4_isLatin1_0 17 rfl rfl)
theorem dJ4_isLatin1_18 : decode cJ4_isLatin1 18 = .ok (.ireturn, 1) := dk_172 (dk_at dksJ4_isLatin1_0 18 rfl rfl)
abbrev cJ4_checkIndex : ByteArray := prog_29_method_155_code
def yJ4_checkIndex : MethodName := ⟨RJ4, "checkIndex", "(II)V"⟩
def dkwJ4_checkIndex_0 : List UInt8 := [26, 27, 178, 4, 29, 184, 4, 35, 87, 177]
abbrev dktJ4_checkIndex_0 : List UInt8 := dkwJ4_checkIndex_0 ++ []
theorem dksJ4_checkIndex_0 : cJ4_checkIndex.data.toList.drop 0 = dktJ4_checkIndex_0 := by decide +kernel
theorem dJ4_checkIndex_0 : decode cJ4_checkIndex 0 = .ok (.iload_n 0, 1) := dk_26 (dk_at dksJ4_checkIndex_0 0 rfl rfl)
theorem dJ4_checkIndex_1 : decode cJ4_checkIndex 1 = .ok (.iload_n 1, 1) := dk_27 (dk_at dksJ4_checkIndex_0 1 rfl rfl)
theorem dJ4_checkIndex_2 : decode cJ4_checkIndex 2 = .ok (.getstatic 1053, 3) := dk_178 4 29 (dk_at dksJ4_checkIndex_0 2 rfl rfl)
theorem dJ4_checkIndex_5 : decode cJ4_checkIndex 5 = .ok (.invokestatic 1059, 3) := dk_184 4 35 (dk_at dksJ4_checkIndex_0 5 rfl rfl)
theorem dJ4_checkIndex_8 : decode cJ4_checkIndex 8 = .ok (.pop, 1) := dk_87 (dk_at dksJ4_checkIndex_0 8 rfl rfl)
theorem dJ4_checkIndex_9 : decode cJ4_checkIndex 9 = .ok (.return_, 1) := dk_177 (dk_at dksJ4_checkIndex_0 9 rfl rfl)
theorem q158 : (Jvm.Cond.initialized "java/lang/String") ∈ lw_all := lw_g (lw_at lw_m1 15 rfl) rfl
theorem q614 : (Jvm.Cond.instantiable "java/lang/String" (4 : Nat)) ∈ lw_all := lw_g (lw_at lw_m2 231 rfl) rfl
theorem q615 : (Jvm.Cond.laysFinal "java/lang/String" "java/lang/String" "value" "[B") ∈ lw_all := lw_g (lw_at lw_m2 232 rfl) rfl
theorem q616 : (Jvm.Cond.soleField "java/lang/String" "value") ∈ lw_all := lw_g (lw_at lw_m2 233 rfl) rfl
theorem q617 : (Jvm.Cond.laysFinal "java/lang/String" "java/lang/String" "coder" "B") ∈ lw_all := lw_g (lw_at lw_m2 234 rfl) rfl
theorem q618 : (Jvm.Cond.soleField "java/lang/String" "coder") ∈ lw_all := lw_g (lw_at lw_m2 235 rfl) rfl
theorem q761 : (Jvm.Cond.instanceMethod ({ cls := "java/lang/String", name := "length", desc := "()I" } : Jvm.MethodName)) ∈ lw_all := lw_g (lw_at lw_m3 138 rfl) rfl
theorem q762 : (Jvm.Cond.selects "java/lang/String" ({ cls := "java/lang/String", name := "length", desc := "()I" } : Jvm.MethodName) ({ cls := "java/lang/String", name := "length", desc := "()I" } : Jvm.MethodName)) ∈ lw_all := lw_g (lw_at lw_m3 139 rfl) rfl
theorem q763 : (Jvm.Cond.code ({ cls := "java/lang/String", name := "length", desc := "()I" } : Jvm.MethodName) prog_29_method_54_code (1 : Nat) (Option.some Jvm.ClassFile.FieldType.int)) ∈ lw_all := lw_g (lw_at lw_m3 140 rfl) rfl
theorem q764 : (Jvm.Cond.methodLink "java/lang/String" (335 : Nat) ({ cls := "java/lang/String", name := "coder", desc := "()B" } : Jvm.MethodName)) ∈ lw_all := lw_g (lw_at lw_m3 141 rfl) rfl
theorem q765 : (Jvm.Cond.instanceMethod ({ cls := "java/lang/String", name := "coder", desc := "()B" } : Jvm.MethodName)) ∈ lw_all := lw_g (lw_at lw_m3 142 rfl) rfl
theorem q766 : (Jvm.Cond.selects "java/lang/String" ({ cls := "java/lang/String", name := "coder", desc := "()B" } : Jvm.MethodName) ({ cls := "java/lang/String", name := "coder", desc := "()B" } : Jvm.MethodName)) ∈ lw_all := lw_g (lw_at lw_m3 143 rfl) rfl
theorem q767 : (Jvm.Cond.code ({ cls := "java/lang/String", name := "coder", desc := "()B" } : Jvm.MethodName) prog_29_method_152_code (1 : Nat) (Option.some Jvm.ClassFile.FieldType.byte)) ∈ lw_all := lw_g (lw_at lw_m3 144 rfl) rfl
theorem q768 : (Jvm.Cond.fieldLink "java/lang/String" (38 : Nat) "java/lang/String" "COMPACT_STRINGS" "Z") ∈ lw_all := lw_g (lw_at lw_m3 145 rfl) rfl
theorem q769 : (Jvm.Cond.laysStatic "java/lang/String" "COMPACT_STRINGS" "Z") ∈ lw_tbl := lw_at lw_m3 146 rfl
theorem q771 : (Jvm.Cond.instanceMethod ({ cls := "java/lang/String", name := "charAt", desc := "(I)C" } : Jvm.MethodName)) ∈ lw_all := lw_g (lw_at lw_m3 148 rfl) rfl
theorem q772 : (Jvm.Cond.selects "java/lang/String" ({ cls := "java/lang/String", name := "charAt", desc := "(I)C" } : Jvm.MethodName) ({ cls := "java/lang/String", name := "charAt", desc := "(I)C" } : Jvm.MethodName)) ∈ lw_all := lw_g (lw_at lw_m3 149 rfl) rfl
theorem q773 : (Jvm.Cond.code ({ cls := "java/lang/String", name := "charAt", desc := "(I)C" } : Jvm.MethodName) prog_29_method_56_code (2 : Nat) (Option.some Jvm.ClassFile.FieldType.char)) ∈ lw_all := lw_g (lw_at lw_m3 150 rfl) rfl
theorem q774 : (Jvm.Cond.methodLink "java/lang/String" (492 : Nat) ({ cls := "java/lang/String", name := "isLatin1", desc := "()Z" } : Jvm.MethodName)) ∈ lw_all := lw_g (lw_at lw_m3 151 rfl) rfl
theorem q775 : (Jvm.Cond.instanceMethod ({ cls := "java/lang/String", name := "isLatin1", desc := "()Z" } : Jvm.MethodName)) ∈ lw_all := lw_g (lw_at lw_m3 152 rfl) rfl
theorem q776 : (Jvm.Cond.selects "java/lang/String" ({ cls := "java/lang/String", name := "isLatin1", desc := "()Z" } : Jvm.MethodName) ({ cls := "java/lang/String", name := "isLatin1", desc := "()Z" } : Jvm.MethodName)) ∈ lw_all := lw_g (lw_at lw_m3 153 rfl) rfl
theorem q777 : (Jvm.Cond.code ({ cls := "java/lang/String", name := "isLatin1", desc := "()Z" } : Jvm.MethodName) prog_29_method_154_code (1 : Nat) (Option.some Jvm.ClassFile.FieldType.boolean)) ∈ lw_all := lw_g (lw_at lw_m3 154 rfl) rfl
theorem q778 : (Jvm.Cond.methodLink "java/lang/String" (495 : Nat) ({ cls := "java/lang/StringLatin1", name := "charAt", desc := "([BI)C" } : Jvm.MethodName)) ∈ lw_all := lw_g (lw_at lw_m3 155 rfl) rfl
theorem q782 : (Jvm.Cond.static ({ cls := "java/lang/String", name := "checkIndex", desc := "(II)V" } : Jvm.MethodName)) ∈ lw_all := lw_g (lw_at lw_m3 159 rfl) rfl
theorem q783 : (Jvm.Cond.code ({ cls := "java/lang/String", name := "checkIndex", desc := "(II)V" } : Jvm.MethodName) prog_29_method_155_code (2 : Nat) (Option.none : Option Jvm.ClassFile.FieldType)) ∈ lw_all := lw_g (lw_at lw_m3 160 rfl) rfl
theorem q784 : (Jvm.Cond.fieldLink "java/lang/String" (1053 : Nat) "jdk/internal/util/Preconditions" "SIOOBE_FORMATTER" "Ljava/util/function/BiFunction;") ∈ lw_all := lw_g (lw_at lw_m3 161 rfl) rfl
theorem q786 : (Jvm.Cond.methodLink "java/lang/String" (1059 : Nat) ({ cls := "jdk/internal/util/Preconditions", name := "checkIndex", desc := "(IILjava/util/function/BiFunction;)I" } : Jvm.MethodName)) ∈ lw_all := lw_g (lw_at lw_m3 163 rfl) rfl
theorem q789 : (Jvm.Cond.methodLink "java/lang/String" (498 : Nat) ({ cls := "java/lang/StringUTF16", name := "charAt", desc := "([BI)C" } : Jvm.MethodName)) ∈ lw_all := lw_g (lw_at lw_m3 166 rfl) rfl
theorem q2294 : (Jvm.Cond.fieldLink "java/lang/String" (9 : Nat) "java/lang/String" "value" "[B") ∈ lw_all := lw_g (lw_at lw_m9 231 rfl) rfl
theorem q2295 : (Jvm.Cond.fieldLink "java/lang/String" (15 : Nat) "java/lang/String" "coder" "B") ∈ lw_all := lw_g (lw_at lw_m9 232 rfl) rfl
theorem in_J4 : ∀ w ∈ wsJ40, w ∈ lw_all := lw_in wsJ40 [615, 617] (by decide +kernel) (by decide +kernel)

/-! java/lang/IndexOutOfBoundsException -/
set_option maxRecDepth 100000
def RJ5 : String := "java/lang/IndexOutOfBoundsException"
abbrev cJ5_init : ByteArray := prog_24_method_2_code
def yJ5_init : MethodName := ⟨RJ5, "<init>", "(Ljava/lang/String;)V"⟩
def dkwJ5_init_0 : List UInt8 := [42, 43, 183, 0, 7, 177]
abbrev dktJ5_init_0 : List UInt8 := dkwJ5_init_0 ++ []
theorem dksJ5_init_0 : cJ5_init.data.toList.drop 0 = dktJ5_init_0 := by decide +kernel
theorem dJ5_init_0 : decode cJ5_init 0 = .ok (.aload_n 0, 1) := dk_42 (dk_at dksJ5_init_0 0 rfl rfl)
theorem dJ5_init_1 : decode cJ5_init 1 = .ok (.aload_n 1, 1) := dk_43 (dk_at dksJ5_init_0 1 rfl rfl)
theorem dJ5_init_2 : decode cJ5_init 2 = .ok (.invokespecial 7, 3) := dk_183 0 7 (dk_at dksJ5_init_0 2 rfl rfl)
theorem dJ5_init_5 : decode cJ5_init 5 = .ok (.return_, 1) := dk_177 (dk_at dksJ5_init_0 5 rfl rfl)
theorem q159 : (Jvm.Cond.initialized "java/lang/IndexOutOfBoundsException") ∈ lw_all := lw_g (lw_at lw_m1 16 rfl) rfl
theorem q644 : (Jvm.Cond.instanceMethod ({ cls := "java/lang/IndexOutOfBoundsException", name := "<init>", desc := "(Ljava/lang/String;)V" } : Jvm.MethodName)) ∈ lw_all := lw_g (lw_at lw_m3 21 rfl) rfl
theorem q645 : (Jvm.Cond.code ({ cls := "java/lang/IndexOutOfBoundsException", name := "<init>", desc := "(Ljava/lang/String;)V" } : Jvm.MethodName) prog_24_method_2_code (2 : Nat) (Option.none : Option Jvm.ClassFile.FieldType)) ∈ lw_all := lw_g (lw_at lw_m3 22 rfl) rfl
theorem q646 : (Jvm.Cond.methodLink "java/lang/IndexOutOfBoundsException" (7 : Nat) ({ cls := "java/lang/RuntimeException", name := "<init>", desc := "(Ljava/lang/String;)V" } : Jvm.MethodName)) ∈ lw_all := lw_g (lw_at lw_m3 23 rfl) rfl
theorem q655 : (Jvm.Cond.declares ({ cls := "java/lang/IndexOutOfBoundsException", name := "<init>", desc := "()V" } : Jvm.MethodName)) ∈ lw_tbl := lw_at lw_m3 32 rfl
theorem q656 : (Jvm.Cond.declares ({ cls := "java/lang/IndexOutOfBoundsException", name := "<init>", desc := "(Ljava/lang/String;)V" } : Jvm.MethodName)) ∈ lw_tbl := lw_at lw_m3 33 rfl

/-! java/lang/ArrayIndexOutOfBoundsException -/
set_option maxRecDepth 100000
def RJ6 : String := "java/lang/ArrayIndexOutOfBoundsException"
def TJ6 : u_T := fun k => match k with
  | 0 => ("java/lang/Throwable", "backtrace", "Ljava/lang/Object;", false)
  | 1 => ("java/lang/Throwable", "detailMessage", "Ljava/lang/String;", false)
  | 2 => ("java/lang/Throwable", "cause", "Ljava/lang/Throwable;", false)
  | 3 => ("java/lang/Throwable", "stackTrace", "[Ljava/lang/StackTraceElement;", false)
  | 4 => ("java/lang/Throwable", "depth", "I", false)
  | _ => ("java/lang/Throwable", "suppressedExceptions", "Ljava/util/List;", false)
def tyJ6 : Nat → FieldType := fun k => match k with
  | 0 => .object "java/lang/Object"
  | 1 => .object "java/lang/String"
  | 2 => .object "java/lang/Throwable"
  | 3 => .array (.object "java/lang/StackTraceElement")
  | 4 => .int
  | _ => .object "java/util/List"
abbrev wsJ60 : List Cond := u_ws RJ6 TJ6 6
theorem nmJ6 : ∀ a, a < 6 → ∀ b, b < 6 → a ≠ b → (TJ6 a).2.1 ≠ (TJ6 b).2.1 := by decide +kernel
theorem tyJ6_ok : ∀ k, k < 6 → parseFieldDescriptor (TJ6 k).2.2.1 = some (tyJ6 k) := by decide +kernel
abbrev cJ6_init : ByteArray := prog_22_method_2_code
def yJ6_init : MethodName := ⟨RJ6, "<init>", "(Ljava/lang/String;)V"⟩
def dkwJ6_init_0 : List UInt8 := [42, 43, 183, 0, 7, 177]
abbrev dktJ6_init_0 : List UInt8 := dkwJ6_init_0 ++ []
theorem dksJ6_init_0 : cJ6_init.data.toList.drop 0 = dktJ6_init_0 := by decide +kernel
theorem dJ6_init_0 : decode cJ6_init 0 = .ok (.aload_n 0, 1) := dk_42 (dk_at dksJ6_init_0 0 rfl rfl)
theorem dJ6_init_1 : decode cJ6_init 1 = .ok (.aload_n 1, 1) := dk_43 (dk_at dksJ6_init_0 1 rfl rfl)
theorem dJ6_init_2 : decode cJ6_init 2 = .ok (.invokespecial 7, 3) := dk_183 0 7 (dk_at dksJ6_init_0 2 rfl rfl)
theorem dJ6_init_5 : decode cJ6_init 5 = .ok (.return_, 1) := dk_177 (dk_at dksJ6_init_0 5 rfl rfl)
theorem q160 : (Jvm.Cond.initialized "java/lang/ArrayIndexOutOfBoundsException") ∈ lw_all := lw_g (lw_at lw_m1 17 rfl) rfl
theorem q228 : (Jvm.Cond.selects "java/lang/ArrayIndexOutOfBoundsException" ({ cls := "java/lang/Throwable", name := "fillInStackTrace", desc := "()Ljava/lang/Throwable;" } : Jvm.MethodName) ({ cls := "java/lang/Throwable", name := "fillInStackTrace", desc := "()Ljava/lang/Throwable;" } : Jvm.MethodName)) ∈ lw_all := lw_g (lw_at lw_m1 85 rfl) rfl
theorem q640 : (Jvm.Cond.instantiable "java/lang/ArrayIndexOutOfBoundsException" (6 : Nat)) ∈ lw_all := lw_g (lw_at lw_m3 17 rfl) rfl
theorem q641 : (Jvm.Cond.instanceMethod ({ cls := "java/lang/ArrayIndexOutOfBoundsException", name := "<init>", desc := "(Ljava/lang/String;)V" } : Jvm.MethodName)) ∈ lw_all := lw_g (lw_at lw_m3 18 rfl) rfl
theorem q642 : (Jvm.Cond.code ({ cls := "java/lang/ArrayIndexOutOfBoundsException", name := "<init>", desc := "(Ljava/lang/String;)V" } : Jvm.MethodName) prog_22_method_2_code (2 : Nat) (Option.none : Option Jvm.ClassFile.FieldType)) ∈ lw_all := lw_g (lw_at lw_m3 19 rfl) rfl
theorem q643 : (Jvm.Cond.methodLink "java/lang/ArrayIndexOutOfBoundsException" (7 : Nat) ({ cls := "java/lang/IndexOutOfBoundsException", name := "<init>", desc := "(Ljava/lang/String;)V" } : Jvm.MethodName)) ∈ lw_all := lw_g (lw_at lw_m3 20 rfl) rfl
theorem q647 : (Jvm.Cond.lays "java/lang/ArrayIndexOutOfBoundsException" "java/lang/Throwable" "backtrace" "Ljava/lang/Object;") ∈ lw_all := lw_g (lw_at lw_m3 24 rfl) rfl
theorem q648 : (Jvm.Cond.lays "java/lang/ArrayIndexOutOfBoundsException" "java/lang/Throwable" "detailMessage" "Ljava/lang/String;") ∈ lw_all := lw_g (lw_at lw_m3 25 rfl) rfl
theorem q649 : (Jvm.Cond.lays "java/lang/ArrayIndexOutOfBoundsException" "java/lang/Throwable" "cause" "Ljava/lang/Throwable;") ∈ lw_all := lw_g (lw_at lw_m3 26 rfl) rfl
theorem q650 : (Jvm.Cond.lays "java/lang/ArrayIndexOutOfBoundsException" "java/lang/Throwable" "stackTrace" "[Ljava/lang/StackTraceElement;") ∈ lw_all := lw_g (lw_at lw_m3 27 rfl) rfl
theorem q651 : (Jvm.Cond.lays "java/lang/ArrayIndexOutOfBoundsException" "java/lang/Throwable" "depth" "I") ∈ lw_all := lw_g (lw_at lw_m3 28 rfl) rfl
theorem q652 : (Jvm.Cond.lays "java/lang/ArrayIndexOutOfBoundsException" "java/lang/Throwable" "suppressedExceptions" "Ljava/util/List;") ∈ lw_all := lw_g (lw_at lw_m3 29 rfl) rfl
theorem q653 : (Jvm.Cond.superclass "java/lang/ArrayIndexOutOfBoundsException" "java/lang/IndexOutOfBoundsException") ∈ lw_all := lw_g (lw_at lw_m3 30 rfl) rfl
theorem q654 : (Jvm.Cond.castable "java/lang/ArrayIndexOutOfBoundsException" "java/lang/ArrayIndexOutOfBoundsException") ∈ lw_tbl := lw_at lw_m3 31 rfl
theorem q657 : (Jvm.Cond.selects "java/lang/ArrayIndexOutOfBoundsException" ({ cls := "java/lang/Throwable", name := "fillInStackTrace", desc := "(I)Ljava/lang/Throwable;" } : Jvm.MethodName) ({ cls := "java/lang/Throwable", name := "fillInStackTrace", desc := "(I)Ljava/lang/Throwable;" } : Jvm.MethodName)) ∈ lw_all := lw_g (lw_at lw_m3 34 rfl) rfl
theorem q2289 : (Jvm.Cond.castable "java/lang/ArrayIndexOutOfBoundsException" "java/lang/IndexOutOfBoundsException") ∈ lw_tbl := lw_at lw_m9 226 rfl
theorem in_J6 : ∀ w ∈ wsJ60, w ∈ lw_all := lw_in wsJ60 [647, 648, 649, 650, 651, 652] (by decide +kernel) (by decide +kernel)

/-! java/lang/StringLatin1 -/
set_option maxRecDepth 100000
def RJ7 : String := "java/lang/StringLatin1"
abbrev cJ7_charAt : ByteArray := prog_30_method_2_code
def yJ7_charAt : MethodName := ⟨RJ7, "charAt", "([BI)C"⟩
def dkwJ7_charAt_0 : List UInt8 := [27, 42, 190, 184, 0, 9, 42, 27, 51, 17, 0, 255, 126, 146, 172]
abbrev dktJ7_charAt_0 : List UInt8 := dkwJ7_charAt_0 ++ []
theorem dksJ7_charAt_0 : cJ7_charAt.data.toList.drop 0 = dktJ7_charAt_0 := by decide +kernel
theorem dJ7_charAt_0 : decode cJ7_charAt 0 = .ok (.iload_n 1, 1) := dk_27 (dk_at dksJ7_charAt_0 0 rfl rfl)
theorem dJ7_charAt_1 : decode cJ7_charAt 1 = .ok (.aload_n 0, 1) := dk_42 (dk_at dksJ7_charAt_0 1 rfl rfl)
theorem dJ7_charAt_2 : decode cJ7_charAt 2 = .ok (.arraylength, 1) := dk_190 (dk_at dksJ7_charAt_0 2 rfl rfl)
theorem dJ7_charAt_3 : decode cJ7_charAt 3 = .ok (.invokestatic 9, 3) := dk_184 0 9 (dk_at dksJ7_charAt_0 3 rfl rfl)
theorem dJ7_charAt_6 : decode cJ7_charAt 6 = .ok (.aload_n 0, 1) := dk_42 (dk_at dksJ7_charAt_0 6 rfl rfl)
theorem dJ7_charAt_7 : decode cJ7_charAt 7 = .ok (.iload_n 1, 1) := dk_27 (dk_at dksJ7_charAt_0 7 rfl rfl)
theorem dJ7_charAt_8 : decode cJ7_charAt 8 = .ok (.baload, 1) := dk_51 (dk_at dksJ7_charAt_0 8 rfl rfl)
theorem dJ7_charAt_9 : decode cJ7_charAt 9 = .ok (.sipush 255, 3) := dk_17 0 255 (dk_at dksJ7_charAt_0 9 rfl rfl)
theorem dJ7_charAt_12 : decode cJ7_charAt 12 = .ok (.iand, 1) := dk_126 (dk_at dksJ7_charAt_0 12 rfl rfl)
theorem dJ7_charAt_13 : decode cJ7_charAt 13 = .ok (.i2c, 1) := dk_146 (dk_at dksJ7_charAt_0 13 rfl rfl)
theorem dJ7_charAt_14 : decode cJ7_charAt 14 = .ok (.ireturn, 1) := dk_172 (dk_at dksJ7_charAt_0 14 rfl rfl)
theorem q163 : (Jvm.Cond.initialized "java/lang/StringLatin1") ∈ lw_all := lw_g (lw_at lw_m1 20 rfl) rfl
theorem q779 : (Jvm.Cond.static ({ cls := "java/lang/StringLatin1", name := "charAt", desc := "([BI)C" } : Jvm.MethodName)) ∈ lw_all := lw_g (lw_at lw_m3 156 rfl) rfl
theorem q780 : (Jvm.Cond.code ({ cls := "java/lang/StringLatin1", name := "charAt", desc := "([BI)C" } : Jvm.MethodName) prog_30_method_2_code (2 : Nat) (Option.some Jvm.ClassFile.FieldType.char)) ∈ lw_all := lw_g (lw_at lw_m3 157 rfl) rfl
theorem q781 : (Jvm.Cond.methodLink "java/lang/StringLatin1" (9 : Nat) ({ cls := "java/lang/String", name := "checkIndex", desc := "(II)V" } : Jvm.MethodName)) ∈ lw_all := lw_g (lw_at lw_m3 158 rfl) rfl

/-! jdk/internal/util/Preconditions -/
set_option maxRecDepth 100000
def RJ8 : String := "jdk/internal/util/Preconditions"
abbrev cJ8_checkIndex : ByteArray := prog_34_method_11_code
def yJ8_checkIndex : MethodName := ⟨RJ8, "checkIndex", "(IILjava/util/function/BiFunction;)I"⟩
def dkwJ8_checkIndex_0 : List UInt8 := [26, 155, 0, 8, 26, 27, 161, 0, 10, 44, 26, 27, 184, 0, 95, 191, 26, 172]
abbrev dktJ8_checkIndex_0 : List UInt8 := dkwJ8_checkIndex_0 ++ []
theorem dksJ8_checkIndex_0 : cJ8_checkIndex.data.toList.drop 0 = dktJ8_checkIndex_0 := by decide +kernel
theorem dJ8_checkIndex_0 : decode cJ8_checkIndex 0 = .ok (.iload_n 0, 1) := dk_26 (dk_at dksJ8_checkIndex_0 0 rfl rfl)
theorem dJ8_checkIndex_1 : decode cJ8_checkIndex 1 = .ok (.ifCond .lt 8, 3) := dk_155 0 8 (dk_at dksJ8_checkIndex_0 1 rfl rfl)
theorem dJ8_checkIndex_4 : decode cJ8_checkIndex 4 = .ok (.iload_n 0, 1) := dk_26 (dk_at dksJ8_checkIndex_0 4 rfl rfl)
theorem dJ8_checkIndex_5 : decode cJ8_checkIndex 5 = .ok (.iload_n 1, 1) := dk_27 (dk_at dksJ8_checkIndex_0 5 rfl rfl)
theorem dJ8_checkIndex_6 : decode cJ8_checkIndex 6 = .ok (.if_icmp .lt 10, 3) := dk_161 0 10 (dk_at dksJ8_checkIndex_0 6 rfl rfl)
theorem dJ8_checkIndex_9 : decode cJ8_checkIndex 9 = .ok (.aload_n 2, 1) := dk_44 (dk_at dksJ8_checkIndex_0 9 rfl rfl)
theorem dJ8_checkIndex_10 : decode cJ8_checkIndex 10 = .ok (.iload_n 0, 1) := dk_26 (dk_at dksJ8_checkIndex_0 10 rfl rfl)
theorem dJ8_checkIndex_11 : decode cJ8_checkIndex 11 = .ok (.iload_n 1, 1) := dk_27 (dk_at dksJ8_checkIndex_0 11 rfl rfl)
theorem dJ8_checkIndex_12 : decode cJ8_checkIndex 12 = .ok (.invokestatic 95, 3) := dk_184 0 95 (dk_at dksJ8_checkIndex_0 12 rfl rfl)
theorem dJ8_checkIndex_15 : decode cJ8_checkIndex 15 = .ok (.athrow, 1) := dk_191 (dk_at dksJ8_checkIndex_0 15 rfl rfl)
theorem dJ8_checkIndex_16 : decode cJ8_checkIndex 16 = .ok (.iload_n 0, 1) := dk_26 (dk_at dksJ8_checkIndex_0 16 rfl rfl)
theorem dJ8_checkIndex_17 : decode cJ8_checkIndex 17 = .ok (.ireturn, 1) := dk_172 (dk_at dksJ8_checkIndex_0 17 rfl rfl)
theorem q164 : (Jvm.Cond.initialized "jdk/internal/util/Preconditions") ∈ lw_all := lw_g (lw_at lw_m1 21 rfl) rfl
theorem q785 : (Jvm.Cond.laysStatic "jdk/internal/util/Preconditions" "SIOOBE_FORMATTER" "Ljava/util/function/BiFunction;") ∈ lw_tbl := lw_at lw_m3 162 rfl
theorem q787 : (Jvm.Cond.static ({ cls := "jdk/internal/util/Preconditions", name := "checkIndex", desc := "(IILjava/util/function/BiFunction;)I" } : Jvm.MethodName)) ∈ lw_all := lw_g (lw_at lw_m3 164 rfl) rfl
theorem q788 : (Jvm.Cond.code ({ cls := "jdk/internal/util/Preconditions", name := "checkIndex", desc := "(IILjava/util/function/BiFunction;)I" } : Jvm.MethodName) prog_34_method_11_code (3 : Nat) (Option.some Jvm.ClassFile.FieldType.int)) ∈ lw_all := lw_g (lw_at lw_m3 165 rfl) rfl

/-! java/lang/StringUTF16 -/
set_option maxRecDepth 100000
def RJ9 : String := "java/lang/StringUTF16"
abbrev cJ9_charAt : ByteArray := prog_31_method_83_code
def yJ9_charAt : MethodName := ⟨RJ9, "charAt", "([BI)C"⟩
def dkwJ9_charAt_0 : List UInt8 := [27, 42, 184, 0, 67, 42, 27, 184, 0, 71, 172]
abbrev dktJ9_charAt_0 : List UInt8 := dkwJ9_charAt_0 ++ []
theorem dksJ9_charAt_0 : cJ9_charAt.data.toList.drop 0 = dktJ9_charAt_0 := by decide +kernel
theorem dJ9_charAt_0 : decode cJ9_charAt 0 = .ok (.iload_n 1, 1) := dk_27 (dk_at dksJ9_charAt_0 0 rfl rfl)
theorem dJ9_charAt_1 : decode cJ9_charAt 1 = .ok (.aload_n 0, 1) := dk_42 (dk_at dksJ9_charAt_0 1 rfl rfl)
theorem dJ9_charAt_2 : decode cJ9_charAt 2 = .ok (.invokestatic 67, 3) := dk_184 0 67 (dk_at dksJ9_charAt_0 2 rfl rfl)
theorem dJ9_charAt_5 : decode cJ9_charAt 5 = .ok (.aload_n 0, 1) := dk_42 (dk_at dksJ9_charAt_0 5 rfl rfl)
theorem dJ9_charAt_6 : decode cJ9_charAt 6 = .ok (.iload_n 1, 1) := dk_27 (dk_at dksJ9_charAt_0 6 rfl rfl)
theorem dJ9_charAt_7 : decode cJ9_charAt 7 = .ok (.invokestatic 71, 3) := dk_184 0 71 (dk_at dksJ9_charAt_0 7 rfl rfl)
theorem dJ9_charAt_10 : decode cJ9_charAt 10 = .ok (.ireturn, 1) := dk_172 (dk_at dksJ9_charAt_0 10 rfl rfl)
abbrev cJ9_checkIndex : ByteArray := prog_31_method_91_code
def yJ9_checkIndex : MethodName := ⟨RJ9, "checkIndex", "(I[B)V"⟩
def dkwJ9_checkIndex_0 : List UInt8 := [26, 43, 184, 0, 48, 184, 1, 158, 177]
abbrev dktJ9_checkIndex_0 : List UInt8 := dkwJ9_checkIndex_0 ++ []
theorem dksJ9_checkIndex_0 : cJ9_checkIndex.data.toList.drop 0 = dktJ9_checkIndex_0 := by decide +kernel
theorem dJ9_checkIndex_0 : decode cJ9_checkIndex 0 = .ok (.iload_n 0, 1) := dk_26 (dk_at dksJ9_checkIndex_0 0 rfl rfl)
theorem dJ9_checkIndex_1 : decode cJ9_checkIndex 1 = .ok (.aload_n 1, 1) := dk_43 (dk_at dksJ9_checkIndex_0 1 rfl rfl)
theorem dJ9_checkIndex_2 : decode cJ9_checkIndex 2 = .ok (.invokestatic 48, 3) := dk_184 0 48 (dk_at dksJ9_checkIndex_0 2 rfl rfl)
theorem dJ9_checkIndex_5 : decode cJ9_checkIndex 5 = .ok (.invokestatic 414, 3) := dk_184 1 158 (dk_at dksJ9_checkIndex_0 5 rfl rfl)
theorem dJ9_checkIndex_8 : decode cJ9_checkIndex 8 = .ok (.return_, 1) := dk_177 (dk_at dksJ9_checkIndex_0 8 rfl rfl)
abbrev cJ9_length : ByteArray := prog_31_method_6_code
def yJ9_length : MethodName := ⟨RJ9, "length", "([B)I"⟩
def dkwJ9_length_0 : List UInt8 := [42, 190, 4, 122, 172]
abbrev dktJ9_length_0 : List UInt8 := dkwJ9_length_0 ++ []
theorem dksJ9_length_0 : cJ9_length.data.toList.drop 0 = dktJ9_length_0 := by decide +kernel
theorem dJ9_length_0 : decode cJ9_length 0 = .ok (.aload_n 0, 1) := dk_42 (dk_at dksJ9_length_0 0 rfl rfl)
theorem dJ9_length_1 : decode cJ9_length 1 = .ok (.arraylength, 1) := dk_190 (dk_at dksJ9_length_0 1 rfl rfl)
theorem dJ9_length_2 : decode cJ9_length 2 = .ok (.iconst 1, 1) := dk_4 (dk_at dksJ9_length_0 2 rfl rfl)
theorem dJ9_length_3 : decode cJ9_length 3 = .ok (.ishr, 1) := dk_122 (dk_at dksJ9_length_0 3 rfl rfl)
theorem dJ9_length_4 : decode cJ9_length 4 = .ok (.ireturn, 1) := dk_172 (dk_at dksJ9_length_0 4 rfl rfl)
abbrev cJ9_getChar : ByteArray := prog_31_method_5_code
def yJ9_getChar : MethodName := ⟨RJ9, "getChar", "([BI)C"⟩
def dkwJ9_getChar_2 : List UInt8 := [51, 17, 0, 255, 126, 178, 0, 63, 120, 128, 146, 172]
abbrev dktJ9_getChar_2 : List UInt8 := dkwJ9_getChar_2 ++ []
def dkwJ9_getChar_1 : List UInt8 := [183, 0, 56, 191, 27, 4, 120, 60, 42, 27, 132, 1, 1, 51, 17, 0, 255, 126, 178, 0, 59, 120, 42, 27]
abbrev dktJ9_getChar_1 : List UInt8 := dkwJ9_getChar_1 ++ dktJ9_getChar_2
def dkwJ9_getChar_0 : List UInt8 := [178, 0, 44, 154, 0, 25, 27, 155, 0, 11, 27, 42, 184, 0, 48, 161, 0, 13, 187, 0, 52, 89, 18, 54]
abbrev dktJ9_getChar_0 : List UInt8 := dkwJ9_getChar_0 ++ dktJ9_getChar_1
theorem dksJ9_getChar_0 : cJ9_getChar.data.toList.drop 0 = dktJ9_getChar_0 := by decide +kernel
theorem dksJ9_getChar_1 : cJ9_getChar.data.toList.drop 24 = dktJ9_getChar_1 := dk_seg dksJ9_getChar_0 24 rfl rfl
theorem dksJ9_getChar_2 : cJ9_getChar.data.toList.drop 48 = dktJ9_getChar_2 := dk_seg dksJ9_getChar_1 24 rfl rfl
theorem dJ9_getChar_0 : decode cJ9_getChar 0 = .ok (.getstatic 44, 3) := dk_178 0 44 (dk_at dksJ9_getChar_0 0 rfl rfl)
theorem dJ9_getChar_3 : decode cJ9_getChar 3 = .ok (.ifCond .ne 25, 3) := dk_154 0 25 (dk_at dksJ9_getChar_0 3 rfl rfl)
theorem dJ9_getChar_6 : decode cJ9_getChar 6 = .ok (.iload_n 1, 1) := dk_27 (dk_at dksJ9_getChar_0 6 rfl rfl)
theorem dJ9_getChar_7 : decode cJ9_getChar 7 = .ok (.ifCond .lt 11, 3) := dk_155 0 11 (dk_at dksJ9_getChar_0 7 rfl rfl)
theorem dJ9_getChar_10 : decode cJ9_getChar 10 = .ok (.iload_n 1, 1) := dk_27 (dk_at dksJ9_getChar_0 10 rfl rfl)
theorem dJ9_getChar_11 : decode cJ9_getChar 11 = .ok (.aload_n 0, 1) := dk_42 (dk_at dksJ9_getChar_0 11 rfl rfl)
theorem dJ9_getChar_12 : decode cJ9_getChar 12 = .ok (.invokestatic 48, 3) := dk_184 0 48 (dk_at dksJ9_getChar_0 12 rfl rfl)
theorem dJ9_getChar_15 : decode cJ9_getChar 15 = .ok (.if_icmp .lt 13, 3) := dk_161 0 13 (dk_at dksJ9_getChar_0 15 rfl rfl)
theorem dJ9_getChar_18 : decode cJ9_getChar 18 = .ok (.new 52, 3) := dk_187 0 52 (dk_at dksJ9_getChar_0 18 rfl rfl)
theorem dJ9_getChar_21 : decode cJ9_getChar 21 = .ok (.dup, 1) := dk_89 (dk_at dksJ9_getChar_0 21 rfl rfl)
theorem dJ9_getChar_22 : decode cJ9_getChar 22 = .ok (.ldc 54, 2) := dk_18 54 (dk_at dksJ9_getChar_0 22 rfl rfl)
theorem dJ9_getChar_24 : decode cJ9_getChar 24 = .ok (.invokespecial 56, 3) := dk_183 0 56 (dk_at dksJ9_getChar_1 0 rfl rfl)
theorem dJ9_getChar_27 : decode cJ9_getChar 27 = .ok (.athrow, 1) := dk_191 (dk_at dksJ9_getChar_1 3 rfl rfl)
theorem dJ9_getChar_28 : decode cJ9_getChar 28 = .ok (.iload_n 1, 1) := dk_27 (dk_at dksJ9_getChar_1 4 rfl rfl)
theorem dJ9_getChar_29 : decode cJ9_getChar 29 = .ok (.iconst 1, 1) := dk_4 (dk_at dksJ9_getChar_1 5 rfl rfl)
theorem dJ9_getChar_30 : decode cJ9_getChar 30 = .ok (.ishl, 1) := dk_120 (dk_at dksJ9_getChar_1 6 rfl rfl)
theorem dJ9_getChar_31 : decode cJ9_getChar 31 = .ok (.istore_n 1, 1) := dk_60 (dk_at dksJ9_getChar_1 7 rfl rfl)
theorem dJ9_getChar_32 : decode cJ9_getChar 32 = .ok (.aload_n 0, 1) := dk_42 (dk_at dksJ9_getChar_1 8 rfl rfl)
theorem dJ9_getChar_33 : decode cJ9_getChar 33 = .ok (.iload_n 1, 1) := dk_27 (dk_at dksJ9_getChar_1 9 rfl rfl)
theorem dJ9_getChar_34 : decode cJ9_getChar 34 = .ok (.iinc 1 1, 3) := dk_132 1 1 (dk_at dksJ9_getChar_1 10 rfl rfl)
theorem dJ9_getChar_37 : decode cJ9_getChar 37 = .ok (.baload, 1) := dk_51 (dk_at dksJ9_getChar_1 13 rfl rfl)
theorem dJ9_getChar_38 : decode cJ9_getChar 38 = .ok (.sipush 255, 3) := dk_17 0 255 (dk_at dksJ9_getChar_1 14 rfl rfl)
theorem dJ9_getChar_41 : decode cJ9_getChar 41 = .ok (.iand, 1) := dk_126 (dk_at dksJ9_getChar_1 17 rfl rfl)
theorem dJ9_getChar_42 : decode cJ9_getChar 42 = .ok (.getstatic 59, 3) := dk_178 0 59 (dk_at dksJ9_getChar_1 18 rfl rfl)
theorem dJ9_getChar_45 : decode cJ9_getChar 45 = .ok (.ishl, 1) := dk_120 (dk_at dksJ9_getChar_1 21 rfl rfl)
theorem dJ9_getChar_46 : decode cJ9_getChar 46 = .ok (.aload_n 0, 1) := dk_42 (dk_at dksJ9_getChar_1 22 rfl rfl)
theorem dJ9_getChar_47 : decode cJ9_getChar 47 = .ok (.iload_n 1, 1) := dk_27 (dk_at dksJ9_getChar_1 23 rfl rfl)
theorem dJ9_getChar_48 : decode cJ9_getChar 48 = .ok (.baload, 1) := dk_51 (dk_at dksJ9_getChar_2 0 rfl rfl)
theorem dJ9_getChar_49 : decode cJ9_getChar 49 = .ok (.sipush 255, 3) := dk_17 0 255 (dk_at dksJ9_getChar_2 1 rfl rfl)
theorem dJ9_getChar_52 : decode cJ9_getChar 52 = .ok (.iand, 1) := dk_126 (dk_at dksJ9_getChar_2 4 rfl rfl)
theorem dJ9_getChar_53 : decode cJ9_getChar 53 = .ok (.getstatic 63, 3) := dk_178 0 63 (dk_at dksJ9_getChar_2 5 rfl rfl)
theorem dJ9_getChar_56 : decode cJ9_getChar 56 = .ok (.ishl, 1) := dk_120 (dk_at dksJ9_getChar_2 8 rfl rfl)
theorem dJ9_getChar_57 : decode cJ9_getChar 57 = .ok (.ior, 1) := dk_128 (dk_at dksJ9_getChar_2 9 rfl rfl)
theorem dJ9_getChar_58 : decode cJ9_getChar 58 = .ok (.i2c, 1) := dk_146 (dk_at dksJ9_getChar_2 10 rfl rfl)
theorem dJ9_getChar_59 : decode cJ9_getChar 59 = .ok (.ireturn, 1) := dk_172 (dk_at dksJ9_getChar_2 11 rfl rfl)
theorem q165 : (Jvm.Cond.initialized "java/lang/StringUTF16") ∈ lw_all := lw_g (lw_at lw_m1 22 rfl) rfl
theorem q790 : (Jvm.Cond.static ({ cls := "java/lang/StringUTF16", name := "charAt", desc := "([BI)C" } : Jvm.MethodName)) ∈ lw_all := lw_g (lw_at lw_m3 167 rfl) rfl
theorem q791 : (Jvm.Cond.code ({ cls := "java/lang/StringUTF16", name := "charAt", desc := "([BI)C" } : Jvm.MethodName) prog_31_method_83_code (2 : Nat) (Option.some Jvm.ClassFile.FieldType.char)) ∈ lw_all := lw_g (lw_at lw_m3 168 rfl) rfl
theorem q792 : (Jvm.Cond.methodLink "java/lang/StringUTF16" (67 : Nat) ({ cls := "java/lang/StringUTF16", name := "checkIndex", desc := "(I[B)V" } : Jvm.MethodName)) ∈ lw_all := lw_g (lw_at lw_m3 169 rfl) rfl
theorem q793 : (Jvm.Cond.static ({ cls := "java/lang/StringUTF16", name := "checkIndex", desc := "(I[B)V" } : Jvm.MethodName)) ∈ lw_all := lw_g (lw_at lw_m3 170 rfl) rfl
theorem q794 : (Jvm.Cond.code ({ cls := "java/lang/StringUTF16", name := "checkIndex", desc := "(I[B)V" } : Jvm.MethodName) prog_31_method_91_code (2 : Nat) (Option.none : Option Jvm.ClassFile.FieldType)) ∈ lw_all := lw_g (lw_at lw_m3 171 rfl) rfl
theorem q795 : (Jvm.Cond.methodLink "java/lang/StringUTF16" (48 : Nat) ({ cls := "java/lang/StringUTF16", name := "length", desc := "([B)I" } : Jvm.MethodName)) ∈ lw_all := lw_g (lw_at lw_m3 172 rfl) rfl
theorem q796 : (Jvm.Cond.static ({ cls := "java/lang/StringUTF16", name := "length", desc := "([B)I" } : Jvm.MethodName)) ∈ lw_all := lw_g (lw_at lw_m3 173 rfl) rfl
theorem q797 : (Jvm.Cond.code ({ cls := "java/lang/StringUTF16", name := "length", desc := "([B)I" } : Jvm.MethodName) prog_31_method_6_code (1 : Nat) (Option.some Jvm.ClassFile.FieldType.int)) ∈ lw_all := lw_g (lw_at lw_m3 174 rfl) rfl
theorem q798 : (Jvm.Cond.methodLink "java/lang/StringUTF16" (414 : Nat) ({ cls := "java/lang/String", name := "checkIndex", desc := "(II)V" } : Jvm.MethodName)) ∈ lw_all := lw_g (lw_at lw_m3 175 rfl) rfl
theorem q799 : (Jvm.Cond.methodLink "java/lang/StringUTF16" (71 : Nat) ({ cls := "java/lang/StringUTF16", name := "getChar", desc := "([BI)C" } : Jvm.MethodName)) ∈ lw_all := lw_g (lw_at lw_m3 176 rfl) rfl
theorem q800 : (Jvm.Cond.static ({ cls := "java/lang/StringUTF16", name := "getChar", desc := "([BI)C" } : Jvm.MethodName)) ∈ lw_all := lw_g (lw_at lw_m3 177 rfl) rfl
theorem q801 : (Jvm.Cond.code ({ cls := "java/lang/StringUTF16", name := "getChar", desc := "([BI)C" } : Jvm.MethodName) prog_31_method_5_code (2 : Nat) (Option.some Jvm.ClassFile.FieldType.char)) ∈ lw_all := lw_g (lw_at lw_m3 178 rfl) rfl
theorem q802 : (Jvm.Cond.fieldLink "java/lang/StringUTF16" (44 : Nat) "java/lang/StringUTF16" "$assertionsDisabled" "Z") ∈ lw_all := lw_g (lw_at lw_m3 179 rfl) rfl
theorem q803 : (Jvm.Cond.laysStatic "java/lang/StringUTF16" "$assertionsDisabled" "Z") ∈ lw_tbl := lw_at lw_m3 180 rfl
theorem q804 : (Jvm.Cond.fieldLink "java/lang/StringUTF16" (59 : Nat) "java/lang/StringUTF16" "HI_BYTE_SHIFT" "I") ∈ lw_all := lw_g (lw_at lw_m3 181 rfl) rfl
theorem q805 : (Jvm.Cond.laysStatic "java/lang/StringUTF16" "HI_BYTE_SHIFT" "I") ∈ lw_tbl := lw_at lw_m3 182 rfl
theorem q806 : (Jvm.Cond.fieldLink "java/lang/StringUTF16" (63 : Nat) "java/lang/StringUTF16" "LO_BYTE_SHIFT" "I") ∈ lw_all := lw_g (lw_at lw_m3 183 rfl) rfl
theorem q807 : (Jvm.Cond.laysStatic "java/lang/StringUTF16" "LO_BYTE_SHIFT" "I") ∈ lw_tbl := lw_at lw_m3 184 rfl

/-! java/lang/Math -/
set_option maxRecDepth 100000
def RJ10 : String := "java/lang/Math"
abbrev cJ10_min : ByteArray := prog_26_method_69_code
def yJ10_min : MethodName := ⟨RJ10, "min", "(II)I"⟩
def dkwJ10_min_0 : List UInt8 := [26, 27, 163, 0, 7, 26, 167, 0, 4, 27, 172]
abbrev dktJ10_min_0 : List UInt8 := dkwJ10_min_0 ++ []
theorem dksJ10_min_0 : cJ10_min.data.toList.drop 0 = dktJ10_min_0 := by decide +kernel
theorem dJ10_min_0 : decode cJ10_min 0 = .ok (.iload_n 0, 1) := dk_26 (dk_at dksJ10_min_0 0 rfl rfl)
theorem dJ10_min_1 : decode cJ10_min 1 = .ok (.iload_n 1, 1) := dk_27 (dk_at dksJ10_min_0 1 rfl rfl)
theorem dJ10_min_2 : decode cJ10_min 2 = .ok (.if_icmp .gt 7, 3) := dk_163 0 7 (dk_at dksJ10_min_0 2 rfl rfl)
theorem dJ10_min_5 : decode cJ10_min 5 = .ok (.iload_n 0, 1) := dk_26 (dk_at dksJ10_min_0 5 rfl rfl)
theorem dJ10_min_6 : decode cJ10_min 6 = .ok (.goto 4, 3) := dk_167 0 4 (dk_at dksJ10_min_0 6 rfl rfl)
theorem dJ10_min_9 : decode cJ10_min 9 = .ok (.iload_n 1, 1) := dk_27 (dk_at dksJ10_min_0 9 rfl rfl)
theorem dJ10_min_10 : decode cJ10_min 10 = .ok (.ireturn, 1) := dk_172 (dk_at dksJ10_min_0 10 rfl rfl)
abbrev cJ10_max : ByteArray := prog_26_method_65_code
def yJ10_max : MethodName := ⟨RJ10, "max", "(II)I"⟩
def dkwJ10_max_0 : List UInt8 := [26, 27, 161, 0, 7, 26, 167, 0, 4, 27, 172]
abbrev dktJ10_max_0 : List UInt8 := dkwJ10_max_0 ++ []
theorem dksJ10_max_0 : cJ10_max.data.toList.drop 0 = dktJ10_max_0 := by decide +kernel
theorem dJ10_max_0 : decode cJ10_max 0 = .ok (.iload_n 0, 1) := dk_26 (dk_at dksJ10_max_0 0 rfl rfl)
theorem dJ10_max_1 : decode cJ10_max 1 = .ok (.iload_n 1, 1) := dk_27 (dk_at dksJ10_max_0 1 rfl rfl)
theorem dJ10_max_2 : decode cJ10_max 2 = .ok (.if_icmp .lt 7, 3) := dk_161 0 7 (dk_at dksJ10_max_0 2 rfl rfl)
theorem dJ10_max_5 : decode cJ10_max 5 = .ok (.iload_n 0, 1) := dk_26 (dk_at dksJ10_max_0 5 rfl rfl)
theorem dJ10_max_6 : decode cJ10_max 6 = .ok (.goto 4, 3) := dk_167 0 4 (dk_at dksJ10_max_0 6 rfl rfl)
theorem dJ10_max_9 : decode cJ10_max 9 = .ok (.iload_n 1, 1) := dk_27 (dk_at dksJ10_max_0 9 rfl rfl)
theorem dJ10_max_10 : decode cJ10_max 10 = .ok (.ireturn, 1) := dk_172 (dk_at dksJ10_max_0 10 rfl rfl)
abbrev cJ10_abs : ByteArray := prog_26_method_61_code
def yJ10_abs : MethodName := ⟨RJ10, "abs", "(J)J"⟩
def dkwJ10_abs_0 : List UInt8 := [30, 9, 148, 156, 0, 8, 30, 117, 167, 0, 4, 30, 173]
abbrev dktJ10_abs_0 : List UInt8 := dkwJ10_abs_0 ++ []
theorem dksJ10_abs_0 : cJ10_abs.data.toList.drop 0 = dktJ10_abs_0 := by decide +kernel
theorem dJ10_abs_0 : decode cJ10_abs 0 = .ok (.lload_n 0, 1) := dk_30 (dk_at dksJ10_abs_0 0 rfl rfl)
theorem dJ10_abs_1 : decode cJ10_abs 1 = .ok (.lconst 0, 1) := dk_9 (dk_at dksJ10_abs_0 1 rfl rfl)
theorem dJ10_abs_2 : decode cJ10_abs 2 = .ok (.lcmp, 1) := dk_148 (dk_at dksJ10_abs_0 2 rfl rfl)
theorem dJ10_abs_3 : decode cJ10_abs 3 = .ok (.ifCond .ge 8, 3) := dk_156 0 8 (dk_at dksJ10_abs_0 3 rfl rfl)
theorem dJ10_abs_6 : decode cJ10_abs 6 = .ok (.lload_n 0, 1) := dk_30 (dk_at dksJ10_abs_0 6 rfl rfl)
theorem dJ10_abs_7 : decode cJ10_abs 7 = .ok (.lneg, 1) := dk_117 (dk_at dksJ10_abs_0 7 rfl rfl)
theorem dJ10_abs_8 : decode cJ10_abs 8 = .ok (.goto 4, 3) := dk_167 0 4 (dk_at dksJ10_abs_0 8 rfl rfl)
theorem dJ10_abs_11 : decode cJ10_abs 11 = .ok (.lload_n 0, 1) := dk_30 (dk_at dksJ10_abs_0 11 rfl rfl)
theorem dJ10_abs_12 : decode cJ10_abs 12 = .ok (.lreturn, 1) := dk_173 (dk_at dksJ10_abs_0 12 rfl rfl)
theorem q169 : (Jvm.Cond.initialized "java/lang/Math") ∈ lw_all := lw_g (lw_at lw_m1 26 rfl) rfl
theorem q1142 : (Jvm.Cond.static ({ cls := "java/lang/Math", name := "min", desc := "(II)I" } : Jvm.MethodName)) ∈ lw_all := lw_g (lw_at lw_m5 39 rfl) rfl
theorem q1143 : (Jvm.Cond.code ({ cls := "java/lang/Math", name := "min", desc := "(II)I" } : Jvm.MethodName) prog_26_method_69_code (2 : Nat) (Option.some Jvm.ClassFile.FieldType.int)) ∈ lw_all := lw_g (lw_at lw_m5 40 rfl) rfl
theorem q1145 : (Jvm.Cond.static ({ cls := "java/lang/Math", name := "max", desc := "(II)I" } : Jvm.MethodName)) ∈ lw_all := lw_g (lw_at lw_m5 42 rfl) rfl
theorem q1146 : (Jvm.Cond.code ({ cls := "java/lang/Math", name := "max", desc := "(II)I" } : Jvm.MethodName) prog_26_method_65_code (2 : Nat) (Option.some Jvm.ClassFile.FieldType.int)) ∈ lw_all := lw_g (lw_at lw_m5 43 rfl) rfl
theorem q1563 : (Jvm.Cond.static ({ cls := "java/lang/Math", name := "abs", desc := "(J)J" } : Jvm.MethodName)) ∈ lw_all := lw_g (lw_at lw_m6 220 rfl) rfl
theorem q1564 : (Jvm.Cond.code ({ cls := "java/lang/Math", name := "abs", desc := "(J)J" } : Jvm.MethodName) prog_26_method_61_code (2 : Nat) (Option.some Jvm.ClassFile.FieldType.long)) ∈ lw_all := lw_g (lw_at lw_m6 221 rfl) rfl

/-! java/lang/Long -/
set_option maxRecDepth 100000
def RJ11 : String := "java/lang/Long"
abbrev cJ11_signum : ByteArray := prog_25_method_57_code
def yJ11_signum : MethodName := ⟨RJ11, "signum", "(J)I"⟩
def dkwJ11_signum_0 : List UInt8 := [30, 16, 63, 123, 30, 117, 16, 63, 125, 129, 136, 172]
abbrev dktJ11_signum_0 : List UInt8 := dkwJ11_signum_0 ++ []
theorem dksJ11_signum_0 : cJ11_signum.data.toList.drop 0 = dktJ11_signum_0 := by decide +kernel
theorem dJ11_signum_0 : decode cJ11_signum 0 = .ok (.lload_n 0, 1) := dk_30 (dk_at dksJ11_signum_0 0 rfl rfl)
theorem dJ11_signum_1 : decode cJ11_signum 1 = .ok (.bipush 63, 2) := dk_16 63 (dk_at dksJ11_signum_0 1 rfl rfl)
theorem dJ11_signum_3 : decode cJ11_signum 3 = .ok (.lshr, 1) := dk_123 (dk_at dksJ11_signum_0 3 rfl rfl)
theorem dJ11_signum_4 : decode cJ11_signum 4 = .ok (.lload_n 0, 1) := dk_30 (dk_at dksJ11_signum_0 4 rfl rfl)
theorem dJ11_signum_5 : decode cJ11_signum 5 = .ok (.lneg, 1) := dk_117 (dk_at dksJ11_signum_0 5 rfl rfl)
theorem dJ11_signum_6 : decode cJ11_signum 6 = .ok (.bipush 63, 2) := dk_16 63 (dk_at dksJ11_signum_0 6 rfl rfl)
theorem dJ11_signum_8 : decode cJ11_signum 8 = .ok (.lushr, 1) := dk_125 (dk_at dksJ11_signum_0 8 rfl rfl)
theorem dJ11_signum_9 : decode cJ11_signum 9 = .ok (.lor, 1) := dk_129 (dk_at dksJ11_signum_0 9 rfl rfl)
theorem dJ11_signum_10 : decode cJ11_signum 10 = .ok (.l2i, 1) := dk_136 (dk_at dksJ11_signum_0 10 rfl rfl)
theorem dJ11_signum_11 : decode cJ11_signum 11 = .ok (.ireturn, 1) := dk_172 (dk_at dksJ11_signum_0 11 rfl rfl)
theorem q176 : (Jvm.Cond.initialized "java/lang/Long") ∈ lw_all := lw_g (lw_at lw_m1 33 rfl) rfl
theorem q1566 : (Jvm.Cond.static ({ cls := "java/lang/Long", name := "signum", desc := "(J)I" } : Jvm.MethodName)) ∈ lw_all := lw_g (lw_at lw_m6 223 rfl) rfl
theorem q1567 : (Jvm.Cond.code ({ cls := "java/lang/Long", name := "signum", desc := "(J)I" } : Jvm.MethodName) prog_25_method_57_code (2 : Nat) (Option.some Jvm.ClassFile.FieldType.int)) ∈ lw_all := lw_g (lw_at lw_m6 224 rfl) rfl

/-! java/lang/Object -/
set_option maxRecDepth 100000
def RJ12 : String := "java/lang/Object"
abbrev cJ12_init : ByteArray := object_method_1_code
def yJ12_init : MethodName := ⟨RJ12, "<init>", "()V"⟩
theorem dJ12_init_0 : decode cJ12_init 0 = .ok (.return_, 1) := by decide +kernel
theorem q183 : (Jvm.Cond.instanceMethod ({ cls := "java/lang/Object", name := "<init>", desc := "()V" } : Jvm.MethodName)) ∈ lw_all := lw_g (lw_at lw_m1 40 rfl) rfl
theorem q184 : (Jvm.Cond.code ({ cls := "java/lang/Object", name := "<init>", desc := "()V" } : Jvm.MethodName) object_method_1_code (1 : Nat) (Option.none : Option Jvm.ClassFile.FieldType)) ∈ lw_all := lw_g (lw_at lw_m1 41 rfl) rfl

/-! SillBridges$Tray -/
set_option maxRecDepth 100000
def RX1 : String := "SillBridges$Tray"
def TX1 : u_T := fun k => match k with
  | _ => ("SillBridges$Tray", "row", "Ljava/lang/Object;", false)
def tyX1 : Nat → FieldType := fun k => match k with
  | _ => .object "java/lang/Object"
abbrev wsX10 : List Cond := u_ws RX1 TX1 1
theorem nmX1 : ∀ a, a < 1 → ∀ b, b < 1 → a ≠ b → (TX1 a).2.1 ≠ (TX1 b).2.1 := by decide +kernel
theorem tyX1_ok : ∀ k, k < 1 → parseFieldDescriptor (TX1 k).2.2.1 = some (tyX1 k) := by decide +kernel
abbrev cX1_init : ByteArray := prog_18_method_1_code
def yX1_init : MethodName := ⟨RX1, "<init>", "()V"⟩
theorem dX1_init_0 : decode cX1_init 0 = .ok (.aload_n 0, 1) := by decide +kernel
theorem dX1_init_1 : decode cX1_init 1 = .ok (.invokespecial 1, 3) := by decide +kernel
theorem dX1_init_4 : decode cX1_init 4 = .ok (.return_, 1) := by decide +kernel
theorem q145 : (Jvm.Cond.initialized "SillBridges$Tray") ∈ lw_all := lw_g (lw_at lw_m1 2 rfl) rfl
theorem q187 : (Jvm.Cond.instantiable "SillBridges$Tray" (1 : Nat)) ∈ lw_all := lw_g (lw_at lw_m1 44 rfl) rfl
theorem q189 : (Jvm.Cond.instanceMethod ({ cls := "SillBridges$Tray", name := "<init>", desc := "()V" } : Jvm.MethodName)) ∈ lw_all := lw_g (lw_at lw_m1 46 rfl) rfl
theorem q190 : (Jvm.Cond.code ({ cls := "SillBridges$Tray", name := "<init>", desc := "()V" } : Jvm.MethodName) prog_18_method_1_code (1 : Nat) (Option.none : Option Jvm.ClassFile.FieldType)) ∈ lw_all := lw_g (lw_at lw_m1 47 rfl) rfl
theorem q191 : (Jvm.Cond.methodLink "SillBridges$Tray" (1 : Nat) ({ cls := "java/lang/Object", name := "<init>", desc := "()V" } : Jvm.MethodName)) ∈ lw_all := lw_g (lw_at lw_m1 48 rfl) rfl
theorem q193 : (Jvm.Cond.lays "SillBridges$Tray" "SillBridges$Tray" "row" "Ljava/lang/Object;") ∈ lw_all := lw_g (lw_at lw_m1 50 rfl) rfl
theorem q194 : (Jvm.Cond.soleField "SillBridges$Tray" "row") ∈ lw_all := lw_g (lw_at lw_m1 51 rfl) rfl
theorem q195 : (Jvm.Cond.superclass "SillBridges$Tray" "java/lang/Object") ∈ lw_all := lw_g (lw_at lw_m1 52 rfl) rfl
theorem in_X1 : ∀ w ∈ wsX10, w ∈ lw_all := lw_in wsX10 [193] (by decide +kernel) (by decide +kernel)

/-! SillBridges$Bad -/
set_option maxRecDepth 100000
def RX2 : String := "SillBridges$Bad"
def TX2 : u_T := fun k => match k with
  | 0 => ("java/lang/Throwable", "cause", "Ljava/lang/Throwable;", false)
  | 1 => ("java/lang/Throwable", "stackTrace", "[Ljava/lang/StackTraceElement;", false)
  | 2 => ("java/lang/Throwable", "suppressedExceptions", "Ljava/util/List;", false)
  | 3 => ("java/lang/Throwable", "detailMessage", "Ljava/lang/String;", false)
  | 4 => ("java/lang/Throwable", "backtrace", "Ljava/lang/Object;", false)
  | 5 => ("java/lang/Throwable", "depth", "I", false)
  | 6 => ("SillBridges$Bad", "kind", "I", false)
  | _ => ("SillBridges$Bad", "place", "I", false)
def tyX2 : Nat → FieldType := fun k => match k with
  | 0 => .object "java/lang/Throwable"
  | 1 => .array (.object "java/lang/StackTraceElement")
  | 2 => .object "java/util/List"
  | 3 => .object "java/lang/String"
  | 4 => .object "java/lang/Object"
  | 5 => .int
  | 6 => .int
  | _ => .int
abbrev wsX20 : List Cond := u_ws RX2 TX2 8
theorem nmX2 : ∀ a, a < 8 → ∀ b, b < 8 → a ≠ b → (TX2 a).2.1 ≠ (TX2 b).2.1 := by decide +kernel
theorem tyX2_ok : ∀ k, k < 8 → parseFieldDescriptor (TX2 k).2.2.1 = some (tyX2 k) := by decide +kernel
abbrev cX2_init : ByteArray := prog_3_method_1_code
def yX2_init : MethodName := ⟨RX2, "<init>", "()V"⟩
def dkwX2_init_0 : List UInt8 := [42, 1, 1, 3, 3, 183, 0, 1, 177]
abbrev dktX2_init_0 : List UInt8 := dkwX2_init_0 ++ []
theorem dksX2_init_0 : cX2_init.data.toList.drop 0 = dktX2_init_0 := by decide +kernel
theorem dX2_init_0 : decode cX2_init 0 = .ok (.aload_n 0, 1) := dk_42 (dk_at dksX2_init_0 0 rfl rfl)
theorem dX2_init_1 : decode cX2_init 1 = .ok (.aconst_null, 1) := dk_1 (dk_at dksX2_init_0 1 rfl rfl)
theorem dX2_init_2 : decode cX2_init 2 = .ok (.aconst_null, 1) := dk_1 (dk_at dksX2_init_0 2 rfl rfl)
theorem dX2_init_3 : decode cX2_init 3 = .ok (.iconst 0, 1) := dk_3 (dk_at dksX2_init_0 3 rfl rfl)
theorem dX2_init_4 : decode cX2_init 4 = .ok (.iconst 0, 1) := dk_3 (dk_at dksX2_init_0 4 rfl rfl)
theorem dX2_init_5 : decode cX2_init 5 = .ok (.invokespecial 1, 3) := dk_183 0 1 (dk_at dksX2_init_0 5 rfl rfl)
theorem dX2_init_8 : decode cX2_init 8 = .ok (.return_, 1) := dk_177 (dk_at dksX2_init_0 8 rfl rfl)
abbrev cX2_at : ByteArray := prog_3_method_2_code
def yX2_at : MethodName := ⟨RX2, "at", "(II)LSillBridges$Bad;"⟩
def dkwX2_at_0 : List UInt8 := [42, 27, 181, 0, 7, 42, 28, 181, 0, 13, 42, 176]
abbrev dktX2_at_0 : List UInt8 := dkwX2_at_0 ++ []
theorem dksX2_at_0 : cX2_at.data.toList.drop 0 = dktX2_at_0 := by decide +kernel
theorem dX2_at_0 : decode cX2_at 0 = .ok (.aload_n 0, 1) := dk_42 (dk_at dksX2_at_0 0 rfl rfl)
theorem dX2_at_1 : decode cX2_at 1 = .ok (.iload_n 1, 1) := dk_27 (dk_at dksX2_at_0 1 rfl rfl)
theorem dX2_at_2 : decode cX2_at 2 = .ok (.putfield 7, 3) := dk_181 0 7 (dk_at dksX2_at_0 2 rfl rfl)
theorem dX2_at_5 : decode cX2_at 5 = .ok (.aload_n 0, 1) := dk_42 (dk_at dksX2_at_0 5 rfl rfl)
theorem dX2_at_6 : decode cX2_at 6 = .ok (.iload_n 2, 1) := dk_28 (dk_at dksX2_at_0 6 rfl rfl)
theorem dX2_at_7 : decode cX2_at 7 = .ok (.putfield 13, 3) := dk_181 0 13 (dk_at dksX2_at_0 7 rfl rfl)
theorem dX2_at_10 : decode cX2_at 10 = .ok (.aload_n 0, 1) := dk_42 (dk_at dksX2_at_0 10 rfl rfl)
theorem dX2_at_11 : decode cX2_at 11 = .ok (.areturn, 1) := dk_176 (dk_at dksX2_at_0 11 rfl rfl)
theorem q148 : (Jvm.Cond.initialized "SillBridges$Bad") ∈ lw_all := lw_g (lw_at lw_m1 5 rfl) rfl
theorem q197 : (Jvm.Cond.instantiable "SillBridges$Bad" (8 : Nat)) ∈ lw_all := lw_g (lw_at lw_m1 54 rfl) rfl
theorem q198 : (Jvm.Cond.castable "SillBridges$Bad" "SillBridges$Bad") ∈ lw_tbl := lw_at lw_m1 55 rfl
theorem q203 : (Jvm.Cond.selects "SillBridges$Bad" ({ cls := "java/lang/Throwable", name := "fillInStackTrace", desc := "(I)Ljava/lang/Throwable;" } : Jvm.MethodName) ({ cls := "java/lang/Throwable", name := "fillInStackTrace", desc := "(I)Ljava/lang/Throwable;" } : Jvm.MethodName)) ∈ lw_all := lw_g (lw_at lw_m1 60 rfl) rfl
theorem q204 : (Jvm.Cond.selects "SillBridges$Bad" ({ cls := "java/lang/Throwable", name := "fillInStackTrace", desc := "()Ljava/lang/Throwable;" } : Jvm.MethodName) ({ cls := "java/lang/Throwable", name := "fillInStackTrace", desc := "()Ljava/lang/Throwable;" } : Jvm.MethodName)) ∈ lw_all := lw_g (lw_at lw_m1 61 rfl) rfl
theorem q205 : (Jvm.Cond.lays "SillBridges$Bad" "java/lang/Throwable" "cause" "Ljava/lang/Throwable;") ∈ lw_all := lw_g (lw_at lw_m1 62 rfl) rfl
theorem q207 : (Jvm.Cond.lays "SillBridges$Bad" "java/lang/Throwable" "stackTrace" "[Ljava/lang/StackTraceElement;") ∈ lw_all := lw_g (lw_at lw_m1 64 rfl) rfl
theorem q209 : (Jvm.Cond.lays "SillBridges$Bad" "java/lang/Throwable" "suppressedExceptions" "Ljava/util/List;") ∈ lw_all := lw_g (lw_at lw_m1 66 rfl) rfl
theorem q211 : (Jvm.Cond.lays "SillBridges$Bad" "java/lang/Throwable" "detailMessage" "Ljava/lang/String;") ∈ lw_all := lw_g (lw_at lw_m1 68 rfl) rfl
theorem q213 : (Jvm.Cond.lays "SillBridges$Bad" "java/lang/Throwable" "backtrace" "Ljava/lang/Object;") ∈ lw_all := lw_g (lw_at lw_m1 70 rfl) rfl
theorem q237 : (Jvm.Cond.instanceMethod ({ cls := "SillBridges$Bad", name := "<init>", desc := "()V" } : Jvm.MethodName)) ∈ lw_all := lw_g (lw_at lw_m1 94 rfl) rfl
theorem q238 : (Jvm.Cond.code ({ cls := "SillBridges$Bad", name := "<init>", desc := "()V" } : Jvm.MethodName) prog_3_method_1_code (1 : Nat) (Option.none : Option Jvm.ClassFile.FieldType)) ∈ lw_all := lw_g (lw_at lw_m1 95 rfl) rfl
theorem q239 : (Jvm.Cond.methodLink "SillBridges$Bad" (1 : Nat) ({ cls := "java/lang/Exception", name := "<init>", desc := "(Ljava/lang/String;Ljava/lang/Throwable;ZZ)V" } : Jvm.MethodName)) ∈ lw_all := lw_g (lw_at lw_m1 96 rfl) rfl
theorem q245 : (Jvm.Cond.fieldLink "SillBridges$Bad" (7 : Nat) "SillBridges$Bad" "kind" "I") ∈ lw_all := lw_g (lw_at lw_m1 102 rfl) rfl
theorem q247 : (Jvm.Cond.fieldLink "SillBridges$Bad" (13 : Nat) "SillBridges$Bad" "place" "I") ∈ lw_all := lw_g (lw_at lw_m1 104 rfl) rfl
theorem q254 : (Jvm.Cond.lays "SillBridges$Bad" "SillBridges$Bad" "kind" "I") ∈ lw_all := lw_g (lw_at lw_m1 111 rfl) rfl
theorem q255 : (Jvm.Cond.soleField "SillBridges$Bad" "kind") ∈ lw_all := lw_g (lw_at lw_m1 112 rfl) rfl
theorem q256 : (Jvm.Cond.lays "SillBridges$Bad" "SillBridges$Bad" "place" "I") ∈ lw_all := lw_g (lw_at lw_m1 113 rfl) rfl
theorem q257 : (Jvm.Cond.soleField "SillBridges$Bad" "place") ∈ lw_all := lw_g (lw_at lw_m1 114 rfl) rfl
theorem q262 : (Jvm.Cond.lays "SillBridges$Bad" "java/lang/Throwable" "depth" "I") ∈ lw_all := lw_g (lw_at lw_m1 119 rfl) rfl
theorem q265 : (Jvm.Cond.superclass "SillBridges$Bad" "java/lang/Exception") ∈ lw_all := lw_g (lw_at lw_m1 122 rfl) rfl
theorem q813 : (Jvm.Cond.instanceMethod ({ cls := "SillBridges$Bad", name := "at", desc := "(II)LSillBridges$Bad;" } : Jvm.MethodName)) ∈ lw_all := lw_g (lw_at lw_m3 190 rfl) rfl
theorem q814 : (Jvm.Cond.selects "SillBridges$Bad" ({ cls := "SillBridges$Bad", name := "at", desc := "(II)LSillBridges$Bad;" } : Jvm.MethodName) ({ cls := "SillBridges$Bad", name := "at", desc := "(II)LSillBridges$Bad;" } : Jvm.MethodName)) ∈ lw_all := lw_g (lw_at lw_m3 191 rfl) rfl
theorem q815 : (Jvm.Cond.code ({ cls := "SillBridges$Bad", name := "at", desc := "(II)LSillBridges$Bad;" } : Jvm.MethodName) prog_3_method_2_code (3 : Nat) (Option.some (Jvm.ClassFile.FieldType.object "SillBridges$Bad"))) ∈ lw_all := lw_g (lw_at lw_m3 192 rfl) rfl
theorem in_X2 : ∀ w ∈ wsX20, w ∈ lw_all := lw_in wsX20 [205, 207, 209, 211, 213, 262, 254, 256] (by decide +kernel) (by decide +kernel)

/-! SillBridges$Refused -/
set_option maxRecDepth 100000
def RX3 : String := "SillBridges$Refused"
def TX3 : u_T := fun k => match k with
  | 0 => ("java/lang/Throwable", "cause", "Ljava/lang/Throwable;", false)
  | 1 => ("java/lang/Throwable", "stackTrace", "[Ljava/lang/StackTraceElement;", false)
  | 2 => ("java/lang/Throwable", "suppressedExceptions", "Ljava/util/List;", false)
  | 3 => ("java/lang/Throwable", "detailMessage", "Ljava/lang/String;", false)
  | 4 => ("java/lang/Throwable", "backtrace", "Ljava/lang/Object;", false)
  | 5 => ("java/lang/Throwable", "depth", "I", false)
  | _ => ("SillBridges$Refused", "why", "I", false)
def tyX3 : Nat → FieldType := fun k => match k with
  | 0 => .object "java/lang/Throwable"
  | 1 => .array (.object "java/lang/StackTraceElement")
  | 2 => .object "java/util/List"
  | 3 => .object "java/lang/String"
  | 4 => .object "java/lang/Object"
  | 5 => .int
  | _ => .int
abbrev wsX30 : List Cond := u_ws RX3 TX3 7
theorem nmX3 : ∀ a, a < 7 → ∀ b, b < 7 → a ≠ b → (TX3 a).2.1 ≠ (TX3 b).2.1 := by decide +kernel
theorem tyX3_ok : ∀ k, k < 7 → parseFieldDescriptor (TX3 k).2.2.1 = some (tyX3 k) := by decide +kernel
abbrev cX3_init : ByteArray := prog_12_method_1_code
def yX3_init : MethodName := ⟨RX3, "<init>", "()V"⟩
def dkwX3_init_0 : List UInt8 := [42, 1, 1, 3, 3, 183, 0, 1, 177]
abbrev dktX3_init_0 : List UInt8 := dkwX3_init_0 ++ []
theorem dksX3_init_0 : cX3_init.data.toList.drop 0 = dktX3_init_0 := by decide +kernel
theorem dX3_init_0 : decode cX3_init 0 = .ok (.aload_n 0, 1) := dk_42 (dk_at dksX3_init_0 0 rfl rfl)
theorem dX3_init_1 : decode cX3_init 1 = .ok (.aconst_null, 1) := dk_1 (dk_at dksX3_init_0 1 rfl rfl)
theorem dX3_init_2 : decode cX3_init 2 = .ok (.aconst_null, 1) := dk_1 (dk_at dksX3_init_0 2 rfl rfl)
theorem dX3_init_3 : decode cX3_init 3 = .ok (.iconst 0, 1) := dk_3 (dk_at dksX3_init_0 3 rfl rfl)
theorem dX3_init_4 : decode cX3_init 4 = .ok (.iconst 0, 1) := dk_3 (dk_at dksX3_init_0 4 rfl rfl)
theorem dX3_init_5 : decode cX3_init 5 = .ok (.invokespecial 1, 3) := dk_183 0 1 (dk_at dksX3_init_0 5 rfl rfl)
theorem dX3_init_8 : decode cX3_init 8 = .ok (.return_, 1) := dk_177 (dk_at dksX3_init_0 8 rfl rfl)
abbrev cX3_by : ByteArray := prog_12_method_2_code
def yX3_by : MethodName := ⟨RX3, "by", "(I)LSillBridges$Refused;"⟩
def dkwX3_by_0 : List UInt8 := [42, 27, 181, 0, 7, 42, 176]
abbrev dktX3_by_0 : List UInt8 := dkwX3_by_0 ++ []
theorem dksX3_by_0 : cX3_by.data.toList.drop 0 = dktX3_by_0 := by decide +kernel
theorem dX3_by_0 : decode cX3_by 0 = .ok (.aload_n 0, 1) := dk_42 (dk_at dksX3_by_0 0 rfl rfl)
theorem dX3_by_1 : decode cX3_by 1 = .ok (.iload_n 1, 1) := dk_27 (dk_at dksX3_by_0 1 rfl rfl)
theorem dX3_by_2 : decode cX3_by 2 = .ok (.putfield 7, 3) := dk_181 0 7 (dk_at dksX3_by_0 2 rfl rfl)
theorem dX3_by_5 : decode cX3_by 5 = .ok (.aload_n 0, 1) := dk_42 (dk_at dksX3_by_0 5 rfl rfl)
theorem dX3_by_6 : decode cX3_by 6 = .ok (.areturn, 1) := dk_176 (dk_at dksX3_by_0 6 rfl rfl)
theorem q149 : (Jvm.Cond.initialized "SillBridges$Refused") ∈ lw_all := lw_g (lw_at lw_m1 6 rfl) rfl
theorem q227 : (Jvm.Cond.selects "SillBridges$Refused" ({ cls := "java/lang/Throwable", name := "fillInStackTrace", desc := "()Ljava/lang/Throwable;" } : Jvm.MethodName) ({ cls := "java/lang/Throwable", name := "fillInStackTrace", desc := "()Ljava/lang/Throwable;" } : Jvm.MethodName)) ∈ lw_all := lw_g (lw_at lw_m1 84 rfl) rfl
theorem q268 : (Jvm.Cond.instantiable "SillBridges$Refused" (7 : Nat)) ∈ lw_all := lw_g (lw_at lw_m1 125 rfl) rfl
theorem q269 : (Jvm.Cond.castable "SillBridges$Refused" "SillBridges$Refused") ∈ lw_tbl := lw_at lw_m1 126 rfl
theorem q270 : (Jvm.Cond.selects "SillBridges$Refused" ({ cls := "java/lang/Throwable", name := "fillInStackTrace", desc := "(I)Ljava/lang/Throwable;" } : Jvm.MethodName) ({ cls := "java/lang/Throwable", name := "fillInStackTrace", desc := "(I)Ljava/lang/Throwable;" } : Jvm.MethodName)) ∈ lw_all := lw_g (lw_at lw_m1 127 rfl) rfl
theorem q271 : (Jvm.Cond.lays "SillBridges$Refused" "java/lang/Throwable" "cause" "Ljava/lang/Throwable;") ∈ lw_all := lw_g (lw_at lw_m1 128 rfl) rfl
theorem q272 : (Jvm.Cond.lays "SillBridges$Refused" "java/lang/Throwable" "stackTrace" "[Ljava/lang/StackTraceElement;") ∈ lw_all := lw_g (lw_at lw_m1 129 rfl) rfl
theorem q273 : (Jvm.Cond.lays "SillBridges$Refused" "java/lang/Throwable" "suppressedExceptions" "Ljava/util/List;") ∈ lw_all := lw_g (lw_at lw_m1 130 rfl) rfl
theorem q274 : (Jvm.Cond.lays "SillBridges$Refused" "java/lang/Throwable" "detailMessage" "Ljava/lang/String;") ∈ lw_all := lw_g (lw_at lw_m1 131 rfl) rfl
theorem q275 : (Jvm.Cond.lays "SillBridges$Refused" "java/lang/Throwable" "backtrace" "Ljava/lang/Object;") ∈ lw_all := lw_g (lw_at lw_m1 132 rfl) rfl
theorem q277 : (Jvm.Cond.instanceMethod ({ cls := "SillBridges$Refused", name := "<init>", desc := "()V" } : Jvm.MethodName)) ∈ lw_all := lw_g (lw_at lw_m1 134 rfl) rfl
theorem q278 : (Jvm.Cond.code ({ cls := "SillBridges$Refused", name := "<init>", desc := "()V" } : Jvm.MethodName) prog_12_method_1_code (1 : Nat) (Option.none : Option Jvm.ClassFile.FieldType)) ∈ lw_all := lw_g (lw_at lw_m1 135 rfl) rfl
theorem q279 : (Jvm.Cond.methodLink "SillBridges$Refused" (1 : Nat) ({ cls := "java/lang/Exception", name := "<init>", desc := "(Ljava/lang/String;Ljava/lang/Throwable;ZZ)V" } : Jvm.MethodName)) ∈ lw_all := lw_g (lw_at lw_m1 136 rfl) rfl
theorem q280 : (Jvm.Cond.fieldLink "SillBridges$Refused" (7 : Nat) "SillBridges$Refused" "why" "I") ∈ lw_all := lw_g (lw_at lw_m1 137 rfl) rfl
theorem q282 : (Jvm.Cond.lays "SillBridges$Refused" "SillBridges$Refused" "why" "I") ∈ lw_all := lw_g (lw_at lw_m1 139 rfl) rfl
theorem q283 : (Jvm.Cond.soleField "SillBridges$Refused" "why") ∈ lw_all := lw_g (lw_at lw_m1 140 rfl) rfl
theorem q284 : (Jvm.Cond.lays "SillBridges$Refused" "java/lang/Throwable" "depth" "I") ∈ lw_all := lw_g (lw_at lw_m1 141 rfl) rfl
theorem q285 : (Jvm.Cond.superclass "SillBridges$Refused" "java/lang/Exception") ∈ lw_all := lw_g (lw_at lw_m1 142 rfl) rfl
theorem q624 : (Jvm.Cond.instanceMethod ({ cls := "SillBridges$Refused", name := "by", desc := "(I)LSillBridges$Refused;" } : Jvm.MethodName)) ∈ lw_all := lw_g (lw_at lw_m3 1 rfl) rfl
theorem q625 : (Jvm.Cond.selects "SillBridges$Refused" ({ cls := "SillBridges$Refused", name := "by", desc := "(I)LSillBridges$Refused;" } : Jvm.MethodName) ({ cls := "SillBridges$Refused", name := "by", desc := "(I)LSillBridges$Refused;" } : Jvm.MethodName)) ∈ lw_all := lw_g (lw_at lw_m3 2 rfl) rfl
theorem q626 : (Jvm.Cond.code ({ cls := "SillBridges$Refused", name := "by", desc := "(I)LSillBridges$Refused;" } : Jvm.MethodName) prog_12_method_2_code (2 : Nat) (Option.some (Jvm.ClassFile.FieldType.object "SillBridges$Refused"))) ∈ lw_all := lw_g (lw_at lw_m3 3 rfl) rfl
theorem in_X3 : ∀ w ∈ wsX30, w ∈ lw_all := lw_in wsX30 [271, 272, 273, 274, 275, 284, 282] (by decide +kernel) (by decide +kernel)

/-! SillBridges$House -/
set_option maxRecDepth 100000
def RX4 : String := "SillBridges$House"
def TX4 : u_T := fun k => match k with
  | 0 => ("SillBridges$House", "spot", "LSillBridges$Spot;", true)
  | _ => ("SillBridges$House", "orders", "LSillBridges$Loop;", false)
def tyX4 : Nat → FieldType := fun k => match k with
  | 0 => .object "SillBridges$Spot"
  | _ => .object "SillBridges$Loop"
abbrev wsX40 : List Cond := u_ws RX4 TX4 2
theorem nmX4 : ∀ a, a < 2 → ∀ b, b < 2 → a ≠ b → (TX4 a).2.1 ≠ (TX4 b).2.1 := by decide +kernel
theorem tyX4_ok : ∀ k, k < 2 → parseFieldDescriptor (TX4 k).2.2.1 = some (tyX4 k) := by decide +kernel
abbrev cX4_init : ByteArray := prog_6_method_1_code
def yX4_init : MethodName := ⟨RX4, "<init>", "()V"⟩
def dkwX4_init_0 : List UInt8 := [42, 183, 0, 1, 42, 187, 0, 7, 89, 183, 0, 9, 181, 0, 10, 177]
abbrev dktX4_init_0 : List UInt8 := dkwX4_init_0 ++ []
theorem dksX4_init_0 : cX4_init.data.toList.drop 0 = dktX4_init_0 := by decide +kernel
theorem dX4_init_0 : decode cX4_init 0 = .ok (.aload_n 0, 1) := dk_42 (dk_at dksX4_init_0 0 rfl rfl)
theorem dX4_init_1 : decode cX4_init 1 = .ok (.invokespecial 1, 3) := dk_183 0 1 (dk_at dksX4_init_0 1 rfl rfl)
theorem dX4_init_4 : decode cX4_init 4 = .ok (.aload_n 0, 1) := dk_42 (dk_at dksX4_init_0 4 rfl rfl)
theorem dX4_init_5 : decode cX4_init 5 = .ok (.new 7, 3) := dk_187 0 7 (dk_at dksX4_init_0 5 rfl rfl)
theorem dX4_init_8 : decode cX4_init 8 = .ok (.dup, 1) := dk_89 (dk_at dksX4_init_0 8 rfl rfl)
theorem dX4_init_9 : decode cX4_init 9 = .ok (.invokespecial 9, 3) := dk_183 0 9 (dk_at dksX4_init_0 9 rfl rfl)
theorem dX4_init_12 : decode cX4_init 12 = .ok (.putfield 10, 3) := dk_181 0 10 (dk_at dksX4_init_0 12 rfl rfl)
theorem dX4_init_15 : decode cX4_init 15 = .ok (.return_, 1) := dk_177 (dk_at dksX4_init_0 15 rfl rfl)
abbrev cX4_be : ByteArray := prog_6_method_2_code
def yX4_be : MethodName := ⟨RX4, "be", "(LSillBridges$House;)V"⟩
def dkwX4_be_0 : List UInt8 := [42, 180, 0, 10, 43, 180, 0, 10, 182, 0, 16, 42, 43, 180, 0, 20, 181, 0, 20, 177]
abbrev dktX4_be_0 : List UInt8 := dkwX4_be_0 ++ []
theorem dksX4_be_0 : cX4_be.data.toList.drop 0 = dktX4_be_0 := by decide +kernel
theorem dX4_be_0 : decode cX4_be 0 = .ok (.aload_n 0, 1) := dk_42 (dk_at dksX4_be_0 0 rfl rfl)
theorem dX4_be_1 : decode cX4_be 1 = .ok (.getfield 10, 3) := dk_180 0 10 (dk_at dksX4_be_0 1 rfl rfl)
theorem dX4_be_4 : decode cX4_be 4 = .ok (.aload_n 1, 1) := dk_43 (dk_at dksX4_be_0 4 rfl rfl)
theorem dX4_be_5 : decode cX4_be 5 = .ok (.getfield 10, 3) := dk_180 0 10 (dk_at dksX4_be_0 5 rfl rfl)
theorem dX4_be_8 : decode cX4_be 8 = .ok (.invokevirtual 16, 3) := dk_182 0 16 (dk_at dksX4_be_0 8 rfl rfl)
theorem dX4_be_11 : decode cX4_be 11 = .ok (.aload_n 0, 1) := dk_42 (dk_at dksX4_be_0 11 rfl rfl)
theorem dX4_be_12 : decode cX4_be 12 = .ok (.aload_n 1, 1) := dk_43 (dk_at dksX4_be_0 12 rfl rfl)
theorem dX4_be_13 : decode cX4_be 13 = .ok (.getfield 20, 3) := dk_180 0 20 (dk_at dksX4_be_0 13 rfl rfl)
theorem dX4_be_16 : decode cX4_be 16 = .ok (.putfield 20, 3) := dk_181 0 20 (dk_at dksX4_be_0 16 rfl rfl)
theorem dX4_be_19 : decode cX4_be 19 = .ok (.return_, 1) := dk_177 (dk_at dksX4_be_0 19 rfl rfl)
theorem q150 : (Jvm.Cond.initialized "SillBridges$House") ∈ lw_all := lw_g (lw_at lw_m1 7 rfl) rfl
theorem q287 : (Jvm.Cond.instantiable "SillBridges$House" (2 : Nat)) ∈ lw_all := lw_g (lw_at lw_m1 144 rfl) rfl
theorem q289 : (Jvm.Cond.instanceMethod ({ cls := "SillBridges$House", name := "<init>", desc := "()V" } : Jvm.MethodName)) ∈ lw_all := lw_g (lw_at lw_m1 146 rfl) rfl
theorem q290 : (Jvm.Cond.code ({ cls := "SillBridges$House", name := "<init>", desc := "()V" } : Jvm.MethodName) prog_6_method_1_code (1 : Nat) (Option.none : Option Jvm.ClassFile.FieldType)) ∈ lw_all := lw_g (lw_at lw_m1 147 rfl) rfl
theorem q291 : (Jvm.Cond.methodLink "SillBridges$House" (1 : Nat) ({ cls := "java/lang/Object", name := "<init>", desc := "()V" } : Jvm.MethodName)) ∈ lw_all := lw_g (lw_at lw_m1 148 rfl) rfl
theorem q292 : (Jvm.Cond.classLink "SillBridges$House" (7 : Nat) "SillBridges$Spot") ∈ lw_all := lw_g (lw_at lw_m1 149 rfl) rfl
theorem q294 : (Jvm.Cond.methodLinkNest "SillBridges$House" (9 : Nat) ({ cls := "SillBridges$Spot", name := "<init>", desc := "()V" } : Jvm.MethodName) "SillBridges") ∈ lw_tbl := lw_at lw_m1 151 rfl
theorem q394 : (Jvm.Cond.fieldLink "SillBridges$House" (10 : Nat) "SillBridges$House" "spot" "LSillBridges$Spot;") ∈ lw_all := lw_g (lw_at lw_m2 11 rfl) rfl
theorem q396 : (Jvm.Cond.fieldLink "SillBridges$House" (20 : Nat) "SillBridges$House" "orders" "LSillBridges$Loop;") ∈ lw_all := lw_g (lw_at lw_m2 13 rfl) rfl
theorem q398 : (Jvm.Cond.laysFinal "SillBridges$House" "SillBridges$House" "spot" "LSillBridges$Spot;") ∈ lw_all := lw_g (lw_at lw_m2 15 rfl) rfl
theorem q399 : (Jvm.Cond.soleField "SillBridges$House" "spot") ∈ lw_all := lw_g (lw_at lw_m2 16 rfl) rfl
theorem q400 : (Jvm.Cond.lays "SillBridges$House" "SillBridges$House" "orders" "LSillBridges$Loop;") ∈ lw_all := lw_g (lw_at lw_m2 17 rfl) rfl
theorem q401 : (Jvm.Cond.soleField "SillBridges$House" "orders") ∈ lw_all := lw_g (lw_at lw_m2 18 rfl) rfl
theorem q402 : (Jvm.Cond.superclass "SillBridges$House" "java/lang/Object") ∈ lw_all := lw_g (lw_at lw_m2 19 rfl) rfl
theorem q1573 : (Jvm.Cond.instanceMethod ({ cls := "SillBridges$House", name := "be", desc := "(LSillBridges$House;)V" } : Jvm.MethodName)) ∈ lw_all := lw_g (lw_at lw_m6 230 rfl) rfl
theorem q1574 : (Jvm.Cond.selects "SillBridges$House" ({ cls := "SillBridges$House", name := "be", desc := "(LSillBridges$House;)V" } : Jvm.MethodName) ({ cls := "SillBridges$House", name := "be", desc := "(LSillBridges$House;)V" } : Jvm.MethodName)) ∈ lw_all := lw_g (lw_at lw_m6 231 rfl) rfl
theorem q1575 : (Jvm.Cond.code ({ cls := "SillBridges$House", name := "be", desc := "(LSillBridges$House;)V" } : Jvm.MethodName) prog_6_method_2_code (2 : Nat) (Option.none : Option Jvm.ClassFile.FieldType)) ∈ lw_all := lw_g (lw_at lw_m6 232 rfl) rfl
theorem q1576 : (Jvm.Cond.methodLink "SillBridges$House" (16 : Nat) ({ cls := "SillBridges$Spot", name := "be", desc := "(LSillBridges$Spot;)V" } : Jvm.MethodName)) ∈ lw_all := lw_g (lw_at lw_m6 233 rfl) rfl
theorem in_X4 : ∀ w ∈ wsX40, w ∈ lw_all := lw_in wsX40 [398, 400] (by decide +kernel) (by decide +kernel)

/-! SillBridges$Spot -/
set_option maxRecDepth 100000
def RX5 : String := "SillBridges$Spot"
def TX5 : u_T := fun k => match k with
  | 0 => ("SillBridges$Spot", "town", "LSillBridges$Town;", false)
  | 1 => ("SillBridges$Spot", "at", "[I", true)
  | 2 => ("SillBridges$Spot", "load", "[I", true)
  | 3 => ("SillBridges$Spot", "gone", "I", false)
  | 4 => ("SillBridges$Spot", "morePlace", "I", false)
  | _ => ("SillBridges$Spot", "more", "I", false)
def tyX5 : Nat → FieldType := fun k => match k with
  | 0 => .object "SillBridges$Town"
  | 1 => .array .int
  | 2 => .array .int
  | 3 => .int
  | 4 => .int
  | _ => .int
abbrev wsX50 : List Cond := u_ws RX5 TX5 6
theorem nmX5 : ∀ a, a < 6 → ∀ b, b < 6 → a ≠ b → (TX5 a).2.1 ≠ (TX5 b).2.1 := by decide +kernel
theorem tyX5_ok : ∀ k, k < 6 → parseFieldDescriptor (TX5 k).2.2.1 = some (tyX5 k) := by decide +kernel
abbrev cX5_init : ByteArray := prog_14_method_1_code
def yX5_init : MethodName := ⟨RX5, "<init>", "()V"⟩
def dkwX5_init_1 : List UInt8 := [188, 10, 181, 0, 22, 42, 2, 181, 0, 25, 42, 2, 181, 0, 29, 177]
abbrev dktX5_init_1 : List UInt8 := dkwX5_init_1 ++ []
def dkwX5_init_0 : List UInt8 := [42, 183, 0, 3, 42, 187, 0, 9, 89, 183, 0, 11, 181, 0, 12, 42, 7, 188, 10, 181, 0, 18, 42, 5]
abbrev dktX5_init_0 : List UInt8 := dkwX5_init_0 ++ dktX5_init_1
theorem dksX5_init_0 : cX5_init.data.toList.drop 0 = dktX5_init_0 := by decide +kernel
theorem dksX5_init_1 : cX5_init.data.toList.drop 24 = dktX5_init_1 := dk_seg dksX5_init_0 24 rfl rfl
theorem dX5_init_0 : decode cX5_init 0 = .ok (.aload_n 0, 1) := dk_42 (dk_at dksX5_init_0 0 rfl rfl)
theorem dX5_init_1 : decode cX5_init 1 = .ok (.invokespecial 3, 3) := dk_183 0 3 (dk_at dksX5_init_0 1 rfl rfl)
theorem dX5_init_4 : decode cX5_init 4 = .ok (.aload_n 0, 1) := dk_42 (dk_at dksX5_init_0 4 rfl rfl)
theorem dX5_init_5 : decode cX5_init 5 = .ok (.new 9, 3) := dk_187 0 9 (dk_at dksX5_init_0 5 rfl rfl)
theorem dX5_init_8 : decode cX5_init 8 = .ok (.dup, 1) := dk_89 (dk_at dksX5_init_0 8 rfl rfl)
theorem dX5_init_9 : decode cX5_init 9 = .ok (.invokespecial 11, 3) := dk_183 0 11 (dk_at dksX5_init_0 9 rfl rfl)
theorem dX5_init_12 : decode cX5_init 12 = .ok (.putfield 12, 3) := dk_181 0 12 (dk_at dksX5_init_0 12 rfl rfl)
theorem dX5_init_15 : decode cX5_init 15 = .ok (.aload_n 0, 1) := dk_42 (dk_at dksX5_init_0 15 rfl rfl)
theorem dX5_init_16 : decode cX5_init 16 = .ok (.iconst 4, 1) := dk_7 (dk_at dksX5_init_0 16 rfl rfl)
theorem dX5_init_17 : decode cX5_init 17 = .ok (.newarray .int, 2) := dk_188_10 (dk_at dksX5_init_0 17 rfl rfl)
theorem dX5_init_19 : decode cX5_init 19 = .ok (.putfield 18, 3) := dk_181 0 18 (dk_at dksX5_init_0 19 rfl rfl)
theorem dX5_init_22 : decode cX5_init 22 = .ok (.aload_n 0, 1) := dk_42 (dk_at dksX5_init_0 22 rfl rfl)
theorem dX5_init_23 : decode cX5_init 23 = .ok (.iconst 2, 1) := dk_5 (dk_at dksX5_init_0 23 rfl rfl)
theorem dX5_init_24 : decode cX5_init 24 = .ok (.newarray .int, 2) := dk_188_10 (dk_at dksX5_init_1 0 rfl rfl)
theorem dX5_init_26 : decode cX5_init 26 = .ok (.putfield 22, 3) := dk_181 0 22 (dk_at dksX5_init_1 2 rfl rfl)
theorem dX5_init_29 : decode cX5_init 29 = .ok (.aload_n 0, 1) := dk_42 (dk_at dksX5_init_1 5 rfl rfl)
theorem dX5_init_30 : decode cX5_init 30 = .ok (.iconst (-1), 1) := dk_2 (dk_at dksX5_init_1 6 rfl rfl)
theorem dX5_init_31 : decode cX5_init 31 = .ok (.putfield 25, 3) := dk_181 0 25 (dk_at dksX5_init_1 7 rfl rfl)
theorem dX5_init_34 : decode cX5_init 34 = .ok (.aload_n 0, 1) := dk_42 (dk_at dksX5_init_1 10 rfl rfl)
theorem dX5_init_35 : decode cX5_init 35 = .ok (.iconst (-1), 1) := dk_2 (dk_at dksX5_init_1 11 rfl rfl)
theorem dX5_init_36 : decode cX5_init 36 = .ok (.putfield 29, 3) := dk_181 0 29 (dk_at dksX5_init_1 12 rfl rfl)
theorem dX5_init_39 : decode cX5_init 39 = .ok (.return_, 1) := dk_177 (dk_at dksX5_init_1 15 rfl rfl)
abbrev cX5_begin : ByteArray := prog_14_method_2_code
def yX5_begin : MethodName := ⟨RX5, "begin", "(LSillBridges$Town;)V"⟩
def dkwX5_begin_2 : List UInt8 := [180, 0, 22, 28, 43, 180, 0, 46, 28, 50, 180, 0, 49, 79, 132, 2, 1, 167, 255, 230, 177]
abbrev dktX5_begin_2 : List UInt8 := dkwX5_begin_2 ++ []
def dkwX5_begin_1 : List UInt8 := [28, 50, 180, 0, 39, 79, 132, 2, 1, 167, 255, 230, 3, 61, 28, 43, 180, 0, 43, 162, 0, 24, 42]
abbrev dktX5_begin_1 : List UInt8 := dkwX5_begin_1 ++ dktX5_begin_2
def dkwX5_begin_0 : List UInt8 := [42, 43, 181, 0, 12, 3, 61, 28, 43, 180, 0, 32, 162, 0, 24, 42, 180, 0, 18, 28, 43, 180, 0, 35]
abbrev dktX5_begin_0 : List UInt8 := dkwX5_begin_0 ++ dktX5_begin_1
theorem dksX5_begin_0 : cX5_begin.data.toList.drop 0 = dktX5_begin_0 := by decide +kernel
theorem dksX5_begin_1 : cX5_begin.data.toList.drop 24 = dktX5_begin_1 := dk_seg dksX5_begin_0 24 rfl rfl
theorem dksX5_begin_2 : cX5_begin.data.toList.drop 47 = dktX5_begin_2 := dk_seg dksX5_begin_1 23 rfl rfl
theorem dX5_begin_0 : decode cX5_begin 0 = .ok (.aload_n 0, 1) := dk_42 (dk_at dksX5_begin_0 0 rfl rfl)
theorem dX5_begin_1 : decode cX5_begin 1 = .ok (.aload_n 1, 1) := dk_43 (dk_at dksX5_begin_0 1 rfl rfl)
theorem dX5_begin_2 : decode cX5_begin 2 = .ok (.putfield 12, 3) := dk_181 0 12 (dk_at dksX5_begin_0 2 rfl rfl)
theorem dX5_begin_5 : decode cX5_begin 5 = .ok (.iconst 0, 1) := dk_3 (dk_at dksX5_begin_0 5 rfl rfl)
theorem dX5_begin_6 : decode cX5_begin 6 = .ok (.istore_n 2, 1) := dk_61 (dk_at dksX5_begin_0 6 rfl rfl)
theorem dX5_begin_7 : decode cX5_begin 7 = .ok (.iload_n 2, 1) := dk_28 (dk_at dksX5_begin_0 7 rfl rfl)
theorem dX5_begin_8 : decode cX5_begin 8 = .ok (.aload_n 1, 1) := dk_43 (dk_at dksX5_begin_0 8 rfl rfl)
theorem dX5_begin_9 : decode cX5_begin 9 = .ok (.getfield 32, 3) := dk_180 0 32 (dk_at dksX5_begin_0 9 rfl rfl)
theorem dX5_begin_12 : decode cX5_begin 12 = .ok (.if_icmp .ge 24, 3) := dk_162 0 24 (dk_at dksX5_begin_0 12 rfl rfl)
theorem dX5_begin_15 : decode cX5_begin 15 = .ok (.aload_n 0, 1) := dk_42 (dk_at dksX5_begin_0 15 rfl rfl)
theorem dX5_begin_16 : decode cX5_begin 16 = .ok (.getfield 18, 3) := dk_180 0 18 (dk_at dksX5_begin_0 16 rfl rfl)
theorem dX5_begin_19 : decode cX5_begin 19 = .ok (.iload_n 2, 1) := dk_28 (dk_at dksX5_begin_0 19 rfl rfl)
theorem dX5_begin_20 : decode cX5_begin 20 = .ok (.aload_n 1, 1) := dk_43 (dk_at dksX5_begin_0 20 rfl rfl)
theorem dX5_begin_21 : decode cX5_begin 21 = .ok (.getfield 35, 3) := dk_180 0 35 (dk_at dksX5_begin_0 21 rfl rfl)
theorem dX5_begin_24 : decode cX5_begin 24 = .ok (.iload_n 2, 1) := dk_28 (dk_at dksX5_begin_1 0 rfl rfl)
theorem dX5_begin_25 : decode cX5_begin 25 = .ok (.aaload, 1) := dk_50 (dk_at dksX5_begin_1 1 rfl rfl)
theorem dX5_begin_26 : decode cX5_begin 26 = .ok (.getfield 39, 3) := dk_180 0 39 (dk_at dksX5_begin_1 2 rfl rfl)
theorem dX5_begin_29 : decode cX5_begin 29 = .ok (.iastore, 1) := dk_79 (dk_at dksX5_begin_1 5 rfl rfl)
theorem dX5_begin_30 : decode cX5_begin 30 = .ok (.iinc 2 1, 3) := dk_132 2 1 (dk_at dksX5_begin_1 6 rfl rfl)
theorem dX5_begin_33 : decode cX5_begin 33 = .ok (.goto (-26), 3) := dk_167 255 230 (dk_at dksX5_begin_1 9 rfl rfl)
theorem dX5_begin_36 : decode cX5_begin 36 = .ok (.iconst 0, 1) := dk_3 (dk_at dksX5_begin_1 12 rfl rfl)
theorem dX5_begin_37 : decode cX5_begin 37 = .ok (.istore_n 2, 1) := dk_61 (dk_at dksX5_begin_1 13 rfl rfl)
theorem dX5_begin_38 : decode cX5_begin 38 = .ok (.iload_n 2, 1) := dk_28 (dk_at dksX5_begin_1 14 rfl rfl)
theorem dX5_begin_39 : decode cX5_begin 39 = .ok (.aload_n 1, 1) := dk_43 (dk_at dksX5_begin_1 15 rfl rfl)
theorem dX5_begin_40 : decode cX5_begin 40 = .ok (.getfield 43, 3) := dk_180 0 43 (dk_at dksX5_begin_1 16 rfl rfl)
theorem dX5_begin_43 : decode cX5_begin 43 = .ok (.if_icmp .ge 24, 3) := dk_162 0 24 (dk_at dksX5_begin_1 19 rfl rfl)
theorem dX5_begin_46 : decode cX5_begin 46 = .ok (.aload_n 0, 1) := dk_42 (dk_at dksX5_begin_1 22 rfl rfl)
theorem dX5_begin_47 : decode cX5_begin 47 = .ok (.getfield 22, 3) := dk_180 0 22 (dk_at dksX5_begin_2 0 rfl rfl)
theorem dX5_begin_50 : decode cX5_begin 50 = .ok (.iload_n 2, 1) := dk_28 (dk_at dksX5_begin_2 3 rfl rfl)
theorem dX5_begin_51 : decode cX5_begin 51 = .ok (.aload_n 1, 1) := dk_43 (dk_at dksX5_begin_2 4 rfl rfl)
theorem dX5_begin_52 : decode cX5_begin 52 = .ok (.getfield 46, 3) := dk_180 0 46 (dk_at dksX5_begin_2 5 rfl rfl)
theorem dX5_begin_55 : decode cX5_begin 55 = .ok (.iload_n 2, 1) := dk_28 (dk_at dksX5_begin_2 8 rfl rfl)
theorem dX5_begin_56 : decode cX5_begin 56 = .ok (.aaload, 1) := dk_50 (dk_at dksX5_begin_2 9 rfl rfl)
theorem dX5_begin_57 : decode cX5_begin 57 = .ok (.getfield 49, 3) := dk_180 0 49 (dk_at dksX5_begin_2 10 rfl rfl)
theorem dX5_begin_60 : decode cX5_begin 60 = .ok (.iastore, 1) := dk_79 (dk_at dksX5_begin_2 13 rfl rfl)
theorem dX5_begin_61 : decode cX5_begin 61 = .ok (.iinc 2 1, 3) := dk_132 2 1 (dk_at dksX5_begin_2 14 rfl rfl)
theorem dX5_begin_64 : decode cX5_begin 64 = .ok (.goto (-26), 3) := dk_167 255 230 (dk_at dksX5_begin_2 17 rfl rfl)
theorem dX5_begin_67 : decode cX5_begin 67 = .ok (.return_, 1) := dk_177 (dk_at dksX5_begin_2 20 rfl rfl)
abbrev cX5_isDone : ByteArray := prog_14_method_15_code
def yX5_isDone : MethodName := ⟨RX5, "isDone", "()Z"⟩
def dkwX5_isDone_2 : List UInt8 := [159, 0, 5, 3, 172, 132, 1, 1, 167, 255, 204, 4, 172]
abbrev dktX5_isDone_2 : List UInt8 := dkwX5_isDone_2 ++ []
def dkwX5_isDone_1 : List UInt8 := [180, 0, 117, 155, 0, 26, 42, 180, 0, 12, 180, 0, 35, 27, 50, 180, 0, 117, 42, 180, 0, 18, 27, 46]
abbrev dktX5_isDone_1 : List UInt8 := dkwX5_isDone_1 ++ dktX5_isDone_2
def dkwX5_isDone_0 : List UInt8 := [3, 60, 27, 42, 180, 0, 12, 180, 0, 32, 162, 0, 47, 42, 180, 0, 12, 180, 0, 35, 27, 50]
abbrev dktX5_isDone_0 : List UInt8 := dkwX5_isDone_0 ++ dktX5_isDone_1
theorem dksX5_isDone_0 : cX5_isDone.data.toList.drop 0 = dktX5_isDone_0 := by decide +kernel
theorem dksX5_isDone_1 : cX5_isDone.data.toList.drop 22 = dktX5_isDone_1 := dk_seg dksX5_isDone_0 22 rfl rfl
theorem dksX5_isDone_2 : cX5_isDone.data.toList.drop 46 = dktX5_isDone_2 := dk_seg dksX5_isDone_1 24 rfl rfl
theorem dX5_isDone_0 : decode cX5_isDone 0 = .ok (.iconst 0, 1) := dk_3 (dk_at dksX5_isDone_0 0 rfl rfl)
theorem dX5_isDone_1 : decode cX5_isDone 1 = .ok (.istore_n 1, 1) := dk_60 (dk_at dksX5_isDone_0 1 rfl rfl)
theorem dX5_isDone_2 : decode cX5_isDone 2 = .ok (.iload_n 1, 1) := dk_27 (dk_at dksX5_isDone_0 2 rfl rfl)
theorem dX5_isDone_3 : decode cX5_isDone 3 = .ok (.aload_n 0, 1) := dk_42 (dk_at dksX5_isDone_0 3 rfl rfl)
theorem dX5_isDone_4 : decode cX5_isDone 4 = .ok (.getfield 12, 3) := dk_180 0 12 (dk_at dksX5_isDone_0 4 rfl rfl)
theorem dX5_isDone_7 : decode cX5_isDone 7 = .ok (.getfield 32, 3) := dk_180 0 32 (dk_at dksX5_isDone_0 7 rfl rfl)
theorem dX5_isDone_10 : decode cX5_isDone 10 = .ok (.if_icmp .ge 47, 3) := dk_162 0 47 (dk_at dksX5_isDone_0 10 rfl rfl)
theorem dX5_isDone_13 : decode cX5_isDone 13 = .ok (.aload_n 0, 1) := dk_42 (dk_at dksX5_isDone_0 13 rfl rfl)
theorem dX5_isDone_14 : decode cX5_isDone 14 = .ok (.getfield 12, 3) := dk_180 0 12 (dk_at dksX5_isDone_0 14 rfl rfl)
theorem dX5_isDone_17 : decode cX5_isDone 17 = .ok (.getfield 35, 3) := dk_180 0 35 (dk_at dksX5_isDone_0 17 rfl rfl)
theorem dX5_isDone_20 : decode cX5_isDone 20 = .ok (.iload_n 1, 1) := dk_27 (dk_at dksX5_isDone_0 20 rfl rfl)
theorem dX5_isDone_21 : decode cX5_isDone 21 = .ok (.aaload, 1) := dk_50 (dk_at dksX5_isDone_0 21 rfl rfl)
theorem dX5_isDone_22 : decode cX5_isDone 22 = .ok (.getfield 117, 3) := dk_180 0 117 (dk_at dksX5_isDone_1 0 rfl rfl)
theorem dX5_isDone_25 : decode cX5_isDone 25 = .ok (.ifCond .lt 26, 3) := dk_155 0 26 (dk_at dksX5_isDone_1 3 rfl rfl)
theorem dX5_isDone_28 : decode cX5_isDone 28 = .ok (.aload_n 0, 1) := dk_42 (dk_at dksX5_isDone_1 6 rfl rfl)
theorem dX5_isDone_29 : decode cX5_isDone 29 = .ok (.getfield 12, 3) := dk_180 0 12 (dk_at dksX5_isDone_1 7 rfl rfl)
theorem dX5_isDone_32 : decode cX5_isDone 32 = .ok (.getfield 35, 3) := dk_180 0 35 (dk_at dksX5_isDone_1 10 rfl rfl)
theorem dX5_isDone_35 : decode cX5_isDone 35 = .ok (.iload_n 1, 1) := dk_27 (dk_at dksX5_isDone_1 13 rfl rfl)
theorem dX5_isDone_36 : decode cX5_isDone 36 = .ok (.aaload, 1) := dk_50 (dk_at dksX5_isDone_1 14 rfl rfl)
theorem dX5_isDone_37 : decode cX5_isDone 37 = .ok (.getfield 117, 3) := dk_180 0 117 (dk_at dksX5_isDone_1 15 rfl rfl)
theorem dX5_isDone_40 : decode cX5_isDone 40 = .ok (.aload_n 0, 1) := dk_42 (dk_at dksX5_isDone_1 18 rfl rfl)
theorem dX5_isDone_41 : decode cX5_isDone 41 = .ok (.getfield 18, 3) := dk_180 0 18 (dk_at dksX5_isDone_1 19 rfl rfl)
theorem dX5_isDone_44 : decode cX5_isDone 44 = .ok (.iload_n 1, 1) := dk_27 (dk_at dksX5_isDone_1 22 rfl rfl)
theorem dX5_isDone_45 : decode cX5_isDone 45 = .ok (.iaload, 1) := dk_46 (dk_at dksX5_isDone_1 23 rfl rfl)
theorem dX5_isDone_46 : decode cX5_isDone 46 = .ok (.if_icmp .eq 5, 3) := dk_159 0 5 (dk_at dksX5_isDone_2 0 rfl rfl)
theorem dX5_isDone_49 : decode cX5_isDone 49 = .ok (.iconst 0, 1) := dk_3 (dk_at dksX5_isDone_2 3 rfl rfl)
theorem dX5_isDone_50 : decode cX5_isDone 50 = .ok (.ireturn, 1) := dk_172 (dk_at dksX5_isDone_2 4 rfl rfl)
theorem dX5_isDone_51 : decode cX5_isDone 51 = .ok (.iinc 1 1, 3) := dk_132 1 1 (dk_at dksX5_isDone_2 5 rfl rfl)
theorem dX5_isDone_54 : decode cX5_isDone 54 = .ok (.goto (-52), 3) := dk_167 255 204 (dk_at dksX5_isDone_2 8 rfl rfl)
theorem dX5_isDone_57 : decode cX5_isDone 57 = .ok (.iconst 1, 1) := dk_4 (dk_at dksX5_isDone_2 11 rfl rfl)
theorem dX5_isDone_58 : decode cX5_isDone 58 = .ok (.ireturn, 1) := dk_172 (dk_at dksX5_isDone_2 12 rfl rfl)
abbrev cX5_carried : ByteArray := prog_14_method_6_code
def yX5_carried : MethodName := ⟨RX5, "carried", "(I)I"⟩
def dkwX5_carried_1 : List UInt8 := [160, 0, 5, 28, 172, 132, 2, 1, 167, 255, 227, 2, 172]
abbrev dktX5_carried_1 : List UInt8 := dkwX5_carried_1 ++ []
def dkwX5_carried_0 : List UInt8 := [3, 61, 28, 42, 180, 0, 12, 180, 0, 43, 162, 0, 24, 42, 180, 0, 22, 28, 46, 16, 6, 27, 96]
abbrev dktX5_carried_0 : List UInt8 := dkwX5_carried_0 ++ dktX5_carried_1
theorem dksX5_carried_0 : cX5_carried.data.toList.drop 0 = dktX5_carried_0 := by decide +kernel
theorem dksX5_carried_1 : cX5_carried.data.toList.drop 23 = dktX5_carried_1 := dk_seg dksX5_carried_0 23 rfl rfl
theorem dX5_carried_0 : decode cX5_carried 0 = .ok (.iconst 0, 1) := dk_3 (dk_at dksX5_carried_0 0 rfl rfl)
theorem dX5_carried_1 : decode cX5_carried 1 = .ok (.istore_n 2, 1) := dk_61 (dk_at dksX5_carried_0 1 rfl rfl)
theorem dX5_carried_2 : decode cX5_carried 2 = .ok (.iload_n 2, 1) := dk_28 (dk_at dksX5_carried_0 2 rfl rfl)
theorem dX5_carried_3 : decode cX5_carried 3 = .ok (.aload_n 0, 1) := dk_42 (dk_at dksX5_carried_0 3 rfl rfl)
theorem dX5_carried_4 : decode cX5_carried 4 = .ok (.getfield 12, 3) := dk_180 0 12 (dk_at dksX5_carried_0 4 rfl rfl)
theorem dX5_carried_7 : decode cX5_carried 7 = .ok (.getfield 43, 3) := dk_180 0 43 (dk_at dksX5_carried_0 7 rfl rfl)
theorem dX5_carried_10 : decode cX5_carried 10 = .ok (.if_icmp .ge 24, 3) := dk_162 0 24 (dk_at dksX5_carried_0 10 rfl rfl)
theorem dX5_carried_13 : decode cX5_carried 13 = .ok (.aload_n 0, 1) := dk_42 (dk_at dksX5_carried_0 13 rfl rfl)
theorem dX5_carried_14 : decode cX5_carried 14 = .ok (.getfield 22, 3) := dk_180 0 22 (dk_at dksX5_carried_0 14 rfl rfl)
theorem dX5_carried_17 : decode cX5_carried 17 = .ok (.iload_n 2, 1) := dk_28 (dk_at dksX5_carried_0 17 rfl rfl)
theorem dX5_carried_18 : decode cX5_carried 18 = .ok (.iaload, 1) := dk_46 (dk_at dksX5_carried_0 18 rfl rfl)
theorem dX5_carried_19 : decode cX5_carried 19 = .ok (.bipush 6, 2) := dk_16 6 (dk_at dksX5_carried_0 19 rfl rfl)
theorem dX5_carried_21 : decode cX5_carried 21 = .ok (.iload_n 1, 1) := dk_27 (dk_at dksX5_carried_0 21 rfl rfl)
theorem dX5_carried_22 : decode cX5_carried 22 = .ok (.iadd, 1) := dk_96 (dk_at dksX5_carried_0 22 rfl rfl)
theorem dX5_carried_23 : decode cX5_carried 23 = .ok (.if_icmp .ne 5, 3) := dk_160 0 5 (dk_at dksX5_carried_1 0 rfl rfl)
theorem dX5_carried_26 : decode cX5_carried 26 = .ok (.iload_n 2, 1) := dk_28 (dk_at dksX5_carried_1 3 rfl rfl)
theorem dX5_carried_27 : decode cX5_carried 27 = .ok (.ireturn, 1) := dk_172 (dk_at dksX5_carried_1 4 rfl rfl)
theorem dX5_carried_28 : decode cX5_carried 28 = .ok (.iinc 2 1, 3) := dk_132 2 1 (dk_at dksX5_carried_1 5 rfl rfl)
theorem dX5_carried_31 : decode cX5_carried 31 = .ok (.goto (-29), 3) := dk_167 255 227 (dk_at dksX5_carried_1 8 rfl rfl)
theorem dX5_carried_34 : decode cX5_carried 34 = .ok (.iconst (-1), 1) := dk_2 (dk_at dksX5_carried_1 11 rfl rfl)
theorem dX5_carried_35 : decode cX5_carried 35 = .ok (.ireturn, 1) := dk_172 (dk_at dksX5_carried_1 12 rfl rfl)
abbrev cX5_placeOf : ByteArray := prog_14_method_7_code
def yX5_placeOf : MethodName := ⟨RX5, "placeOf", "(I)I"⟩
def dkwX5_placeOf_1 : List UInt8 := [42, 180, 0, 22, 27, 46, 16, 6, 100, 46, 172]
abbrev dktX5_placeOf_1 : List UInt8 := dkwX5_placeOf_1 ++ []
def dkwX5_placeOf_0 : List UInt8 := [42, 180, 0, 22, 27, 46, 16, 6, 162, 0, 12, 42, 180, 0, 22, 27, 46, 167, 0, 17, 42, 180, 0, 18]
abbrev dktX5_placeOf_0 : List UInt8 := dkwX5_placeOf_0 ++ dktX5_placeOf_1
theorem dksX5_placeOf_0 : cX5_placeOf.data.toList.drop 0 = dktX5_placeOf_0 := by decide +kernel
theorem dksX5_placeOf_1 : cX5_placeOf.data.toList.drop 24 = dktX5_placeOf_1 := dk_seg dksX5_placeOf_0 24 rfl rfl
theorem dX5_placeOf_0 : decode cX5_placeOf 0 = .ok (.aload_n 0, 1) := dk_42 (dk_at dksX5_placeOf_0 0 rfl rfl)
theorem dX5_placeOf_1 : decode cX5_placeOf 1 = .ok (.getfield 22, 3) := dk_180 0 22 (dk_at dksX5_placeOf_0 1 rfl rfl)
theorem dX5_placeOf_4 : decode cX5_placeOf 4 = .ok (.iload_n 1, 1) := dk_27 (dk_at dksX5_placeOf_0 4 rfl rfl)
theorem dX5_placeOf_5 : decode cX5_placeOf 5 = .ok (.iaload, 1) := dk_46 (dk_at dksX5_placeOf_0 5 rfl rfl)
theorem dX5_placeOf_6 : decode cX5_placeOf 6 = .ok (.bipush 6, 2) := dk_16 6 (dk_at dksX5_placeOf_0 6 rfl rfl)
theorem dX5_placeOf_8 : decode cX5_placeOf 8 = .ok (.if_icmp .ge 12, 3) := dk_162 0 12 (dk_at dksX5_placeOf_0 8 rfl rfl)
theorem dX5_placeOf_11 : decode cX5_placeOf 11 = .ok (.aload_n 0, 1) := dk_42 (dk_at dksX5_placeOf_0 11 rfl rfl)
theorem dX5_placeOf_12 : decode cX5_placeOf 12 = .ok (.getfield 22, 3) := dk_180 0 22 (dk_at dksX5_placeOf_0 12 rfl rfl)
theorem dX5_placeOf_15 : decode cX5_placeOf 15 = .ok (.iload_n 1, 1) := dk_27 (dk_at dksX5_placeOf_0 15 rfl rfl)
theorem dX5_placeOf_16 : decode cX5_placeOf 16 = .ok (.iaload, 1) := dk_46 (dk_at dksX5_placeOf_0 16 rfl rfl)
theorem dX5_placeOf_17 : decode cX5_placeOf 17 = .ok (.goto 17, 3) := dk_167 0 17 (dk_at dksX5_placeOf_0 17 rfl rfl)
theorem dX5_placeOf_20 : decode cX5_placeOf 20 = .ok (.aload_n 0, 1) := dk_42 (dk_at dksX5_placeOf_0 20 rfl rfl)
theorem dX5_placeOf_21 : decode cX5_placeOf 21 = .ok (.getfield 18, 3) := dk_180 0 18 (dk_at dksX5_placeOf_0 21 rfl rfl)
theorem dX5_placeOf_24 : decode cX5_placeOf 24 = .ok (.aload_n 0, 1) := dk_42 (dk_at dksX5_placeOf_1 0 rfl rfl)
theorem dX5_placeOf_25 : decode cX5_placeOf 25 = .ok (.getfield 22, 3) := dk_180 0 22 (dk_at dksX5_placeOf_1 1 rfl rfl)
theorem dX5_placeOf_28 : decode cX5_placeOf 28 = .ok (.iload_n 1, 1) := dk_27 (dk_at dksX5_placeOf_1 4 rfl rfl)
theorem dX5_placeOf_29 : decode cX5_placeOf 29 = .ok (.iaload, 1) := dk_46 (dk_at dksX5_placeOf_1 5 rfl rfl)
theorem dX5_placeOf_30 : decode cX5_placeOf 30 = .ok (.bipush 6, 2) := dk_16 6 (dk_at dksX5_placeOf_1 6 rfl rfl)
theorem dX5_placeOf_32 : decode cX5_placeOf 32 = .ok (.isub, 1) := dk_100 (dk_at dksX5_placeOf_1 8 rfl rfl)
theorem dX5_placeOf_33 : decode cX5_placeOf 33 = .ok (.iaload, 1) := dk_46 (dk_at dksX5_placeOf_1 9 rfl rfl)
theorem dX5_placeOf_34 : decode cX5_placeOf 34 = .ok (.ireturn, 1) := dk_172 (dk_at dksX5_placeOf_1 10 rfl rfl)
abbrev cX5_weight : ByteArray := prog_14_method_9_code
def yX5_weight : MethodName := ⟨RX5, "weight", "(I)I"⟩
def dkwX5_weight_5 : List UInt8 := [167, 255, 214, 28, 172]
abbrev dktX5_weight_5 : List UInt8 := dkwX5_weight_5 ++ []
def dkwX5_weight_4 : List UInt8 := [160, 0, 18, 42, 180, 0, 12, 180, 0, 46, 29, 50, 180, 0, 65, 167, 0, 4, 3, 96, 61, 132, 3, 1]
abbrev dktX5_weight_4 : List UInt8 := dkwX5_weight_4 ++ dktX5_weight_5
def dkwX5_weight_3 : List UInt8 := [167, 255, 213, 3, 62, 29, 42, 180, 0, 12, 180, 0, 43, 162, 0, 37, 28, 42, 29, 182, 0, 72, 27]
abbrev dktX5_weight_3 : List UInt8 := dkwX5_weight_3 ++ dktX5_weight_4
def dkwX5_weight_2 : List UInt8 := [160, 0, 18, 42, 180, 0, 12, 180, 0, 35, 29, 50, 180, 0, 62, 167, 0, 4, 3, 96, 61, 132, 3, 1]
abbrev dktX5_weight_2 : List UInt8 := dkwX5_weight_2 ++ dktX5_weight_3
def dkwX5_weight_1 : List UInt8 := [3, 96, 61, 3, 62, 29, 42, 180, 0, 12, 180, 0, 32, 162, 0, 38, 28, 42, 180, 0, 18, 29, 46, 27]
abbrev dktX5_weight_1 : List UInt8 := dkwX5_weight_1 ++ dktX5_weight_2
def dkwX5_weight_0 : List UInt8 := [42, 180, 0, 12, 180, 0, 66, 27, 46, 27, 42, 180, 0, 29, 160, 0, 10, 42, 180, 0, 69, 167, 0, 4]
abbrev dktX5_weight_0 : List UInt8 := dkwX5_weight_0 ++ dktX5_weight_1
theorem dksX5_weight_0 : cX5_weight.data.toList.drop 0 = dktX5_weight_0 := by decide +kernel
theorem dksX5_weight_1 : cX5_weight.data.toList.drop 24 = dktX5_weight_1 := dk_seg dksX5_weight_0 24 rfl rfl
theorem dksX5_weight_2 : cX5_weight.data.toList.drop 48 = dktX5_weight_2 := dk_seg dksX5_weight_1 24 rfl rfl
theorem dksX5_weight_3 : cX5_weight.data.toList.drop 72 = dktX5_weight_3 := dk_seg dksX5_weight_2 24 rfl rfl
theorem dksX5_weight_4 : cX5_weight.data.toList.drop 95 = dktX5_weight_4 := dk_seg dksX5_weight_3 23 rfl rfl
theorem dksX5_weight_5 : cX5_weight.data.toList.drop 119 = dktX5_weight_5 := dk_seg dksX5_weight_4 24 rfl rfl
theorem dX5_weight_0 : decode cX5_weight 0 = .ok (.aload_n 0, 1) := dk_42 (dk_at dksX5_weight_0 0 rfl rfl)
theorem dX5_weight_1 : decode cX5_weight 1 = .ok (.getfield 12, 3) := dk_180 0 12 (dk_at dksX5_weight_0 1 rfl rfl)
theorem dX5_weight_4 : decode cX5_weight 4 = .ok (.getfield 66, 3) := dk_180 0 66 (dk_at dksX5_weight_0 4 rfl rfl)
theorem dX5_weight_7 : decode cX5_weight 7 = .ok (.iload_n 1, 1) := dk_27 (dk_at dksX5_weight_0 7 rfl rfl)
theorem dX5_weight_8 : decode cX5_weight 8 = .ok (.iaload, 1) := dk_46 (dk_at dksX5_weight_0 8 rfl rfl)
theorem dX5_weight_9 : decode cX5_weight 9 = .ok (.iload_n 1, 1) := dk_27 (dk_at dksX5_weight_0 9 rfl rfl)
theorem dX5_weight_10 : decode cX5_weight 10 = .ok (.aload_n 0, 1) := dk_42 (dk_at dksX5_weight_0 10 rfl rfl)
theorem dX5_weight_11 : decode cX5_weight 11 = .ok (.getfield 29, 3) := dk_180 0 29 (dk_at dksX5_weight_0 11 rfl rfl)
theorem dX5_weight_14 : decode cX5_weight 14 = .ok (.if_icmp .ne 10, 3) := dk_160 0 10 (dk_at dksX5_weight_0 14 rfl rfl)
theorem dX5_weight_17 : decode cX5_weight 17 = .ok (.aload_n 0, 1) := dk_42 (dk_at dksX5_weight_0 17 rfl rfl)
theorem dX5_weight_18 : decode cX5_weight 18 = .ok (.getfield 69, 3) := dk_180 0 69 (dk_at dksX5_weight_0 18 rfl rfl)
theorem dX5_weight_21 : decode cX5_weight 21 = .ok (.goto 4, 3) := dk_167 0 4 (dk_at dksX5_weight_0 21 rfl rfl)
theorem dX5_weight_24 : decode cX5_weight 24 = .ok (.iconst 0, 1) := dk_3 (dk_at dksX5_weight_1 0 rfl rfl)
theorem dX5_weight_25 : decode cX5_weight 25 = .ok (.iadd, 1) := dk_96 (dk_at dksX5_weight_1 1 rfl rfl)
theorem dX5_weight_26 : decode cX5_weight 26 = .ok (.istore_n 2, 1) := dk_61 (dk_at dksX5_weight_1 2 rfl rfl)
theorem dX5_weight_27 : decode cX5_weight 27 = .ok (.iconst 0, 1) := dk_3 (dk_at dksX5_weight_1 3 rfl rfl)
theorem dX5_weight_28 : decode cX5_weight 28 = .ok (.istore_n 3, 1) := dk_62 (dk_at dksX5_weight_1 4 rfl rfl)
theorem dX5_weight_29 : decode cX5_weight 29 = .ok (.iload_n 3, 1) := dk_29 (dk_at dksX5_weight_1 5 rfl rfl)
theorem dX5_weight_30 : decode cX5_weight 30 = .ok (.aload_n 0, 1) := dk_42 (dk_at dksX5_weight_1 6 rfl rfl)
theorem dX5_weight_31 : decode cX5_weight 31 = .ok (.getfield 12, 3) := dk_180 0 12 (dk_at dksX5_weight_1 7 rfl rfl)
theorem dX5_weight_34 : decode cX5_weight 34 = .ok (.getfield 32, 3) := dk_180 0 32 (dk_at dksX5_weight_1 10 rfl rfl)
theorem dX5_weight_37 : decode cX5_weight 37 = .ok (.if_icmp .ge 38, 3) := dk_162 0 38 (dk_at dksX5_weight_1 13 rfl rfl)
theorem dX5_weight_40 : decode cX5_weight 40 = .ok (.iload_n 2, 1) := dk_28 (dk_at dksX5_weight_1 16 rfl rfl)
theorem dX5_weight_41 : decode cX5_weight 41 = .ok (.aload_n 0, 1) := dk_42 (dk_at dksX5_weight_1 17 rfl rfl)
theorem dX5_weight_42 : decode cX5_weight 42 = .ok (.getfield 18, 3) := dk_180 0 18 (dk_at dksX5_weight_1 18 rfl rfl)
theorem dX5_weight_45 : decode cX5_weight 45 = .ok (.iload_n 3, 1) := dk_29 (dk_at dksX5_weight_1 21 rfl rfl)
theorem dX5_weight_46 : decode cX5_weight 46 = .ok (.iaload, 1) := dk_46 (dk_at dksX5_weight_1 22 rfl rfl)
theorem dX5_weight_47 : decode cX5_weight 47 = .ok (.iload_n 1, 1) := dk_27 (dk_at dksX5_weight_1 23 rfl rfl)
theorem dX5_weight_48 : decode cX5_weight 48 = .ok (.if_icmp .ne 18, 3) := dk_160 0 18 (dk_at dksX5_weight_2 0 rfl rfl)
theorem dX5_weight_51 : decode cX5_weight 51 = .ok (.aload_n 0, 1) := dk_42 (dk_at dksX5_weight_2 3 rfl rfl)
theorem dX5_weight_52 : decode cX5_weight 52 = .ok (.getfield 12, 3) := dk_180 0 12 (dk_at dksX5_weight_2 4 rfl rfl)
theorem dX5_weight_55 : decode cX5_weight 55 = .ok (.getfield 35, 3) := dk_180 0 35 (dk_at dksX5_weight_2 7 rfl rfl)
theorem dX5_weight_58 : decode cX5_weight 58 = .ok (.iload_n 3, 1) := dk_29 (dk_at dksX5_weight_2 10 rfl rfl)
theorem dX5_weight_59 : decode cX5_weight 59 = .ok (.aaload, 1) := dk_50 (dk_at dksX5_weight_2 11 rfl rfl)
theorem dX5_weight_60 : decode cX5_weight 60 = .ok (.getfield 62, 3) := dk_180 0 62 (dk_at dksX5_weight_2 12 rfl rfl)
theorem dX5_weight_63 : decode cX5_weight 63 = .ok (.goto 4, 3) := dk_167 0 4 (dk_at dksX5_weight_2 15 rfl rfl)
theorem dX5_weight_66 : decode cX5_weight 66 = .ok (.iconst 0, 1) := dk_3 (dk_at dksX5_weight_2 18 rfl rfl)
theorem dX5_weight_67 : decode cX5_weight 67 = .ok (.iadd, 1) := dk_96 (dk_at dksX5_weight_2 19 rfl rfl)
theorem dX5_weight_68 : decode cX5_weight 68 = .ok (.istore_n 2, 1) := dk_61 (dk_at dksX5_weight_2 20 rfl rfl)
theorem dX5_weight_69 : decode cX5_weight 69 = .ok (.iinc 3 1, 3) := dk_132 3 1 (dk_at dksX5_weight_2 21 rfl rfl)
theorem dX5_weight_72 : decode cX5_weight 72 = .ok (.goto (-43), 3) := dk_167 255 213 (dk_at dksX5_weight_3 0 rfl rfl)
theorem dX5_weight_75 : decode cX5_weight 75 = .ok (.iconst 0, 1) := dk_3 (dk_at dksX5_weight_3 3 rfl rfl)
theorem dX5_weight_76 : decode cX5_weight 76 = .ok (.istore_n 3, 1) := dk_62 (dk_at dksX5_weight_3 4 rfl rfl)
theorem dX5_weight_77 : decode cX5_weight 77 = .ok (.iload_n 3, 1) := dk_29 (dk_at dksX5_weight_3 5 rfl rfl)
theorem dX5_weight_78 : decode cX5_weight 78 = .ok (.aload_n 0, 1) := dk_42 (dk_at dksX5_weight_3 6 rfl rfl)
theorem dX5_weight_79 : decode cX5_weight 79 = .ok (.getfield 12, 3) := dk_180 0 12 (dk_at dksX5_weight_3 7 rfl rfl)
theorem dX5_weight_82 : decode cX5_weight 82 = .ok (.getfield 43, 3) := dk_180 0 43 (dk_at dksX5_weight_3 10 rfl rfl)
theorem dX5_weight_85 : decode cX5_weight 85 = .ok (.if_icmp .ge 37, 3) := dk_162 0 37 (dk_at dksX5_weight_3 13 rfl rfl)
theorem dX5_weight_88 : decode cX5_weight 88 = .ok (.iload_n 2, 1) := dk_28 (dk_at dksX5_weight_3 16 rfl rfl)
theorem dX5_weight_89 : decode cX5_weight 89 = .ok (.aload_n 0, 1) := dk_42 (dk_at dksX5_weight_3 17 rfl rfl)
theorem dX5_weight_90 : decode cX5_weight 90 = .ok (.iload_n 3, 1) := dk_29 (dk_at dksX5_weight_3 18 rfl rfl)
theorem dX5_weight_91 : decode cX5_weight 91 = .ok (.invokevirtual 72, 3) := dk_182 0 72 (dk_at dksX5_weight_3 19 rfl rfl)
theorem dX5_weight_94 : decode cX5_weight 94 = .ok (.iload_n 1, 1) := dk_27 (dk_at dksX5_weight_3 22 rfl rfl)
theorem dX5_weight_95 : decode cX5_weight 95 = .ok (.if_icmp .ne 18, 3) := dk_160 0 18 (dk_at dksX5_weight_4 0 rfl rfl)
theorem dX5_weight_98 : decode cX5_weight 98 = .ok (.aload_n 0, 1) := dk_42 (dk_at dksX5_weight_4 3 rfl rfl)
theorem dX5_weight_99 : decode cX5_weight 99 = .ok (.getfield 12, 3) := dk_180 0 12 (dk_at dksX5_weight_4 4 rfl rfl)
theorem dX5_weight_102 : decode cX5_weight 102 = .ok (.getfield 46, 3) := dk_180 0 46 (dk_at dksX5_weight_4 7 rfl rfl)
theorem dX5_weight_105 : decode cX5_weight 105 = .ok (.iload_n 3, 1) := dk_29 (dk_at dksX5_weight_4 10 rfl rfl)
theorem dX5_weight_106 : decode cX5_weight 106 = .ok (.aaload, 1) := dk_50 (dk_at dksX5_weight_4 11 rfl rfl)
theorem dX5_weight_107 : decode cX5_weight 107 = .ok (.getfield 65, 3) := dk_180 0 65 (dk_at dksX5_weight_4 12 rfl rfl)
theorem dX5_weight_110 : decode cX5_weight 110 = .ok (.goto 4, 3) := dk_167 0 4 (dk_at dksX5_weight_4 15 rfl rfl)
theorem dX5_weight_113 : decode cX5_weight 113 = .ok (.iconst 0, 1) := dk_3 (dk_at dksX5_weight_4 18 rfl rfl)
theorem dX5_weight_114 : decode cX5_weight 114 = .ok (.iadd, 1) := dk_96 (dk_at dksX5_weight_4 19 rfl rfl)
theorem dX5_weight_115 : decode cX5_weight 115 = .ok (.istore_n 2, 1) := dk_61 (dk_at dksX5_weight_4 20 rfl rfl)
theorem dX5_weight_116 : decode cX5_weight 116 = .ok (.iinc 3 1, 3) := dk_132 3 1 (dk_at dksX5_weight_4 21 rfl rfl)
theorem dX5_weight_119 : decode cX5_weight 119 = .ok (.goto (-42), 3) := dk_167 255 214 (dk_at dksX5_weight_5 0 rfl rfl)
theorem dX5_weight_122 : decode cX5_weight 122 = .ok (.iload_n 2, 1) := dk_28 (dk_at dksX5_weight_5 3 rfl rfl)
theorem dX5_weight_123 : decode cX5_weight 123 = .ok (.ireturn, 1) := dk_172 (dk_at dksX5_weight_5 4 rfl rfl)
abbrev cX5_hangs : ByteArray := prog_14_method_11_code
def yX5_hangs : MethodName := ⟨RX5, "hangs", "(I)Z"⟩
def dkwX5_hangs_0 : List UInt8 := [42, 27, 3, 182, 0, 90, 172]
abbrev dktX5_hangs_0 : List UInt8 := dkwX5_hangs_0 ++ []
theorem dksX5_hangs_0 : cX5_hangs.data.toList.drop 0 = dktX5_hangs_0 := by decide +kernel
theorem dX5_hangs_0 : decode cX5_hangs 0 = .ok (.aload_n 0, 1) := dk_42 (dk_at dksX5_hangs_0 0 rfl rfl)
theorem dX5_hangs_1 : decode cX5_hangs 1 = .ok (.iload_n 1, 1) := dk_27 (dk_at dksX5_hangs_0 1 rfl rfl)
theorem dX5_hangs_2 : decode cX5_hangs 2 = .ok (.iconst 0, 1) := dk_3 (dk_at dksX5_hangs_0 2 rfl rfl)
theorem dX5_hangs_3 : decode cX5_hangs 3 = .ok (.invokevirtual 90, 3) := dk_182 0 90 (dk_at dksX5_hangs_0 3 rfl rfl)
theorem dX5_hangs_6 : decode cX5_hangs 6 = .ok (.ireturn, 1) := dk_172 (dk_at dksX5_hangs_0 6 rfl rfl)
abbrev cX5_hangs_2 : ByteArray := prog_14_method_10_code
def yX5_hangs_2 : MethodName := ⟨RX5, "hangs", "(II)Z"⟩
def dkwX5_hangs_2_4 : List UInt8 := [180, 0, 79, 182, 0, 88, 28, 100, 163, 0, 7, 4, 167, 0, 4, 3, 172]
abbrev dktX5_hangs_2_4 : List UInt8 := dkwX5_hangs_2_4 ++ []
def dkwX5_hangs_2_3 : List UInt8 := [21, 5, 50, 182, 0, 84, 167, 0, 4, 3, 96, 54, 4, 132, 5, 1, 167, 255, 196, 21, 4, 42, 45]
abbrev dktX5_hangs_2_3 : List UInt8 := dkwX5_hangs_2_3 ++ dktX5_hangs_2_4
def dkwX5_hangs_2_2 : List UInt8 := [180, 0, 75, 21, 5, 50, 180, 0, 79, 45, 180, 0, 79, 160, 0, 19, 42, 180, 0, 12, 180, 0, 75]
abbrev dktX5_hangs_2_2 : List UInt8 := dkwX5_hangs_2_2 ++ dktX5_hangs_2_3
def dkwX5_hangs_2_1 : List UInt8 := [54, 5, 21, 5, 27, 163, 0, 60, 21, 4, 21, 5, 42, 180, 0, 25, 159, 0, 39, 42, 180, 0, 12]
abbrev dktX5_hangs_2_1 : List UInt8 := dkwX5_hangs_2_1 ++ dktX5_hangs_2_2
def dkwX5_hangs_2_0 : List UInt8 := [27, 42, 180, 0, 25, 160, 0, 5, 3, 172, 42, 180, 0, 12, 180, 0, 75, 27, 50, 78, 3, 54, 4, 3]
abbrev dktX5_hangs_2_0 : List UInt8 := dkwX5_hangs_2_0 ++ dktX5_hangs_2_1
theorem dksX5_hangs_2_0 : cX5_hangs_2.data.toList.drop 0 = dktX5_hangs_2_0 := by decide +kernel
theorem dksX5_hangs_2_1 : cX5_hangs_2.data.toList.drop 24 = dktX5_hangs_2_1 := dk_seg dksX5_hangs_2_0 24 rfl rfl
theorem dksX5_hangs_2_2 : cX5_hangs_2.data.toList.drop 47 = dktX5_hangs_2_2 := dk_seg dksX5_hangs_2_1 23 rfl rfl
theorem dksX5_hangs_2_3 : cX5_hangs_2.data.toList.drop 70 = dktX5_hangs_2_3 := dk_seg dksX5_hangs_2_2 23 rfl rfl
theorem dksX5_hangs_2_4 : cX5_hangs_2.data.toList.drop 93 = dktX5_hangs_2_4 := dk_seg dksX5_hangs_2_3 23 rfl rfl
theorem dX5_hangs_2_0 : decode cX5_hangs_2 0 = .ok (.iload_n 1, 1) := dk_27 (dk_at dksX5_hangs_2_0 0 rfl rfl)
theorem dX5_hangs_2_1 : decode cX5_hangs_2 1 = .ok (.aload_n 0, 1) := dk_42 (dk_at dksX5_hangs_2_0 1 rfl rfl)
theorem dX5_hangs_2_2 : decode cX5_hangs_2 2 = .ok (.getfield 25, 3) := dk_180 0 25 (dk_at dksX5_hangs_2_0 2 rfl rfl)
theorem dX5_hangs_2_5 : decode cX5_hangs_2 5 = .ok (.if_icmp .ne 5, 3) := dk_160 0 5 (dk_at dksX5_hangs_2_0 5 rfl rfl)
theorem dX5_hangs_2_8 : decode cX5_hangs_2 8 = .ok (.iconst 0, 1) := dk_3 (dk_at dksX5_hangs_2_0 8 rfl rfl)
theorem dX5_hangs_2_9 : decode cX5_hangs_2 9 = .ok (.ireturn, 1) := dk_172 (dk_at dksX5_hangs_2_0 9 rfl rfl)
theorem dX5_hangs_2_10 : decode cX5_hangs_2 10 = .ok (.aload_n 0, 1) := dk_42 (dk_at dksX5_hangs_2_0 10 rfl rfl)
theorem dX5_hangs_2_11 : decode cX5_hangs_2 11 = .ok (.getfield 12, 3) := dk_180 0 12 (dk_at dksX5_hangs_2_0 11 rfl rfl)
theorem dX5_hangs_2_14 : decode cX5_hangs_2 14 = .ok (.getfield 75, 3) := dk_180 0 75 (dk_at dksX5_hangs_2_0 14 rfl rfl)
theorem dX5_hangs_2_17 : decode cX5_hangs_2 17 = .ok (.iload_n 1, 1) := dk_27 (dk_at dksX5_hangs_2_0 17 rfl rfl)
theorem dX5_hangs_2_18 : decode cX5_hangs_2 18 = .ok (.aaload, 1) := dk_50 (dk_at dksX5_hangs_2_0 18 rfl rfl)
theorem dX5_hangs_2_19 : decode cX5_hangs_2 19 = .ok (.astore_n 3, 1) := dk_78 (dk_at dksX5_hangs_2_0 19 rfl rfl)
theorem dX5_hangs_2_20 : decode cX5_hangs_2 20 = .ok (.iconst 0, 1) := dk_3 (dk_at dksX5_hangs_2_0 20 rfl rfl)
theorem dX5_hangs_2_21 : decode cX5_hangs_2 21 = .ok (.istore 4, 2) := dk_54 4 (dk_at dksX5_hangs_2_0 21 rfl rfl)
theorem dX5_hangs_2_23 : decode cX5_hangs_2 23 = .ok (.iconst 0, 1) := dk_3 (dk_at dksX5_hangs_2_0 23 rfl rfl)
theorem dX5_hangs_2_24 : decode cX5_hangs_2 24 = .ok (.istore 5, 2) := dk_54 5 (dk_at dksX5_hangs_2_1 0 rfl rfl)
theorem dX5_hangs_2_26 : decode cX5_hangs_2 26 = .ok (.iload 5, 2) := dk_21 5 (dk_at dksX5_hangs_2_1 2 rfl rfl)
theorem dX5_hangs_2_28 : decode cX5_hangs_2 28 = .ok (.iload_n 1, 1) := dk_27 (dk_at dksX5_hangs_2_1 4 rfl rfl)
theorem dX5_hangs_2_29 : decode cX5_hangs_2 29 = .ok (.if_icmp .gt 60, 3) := dk_163 0 60 (dk_at dksX5_hangs_2_1 5 rfl rfl)
theorem dX5_hangs_2_32 : decode cX5_hangs_2 32 = .ok (.iload 4, 2) := dk_21 4 (dk_at dksX5_hangs_2_1 8 rfl rfl)
theorem dX5_hangs_2_34 : decode cX5_hangs_2 34 = .ok (.iload 5, 2) := dk_21 5 (dk_at dksX5_hangs_2_1 10 rfl rfl)
theorem dX5_hangs_2_36 : decode cX5_hangs_2 36 = .ok (.aload_n 0, 1) := dk_42 (dk_at dksX5_hangs_2_1 12 rfl rfl)
theorem dX5_hangs_2_37 : decode cX5_hangs_2 37 = .ok (.getfield 25, 3) := dk_180 0 25 (dk_at dksX5_hangs_2_1 13 rfl rfl)
theorem dX5_hangs_2_40 : decode cX5_hangs_2 40 = .ok (.if_icmp .eq 39, 3) := dk_159 0 39 (dk_at dksX5_hangs_2_1 16 rfl rfl)
theorem dX5_hangs_2_43 : decode cX5_hangs_2 43 = .ok (.aload_n 0, 1) := dk_42 (dk_at dksX5_hangs_2_1 19 rfl rfl)
theorem dX5_hangs_2_44 : decode cX5_hangs_2 44 = .ok (.getfield 12, 3) := dk_180 0 12 (dk_at dksX5_hangs_2_1 20 rfl rfl)
theorem dX5_hangs_2_47 : decode cX5_hangs_2 47 = .ok (.getfield 75, 3) := dk_180 0 75 (dk_at dksX5_hangs_2_2 0 rfl rfl)
theorem dX5_hangs_2_50 : decode cX5_hangs_2 50 = .ok (.iload 5, 2) := dk_21 5 (dk_at dksX5_hangs_2_2 3 rfl rfl)
theorem dX5_hangs_2_52 : decode cX5_hangs_2 52 = .ok (.aaload, 1) := dk_50 (dk_at dksX5_hangs_2_2 5 rfl rfl)
theorem dX5_hangs_2_53 : decode cX5_hangs_2 53 = .ok (.getfield 79, 3) := dk_180 0 79 (dk_at dksX5_hangs_2_2 6 rfl rfl)
theorem dX5_hangs_2_56 : decode cX5_hangs_2 56 = .ok (.aload_n 3, 1) := dk_45 (dk_at dksX5_hangs_2_2 9 rfl rfl)
theorem dX5_hangs_2_57 : decode cX5_hangs_2 57 = .ok (.getfield 79, 3) := dk_180 0 79 (dk_at dksX5_hangs_2_2 10 rfl rfl)
theorem dX5_hangs_2_60 : decode cX5_hangs_2 60 = .ok (.if_icmp .ne 19, 3) := dk_160 0 19 (dk_at dksX5_hangs_2_2 13 rfl rfl)
theorem dX5_hangs_2_63 : decode cX5_hangs_2 63 = .ok (.aload_n 0, 1) := dk_42 (dk_at dksX5_hangs_2_2 16 rfl rfl)
theorem dX5_hangs_2_64 : decode cX5_hangs_2 64 = .ok (.getfield 12, 3) := dk_180 0 12 (dk_at dksX5_hangs_2_2 17 rfl rfl)
theorem dX5_hangs_2_67 : decode cX5_hangs_2 67 = .ok (.getfield 75, 3) := dk_180 0 75 (dk_at dksX5_hangs_2_2 20 rfl rfl)
theorem dX5_hangs_2_70 : decode cX5_hangs_2 70 = .ok (.iload 5, 2) := dk_21 5 (dk_at dksX5_hangs_2_3 0 rfl rfl)
theorem dX5_hangs_2_72 : decode cX5_hangs_2 72 = .ok (.aaload, 1) := dk_50 (dk_at dksX5_hangs_2_3 2 rfl rfl)
theorem dX5_hangs_2_73 : decode cX5_hangs_2 73 = .ok (.invokevirtual 84, 3) := dk_182 0 84 (dk_at dksX5_hangs_2_3 3 rfl rfl)
theorem dX5_hangs_2_76 : decode cX5_hangs_2 76 = .ok (.goto 4, 3) := dk_167 0 4 (dk_at dksX5_hangs_2_3 6 rfl rfl)
theorem dX5_hangs_2_79 : decode cX5_hangs_2 79 = .ok (.iconst 0, 1) := dk_3 (dk_at dksX5_hangs_2_3 9 rfl rfl)
theorem dX5_hangs_2_80 : decode cX5_hangs_2 80 = .ok (.iadd, 1) := dk_96 (dk_at dksX5_hangs_2_3 10 rfl rfl)
theorem dX5_hangs_2_81 : decode cX5_hangs_2 81 = .ok (.istore 4, 2) := dk_54 4 (dk_at dksX5_hangs_2_3 11 rfl rfl)
theorem dX5_hangs_2_83 : decode cX5_hangs_2 83 = .ok (.iinc 5 1, 3) := dk_132 5 1 (dk_at dksX5_hangs_2_3 13 rfl rfl)
theorem dX5_hangs_2_86 : decode cX5_hangs_2 86 = .ok (.goto (-60), 3) := dk_167 255 196 (dk_at dksX5_hangs_2_3 16 rfl rfl)
theorem dX5_hangs_2_89 : decode cX5_hangs_2 89 = .ok (.iload 4, 2) := dk_21 4 (dk_at dksX5_hangs_2_3 19 rfl rfl)
theorem dX5_hangs_2_91 : decode cX5_hangs_2 91 = .ok (.aload_n 0, 1) := dk_42 (dk_at dksX5_hangs_2_3 21 rfl rfl)
theorem dX5_hangs_2_92 : decode cX5_hangs_2 92 = .ok (.aload_n 3, 1) := dk_45 (dk_at dksX5_hangs_2_3 22 rfl rfl)
theorem dX5_hangs_2_93 : decode cX5_hangs_2 93 = .ok (.getfield 79, 3) := dk_180 0 79 (dk_at dksX5_hangs_2_4 0 rfl rfl)
theorem dX5_hangs_2_96 : decode cX5_hangs_2 96 = .ok (.invokevirtual 88, 3) := dk_182 0 88 (dk_at dksX5_hangs_2_4 3 rfl rfl)
theorem dX5_hangs_2_99 : decode cX5_hangs_2 99 = .ok (.iload_n 2, 1) := dk_28 (dk_at dksX5_hangs_2_4 6 rfl rfl)
theorem dX5_hangs_2_100 : decode cX5_hangs_2 100 = .ok (.isub, 1) := dk_100 (dk_at dksX5_hangs_2_4 7 rfl rfl)
theorem dX5_hangs_2_101 : decode cX5_hangs_2 101 = .ok (.if_icmp .gt 7, 3) := dk_163 0 7 (dk_at dksX5_hangs_2_4 8 rfl rfl)
theorem dX5_hangs_2_104 : decode cX5_hangs_2 104 = .ok (.iconst 1, 1) := dk_4 (dk_at dksX5_hangs_2_4 11 rfl rfl)
theorem dX5_hangs_2_105 : decode cX5_hangs_2 105 = .ok (.goto 4, 3) := dk_167 0 4 (dk_at dksX5_hangs_2_4 12 rfl rfl)
theorem dX5_hangs_2_108 : decode cX5_hangs_2 108 = .ok (.iconst 0, 1) := dk_3 (dk_at dksX5_hangs_2_4 15 rfl rfl)
theorem dX5_hangs_2_109 : decode cX5_hangs_2 109 = .ok (.ireturn, 1) := dk_172 (dk_at dksX5_hangs_2_4 16 rfl rfl)
abbrev cX5_moves : ByteArray := prog_14_method_14_code
def yX5_moves : MethodName := ⟨RX5, "moves", "(IIII)Z"⟩
def dkwX5_moves_5 : List UInt8 := [160, 0, 15, 42, 180, 0, 18, 29, 42, 180, 0, 18, 28, 46, 79, 4, 172]
abbrev dktX5_moves_5 : List UInt8 := dkwX5_moves_5 ++ []
def dkwX5_moves_4 : List UInt8 := [42, 180, 0, 12, 180, 0, 75, 21, 4, 50, 42, 180, 0, 18, 28, 46, 182, 0, 94, 79, 27, 4]
abbrev dktX5_moves_4 : List UInt8 := dkwX5_moves_4 ++ dktX5_moves_5
def dkwX5_moves_3 : List UInt8 := [4, 160, 0, 7, 29, 167, 0, 4, 2, 21, 4, 182, 0, 113, 158, 0, 5, 3, 172, 42, 180, 0, 18, 28]
abbrev dktX5_moves_3 : List UInt8 := dkwX5_moves_3 ++ dktX5_moves_4
def dkwX5_moves_2 : List UInt8 := [156, 0, 5, 3, 172, 42, 180, 0, 22, 21, 5, 42, 180, 0, 18, 28, 46, 79, 167, 0, 67, 42, 28, 27]
abbrev dktX5_moves_2 : List UInt8 := dkwX5_moves_2 ++ dktX5_moves_3
def dkwX5_moves_1 : List UInt8 := [16, 6, 28, 96, 79, 167, 0, 102, 27, 6, 160, 0, 33, 42, 28, 182, 0, 58, 54, 5, 21, 5]
abbrev dktX5_moves_1 : List UInt8 := dkwX5_moves_1 ++ dktX5_moves_2
def dkwX5_moves_0 : List UInt8 := [27, 5, 160, 0, 29, 42, 28, 21, 4, 182, 0, 110, 154, 0, 5, 3, 172, 42, 180, 0, 22, 21, 4]
abbrev dktX5_moves_0 : List UInt8 := dkwX5_moves_0 ++ dktX5_moves_1
theorem dksX5_moves_0 : cX5_moves.data.toList.drop 0 = dktX5_moves_0 := by decide +kernel
theorem dksX5_moves_1 : cX5_moves.data.toList.drop 23 = dktX5_moves_1 := dk_seg dksX5_moves_0 23 rfl rfl
theorem dksX5_moves_2 : cX5_moves.data.toList.drop 45 = dktX5_moves_2 := dk_seg dksX5_moves_1 22 rfl rfl
theorem dksX5_moves_3 : cX5_moves.data.toList.drop 69 = dktX5_moves_3 := dk_seg dksX5_moves_2 24 rfl rfl
theorem dksX5_moves_4 : cX5_moves.data.toList.drop 93 = dktX5_moves_4 := dk_seg dksX5_moves_3 24 rfl rfl
theorem dksX5_moves_5 : cX5_moves.data.toList.drop 115 = dktX5_moves_5 := dk_seg dksX5_moves_4 22 rfl rfl
theorem dX5_moves_0 : decode cX5_moves 0 = .ok (.iload_n 1, 1) := dk_27 (dk_at dksX5_moves_0 0 rfl rfl)
theorem dX5_moves_1 : decode cX5_moves 1 = .ok (.iconst 2, 1) := dk_5 (dk_at dksX5_moves_0 1 rfl rfl)
theorem dX5_moves_2 : decode cX5_moves 2 = .ok (.if_icmp .ne 29, 3) := dk_160 0 29 (dk_at dksX5_moves_0 2 rfl rfl)
theorem dX5_moves_5 : decode cX5_moves 5 = .ok (.aload_n 0, 1) := dk_42 (dk_at dksX5_moves_0 5 rfl rfl)
theorem dX5_moves_6 : decode cX5_moves 6 = .ok (.iload_n 2, 1) := dk_28 (dk_at dksX5_moves_0 6 rfl rfl)
theorem dX5_moves_7 : decode cX5_moves 7 = .ok (.iload 4, 2) := dk_21 4 (dk_at dksX5_moves_0 7 rfl rfl)
theorem dX5_moves_9 : decode cX5_moves 9 = .ok (.invokevirtual 110, 3) := dk_182 0 110 (dk_at dksX5_moves_0 9 rfl rfl)
theorem dX5_moves_12 : decode cX5_moves 12 = .ok (.ifCond .ne 5, 3) := dk_154 0 5 (dk_at dksX5_moves_0 12 rfl rfl)
theorem dX5_moves_15 : decode cX5_moves 15 = .ok (.iconst 0, 1) := dk_3 (dk_at dksX5_moves_0 15 rfl rfl)
theorem dX5_moves_16 : decode cX5_moves 16 = .ok (.ireturn, 1) := dk_172 (dk_at dksX5_moves_0 16 rfl rfl)
theorem dX5_moves_17 : decode cX5_moves 17 = .ok (.aload_n 0, 1) := dk_42 (dk_at dksX5_moves_0 17 rfl rfl)
theorem dX5_moves_18 : decode cX5_moves 18 = .ok (.getfield 22, 3) := dk_180 0 22 (dk_at dksX5_moves_0 18 rfl rfl)
theorem dX5_moves_21 : decode cX5_moves 21 = .ok (.iload 4, 2) := dk_21 4 (dk_at dksX5_moves_0 21 rfl rfl)
theorem dX5_moves_23 : decode cX5_moves 23 = .ok (.bipush 6, 2) := dk_16 6 (dk_at dksX5_moves_1 0 rfl rfl)
theorem dX5_moves_25 : decode cX5_moves 25 = .ok (.iload_n 2, 1) := dk_28 (dk_at dksX5_moves_1 2 rfl rfl)
theorem dX5_moves_26 : decode cX5_moves 26 = .ok (.iadd, 1) := dk_96 (dk_at dksX5_moves_1 3 rfl rfl)
theorem dX5_moves_27 : decode cX5_moves 27 = .ok (.iastore, 1) := dk_79 (dk_at dksX5_moves_1 4 rfl rfl)
theorem dX5_moves_28 : decode cX5_moves 28 = .ok (.goto 102, 3) := dk_167 0 102 (dk_at dksX5_moves_1 5 rfl rfl)
theorem dX5_moves_31 : decode cX5_moves 31 = .ok (.iload_n 1, 1) := dk_27 (dk_at dksX5_moves_1 8 rfl rfl)
theorem dX5_moves_32 : decode cX5_moves 32 = .ok (.iconst 3, 1) := dk_6 (dk_at dksX5_moves_1 9 rfl rfl)
theorem dX5_moves_33 : decode cX5_moves 33 = .ok (.if_icmp .ne 33, 3) := dk_160 0 33 (dk_at dksX5_moves_1 10 rfl rfl)
theorem dX5_moves_36 : decode cX5_moves 36 = .ok (.aload_n 0, 1) := dk_42 (dk_at dksX5_moves_1 13 rfl rfl)
theorem dX5_moves_37 : decode cX5_moves 37 = .ok (.iload_n 2, 1) := dk_28 (dk_at dksX5_moves_1 14 rfl rfl)
theorem dX5_moves_38 : decode cX5_moves 38 = .ok (.invokevirtual 58, 3) := dk_182 0 58 (dk_at dksX5_moves_1 15 rfl rfl)
theorem dX5_moves_41 : decode cX5_moves 41 = .ok (.istore 5, 2) := dk_54 5 (dk_at dksX5_moves_1 18 rfl rfl)
theorem dX5_moves_43 : decode cX5_moves 43 = .ok (.iload 5, 2) := dk_21 5 (dk_at dksX5_moves_1 20 rfl rfl)
theorem dX5_moves_45 : decode cX5_moves 45 = .ok (.ifCond .ge 5, 3) := dk_156 0 5 (dk_at dksX5_moves_2 0 rfl rfl)
theorem dX5_moves_48 : decode cX5_moves 48 = .ok (.iconst 0, 1) := dk_3 (dk_at dksX5_moves_2 3 rfl rfl)
theorem dX5_moves_49 : decode cX5_moves 49 = .ok (.ireturn, 1) := dk_172 (dk_at dksX5_moves_2 4 rfl rfl)
theorem dX5_moves_50 : decode cX5_moves 50 = .ok (.aload_n 0, 1) := dk_42 (dk_at dksX5_moves_2 5 rfl rfl)
theorem dX5_moves_51 : decode cX5_moves 51 = .ok (.getfield 22, 3) := dk_180 0 22 (dk_at dksX5_moves_2 6 rfl rfl)
theorem dX5_moves_54 : decode cX5_moves 54 = .ok (.iload 5, 2) := dk_21 5 (dk_at dksX5_moves_2 9 rfl rfl)
theorem dX5_moves_56 : decode cX5_moves 56 = .ok (.aload_n 0, 1) := dk_42 (dk_at dksX5_moves_2 11 rfl rfl)
theorem dX5_moves_57 : decode cX5_moves 57 = .ok (.getfield 18, 3) := dk_180 0 18 (dk_at dksX5_moves_2 12 rfl rfl)
theorem dX5_moves_60 : decode cX5_moves 60 = .ok (.iload_n 2, 1) := dk_28 (dk_at dksX5_moves_2 15 rfl rfl)
theorem dX5_moves_61 : decode cX5_moves 61 = .ok (.iaload, 1) := dk_46 (dk_at dksX5_moves_2 16 rfl rfl)
theorem dX5_moves_62 : decode cX5_moves 62 = .ok (.iastore, 1) := dk_79 (dk_at dksX5_moves_2 17 rfl rfl)
theorem dX5_moves_63 : decode cX5_moves 63 = .ok (.goto 67, 3) := dk_167 0 67 (dk_at dksX5_moves_2 18 rfl rfl)
theorem dX5_moves_66 : decode cX5_moves 66 = .ok (.aload_n 0, 1) := dk_42 (dk_at dksX5_moves_2 21 rfl rfl)
theorem dX5_moves_67 : decode cX5_moves 67 = .ok (.iload_n 2, 1) := dk_28 (dk_at dksX5_moves_2 22 rfl rfl)
theorem dX5_moves_68 : decode cX5_moves 68 = .ok (.iload_n 1, 1) := dk_27 (dk_at dksX5_moves_2 23 rfl rfl)
theorem dX5_moves_69 : decode cX5_moves 69 = .ok (.iconst 1, 1) := dk_4 (dk_at dksX5_moves_3 0 rfl rfl)
theorem dX5_moves_70 : decode cX5_moves 70 = .ok (.if_icmp .ne 7, 3) := dk_160 0 7 (dk_at dksX5_moves_3 1 rfl rfl)
theorem dX5_moves_73 : decode cX5_moves 73 = .ok (.iload_n 3, 1) := dk_29 (dk_at dksX5_moves_3 4 rfl rfl)
theorem dX5_moves_74 : decode cX5_moves 74 = .ok (.goto 4, 3) := dk_167 0 4 (dk_at dksX5_moves_3 5 rfl rfl)
theorem dX5_moves_77 : decode cX5_moves 77 = .ok (.iconst (-1), 1) := dk_2 (dk_at dksX5_moves_3 8 rfl rfl)
theorem dX5_moves_78 : decode cX5_moves 78 = .ok (.iload 4, 2) := dk_21 4 (dk_at dksX5_moves_3 9 rfl rfl)
theorem dX5_moves_80 : decode cX5_moves 80 = .ok (.invokevirtual 113, 3) := dk_182 0 113 (dk_at dksX5_moves_3 11 rfl rfl)
theorem dX5_moves_83 : decode cX5_moves 83 = .ok (.ifCond .le 5, 3) := dk_158 0 5 (dk_at dksX5_moves_3 14 rfl rfl)
theorem dX5_moves_86 : decode cX5_moves 86 = .ok (.iconst 0, 1) := dk_3 (dk_at dksX5_moves_3 17 rfl rfl)
theorem dX5_moves_87 : decode cX5_moves 87 = .ok (.ireturn, 1) := dk_172 (dk_at dksX5_moves_3 18 rfl rfl)
theorem dX5_moves_88 : decode cX5_moves 88 = .ok (.aload_n 0, 1) := dk_42 (dk_at dksX5_moves_3 19 rfl rfl)
theorem dX5_moves_89 : decode cX5_moves 89 = .ok (.getfield 18, 3) := dk_180 0 18 (dk_at dksX5_moves_3 20 rfl rfl)
theorem dX5_moves_92 : decode cX5_moves 92 = .ok (.iload_n 2, 1) := dk_28 (dk_at dksX5_moves_3 23 rfl rfl)
theorem dX5_moves_93 : decode cX5_moves 93 = .ok (.aload_n 0, 1) := dk_42 (dk_at dksX5_moves_4 0 rfl rfl)
theorem dX5_moves_94 : decode cX5_moves 94 = .ok (.getfield 12, 3) := dk_180 0 12 (dk_at dksX5_moves_4 1 rfl rfl)
theorem dX5_moves_97 : decode cX5_moves 97 = .ok (.getfield 75, 3) := dk_180 0 75 (dk_at dksX5_moves_4 4 rfl rfl)
theorem dX5_moves_100 : decode cX5_moves 100 = .ok (.iload 4, 2) := dk_21 4 (dk_at dksX5_moves_4 7 rfl rfl)
theorem dX5_moves_102 : decode cX5_moves 102 = .ok (.aaload, 1) := dk_50 (dk_at dksX5_moves_4 9 rfl rfl)
theorem dX5_moves_103 : decode cX5_moves 103 = .ok (.aload_n 0, 1) := dk_42 (dk_at dksX5_moves_4 10 rfl rfl)
theorem dX5_moves_104 : decode cX5_moves 104 = .ok (.getfield 18, 3) := dk_180 0 18 (dk_at dksX5_moves_4 11 rfl rfl)
theorem dX5_moves_107 : decode cX5_moves 107 = .ok (.iload_n 2, 1) := dk_28 (dk_at dksX5_moves_4 14 rfl rfl)
theorem dX5_moves_108 : decode cX5_moves 108 = .ok (.iaload, 1) := dk_46 (dk_at dksX5_moves_4 15 rfl rfl)
theorem dX5_moves_109 : decode cX5_moves 109 = .ok (.invokevirtual 94, 3) := dk_182 0 94 (dk_at dksX5_moves_4 16 rfl rfl)
theorem dX5_moves_112 : decode cX5_moves 112 = .ok (.iastore, 1) := dk_79 (dk_at dksX5_moves_4 19 rfl rfl)
theorem dX5_moves_113 : decode cX5_moves 113 = .ok (.iload_n 1, 1) := dk_27 (dk_at dksX5_moves_4 20 rfl rfl)
theorem dX5_moves_114 : decode cX5_moves 114 = .ok (.iconst 1, 1) := dk_4 (dk_at dksX5_moves_4 21 rfl rfl)
theorem dX5_moves_115 : decode cX5_moves 115 = .ok (.if_icmp .ne 15, 3) := dk_160 0 15 (dk_at dksX5_moves_5 0 rfl rfl)
theorem dX5_moves_118 : decode cX5_moves 118 = .ok (.aload_n 0, 1) := dk_42 (dk_at dksX5_moves_5 3 rfl rfl)
theorem dX5_moves_119 : decode cX5_moves 119 = .ok (.getfield 18, 3) := dk_180 0 18 (dk_at dksX5_moves_5 4 rfl rfl)
theorem dX5_moves_122 : decode cX5_moves 122 = .ok (.iload_n 3, 1) := dk_29 (dk_at dksX5_moves_5 7 rfl rfl)
theorem dX5_moves_123 : decode cX5_moves 123 = .ok (.aload_n 0, 1) := dk_42 (dk_at dksX5_moves_5 8 rfl rfl)
theorem dX5_moves_124 : decode cX5_moves 124 = .ok (.getfield 18, 3) := dk_180 0 18 (dk_at dksX5_moves_5 9 rfl rfl)
theorem dX5_moves_127 : decode cX5_moves 127 = .ok (.iload_n 2, 1) := dk_28 (dk_at dksX5_moves_5 12 rfl rfl)
theorem dX5_moves_128 : decode cX5_moves 128 = .ok (.iaload, 1) := dk_46 (dk_at dksX5_moves_5 13 rfl rfl)
theorem dX5_moves_129 : decode cX5_moves 129 = .ok (.iastore, 1) := dk_79 (dk_at dksX5_moves_5 14 rfl rfl)
theorem dX5_moves_130 : decode cX5_moves 130 = .ok (.iconst 1, 1) := dk_4 (dk_at dksX5_moves_5 15 rfl rfl)
theorem dX5_moves_131 : decode cX5_moves 131 = .ok (.ireturn, 1) := dk_172 (dk_at dksX5_moves_5 16 rfl rfl)
abbrev cX5_canLift : ByteArray := prog_14_method_13_code
def yX5_canLift : MethodName := ⟨RX5, "canLift", "(II)Z"⟩
def dkwX5_canLift_2 : List UInt8 := [163, 0, 7, 4, 167, 0, 4, 3, 172]
abbrev dktX5_canLift_2 : List UInt8 := dkwX5_canLift_2 ++ []
def dkwX5_canLift_1 : List UInt8 := [180, 0, 12, 180, 0, 46, 28, 50, 180, 0, 65, 42, 180, 0, 12, 180, 0, 35, 27, 50, 180, 0, 107]
abbrev dktX5_canLift_1 : List UInt8 := dkwX5_canLift_1 ++ dktX5_canLift_2
def dkwX5_canLift_0 : List UInt8 := [42, 180, 0, 22, 28, 46, 42, 180, 0, 18, 27, 46, 160, 0, 42, 42, 27, 182, 0, 58, 156, 0, 34, 42]
abbrev dktX5_canLift_0 : List UInt8 := dkwX5_canLift_0 ++ dktX5_canLift_1
theorem dksX5_canLift_0 : cX5_canLift.data.toList.drop 0 = dktX5_canLift_0 := by decide +kernel
theorem dksX5_canLift_1 : cX5_canLift.data.toList.drop 24 = dktX5_canLift_1 := dk_seg dksX5_canLift_0 24 rfl rfl
theorem dksX5_canLift_2 : cX5_canLift.data.toList.drop 47 = dktX5_canLift_2 := dk_seg dksX5_canLift_1 23 rfl rfl
theorem dX5_canLift_0 : decode cX5_canLift 0 = .ok (.aload_n 0, 1) := dk_42 (dk_at dksX5_canLift_0 0 rfl rfl)
theorem dX5_canLift_1 : decode cX5_canLift 1 = .ok (.getfield 22, 3) := dk_180 0 22 (dk_at dksX5_canLift_0 1 rfl rfl)
theorem dX5_canLift_4 : decode cX5_canLift 4 = .ok (.iload_n 2, 1) := dk_28 (dk_at dksX5_canLift_0 4 rfl rfl)
theorem dX5_canLift_5 : decode cX5_canLift 5 = .ok (.iaload, 1) := dk_46 (dk_at dksX5_canLift_0 5 rfl rfl)
theorem dX5_canLift_6 : decode cX5_canLift 6 = .ok (.aload_n 0, 1) := dk_42 (dk_at dksX5_canLift_0 6 rfl rfl)
theorem dX5_canLift_7 : decode cX5_canLift 7 = .ok (.getfield 18, 3) := dk_180 0 18 (dk_at dksX5_canLift_0 7 rfl rfl)
theorem dX5_canLift_10 : decode cX5_canLift 10 = .ok (.iload_n 1, 1) := dk_27 (dk_at dksX5_canLift_0 10 rfl rfl)
theorem dX5_canLift_11 : decode cX5_canLift 11 = .ok (.iaload, 1) := dk_46 (dk_at dksX5_canLift_0 11 rfl rfl)
theorem dX5_canLift_12 : decode cX5_canLift 12 = .ok (.if_icmp .ne 42, 3) := dk_160 0 42 (dk_at dksX5_canLift_0 12 rfl rfl)
theorem dX5_canLift_15 : decode cX5_canLift 15 = .ok (.aload_n 0, 1) := dk_42 (dk_at dksX5_canLift_0 15 rfl rfl)
theorem dX5_canLift_16 : decode cX5_canLift 16 = .ok (.iload_n 1, 1) := dk_27 (dk_at dksX5_canLift_0 16 rfl rfl)
theorem dX5_canLift_17 : decode cX5_canLift 17 = .ok (.invokevirtual 58, 3) := dk_182 0 58 (dk_at dksX5_canLift_0 17 rfl rfl)
theorem dX5_canLift_20 : decode cX5_canLift 20 = .ok (.ifCond .ge 34, 3) := dk_156 0 34 (dk_at dksX5_canLift_0 20 rfl rfl)
theorem dX5_canLift_23 : decode cX5_canLift 23 = .ok (.aload_n 0, 1) := dk_42 (dk_at dksX5_canLift_0 23 rfl rfl)
theorem dX5_canLift_24 : decode cX5_canLift 24 = .ok (.getfield 12, 3) := dk_180 0 12 (dk_at dksX5_canLift_1 0 rfl rfl)
theorem dX5_canLift_27 : decode cX5_canLift 27 = .ok (.getfield 46, 3) := dk_180 0 46 (dk_at dksX5_canLift_1 3 rfl rfl)
theorem dX5_canLift_30 : decode cX5_canLift 30 = .ok (.iload_n 2, 1) := dk_28 (dk_at dksX5_canLift_1 6 rfl rfl)
theorem dX5_canLift_31 : decode cX5_canLift 31 = .ok (.aaload, 1) := dk_50 (dk_at dksX5_canLift_1 7 rfl rfl)
theorem dX5_canLift_32 : decode cX5_canLift 32 = .ok (.getfield 65, 3) := dk_180 0 65 (dk_at dksX5_canLift_1 8 rfl rfl)
theorem dX5_canLift_35 : decode cX5_canLift 35 = .ok (.aload_n 0, 1) := dk_42 (dk_at dksX5_canLift_1 11 rfl rfl)
theorem dX5_canLift_36 : decode cX5_canLift 36 = .ok (.getfield 12, 3) := dk_180 0 12 (dk_at dksX5_canLift_1 12 rfl rfl)
theorem dX5_canLift_39 : decode cX5_canLift 39 = .ok (.getfield 35, 3) := dk_180 0 35 (dk_at dksX5_canLift_1 15 rfl rfl)
theorem dX5_canLift_42 : decode cX5_canLift 42 = .ok (.iload_n 1, 1) := dk_27 (dk_at dksX5_canLift_1 18 rfl rfl)
theorem dX5_canLift_43 : decode cX5_canLift 43 = .ok (.aaload, 1) := dk_50 (dk_at dksX5_canLift_1 19 rfl rfl)
theorem dX5_canLift_44 : decode cX5_canLift 44 = .ok (.getfield 107, 3) := dk_180 0 107 (dk_at dksX5_canLift_1 20 rfl rfl)
theorem dX5_canLift_47 : decode cX5_canLift 47 = .ok (.if_icmp .gt 7, 3) := dk_163 0 7 (dk_at dksX5_canLift_2 0 rfl rfl)
theorem dX5_canLift_50 : decode cX5_canLift 50 = .ok (.iconst 1, 1) := dk_4 (dk_at dksX5_canLift_2 3 rfl rfl)
theorem dX5_canLift_51 : decode cX5_canLift 51 = .ok (.goto 4, 3) := dk_167 0 4 (dk_at dksX5_canLift_2 4 rfl rfl)
theorem dX5_canLift_54 : decode cX5_canLift 54 = .ok (.iconst 0, 1) := dk_3 (dk_at dksX5_canLift_2 7 rfl rfl)
theorem dX5_canLift_55 : decode cX5_canLift 55 = .ok (.ireturn, 1) := dk_172 (dk_at dksX5_canLift_2 8 rfl rfl)
abbrev cX5_why : ByteArray := prog_14_method_12_code
def yX5_why : MethodName := ⟨RX5, "why", "(III)I"⟩
def dkwX5_why_6 : List UInt8 := [153, 0, 7, 7, 167, 0, 4, 3, 172]
abbrev dktX5_why_6 : List UInt8 := dkwX5_why_6 ++ []
def dkwX5_why_5 : List UInt8 := [27, 50, 180, 0, 103, 153, 0, 26, 28, 155, 0, 18, 42, 180, 0, 12, 180, 0, 35, 28, 50, 180, 0, 103]
abbrev dktX5_why_5 : List UInt8 := dkwX5_why_5 ++ dktX5_why_6
def dkwX5_why_4 : List UInt8 := [154, 0, 5, 5, 172, 21, 5, 25, 4, 180, 0, 100, 164, 0, 5, 6, 172, 42, 180, 0, 12, 180, 0, 35]
abbrev dktX5_why_4 : List UInt8 := dkwX5_why_4 ++ dktX5_why_5
def dkwX5_why_3 : List UInt8 := [180, 0, 18, 27, 46, 25, 4, 180, 0, 79, 160, 0, 8, 21, 5, 167, 0, 4, 3, 182, 0, 90]
abbrev dktX5_why_3 : List UInt8 := dkwX5_why_3 ++ dktX5_why_4
def dkwX5_why_2 : List UInt8 := [42, 27, 182, 0, 97, 28, 156, 0, 7, 3, 167, 0, 8, 42, 28, 182, 0, 97, 96, 54, 5, 42, 29, 42]
abbrev dktX5_why_2 : List UInt8 := dkwX5_why_2 ++ dktX5_why_3
def dkwX5_why_1 : List UInt8 := [155, 0, 22, 28, 155, 0, 20, 42, 180, 0, 18, 28, 46, 42, 180, 0, 18, 27, 46, 159, 0, 5, 4, 172]
abbrev dktX5_why_1 : List UInt8 := dkwX5_why_1 ++ dktX5_why_2
def dkwX5_why_0 : List UInt8 := [42, 180, 0, 12, 180, 0, 75, 29, 50, 58, 4, 25, 4, 42, 180, 0, 18, 27, 46, 182, 0, 94]
abbrev dktX5_why_0 : List UInt8 := dkwX5_why_0 ++ dktX5_why_1
theorem dksX5_why_0 : cX5_why.data.toList.drop 0 = dktX5_why_0 := by decide +kernel
theorem dksX5_why_1 : cX5_why.data.toList.drop 22 = dktX5_why_1 := dk_seg dksX5_why_0 22 rfl rfl
theorem dksX5_why_2 : cX5_why.data.toList.drop 46 = dktX5_why_2 := dk_seg dksX5_why_1 24 rfl rfl
theorem dksX5_why_3 : cX5_why.data.toList.drop 70 = dktX5_why_3 := dk_seg dksX5_why_2 24 rfl rfl
theorem dksX5_why_4 : cX5_why.data.toList.drop 92 = dktX5_why_4 := dk_seg dksX5_why_3 22 rfl rfl
theorem dksX5_why_5 : cX5_why.data.toList.drop 116 = dktX5_why_5 := dk_seg dksX5_why_4 24 rfl rfl
theorem dksX5_why_6 : cX5_why.data.toList.drop 140 = dktX5_why_6 := dk_seg dksX5_why_5 24 rfl rfl
theorem dX5_why_0 : decode cX5_why 0 = .ok (.aload_n 0, 1) := dk_42 (dk_at dksX5_why_0 0 rfl rfl)
theorem dX5_why_1 : decode cX5_why 1 = .ok (.getfield 12, 3) := dk_180 0 12 (dk_at dksX5_why_0 1 rfl rfl)
theorem dX5_why_4 : decode cX5_why 4 = .ok (.getfield 75, 3) := dk_180 0 75 (dk_at dksX5_why_0 4 rfl rfl)
theorem dX5_why_7 : decode cX5_why 7 = .ok (.iload_n 3, 1) := dk_29 (dk_at dksX5_why_0 7 rfl rfl)
theorem dX5_why_8 : decode cX5_why 8 = .ok (.aaload, 1) := dk_50 (dk_at dksX5_why_0 8 rfl rfl)
theorem dX5_why_9 : decode cX5_why 9 = .ok (.astore 4, 2) := dk_58 4 (dk_at dksX5_why_0 9 rfl rfl)
theorem dX5_why_11 : decode cX5_why 11 = .ok (.aload 4, 2) := dk_25 4 (dk_at dksX5_why_0 11 rfl rfl)
theorem dX5_why_13 : decode cX5_why 13 = .ok (.aload_n 0, 1) := dk_42 (dk_at dksX5_why_0 13 rfl rfl)
theorem dX5_why_14 : decode cX5_why 14 = .ok (.getfield 18, 3) := dk_180 0 18 (dk_at dksX5_why_0 14 rfl rfl)
theorem dX5_why_17 : decode cX5_why 17 = .ok (.iload_n 1, 1) := dk_27 (dk_at dksX5_why_0 17 rfl rfl)
theorem dX5_why_18 : decode cX5_why 18 = .ok (.iaload, 1) := dk_46 (dk_at dksX5_why_0 18 rfl rfl)
theorem dX5_why_19 : decode cX5_why 19 = .ok (.invokevirtual 94, 3) := dk_182 0 94 (dk_at dksX5_why_0 19 rfl rfl)
theorem dX5_why_22 : decode cX5_why 22 = .ok (.ifCond .lt 22, 3) := dk_155 0 22 (dk_at dksX5_why_1 0 rfl rfl)
theorem dX5_why_25 : decode cX5_why 25 = .ok (.iload_n 2, 1) := dk_28 (dk_at dksX5_why_1 3 rfl rfl)
theorem dX5_why_26 : decode cX5_why 26 = .ok (.ifCond .lt 20, 3) := dk_155 0 20 (dk_at dksX5_why_1 4 rfl rfl)
theorem dX5_why_29 : decode cX5_why 29 = .ok (.aload_n 0, 1) := dk_42 (dk_at dksX5_why_1 7 rfl rfl)
theorem dX5_why_30 : decode cX5_why 30 = .ok (.getfield 18, 3) := dk_180 0 18 (dk_at dksX5_why_1 8 rfl rfl)
theorem dX5_why_33 : decode cX5_why 33 = .ok (.iload_n 2, 1) := dk_28 (dk_at dksX5_why_1 11 rfl rfl)
theorem dX5_why_34 : decode cX5_why 34 = .ok (.iaload, 1) := dk_46 (dk_at dksX5_why_1 12 rfl rfl)
theorem dX5_why_35 : decode cX5_why 35 = .ok (.aload_n 0, 1) := dk_42 (dk_at dksX5_why_1 13 rfl rfl)
theorem dX5_why_36 : decode cX5_why 36 = .ok (.getfield 18, 3) := dk_180 0 18 (dk_at dksX5_why_1 14 rfl rfl)
theorem dX5_why_39 : decode cX5_why 39 = .ok (.iload_n 1, 1) := dk_27 (dk_at dksX5_why_1 17 rfl rfl)
theorem dX5_why_40 : decode cX5_why 40 = .ok (.iaload, 1) := dk_46 (dk_at dksX5_why_1 18 rfl rfl)
theorem dX5_why_41 : decode cX5_why 41 = .ok (.if_icmp .eq 5, 3) := dk_159 0 5 (dk_at dksX5_why_1 19 rfl rfl)
theorem dX5_why_44 : decode cX5_why 44 = .ok (.iconst 1, 1) := dk_4 (dk_at dksX5_why_1 22 rfl rfl)
theorem dX5_why_45 : decode cX5_why 45 = .ok (.ireturn, 1) := dk_172 (dk_at dksX5_why_1 23 rfl rfl)
theorem dX5_why_46 : decode cX5_why 46 = .ok (.aload_n 0, 1) := dk_42 (dk_at dksX5_why_2 0 rfl rfl)
theorem dX5_why_47 : decode cX5_why 47 = .ok (.iload_n 1, 1) := dk_27 (dk_at dksX5_why_2 1 rfl rfl)
theorem dX5_why_48 : decode cX5_why 48 = .ok (.invokevirtual 97, 3) := dk_182 0 97 (dk_at dksX5_why_2 2 rfl rfl)
theorem dX5_why_51 : decode cX5_why 51 = .ok (.iload_n 2, 1) := dk_28 (dk_at dksX5_why_2 5 rfl rfl)
theorem dX5_why_52 : decode cX5_why 52 = .ok (.ifCond .ge 7, 3) := dk_156 0 7 (dk_at dksX5_why_2 6 rfl rfl)
theorem dX5_why_55 : decode cX5_why 55 = .ok (.iconst 0, 1) := dk_3 (dk_at dksX5_why_2 9 rfl rfl)
theorem dX5_why_56 : decode cX5_why 56 = .ok (.goto 8, 3) := dk_167 0 8 (dk_at dksX5_why_2 10 rfl rfl)
theorem dX5_why_59 : decode cX5_why 59 = .ok (.aload_n 0, 1) := dk_42 (dk_at dksX5_why_2 13 rfl rfl)
theorem dX5_why_60 : decode cX5_why 60 = .ok (.iload_n 2, 1) := dk_28 (dk_at dksX5_why_2 14 rfl rfl)
theorem dX5_why_61 : decode cX5_why 61 = .ok (.invokevirtual 97, 3) := dk_182 0 97 (dk_at dksX5_why_2 15 rfl rfl)
theorem dX5_why_64 : decode cX5_why 64 = .ok (.iadd, 1) := dk_96 (dk_at dksX5_why_2 18 rfl rfl)
theorem dX5_why_65 : decode cX5_why 65 = .ok (.istore 5, 2) := dk_54 5 (dk_at dksX5_why_2 19 rfl rfl)
theorem dX5_why_67 : decode cX5_why 67 = .ok (.aload_n 0, 1) := dk_42 (dk_at dksX5_why_2 21 rfl rfl)
theorem dX5_why_68 : decode cX5_why 68 = .ok (.iload_n 3, 1) := dk_29 (dk_at dksX5_why_2 22 rfl rfl)
theorem dX5_why_69 : decode cX5_why 69 = .ok (.aload_n 0, 1) := dk_42 (dk_at dksX5_why_2 23 rfl rfl)
theorem dX5_why_70 : decode cX5_why 70 = .ok (.getfield 18, 3) := dk_180 0 18 (dk_at dksX5_why_3 0 rfl rfl)
theorem dX5_why_73 : decode cX5_why 73 = .ok (.iload_n 1, 1) := dk_27 (dk_at dksX5_why_3 3 rfl rfl)
theorem dX5_why_74 : decode cX5_why 74 = .ok (.iaload, 1) := dk_46 (dk_at dksX5_why_3 4 rfl rfl)
theorem dX5_why_75 : decode cX5_why 75 = .ok (.aload 4, 2) := dk_25 4 (dk_at dksX5_why_3 5 rfl rfl)
theorem dX5_why_77 : decode cX5_why 77 = .ok (.getfield 79, 3) := dk_180 0 79 (dk_at dksX5_why_3 7 rfl rfl)
theorem dX5_why_80 : decode cX5_why 80 = .ok (.if_icmp .ne 8, 3) := dk_160 0 8 (dk_at dksX5_why_3 10 rfl rfl)
theorem dX5_why_83 : decode cX5_why 83 = .ok (.iload 5, 2) := dk_21 5 (dk_at dksX5_why_3 13 rfl rfl)
theorem dX5_why_85 : decode cX5_why 85 = .ok (.goto 4, 3) := dk_167 0 4 (dk_at dksX5_why_3 15 rfl rfl)
theorem dX5_why_88 : decode cX5_why 88 = .ok (.iconst 0, 1) := dk_3 (dk_at dksX5_why_3 18 rfl rfl)
theorem dX5_why_89 : decode cX5_why 89 = .ok (.invokevirtual 90, 3) := dk_182 0 90 (dk_at dksX5_why_3 19 rfl rfl)
theorem dX5_why_92 : decode cX5_why 92 = .ok (.ifCond .ne 5, 3) := dk_154 0 5 (dk_at dksX5_why_4 0 rfl rfl)
theorem dX5_why_95 : decode cX5_why 95 = .ok (.iconst 2, 1) := dk_5 (dk_at dksX5_why_4 3 rfl rfl)
theorem dX5_why_96 : decode cX5_why 96 = .ok (.ireturn, 1) := dk_172 (dk_at dksX5_why_4 4 rfl rfl)
theorem dX5_why_97 : decode cX5_why 97 = .ok (.iload 5, 2) := dk_21 5 (dk_at dksX5_why_4 5 rfl rfl)
theorem dX5_why_99 : decode cX5_why 99 = .ok (.aload 4, 2) := dk_25 4 (dk_at dksX5_why_4 7 rfl rfl)
theorem dX5_why_101 : decode cX5_why 101 = .ok (.getfield 100, 3) := dk_180 0 100 (dk_at dksX5_why_4 9 rfl rfl)
theorem dX5_why_104 : decode cX5_why 104 = .ok (.if_icmp .le 5, 3) := dk_164 0 5 (dk_at dksX5_why_4 12 rfl rfl)
theorem dX5_why_107 : decode cX5_why 107 = .ok (.iconst 3, 1) := dk_6 (dk_at dksX5_why_4 15 rfl rfl)
theorem dX5_why_108 : decode cX5_why 108 = .ok (.ireturn, 1) := dk_172 (dk_at dksX5_why_4 16 rfl rfl)
theorem dX5_why_109 : decode cX5_why 109 = .ok (.aload_n 0, 1) := dk_42 (dk_at dksX5_why_4 17 rfl rfl)
theorem dX5_why_110 : decode cX5_why 110 = .ok (.getfield 12, 3) := dk_180 0 12 (dk_at dksX5_why_4 18 rfl rfl)
theorem dX5_why_113 : decode cX5_why 113 = .ok (.getfield 35, 3) := dk_180 0 35 (dk_at dksX5_why_4 21 rfl rfl)
theorem dX5_why_116 : decode cX5_why 116 = .ok (.iload_n 1, 1) := dk_27 (dk_at dksX5_why_5 0 rfl rfl)
theorem dX5_why_117 : decode cX5_why 117 = .ok (.aaload, 1) := dk_50 (dk_at dksX5_why_5 1 rfl rfl)
theorem dX5_why_118 : decode cX5_why 118 = .ok (.getfield 103, 3) := dk_180 0 103 (dk_at dksX5_why_5 2 rfl rfl)
theorem dX5_why_121 : decode cX5_why 121 = .ok (.ifCond .eq 26, 3) := dk_153 0 26 (dk_at dksX5_why_5 5 rfl rfl)
theorem dX5_why_124 : decode cX5_why 124 = .ok (.iload_n 2, 1) := dk_28 (dk_at dksX5_why_5 8 rfl rfl)
theorem dX5_why_125 : decode cX5_why 125 = .ok (.ifCond .lt 18, 3) := dk_155 0 18 (dk_at dksX5_why_5 9 rfl rfl)
theorem dX5_why_128 : decode cX5_why 128 = .ok (.aload_n 0, 1) := dk_42 (dk_at dksX5_why_5 12 rfl rfl)
theorem dX5_why_129 : decode cX5_why 129 = .ok (.getfield 12, 3) := dk_180 0 12 (dk_at dksX5_why_5 13 rfl rfl)
theorem dX5_why_132 : decode cX5_why 132 = .ok (.getfield 35, 3) := dk_180 0 35 (dk_at dksX5_why_5 16 rfl rfl)
theorem dX5_why_135 : decode cX5_why 135 = .ok (.iload_n 2, 1) := dk_28 (dk_at dksX5_why_5 19 rfl rfl)
theorem dX5_why_136 : decode cX5_why 136 = .ok (.aaload, 1) := dk_50 (dk_at dksX5_why_5 20 rfl rfl)
theorem dX5_why_137 : decode cX5_why 137 = .ok (.getfield 103, 3) := dk_180 0 103 (dk_at dksX5_why_5 21 rfl rfl)
theorem dX5_why_140 : decode cX5_why 140 = .ok (.ifCond .eq 7, 3) := dk_153 0 7 (dk_at dksX5_why_6 0 rfl rfl)
theorem dX5_why_143 : decode cX5_why 143 = .ok (.iconst 4, 1) := dk_7 (dk_at dksX5_why_6 3 rfl rfl)
theorem dX5_why_144 : decode cX5_why 144 = .ok (.goto 4, 3) := dk_167 0 4 (dk_at dksX5_why_6 4 rfl rfl)
theorem dX5_why_147 : decode cX5_why 147 = .ok (.iconst 0, 1) := dk_3 (dk_at dksX5_why_6 7 rfl rfl)
theorem dX5_why_148 : decode cX5_why 148 = .ok (.ireturn, 1) := dk_172 (dk_at dksX5_why_6 8 rfl rfl)
abbrev cX5_heavy : ByteArray := prog_14_method_8_code
def yX5_heavy : MethodName := ⟨RX5, "heavy", "(I)I"⟩
def dkwX5_heavy_1 : List UInt8 := [167, 0, 15, 42, 180, 0, 12, 180, 0, 46, 28, 50, 180, 0, 65, 96, 172]
abbrev dktX5_heavy_1 : List UInt8 := dkwX5_heavy_1 ++ []
def dkwX5_heavy_0 : List UInt8 := [42, 27, 182, 0, 58, 61, 42, 180, 0, 12, 180, 0, 35, 27, 50, 180, 0, 62, 28, 156, 0, 7, 3]
abbrev dktX5_heavy_0 : List UInt8 := dkwX5_heavy_0 ++ dktX5_heavy_1
theorem dksX5_heavy_0 : cX5_heavy.data.toList.drop 0 = dktX5_heavy_0 := by decide +kernel
theorem dksX5_heavy_1 : cX5_heavy.data.toList.drop 23 = dktX5_heavy_1 := dk_seg dksX5_heavy_0 23 rfl rfl
theorem dX5_heavy_0 : decode cX5_heavy 0 = .ok (.aload_n 0, 1) := dk_42 (dk_at dksX5_heavy_0 0 rfl rfl)
theorem dX5_heavy_1 : decode cX5_heavy 1 = .ok (.iload_n 1, 1) := dk_27 (dk_at dksX5_heavy_0 1 rfl rfl)
theorem dX5_heavy_2 : decode cX5_heavy 2 = .ok (.invokevirtual 58, 3) := dk_182 0 58 (dk_at dksX5_heavy_0 2 rfl rfl)
theorem dX5_heavy_5 : decode cX5_heavy 5 = .ok (.istore_n 2, 1) := dk_61 (dk_at dksX5_heavy_0 5 rfl rfl)
theorem dX5_heavy_6 : decode cX5_heavy 6 = .ok (.aload_n 0, 1) := dk_42 (dk_at dksX5_heavy_0 6 rfl rfl)
theorem dX5_heavy_7 : decode cX5_heavy 7 = .ok (.getfield 12, 3) := dk_180 0 12 (dk_at dksX5_heavy_0 7 rfl rfl)
theorem dX5_heavy_10 : decode cX5_heavy 10 = .ok (.getfield 35, 3) := dk_180 0 35 (dk_at dksX5_heavy_0 10 rfl rfl)
theorem dX5_heavy_13 : decode cX5_heavy 13 = .ok (.iload_n 1, 1) := dk_27 (dk_at dksX5_heavy_0 13 rfl rfl)
theorem dX5_heavy_14 : decode cX5_heavy 14 = .ok (.aaload, 1) := dk_50 (dk_at dksX5_heavy_0 14 rfl rfl)
theorem dX5_heavy_15 : decode cX5_heavy 15 = .ok (.getfield 62, 3) := dk_180 0 62 (dk_at dksX5_heavy_0 15 rfl rfl)
theorem dX5_heavy_18 : decode cX5_heavy 18 = .ok (.iload_n 2, 1) := dk_28 (dk_at dksX5_heavy_0 18 rfl rfl)
theorem dX5_heavy_19 : decode cX5_heavy 19 = .ok (.ifCond .ge 7, 3) := dk_156 0 7 (dk_at dksX5_heavy_0 19 rfl rfl)
theorem dX5_heavy_22 : decode cX5_heavy 22 = .ok (.iconst 0, 1) := dk_3 (dk_at dksX5_heavy_0 22 rfl rfl)
theorem dX5_heavy_23 : decode cX5_heavy 23 = .ok (.goto 15, 3) := dk_167 0 15 (dk_at dksX5_heavy_1 0 rfl rfl)
theorem dX5_heavy_26 : decode cX5_heavy 26 = .ok (.aload_n 0, 1) := dk_42 (dk_at dksX5_heavy_1 3 rfl rfl)
theorem dX5_heavy_27 : decode cX5_heavy 27 = .ok (.getfield 12, 3) := dk_180 0 12 (dk_at dksX5_heavy_1 4 rfl rfl)
theorem dX5_heavy_30 : decode cX5_heavy 30 = .ok (.getfield 46, 3) := dk_180 0 46 (dk_at dksX5_heavy_1 7 rfl rfl)
theorem dX5_heavy_33 : decode cX5_heavy 33 = .ok (.iload_n 2, 1) := dk_28 (dk_at dksX5_heavy_1 10 rfl rfl)
theorem dX5_heavy_34 : decode cX5_heavy 34 = .ok (.aaload, 1) := dk_50 (dk_at dksX5_heavy_1 11 rfl rfl)
theorem dX5_heavy_35 : decode cX5_heavy 35 = .ok (.getfield 65, 3) := dk_180 0 65 (dk_at dksX5_heavy_1 12 rfl rfl)
theorem dX5_heavy_38 : decode cX5_heavy 38 = .ok (.iadd, 1) := dk_96 (dk_at dksX5_heavy_1 15 rfl rfl)
theorem dX5_heavy_39 : decode cX5_heavy 39 = .ok (.ireturn, 1) := dk_172 (dk_at dksX5_heavy_1 16 rfl rfl)
abbrev cX5_be : ByteArray := prog_14_method_3_code
def yX5_be : MethodName := ⟨RX5, "be", "(LSillBridges$Spot;)V"⟩
def dkwX5_be_1 : List UInt8 := [180, 0, 22, 3, 42, 180, 0, 22, 3, 5, 184, 0, 52, 177]
abbrev dktX5_be_1 : List UInt8 := dkwX5_be_1 ++ []
def dkwX5_be_0 : List UInt8 := [42, 43, 180, 0, 12, 181, 0, 12, 43, 180, 0, 18, 3, 42, 180, 0, 18, 3, 7, 184, 0, 52, 43]
abbrev dktX5_be_0 : List UInt8 := dkwX5_be_0 ++ dktX5_be_1
theorem dksX5_be_0 : cX5_be.data.toList.drop 0 = dktX5_be_0 := by decide +kernel
theorem dksX5_be_1 : cX5_be.data.toList.drop 23 = dktX5_be_1 := dk_seg dksX5_be_0 23 rfl rfl
theorem dX5_be_0 : decode cX5_be 0 = .ok (.aload_n 0, 1) := dk_42 (dk_at dksX5_be_0 0 rfl rfl)
theorem dX5_be_1 : decode cX5_be 1 = .ok (.aload_n 1, 1) := dk_43 (dk_at dksX5_be_0 1 rfl rfl)
theorem dX5_be_2 : decode cX5_be 2 = .ok (.getfield 12, 3) := dk_180 0 12 (dk_at dksX5_be_0 2 rfl rfl)
theorem dX5_be_5 : decode cX5_be 5 = .ok (.putfield 12, 3) := dk_181 0 12 (dk_at dksX5_be_0 5 rfl rfl)
theorem dX5_be_8 : decode cX5_be 8 = .ok (.aload_n 1, 1) := dk_43 (dk_at dksX5_be_0 8 rfl rfl)
theorem dX5_be_9 : decode cX5_be 9 = .ok (.getfield 18, 3) := dk_180 0 18 (dk_at dksX5_be_0 9 rfl rfl)
theorem dX5_be_12 : decode cX5_be 12 = .ok (.iconst 0, 1) := dk_3 (dk_at dksX5_be_0 12 rfl rfl)
theorem dX5_be_13 : decode cX5_be 13 = .ok (.aload_n 0, 1) := dk_42 (dk_at dksX5_be_0 13 rfl rfl)
theorem dX5_be_14 : decode cX5_be 14 = .ok (.getfield 18, 3) := dk_180 0 18 (dk_at dksX5_be_0 14 rfl rfl)
theorem dX5_be_17 : decode cX5_be 17 = .ok (.iconst 0, 1) := dk_3 (dk_at dksX5_be_0 17 rfl rfl)
theorem dX5_be_18 : decode cX5_be 18 = .ok (.iconst 4, 1) := dk_7 (dk_at dksX5_be_0 18 rfl rfl)
theorem dX5_be_19 : decode cX5_be 19 = .ok (.invokestatic 52, 3) := dk_184 0 52 (dk_at dksX5_be_0 19 rfl rfl)
theorem dX5_be_22 : decode cX5_be 22 = .ok (.aload_n 1, 1) := dk_43 (dk_at dksX5_be_0 22 rfl rfl)
theorem dX5_be_23 : decode cX5_be 23 = .ok (.getfield 22, 3) := dk_180 0 22 (dk_at dksX5_be_1 0 rfl rfl)
theorem dX5_be_26 : decode cX5_be 26 = .ok (.iconst 0, 1) := dk_3 (dk_at dksX5_be_1 3 rfl rfl)
theorem dX5_be_27 : decode cX5_be 27 = .ok (.aload_n 0, 1) := dk_42 (dk_at dksX5_be_1 4 rfl rfl)
theorem dX5_be_28 : decode cX5_be 28 = .ok (.getfield 22, 3) := dk_180 0 22 (dk_at dksX5_be_1 5 rfl rfl)
theorem dX5_be_31 : decode cX5_be 31 = .ok (.iconst 0, 1) := dk_3 (dk_at dksX5_be_1 8 rfl rfl)
theorem dX5_be_32 : decode cX5_be 32 = .ok (.iconst 2, 1) := dk_5 (dk_at dksX5_be_1 9 rfl rfl)
theorem dX5_be_33 : decode cX5_be 33 = .ok (.invokestatic 52, 3) := dk_184 0 52 (dk_at dksX5_be_1 10 rfl rfl)
theorem dX5_be_36 : decode cX5_be 36 = .ok (.return_, 1) := dk_177 (dk_at dksX5_be_1 13 rfl rfl)
abbrev cX5_number : ByteArray := prog_14_method_4_code
def yX5_number : MethodName := ⟨RX5, "number", "()I"⟩
def dkwX5_number_2 : List UInt8 := [27, 16, 6, 104, 42, 180, 0, 18, 28, 46, 96, 60, 132, 2, 255, 167, 255, 237, 27, 172]
abbrev dktX5_number_2 : List UInt8 := dkwX5_number_2 ++ []
def dkwX5_number_1 : List UInt8 := [28, 46, 96, 60, 132, 2, 255, 167, 255, 237, 42, 180, 0, 12, 180, 0, 32, 4, 100, 61, 28, 155, 0, 21]
abbrev dktX5_number_1 : List UInt8 := dkwX5_number_1 ++ dktX5_number_2
def dkwX5_number_0 : List UInt8 := [3, 60, 42, 180, 0, 12, 180, 0, 43, 4, 100, 61, 28, 155, 0, 21, 27, 16, 10, 104, 42, 180, 0, 22]
abbrev dktX5_number_0 : List UInt8 := dkwX5_number_0 ++ dktX5_number_1
theorem dksX5_number_0 : cX5_number.data.toList.drop 0 = dktX5_number_0 := by decide +kernel
theorem dksX5_number_1 : cX5_number.data.toList.drop 24 = dktX5_number_1 := dk_seg dksX5_number_0 24 rfl rfl
theorem dksX5_number_2 : cX5_number.data.toList.drop 48 = dktX5_number_2 := dk_seg dksX5_number_1 24 rfl rfl
theorem dX5_number_0 : decode cX5_number 0 = .ok (.iconst 0, 1) := dk_3 (dk_at dksX5_number_0 0 rfl rfl)
theorem dX5_number_1 : decode cX5_number 1 = .ok (.istore_n 1, 1) := dk_60 (dk_at dksX5_number_0 1 rfl rfl)
theorem dX5_number_2 : decode cX5_number 2 = .ok (.aload_n 0, 1) := dk_42 (dk_at dksX5_number_0 2 rfl rfl)
theorem dX5_number_3 : decode cX5_number 3 = .ok (.getfield 12, 3) := dk_180 0 12 (dk_at dksX5_number_0 3 rfl rfl)
theorem dX5_number_6 : decode cX5_number 6 = .ok (.getfield 43, 3) := dk_180 0 43 (dk_at dksX5_number_0 6 rfl rfl)
theorem dX5_number_9 : decode cX5_number 9 = .ok (.iconst 1, 1) := dk_4 (dk_at dksX5_number_0 9 rfl rfl)
theorem dX5_number_10 : decode cX5_number 10 = .ok (.isub, 1) := dk_100 (dk_at dksX5_number_0 10 rfl rfl)
theorem dX5_number_11 : decode cX5_number 11 = .ok (.istore_n 2, 1) := dk_61 (dk_at dksX5_number_0 11 rfl rfl)
theorem dX5_number_12 : decode cX5_number 12 = .ok (.iload_n 2, 1) := dk_28 (dk_at dksX5_number_0 12 rfl rfl)
theorem dX5_number_13 : decode cX5_number 13 = .ok (.ifCond .lt 21, 3) := dk_155 0 21 (dk_at dksX5_number_0 13 rfl rfl)
theorem dX5_number_16 : decode cX5_number 16 = .ok (.iload_n 1, 1) := dk_27 (dk_at dksX5_number_0 16 rfl rfl)
theorem dX5_number_17 : decode cX5_number 17 = .ok (.bipush 10, 2) := dk_16 10 (dk_at dksX5_number_0 17 rfl rfl)
theorem dX5_number_19 : decode cX5_number 19 = .ok (.imul, 1) := dk_104 (dk_at dksX5_number_0 19 rfl rfl)
theorem dX5_number_20 : decode cX5_number 20 = .ok (.aload_n 0, 1) := dk_42 (dk_at dksX5_number_0 20 rfl rfl)
theorem dX5_number_21 : decode cX5_number 21 = .ok (.getfield 22, 3) := dk_180 0 22 (dk_at dksX5_number_0 21 rfl rfl)
theorem dX5_number_24 : decode cX5_number 24 = .ok (.iload_n 2, 1) := dk_28 (dk_at dksX5_number_1 0 rfl rfl)
theorem dX5_number_25 : decode cX5_number 25 = .ok (.iaload, 1) := dk_46 (dk_at dksX5_number_1 1 rfl rfl)
theorem dX5_number_26 : decode cX5_number 26 = .ok (.iadd, 1) := dk_96 (dk_at dksX5_number_1 2 rfl rfl)
theorem dX5_number_27 : decode cX5_number 27 = .ok (.istore_n 1, 1) := dk_60 (dk_at dksX5_number_1 3 rfl rfl)
theorem dX5_number_28 : decode cX5_number 28 = .ok (.iinc 2 (-1), 3) := dk_132 2 255 (dk_at dksX5_number_1 4 rfl rfl)
theorem dX5_number_31 : decode cX5_number 31 = .ok (.goto (-19), 3) := dk_167 255 237 (dk_at dksX5_number_1 7 rfl rfl)
theorem dX5_number_34 : decode cX5_number 34 = .ok (.aload_n 0, 1) := dk_42 (dk_at dksX5_number_1 10 rfl rfl)
theorem dX5_number_35 : decode cX5_number 35 = .ok (.getfield 12, 3) := dk_180 0 12 (dk_at dksX5_number_1 11 rfl rfl)
theorem dX5_number_38 : decode cX5_number 38 = .ok (.getfield 32, 3) := dk_180 0 32 (dk_at dksX5_number_1 14 rfl rfl)
theorem dX5_number_41 : decode cX5_number 41 = .ok (.iconst 1, 1) := dk_4 (dk_at dksX5_number_1 17 rfl rfl)
theorem dX5_number_42 : decode cX5_number 42 = .ok (.isub, 1) := dk_100 (dk_at dksX5_number_1 18 rfl rfl)
theorem dX5_number_43 : decode cX5_number 43 = .ok (.istore_n 2, 1) := dk_61 (dk_at dksX5_number_1 19 rfl rfl)
theorem dX5_number_44 : decode cX5_number 44 = .ok (.iload_n 2, 1) := dk_28 (dk_at dksX5_number_1 20 rfl rfl)
theorem dX5_number_45 : decode cX5_number 45 = .ok (.ifCond .lt 21, 3) := dk_155 0 21 (dk_at dksX5_number_1 21 rfl rfl)
theorem dX5_number_48 : decode cX5_number 48 = .ok (.iload_n 1, 1) := dk_27 (dk_at dksX5_number_2 0 rfl rfl)
theorem dX5_number_49 : decode cX5_number 49 = .ok (.bipush 6, 2) := dk_16 6 (dk_at dksX5_number_2 1 rfl rfl)
theorem dX5_number_51 : decode cX5_number 51 = .ok (.imul, 1) := dk_104 (dk_at dksX5_number_2 3 rfl rfl)
theorem dX5_number_52 : decode cX5_number 52 = .ok (.aload_n 0, 1) := dk_42 (dk_at dksX5_number_2 4 rfl rfl)
theorem dX5_number_53 : decode cX5_number 53 = .ok (.getfield 18, 3) := dk_180 0 18 (dk_at dksX5_number_2 5 rfl rfl)
theorem dX5_number_56 : decode cX5_number 56 = .ok (.iload_n 2, 1) := dk_28 (dk_at dksX5_number_2 8 rfl rfl)
theorem dX5_number_57 : decode cX5_number 57 = .ok (.iaload, 1) := dk_46 (dk_at dksX5_number_2 9 rfl rfl)
theorem dX5_number_58 : decode cX5_number 58 = .ok (.iadd, 1) := dk_96 (dk_at dksX5_number_2 10 rfl rfl)
theorem dX5_number_59 : decode cX5_number 59 = .ok (.istore_n 1, 1) := dk_60 (dk_at dksX5_number_2 11 rfl rfl)
theorem dX5_number_60 : decode cX5_number 60 = .ok (.iinc 2 (-1), 3) := dk_132 2 255 (dk_at dksX5_number_2 12 rfl rfl)
theorem dX5_number_63 : decode cX5_number 63 = .ok (.goto (-19), 3) := dk_167 255 237 (dk_at dksX5_number_2 15 rfl rfl)
theorem dX5_number_66 : decode cX5_number 66 = .ok (.iload_n 1, 1) := dk_27 (dk_at dksX5_number_2 18 rfl rfl)
theorem dX5_number_67 : decode cX5_number 67 = .ok (.ireturn, 1) := dk_172 (dk_at dksX5_number_2 19 rfl rfl)
abbrev cX5_be_2 : ByteArray := prog_14_method_5_code
def yX5_be_2 : MethodName := ⟨RX5, "be", "(I)V"⟩
def dkwX5_be_2_3 : List UInt8 := [177]
abbrev dktX5_be_2_3 : List UInt8 := dkwX5_be_2_3 ++ []
def dkwX5_be_2_2 : List UInt8 := [162, 0, 24, 42, 180, 0, 22, 29, 28, 16, 10, 112, 79, 28, 16, 10, 108, 61, 132, 3, 1, 167, 255, 227]
abbrev dktX5_be_2_2 : List UInt8 := dkwX5_be_2_2 ++ dktX5_be_2_3
def dkwX5_be_2_1 : List UInt8 := [79, 28, 16, 6, 108, 61, 132, 3, 1, 167, 255, 227, 3, 62, 29, 42, 180, 0, 12, 180, 0, 43]
abbrev dktX5_be_2_1 : List UInt8 := dkwX5_be_2_1 ++ dktX5_be_2_2
def dkwX5_be_2_0 : List UInt8 := [27, 61, 3, 62, 29, 42, 180, 0, 12, 180, 0, 32, 162, 0, 24, 42, 180, 0, 18, 29, 28, 16, 6, 112]
abbrev dktX5_be_2_0 : List UInt8 := dkwX5_be_2_0 ++ dktX5_be_2_1
theorem dksX5_be_2_0 : cX5_be_2.data.toList.drop 0 = dktX5_be_2_0 := by decide +kernel
theorem dksX5_be_2_1 : cX5_be_2.data.toList.drop 24 = dktX5_be_2_1 := dk_seg dksX5_be_2_0 24 rfl rfl
theorem dksX5_be_2_2 : cX5_be_2.data.toList.drop 46 = dktX5_be_2_2 := dk_seg dksX5_be_2_1 22 rfl rfl
theorem dksX5_be_2_3 : cX5_be_2.data.toList.drop 70 = dktX5_be_2_3 := dk_seg dksX5_be_2_2 24 rfl rfl
theorem dX5_be_2_0 : decode cX5_be_2 0 = .ok (.iload_n 1, 1) := dk_27 (dk_at dksX5_be_2_0 0 rfl rfl)
theorem dX5_be_2_1 : decode cX5_be_2 1 = .ok (.istore_n 2, 1) := dk_61 (dk_at dksX5_be_2_0 1 rfl rfl)
theorem dX5_be_2_2 : decode cX5_be_2 2 = .ok (.iconst 0, 1) := dk_3 (dk_at dksX5_be_2_0 2 rfl rfl)
theorem dX5_be_2_3 : decode cX5_be_2 3 = .ok (.istore_n 3, 1) := dk_62 (dk_at dksX5_be_2_0 3 rfl rfl)
theorem dX5_be_2_4 : decode cX5_be_2 4 = .ok (.iload_n 3, 1) := dk_29 (dk_at dksX5_be_2_0 4 rfl rfl)
theorem dX5_be_2_5 : decode cX5_be_2 5 = .ok (.aload_n 0, 1) := dk_42 (dk_at dksX5_be_2_0 5 rfl rfl)
theorem dX5_be_2_6 : decode cX5_be_2 6 = .ok (.getfield 12, 3) := dk_180 0 12 (dk_at dksX5_be_2_0 6 rfl rfl)
theorem dX5_be_2_9 : decode cX5_be_2 9 = .ok (.getfield 32, 3) := dk_180 0 32 (dk_at dksX5_be_2_0 9 rfl rfl)
theorem dX5_be_2_12 : decode cX5_be_2 12 = .ok (.if_icmp .ge 24, 3) := dk_162 0 24 (dk_at dksX5_be_2_0 12 rfl rfl)
theorem dX5_be_2_15 : decode cX5_be_2 15 = .ok (.aload_n 0, 1) := dk_42 (dk_at dksX5_be_2_0 15 rfl rfl)
theorem dX5_be_2_16 : decode cX5_be_2 16 = .ok (.getfield 18, 3) := dk_180 0 18 (dk_at dksX5_be_2_0 16 rfl rfl)
theorem dX5_be_2_19 : decode cX5_be_2 19 = .ok (.iload_n 3, 1) := dk_29 (dk_at dksX5_be_2_0 19 rfl rfl)
theorem dX5_be_2_20 : decode cX5_be_2 20 = .ok (.iload_n 2, 1) := dk_28 (dk_at dksX5_be_2_0 20 rfl rfl)
theorem dX5_be_2_21 : decode cX5_be_2 21 = .ok (.bipush 6, 2) := dk_16 6 (dk_at dksX5_be_2_0 21 rfl rfl)
theorem dX5_be_2_23 : decode cX5_be_2 23 = .ok (.irem, 1) := dk_112 (dk_at dksX5_be_2_0 23 rfl rfl)
theorem dX5_be_2_24 : decode cX5_be_2 24 = .ok (.iastore, 1) := dk_79 (dk_at dksX5_be_2_1 0 rfl rfl)
theorem dX5_be_2_25 : decode cX5_be_2 25 = .ok (.iload_n 2, 1) := dk_28 (dk_at dksX5_be_2_1 1 rfl rfl)
theorem dX5_be_2_26 : decode cX5_be_2 26 = .ok (.bipush 6, 2) := dk_16 6 (dk_at dksX5_be_2_1 2 rfl rfl)
theorem dX5_be_2_28 : decode cX5_be_2 28 = .ok (.idiv, 1) := dk_108 (dk_at dksX5_be_2_1 4 rfl rfl)
theorem dX5_be_2_29 : decode cX5_be_2 29 = .ok (.istore_n 2, 1) := dk_61 (dk_at dksX5_be_2_1 5 rfl rfl)
theorem dX5_be_2_30 : decode cX5_be_2 30 = .ok (.iinc 3 1, 3) := dk_132 3 1 (dk_at dksX5_be_2_1 6 rfl rfl)
theorem dX5_be_2_33 : decode cX5_be_2 33 = .ok (.goto (-29), 3) := dk_167 255 227 (dk_at dksX5_be_2_1 9 rfl rfl)
theorem dX5_be_2_36 : decode cX5_be_2 36 = .ok (.iconst 0, 1) := dk_3 (dk_at dksX5_be_2_1 12 rfl rfl)
theorem dX5_be_2_37 : decode cX5_be_2 37 = .ok (.istore_n 3, 1) := dk_62 (dk_at dksX5_be_2_1 13 rfl rfl)
theorem dX5_be_2_38 : decode cX5_be_2 38 = .ok (.iload_n 3, 1) := dk_29 (dk_at dksX5_be_2_1 14 rfl rfl)
theorem dX5_be_2_39 : decode cX5_be_2 39 = .ok (.aload_n 0, 1) := dk_42 (dk_at dksX5_be_2_1 15 rfl rfl)
theorem dX5_be_2_40 : decode cX5_be_2 40 = .ok (.getfield 12, 3) := dk_180 0 12 (dk_at dksX5_be_2_1 16 rfl rfl)
theorem dX5_be_2_43 : decode cX5_be_2 43 = .ok (.getfield 43, 3) := dk_180 0 43 (dk_at dksX5_be_2_1 19 rfl rfl)
theorem dX5_be_2_46 : decode cX5_be_2 46 = .ok (.if_icmp .ge 24, 3) := dk_162 0 24 (dk_at dksX5_be_2_2 0 rfl rfl)
theorem dX5_be_2_49 : decode cX5_be_2 49 = .ok (.aload_n 0, 1) := dk_42 (dk_at dksX5_be_2_2 3 rfl rfl)
theorem dX5_be_2_50 : decode cX5_be_2 50 = .ok (.getfield 22, 3) := dk_180 0 22 (dk_at dksX5_be_2_2 4 rfl rfl)
theorem dX5_be_2_53 : decode cX5_be_2 53 = .ok (.iload_n 3, 1) := dk_29 (dk_at dksX5_be_2_2 7 rfl rfl)
theorem dX5_be_2_54 : decode cX5_be_2 54 = .ok (.iload_n 2, 1) := dk_28 (dk_at dksX5_be_2_2 8 rfl rfl)
theorem dX5_be_2_55 : decode cX5_be_2 55 = .ok (.bipush 10, 2) := dk_16 10 (dk_at dksX5_be_2_2 9 rfl rfl)
theorem dX5_be_2_57 : decode cX5_be_2 57 = .ok (.irem, 1) := dk_112 (dk_at dksX5_be_2_2 11 rfl rfl)
theorem dX5_be_2_58 : decode cX5_be_2 58 = .ok (.iastore, 1) := dk_79 (dk_at dksX5_be_2_2 12 rfl rfl)
theorem dX5_be_2_59 : decode cX5_be_2 59 = .ok (.iload_n 2, 1) := dk_28 (dk_at dksX5_be_2_2 13 rfl rfl)
theorem dX5_be_2_60 : decode cX5_be_2 60 = .ok (.bipush 10, 2) := dk_16 10 (dk_at dksX5_be_2_2 14 rfl rfl)
theorem dX5_be_2_62 : decode cX5_be_2 62 = .ok (.idiv, 1) := dk_108 (dk_at dksX5_be_2_2 16 rfl rfl)
theorem dX5_be_2_63 : decode cX5_be_2 63 = .ok (.istore_n 2, 1) := dk_61 (dk_at dksX5_be_2_2 17 rfl rfl)
theorem dX5_be_2_64 : decode cX5_be_2 64 = .ok (.iinc 3 1, 3) := dk_132 3 1 (dk_at dksX5_be_2_2 18 rfl rfl)
theorem dX5_be_2_67 : decode cX5_be_2 67 = .ok (.goto (-29), 3) := dk_167 255 227 (dk_at dksX5_be_2_2 21 rfl rfl)
theorem dX5_be_2_70 : decode cX5_be_2 70 = .ok (.return_, 1) := dk_177 (dk_at dksX5_be_2_3 0 rfl rfl)
theorem q151 : (Jvm.Cond.initialized "SillBridges$Spot") ∈ lw_all := lw_g (lw_at lw_m1 8 rfl) rfl
theorem q293 : (Jvm.Cond.instantiable "SillBridges$Spot" (6 : Nat)) ∈ lw_all := lw_g (lw_at lw_m1 150 rfl) rfl
theorem q295 : (Jvm.Cond.instanceMethod ({ cls := "SillBridges$Spot", name := "<init>", desc := "()V" } : Jvm.MethodName)) ∈ lw_all := lw_g (lw_at lw_m1 152 rfl) rfl
theorem q296 : (Jvm.Cond.code ({ cls := "SillBridges$Spot", name := "<init>", desc := "()V" } : Jvm.MethodName) prog_14_method_1_code (1 : Nat) (Option.none : Option Jvm.ClassFile.FieldType)) ∈ lw_all := lw_g (lw_at lw_m1 153 rfl) rfl
theorem q297 : (Jvm.Cond.methodLink "SillBridges$Spot" (3 : Nat) ({ cls := "java/lang/Object", name := "<init>", desc := "()V" } : Jvm.MethodName)) ∈ lw_all := lw_g (lw_at lw_m1 154 rfl) rfl
theorem q298 : (Jvm.Cond.classLink "SillBridges$Spot" (9 : Nat) "SillBridges$Town") ∈ lw_all := lw_g (lw_at lw_m1 155 rfl) rfl
theorem q300 : (Jvm.Cond.methodLinkNest "SillBridges$Spot" (11 : Nat) ({ cls := "SillBridges$Town", name := "<init>", desc := "()V" } : Jvm.MethodName) "SillBridges") ∈ lw_tbl := lw_at lw_m1 157 rfl
theorem q317 : (Jvm.Cond.fieldLinkNest "SillBridges$Spot" (32 : Nat) "SillBridges$Town" "people" "I" "SillBridges") ∈ lw_tbl := lw_at lw_m1 174 rfl
theorem q322 : (Jvm.Cond.fieldLinkNest "SillBridges$Spot" (43 : Nat) "SillBridges$Town" "loadMany" "I" "SillBridges") ∈ lw_tbl := lw_at lw_m1 179 rfl
theorem q330 : (Jvm.Cond.fieldLinkNest "SillBridges$Spot" (66 : Nat) "SillBridges$Town" "stones" "[I" "SillBridges") ∈ lw_tbl := lw_at lw_m1 187 rfl
theorem q336 : (Jvm.Cond.fieldLinkNest "SillBridges$Spot" (75 : Nat) "SillBridges$Town" "bridges" "[LSillBridges$Bridge;" "SillBridges") ∈ lw_tbl := lw_at lw_m1 193 rfl
theorem q340 : (Jvm.Cond.fieldLinkNest "SillBridges$Spot" (35 : Nat) "SillBridges$Town" "person" "[LSillBridges$Person;" "SillBridges") ∈ lw_tbl := lw_at lw_m1 197 rfl
theorem q344 : (Jvm.Cond.fieldLinkNest "SillBridges$Spot" (46 : Nat) "SillBridges$Town" "load" "[LSillBridges$Load;" "SillBridges") ∈ lw_tbl := lw_at lw_m1 201 rfl
theorem q368 : (Jvm.Cond.fieldLink "SillBridges$Spot" (12 : Nat) "SillBridges$Spot" "town" "LSillBridges$Town;") ∈ lw_all := lw_g (lw_at lw_m1 225 rfl) rfl
theorem q371 : (Jvm.Cond.fieldLink "SillBridges$Spot" (18 : Nat) "SillBridges$Spot" "at" "[I") ∈ lw_all := lw_g (lw_at lw_m1 228 rfl) rfl
theorem q374 : (Jvm.Cond.fieldLink "SillBridges$Spot" (22 : Nat) "SillBridges$Spot" "load" "[I") ∈ lw_all := lw_g (lw_at lw_m1 231 rfl) rfl
theorem q375 : (Jvm.Cond.fieldLink "SillBridges$Spot" (25 : Nat) "SillBridges$Spot" "gone" "I") ∈ lw_all := lw_g (lw_at lw_m1 232 rfl) rfl
theorem q377 : (Jvm.Cond.fieldLink "SillBridges$Spot" (29 : Nat) "SillBridges$Spot" "morePlace" "I") ∈ lw_all := lw_g (lw_at lw_m1 234 rfl) rfl
theorem q379 : (Jvm.Cond.fieldLink "SillBridges$Spot" (69 : Nat) "SillBridges$Spot" "more" "I") ∈ lw_all := lw_g (lw_at lw_m1 236 rfl) rfl
theorem q381 : (Jvm.Cond.lays "SillBridges$Spot" "SillBridges$Spot" "town" "LSillBridges$Town;") ∈ lw_all := lw_g (lw_at lw_m1 238 rfl) rfl
theorem q382 : (Jvm.Cond.soleField "SillBridges$Spot" "town") ∈ lw_all := lw_g (lw_at lw_m1 239 rfl) rfl
theorem q383 : (Jvm.Cond.laysFinal "SillBridges$Spot" "SillBridges$Spot" "at" "[I") ∈ lw_all := lw_g (lw_at lw_m2 0 rfl) rfl
theorem q384 : (Jvm.Cond.soleField "SillBridges$Spot" "at") ∈ lw_all := lw_g (lw_at lw_m2 1 rfl) rfl
theorem q385 : (Jvm.Cond.laysFinal "SillBridges$Spot" "SillBridges$Spot" "load" "[I") ∈ lw_all := lw_g (lw_at lw_m2 2 rfl) rfl
theorem q386 : (Jvm.Cond.soleField "SillBridges$Spot" "load") ∈ lw_all := lw_g (lw_at lw_m2 3 rfl) rfl
theorem q387 : (Jvm.Cond.lays "SillBridges$Spot" "SillBridges$Spot" "gone" "I") ∈ lw_all := lw_g (lw_at lw_m2 4 rfl) rfl
theorem q388 : (Jvm.Cond.soleField "SillBridges$Spot" "gone") ∈ lw_all := lw_g (lw_at lw_m2 5 rfl) rfl
theorem q389 : (Jvm.Cond.lays "SillBridges$Spot" "SillBridges$Spot" "morePlace" "I") ∈ lw_all := lw_g (lw_at lw_m2 6 rfl) rfl
theorem q390 : (Jvm.Cond.soleField "SillBridges$Spot" "morePlace") ∈ lw_all := lw_g (lw_at lw_m2 7 rfl) rfl
theorem q391 : (Jvm.Cond.lays "SillBridges$Spot" "SillBridges$Spot" "more" "I") ∈ lw_all := lw_g (lw_at lw_m2 8 rfl) rfl
theorem q392 : (Jvm.Cond.soleField "SillBridges$Spot" "more") ∈ lw_all := lw_g (lw_at lw_m2 9 rfl) rfl
theorem q393 : (Jvm.Cond.superclass "SillBridges$Spot" "java/lang/Object") ∈ lw_all := lw_g (lw_at lw_m2 10 rfl) rfl
theorem q917 : (Jvm.Cond.fieldLinkNest "SillBridges$Spot" (79 : Nat) "SillBridges$Bridge" "sill" "I" "SillBridges") ∈ lw_tbl := lw_at lw_m4 54 rfl
theorem q925 : (Jvm.Cond.fieldLinkNest "SillBridges$Spot" (100 : Nat) "SillBridges$Bridge" "bears" "I" "SillBridges") ∈ lw_tbl := lw_at lw_m4 62 rfl
theorem q978 : (Jvm.Cond.fieldLinkNest "SillBridges$Spot" (62 : Nat) "SillBridges$Person" "weight" "I" "SillBridges") ∈ lw_tbl := lw_at lw_m4 115 rfl
theorem q981 : (Jvm.Cond.fieldLinkNest "SillBridges$Spot" (39 : Nat) "SillBridges$Person" "at" "I" "SillBridges") ∈ lw_tbl := lw_at lw_m4 118 rfl
theorem q983 : (Jvm.Cond.fieldLinkNest "SillBridges$Spot" (117 : Nat) "SillBridges$Person" "wants" "I" "SillBridges") ∈ lw_tbl := lw_at lw_m4 120 rfl
theorem q986 : (Jvm.Cond.fieldLinkNest "SillBridges$Spot" (107 : Nat) "SillBridges$Person" "carries" "I" "SillBridges") ∈ lw_tbl := lw_at lw_m4 123 rfl
theorem q989 : (Jvm.Cond.fieldLinkNest "SillBridges$Spot" (103 : Nat) "SillBridges$Person" "led" "Z" "SillBridges") ∈ lw_tbl := lw_at lw_m4 126 rfl
theorem q1018 : (Jvm.Cond.fieldLinkNest "SillBridges$Spot" (65 : Nat) "SillBridges$Load" "weight" "I" "SillBridges") ∈ lw_tbl := lw_at lw_m4 155 rfl
theorem q1021 : (Jvm.Cond.fieldLinkNest "SillBridges$Spot" (49 : Nat) "SillBridges$Load" "at" "I" "SillBridges") ∈ lw_tbl := lw_at lw_m4 158 rfl
theorem q1038 : (Jvm.Cond.instanceMethod ({ cls := "SillBridges$Spot", name := "begin", desc := "(LSillBridges$Town;)V" } : Jvm.MethodName)) ∈ lw_all := lw_g (lw_at lw_m4 175 rfl) rfl
theorem q1039 : (Jvm.Cond.selects "SillBridges$Spot" ({ cls := "SillBridges$Spot", name := "begin", desc := "(LSillBridges$Town;)V" } : Jvm.MethodName) ({ cls := "SillBridges$Spot", name := "begin", desc := "(LSillBridges$Town;)V" } : Jvm.MethodName)) ∈ lw_all := lw_g (lw_at lw_m4 176 rfl) rfl
theorem q1040 : (Jvm.Cond.code ({ cls := "SillBridges$Spot", name := "begin", desc := "(LSillBridges$Town;)V" } : Jvm.MethodName) prog_14_method_2_code (3 : Nat) (Option.none : Option Jvm.ClassFile.FieldType)) ∈ lw_all := lw_g (lw_at lw_m4 177 rfl) rfl
theorem q1192 : (Jvm.Cond.instanceMethod ({ cls := "SillBridges$Spot", name := "isDone", desc := "()Z" } : Jvm.MethodName)) ∈ lw_all := lw_g (lw_at lw_m5 89 rfl) rfl
theorem q1193 : (Jvm.Cond.selects "SillBridges$Spot" ({ cls := "SillBridges$Spot", name := "isDone", desc := "()Z" } : Jvm.MethodName) ({ cls := "SillBridges$Spot", name := "isDone", desc := "()Z" } : Jvm.MethodName)) ∈ lw_all := lw_g (lw_at lw_m5 90 rfl) rfl
theorem q1194 : (Jvm.Cond.code ({ cls := "SillBridges$Spot", name := "isDone", desc := "()Z" } : Jvm.MethodName) prog_14_method_15_code (2 : Nat) (Option.some Jvm.ClassFile.FieldType.boolean)) ∈ lw_all := lw_g (lw_at lw_m5 91 rfl) rfl
theorem q1238 : (Jvm.Cond.instanceMethod ({ cls := "SillBridges$Spot", name := "carried", desc := "(I)I" } : Jvm.MethodName)) ∈ lw_all := lw_g (lw_at lw_m5 135 rfl) rfl
theorem q1239 : (Jvm.Cond.selects "SillBridges$Spot" ({ cls := "SillBridges$Spot", name := "carried", desc := "(I)I" } : Jvm.MethodName) ({ cls := "SillBridges$Spot", name := "carried", desc := "(I)I" } : Jvm.MethodName)) ∈ lw_all := lw_g (lw_at lw_m5 136 rfl) rfl
theorem q1240 : (Jvm.Cond.code ({ cls := "SillBridges$Spot", name := "carried", desc := "(I)I" } : Jvm.MethodName) prog_14_method_6_code (3 : Nat) (Option.some Jvm.ClassFile.FieldType.int)) ∈ lw_all := lw_g (lw_at lw_m5 137 rfl) rfl
theorem q1250 : (Jvm.Cond.instanceMethod ({ cls := "SillBridges$Spot", name := "placeOf", desc := "(I)I" } : Jvm.MethodName)) ∈ lw_all := lw_g (lw_at lw_m5 147 rfl) rfl
theorem q1251 : (Jvm.Cond.selects "SillBridges$Spot" ({ cls := "SillBridges$Spot", name := "placeOf", desc := "(I)I" } : Jvm.MethodName) ({ cls := "SillBridges$Spot", name := "placeOf", desc := "(I)I" } : Jvm.MethodName)) ∈ lw_all := lw_g (lw_at lw_m5 148 rfl) rfl
theorem q1252 : (Jvm.Cond.code ({ cls := "SillBridges$Spot", name := "placeOf", desc := "(I)I" } : Jvm.MethodName) prog_14_method_7_code (2 : Nat) (Option.some Jvm.ClassFile.FieldType.int)) ∈ lw_all := lw_g (lw_at lw_m5 149 rfl) rfl
theorem q1258 : (Jvm.Cond.instanceMethod ({ cls := "SillBridges$Spot", name := "weight", desc := "(I)I" } : Jvm.MethodName)) ∈ lw_all := lw_g (lw_at lw_m5 155 rfl) rfl
theorem q1259 : (Jvm.Cond.selects "SillBridges$Spot" ({ cls := "SillBridges$Spot", name := "weight", desc := "(I)I" } : Jvm.MethodName) ({ cls := "SillBridges$Spot", name := "weight", desc := "(I)I" } : Jvm.MethodName)) ∈ lw_all := lw_g (lw_at lw_m5 156 rfl) rfl
theorem q1260 : (Jvm.Cond.code ({ cls := "SillBridges$Spot", name := "weight", desc := "(I)I" } : Jvm.MethodName) prog_14_method_9_code (4 : Nat) (Option.some Jvm.ClassFile.FieldType.int)) ∈ lw_all := lw_g (lw_at lw_m5 157 rfl) rfl
theorem q1261 : (Jvm.Cond.methodLink "SillBridges$Spot" (72 : Nat) ({ cls := "SillBridges$Spot", name := "placeOf", desc := "(I)I" } : Jvm.MethodName)) ∈ lw_all := lw_g (lw_at lw_m5 158 rfl) rfl
theorem q1267 : (Jvm.Cond.instanceMethod ({ cls := "SillBridges$Spot", name := "hangs", desc := "(I)Z" } : Jvm.MethodName)) ∈ lw_all := lw_g (lw_at lw_m5 164 rfl) rfl
theorem q1268 : (Jvm.Cond.selects "SillBridges$Spot" ({ cls := "SillBridges$Spot", name := "hangs", desc := "(I)Z" } : Jvm.MethodName) ({ cls := "SillBridges$Spot", name := "hangs", desc := "(I)Z" } : Jvm.MethodName)) ∈ lw_all := lw_g (lw_at lw_m5 165 rfl) rfl
theorem q1269 : (Jvm.Cond.code ({ cls := "SillBridges$Spot", name := "hangs", desc := "(I)Z" } : Jvm.MethodName) prog_14_method_11_code (2 : Nat) (Option.some Jvm.ClassFile.FieldType.boolean)) ∈ lw_all := lw_g (lw_at lw_m5 166 rfl) rfl
theorem q1270 : (Jvm.Cond.methodLink "SillBridges$Spot" (90 : Nat) ({ cls := "SillBridges$Spot", name := "hangs", desc := "(II)Z" } : Jvm.MethodName)) ∈ lw_all := lw_g (lw_at lw_m5 167 rfl) rfl
theorem q1271 : (Jvm.Cond.privateMethod ({ cls := "SillBridges$Spot", name := "hangs", desc := "(II)Z" } : Jvm.MethodName)) ∈ lw_tbl := lw_at lw_m5 168 rfl
theorem q1272 : (Jvm.Cond.instanceMethod ({ cls := "SillBridges$Spot", name := "hangs", desc := "(II)Z" } : Jvm.MethodName)) ∈ lw_all := lw_g (lw_at lw_m5 169 rfl) rfl
theorem q1273 : (Jvm.Cond.code ({ cls := "SillBridges$Spot", name := "hangs", desc := "(II)Z" } : Jvm.MethodName) prog_14_method_10_code (6 : Nat) (Option.some Jvm.ClassFile.FieldType.boolean)) ∈ lw_all := lw_g (lw_at lw_m5 170 rfl) rfl
theorem q1274 : (Jvm.Cond.methodLink "SillBridges$Spot" (84 : Nat) ({ cls := "SillBridges$Bridge", name := "pull", desc := "()I" } : Jvm.MethodName)) ∈ lw_all := lw_g (lw_at lw_m5 171 rfl) rfl
theorem q1275 : (Jvm.Cond.methodLink "SillBridges$Spot" (88 : Nat) ({ cls := "SillBridges$Spot", name := "weight", desc := "(I)I" } : Jvm.MethodName)) ∈ lw_all := lw_g (lw_at lw_m5 172 rfl) rfl
theorem q1289 : (Jvm.Cond.instanceMethod ({ cls := "SillBridges$Spot", name := "moves", desc := "(IIII)Z" } : Jvm.MethodName)) ∈ lw_all := lw_g (lw_at lw_m5 186 rfl) rfl
theorem q1290 : (Jvm.Cond.selects "SillBridges$Spot" ({ cls := "SillBridges$Spot", name := "moves", desc := "(IIII)Z" } : Jvm.MethodName) ({ cls := "SillBridges$Spot", name := "moves", desc := "(IIII)Z" } : Jvm.MethodName)) ∈ lw_all := lw_g (lw_at lw_m5 187 rfl) rfl
theorem q1291 : (Jvm.Cond.code ({ cls := "SillBridges$Spot", name := "moves", desc := "(IIII)Z" } : Jvm.MethodName) prog_14_method_14_code (6 : Nat) (Option.some Jvm.ClassFile.FieldType.boolean)) ∈ lw_all := lw_g (lw_at lw_m5 188 rfl) rfl
theorem q1292 : (Jvm.Cond.methodLink "SillBridges$Spot" (110 : Nat) ({ cls := "SillBridges$Spot", name := "canLift", desc := "(II)Z" } : Jvm.MethodName)) ∈ lw_all := lw_g (lw_at lw_m5 189 rfl) rfl
theorem q1293 : (Jvm.Cond.instanceMethod ({ cls := "SillBridges$Spot", name := "canLift", desc := "(II)Z" } : Jvm.MethodName)) ∈ lw_all := lw_g (lw_at lw_m5 190 rfl) rfl
theorem q1294 : (Jvm.Cond.selects "SillBridges$Spot" ({ cls := "SillBridges$Spot", name := "canLift", desc := "(II)Z" } : Jvm.MethodName) ({ cls := "SillBridges$Spot", name := "canLift", desc := "(II)Z" } : Jvm.MethodName)) ∈ lw_all := lw_g (lw_at lw_m5 191 rfl) rfl
theorem q1295 : (Jvm.Cond.code ({ cls := "SillBridges$Spot", name := "canLift", desc := "(II)Z" } : Jvm.MethodName) prog_14_method_13_code (3 : Nat) (Option.some Jvm.ClassFile.FieldType.boolean)) ∈ lw_all := lw_g (lw_at lw_m5 192 rfl) rfl
theorem q1296 : (Jvm.Cond.methodLink "SillBridges$Spot" (58 : Nat) ({ cls := "SillBridges$Spot", name := "carried", desc := "(I)I" } : Jvm.MethodName)) ∈ lw_all := lw_g (lw_at lw_m5 193 rfl) rfl
theorem q1297 : (Jvm.Cond.methodLink "SillBridges$Spot" (113 : Nat) ({ cls := "SillBridges$Spot", name := "why", desc := "(III)I" } : Jvm.MethodName)) ∈ lw_all := lw_g (lw_at lw_m5 194 rfl) rfl
theorem q1298 : (Jvm.Cond.instanceMethod ({ cls := "SillBridges$Spot", name := "why", desc := "(III)I" } : Jvm.MethodName)) ∈ lw_all := lw_g (lw_at lw_m5 195 rfl) rfl
theorem q1299 : (Jvm.Cond.selects "SillBridges$Spot" ({ cls := "SillBridges$Spot", name := "why", desc := "(III)I" } : Jvm.MethodName) ({ cls := "SillBridges$Spot", name := "why", desc := "(III)I" } : Jvm.MethodName)) ∈ lw_all := lw_g (lw_at lw_m5 196 rfl) rfl
theorem q1300 : (Jvm.Cond.code ({ cls := "SillBridges$Spot", name := "why", desc := "(III)I" } : Jvm.MethodName) prog_14_method_12_code (6 : Nat) (Option.some Jvm.ClassFile.FieldType.int)) ∈ lw_all := lw_g (lw_at lw_m5 197 rfl) rfl
theorem q1301 : (Jvm.Cond.methodLink "SillBridges$Spot" (94 : Nat) ({ cls := "SillBridges$Bridge", name := "beyond", desc := "(I)I" } : Jvm.MethodName)) ∈ lw_all := lw_g (lw_at lw_m5 198 rfl) rfl
theorem q1305 : (Jvm.Cond.methodLink "SillBridges$Spot" (97 : Nat) ({ cls := "SillBridges$Spot", name := "heavy", desc := "(I)I" } : Jvm.MethodName)) ∈ lw_all := lw_g (lw_at lw_m5 202 rfl) rfl
theorem q1306 : (Jvm.Cond.instanceMethod ({ cls := "SillBridges$Spot", name := "heavy", desc := "(I)I" } : Jvm.MethodName)) ∈ lw_all := lw_g (lw_at lw_m5 203 rfl) rfl
theorem q1307 : (Jvm.Cond.selects "SillBridges$Spot" ({ cls := "SillBridges$Spot", name := "heavy", desc := "(I)I" } : Jvm.MethodName) ({ cls := "SillBridges$Spot", name := "heavy", desc := "(I)I" } : Jvm.MethodName)) ∈ lw_all := lw_g (lw_at lw_m5 204 rfl) rfl
theorem q1308 : (Jvm.Cond.code ({ cls := "SillBridges$Spot", name := "heavy", desc := "(I)I" } : Jvm.MethodName) prog_14_method_8_code (3 : Nat) (Option.some Jvm.ClassFile.FieldType.int)) ∈ lw_all := lw_g (lw_at lw_m5 205 rfl) rfl
theorem q1348 : (Jvm.Cond.instanceMethod ({ cls := "SillBridges$Spot", name := "be", desc := "(LSillBridges$Spot;)V" } : Jvm.MethodName)) ∈ lw_all := lw_g (lw_at lw_m6 5 rfl) rfl
theorem q1349 : (Jvm.Cond.selects "SillBridges$Spot" ({ cls := "SillBridges$Spot", name := "be", desc := "(LSillBridges$Spot;)V" } : Jvm.MethodName) ({ cls := "SillBridges$Spot", name := "be", desc := "(LSillBridges$Spot;)V" } : Jvm.MethodName)) ∈ lw_all := lw_g (lw_at lw_m6 6 rfl) rfl
theorem q1350 : (Jvm.Cond.code ({ cls := "SillBridges$Spot", name := "be", desc := "(LSillBridges$Spot;)V" } : Jvm.MethodName) prog_14_method_3_code (2 : Nat) (Option.none : Option Jvm.ClassFile.FieldType)) ∈ lw_all := lw_g (lw_at lw_m6 7 rfl) rfl
theorem q1351 : (Jvm.Cond.methodLink "SillBridges$Spot" (52 : Nat) ({ cls := "java/lang/System", name := "arraycopy", desc := "(Ljava/lang/Object;ILjava/lang/Object;II)V" } : Jvm.MethodName)) ∈ lw_all := lw_g (lw_at lw_m6 8 rfl) rfl
theorem q1361 : (Jvm.Cond.instanceMethod ({ cls := "SillBridges$Spot", name := "number", desc := "()I" } : Jvm.MethodName)) ∈ lw_all := lw_g (lw_at lw_m6 18 rfl) rfl
theorem q1362 : (Jvm.Cond.selects "SillBridges$Spot" ({ cls := "SillBridges$Spot", name := "number", desc := "()I" } : Jvm.MethodName) ({ cls := "SillBridges$Spot", name := "number", desc := "()I" } : Jvm.MethodName)) ∈ lw_all := lw_g (lw_at lw_m6 19 rfl) rfl
theorem q1363 : (Jvm.Cond.code ({ cls := "SillBridges$Spot", name := "number", desc := "()I" } : Jvm.MethodName) prog_14_method_4_code (3 : Nat) (Option.some Jvm.ClassFile.FieldType.int)) ∈ lw_all := lw_g (lw_at lw_m6 20 rfl) rfl
theorem q1373 : (Jvm.Cond.instanceMethod ({ cls := "SillBridges$Spot", name := "be", desc := "(I)V" } : Jvm.MethodName)) ∈ lw_all := lw_g (lw_at lw_m6 30 rfl) rfl
theorem q1374 : (Jvm.Cond.selects "SillBridges$Spot" ({ cls := "SillBridges$Spot", name := "be", desc := "(I)V" } : Jvm.MethodName) ({ cls := "SillBridges$Spot", name := "be", desc := "(I)V" } : Jvm.MethodName)) ∈ lw_all := lw_g (lw_at lw_m6 31 rfl) rfl
theorem q1375 : (Jvm.Cond.code ({ cls := "SillBridges$Spot", name := "be", desc := "(I)V" } : Jvm.MethodName) prog_14_method_5_code (4 : Nat) (Option.none : Option Jvm.ClassFile.FieldType)) ∈ lw_all := lw_g (lw_at lw_m6 32 rfl) rfl
theorem in_X5 : ∀ w ∈ wsX50, w ∈ lw_all := lw_in wsX50 [381, 383, 385, 387, 389, 391] (by decide +kernel) (by decide +kernel)

/-! SillBridges$Town -/
set_option maxRecDepth 100000
def RX6 : String := "SillBridges$Town"
def TX6 : u_T := fun k => match k with
  | 0 => ("SillBridges$Town", "places", "I", false)
  | 1 => ("SillBridges$Town", "bridgeMany", "I", false)
  | 2 => ("SillBridges$Town", "people", "I", false)
  | 3 => ("SillBridges$Town", "loadMany", "I", false)
  | 4 => ("SillBridges$Town", "names", "[J", true)
  | 5 => ("SillBridges$Town", "stones", "[I", true)
  | 6 => ("SillBridges$Town", "bridges", "[LSillBridges$Bridge;", true)
  | 7 => ("SillBridges$Town", "person", "[LSillBridges$Person;", true)
  | _ => ("SillBridges$Town", "load", "[LSillBridges$Load;", true)
def tyX6 : Nat → FieldType := fun k => match k with
  | 0 => .int
  | 1 => .int
  | 2 => .int
  | 3 => .int
  | 4 => .array .long
  | 5 => .array .int
  | 6 => .array (.object "SillBridges$Bridge")
  | 7 => .array (.object "SillBridges$Person")
  | _ => .array (.object "SillBridges$Load")
abbrev wsX60 : List Cond := u_ws RX6 TX6 9
theorem nmX6 : ∀ a, a < 9 → ∀ b, b < 9 → a ≠ b → (TX6 a).2.1 ≠ (TX6 b).2.1 := by decide +kernel
theorem tyX6_ok : ∀ k, k < 9 → parseFieldDescriptor (TX6 k).2.2.1 = some (tyX6 k) := by decide +kernel
abbrev cX6_init : ByteArray := prog_17_method_1_code
def yX6_init : MethodName := ⟨RX6, "<init>", "()V"⟩
def dkwX6_init_1 : List UInt8 := [189, 0, 19, 181, 0, 21, 42, 7, 189, 0, 25, 181, 0, 27, 42, 5, 189, 0, 31, 181, 0, 33, 177]
abbrev dktX6_init_1 : List UInt8 := dkwX6_init_1 ++ []
def dkwX6_init_0 : List UInt8 := [42, 183, 0, 3, 42, 16, 6, 188, 11, 181, 0, 9, 42, 16, 6, 188, 10, 181, 0, 15, 42, 16, 8]
abbrev dktX6_init_0 : List UInt8 := dkwX6_init_0 ++ dktX6_init_1
theorem dksX6_init_0 : cX6_init.data.toList.drop 0 = dktX6_init_0 := by decide +kernel
theorem dksX6_init_1 : cX6_init.data.toList.drop 23 = dktX6_init_1 := dk_seg dksX6_init_0 23 rfl rfl
theorem dX6_init_0 : decode cX6_init 0 = .ok (.aload_n 0, 1) := dk_42 (dk_at dksX6_init_0 0 rfl rfl)
theorem dX6_init_1 : decode cX6_init 1 = .ok (.invokespecial 3, 3) := dk_183 0 3 (dk_at dksX6_init_0 1 rfl rfl)
theorem dX6_init_4 : decode cX6_init 4 = .ok (.aload_n 0, 1) := dk_42 (dk_at dksX6_init_0 4 rfl rfl)
theorem dX6_init_5 : decode cX6_init 5 = .ok (.bipush 6, 2) := dk_16 6 (dk_at dksX6_init_0 5 rfl rfl)
theorem dX6_init_7 : decode cX6_init 7 = .ok (.newarray .long, 2) := dk_188_11 (dk_at dksX6_init_0 7 rfl rfl)
theorem dX6_init_9 : decode cX6_init 9 = .ok (.putfield 9, 3) := dk_181 0 9 (dk_at dksX6_init_0 9 rfl rfl)
theorem dX6_init_12 : decode cX6_init 12 = .ok (.aload_n 0, 1) := dk_42 (dk_at dksX6_init_0 12 rfl rfl)
theorem dX6_init_13 : decode cX6_init 13 = .ok (.bipush 6, 2) := dk_16 6 (dk_at dksX6_init_0 13 rfl rfl)
theorem dX6_init_15 : decode cX6_init 15 = .ok (.newarray .int, 2) := dk_188_10 (dk_at dksX6_init_0 15 rfl rfl)
theorem dX6_init_17 : decode cX6_init 17 = .ok (.putfield 15, 3) := dk_181 0 15 (dk_at dksX6_init_0 17 rfl rfl)
theorem dX6_init_20 : decode cX6_init 20 = .ok (.aload_n 0, 1) := dk_42 (dk_at dksX6_init_0 20 rfl rfl)
theorem dX6_init_21 : decode cX6_init 21 = .ok (.bipush 8, 2) := dk_16 8 (dk_at dksX6_init_0 21 rfl rfl)
theorem dX6_init_23 : decode cX6_init 23 = .ok (.anewarray 19, 3) := dk_189 0 19 (dk_at dksX6_init_1 0 rfl rfl)
theorem dX6_init_26 : decode cX6_init 26 = .ok (.putfield 21, 3) := dk_181 0 21 (dk_at dksX6_init_1 3 rfl rfl)
theorem dX6_init_29 : decode cX6_init 29 = .ok (.aload_n 0, 1) := dk_42 (dk_at dksX6_init_1 6 rfl rfl)
theorem dX6_init_30 : decode cX6_init 30 = .ok (.iconst 4, 1) := dk_7 (dk_at dksX6_init_1 7 rfl rfl)
theorem dX6_init_31 : decode cX6_init 31 = .ok (.anewarray 25, 3) := dk_189 0 25 (dk_at dksX6_init_1 8 rfl rfl)
theorem dX6_init_34 : decode cX6_init 34 = .ok (.putfield 27, 3) := dk_181 0 27 (dk_at dksX6_init_1 11 rfl rfl)
theorem dX6_init_37 : decode cX6_init 37 = .ok (.aload_n 0, 1) := dk_42 (dk_at dksX6_init_1 14 rfl rfl)
theorem dX6_init_38 : decode cX6_init 38 = .ok (.iconst 2, 1) := dk_5 (dk_at dksX6_init_1 15 rfl rfl)
theorem dX6_init_39 : decode cX6_init 39 = .ok (.anewarray 31, 3) := dk_189 0 31 (dk_at dksX6_init_1 16 rfl rfl)
theorem dX6_init_42 : decode cX6_init 42 = .ok (.putfield 33, 3) := dk_181 0 33 (dk_at dksX6_init_1 19 rfl rfl)
theorem dX6_init_45 : decode cX6_init 45 = .ok (.return_, 1) := dk_177 (dk_at dksX6_init_1 22 rfl rfl)
abbrev cX6_isTaken : ByteArray := prog_17_method_6_code
def yX6_isTaken : MethodName := ⟨RX6, "isTaken", "(J)Z"⟩
def dkwX6_isTaken_1 : List UInt8 := [42, 31, 182, 0, 66, 155, 0, 7, 4, 167, 0, 4, 3, 172]
abbrev dktX6_isTaken_1 : List UInt8 := dkwX6_isTaken_1 ++ []
def dkwX6_isTaken_0 : List UInt8 := [42, 31, 182, 0, 56, 156, 0, 27, 42, 31, 182, 0, 60, 156, 0, 19, 42, 31, 182, 0, 63, 156, 0, 11]
abbrev dktX6_isTaken_0 : List UInt8 := dkwX6_isTaken_0 ++ dktX6_isTaken_1
theorem dksX6_isTaken_0 : cX6_isTaken.data.toList.drop 0 = dktX6_isTaken_0 := by decide +kernel
theorem dksX6_isTaken_1 : cX6_isTaken.data.toList.drop 24 = dktX6_isTaken_1 := dk_seg dksX6_isTaken_0 24 rfl rfl
theorem dX6_isTaken_0 : decode cX6_isTaken 0 = .ok (.aload_n 0, 1) := dk_42 (dk_at dksX6_isTaken_0 0 rfl rfl)
theorem dX6_isTaken_1 : decode cX6_isTaken 1 = .ok (.lload_n 1, 1) := dk_31 (dk_at dksX6_isTaken_0 1 rfl rfl)
theorem dX6_isTaken_2 : decode cX6_isTaken 2 = .ok (.invokevirtual 56, 3) := dk_182 0 56 (dk_at dksX6_isTaken_0 2 rfl rfl)
theorem dX6_isTaken_5 : decode cX6_isTaken 5 = .ok (.ifCond .ge 27, 3) := dk_156 0 27 (dk_at dksX6_isTaken_0 5 rfl rfl)
theorem dX6_isTaken_8 : decode cX6_isTaken 8 = .ok (.aload_n 0, 1) := dk_42 (dk_at dksX6_isTaken_0 8 rfl rfl)
theorem dX6_isTaken_9 : decode cX6_isTaken 9 = .ok (.lload_n 1, 1) := dk_31 (dk_at dksX6_isTaken_0 9 rfl rfl)
theorem dX6_isTaken_10 : decode cX6_isTaken 10 = .ok (.invokevirtual 60, 3) := dk_182 0 60 (dk_at dksX6_isTaken_0 10 rfl rfl)
theorem dX6_isTaken_13 : decode cX6_isTaken 13 = .ok (.ifCond .ge 19, 3) := dk_156 0 19 (dk_at dksX6_isTaken_0 13 rfl rfl)
theorem dX6_isTaken_16 : decode cX6_isTaken 16 = .ok (.aload_n 0, 1) := dk_42 (dk_at dksX6_isTaken_0 16 rfl rfl)
theorem dX6_isTaken_17 : decode cX6_isTaken 17 = .ok (.lload_n 1, 1) := dk_31 (dk_at dksX6_isTaken_0 17 rfl rfl)
theorem dX6_isTaken_18 : decode cX6_isTaken 18 = .ok (.invokevirtual 63, 3) := dk_182 0 63 (dk_at dksX6_isTaken_0 18 rfl rfl)
theorem dX6_isTaken_21 : decode cX6_isTaken 21 = .ok (.ifCond .ge 11, 3) := dk_156 0 11 (dk_at dksX6_isTaken_0 21 rfl rfl)
theorem dX6_isTaken_24 : decode cX6_isTaken 24 = .ok (.aload_n 0, 1) := dk_42 (dk_at dksX6_isTaken_1 0 rfl rfl)
theorem dX6_isTaken_25 : decode cX6_isTaken 25 = .ok (.lload_n 1, 1) := dk_31 (dk_at dksX6_isTaken_1 1 rfl rfl)
theorem dX6_isTaken_26 : decode cX6_isTaken 26 = .ok (.invokevirtual 66, 3) := dk_182 0 66 (dk_at dksX6_isTaken_1 2 rfl rfl)
theorem dX6_isTaken_29 : decode cX6_isTaken 29 = .ok (.ifCond .lt 7, 3) := dk_155 0 7 (dk_at dksX6_isTaken_1 5 rfl rfl)
theorem dX6_isTaken_32 : decode cX6_isTaken 32 = .ok (.iconst 1, 1) := dk_4 (dk_at dksX6_isTaken_1 8 rfl rfl)
theorem dX6_isTaken_33 : decode cX6_isTaken 33 = .ok (.goto 4, 3) := dk_167 0 4 (dk_at dksX6_isTaken_1 9 rfl rfl)
theorem dX6_isTaken_36 : decode cX6_isTaken 36 = .ok (.iconst 0, 1) := dk_3 (dk_at dksX6_isTaken_1 12 rfl rfl)
theorem dX6_isTaken_37 : decode cX6_isTaken 37 = .ok (.ireturn, 1) := dk_172 (dk_at dksX6_isTaken_1 13 rfl rfl)
abbrev cX6_placeNamed : ByteArray := prog_17_method_2_code
def yX6_placeNamed : MethodName := ⟨RX6, "placeNamed", "(J)I"⟩
def dkwX6_placeNamed_1 : List UInt8 := [132, 3, 1, 167, 255, 232, 2, 172]
abbrev dktX6_placeNamed_1 : List UInt8 := dkwX6_placeNamed_1 ++ []
def dkwX6_placeNamed_0 : List UInt8 := [3, 62, 29, 42, 180, 0, 37, 162, 0, 22, 42, 180, 0, 9, 29, 47, 31, 148, 154, 0, 5, 29, 172]
abbrev dktX6_placeNamed_0 : List UInt8 := dkwX6_placeNamed_0 ++ dktX6_placeNamed_1
theorem dksX6_placeNamed_0 : cX6_placeNamed.data.toList.drop 0 = dktX6_placeNamed_0 := by decide +kernel
theorem dksX6_placeNamed_1 : cX6_placeNamed.data.toList.drop 23 = dktX6_placeNamed_1 := dk_seg dksX6_placeNamed_0 23 rfl rfl
theorem dX6_placeNamed_0 : decode cX6_placeNamed 0 = .ok (.iconst 0, 1) := dk_3 (dk_at dksX6_placeNamed_0 0 rfl rfl)
theorem dX6_placeNamed_1 : decode cX6_placeNamed 1 = .ok (.istore_n 3, 1) := dk_62 (dk_at dksX6_placeNamed_0 1 rfl rfl)
theorem dX6_placeNamed_2 : decode cX6_placeNamed 2 = .ok (.iload_n 3, 1) := dk_29 (dk_at dksX6_placeNamed_0 2 rfl rfl)
theorem dX6_placeNamed_3 : decode cX6_placeNamed 3 = .ok (.aload_n 0, 1) := dk_42 (dk_at dksX6_placeNamed_0 3 rfl rfl)
theorem dX6_placeNamed_4 : decode cX6_placeNamed 4 = .ok (.getfield 37, 3) := dk_180 0 37 (dk_at dksX6_placeNamed_0 4 rfl rfl)
theorem dX6_placeNamed_7 : decode cX6_placeNamed 7 = .ok (.if_icmp .ge 22, 3) := dk_162 0 22 (dk_at dksX6_placeNamed_0 7 rfl rfl)
theorem dX6_placeNamed_10 : decode cX6_placeNamed 10 = .ok (.aload_n 0, 1) := dk_42 (dk_at dksX6_placeNamed_0 10 rfl rfl)
theorem dX6_placeNamed_11 : decode cX6_placeNamed 11 = .ok (.getfield 9, 3) := dk_180 0 9 (dk_at dksX6_placeNamed_0 11 rfl rfl)
theorem dX6_placeNamed_14 : decode cX6_placeNamed 14 = .ok (.iload_n 3, 1) := dk_29 (dk_at dksX6_placeNamed_0 14 rfl rfl)
theorem dX6_placeNamed_15 : decode cX6_placeNamed 15 = .ok (.laload, 1) := dk_47 (dk_at dksX6_placeNamed_0 15 rfl rfl)
theorem dX6_placeNamed_16 : decode cX6_placeNamed 16 = .ok (.lload_n 1, 1) := dk_31 (dk_at dksX6_placeNamed_0 16 rfl rfl)
theorem dX6_placeNamed_17 : decode cX6_placeNamed 17 = .ok (.lcmp, 1) := dk_148 (dk_at dksX6_placeNamed_0 17 rfl rfl)
theorem dX6_placeNamed_18 : decode cX6_placeNamed 18 = .ok (.ifCond .ne 5, 3) := dk_154 0 5 (dk_at dksX6_placeNamed_0 18 rfl rfl)
theorem dX6_placeNamed_21 : decode cX6_placeNamed 21 = .ok (.iload_n 3, 1) := dk_29 (dk_at dksX6_placeNamed_0 21 rfl rfl)
theorem dX6_placeNamed_22 : decode cX6_placeNamed 22 = .ok (.ireturn, 1) := dk_172 (dk_at dksX6_placeNamed_0 22 rfl rfl)
theorem dX6_placeNamed_23 : decode cX6_placeNamed 23 = .ok (.iinc 3 1, 3) := dk_132 3 1 (dk_at dksX6_placeNamed_1 0 rfl rfl)
theorem dX6_placeNamed_26 : decode cX6_placeNamed 26 = .ok (.goto (-24), 3) := dk_167 255 232 (dk_at dksX6_placeNamed_1 3 rfl rfl)
theorem dX6_placeNamed_29 : decode cX6_placeNamed 29 = .ok (.iconst (-1), 1) := dk_2 (dk_at dksX6_placeNamed_1 6 rfl rfl)
theorem dX6_placeNamed_30 : decode cX6_placeNamed 30 = .ok (.ireturn, 1) := dk_172 (dk_at dksX6_placeNamed_1 7 rfl rfl)
abbrev cX6_bridgeNamed : ByteArray := prog_17_method_3_code
def yX6_bridgeNamed : MethodName := ⟨RX6, "bridgeNamed", "(J)I"⟩
def dkwX6_bridgeNamed_1 : List UInt8 := [29, 172, 132, 3, 1, 167, 255, 229, 2, 172]
abbrev dktX6_bridgeNamed_1 : List UInt8 := dkwX6_bridgeNamed_1 ++ []
def dkwX6_bridgeNamed_0 : List UInt8 := [3, 62, 29, 42, 180, 0, 41, 162, 0, 25, 42, 180, 0, 21, 29, 50, 180, 0, 44, 31, 148, 154, 0, 5]
abbrev dktX6_bridgeNamed_0 : List UInt8 := dkwX6_bridgeNamed_0 ++ dktX6_bridgeNamed_1
theorem dksX6_bridgeNamed_0 : cX6_bridgeNamed.data.toList.drop 0 = dktX6_bridgeNamed_0 := by decide +kernel
theorem dksX6_bridgeNamed_1 : cX6_bridgeNamed.data.toList.drop 24 = dktX6_bridgeNamed_1 := dk_seg dksX6_bridgeNamed_0 24 rfl rfl
theorem dX6_bridgeNamed_0 : decode cX6_bridgeNamed 0 = .ok (.iconst 0, 1) := dk_3 (dk_at dksX6_bridgeNamed_0 0 rfl rfl)
theorem dX6_bridgeNamed_1 : decode cX6_bridgeNamed 1 = .ok (.istore_n 3, 1) := dk_62 (dk_at dksX6_bridgeNamed_0 1 rfl rfl)
theorem dX6_bridgeNamed_2 : decode cX6_bridgeNamed 2 = .ok (.iload_n 3, 1) := dk_29 (dk_at dksX6_bridgeNamed_0 2 rfl rfl)
theorem dX6_bridgeNamed_3 : decode cX6_bridgeNamed 3 = .ok (.aload_n 0, 1) := dk_42 (dk_at dksX6_bridgeNamed_0 3 rfl rfl)
theorem dX6_bridgeNamed_4 : decode cX6_bridgeNamed 4 = .ok (.getfield 41, 3) := dk_180 0 41 (dk_at dksX6_bridgeNamed_0 4 rfl rfl)
theorem dX6_bridgeNamed_7 : decode cX6_bridgeNamed 7 = .ok (.if_icmp .ge 25, 3) := dk_162 0 25 (dk_at dksX6_bridgeNamed_0 7 rfl rfl)
theorem dX6_bridgeNamed_10 : decode cX6_bridgeNamed 10 = .ok (.aload_n 0, 1) := dk_42 (dk_at dksX6_bridgeNamed_0 10 rfl rfl)
theorem dX6_bridgeNamed_11 : decode cX6_bridgeNamed 11 = .ok (.getfield 21, 3) := dk_180 0 21 (dk_at dksX6_bridgeNamed_0 11 rfl rfl)
theorem dX6_bridgeNamed_14 : decode cX6_bridgeNamed 14 = .ok (.iload_n 3, 1) := dk_29 (dk_at dksX6_bridgeNamed_0 14 rfl rfl)
theorem dX6_bridgeNamed_15 : decode cX6_bridgeNamed 15 = .ok (.aaload, 1) := dk_50 (dk_at dksX6_bridgeNamed_0 15 rfl rfl)
theorem dX6_bridgeNamed_16 : decode cX6_bridgeNamed 16 = .ok (.getfield 44, 3) := dk_180 0 44 (dk_at dksX6_bridgeNamed_0 16 rfl rfl)
theorem dX6_bridgeNamed_19 : decode cX6_bridgeNamed 19 = .ok (.lload_n 1, 1) := dk_31 (dk_at dksX6_bridgeNamed_0 19 rfl rfl)
theorem dX6_bridgeNamed_20 : decode cX6_bridgeNamed 20 = .ok (.lcmp, 1) := dk_148 (dk_at dksX6_bridgeNamed_0 20 rfl rfl)
theorem dX6_bridgeNamed_21 : decode cX6_bridgeNamed 21 = .ok (.ifCond .ne 5, 3) := dk_154 0 5 (dk_at dksX6_bridgeNamed_0 21 rfl rfl)
theorem dX6_bridgeNamed_24 : decode cX6_bridgeNamed 24 = .ok (.iload_n 3, 1) := dk_29 (dk_at dksX6_bridgeNamed_1 0 rfl rfl)
theorem dX6_bridgeNamed_25 : decode cX6_bridgeNamed 25 = .ok (.ireturn, 1) := dk_172 (dk_at dksX6_bridgeNamed_1 1 rfl rfl)
theorem dX6_bridgeNamed_26 : decode cX6_bridgeNamed 26 = .ok (.iinc 3 1, 3) := dk_132 3 1 (dk_at dksX6_bridgeNamed_1 2 rfl rfl)
theorem dX6_bridgeNamed_29 : decode cX6_bridgeNamed 29 = .ok (.goto (-27), 3) := dk_167 255 229 (dk_at dksX6_bridgeNamed_1 5 rfl rfl)
theorem dX6_bridgeNamed_32 : decode cX6_bridgeNamed 32 = .ok (.iconst (-1), 1) := dk_2 (dk_at dksX6_bridgeNamed_1 8 rfl rfl)
theorem dX6_bridgeNamed_33 : decode cX6_bridgeNamed 33 = .ok (.ireturn, 1) := dk_172 (dk_at dksX6_bridgeNamed_1 9 rfl rfl)
abbrev cX6_personNamed : ByteArray := prog_17_method_4_code
def yX6_personNamed : MethodName := ⟨RX6, "personNamed", "(J)I"⟩
def dkwX6_personNamed_1 : List UInt8 := [29, 172, 132, 3, 1, 167, 255, 229, 2, 172]
abbrev dktX6_personNamed_1 : List UInt8 := dkwX6_personNamed_1 ++ []
def dkwX6_personNamed_0 : List UInt8 := [3, 62, 29, 42, 180, 0, 48, 162, 0, 25, 42, 180, 0, 27, 29, 50, 180, 0, 51, 31, 148, 154, 0, 5]
abbrev dktX6_personNamed_0 : List UInt8 := dkwX6_personNamed_0 ++ dktX6_personNamed_1
theorem dksX6_personNamed_0 : cX6_personNamed.data.toList.drop 0 = dktX6_personNamed_0 := by decide +kernel
theorem dksX6_personNamed_1 : cX6_personNamed.data.toList.drop 24 = dktX6_personNamed_1 := dk_seg dksX6_personNamed_0 24 rfl rfl
theorem dX6_personNamed_0 : decode cX6_personNamed 0 = .ok (.iconst 0, 1) := dk_3 (dk_at dksX6_personNamed_0 0 rfl rfl)
theorem dX6_personNamed_1 : decode cX6_personNamed 1 = .ok (.istore_n 3, 1) := dk_62 (dk_at dksX6_personNamed_0 1 rfl rfl)
theorem dX6_personNamed_2 : decode cX6_personNamed 2 = .ok (.iload_n 3, 1) := dk_29 (dk_at dksX6_personNamed_0 2 rfl rfl)
theorem dX6_personNamed_3 : decode cX6_personNamed 3 = .ok (.aload_n 0, 1) := dk_42 (dk_at dksX6_personNamed_0 3 rfl rfl)
theorem dX6_personNamed_4 : decode cX6_personNamed 4 = .ok (.getfield 48, 3) := dk_180 0 48 (dk_at dksX6_personNamed_0 4 rfl rfl)
theorem dX6_personNamed_7 : decode cX6_personNamed 7 = .ok (.if_icmp .ge 25, 3) := dk_162 0 25 (dk_at dksX6_personNamed_0 7 rfl rfl)
theorem dX6_personNamed_10 : decode cX6_personNamed 10 = .ok (.aload_n 0, 1) := dk_42 (dk_at dksX6_personNamed_0 10 rfl rfl)
theorem dX6_personNamed_11 : decode cX6_personNamed 11 = .ok (.getfield 27, 3) := dk_180 0 27 (dk_at dksX6_personNamed_0 11 rfl rfl)
theorem dX6_personNamed_14 : decode cX6_personNamed 14 = .ok (.iload_n 3, 1) := dk_29 (dk_at dksX6_personNamed_0 14 rfl rfl)
theorem dX6_personNamed_15 : decode cX6_personNamed 15 = .ok (.aaload, 1) := dk_50 (dk_at dksX6_personNamed_0 15 rfl rfl)
theorem dX6_personNamed_16 : decode cX6_personNamed 16 = .ok (.getfield 51, 3) := dk_180 0 51 (dk_at dksX6_personNamed_0 16 rfl rfl)
theorem dX6_personNamed_19 : decode cX6_personNamed 19 = .ok (.lload_n 1, 1) := dk_31 (dk_at dksX6_personNamed_0 19 rfl rfl)
theorem dX6_personNamed_20 : decode cX6_personNamed 20 = .ok (.lcmp, 1) := dk_148 (dk_at dksX6_personNamed_0 20 rfl rfl)
theorem dX6_personNamed_21 : decode cX6_personNamed 21 = .ok (.ifCond .ne 5, 3) := dk_154 0 5 (dk_at dksX6_personNamed_0 21 rfl rfl)
theorem dX6_personNamed_24 : decode cX6_personNamed 24 = .ok (.iload_n 3, 1) := dk_29 (dk_at dksX6_personNamed_1 0 rfl rfl)
theorem dX6_personNamed_25 : decode cX6_personNamed 25 = .ok (.ireturn, 1) := dk_172 (dk_at dksX6_personNamed_1 1 rfl rfl)
theorem dX6_personNamed_26 : decode cX6_personNamed 26 = .ok (.iinc 3 1, 3) := dk_132 3 1 (dk_at dksX6_personNamed_1 2 rfl rfl)
theorem dX6_personNamed_29 : decode cX6_personNamed 29 = .ok (.goto (-27), 3) := dk_167 255 229 (dk_at dksX6_personNamed_1 5 rfl rfl)
theorem dX6_personNamed_32 : decode cX6_personNamed 32 = .ok (.iconst (-1), 1) := dk_2 (dk_at dksX6_personNamed_1 8 rfl rfl)
theorem dX6_personNamed_33 : decode cX6_personNamed 33 = .ok (.ireturn, 1) := dk_172 (dk_at dksX6_personNamed_1 9 rfl rfl)
abbrev cX6_loadNamed : ByteArray := prog_17_method_5_code
def yX6_loadNamed : MethodName := ⟨RX6, "loadNamed", "(J)I"⟩
def dkwX6_loadNamed_1 : List UInt8 := [29, 172, 132, 3, 1, 167, 255, 229, 2, 172]
abbrev dktX6_loadNamed_1 : List UInt8 := dkwX6_loadNamed_1 ++ []
def dkwX6_loadNamed_0 : List UInt8 := [3, 62, 29, 42, 180, 0, 52, 162, 0, 25, 42, 180, 0, 33, 29, 50, 180, 0, 55, 31, 148, 154, 0, 5]
abbrev dktX6_loadNamed_0 : List UInt8 := dkwX6_loadNamed_0 ++ dktX6_loadNamed_1
theorem dksX6_loadNamed_0 : cX6_loadNamed.data.toList.drop 0 = dktX6_loadNamed_0 := by decide +kernel
theorem dksX6_loadNamed_1 : cX6_loadNamed.data.toList.drop 24 = dktX6_loadNamed_1 := dk_seg dksX6_loadNamed_0 24 rfl rfl
theorem dX6_loadNamed_0 : decode cX6_loadNamed 0 = .ok (.iconst 0, 1) := dk_3 (dk_at dksX6_loadNamed_0 0 rfl rfl)
theorem dX6_loadNamed_1 : decode cX6_loadNamed 1 = .ok (.istore_n 3, 1) := dk_62 (dk_at dksX6_loadNamed_0 1 rfl rfl)
theorem dX6_loadNamed_2 : decode cX6_loadNamed 2 = .ok (.iload_n 3, 1) := dk_29 (dk_at dksX6_loadNamed_0 2 rfl rfl)
theorem dX6_loadNamed_3 : decode cX6_loadNamed 3 = .ok (.aload_n 0, 1) := dk_42 (dk_at dksX6_loadNamed_0 3 rfl rfl)
theorem dX6_loadNamed_4 : decode cX6_loadNamed 4 = .ok (.getfield 52, 3) := dk_180 0 52 (dk_at dksX6_loadNamed_0 4 rfl rfl)
theorem dX6_loadNamed_7 : decode cX6_loadNamed 7 = .ok (.if_icmp .ge 25, 3) := dk_162 0 25 (dk_at dksX6_loadNamed_0 7 rfl rfl)
theorem dX6_loadNamed_10 : decode cX6_loadNamed 10 = .ok (.aload_n 0, 1) := dk_42 (dk_at dksX6_loadNamed_0 10 rfl rfl)
theorem dX6_loadNamed_11 : decode cX6_loadNamed 11 = .ok (.getfield 33, 3) := dk_180 0 33 (dk_at dksX6_loadNamed_0 11 rfl rfl)
theorem dX6_loadNamed_14 : decode cX6_loadNamed 14 = .ok (.iload_n 3, 1) := dk_29 (dk_at dksX6_loadNamed_0 14 rfl rfl)
theorem dX6_loadNamed_15 : decode cX6_loadNamed 15 = .ok (.aaload, 1) := dk_50 (dk_at dksX6_loadNamed_0 15 rfl rfl)
theorem dX6_loadNamed_16 : decode cX6_loadNamed 16 = .ok (.getfield 55, 3) := dk_180 0 55 (dk_at dksX6_loadNamed_0 16 rfl rfl)
theorem dX6_loadNamed_19 : decode cX6_loadNamed 19 = .ok (.lload_n 1, 1) := dk_31 (dk_at dksX6_loadNamed_0 19 rfl rfl)
theorem dX6_loadNamed_20 : decode cX6_loadNamed 20 = .ok (.lcmp, 1) := dk_148 (dk_at dksX6_loadNamed_0 20 rfl rfl)
theorem dX6_loadNamed_21 : decode cX6_loadNamed 21 = .ok (.ifCond .ne 5, 3) := dk_154 0 5 (dk_at dksX6_loadNamed_0 21 rfl rfl)
theorem dX6_loadNamed_24 : decode cX6_loadNamed 24 = .ok (.iload_n 3, 1) := dk_29 (dk_at dksX6_loadNamed_1 0 rfl rfl)
theorem dX6_loadNamed_25 : decode cX6_loadNamed 25 = .ok (.ireturn, 1) := dk_172 (dk_at dksX6_loadNamed_1 1 rfl rfl)
theorem dX6_loadNamed_26 : decode cX6_loadNamed 26 = .ok (.iinc 3 1, 3) := dk_132 3 1 (dk_at dksX6_loadNamed_1 2 rfl rfl)
theorem dX6_loadNamed_29 : decode cX6_loadNamed 29 = .ok (.goto (-27), 3) := dk_167 255 229 (dk_at dksX6_loadNamed_1 5 rfl rfl)
theorem dX6_loadNamed_32 : decode cX6_loadNamed 32 = .ok (.iconst (-1), 1) := dk_2 (dk_at dksX6_loadNamed_1 8 rfl rfl)
theorem dX6_loadNamed_33 : decode cX6_loadNamed 33 = .ok (.ireturn, 1) := dk_172 (dk_at dksX6_loadNamed_1 9 rfl rfl)
theorem q152 : (Jvm.Cond.initialized "SillBridges$Town") ∈ lw_all := lw_g (lw_at lw_m1 9 rfl) rfl
theorem q299 : (Jvm.Cond.instantiable "SillBridges$Town" (9 : Nat)) ∈ lw_all := lw_g (lw_at lw_m1 156 rfl) rfl
theorem q301 : (Jvm.Cond.instanceMethod ({ cls := "SillBridges$Town", name := "<init>", desc := "()V" } : Jvm.MethodName)) ∈ lw_all := lw_g (lw_at lw_m1 158 rfl) rfl
theorem q302 : (Jvm.Cond.code ({ cls := "SillBridges$Town", name := "<init>", desc := "()V" } : Jvm.MethodName) prog_17_method_1_code (1 : Nat) (Option.none : Option Jvm.ClassFile.FieldType)) ∈ lw_all := lw_g (lw_at lw_m1 159 rfl) rfl
theorem q303 : (Jvm.Cond.methodLink "SillBridges$Town" (3 : Nat) ({ cls := "java/lang/Object", name := "<init>", desc := "()V" } : Jvm.MethodName)) ∈ lw_all := lw_g (lw_at lw_m1 160 rfl) rfl
theorem q304 : (Jvm.Cond.classLink "SillBridges$Town" (19 : Nat) "SillBridges$Bridge") ∈ lw_all := lw_g (lw_at lw_m1 161 rfl) rfl
theorem q306 : (Jvm.Cond.classLink "SillBridges$Town" (25 : Nat) "SillBridges$Person") ∈ lw_all := lw_g (lw_at lw_m1 163 rfl) rfl
theorem q308 : (Jvm.Cond.classLink "SillBridges$Town" (31 : Nat) "SillBridges$Load") ∈ lw_all := lw_g (lw_at lw_m1 165 rfl) rfl
theorem q310 : (Jvm.Cond.fieldLink "SillBridges$Town" (37 : Nat) "SillBridges$Town" "places" "I") ∈ lw_all := lw_g (lw_at lw_m1 167 rfl) rfl
theorem q313 : (Jvm.Cond.fieldLink "SillBridges$Town" (41 : Nat) "SillBridges$Town" "bridgeMany" "I") ∈ lw_all := lw_g (lw_at lw_m1 170 rfl) rfl
theorem q319 : (Jvm.Cond.fieldLink "SillBridges$Town" (48 : Nat) "SillBridges$Town" "people" "I") ∈ lw_all := lw_g (lw_at lw_m1 176 rfl) rfl
theorem q324 : (Jvm.Cond.fieldLink "SillBridges$Town" (52 : Nat) "SillBridges$Town" "loadMany" "I") ∈ lw_all := lw_g (lw_at lw_m1 181 rfl) rfl
theorem q327 : (Jvm.Cond.fieldLink "SillBridges$Town" (9 : Nat) "SillBridges$Town" "names" "[J") ∈ lw_all := lw_g (lw_at lw_m1 184 rfl) rfl
theorem q329 : (Jvm.Cond.fieldLink "SillBridges$Town" (15 : Nat) "SillBridges$Town" "stones" "[I") ∈ lw_all := lw_g (lw_at lw_m1 186 rfl) rfl
theorem q333 : (Jvm.Cond.fieldLink "SillBridges$Town" (21 : Nat) "SillBridges$Town" "bridges" "[LSillBridges$Bridge;") ∈ lw_all := lw_g (lw_at lw_m1 190 rfl) rfl
theorem q339 : (Jvm.Cond.fieldLink "SillBridges$Town" (27 : Nat) "SillBridges$Town" "person" "[LSillBridges$Person;") ∈ lw_all := lw_g (lw_at lw_m1 196 rfl) rfl
theorem q343 : (Jvm.Cond.fieldLink "SillBridges$Town" (33 : Nat) "SillBridges$Town" "load" "[LSillBridges$Load;") ∈ lw_all := lw_g (lw_at lw_m1 200 rfl) rfl
theorem q347 : (Jvm.Cond.lays "SillBridges$Town" "SillBridges$Town" "places" "I") ∈ lw_all := lw_g (lw_at lw_m1 204 rfl) rfl
theorem q348 : (Jvm.Cond.soleField "SillBridges$Town" "places") ∈ lw_all := lw_g (lw_at lw_m1 205 rfl) rfl
theorem q349 : (Jvm.Cond.lays "SillBridges$Town" "SillBridges$Town" "bridgeMany" "I") ∈ lw_all := lw_g (lw_at lw_m1 206 rfl) rfl
theorem q350 : (Jvm.Cond.soleField "SillBridges$Town" "bridgeMany") ∈ lw_all := lw_g (lw_at lw_m1 207 rfl) rfl
theorem q351 : (Jvm.Cond.lays "SillBridges$Town" "SillBridges$Town" "people" "I") ∈ lw_all := lw_g (lw_at lw_m1 208 rfl) rfl
theorem q352 : (Jvm.Cond.soleField "SillBridges$Town" "people") ∈ lw_all := lw_g (lw_at lw_m1 209 rfl) rfl
theorem q353 : (Jvm.Cond.lays "SillBridges$Town" "SillBridges$Town" "loadMany" "I") ∈ lw_all := lw_g (lw_at lw_m1 210 rfl) rfl
theorem q354 : (Jvm.Cond.soleField "SillBridges$Town" "loadMany") ∈ lw_all := lw_g (lw_at lw_m1 211 rfl) rfl
theorem q355 : (Jvm.Cond.laysFinal "SillBridges$Town" "SillBridges$Town" "names" "[J") ∈ lw_all := lw_g (lw_at lw_m1 212 rfl) rfl
theorem q356 : (Jvm.Cond.soleField "SillBridges$Town" "names") ∈ lw_all := lw_g (lw_at lw_m1 213 rfl) rfl
theorem q357 : (Jvm.Cond.laysFinal "SillBridges$Town" "SillBridges$Town" "stones" "[I") ∈ lw_all := lw_g (lw_at lw_m1 214 rfl) rfl
theorem q358 : (Jvm.Cond.soleField "SillBridges$Town" "stones") ∈ lw_all := lw_g (lw_at lw_m1 215 rfl) rfl
theorem q359 : (Jvm.Cond.laysFinal "SillBridges$Town" "SillBridges$Town" "bridges" "[LSillBridges$Bridge;") ∈ lw_all := lw_g (lw_at lw_m1 216 rfl) rfl
theorem q360 : (Jvm.Cond.soleField "SillBridges$Town" "bridges") ∈ lw_all := lw_g (lw_at lw_m1 217 rfl) rfl
theorem q361 : (Jvm.Cond.laysFinal "SillBridges$Town" "SillBridges$Town" "person" "[LSillBridges$Person;") ∈ lw_all := lw_g (lw_at lw_m1 218 rfl) rfl
theorem q362 : (Jvm.Cond.soleField "SillBridges$Town" "person") ∈ lw_all := lw_g (lw_at lw_m1 219 rfl) rfl
theorem q363 : (Jvm.Cond.laysFinal "SillBridges$Town" "SillBridges$Town" "load" "[LSillBridges$Load;") ∈ lw_all := lw_g (lw_at lw_m1 220 rfl) rfl
theorem q364 : (Jvm.Cond.soleField "SillBridges$Town" "load") ∈ lw_all := lw_g (lw_at lw_m1 221 rfl) rfl
theorem q365 : (Jvm.Cond.superclass "SillBridges$Town" "java/lang/Object") ∈ lw_all := lw_g (lw_at lw_m1 222 rfl) rfl
theorem q864 : (Jvm.Cond.instanceMethod ({ cls := "SillBridges$Town", name := "isTaken", desc := "(J)Z" } : Jvm.MethodName)) ∈ lw_all := lw_g (lw_at lw_m4 1 rfl) rfl
theorem q865 : (Jvm.Cond.selects "SillBridges$Town" ({ cls := "SillBridges$Town", name := "isTaken", desc := "(J)Z" } : Jvm.MethodName) ({ cls := "SillBridges$Town", name := "isTaken", desc := "(J)Z" } : Jvm.MethodName)) ∈ lw_all := lw_g (lw_at lw_m4 2 rfl) rfl
theorem q866 : (Jvm.Cond.code ({ cls := "SillBridges$Town", name := "isTaken", desc := "(J)Z" } : Jvm.MethodName) prog_17_method_6_code (3 : Nat) (Option.some Jvm.ClassFile.FieldType.boolean)) ∈ lw_all := lw_g (lw_at lw_m4 3 rfl) rfl
theorem q867 : (Jvm.Cond.methodLink "SillBridges$Town" (56 : Nat) ({ cls := "SillBridges$Town", name := "placeNamed", desc := "(J)I" } : Jvm.MethodName)) ∈ lw_all := lw_g (lw_at lw_m4 4 rfl) rfl
theorem q868 : (Jvm.Cond.instanceMethod ({ cls := "SillBridges$Town", name := "placeNamed", desc := "(J)I" } : Jvm.MethodName)) ∈ lw_all := lw_g (lw_at lw_m4 5 rfl) rfl
theorem q869 : (Jvm.Cond.selects "SillBridges$Town" ({ cls := "SillBridges$Town", name := "placeNamed", desc := "(J)I" } : Jvm.MethodName) ({ cls := "SillBridges$Town", name := "placeNamed", desc := "(J)I" } : Jvm.MethodName)) ∈ lw_all := lw_g (lw_at lw_m4 6 rfl) rfl
theorem q870 : (Jvm.Cond.code ({ cls := "SillBridges$Town", name := "placeNamed", desc := "(J)I" } : Jvm.MethodName) prog_17_method_2_code (4 : Nat) (Option.some Jvm.ClassFile.FieldType.int)) ∈ lw_all := lw_g (lw_at lw_m4 7 rfl) rfl
theorem q871 : (Jvm.Cond.methodLink "SillBridges$Town" (60 : Nat) ({ cls := "SillBridges$Town", name := "bridgeNamed", desc := "(J)I" } : Jvm.MethodName)) ∈ lw_all := lw_g (lw_at lw_m4 8 rfl) rfl
theorem q872 : (Jvm.Cond.instanceMethod ({ cls := "SillBridges$Town", name := "bridgeNamed", desc := "(J)I" } : Jvm.MethodName)) ∈ lw_all := lw_g (lw_at lw_m4 9 rfl) rfl
theorem q873 : (Jvm.Cond.selects "SillBridges$Town" ({ cls := "SillBridges$Town", name := "bridgeNamed", desc := "(J)I" } : Jvm.MethodName) ({ cls := "SillBridges$Town", name := "bridgeNamed", desc := "(J)I" } : Jvm.MethodName)) ∈ lw_all := lw_g (lw_at lw_m4 10 rfl) rfl
theorem q874 : (Jvm.Cond.code ({ cls := "SillBridges$Town", name := "bridgeNamed", desc := "(J)I" } : Jvm.MethodName) prog_17_method_3_code (4 : Nat) (Option.some Jvm.ClassFile.FieldType.int)) ∈ lw_all := lw_g (lw_at lw_m4 11 rfl) rfl
theorem q875 : (Jvm.Cond.methodLink "SillBridges$Town" (63 : Nat) ({ cls := "SillBridges$Town", name := "personNamed", desc := "(J)I" } : Jvm.MethodName)) ∈ lw_all := lw_g (lw_at lw_m4 12 rfl) rfl
theorem q876 : (Jvm.Cond.instanceMethod ({ cls := "SillBridges$Town", name := "personNamed", desc := "(J)I" } : Jvm.MethodName)) ∈ lw_all := lw_g (lw_at lw_m4 13 rfl) rfl
theorem q877 : (Jvm.Cond.selects "SillBridges$Town" ({ cls := "SillBridges$Town", name := "personNamed", desc := "(J)I" } : Jvm.MethodName) ({ cls := "SillBridges$Town", name := "personNamed", desc := "(J)I" } : Jvm.MethodName)) ∈ lw_all := lw_g (lw_at lw_m4 14 rfl) rfl
theorem q878 : (Jvm.Cond.code ({ cls := "SillBridges$Town", name := "personNamed", desc := "(J)I" } : Jvm.MethodName) prog_17_method_4_code (4 : Nat) (Option.some Jvm.ClassFile.FieldType.int)) ∈ lw_all := lw_g (lw_at lw_m4 15 rfl) rfl
theorem q879 : (Jvm.Cond.methodLink "SillBridges$Town" (66 : Nat) ({ cls := "SillBridges$Town", name := "loadNamed", desc := "(J)I" } : Jvm.MethodName)) ∈ lw_all := lw_g (lw_at lw_m4 16 rfl) rfl
theorem q880 : (Jvm.Cond.instanceMethod ({ cls := "SillBridges$Town", name := "loadNamed", desc := "(J)I" } : Jvm.MethodName)) ∈ lw_all := lw_g (lw_at lw_m4 17 rfl) rfl
theorem q881 : (Jvm.Cond.selects "SillBridges$Town" ({ cls := "SillBridges$Town", name := "loadNamed", desc := "(J)I" } : Jvm.MethodName) ({ cls := "SillBridges$Town", name := "loadNamed", desc := "(J)I" } : Jvm.MethodName)) ∈ lw_all := lw_g (lw_at lw_m4 18 rfl) rfl
theorem q882 : (Jvm.Cond.code ({ cls := "SillBridges$Town", name := "loadNamed", desc := "(J)I" } : Jvm.MethodName) prog_17_method_5_code (4 : Nat) (Option.some Jvm.ClassFile.FieldType.int)) ∈ lw_all := lw_g (lw_at lw_m4 19 rfl) rfl
theorem q911 : (Jvm.Cond.fieldLinkNest "SillBridges$Town" (44 : Nat) "SillBridges$Bridge" "name" "J" "SillBridges") ∈ lw_tbl := lw_at lw_m4 48 rfl
theorem q976 : (Jvm.Cond.fieldLinkNest "SillBridges$Town" (51 : Nat) "SillBridges$Person" "name" "J" "SillBridges") ∈ lw_tbl := lw_at lw_m4 113 rfl
theorem q1016 : (Jvm.Cond.fieldLinkNest "SillBridges$Town" (55 : Nat) "SillBridges$Load" "name" "J" "SillBridges") ∈ lw_tbl := lw_at lw_m4 153 rfl
theorem in_X6 : ∀ w ∈ wsX60, w ∈ lw_all := lw_in wsX60 [347, 349, 351, 353, 355, 357, 359, 361, 363] (by decide +kernel) (by decide +kernel)

/-! SillBridges$Moves -/
set_option maxRecDepth 100000
def RX7 : String := "SillBridges$Moves"
def TX7 : u_T := fun k => match k with
  | 0 => ("SillBridges$Moves", "how", "[I", true)
  | 1 => ("SillBridges$Moves", "first", "[I", true)
  | 2 => ("SillBridges$Moves", "second", "[I", true)
  | 3 => ("SillBridges$Moves", "what", "[I", true)
  | _ => ("SillBridges$Moves", "many", "I", false)
def tyX7 : Nat → FieldType := fun k => match k with
  | 0 => .array .int
  | 1 => .array .int
  | 2 => .array .int
  | 3 => .array .int
  | _ => .int
abbrev wsX70 : List Cond := u_ws RX7 TX7 5
theorem nmX7 : ∀ a, a < 5 → ∀ b, b < 5 → a ≠ b → (TX7 a).2.1 ≠ (TX7 b).2.1 := by decide +kernel
theorem tyX7_ok : ∀ k, k < 5 → parseFieldDescriptor (TX7 k).2.2.1 = some (tyX7 k) := by decide +kernel
abbrev cX7_init : ByteArray := prog_9_method_1_code
def yX7_init : MethodName := ⟨RX7, "<init>", "()V"⟩
def dkwX7_init_1 : List UInt8 := [188, 10, 181, 0, 18, 42, 16, 120, 188, 10, 181, 0, 21, 177]
abbrev dktX7_init_1 : List UInt8 := dkwX7_init_1 ++ []
def dkwX7_init_0 : List UInt8 := [42, 183, 0, 3, 42, 16, 120, 188, 10, 181, 0, 11, 42, 16, 120, 188, 10, 181, 0, 15, 42, 16, 120]
abbrev dktX7_init_0 : List UInt8 := dkwX7_init_0 ++ dktX7_init_1
theorem dksX7_init_0 : cX7_init.data.toList.drop 0 = dktX7_init_0 := by decide +kernel
theorem dksX7_init_1 : cX7_init.data.toList.drop 23 = dktX7_init_1 := dk_seg dksX7_init_0 23 rfl rfl
theorem dX7_init_0 : decode cX7_init 0 = .ok (.aload_n 0, 1) := dk_42 (dk_at dksX7_init_0 0 rfl rfl)
theorem dX7_init_1 : decode cX7_init 1 = .ok (.invokespecial 3, 3) := dk_183 0 3 (dk_at dksX7_init_0 1 rfl rfl)
theorem dX7_init_4 : decode cX7_init 4 = .ok (.aload_n 0, 1) := dk_42 (dk_at dksX7_init_0 4 rfl rfl)
theorem dX7_init_5 : decode cX7_init 5 = .ok (.bipush 120, 2) := dk_16 120 (dk_at dksX7_init_0 5 rfl rfl)
theorem dX7_init_7 : decode cX7_init 7 = .ok (.newarray .int, 2) := dk_188_10 (dk_at dksX7_init_0 7 rfl rfl)
theorem dX7_init_9 : decode cX7_init 9 = .ok (.putfield 11, 3) := dk_181 0 11 (dk_at dksX7_init_0 9 rfl rfl)
theorem dX7_init_12 : decode cX7_init 12 = .ok (.aload_n 0, 1) := dk_42 (dk_at dksX7_init_0 12 rfl rfl)
theorem dX7_init_13 : decode cX7_init 13 = .ok (.bipush 120, 2) := dk_16 120 (dk_at dksX7_init_0 13 rfl rfl)
theorem dX7_init_15 : decode cX7_init 15 = .ok (.newarray .int, 2) := dk_188_10 (dk_at dksX7_init_0 15 rfl rfl)
theorem dX7_init_17 : decode cX7_init 17 = .ok (.putfield 15, 3) := dk_181 0 15 (dk_at dksX7_init_0 17 rfl rfl)
theorem dX7_init_20 : decode cX7_init 20 = .ok (.aload_n 0, 1) := dk_42 (dk_at dksX7_init_0 20 rfl rfl)
theorem dX7_init_21 : decode cX7_init 21 = .ok (.bipush 120, 2) := dk_16 120 (dk_at dksX7_init_0 21 rfl rfl)
theorem dX7_init_23 : decode cX7_init 23 = .ok (.newarray .int, 2) := dk_188_10 (dk_at dksX7_init_1 0 rfl rfl)
theorem dX7_init_25 : decode cX7_init 25 = .ok (.putfield 18, 3) := dk_181 0 18 (dk_at dksX7_init_1 2 rfl rfl)
theorem dX7_init_28 : decode cX7_init 28 = .ok (.aload_n 0, 1) := dk_42 (dk_at dksX7_init_1 5 rfl rfl)
theorem dX7_init_29 : decode cX7_init 29 = .ok (.bipush 120, 2) := dk_16 120 (dk_at dksX7_init_1 6 rfl rfl)
theorem dX7_init_31 : decode cX7_init 31 = .ok (.newarray .int, 2) := dk_188_10 (dk_at dksX7_init_1 8 rfl rfl)
theorem dX7_init_33 : decode cX7_init 33 = .ok (.putfield 21, 3) := dk_181 0 21 (dk_at dksX7_init_1 10 rfl rfl)
theorem dX7_init_36 : decode cX7_init 36 = .ok (.return_, 1) := dk_177 (dk_at dksX7_init_1 13 rfl rfl)
abbrev cX7_tell : ByteArray := prog_9_method_3_code
def yX7_tell : MethodName := ⟨RX7, "tell", "(LSillBridges$Town;)V"⟩
def dkwX7_tell_7 : List UInt8 := [132, 2, 1, 167, 255, 237, 177]
abbrev dktX7_tell_7 : List UInt8 := dkwX7_tell_7 ++ []
def dkwX7_tell_6 : List UInt8 := [132, 2, 1, 167, 255, 221, 3, 61, 28, 43, 180, 0, 28, 162, 0, 17, 42, 6, 28, 2, 2, 182, 0, 36]
abbrev dktX7_tell_6 : List UInt8 := dkwX7_tell_6 ++ dktX7_tell_7
def dkwX7_tell_5 : List UInt8 := [29, 43, 180, 0, 40, 162, 0, 17, 42, 5, 28, 2, 29, 182, 0, 36, 132, 3, 1, 167, 255, 237]
abbrev dktX7_tell_5 : List UInt8 := dkwX7_tell_5 ++ dktX7_tell_6
def dkwX7_tell_4 : List UInt8 := [132, 3, 1, 167, 255, 218, 132, 2, 1, 167, 255, 200, 3, 61, 28, 43, 180, 0, 28, 162, 0, 33, 3, 62]
abbrev dktX7_tell_4 : List UInt8 := dkwX7_tell_4 ++ dktX7_tell_5
def dkwX7_tell_3 : List UInt8 := [21, 4, 43, 180, 0, 33, 162, 0, 18, 42, 4, 28, 29, 21, 4, 182, 0, 36, 132, 4, 1, 167, 255, 235]
abbrev dktX7_tell_3 : List UInt8 := dkwX7_tell_3 ++ dktX7_tell_4
def dkwX7_tell_2 : List UInt8 := [61, 28, 43, 180, 0, 28, 162, 0, 54, 28, 4, 96, 62, 29, 43, 180, 0, 28, 162, 0, 36, 3, 54, 4]
abbrev dktX7_tell_2 : List UInt8 := dkwX7_tell_2 ++ dktX7_tell_3
def dkwX7_tell_1 : List UInt8 := [162, 0, 17, 42, 3, 28, 2, 29, 182, 0, 36, 132, 3, 1, 167, 255, 237, 132, 2, 1, 167, 255, 221, 3]
abbrev dktX7_tell_1 : List UInt8 := dkwX7_tell_1 ++ dktX7_tell_2
def dkwX7_tell_0 : List UInt8 := [42, 3, 181, 0, 24, 3, 61, 28, 43, 180, 0, 28, 162, 0, 33, 3, 62, 29, 43, 180, 0, 33]
abbrev dktX7_tell_0 : List UInt8 := dkwX7_tell_0 ++ dktX7_tell_1
theorem dksX7_tell_0 : cX7_tell.data.toList.drop 0 = dktX7_tell_0 := by decide +kernel
theorem dksX7_tell_1 : cX7_tell.data.toList.drop 22 = dktX7_tell_1 := dk_seg dksX7_tell_0 22 rfl rfl
theorem dksX7_tell_2 : cX7_tell.data.toList.drop 46 = dktX7_tell_2 := dk_seg dksX7_tell_1 24 rfl rfl
theorem dksX7_tell_3 : cX7_tell.data.toList.drop 70 = dktX7_tell_3 := dk_seg dksX7_tell_2 24 rfl rfl
theorem dksX7_tell_4 : cX7_tell.data.toList.drop 94 = dktX7_tell_4 := dk_seg dksX7_tell_3 24 rfl rfl
theorem dksX7_tell_5 : cX7_tell.data.toList.drop 118 = dktX7_tell_5 := dk_seg dksX7_tell_4 24 rfl rfl
theorem dksX7_tell_6 : cX7_tell.data.toList.drop 140 = dktX7_tell_6 := dk_seg dksX7_tell_5 22 rfl rfl
theorem dksX7_tell_7 : cX7_tell.data.toList.drop 164 = dktX7_tell_7 := dk_seg dksX7_tell_6 24 rfl rfl
theorem dX7_tell_0 : decode cX7_tell 0 = .ok (.aload_n 0, 1) := dk_42 (dk_at dksX7_tell_0 0 rfl rfl)
theorem dX7_tell_1 : decode cX7_tell 1 = .ok (.iconst 0, 1) := dk_3 (dk_at dksX7_tell_0 1 rfl rfl)
theorem dX7_tell_2 : decode cX7_tell 2 = .ok (.putfield 24, 3) := dk_181 0 24 (dk_at dksX7_tell_0 2 rfl rfl)
theorem dX7_tell_5 : decode cX7_tell 5 = .ok (.iconst 0, 1) := dk_3 (dk_at dksX7_tell_0 5 rfl rfl)
theorem dX7_tell_6 : decode cX7_tell 6 = .ok (.istore_n 2, 1) := dk_61 (dk_at dksX7_tell_0 6 rfl rfl)
theorem dX7_tell_7 : decode cX7_tell 7 = .ok (.iload_n 2, 1) := dk_28 (dk_at dksX7_tell_0 7 rfl rfl)
theorem dX7_tell_8 : decode cX7_tell 8 = .ok (.aload_n 1, 1) := dk_43 (dk_at dksX7_tell_0 8 rfl rfl)
theorem dX7_tell_9 : decode cX7_tell 9 = .ok (.getfield 28, 3) := dk_180 0 28 (dk_at dksX7_tell_0 9 rfl rfl)
theorem dX7_tell_12 : decode cX7_tell 12 = .ok (.if_icmp .ge 33, 3) := dk_162 0 33 (dk_at dksX7_tell_0 12 rfl rfl)
theorem dX7_tell_15 : decode cX7_tell 15 = .ok (.iconst 0, 1) := dk_3 (dk_at dksX7_tell_0 15 rfl rfl)
theorem dX7_tell_16 : decode cX7_tell 16 = .ok (.istore_n 3, 1) := dk_62 (dk_at dksX7_tell_0 16 rfl rfl)
theorem dX7_tell_17 : decode cX7_tell 17 = .ok (.iload_n 3, 1) := dk_29 (dk_at dksX7_tell_0 17 rfl rfl)
theorem dX7_tell_18 : decode cX7_tell 18 = .ok (.aload_n 1, 1) := dk_43 (dk_at dksX7_tell_0 18 rfl rfl)
theorem dX7_tell_19 : decode cX7_tell 19 = .ok (.getfield 33, 3) := dk_180 0 33 (dk_at dksX7_tell_0 19 rfl rfl)
theorem dX7_tell_22 : decode cX7_tell 22 = .ok (.if_icmp .ge 17, 3) := dk_162 0 17 (dk_at dksX7_tell_1 0 rfl rfl)
theorem dX7_tell_25 : decode cX7_tell 25 = .ok (.aload_n 0, 1) := dk_42 (dk_at dksX7_tell_1 3 rfl rfl)
theorem dX7_tell_26 : decode cX7_tell 26 = .ok (.iconst 0, 1) := dk_3 (dk_at dksX7_tell_1 4 rfl rfl)
theorem dX7_tell_27 : decode cX7_tell 27 = .ok (.iload_n 2, 1) := dk_28 (dk_at dksX7_tell_1 5 rfl rfl)
theorem dX7_tell_28 : decode cX7_tell 28 = .ok (.iconst (-1), 1) := dk_2 (dk_at dksX7_tell_1 6 rfl rfl)
theorem dX7_tell_29 : decode cX7_tell 29 = .ok (.iload_n 3, 1) := dk_29 (dk_at dksX7_tell_1 7 rfl rfl)
theorem dX7_tell_30 : decode cX7_tell 30 = .ok (.invokevirtual 36, 3) := dk_182 0 36 (dk_at dksX7_tell_1 8 rfl rfl)
theorem dX7_tell_33 : decode cX7_tell 33 = .ok (.iinc 3 1, 3) := dk_132 3 1 (dk_at dksX7_tell_1 11 rfl rfl)
theorem dX7_tell_36 : decode cX7_tell 36 = .ok (.goto (-19), 3) := dk_167 255 237 (dk_at dksX7_tell_1 14 rfl rfl)
theorem dX7_tell_39 : decode cX7_tell 39 = .ok (.iinc 2 1, 3) := dk_132 2 1 (dk_at dksX7_tell_1 17 rfl rfl)
theorem dX7_tell_42 : decode cX7_tell 42 = .ok (.goto (-35), 3) := dk_167 255 221 (dk_at dksX7_tell_1 20 rfl rfl)
theorem dX7_tell_45 : decode cX7_tell 45 = .ok (.iconst 0, 1) := dk_3 (dk_at dksX7_tell_1 23 rfl rfl)
theorem dX7_tell_46 : decode cX7_tell 46 = .ok (.istore_n 2, 1) := dk_61 (dk_at dksX7_tell_2 0 rfl rfl)
theorem dX7_tell_47 : decode cX7_tell 47 = .ok (.iload_n 2, 1) := dk_28 (dk_at dksX7_tell_2 1 rfl rfl)
theorem dX7_tell_48 : decode cX7_tell 48 = .ok (.aload_n 1, 1) := dk_43 (dk_at dksX7_tell_2 2 rfl rfl)
theorem dX7_tell_49 : decode cX7_tell 49 = .ok (.getfield 28, 3) := dk_180 0 28 (dk_at dksX7_tell_2 3 rfl rfl)
theorem dX7_tell_52 : decode cX7_tell 52 = .ok (.if_icmp .ge 54, 3) := dk_162 0 54 (dk_at dksX7_tell_2 6 rfl rfl)
theorem dX7_tell_55 : decode cX7_tell 55 = .ok (.iload_n 2, 1) := dk_28 (dk_at dksX7_tell_2 9 rfl rfl)
theorem dX7_tell_56 : decode cX7_tell 56 = .ok (.iconst 1, 1) := dk_4 (dk_at dksX7_tell_2 10 rfl rfl)
theorem dX7_tell_57 : decode cX7_tell 57 = .ok (.iadd, 1) := dk_96 (dk_at dksX7_tell_2 11 rfl rfl)
theorem dX7_tell_58 : decode cX7_tell 58 = .ok (.istore_n 3, 1) := dk_62 (dk_at dksX7_tell_2 12 rfl rfl)
theorem dX7_tell_59 : decode cX7_tell 59 = .ok (.iload_n 3, 1) := dk_29 (dk_at dksX7_tell_2 13 rfl rfl)
theorem dX7_tell_60 : decode cX7_tell 60 = .ok (.aload_n 1, 1) := dk_43 (dk_at dksX7_tell_2 14 rfl rfl)
theorem dX7_tell_61 : decode cX7_tell 61 = .ok (.getfield 28, 3) := dk_180 0 28 (dk_at dksX7_tell_2 15 rfl rfl)
theorem dX7_tell_64 : decode cX7_tell 64 = .ok (.if_icmp .ge 36, 3) := dk_162 0 36 (dk_at dksX7_tell_2 18 rfl rfl)
theorem dX7_tell_67 : decode cX7_tell 67 = .ok (.iconst 0, 1) := dk_3 (dk_at dksX7_tell_2 21 rfl rfl)
theorem dX7_tell_68 : decode cX7_tell 68 = .ok (.istore 4, 2) := dk_54 4 (dk_at dksX7_tell_2 22 rfl rfl)
theorem dX7_tell_70 : decode cX7_tell 70 = .ok (.iload 4, 2) := dk_21 4 (dk_at dksX7_tell_3 0 rfl rfl)
theorem dX7_tell_72 : decode cX7_tell 72 = .ok (.aload_n 1, 1) := dk_43 (dk_at dksX7_tell_3 2 rfl rfl)
theorem dX7_tell_73 : decode cX7_tell 73 = .ok (.getfield 33, 3) := dk_180 0 33 (dk_at dksX7_tell_3 3 rfl rfl)
theorem dX7_tell_76 : decode cX7_tell 76 = .ok (.if_icmp .ge 18, 3) := dk_162 0 18 (dk_at dksX7_tell_3 6 rfl rfl)
theorem dX7_tell_79 : decode cX7_tell 79 = .ok (.aload_n 0, 1) := dk_42 (dk_at dksX7_tell_3 9 rfl rfl)
theorem dX7_tell_80 : decode cX7_tell 80 = .ok (.iconst 1, 1) := dk_4 (dk_at dksX7_tell_3 10 rfl rfl)
theorem dX7_tell_81 : decode cX7_tell 81 = .ok (.iload_n 2, 1) := dk_28 (dk_at dksX7_tell_3 11 rfl rfl)
theorem dX7_tell_82 : decode cX7_tell 82 = .ok (.iload_n 3, 1) := dk_29 (dk_at dksX7_tell_3 12 rfl rfl)
theorem dX7_tell_83 : decode cX7_tell 83 = .ok (.iload 4, 2) := dk_21 4 (dk_at dksX7_tell_3 13 rfl rfl)
theorem dX7_tell_85 : decode cX7_tell 85 = .ok (.invokevirtual 36, 3) := dk_182 0 36 (dk_at dksX7_tell_3 15 rfl rfl)
theorem dX7_tell_88 : decode cX7_tell 88 = .ok (.iinc 4 1, 3) := dk_132 4 1 (dk_at dksX7_tell_3 18 rfl rfl)
theorem dX7_tell_91 : decode cX7_tell 91 = .ok (.goto (-21), 3) := dk_167 255 235 (dk_at dksX7_tell_3 21 rfl rfl)
theorem dX7_tell_94 : decode cX7_tell 94 = .ok (.iinc 3 1, 3) := dk_132 3 1 (dk_at dksX7_tell_4 0 rfl rfl)
theorem dX7_tell_97 : decode cX7_tell 97 = .ok (.goto (-38), 3) := dk_167 255 218 (dk_at dksX7_tell_4 3 rfl rfl)
theorem dX7_tell_100 : decode cX7_tell 100 = .ok (.iinc 2 1, 3) := dk_132 2 1 (dk_at dksX7_tell_4 6 rfl rfl)
theorem dX7_tell_103 : decode cX7_tell 103 = .ok (.goto (-56), 3) := dk_167 255 200 (dk_at dksX7_tell_4 9 rfl rfl)
theorem dX7_tell_106 : decode cX7_tell 106 = .ok (.iconst 0, 1) := dk_3 (dk_at dksX7_tell_4 12 rfl rfl)
theorem dX7_tell_107 : decode cX7_tell 107 = .ok (.istore_n 2, 1) := dk_61 (dk_at dksX7_tell_4 13 rfl rfl)
theorem dX7_tell_108 : decode cX7_tell 108 = .ok (.iload_n 2, 1) := dk_28 (dk_at dksX7_tell_4 14 rfl rfl)
theorem dX7_tell_109 : decode cX7_tell 109 = .ok (.aload_n 1, 1) := dk_43 (dk_at dksX7_tell_4 15 rfl rfl)
theorem dX7_tell_110 : decode cX7_tell 110 = .ok (.getfield 28, 3) := dk_180 0 28 (dk_at dksX7_tell_4 16 rfl rfl)
theorem dX7_tell_113 : decode cX7_tell 113 = .ok (.if_icmp .ge 33, 3) := dk_162 0 33 (dk_at dksX7_tell_4 19 rfl rfl)
theorem dX7_tell_116 : decode cX7_tell 116 = .ok (.iconst 0, 1) := dk_3 (dk_at dksX7_tell_4 22 rfl rfl)
theorem dX7_tell_117 : decode cX7_tell 117 = .ok (.istore_n 3, 1) := dk_62 (dk_at dksX7_tell_4 23 rfl rfl)
theorem dX7_tell_118 : decode cX7_tell 118 = .ok (.iload_n 3, 1) := dk_29 (dk_at dksX7_tell_5 0 rfl rfl)
theorem dX7_tell_119 : decode cX7_tell 119 = .ok (.aload_n 1, 1) := dk_43 (dk_at dksX7_tell_5 1 rfl rfl)
theorem dX7_tell_120 : decode cX7_tell 120 = .ok (.getfield 40, 3) := dk_180 0 40 (dk_at dksX7_tell_5 2 rfl rfl)
theorem dX7_tell_123 : decode cX7_tell 123 = .ok (.if_icmp .ge 17, 3) := dk_162 0 17 (dk_at dksX7_tell_5 5 rfl rfl)
theorem dX7_tell_126 : decode cX7_tell 126 = .ok (.aload_n 0, 1) := dk_42 (dk_at dksX7_tell_5 8 rfl rfl)
theorem dX7_tell_127 : decode cX7_tell 127 = .ok (.iconst 2, 1) := dk_5 (dk_at dksX7_tell_5 9 rfl rfl)
theorem dX7_tell_128 : decode cX7_tell 128 = .ok (.iload_n 2, 1) := dk_28 (dk_at dksX7_tell_5 10 rfl rfl)
theorem dX7_tell_129 : decode cX7_tell 129 = .ok (.iconst (-1), 1) := dk_2 (dk_at dksX7_tell_5 11 rfl rfl)
theorem dX7_tell_130 : decode cX7_tell 130 = .ok (.iload_n 3, 1) := dk_29 (dk_at dksX7_tell_5 12 rfl rfl)
theorem dX7_tell_131 : decode cX7_tell 131 = .ok (.invokevirtual 36, 3) := dk_182 0 36 (dk_at dksX7_tell_5 13 rfl rfl)
theorem dX7_tell_134 : decode cX7_tell 134 = .ok (.iinc 3 1, 3) := dk_132 3 1 (dk_at dksX7_tell_5 16 rfl rfl)
theorem dX7_tell_137 : decode cX7_tell 137 = .ok (.goto (-19), 3) := dk_167 255 237 (dk_at dksX7_tell_5 19 rfl rfl)
theorem dX7_tell_140 : decode cX7_tell 140 = .ok (.iinc 2 1, 3) := dk_132 2 1 (dk_at dksX7_tell_6 0 rfl rfl)
theorem dX7_tell_143 : decode cX7_tell 143 = .ok (.goto (-35), 3) := dk_167 255 221 (dk_at dksX7_tell_6 3 rfl rfl)
theorem dX7_tell_146 : decode cX7_tell 146 = .ok (.iconst 0, 1) := dk_3 (dk_at dksX7_tell_6 6 rfl rfl)
theorem dX7_tell_147 : decode cX7_tell 147 = .ok (.istore_n 2, 1) := dk_61 (dk_at dksX7_tell_6 7 rfl rfl)
theorem dX7_tell_148 : decode cX7_tell 148 = .ok (.iload_n 2, 1) := dk_28 (dk_at dksX7_tell_6 8 rfl rfl)
theorem dX7_tell_149 : decode cX7_tell 149 = .ok (.aload_n 1, 1) := dk_43 (dk_at dksX7_tell_6 9 rfl rfl)
theorem dX7_tell_150 : decode cX7_tell 150 = .ok (.getfield 28, 3) := dk_180 0 28 (dk_at dksX7_tell_6 10 rfl rfl)
theorem dX7_tell_153 : decode cX7_tell 153 = .ok (.if_icmp .ge 17, 3) := dk_162 0 17 (dk_at dksX7_tell_6 13 rfl rfl)
theorem dX7_tell_156 : decode cX7_tell 156 = .ok (.aload_n 0, 1) := dk_42 (dk_at dksX7_tell_6 16 rfl rfl)
theorem dX7_tell_157 : decode cX7_tell 157 = .ok (.iconst 3, 1) := dk_6 (dk_at dksX7_tell_6 17 rfl rfl)
theorem dX7_tell_158 : decode cX7_tell 158 = .ok (.iload_n 2, 1) := dk_28 (dk_at dksX7_tell_6 18 rfl rfl)
theorem dX7_tell_159 : decode cX7_tell 159 = .ok (.iconst (-1), 1) := dk_2 (dk_at dksX7_tell_6 19 rfl rfl)
theorem dX7_tell_160 : decode cX7_tell 160 = .ok (.iconst (-1), 1) := dk_2 (dk_at dksX7_tell_6 20 rfl rfl)
theorem dX7_tell_161 : decode cX7_tell 161 = .ok (.invokevirtual 36, 3) := dk_182 0 36 (dk_at dksX7_tell_6 21 rfl rfl)
theorem dX7_tell_164 : decode cX7_tell 164 = .ok (.iinc 2 1, 3) := dk_132 2 1 (dk_at dksX7_tell_7 0 rfl rfl)
theorem dX7_tell_167 : decode cX7_tell 167 = .ok (.goto (-19), 3) := dk_167 255 237 (dk_at dksX7_tell_7 3 rfl rfl)
theorem dX7_tell_170 : decode cX7_tell 170 = .ok (.return_, 1) := dk_177 (dk_at dksX7_tell_7 6 rfl rfl)
abbrev cX7_add : ByteArray := prog_9_method_2_code
def yX7_add : MethodName := ⟨RX7, "add", "(IIII)V"⟩
def dkwX7_add_2 : List UInt8 := [181, 0, 24, 177]
abbrev dktX7_add_2 : List UInt8 := dkwX7_add_2 ++ []
def dkwX7_add_1 : List UInt8 := [42, 180, 0, 24, 29, 79, 42, 180, 0, 21, 42, 180, 0, 24, 21, 4, 79, 42, 89, 180, 0, 24, 4, 96]
abbrev dktX7_add_1 : List UInt8 := dkwX7_add_1 ++ dktX7_add_2
def dkwX7_add_0 : List UInt8 := [42, 180, 0, 11, 42, 180, 0, 24, 27, 79, 42, 180, 0, 15, 42, 180, 0, 24, 28, 79, 42, 180, 0, 18]
abbrev dktX7_add_0 : List UInt8 := dkwX7_add_0 ++ dktX7_add_1
theorem dksX7_add_0 : cX7_add.data.toList.drop 0 = dktX7_add_0 := by decide +kernel
theorem dksX7_add_1 : cX7_add.data.toList.drop 24 = dktX7_add_1 := dk_seg dksX7_add_0 24 rfl rfl
theorem dksX7_add_2 : cX7_add.data.toList.drop 48 = dktX7_add_2 := dk_seg dksX7_add_1 24 rfl rfl
theorem dX7_add_0 : decode cX7_add 0 = .ok (.aload_n 0, 1) := dk_42 (dk_at dksX7_add_0 0 rfl rfl)
theorem dX7_add_1 : decode cX7_add 1 = .ok (.getfield 11, 3) := dk_180 0 11 (dk_at dksX7_add_0 1 rfl rfl)
theorem dX7_add_4 : decode cX7_add 4 = .ok (.aload_n 0, 1) := dk_42 (dk_at dksX7_add_0 4 rfl rfl)
theorem dX7_add_5 : decode cX7_add 5 = .ok (.getfield 24, 3) := dk_180 0 24 (dk_at dksX7_add_0 5 rfl rfl)
theorem dX7_add_8 : decode cX7_add 8 = .ok (.iload_n 1, 1) := dk_27 (dk_at dksX7_add_0 8 rfl rfl)
theorem dX7_add_9 : decode cX7_add 9 = .ok (.iastore, 1) := dk_79 (dk_at dksX7_add_0 9 rfl rfl)
theorem dX7_add_10 : decode cX7_add 10 = .ok (.aload_n 0, 1) := dk_42 (dk_at dksX7_add_0 10 rfl rfl)
theorem dX7_add_11 : decode cX7_add 11 = .ok (.getfield 15, 3) := dk_180 0 15 (dk_at dksX7_add_0 11 rfl rfl)
theorem dX7_add_14 : decode cX7_add 14 = .ok (.aload_n 0, 1) := dk_42 (dk_at dksX7_add_0 14 rfl rfl)
theorem dX7_add_15 : decode cX7_add 15 = .ok (.getfield 24, 3) := dk_180 0 24 (dk_at dksX7_add_0 15 rfl rfl)
theorem dX7_add_18 : decode cX7_add 18 = .ok (.iload_n 2, 1) := dk_28 (dk_at dksX7_add_0 18 rfl rfl)
theorem dX7_add_19 : decode cX7_add 19 = .ok (.iastore, 1) := dk_79 (dk_at dksX7_add_0 19 rfl rfl)
theorem dX7_add_20 : decode cX7_add 20 = .ok (.aload_n 0, 1) := dk_42 (dk_at dksX7_add_0 20 rfl rfl)
theorem dX7_add_21 : decode cX7_add 21 = .ok (.getfield 18, 3) := dk_180 0 18 (dk_at dksX7_add_0 21 rfl rfl)
theorem dX7_add_24 : decode cX7_add 24 = .ok (.aload_n 0, 1) := dk_42 (dk_at dksX7_add_1 0 rfl rfl)
theorem dX7_add_25 : decode cX7_add 25 = .ok (.getfield 24, 3) := dk_180 0 24 (dk_at dksX7_add_1 1 rfl rfl)
theorem dX7_add_28 : decode cX7_add 28 = .ok (.iload_n 3, 1) := dk_29 (dk_at dksX7_add_1 4 rfl rfl)
theorem dX7_add_29 : decode cX7_add 29 = .ok (.iastore, 1) := dk_79 (dk_at dksX7_add_1 5 rfl rfl)
theorem dX7_add_30 : decode cX7_add 30 = .ok (.aload_n 0, 1) := dk_42 (dk_at dksX7_add_1 6 rfl rfl)
theorem dX7_add_31 : decode cX7_add 31 = .ok (.getfield 21, 3) := dk_180 0 21 (dk_at dksX7_add_1 7 rfl rfl)
theorem dX7_add_34 : decode cX7_add 34 = .ok (.aload_n 0, 1) := dk_42 (dk_at dksX7_add_1 10 rfl rfl)
theorem dX7_add_35 : decode cX7_add 35 = .ok (.getfield 24, 3) := dk_180 0 24 (dk_at dksX7_add_1 11 rfl rfl)
theorem dX7_add_38 : decode cX7_add 38 = .ok (.iload 4, 2) := dk_21 4 (dk_at dksX7_add_1 14 rfl rfl)
theorem dX7_add_40 : decode cX7_add 40 = .ok (.iastore, 1) := dk_79 (dk_at dksX7_add_1 16 rfl rfl)
theorem dX7_add_41 : decode cX7_add 41 = .ok (.aload_n 0, 1) := dk_42 (dk_at dksX7_add_1 17 rfl rfl)
theorem dX7_add_42 : decode cX7_add 42 = .ok (.dup, 1) := dk_89 (dk_at dksX7_add_1 18 rfl rfl)
theorem dX7_add_43 : decode cX7_add 43 = .ok (.getfield 24, 3) := dk_180 0 24 (dk_at dksX7_add_1 19 rfl rfl)
theorem dX7_add_46 : decode cX7_add 46 = .ok (.iconst 1, 1) := dk_4 (dk_at dksX7_add_1 22 rfl rfl)
theorem dX7_add_47 : decode cX7_add 47 = .ok (.iadd, 1) := dk_96 (dk_at dksX7_add_1 23 rfl rfl)
theorem dX7_add_48 : decode cX7_add 48 = .ok (.putfield 24, 3) := dk_181 0 24 (dk_at dksX7_add_2 0 rfl rfl)
theorem dX7_add_51 : decode cX7_add 51 = .ok (.return_, 1) := dk_177 (dk_at dksX7_add_2 3 rfl rfl)
abbrev cX7_does : ByteArray := prog_9_method_4_code
def yX7_does : MethodName := ⟨RX7, "does", "(LSillBridges$Spot;I)Z"⟩
def dkwX7_does_1 : List UInt8 := [46, 182, 0, 43, 172]
abbrev dktX7_does_1 : List UInt8 := dkwX7_does_1 ++ []
def dkwX7_does_0 : List UInt8 := [43, 42, 180, 0, 11, 28, 46, 42, 180, 0, 15, 28, 46, 42, 180, 0, 18, 28, 46, 42, 180, 0, 21, 28]
abbrev dktX7_does_0 : List UInt8 := dkwX7_does_0 ++ dktX7_does_1
theorem dksX7_does_0 : cX7_does.data.toList.drop 0 = dktX7_does_0 := by decide +kernel
theorem dksX7_does_1 : cX7_does.data.toList.drop 24 = dktX7_does_1 := dk_seg dksX7_does_0 24 rfl rfl
theorem dX7_does_0 : decode cX7_does 0 = .ok (.aload_n 1, 1) := dk_43 (dk_at dksX7_does_0 0 rfl rfl)
theorem dX7_does_1 : decode cX7_does 1 = .ok (.aload_n 0, 1) := dk_42 (dk_at dksX7_does_0 1 rfl rfl)
theorem dX7_does_2 : decode cX7_does 2 = .ok (.getfield 11, 3) := dk_180 0 11 (dk_at dksX7_does_0 2 rfl rfl)
theorem dX7_does_5 : decode cX7_does 5 = .ok (.iload_n 2, 1) := dk_28 (dk_at dksX7_does_0 5 rfl rfl)
theorem dX7_does_6 : decode cX7_does 6 = .ok (.iaload, 1) := dk_46 (dk_at dksX7_does_0 6 rfl rfl)
theorem dX7_does_7 : decode cX7_does 7 = .ok (.aload_n 0, 1) := dk_42 (dk_at dksX7_does_0 7 rfl rfl)
theorem dX7_does_8 : decode cX7_does 8 = .ok (.getfield 15, 3) := dk_180 0 15 (dk_at dksX7_does_0 8 rfl rfl)
theorem dX7_does_11 : decode cX7_does 11 = .ok (.iload_n 2, 1) := dk_28 (dk_at dksX7_does_0 11 rfl rfl)
theorem dX7_does_12 : decode cX7_does 12 = .ok (.iaload, 1) := dk_46 (dk_at dksX7_does_0 12 rfl rfl)
theorem dX7_does_13 : decode cX7_does 13 = .ok (.aload_n 0, 1) := dk_42 (dk_at dksX7_does_0 13 rfl rfl)
theorem dX7_does_14 : decode cX7_does 14 = .ok (.getfield 18, 3) := dk_180 0 18 (dk_at dksX7_does_0 14 rfl rfl)
theorem dX7_does_17 : decode cX7_does 17 = .ok (.iload_n 2, 1) := dk_28 (dk_at dksX7_does_0 17 rfl rfl)
theorem dX7_does_18 : decode cX7_does 18 = .ok (.iaload, 1) := dk_46 (dk_at dksX7_does_0 18 rfl rfl)
theorem dX7_does_19 : decode cX7_does 19 = .ok (.aload_n 0, 1) := dk_42 (dk_at dksX7_does_0 19 rfl rfl)
theorem dX7_does_20 : decode cX7_does 20 = .ok (.getfield 21, 3) := dk_180 0 21 (dk_at dksX7_does_0 20 rfl rfl)
theorem dX7_does_23 : decode cX7_does 23 = .ok (.iload_n 2, 1) := dk_28 (dk_at dksX7_does_0 23 rfl rfl)
theorem dX7_does_24 : decode cX7_does 24 = .ok (.iaload, 1) := dk_46 (dk_at dksX7_does_1 0 rfl rfl)
theorem dX7_does_25 : decode cX7_does 25 = .ok (.invokevirtual 43, 3) := dk_182 0 43 (dk_at dksX7_does_1 1 rfl rfl)
theorem dX7_does_28 : decode cX7_does 28 = .ok (.ireturn, 1) := dk_172 (dk_at dksX7_does_1 4 rfl rfl)
abbrev cX7_toll : ByteArray := prog_9_method_5_code
def yX7_toll : MethodName := ⟨RX7, "toll", "(LSillBridges$Town;I)I"⟩
def dkwX7_toll_1 : List UInt8 := [50, 180, 0, 53, 42, 180, 0, 11, 28, 46, 4, 160, 0, 7, 5, 167, 0, 4, 4, 104, 172]
abbrev dktX7_toll_1 : List UInt8 := dkwX7_toll_1 ++ []
def dkwX7_toll_0 : List UInt8 := [42, 180, 0, 11, 28, 46, 4, 164, 0, 7, 3, 167, 0, 33, 43, 180, 0, 49, 42, 180, 0, 21, 28, 46]
abbrev dktX7_toll_0 : List UInt8 := dkwX7_toll_0 ++ dktX7_toll_1
theorem dksX7_toll_0 : cX7_toll.data.toList.drop 0 = dktX7_toll_0 := by decide +kernel
theorem dksX7_toll_1 : cX7_toll.data.toList.drop 24 = dktX7_toll_1 := dk_seg dksX7_toll_0 24 rfl rfl
theorem dX7_toll_0 : decode cX7_toll 0 = .ok (.aload_n 0, 1) := dk_42 (dk_at dksX7_toll_0 0 rfl rfl)
theorem dX7_toll_1 : decode cX7_toll 1 = .ok (.getfield 11, 3) := dk_180 0 11 (dk_at dksX7_toll_0 1 rfl rfl)
theorem dX7_toll_4 : decode cX7_toll 4 = .ok (.iload_n 2, 1) := dk_28 (dk_at dksX7_toll_0 4 rfl rfl)
theorem dX7_toll_5 : decode cX7_toll 5 = .ok (.iaload, 1) := dk_46 (dk_at dksX7_toll_0 5 rfl rfl)
theorem dX7_toll_6 : decode cX7_toll 6 = .ok (.iconst 1, 1) := dk_4 (dk_at dksX7_toll_0 6 rfl rfl)
theorem dX7_toll_7 : decode cX7_toll 7 = .ok (.if_icmp .le 7, 3) := dk_164 0 7 (dk_at dksX7_toll_0 7 rfl rfl)
theorem dX7_toll_10 : decode cX7_toll 10 = .ok (.iconst 0, 1) := dk_3 (dk_at dksX7_toll_0 10 rfl rfl)
theorem dX7_toll_11 : decode cX7_toll 11 = .ok (.goto 33, 3) := dk_167 0 33 (dk_at dksX7_toll_0 11 rfl rfl)
theorem dX7_toll_14 : decode cX7_toll 14 = .ok (.aload_n 1, 1) := dk_43 (dk_at dksX7_toll_0 14 rfl rfl)
theorem dX7_toll_15 : decode cX7_toll 15 = .ok (.getfield 49, 3) := dk_180 0 49 (dk_at dksX7_toll_0 15 rfl rfl)
theorem dX7_toll_18 : decode cX7_toll 18 = .ok (.aload_n 0, 1) := dk_42 (dk_at dksX7_toll_0 18 rfl rfl)
theorem dX7_toll_19 : decode cX7_toll 19 = .ok (.getfield 21, 3) := dk_180 0 21 (dk_at dksX7_toll_0 19 rfl rfl)
theorem dX7_toll_22 : decode cX7_toll 22 = .ok (.iload_n 2, 1) := dk_28 (dk_at dksX7_toll_0 22 rfl rfl)
theorem dX7_toll_23 : decode cX7_toll 23 = .ok (.iaload, 1) := dk_46 (dk_at dksX7_toll_0 23 rfl rfl)
theorem dX7_toll_24 : decode cX7_toll 24 = .ok (.aaload, 1) := dk_50 (dk_at dksX7_toll_1 0 rfl rfl)
theorem dX7_toll_25 : decode cX7_toll 25 = .ok (.getfield 53, 3) := dk_180 0 53 (dk_at dksX7_toll_1 1 rfl rfl)
theorem dX7_toll_28 : decode cX7_toll 28 = .ok (.aload_n 0, 1) := dk_42 (dk_at dksX7_toll_1 4 rfl rfl)
theorem dX7_toll_29 : decode cX7_toll 29 = .ok (.getfield 11, 3) := dk_180 0 11 (dk_at dksX7_toll_1 5 rfl rfl)
theorem dX7_toll_32 : decode cX7_toll 32 = .ok (.iload_n 2, 1) := dk_28 (dk_at dksX7_toll_1 8 rfl rfl)
theorem dX7_toll_33 : decode cX7_toll 33 = .ok (.iaload, 1) := dk_46 (dk_at dksX7_toll_1 9 rfl rfl)
theorem dX7_toll_34 : decode cX7_toll 34 = .ok (.iconst 1, 1) := dk_4 (dk_at dksX7_toll_1 10 rfl rfl)
theorem dX7_toll_35 : decode cX7_toll 35 = .ok (.if_icmp .ne 7, 3) := dk_160 0 7 (dk_at dksX7_toll_1 11 rfl rfl)
theorem dX7_toll_38 : decode cX7_toll 38 = .ok (.iconst 2, 1) := dk_5 (dk_at dksX7_toll_1 14 rfl rfl)
theorem dX7_toll_39 : decode cX7_toll 39 = .ok (.goto 4, 3) := dk_167 0 4 (dk_at dksX7_toll_1 15 rfl rfl)
theorem dX7_toll_42 : decode cX7_toll 42 = .ok (.iconst 1, 1) := dk_4 (dk_at dksX7_toll_1 18 rfl rfl)
theorem dX7_toll_43 : decode cX7_toll 43 = .ok (.imul, 1) := dk_104 (dk_at dksX7_toll_1 19 rfl rfl)
theorem dX7_toll_44 : decode cX7_toll 44 = .ok (.ireturn, 1) := dk_172 (dk_at dksX7_toll_1 20 rfl rfl)
abbrev cX7_minutes : ByteArray := prog_9_method_6_code
def yX7_minutes : MethodName := ⟨RX7, "minutes", "(LSillBridges$Town;I)I"⟩
def dkwX7_minutes_1 : List UInt8 := [50, 180, 0, 58, 172]
abbrev dktX7_minutes_1 : List UInt8 := dkwX7_minutes_1 ++ []
def dkwX7_minutes_0 : List UInt8 := [42, 180, 0, 11, 28, 46, 4, 164, 0, 7, 3, 167, 0, 17, 43, 180, 0, 49, 42, 180, 0, 21, 28, 46]
abbrev dktX7_minutes_0 : List UInt8 := dkwX7_minutes_0 ++ dktX7_minutes_1
theorem dksX7_minutes_0 : cX7_minutes.data.toList.drop 0 = dktX7_minutes_0 := by decide +kernel
theorem dksX7_minutes_1 : cX7_minutes.data.toList.drop 24 = dktX7_minutes_1 := dk_seg dksX7_minutes_0 24 rfl rfl
theorem dX7_minutes_0 : decode cX7_minutes 0 = .ok (.aload_n 0, 1) := dk_42 (dk_at dksX7_minutes_0 0 rfl rfl)
theorem dX7_minutes_1 : decode cX7_minutes 1 = .ok (.getfield 11, 3) := dk_180 0 11 (dk_at dksX7_minutes_0 1 rfl rfl)
theorem dX7_minutes_4 : decode cX7_minutes 4 = .ok (.iload_n 2, 1) := dk_28 (dk_at dksX7_minutes_0 4 rfl rfl)
theorem dX7_minutes_5 : decode cX7_minutes 5 = .ok (.iaload, 1) := dk_46 (dk_at dksX7_minutes_0 5 rfl rfl)
theorem dX7_minutes_6 : decode cX7_minutes 6 = .ok (.iconst 1, 1) := dk_4 (dk_at dksX7_minutes_0 6 rfl rfl)
theorem dX7_minutes_7 : decode cX7_minutes 7 = .ok (.if_icmp .le 7, 3) := dk_164 0 7 (dk_at dksX7_minutes_0 7 rfl rfl)
theorem dX7_minutes_10 : decode cX7_minutes 10 = .ok (.iconst 0, 1) := dk_3 (dk_at dksX7_minutes_0 10 rfl rfl)
theorem dX7_minutes_11 : decode cX7_minutes 11 = .ok (.goto 17, 3) := dk_167 0 17 (dk_at dksX7_minutes_0 11 rfl rfl)
theorem dX7_minutes_14 : decode cX7_minutes 14 = .ok (.aload_n 1, 1) := dk_43 (dk_at dksX7_minutes_0 14 rfl rfl)
theorem dX7_minutes_15 : decode cX7_minutes 15 = .ok (.getfield 49, 3) := dk_180 0 49 (dk_at dksX7_minutes_0 15 rfl rfl)
theorem dX7_minutes_18 : decode cX7_minutes 18 = .ok (.aload_n 0, 1) := dk_42 (dk_at dksX7_minutes_0 18 rfl rfl)
theorem dX7_minutes_19 : decode cX7_minutes 19 = .ok (.getfield 21, 3) := dk_180 0 21 (dk_at dksX7_minutes_0 19 rfl rfl)
theorem dX7_minutes_22 : decode cX7_minutes 22 = .ok (.iload_n 2, 1) := dk_28 (dk_at dksX7_minutes_0 22 rfl rfl)
theorem dX7_minutes_23 : decode cX7_minutes 23 = .ok (.iaload, 1) := dk_46 (dk_at dksX7_minutes_0 23 rfl rfl)
theorem dX7_minutes_24 : decode cX7_minutes 24 = .ok (.aaload, 1) := dk_50 (dk_at dksX7_minutes_1 0 rfl rfl)
theorem dX7_minutes_25 : decode cX7_minutes 25 = .ok (.getfield 58, 3) := dk_180 0 58 (dk_at dksX7_minutes_1 1 rfl rfl)
theorem dX7_minutes_28 : decode cX7_minutes 28 = .ok (.ireturn, 1) := dk_172 (dk_at dksX7_minutes_1 4 rfl rfl)
theorem q153 : (Jvm.Cond.initialized "SillBridges$Moves") ∈ lw_all := lw_g (lw_at lw_m1 10 rfl) rfl
theorem q314 : (Jvm.Cond.fieldLinkNest "SillBridges$Moves" (33 : Nat) "SillBridges$Town" "bridgeMany" "I" "SillBridges") ∈ lw_tbl := lw_at lw_m1 171 rfl
theorem q318 : (Jvm.Cond.fieldLinkNest "SillBridges$Moves" (28 : Nat) "SillBridges$Town" "people" "I" "SillBridges") ∈ lw_tbl := lw_at lw_m1 175 rfl
theorem q323 : (Jvm.Cond.fieldLinkNest "SillBridges$Moves" (40 : Nat) "SillBridges$Town" "loadMany" "I" "SillBridges") ∈ lw_tbl := lw_at lw_m1 180 rfl
theorem q334 : (Jvm.Cond.fieldLinkNest "SillBridges$Moves" (49 : Nat) "SillBridges$Town" "bridges" "[LSillBridges$Bridge;" "SillBridges") ∈ lw_tbl := lw_at lw_m1 191 rfl
theorem q405 : (Jvm.Cond.instantiable "SillBridges$Moves" (5 : Nat)) ∈ lw_all := lw_g (lw_at lw_m2 22 rfl) rfl
theorem q407 : (Jvm.Cond.instanceMethod ({ cls := "SillBridges$Moves", name := "<init>", desc := "()V" } : Jvm.MethodName)) ∈ lw_all := lw_g (lw_at lw_m2 24 rfl) rfl
theorem q408 : (Jvm.Cond.code ({ cls := "SillBridges$Moves", name := "<init>", desc := "()V" } : Jvm.MethodName) prog_9_method_1_code (1 : Nat) (Option.none : Option Jvm.ClassFile.FieldType)) ∈ lw_all := lw_g (lw_at lw_m2 25 rfl) rfl
theorem q409 : (Jvm.Cond.methodLink "SillBridges$Moves" (3 : Nat) ({ cls := "java/lang/Object", name := "<init>", desc := "()V" } : Jvm.MethodName)) ∈ lw_all := lw_g (lw_at lw_m2 26 rfl) rfl
theorem q410 : (Jvm.Cond.fieldLink "SillBridges$Moves" (11 : Nat) "SillBridges$Moves" "how" "[I") ∈ lw_all := lw_g (lw_at lw_m2 27 rfl) rfl
theorem q412 : (Jvm.Cond.fieldLink "SillBridges$Moves" (15 : Nat) "SillBridges$Moves" "first" "[I") ∈ lw_all := lw_g (lw_at lw_m2 29 rfl) rfl
theorem q414 : (Jvm.Cond.fieldLink "SillBridges$Moves" (18 : Nat) "SillBridges$Moves" "second" "[I") ∈ lw_all := lw_g (lw_at lw_m2 31 rfl) rfl
theorem q416 : (Jvm.Cond.fieldLink "SillBridges$Moves" (21 : Nat) "SillBridges$Moves" "what" "[I") ∈ lw_all := lw_g (lw_at lw_m2 33 rfl) rfl
theorem q418 : (Jvm.Cond.fieldLink "SillBridges$Moves" (24 : Nat) "SillBridges$Moves" "many" "I") ∈ lw_all := lw_g (lw_at lw_m2 35 rfl) rfl
theorem q420 : (Jvm.Cond.laysFinal "SillBridges$Moves" "SillBridges$Moves" "how" "[I") ∈ lw_all := lw_g (lw_at lw_m2 37 rfl) rfl
theorem q421 : (Jvm.Cond.soleField "SillBridges$Moves" "how") ∈ lw_all := lw_g (lw_at lw_m2 38 rfl) rfl
theorem q422 : (Jvm.Cond.laysFinal "SillBridges$Moves" "SillBridges$Moves" "first" "[I") ∈ lw_all := lw_g (lw_at lw_m2 39 rfl) rfl
theorem q423 : (Jvm.Cond.soleField "SillBridges$Moves" "first") ∈ lw_all := lw_g (lw_at lw_m2 40 rfl) rfl
theorem q424 : (Jvm.Cond.laysFinal "SillBridges$Moves" "SillBridges$Moves" "second" "[I") ∈ lw_all := lw_g (lw_at lw_m2 41 rfl) rfl
theorem q425 : (Jvm.Cond.soleField "SillBridges$Moves" "second") ∈ lw_all := lw_g (lw_at lw_m2 42 rfl) rfl
theorem q426 : (Jvm.Cond.laysFinal "SillBridges$Moves" "SillBridges$Moves" "what" "[I") ∈ lw_all := lw_g (lw_at lw_m2 43 rfl) rfl
theorem q427 : (Jvm.Cond.soleField "SillBridges$Moves" "what") ∈ lw_all := lw_g (lw_at lw_m2 44 rfl) rfl
theorem q428 : (Jvm.Cond.lays "SillBridges$Moves" "SillBridges$Moves" "many" "I") ∈ lw_all := lw_g (lw_at lw_m2 45 rfl) rfl
theorem q429 : (Jvm.Cond.soleField "SillBridges$Moves" "many") ∈ lw_all := lw_g (lw_at lw_m2 46 rfl) rfl
theorem q430 : (Jvm.Cond.superclass "SillBridges$Moves" "java/lang/Object") ∈ lw_all := lw_g (lw_at lw_m2 47 rfl) rfl
theorem q928 : (Jvm.Cond.fieldLinkNest "SillBridges$Moves" (53 : Nat) "SillBridges$Bridge" "toll" "I" "SillBridges") ∈ lw_tbl := lw_at lw_m4 65 rfl
theorem q934 : (Jvm.Cond.fieldLinkNest "SillBridges$Moves" (58 : Nat) "SillBridges$Bridge" "takes" "I" "SillBridges") ∈ lw_tbl := lw_at lw_m4 71 rfl
theorem q1353 : (Jvm.Cond.instanceMethod ({ cls := "SillBridges$Moves", name := "tell", desc := "(LSillBridges$Town;)V" } : Jvm.MethodName)) ∈ lw_all := lw_g (lw_at lw_m6 10 rfl) rfl
theorem q1354 : (Jvm.Cond.selects "SillBridges$Moves" ({ cls := "SillBridges$Moves", name := "tell", desc := "(LSillBridges$Town;)V" } : Jvm.MethodName) ({ cls := "SillBridges$Moves", name := "tell", desc := "(LSillBridges$Town;)V" } : Jvm.MethodName)) ∈ lw_all := lw_g (lw_at lw_m6 11 rfl) rfl
theorem q1355 : (Jvm.Cond.code ({ cls := "SillBridges$Moves", name := "tell", desc := "(LSillBridges$Town;)V" } : Jvm.MethodName) prog_9_method_3_code (5 : Nat) (Option.none : Option Jvm.ClassFile.FieldType)) ∈ lw_all := lw_g (lw_at lw_m6 12 rfl) rfl
theorem q1356 : (Jvm.Cond.methodLink "SillBridges$Moves" (36 : Nat) ({ cls := "SillBridges$Moves", name := "add", desc := "(IIII)V" } : Jvm.MethodName)) ∈ lw_all := lw_g (lw_at lw_m6 13 rfl) rfl
theorem q1357 : (Jvm.Cond.privateMethod ({ cls := "SillBridges$Moves", name := "add", desc := "(IIII)V" } : Jvm.MethodName)) ∈ lw_tbl := lw_at lw_m6 14 rfl
theorem q1358 : (Jvm.Cond.instanceMethod ({ cls := "SillBridges$Moves", name := "add", desc := "(IIII)V" } : Jvm.MethodName)) ∈ lw_all := lw_g (lw_at lw_m6 15 rfl) rfl
theorem q1359 : (Jvm.Cond.code ({ cls := "SillBridges$Moves", name := "add", desc := "(IIII)V" } : Jvm.MethodName) prog_9_method_2_code (5 : Nat) (Option.none : Option Jvm.ClassFile.FieldType)) ∈ lw_all := lw_g (lw_at lw_m6 16 rfl) rfl
theorem q1377 : (Jvm.Cond.instanceMethod ({ cls := "SillBridges$Moves", name := "does", desc := "(LSillBridges$Spot;I)Z" } : Jvm.MethodName)) ∈ lw_all := lw_g (lw_at lw_m6 34 rfl) rfl
theorem q1378 : (Jvm.Cond.selects "SillBridges$Moves" ({ cls := "SillBridges$Moves", name := "does", desc := "(LSillBridges$Spot;I)Z" } : Jvm.MethodName) ({ cls := "SillBridges$Moves", name := "does", desc := "(LSillBridges$Spot;I)Z" } : Jvm.MethodName)) ∈ lw_all := lw_g (lw_at lw_m6 35 rfl) rfl
theorem q1379 : (Jvm.Cond.code ({ cls := "SillBridges$Moves", name := "does", desc := "(LSillBridges$Spot;I)Z" } : Jvm.MethodName) prog_9_method_4_code (3 : Nat) (Option.some Jvm.ClassFile.FieldType.boolean)) ∈ lw_all := lw_g (lw_at lw_m6 36 rfl) rfl
theorem q1380 : (Jvm.Cond.methodLink "SillBridges$Moves" (43 : Nat) ({ cls := "SillBridges$Spot", name := "moves", desc := "(IIII)Z" } : Jvm.MethodName)) ∈ lw_all := lw_g (lw_at lw_m6 37 rfl) rfl
theorem q1383 : (Jvm.Cond.instanceMethod ({ cls := "SillBridges$Moves", name := "toll", desc := "(LSillBridges$Town;I)I" } : Jvm.MethodName)) ∈ lw_all := lw_g (lw_at lw_m6 40 rfl) rfl
theorem q1384 : (Jvm.Cond.selects "SillBridges$Moves" ({ cls := "SillBridges$Moves", name := "toll", desc := "(LSillBridges$Town;I)I" } : Jvm.MethodName) ({ cls := "SillBridges$Moves", name := "toll", desc := "(LSillBridges$Town;I)I" } : Jvm.MethodName)) ∈ lw_all := lw_g (lw_at lw_m6 41 rfl) rfl
theorem q1385 : (Jvm.Cond.code ({ cls := "SillBridges$Moves", name := "toll", desc := "(LSillBridges$Town;I)I" } : Jvm.MethodName) prog_9_method_5_code (3 : Nat) (Option.some Jvm.ClassFile.FieldType.int)) ∈ lw_all := lw_g (lw_at lw_m6 42 rfl) rfl
theorem q1387 : (Jvm.Cond.instanceMethod ({ cls := "SillBridges$Moves", name := "minutes", desc := "(LSillBridges$Town;I)I" } : Jvm.MethodName)) ∈ lw_all := lw_g (lw_at lw_m6 44 rfl) rfl
theorem q1388 : (Jvm.Cond.selects "SillBridges$Moves" ({ cls := "SillBridges$Moves", name := "minutes", desc := "(LSillBridges$Town;I)I" } : Jvm.MethodName) ({ cls := "SillBridges$Moves", name := "minutes", desc := "(LSillBridges$Town;I)I" } : Jvm.MethodName)) ∈ lw_all := lw_g (lw_at lw_m6 45 rfl) rfl
theorem q1389 : (Jvm.Cond.code ({ cls := "SillBridges$Moves", name := "minutes", desc := "(LSillBridges$Town;I)I" } : Jvm.MethodName) prog_9_method_6_code (3 : Nat) (Option.some Jvm.ClassFile.FieldType.int)) ∈ lw_all := lw_g (lw_at lw_m6 46 rfl) rfl
theorem in_X7 : ∀ w ∈ wsX70, w ∈ lw_all := lw_in wsX70 [420, 422, 424, 426, 428] (by decide +kernel) (by decide +kernel)

/-! SillBridges$Running -/
set_option maxRecDepth 100000
def RX8 : String := "SillBridges$Running"
def TX8 : u_T := fun k => match k with
  | 0 => ("SillBridges$Running", "spot", "LSillBridges$Spot;", true)
  | 1 => ("SillBridges$Running", "state", "I", false)
  | 2 => ("SillBridges$Running", "steps", "I", false)
  | 3 => ("SillBridges$Running", "done", "I", false)
  | 4 => ("SillBridges$Running", "missed", "I", false)
  | 5 => ("SillBridges$Running", "slipped", "I", false)
  | 6 => ("SillBridges$Running", "toll", "I", false)
  | 7 => ("SillBridges$Running", "minutes", "I", false)
  | 8 => ("SillBridges$Running", "isOver", "Z", false)
  | _ => ("SillBridges$Running", "blows", "Z", false)
def tyX8 : Nat → FieldType := fun k => match k with
  | 0 => .object "SillBridges$Spot"
  | 1 => .int
  | 2 => .int
  | 3 => .int
  | 4 => .int
  | 5 => .int
  | 6 => .int
  | 7 => .int
  | 8 => .boolean
  | _ => .boolean
abbrev wsX80 : List Cond := u_ws RX8 TX8 10
theorem nmX8 : ∀ a, a < 10 → ∀ b, b < 10 → a ≠ b → (TX8 a).2.1 ≠ (TX8 b).2.1 := by decide +kernel
theorem tyX8_ok : ∀ k, k < 10 → parseFieldDescriptor (TX8 k).2.2.1 = some (tyX8 k) := by decide +kernel
abbrev cX8_init : ByteArray := prog_13_method_1_code
def yX8_init : MethodName := ⟨RX8, "<init>", "()V"⟩
def dkwX8_init_0 : List UInt8 := [42, 183, 0, 3, 42, 187, 0, 9, 89, 183, 0, 11, 181, 0, 12, 177]
abbrev dktX8_init_0 : List UInt8 := dkwX8_init_0 ++ []
theorem dksX8_init_0 : cX8_init.data.toList.drop 0 = dktX8_init_0 := by decide +kernel
theorem dX8_init_0 : decode cX8_init 0 = .ok (.aload_n 0, 1) := dk_42 (dk_at dksX8_init_0 0 rfl rfl)
theorem dX8_init_1 : decode cX8_init 1 = .ok (.invokespecial 3, 3) := dk_183 0 3 (dk_at dksX8_init_0 1 rfl rfl)
theorem dX8_init_4 : decode cX8_init 4 = .ok (.aload_n 0, 1) := dk_42 (dk_at dksX8_init_0 4 rfl rfl)
theorem dX8_init_5 : decode cX8_init 5 = .ok (.new 9, 3) := dk_187 0 9 (dk_at dksX8_init_0 5 rfl rfl)
theorem dX8_init_8 : decode cX8_init 8 = .ok (.dup, 1) := dk_89 (dk_at dksX8_init_0 8 rfl rfl)
theorem dX8_init_9 : decode cX8_init 9 = .ok (.invokespecial 11, 3) := dk_183 0 11 (dk_at dksX8_init_0 9 rfl rfl)
theorem dX8_init_12 : decode cX8_init 12 = .ok (.putfield 12, 3) := dk_181 0 12 (dk_at dksX8_init_0 12 rfl rfl)
theorem dX8_init_15 : decode cX8_init 15 = .ok (.return_, 1) := dk_177 (dk_at dksX8_init_0 15 rfl rfl)
abbrev cX8_begin : ByteArray := prog_13_method_2_code
def yX8_begin : MethodName := ⟨RX8, "begin", "(LSillBridges$Spot;I)V"⟩
def dkwX8_begin_2 : List UInt8 := [3, 181, 0, 42, 42, 3, 181, 0, 45, 42, 3, 181, 0, 48, 177]
abbrev dktX8_begin_2 : List UInt8 := dkwX8_begin_2 ++ []
def dkwX8_begin_1 : List UInt8 := [181, 0, 26, 42, 3, 181, 0, 30, 42, 3, 181, 0, 33, 42, 3, 181, 0, 36, 42, 3, 181, 0, 39, 42]
abbrev dktX8_begin_1 : List UInt8 := dkwX8_begin_1 ++ dktX8_begin_2
def dkwX8_begin_0 : List UInt8 := [42, 180, 0, 12, 43, 182, 0, 18, 42, 28, 181, 0, 22, 42, 28, 155, 0, 7, 4, 167, 0, 4, 3]
abbrev dktX8_begin_0 : List UInt8 := dkwX8_begin_0 ++ dktX8_begin_1
theorem dksX8_begin_0 : cX8_begin.data.toList.drop 0 = dktX8_begin_0 := by decide +kernel
theorem dksX8_begin_1 : cX8_begin.data.toList.drop 23 = dktX8_begin_1 := dk_seg dksX8_begin_0 23 rfl rfl
theorem dksX8_begin_2 : cX8_begin.data.toList.drop 47 = dktX8_begin_2 := dk_seg dksX8_begin_1 24 rfl rfl
theorem dX8_begin_0 : decode cX8_begin 0 = .ok (.aload_n 0, 1) := dk_42 (dk_at dksX8_begin_0 0 rfl rfl)
theorem dX8_begin_1 : decode cX8_begin 1 = .ok (.getfield 12, 3) := dk_180 0 12 (dk_at dksX8_begin_0 1 rfl rfl)
theorem dX8_begin_4 : decode cX8_begin 4 = .ok (.aload_n 1, 1) := dk_43 (dk_at dksX8_begin_0 4 rfl rfl)
theorem dX8_begin_5 : decode cX8_begin 5 = .ok (.invokevirtual 18, 3) := dk_182 0 18 (dk_at dksX8_begin_0 5 rfl rfl)
theorem dX8_begin_8 : decode cX8_begin 8 = .ok (.aload_n 0, 1) := dk_42 (dk_at dksX8_begin_0 8 rfl rfl)
theorem dX8_begin_9 : decode cX8_begin 9 = .ok (.iload_n 2, 1) := dk_28 (dk_at dksX8_begin_0 9 rfl rfl)
theorem dX8_begin_10 : decode cX8_begin 10 = .ok (.putfield 22, 3) := dk_181 0 22 (dk_at dksX8_begin_0 10 rfl rfl)
theorem dX8_begin_13 : decode cX8_begin 13 = .ok (.aload_n 0, 1) := dk_42 (dk_at dksX8_begin_0 13 rfl rfl)
theorem dX8_begin_14 : decode cX8_begin 14 = .ok (.iload_n 2, 1) := dk_28 (dk_at dksX8_begin_0 14 rfl rfl)
theorem dX8_begin_15 : decode cX8_begin 15 = .ok (.ifCond .lt 7, 3) := dk_155 0 7 (dk_at dksX8_begin_0 15 rfl rfl)
theorem dX8_begin_18 : decode cX8_begin 18 = .ok (.iconst 1, 1) := dk_4 (dk_at dksX8_begin_0 18 rfl rfl)
theorem dX8_begin_19 : decode cX8_begin 19 = .ok (.goto 4, 3) := dk_167 0 4 (dk_at dksX8_begin_0 19 rfl rfl)
theorem dX8_begin_22 : decode cX8_begin 22 = .ok (.iconst 0, 1) := dk_3 (dk_at dksX8_begin_0 22 rfl rfl)
theorem dX8_begin_23 : decode cX8_begin 23 = .ok (.putfield 26, 3) := dk_181 0 26 (dk_at dksX8_begin_1 0 rfl rfl)
theorem dX8_begin_26 : decode cX8_begin 26 = .ok (.aload_n 0, 1) := dk_42 (dk_at dksX8_begin_1 3 rfl rfl)
theorem dX8_begin_27 : decode cX8_begin 27 = .ok (.iconst 0, 1) := dk_3 (dk_at dksX8_begin_1 4 rfl rfl)
theorem dX8_begin_28 : decode cX8_begin 28 = .ok (.putfield 30, 3) := dk_181 0 30 (dk_at dksX8_begin_1 5 rfl rfl)
theorem dX8_begin_31 : decode cX8_begin 31 = .ok (.aload_n 0, 1) := dk_42 (dk_at dksX8_begin_1 8 rfl rfl)
theorem dX8_begin_32 : decode cX8_begin 32 = .ok (.iconst 0, 1) := dk_3 (dk_at dksX8_begin_1 9 rfl rfl)
theorem dX8_begin_33 : decode cX8_begin 33 = .ok (.putfield 33, 3) := dk_181 0 33 (dk_at dksX8_begin_1 10 rfl rfl)
theorem dX8_begin_36 : decode cX8_begin 36 = .ok (.aload_n 0, 1) := dk_42 (dk_at dksX8_begin_1 13 rfl rfl)
theorem dX8_begin_37 : decode cX8_begin 37 = .ok (.iconst 0, 1) := dk_3 (dk_at dksX8_begin_1 14 rfl rfl)
theorem dX8_begin_38 : decode cX8_begin 38 = .ok (.putfield 36, 3) := dk_181 0 36 (dk_at dksX8_begin_1 15 rfl rfl)
theorem dX8_begin_41 : decode cX8_begin 41 = .ok (.aload_n 0, 1) := dk_42 (dk_at dksX8_begin_1 18 rfl rfl)
theorem dX8_begin_42 : decode cX8_begin 42 = .ok (.iconst 0, 1) := dk_3 (dk_at dksX8_begin_1 19 rfl rfl)
theorem dX8_begin_43 : decode cX8_begin 43 = .ok (.putfield 39, 3) := dk_181 0 39 (dk_at dksX8_begin_1 20 rfl rfl)
theorem dX8_begin_46 : decode cX8_begin 46 = .ok (.aload_n 0, 1) := dk_42 (dk_at dksX8_begin_1 23 rfl rfl)
theorem dX8_begin_47 : decode cX8_begin 47 = .ok (.iconst 0, 1) := dk_3 (dk_at dksX8_begin_2 0 rfl rfl)
theorem dX8_begin_48 : decode cX8_begin 48 = .ok (.putfield 42, 3) := dk_181 0 42 (dk_at dksX8_begin_2 1 rfl rfl)
theorem dX8_begin_51 : decode cX8_begin 51 = .ok (.aload_n 0, 1) := dk_42 (dk_at dksX8_begin_2 4 rfl rfl)
theorem dX8_begin_52 : decode cX8_begin 52 = .ok (.iconst 0, 1) := dk_3 (dk_at dksX8_begin_2 5 rfl rfl)
theorem dX8_begin_53 : decode cX8_begin 53 = .ok (.putfield 45, 3) := dk_181 0 45 (dk_at dksX8_begin_2 6 rfl rfl)
theorem dX8_begin_56 : decode cX8_begin 56 = .ok (.aload_n 0, 1) := dk_42 (dk_at dksX8_begin_2 9 rfl rfl)
theorem dX8_begin_57 : decode cX8_begin 57 = .ok (.iconst 0, 1) := dk_3 (dk_at dksX8_begin_2 10 rfl rfl)
theorem dX8_begin_58 : decode cX8_begin 58 = .ok (.putfield 48, 3) := dk_181 0 48 (dk_at dksX8_begin_2 11 rfl rfl)
theorem dX8_begin_61 : decode cX8_begin 61 = .ok (.return_, 1) := dk_177 (dk_at dksX8_begin_2 14 rfl rfl)
abbrev cX8_move : ByteArray := prog_13_method_5_code
def yX8_move : MethodName := ⟨RX8, "move", "(IIII)V"⟩
def dkwX8_move_7 : List UInt8 := [182, 0, 56, 87, 42, 182, 0, 60, 177]
abbrev dktX8_move_7 : List UInt8 := dkwX8_move_7 ++ []
def dkwX8_move_6 : List UInt8 := [153, 0, 14, 42, 89, 180, 0, 39, 4, 96, 181, 0, 39, 177, 42, 180, 0, 12, 27, 28, 29, 21, 4]
abbrev dktX8_move_6 : List UInt8 := dkwX8_move_6 ++ dktX8_move_7
def dkwX8_move_5 : List UInt8 := [180, 0, 45, 25, 5, 180, 0, 80, 96, 181, 0, 45, 42, 21, 6, 25, 5, 180, 0, 83, 182, 0, 86]
abbrev dktX8_move_5 : List UInt8 := dkwX8_move_5 ++ dktX8_move_6
def dkwX8_move_4 : List UInt8 := [4, 54, 6, 42, 89, 180, 0, 42, 25, 5, 180, 0, 77, 21, 6, 104, 96, 181, 0, 42, 42, 89]
abbrev dktX8_move_4 : List UInt8 := dkwX8_move_4 ++ dktX8_move_5
def dkwX8_move_3 : List UInt8 := [42, 180, 0, 12, 180, 0, 67, 180, 0, 71, 21, 4, 50, 58, 5, 27, 4, 160, 0, 7, 5, 167, 0, 4]
abbrev dktX8_move_3 : List UInt8 := dkwX8_move_3 ++ dktX8_move_4
def dkwX8_move_2 : List UInt8 := [29, 167, 0, 4, 2, 21, 4, 182, 0, 63, 158, 0, 14, 42, 89, 180, 0, 36, 4, 96, 181, 0, 36, 177]
abbrev dktX8_move_2 : List UInt8 := dkwX8_move_2 ++ dktX8_move_3
def dkwX8_move_1 : List UInt8 := [167, 0, 13, 42, 89, 180, 0, 36, 4, 96, 181, 0, 36, 177, 42, 180, 0, 12, 28, 27, 4, 160, 0, 7]
abbrev dktX8_move_1 : List UInt8 := dkwX8_move_1 ++ dktX8_move_2
def dkwX8_move_0 : List UInt8 := [27, 4, 164, 0, 36, 42, 180, 0, 12, 27, 28, 29, 21, 4, 182, 0, 56, 153, 0, 10, 42, 182, 0, 60]
abbrev dktX8_move_0 : List UInt8 := dkwX8_move_0 ++ dktX8_move_1
theorem dksX8_move_0 : cX8_move.data.toList.drop 0 = dktX8_move_0 := by decide +kernel
theorem dksX8_move_1 : cX8_move.data.toList.drop 24 = dktX8_move_1 := dk_seg dksX8_move_0 24 rfl rfl
theorem dksX8_move_2 : cX8_move.data.toList.drop 48 = dktX8_move_2 := dk_seg dksX8_move_1 24 rfl rfl
theorem dksX8_move_3 : cX8_move.data.toList.drop 72 = dktX8_move_3 := dk_seg dksX8_move_2 24 rfl rfl
theorem dksX8_move_4 : cX8_move.data.toList.drop 96 = dktX8_move_4 := dk_seg dksX8_move_3 24 rfl rfl
theorem dksX8_move_5 : cX8_move.data.toList.drop 118 = dktX8_move_5 := dk_seg dksX8_move_4 22 rfl rfl
theorem dksX8_move_6 : cX8_move.data.toList.drop 141 = dktX8_move_6 := dk_seg dksX8_move_5 23 rfl rfl
theorem dksX8_move_7 : cX8_move.data.toList.drop 164 = dktX8_move_7 := dk_seg dksX8_move_6 23 rfl rfl
theorem dX8_move_0 : decode cX8_move 0 = .ok (.iload_n 1, 1) := dk_27 (dk_at dksX8_move_0 0 rfl rfl)
theorem dX8_move_1 : decode cX8_move 1 = .ok (.iconst 1, 1) := dk_4 (dk_at dksX8_move_0 1 rfl rfl)
theorem dX8_move_2 : decode cX8_move 2 = .ok (.if_icmp .le 36, 3) := dk_164 0 36 (dk_at dksX8_move_0 2 rfl rfl)
theorem dX8_move_5 : decode cX8_move 5 = .ok (.aload_n 0, 1) := dk_42 (dk_at dksX8_move_0 5 rfl rfl)
theorem dX8_move_6 : decode cX8_move 6 = .ok (.getfield 12, 3) := dk_180 0 12 (dk_at dksX8_move_0 6 rfl rfl)
theorem dX8_move_9 : decode cX8_move 9 = .ok (.iload_n 1, 1) := dk_27 (dk_at dksX8_move_0 9 rfl rfl)
theorem dX8_move_10 : decode cX8_move 10 = .ok (.iload_n 2, 1) := dk_28 (dk_at dksX8_move_0 10 rfl rfl)
theorem dX8_move_11 : decode cX8_move 11 = .ok (.iload_n 3, 1) := dk_29 (dk_at dksX8_move_0 11 rfl rfl)
theorem dX8_move_12 : decode cX8_move 12 = .ok (.iload 4, 2) := dk_21 4 (dk_at dksX8_move_0 12 rfl rfl)
theorem dX8_move_14 : decode cX8_move 14 = .ok (.invokevirtual 56, 3) := dk_182 0 56 (dk_at dksX8_move_0 14 rfl rfl)
theorem dX8_move_17 : decode cX8_move 17 = .ok (.ifCond .eq 10, 3) := dk_153 0 10 (dk_at dksX8_move_0 17 rfl rfl)
theorem dX8_move_20 : decode cX8_move 20 = .ok (.aload_n 0, 1) := dk_42 (dk_at dksX8_move_0 20 rfl rfl)
theorem dX8_move_21 : decode cX8_move 21 = .ok (.invokevirtual 60, 3) := dk_182 0 60 (dk_at dksX8_move_0 21 rfl rfl)
theorem dX8_move_24 : decode cX8_move 24 = .ok (.goto 13, 3) := dk_167 0 13 (dk_at dksX8_move_1 0 rfl rfl)
theorem dX8_move_27 : decode cX8_move 27 = .ok (.aload_n 0, 1) := dk_42 (dk_at dksX8_move_1 3 rfl rfl)
theorem dX8_move_28 : decode cX8_move 28 = .ok (.dup, 1) := dk_89 (dk_at dksX8_move_1 4 rfl rfl)
theorem dX8_move_29 : decode cX8_move 29 = .ok (.getfield 36, 3) := dk_180 0 36 (dk_at dksX8_move_1 5 rfl rfl)
theorem dX8_move_32 : decode cX8_move 32 = .ok (.iconst 1, 1) := dk_4 (dk_at dksX8_move_1 8 rfl rfl)
theorem dX8_move_33 : decode cX8_move 33 = .ok (.iadd, 1) := dk_96 (dk_at dksX8_move_1 9 rfl rfl)
theorem dX8_move_34 : decode cX8_move 34 = .ok (.putfield 36, 3) := dk_181 0 36 (dk_at dksX8_move_1 10 rfl rfl)
theorem dX8_move_37 : decode cX8_move 37 = .ok (.return_, 1) := dk_177 (dk_at dksX8_move_1 13 rfl rfl)
theorem dX8_move_38 : decode cX8_move 38 = .ok (.aload_n 0, 1) := dk_42 (dk_at dksX8_move_1 14 rfl rfl)
theorem dX8_move_39 : decode cX8_move 39 = .ok (.getfield 12, 3) := dk_180 0 12 (dk_at dksX8_move_1 15 rfl rfl)
theorem dX8_move_42 : decode cX8_move 42 = .ok (.iload_n 2, 1) := dk_28 (dk_at dksX8_move_1 18 rfl rfl)
theorem dX8_move_43 : decode cX8_move 43 = .ok (.iload_n 1, 1) := dk_27 (dk_at dksX8_move_1 19 rfl rfl)
theorem dX8_move_44 : decode cX8_move 44 = .ok (.iconst 1, 1) := dk_4 (dk_at dksX8_move_1 20 rfl rfl)
theorem dX8_move_45 : decode cX8_move 45 = .ok (.if_icmp .ne 7, 3) := dk_160 0 7 (dk_at dksX8_move_1 21 rfl rfl)
theorem dX8_move_48 : decode cX8_move 48 = .ok (.iload_n 3, 1) := dk_29 (dk_at dksX8_move_2 0 rfl rfl)
theorem dX8_move_49 : decode cX8_move 49 = .ok (.goto 4, 3) := dk_167 0 4 (dk_at dksX8_move_2 1 rfl rfl)
theorem dX8_move_52 : decode cX8_move 52 = .ok (.iconst (-1), 1) := dk_2 (dk_at dksX8_move_2 4 rfl rfl)
theorem dX8_move_53 : decode cX8_move 53 = .ok (.iload 4, 2) := dk_21 4 (dk_at dksX8_move_2 5 rfl rfl)
theorem dX8_move_55 : decode cX8_move 55 = .ok (.invokevirtual 63, 3) := dk_182 0 63 (dk_at dksX8_move_2 7 rfl rfl)
theorem dX8_move_58 : decode cX8_move 58 = .ok (.ifCond .le 14, 3) := dk_158 0 14 (dk_at dksX8_move_2 10 rfl rfl)
theorem dX8_move_61 : decode cX8_move 61 = .ok (.aload_n 0, 1) := dk_42 (dk_at dksX8_move_2 13 rfl rfl)
theorem dX8_move_62 : decode cX8_move 62 = .ok (.dup, 1) := dk_89 (dk_at dksX8_move_2 14 rfl rfl)
theorem dX8_move_63 : decode cX8_move 63 = .ok (.getfield 36, 3) := dk_180 0 36 (dk_at dksX8_move_2 15 rfl rfl)
theorem dX8_move_66 : decode cX8_move 66 = .ok (.iconst 1, 1) := dk_4 (dk_at dksX8_move_2 18 rfl rfl)
theorem dX8_move_67 : decode cX8_move 67 = .ok (.iadd, 1) := dk_96 (dk_at dksX8_move_2 19 rfl rfl)
theorem dX8_move_68 : decode cX8_move 68 = .ok (.putfield 36, 3) := dk_181 0 36 (dk_at dksX8_move_2 20 rfl rfl)
theorem dX8_move_71 : decode cX8_move 71 = .ok (.return_, 1) := dk_177 (dk_at dksX8_move_2 23 rfl rfl)
theorem dX8_move_72 : decode cX8_move 72 = .ok (.aload_n 0, 1) := dk_42 (dk_at dksX8_move_3 0 rfl rfl)
theorem dX8_move_73 : decode cX8_move 73 = .ok (.getfield 12, 3) := dk_180 0 12 (dk_at dksX8_move_3 1 rfl rfl)
theorem dX8_move_76 : decode cX8_move 76 = .ok (.getfield 67, 3) := dk_180 0 67 (dk_at dksX8_move_3 4 rfl rfl)
theorem dX8_move_79 : decode cX8_move 79 = .ok (.getfield 71, 3) := dk_180 0 71 (dk_at dksX8_move_3 7 rfl rfl)
theorem dX8_move_82 : decode cX8_move 82 = .ok (.iload 4, 2) := dk_21 4 (dk_at dksX8_move_3 10 rfl rfl)
theorem dX8_move_84 : decode cX8_move 84 = .ok (.aaload, 1) := dk_50 (dk_at dksX8_move_3 12 rfl rfl)
theorem dX8_move_85 : decode cX8_move 85 = .ok (.astore 5, 2) := dk_58 5 (dk_at dksX8_move_3 13 rfl rfl)
theorem dX8_move_87 : decode cX8_move 87 = .ok (.iload_n 1, 1) := dk_27 (dk_at dksX8_move_3 15 rfl rfl)
theorem dX8_move_88 : decode cX8_move 88 = .ok (.iconst 1, 1) := dk_4 (dk_at dksX8_move_3 16 rfl rfl)
theorem dX8_move_89 : decode cX8_move 89 = .ok (.if_icmp .ne 7, 3) := dk_160 0 7 (dk_at dksX8_move_3 17 rfl rfl)
theorem dX8_move_92 : decode cX8_move 92 = .ok (.iconst 2, 1) := dk_5 (dk_at dksX8_move_3 20 rfl rfl)
theorem dX8_move_93 : decode cX8_move 93 = .ok (.goto 4, 3) := dk_167 0 4 (dk_at dksX8_move_3 21 rfl rfl)
theorem dX8_move_96 : decode cX8_move 96 = .ok (.iconst 1, 1) := dk_4 (dk_at dksX8_move_4 0 rfl rfl)
theorem dX8_move_97 : decode cX8_move 97 = .ok (.istore 6, 2) := dk_54 6 (dk_at dksX8_move_4 1 rfl rfl)
theorem dX8_move_99 : decode cX8_move 99 = .ok (.aload_n 0, 1) := dk_42 (dk_at dksX8_move_4 3 rfl rfl)
theorem dX8_move_100 : decode cX8_move 100 = .ok (.dup, 1) := dk_89 (dk_at dksX8_move_4 4 rfl rfl)
theorem dX8_move_101 : decode cX8_move 101 = .ok (.getfield 42, 3) := dk_180 0 42 (dk_at dksX8_move_4 5 rfl rfl)
theorem dX8_move_104 : decode cX8_move 104 = .ok (.aload 5, 2) := dk_25 5 (dk_at dksX8_move_4 8 rfl rfl)
theorem dX8_move_106 : decode cX8_move 106 = .ok (.getfield 77, 3) := dk_180 0 77 (dk_at dksX8_move_4 10 rfl rfl)
theorem dX8_move_109 : decode cX8_move 109 = .ok (.iload 6, 2) := dk_21 6 (dk_at dksX8_move_4 13 rfl rfl)
theorem dX8_move_111 : decode cX8_move 111 = .ok (.imul, 1) := dk_104 (dk_at dksX8_move_4 15 rfl rfl)
theorem dX8_move_112 : decode cX8_move 112 = .ok (.iadd, 1) := dk_96 (dk_at dksX8_move_4 16 rfl rfl)
theorem dX8_move_113 : decode cX8_move 113 = .ok (.putfield 42, 3) := dk_181 0 42 (dk_at dksX8_move_4 17 rfl rfl)
theorem dX8_move_116 : decode cX8_move 116 = .ok (.aload_n 0, 1) := dk_42 (dk_at dksX8_move_4 20 rfl rfl)
theorem dX8_move_117 : decode cX8_move 117 = .ok (.dup, 1) := dk_89 (dk_at dksX8_move_4 21 rfl rfl)
theorem dX8_move_118 : decode cX8_move 118 = .ok (.getfield 45, 3) := dk_180 0 45 (dk_at dksX8_move_5 0 rfl rfl)
theorem dX8_move_121 : decode cX8_move 121 = .ok (.aload 5, 2) := dk_25 5 (dk_at dksX8_move_5 3 rfl rfl)
theorem dX8_move_123 : decode cX8_move 123 = .ok (.getfield 80, 3) := dk_180 0 80 (dk_at dksX8_move_5 5 rfl rfl)
theorem dX8_move_126 : decode cX8_move 126 = .ok (.iadd, 1) := dk_96 (dk_at dksX8_move_5 8 rfl rfl)
theorem dX8_move_127 : decode cX8_move 127 = .ok (.putfield 45, 3) := dk_181 0 45 (dk_at dksX8_move_5 9 rfl rfl)
theorem dX8_move_130 : decode cX8_move 130 = .ok (.aload_n 0, 1) := dk_42 (dk_at dksX8_move_5 12 rfl rfl)
theorem dX8_move_131 : decode cX8_move 131 = .ok (.iload 6, 2) := dk_21 6 (dk_at dksX8_move_5 13 rfl rfl)
theorem dX8_move_133 : decode cX8_move 133 = .ok (.aload 5, 2) := dk_25 5 (dk_at dksX8_move_5 15 rfl rfl)
theorem dX8_move_135 : decode cX8_move 135 = .ok (.getfield 83, 3) := dk_180 0 83 (dk_at dksX8_move_5 17 rfl rfl)
theorem dX8_move_138 : decode cX8_move 138 = .ok (.invokevirtual 86, 3) := dk_182 0 86 (dk_at dksX8_move_5 20 rfl rfl)
theorem dX8_move_141 : decode cX8_move 141 = .ok (.ifCond .eq 14, 3) := dk_153 0 14 (dk_at dksX8_move_6 0 rfl rfl)
theorem dX8_move_144 : decode cX8_move 144 = .ok (.aload_n 0, 1) := dk_42 (dk_at dksX8_move_6 3 rfl rfl)
theorem dX8_move_145 : decode cX8_move 145 = .ok (.dup, 1) := dk_89 (dk_at dksX8_move_6 4 rfl rfl)
theorem dX8_move_146 : decode cX8_move 146 = .ok (.getfield 39, 3) := dk_180 0 39 (dk_at dksX8_move_6 5 rfl rfl)
theorem dX8_move_149 : decode cX8_move 149 = .ok (.iconst 1, 1) := dk_4 (dk_at dksX8_move_6 8 rfl rfl)
theorem dX8_move_150 : decode cX8_move 150 = .ok (.iadd, 1) := dk_96 (dk_at dksX8_move_6 9 rfl rfl)
theorem dX8_move_151 : decode cX8_move 151 = .ok (.putfield 39, 3) := dk_181 0 39 (dk_at dksX8_move_6 10 rfl rfl)
theorem dX8_move_154 : decode cX8_move 154 = .ok (.return_, 1) := dk_177 (dk_at dksX8_move_6 13 rfl rfl)
theorem dX8_move_155 : decode cX8_move 155 = .ok (.aload_n 0, 1) := dk_42 (dk_at dksX8_move_6 14 rfl rfl)
theorem dX8_move_156 : decode cX8_move 156 = .ok (.getfield 12, 3) := dk_180 0 12 (dk_at dksX8_move_6 15 rfl rfl)
theorem dX8_move_159 : decode cX8_move 159 = .ok (.iload_n 1, 1) := dk_27 (dk_at dksX8_move_6 18 rfl rfl)
theorem dX8_move_160 : decode cX8_move 160 = .ok (.iload_n 2, 1) := dk_28 (dk_at dksX8_move_6 19 rfl rfl)
theorem dX8_move_161 : decode cX8_move 161 = .ok (.iload_n 3, 1) := dk_29 (dk_at dksX8_move_6 20 rfl rfl)
theorem dX8_move_162 : decode cX8_move 162 = .ok (.iload 4, 2) := dk_21 4 (dk_at dksX8_move_6 21 rfl rfl)
theorem dX8_move_164 : decode cX8_move 164 = .ok (.invokevirtual 56, 3) := dk_182 0 56 (dk_at dksX8_move_7 0 rfl rfl)
theorem dX8_move_167 : decode cX8_move 167 = .ok (.pop, 1) := dk_87 (dk_at dksX8_move_7 3 rfl rfl)
theorem dX8_move_168 : decode cX8_move 168 = .ok (.aload_n 0, 1) := dk_42 (dk_at dksX8_move_7 4 rfl rfl)
theorem dX8_move_169 : decode cX8_move 169 = .ok (.invokevirtual 60, 3) := dk_182 0 60 (dk_at dksX8_move_7 5 rfl rfl)
theorem dX8_move_172 : decode cX8_move 172 = .ok (.return_, 1) := dk_177 (dk_at dksX8_move_7 8 rfl rfl)
abbrev cX8_finish : ByteArray := prog_13_method_6_code
def yX8_finish : MethodName := ⟨RX8, "finish", "()V"⟩
def dkwX8_finish_1 : List UInt8 := [182, 0, 90, 153, 0, 7, 4, 167, 0, 4, 3, 181, 0, 48, 177]
abbrev dktX8_finish_1 : List UInt8 := dkwX8_finish_1 ++ []
def dkwX8_finish_0 : List UInt8 := [42, 89, 180, 0, 33, 4, 96, 181, 0, 33, 42, 42, 180, 0, 48, 154, 0, 13, 42, 180, 0, 12]
abbrev dktX8_finish_0 : List UInt8 := dkwX8_finish_0 ++ dktX8_finish_1
theorem dksX8_finish_0 : cX8_finish.data.toList.drop 0 = dktX8_finish_0 := by decide +kernel
theorem dksX8_finish_1 : cX8_finish.data.toList.drop 22 = dktX8_finish_1 := dk_seg dksX8_finish_0 22 rfl rfl
theorem dX8_finish_0 : decode cX8_finish 0 = .ok (.aload_n 0, 1) := dk_42 (dk_at dksX8_finish_0 0 rfl rfl)
theorem dX8_finish_1 : decode cX8_finish 1 = .ok (.dup, 1) := dk_89 (dk_at dksX8_finish_0 1 rfl rfl)
theorem dX8_finish_2 : decode cX8_finish 2 = .ok (.getfield 33, 3) := dk_180 0 33 (dk_at dksX8_finish_0 2 rfl rfl)
theorem dX8_finish_5 : decode cX8_finish 5 = .ok (.iconst 1, 1) := dk_4 (dk_at dksX8_finish_0 5 rfl rfl)
theorem dX8_finish_6 : decode cX8_finish 6 = .ok (.iadd, 1) := dk_96 (dk_at dksX8_finish_0 6 rfl rfl)
theorem dX8_finish_7 : decode cX8_finish 7 = .ok (.putfield 33, 3) := dk_181 0 33 (dk_at dksX8_finish_0 7 rfl rfl)
theorem dX8_finish_10 : decode cX8_finish 10 = .ok (.aload_n 0, 1) := dk_42 (dk_at dksX8_finish_0 10 rfl rfl)
theorem dX8_finish_11 : decode cX8_finish 11 = .ok (.aload_n 0, 1) := dk_42 (dk_at dksX8_finish_0 11 rfl rfl)
theorem dX8_finish_12 : decode cX8_finish 12 = .ok (.getfield 48, 3) := dk_180 0 48 (dk_at dksX8_finish_0 12 rfl rfl)
theorem dX8_finish_15 : decode cX8_finish 15 = .ok (.ifCond .ne 13, 3) := dk_154 0 13 (dk_at dksX8_finish_0 15 rfl rfl)
theorem dX8_finish_18 : decode cX8_finish 18 = .ok (.aload_n 0, 1) := dk_42 (dk_at dksX8_finish_0 18 rfl rfl)
theorem dX8_finish_19 : decode cX8_finish 19 = .ok (.getfield 12, 3) := dk_180 0 12 (dk_at dksX8_finish_0 19 rfl rfl)
theorem dX8_finish_22 : decode cX8_finish 22 = .ok (.invokevirtual 90, 3) := dk_182 0 90 (dk_at dksX8_finish_1 0 rfl rfl)
theorem dX8_finish_25 : decode cX8_finish 25 = .ok (.ifCond .eq 7, 3) := dk_153 0 7 (dk_at dksX8_finish_1 3 rfl rfl)
theorem dX8_finish_28 : decode cX8_finish 28 = .ok (.iconst 1, 1) := dk_4 (dk_at dksX8_finish_1 6 rfl rfl)
theorem dX8_finish_29 : decode cX8_finish 29 = .ok (.goto 4, 3) := dk_167 0 4 (dk_at dksX8_finish_1 7 rfl rfl)
theorem dX8_finish_32 : decode cX8_finish 32 = .ok (.iconst 0, 1) := dk_3 (dk_at dksX8_finish_1 10 rfl rfl)
theorem dX8_finish_33 : decode cX8_finish 33 = .ok (.putfield 48, 3) := dk_181 0 48 (dk_at dksX8_finish_1 11 rfl rfl)
theorem dX8_finish_36 : decode cX8_finish 36 = .ok (.return_, 1) := dk_177 (dk_at dksX8_finish_1 14 rfl rfl)
abbrev cX8_slips : ByteArray := prog_13_method_4_code
def yX8_slips : MethodName := ⟨RX8, "slips", "(II)Z"⟩
def dkwX8_slips_1 : List UInt8 := [182, 0, 52, 28, 162, 0, 5, 4, 62, 132, 4, 1, 167, 255, 226, 29, 172]
abbrev dktX8_slips_1 : List UInt8 := dkwX8_slips_1 ++ []
def dkwX8_slips_0 : List UInt8 := [3, 62, 3, 54, 4, 21, 4, 27, 162, 0, 30, 42, 180, 0, 26, 153, 0, 23, 28, 158, 0, 19, 42]
abbrev dktX8_slips_0 : List UInt8 := dkwX8_slips_0 ++ dktX8_slips_1
theorem dksX8_slips_0 : cX8_slips.data.toList.drop 0 = dktX8_slips_0 := by decide +kernel
theorem dksX8_slips_1 : cX8_slips.data.toList.drop 23 = dktX8_slips_1 := dk_seg dksX8_slips_0 23 rfl rfl
theorem dX8_slips_0 : decode cX8_slips 0 = .ok (.iconst 0, 1) := dk_3 (dk_at dksX8_slips_0 0 rfl rfl)
theorem dX8_slips_1 : decode cX8_slips 1 = .ok (.istore_n 3, 1) := dk_62 (dk_at dksX8_slips_0 1 rfl rfl)
theorem dX8_slips_2 : decode cX8_slips 2 = .ok (.iconst 0, 1) := dk_3 (dk_at dksX8_slips_0 2 rfl rfl)
theorem dX8_slips_3 : decode cX8_slips 3 = .ok (.istore 4, 2) := dk_54 4 (dk_at dksX8_slips_0 3 rfl rfl)
theorem dX8_slips_5 : decode cX8_slips 5 = .ok (.iload 4, 2) := dk_21 4 (dk_at dksX8_slips_0 5 rfl rfl)
theorem dX8_slips_7 : decode cX8_slips 7 = .ok (.iload_n 1, 1) := dk_27 (dk_at dksX8_slips_0 7 rfl rfl)
theorem dX8_slips_8 : decode cX8_slips 8 = .ok (.if_icmp .ge 30, 3) := dk_162 0 30 (dk_at dksX8_slips_0 8 rfl rfl)
theorem dX8_slips_11 : decode cX8_slips 11 = .ok (.aload_n 0, 1) := dk_42 (dk_at dksX8_slips_0 11 rfl rfl)
theorem dX8_slips_12 : decode cX8_slips 12 = .ok (.getfield 26, 3) := dk_180 0 26 (dk_at dksX8_slips_0 12 rfl rfl)
theorem dX8_slips_15 : decode cX8_slips 15 = .ok (.ifCond .eq 23, 3) := dk_153 0 23 (dk_at dksX8_slips_0 15 rfl rfl)
theorem dX8_slips_18 : decode cX8_slips 18 = .ok (.iload_n 2, 1) := dk_28 (dk_at dksX8_slips_0 18 rfl rfl)
theorem dX8_slips_19 : decode cX8_slips 19 = .ok (.ifCond .le 19, 3) := dk_158 0 19 (dk_at dksX8_slips_0 19 rfl rfl)
theorem dX8_slips_22 : decode cX8_slips 22 = .ok (.aload_n 0, 1) := dk_42 (dk_at dksX8_slips_0 22 rfl rfl)
theorem dX8_slips_23 : decode cX8_slips 23 = .ok (.invokevirtual 52, 3) := dk_182 0 52 (dk_at dksX8_slips_1 0 rfl rfl)
theorem dX8_slips_26 : decode cX8_slips 26 = .ok (.iload_n 2, 1) := dk_28 (dk_at dksX8_slips_1 3 rfl rfl)
theorem dX8_slips_27 : decode cX8_slips 27 = .ok (.if_icmp .ge 5, 3) := dk_162 0 5 (dk_at dksX8_slips_1 4 rfl rfl)
theorem dX8_slips_30 : decode cX8_slips 30 = .ok (.iconst 1, 1) := dk_4 (dk_at dksX8_slips_1 7 rfl rfl)
theorem dX8_slips_31 : decode cX8_slips 31 = .ok (.istore_n 3, 1) := dk_62 (dk_at dksX8_slips_1 8 rfl rfl)
theorem dX8_slips_32 : decode cX8_slips 32 = .ok (.iinc 4 1, 3) := dk_132 4 1 (dk_at dksX8_slips_1 9 rfl rfl)
theorem dX8_slips_35 : decode cX8_slips 35 = .ok (.goto (-30), 3) := dk_167 255 226 (dk_at dksX8_slips_1 12 rfl rfl)
theorem dX8_slips_38 : decode cX8_slips 38 = .ok (.iload_n 3, 1) := dk_29 (dk_at dksX8_slips_1 15 rfl rfl)
theorem dX8_slips_39 : decode cX8_slips 39 = .ok (.ireturn, 1) := dk_172 (dk_at dksX8_slips_1 16 rfl rfl)
abbrev cX8_draw : ByteArray := prog_13_method_3_code
def yX8_draw : MethodName := ⟨RX8, "draw", "()I"⟩
def dkwX8_draw_1 : List UInt8 := [16, 8, 108, 16, 16, 112, 172]
abbrev dktX8_draw_1 : List UInt8 := dkwX8_draw_1 ++ []
def dkwX8_draw_0 : List UInt8 := [42, 42, 180, 0, 22, 17, 10, 181, 104, 17, 39, 23, 96, 18, 51, 112, 181, 0, 22, 42, 180, 0, 22]
abbrev dktX8_draw_0 : List UInt8 := dkwX8_draw_0 ++ dktX8_draw_1
theorem dksX8_draw_0 : cX8_draw.data.toList.drop 0 = dktX8_draw_0 := by decide +kernel
theorem dksX8_draw_1 : cX8_draw.data.toList.drop 23 = dktX8_draw_1 := dk_seg dksX8_draw_0 23 rfl rfl
theorem dX8_draw_0 : decode cX8_draw 0 = .ok (.aload_n 0, 1) := dk_42 (dk_at dksX8_draw_0 0 rfl rfl)
theorem dX8_draw_1 : decode cX8_draw 1 = .ok (.aload_n 0, 1) := dk_42 (dk_at dksX8_draw_0 1 rfl rfl)
theorem dX8_draw_2 : decode cX8_draw 2 = .ok (.getfield 22, 3) := dk_180 0 22 (dk_at dksX8_draw_0 2 rfl rfl)
theorem dX8_draw_5 : decode cX8_draw 5 = .ok (.sipush 2741, 3) := dk_17 10 181 (dk_at dksX8_draw_0 5 rfl rfl)
theorem dX8_draw_8 : decode cX8_draw 8 = .ok (.imul, 1) := dk_104 (dk_at dksX8_draw_0 8 rfl rfl)
theorem dX8_draw_9 : decode cX8_draw 9 = .ok (.sipush 10007, 3) := dk_17 39 23 (dk_at dksX8_draw_0 9 rfl rfl)
theorem dX8_draw_12 : decode cX8_draw 12 = .ok (.iadd, 1) := dk_96 (dk_at dksX8_draw_0 12 rfl rfl)
theorem dX8_draw_13 : decode cX8_draw 13 = .ok (.ldc 51, 2) := dk_18 51 (dk_at dksX8_draw_0 13 rfl rfl)
theorem dX8_draw_15 : decode cX8_draw 15 = .ok (.irem, 1) := dk_112 (dk_at dksX8_draw_0 15 rfl rfl)
theorem dX8_draw_16 : decode cX8_draw 16 = .ok (.putfield 22, 3) := dk_181 0 22 (dk_at dksX8_draw_0 16 rfl rfl)
theorem dX8_draw_19 : decode cX8_draw 19 = .ok (.aload_n 0, 1) := dk_42 (dk_at dksX8_draw_0 19 rfl rfl)
theorem dX8_draw_20 : decode cX8_draw 20 = .ok (.getfield 22, 3) := dk_180 0 22 (dk_at dksX8_draw_0 20 rfl rfl)
theorem dX8_draw_23 : decode cX8_draw 23 = .ok (.bipush 8, 2) := dk_16 8 (dk_at dksX8_draw_1 0 rfl rfl)
theorem dX8_draw_25 : decode cX8_draw 25 = .ok (.idiv, 1) := dk_108 (dk_at dksX8_draw_1 2 rfl rfl)
theorem dX8_draw_26 : decode cX8_draw 26 = .ok (.bipush 16, 2) := dk_16 16 (dk_at dksX8_draw_1 3 rfl rfl)
theorem dX8_draw_28 : decode cX8_draw 28 = .ok (.irem, 1) := dk_112 (dk_at dksX8_draw_1 5 rfl rfl)
theorem dX8_draw_29 : decode cX8_draw 29 = .ok (.ireturn, 1) := dk_172 (dk_at dksX8_draw_1 6 rfl rfl)
theorem q154 : (Jvm.Cond.initialized "SillBridges$Running") ∈ lw_all := lw_g (lw_at lw_m1 11 rfl) rfl
theorem q335 : (Jvm.Cond.fieldLinkNest "SillBridges$Running" (71 : Nat) "SillBridges$Town" "bridges" "[LSillBridges$Bridge;" "SillBridges") ∈ lw_tbl := lw_at lw_m1 192 rfl
theorem q369 : (Jvm.Cond.fieldLinkNest "SillBridges$Running" (67 : Nat) "SillBridges$Spot" "town" "LSillBridges$Town;" "SillBridges") ∈ lw_tbl := lw_at lw_m1 226 rfl
theorem q435 : (Jvm.Cond.instantiable "SillBridges$Running" (10 : Nat)) ∈ lw_all := lw_g (lw_at lw_m2 52 rfl) rfl
theorem q437 : (Jvm.Cond.instanceMethod ({ cls := "SillBridges$Running", name := "<init>", desc := "()V" } : Jvm.MethodName)) ∈ lw_all := lw_g (lw_at lw_m2 54 rfl) rfl
theorem q438 : (Jvm.Cond.code ({ cls := "SillBridges$Running", name := "<init>", desc := "()V" } : Jvm.MethodName) prog_13_method_1_code (1 : Nat) (Option.none : Option Jvm.ClassFile.FieldType)) ∈ lw_all := lw_g (lw_at lw_m2 55 rfl) rfl
theorem q439 : (Jvm.Cond.methodLink "SillBridges$Running" (3 : Nat) ({ cls := "java/lang/Object", name := "<init>", desc := "()V" } : Jvm.MethodName)) ∈ lw_all := lw_g (lw_at lw_m2 56 rfl) rfl
theorem q440 : (Jvm.Cond.classLink "SillBridges$Running" (9 : Nat) "SillBridges$Spot") ∈ lw_all := lw_g (lw_at lw_m2 57 rfl) rfl
theorem q441 : (Jvm.Cond.methodLinkNest "SillBridges$Running" (11 : Nat) ({ cls := "SillBridges$Spot", name := "<init>", desc := "()V" } : Jvm.MethodName) "SillBridges") ∈ lw_tbl := lw_at lw_m2 58 rfl
theorem q442 : (Jvm.Cond.fieldLink "SillBridges$Running" (12 : Nat) "SillBridges$Running" "spot" "LSillBridges$Spot;") ∈ lw_all := lw_g (lw_at lw_m2 59 rfl) rfl
theorem q445 : (Jvm.Cond.fieldLink "SillBridges$Running" (22 : Nat) "SillBridges$Running" "state" "I") ∈ lw_all := lw_g (lw_at lw_m2 62 rfl) rfl
theorem q446 : (Jvm.Cond.fieldLink "SillBridges$Running" (30 : Nat) "SillBridges$Running" "steps" "I") ∈ lw_all := lw_g (lw_at lw_m2 63 rfl) rfl
theorem q449 : (Jvm.Cond.fieldLink "SillBridges$Running" (33 : Nat) "SillBridges$Running" "done" "I") ∈ lw_all := lw_g (lw_at lw_m2 66 rfl) rfl
theorem q451 : (Jvm.Cond.fieldLink "SillBridges$Running" (36 : Nat) "SillBridges$Running" "missed" "I") ∈ lw_all := lw_g (lw_at lw_m2 68 rfl) rfl
theorem q453 : (Jvm.Cond.fieldLink "SillBridges$Running" (39 : Nat) "SillBridges$Running" "slipped" "I") ∈ lw_all := lw_g (lw_at lw_m2 70 rfl) rfl
theorem q455 : (Jvm.Cond.fieldLink "SillBridges$Running" (42 : Nat) "SillBridges$Running" "toll" "I") ∈ lw_all := lw_g (lw_at lw_m2 72 rfl) rfl
theorem q457 : (Jvm.Cond.fieldLink "SillBridges$Running" (45 : Nat) "SillBridges$Running" "minutes" "I") ∈ lw_all := lw_g (lw_at lw_m2 74 rfl) rfl
theorem q461 : (Jvm.Cond.fieldLink "SillBridges$Running" (48 : Nat) "SillBridges$Running" "isOver" "Z") ∈ lw_all := lw_g (lw_at lw_m2 78 rfl) rfl
theorem q464 : (Jvm.Cond.fieldLink "SillBridges$Running" (26 : Nat) "SillBridges$Running" "blows" "Z") ∈ lw_all := lw_g (lw_at lw_m2 81 rfl) rfl
theorem q465 : (Jvm.Cond.laysFinal "SillBridges$Running" "SillBridges$Running" "spot" "LSillBridges$Spot;") ∈ lw_all := lw_g (lw_at lw_m2 82 rfl) rfl
theorem q466 : (Jvm.Cond.soleField "SillBridges$Running" "spot") ∈ lw_all := lw_g (lw_at lw_m2 83 rfl) rfl
theorem q467 : (Jvm.Cond.lays "SillBridges$Running" "SillBridges$Running" "state" "I") ∈ lw_all := lw_g (lw_at lw_m2 84 rfl) rfl
theorem q468 : (Jvm.Cond.soleField "SillBridges$Running" "state") ∈ lw_all := lw_g (lw_at lw_m2 85 rfl) rfl
theorem q469 : (Jvm.Cond.lays "SillBridges$Running" "SillBridges$Running" "steps" "I") ∈ lw_all := lw_g (lw_at lw_m2 86 rfl) rfl
theorem q470 : (Jvm.Cond.soleField "SillBridges$Running" "steps") ∈ lw_all := lw_g (lw_at lw_m2 87 rfl) rfl
theorem q471 : (Jvm.Cond.lays "SillBridges$Running" "SillBridges$Running" "done" "I") ∈ lw_all := lw_g (lw_at lw_m2 88 rfl) rfl
theorem q472 : (Jvm.Cond.soleField "SillBridges$Running" "done") ∈ lw_all := lw_g (lw_at lw_m2 89 rfl) rfl
theorem q473 : (Jvm.Cond.lays "SillBridges$Running" "SillBridges$Running" "missed" "I") ∈ lw_all := lw_g (lw_at lw_m2 90 rfl) rfl
theorem q474 : (Jvm.Cond.soleField "SillBridges$Running" "missed") ∈ lw_all := lw_g (lw_at lw_m2 91 rfl) rfl
theorem q475 : (Jvm.Cond.lays "SillBridges$Running" "SillBridges$Running" "slipped" "I") ∈ lw_all := lw_g (lw_at lw_m2 92 rfl) rfl
theorem q476 : (Jvm.Cond.soleField "SillBridges$Running" "slipped") ∈ lw_all := lw_g (lw_at lw_m2 93 rfl) rfl
theorem q477 : (Jvm.Cond.lays "SillBridges$Running" "SillBridges$Running" "toll" "I") ∈ lw_all := lw_g (lw_at lw_m2 94 rfl) rfl
theorem q478 : (Jvm.Cond.soleField "SillBridges$Running" "toll") ∈ lw_all := lw_g (lw_at lw_m2 95 rfl) rfl
theorem q479 : (Jvm.Cond.lays "SillBridges$Running" "SillBridges$Running" "minutes" "I") ∈ lw_all := lw_g (lw_at lw_m2 96 rfl) rfl
theorem q480 : (Jvm.Cond.soleField "SillBridges$Running" "minutes") ∈ lw_all := lw_g (lw_at lw_m2 97 rfl) rfl
theorem q481 : (Jvm.Cond.lays "SillBridges$Running" "SillBridges$Running" "isOver" "Z") ∈ lw_all := lw_g (lw_at lw_m2 98 rfl) rfl
theorem q482 : (Jvm.Cond.soleField "SillBridges$Running" "isOver") ∈ lw_all := lw_g (lw_at lw_m2 99 rfl) rfl
theorem q483 : (Jvm.Cond.lays "SillBridges$Running" "SillBridges$Running" "blows" "Z") ∈ lw_all := lw_g (lw_at lw_m2 100 rfl) rfl
theorem q484 : (Jvm.Cond.soleField "SillBridges$Running" "blows") ∈ lw_all := lw_g (lw_at lw_m2 101 rfl) rfl
theorem q485 : (Jvm.Cond.superclass "SillBridges$Running" "java/lang/Object") ∈ lw_all := lw_g (lw_at lw_m2 102 rfl) rfl
theorem q929 : (Jvm.Cond.fieldLinkNest "SillBridges$Running" (77 : Nat) "SillBridges$Bridge" "toll" "I" "SillBridges") ∈ lw_tbl := lw_at lw_m4 66 rfl
theorem q933 : (Jvm.Cond.fieldLinkNest "SillBridges$Running" (80 : Nat) "SillBridges$Bridge" "takes" "I" "SillBridges") ∈ lw_tbl := lw_at lw_m4 70 rfl
theorem q937 : (Jvm.Cond.fieldLinkNest "SillBridges$Running" (83 : Nat) "SillBridges$Bridge" "sways" "I" "SillBridges") ∈ lw_tbl := lw_at lw_m4 74 rfl
theorem q1486 : (Jvm.Cond.instanceMethod ({ cls := "SillBridges$Running", name := "begin", desc := "(LSillBridges$Spot;I)V" } : Jvm.MethodName)) ∈ lw_all := lw_g (lw_at lw_m6 143 rfl) rfl
theorem q1487 : (Jvm.Cond.selects "SillBridges$Running" ({ cls := "SillBridges$Running", name := "begin", desc := "(LSillBridges$Spot;I)V" } : Jvm.MethodName) ({ cls := "SillBridges$Running", name := "begin", desc := "(LSillBridges$Spot;I)V" } : Jvm.MethodName)) ∈ lw_all := lw_g (lw_at lw_m6 144 rfl) rfl
theorem q1488 : (Jvm.Cond.code ({ cls := "SillBridges$Running", name := "begin", desc := "(LSillBridges$Spot;I)V" } : Jvm.MethodName) prog_13_method_2_code (3 : Nat) (Option.none : Option Jvm.ClassFile.FieldType)) ∈ lw_all := lw_g (lw_at lw_m6 145 rfl) rfl
theorem q1489 : (Jvm.Cond.methodLink "SillBridges$Running" (18 : Nat) ({ cls := "SillBridges$Spot", name := "be", desc := "(LSillBridges$Spot;)V" } : Jvm.MethodName)) ∈ lw_all := lw_g (lw_at lw_m6 146 rfl) rfl
theorem q1511 : (Jvm.Cond.instanceMethod ({ cls := "SillBridges$Running", name := "move", desc := "(IIII)V" } : Jvm.MethodName)) ∈ lw_all := lw_g (lw_at lw_m6 168 rfl) rfl
theorem q1512 : (Jvm.Cond.selects "SillBridges$Running" ({ cls := "SillBridges$Running", name := "move", desc := "(IIII)V" } : Jvm.MethodName) ({ cls := "SillBridges$Running", name := "move", desc := "(IIII)V" } : Jvm.MethodName)) ∈ lw_all := lw_g (lw_at lw_m6 169 rfl) rfl
theorem q1513 : (Jvm.Cond.code ({ cls := "SillBridges$Running", name := "move", desc := "(IIII)V" } : Jvm.MethodName) prog_13_method_5_code (7 : Nat) (Option.none : Option Jvm.ClassFile.FieldType)) ∈ lw_all := lw_g (lw_at lw_m6 170 rfl) rfl
theorem q1514 : (Jvm.Cond.methodLink "SillBridges$Running" (56 : Nat) ({ cls := "SillBridges$Spot", name := "moves", desc := "(IIII)Z" } : Jvm.MethodName)) ∈ lw_all := lw_g (lw_at lw_m6 171 rfl) rfl
theorem q1515 : (Jvm.Cond.methodLink "SillBridges$Running" (60 : Nat) ({ cls := "SillBridges$Running", name := "finish", desc := "()V" } : Jvm.MethodName)) ∈ lw_all := lw_g (lw_at lw_m6 172 rfl) rfl
theorem q1516 : (Jvm.Cond.privateMethod ({ cls := "SillBridges$Running", name := "finish", desc := "()V" } : Jvm.MethodName)) ∈ lw_tbl := lw_at lw_m6 173 rfl
theorem q1517 : (Jvm.Cond.instanceMethod ({ cls := "SillBridges$Running", name := "finish", desc := "()V" } : Jvm.MethodName)) ∈ lw_all := lw_g (lw_at lw_m6 174 rfl) rfl
theorem q1518 : (Jvm.Cond.code ({ cls := "SillBridges$Running", name := "finish", desc := "()V" } : Jvm.MethodName) prog_13_method_6_code (1 : Nat) (Option.none : Option Jvm.ClassFile.FieldType)) ∈ lw_all := lw_g (lw_at lw_m6 175 rfl) rfl
theorem q1519 : (Jvm.Cond.methodLink "SillBridges$Running" (90 : Nat) ({ cls := "SillBridges$Spot", name := "isDone", desc := "()Z" } : Jvm.MethodName)) ∈ lw_all := lw_g (lw_at lw_m6 176 rfl) rfl
theorem q1520 : (Jvm.Cond.methodLink "SillBridges$Running" (63 : Nat) ({ cls := "SillBridges$Spot", name := "why", desc := "(III)I" } : Jvm.MethodName)) ∈ lw_all := lw_g (lw_at lw_m6 177 rfl) rfl
theorem q1521 : (Jvm.Cond.methodLink "SillBridges$Running" (86 : Nat) ({ cls := "SillBridges$Running", name := "slips", desc := "(II)Z" } : Jvm.MethodName)) ∈ lw_all := lw_g (lw_at lw_m6 178 rfl) rfl
theorem q1522 : (Jvm.Cond.privateMethod ({ cls := "SillBridges$Running", name := "slips", desc := "(II)Z" } : Jvm.MethodName)) ∈ lw_tbl := lw_at lw_m6 179 rfl
theorem q1523 : (Jvm.Cond.instanceMethod ({ cls := "SillBridges$Running", name := "slips", desc := "(II)Z" } : Jvm.MethodName)) ∈ lw_all := lw_g (lw_at lw_m6 180 rfl) rfl
theorem q1524 : (Jvm.Cond.code ({ cls := "SillBridges$Running", name := "slips", desc := "(II)Z" } : Jvm.MethodName) prog_13_method_4_code (5 : Nat) (Option.some Jvm.ClassFile.FieldType.boolean)) ∈ lw_all := lw_g (lw_at lw_m6 181 rfl) rfl
theorem q1525 : (Jvm.Cond.methodLink "SillBridges$Running" (52 : Nat) ({ cls := "SillBridges$Running", name := "draw", desc := "()I" } : Jvm.MethodName)) ∈ lw_all := lw_g (lw_at lw_m6 182 rfl) rfl
theorem q1526 : (Jvm.Cond.privateMethod ({ cls := "SillBridges$Running", name := "draw", desc := "()I" } : Jvm.MethodName)) ∈ lw_tbl := lw_at lw_m6 183 rfl
theorem q1527 : (Jvm.Cond.instanceMethod ({ cls := "SillBridges$Running", name := "draw", desc := "()I" } : Jvm.MethodName)) ∈ lw_all := lw_g (lw_at lw_m6 184 rfl) rfl
theorem q1528 : (Jvm.Cond.code ({ cls := "SillBridges$Running", name := "draw", desc := "()I" } : Jvm.MethodName) prog_13_method_3_code (1 : Nat) (Option.some Jvm.ClassFile.FieldType.int)) ∈ lw_all := lw_g (lw_at lw_m6 185 rfl) rfl
theorem q1529 : (Jvm.Cond.constant "SillBridges$Running" (51 : Nat) (65536 : Int32)) ∈ lw_all := lw_g (lw_at lw_m6 186 rfl) rfl
theorem in_X8 : ∀ w ∈ wsX80, w ∈ lw_all := lw_in wsX80 [465, 467, 469, 471, 473, 475, 477, 479, 481, 483] (by decide +kernel) (by decide +kernel)

/-! SillBridges$Bridge -/
set_option maxRecDepth 100000
def RX11 : String := "SillBridges$Bridge"
def TX11 : u_T := fun k => match k with
  | 0 => ("SillBridges$Bridge", "name", "J", true)
  | 1 => ("SillBridges$Bridge", "from", "I", true)
  | 2 => ("SillBridges$Bridge", "to", "I", true)
  | 3 => ("SillBridges$Bridge", "sill", "I", true)
  | 4 => ("SillBridges$Bridge", "needs", "I", true)
  | 5 => ("SillBridges$Bridge", "by", "I", false)
  | 6 => ("SillBridges$Bridge", "bears", "I", false)
  | 7 => ("SillBridges$Bridge", "toll", "I", false)
  | 8 => ("SillBridges$Bridge", "takes", "I", false)
  | _ => ("SillBridges$Bridge", "sways", "I", false)
def tyX11 : Nat → FieldType := fun k => match k with
  | 0 => .long
  | 1 => .int
  | 2 => .int
  | 3 => .int
  | 4 => .int
  | 5 => .int
  | 6 => .int
  | 7 => .int
  | 8 => .int
  | _ => .int
abbrev wsX110 : List Cond := u_ws RX11 TX11 10
theorem nmX11 : ∀ a, a < 10 → ∀ b, b < 10 → a ≠ b → (TX11 a).2.1 ≠ (TX11 b).2.1 := by decide +kernel
theorem tyX11_ok : ∀ k, k < 10 → parseFieldDescriptor (TX11 k).2.2.1 = some (tyX11 k) := by decide +kernel
abbrev cX11_init : ByteArray := prog_5_method_1_code
def yX11_init : MethodName := ⟨RX11, "<init>", "(JIIII)V"⟩
def dkwX11_init_2 : List UInt8 := [181, 0, 34, 177]
abbrev dktX11_init_2 : List UInt8 := dkwX11_init_2 ++ []
def dkwX11_init_1 : List UInt8 := [181, 0, 21, 42, 29, 181, 0, 25, 42, 21, 4, 181, 0, 28, 42, 21, 5, 181, 0, 31, 42, 21, 6]
abbrev dktX11_init_1 : List UInt8 := dkwX11_init_1 ++ dktX11_init_2
def dkwX11_init_0 : List UInt8 := [42, 183, 0, 3, 42, 4, 181, 0, 9, 42, 17, 39, 15, 181, 0, 15, 42, 4, 181, 0, 18, 42, 31]
abbrev dktX11_init_0 : List UInt8 := dkwX11_init_0 ++ dktX11_init_1
theorem dksX11_init_0 : cX11_init.data.toList.drop 0 = dktX11_init_0 := by decide +kernel
theorem dksX11_init_1 : cX11_init.data.toList.drop 23 = dktX11_init_1 := dk_seg dksX11_init_0 23 rfl rfl
theorem dksX11_init_2 : cX11_init.data.toList.drop 46 = dktX11_init_2 := dk_seg dksX11_init_1 23 rfl rfl
theorem dX11_init_0 : decode cX11_init 0 = .ok (.aload_n 0, 1) := dk_42 (dk_at dksX11_init_0 0 rfl rfl)
theorem dX11_init_1 : decode cX11_init 1 = .ok (.invokespecial 3, 3) := dk_183 0 3 (dk_at dksX11_init_0 1 rfl rfl)
theorem dX11_init_4 : decode cX11_init 4 = .ok (.aload_n 0, 1) := dk_42 (dk_at dksX11_init_0 4 rfl rfl)
theorem dX11_init_5 : decode cX11_init 5 = .ok (.iconst 1, 1) := dk_4 (dk_at dksX11_init_0 5 rfl rfl)
theorem dX11_init_6 : decode cX11_init 6 = .ok (.putfield 9, 3) := dk_181 0 9 (dk_at dksX11_init_0 6 rfl rfl)
theorem dX11_init_9 : decode cX11_init 9 = .ok (.aload_n 0, 1) := dk_42 (dk_at dksX11_init_0 9 rfl rfl)
theorem dX11_init_10 : decode cX11_init 10 = .ok (.sipush 9999, 3) := dk_17 39 15 (dk_at dksX11_init_0 10 rfl rfl)
theorem dX11_init_13 : decode cX11_init 13 = .ok (.putfield 15, 3) := dk_181 0 15 (dk_at dksX11_init_0 13 rfl rfl)
theorem dX11_init_16 : decode cX11_init 16 = .ok (.aload_n 0, 1) := dk_42 (dk_at dksX11_init_0 16 rfl rfl)
theorem dX11_init_17 : decode cX11_init 17 = .ok (.iconst 1, 1) := dk_4 (dk_at dksX11_init_0 17 rfl rfl)
theorem dX11_init_18 : decode cX11_init 18 = .ok (.putfield 18, 3) := dk_181 0 18 (dk_at dksX11_init_0 18 rfl rfl)
theorem dX11_init_21 : decode cX11_init 21 = .ok (.aload_n 0, 1) := dk_42 (dk_at dksX11_init_0 21 rfl rfl)
theorem dX11_init_22 : decode cX11_init 22 = .ok (.lload_n 1, 1) := dk_31 (dk_at dksX11_init_0 22 rfl rfl)
theorem dX11_init_23 : decode cX11_init 23 = .ok (.putfield 21, 3) := dk_181 0 21 (dk_at dksX11_init_1 0 rfl rfl)
theorem dX11_init_26 : decode cX11_init 26 = .ok (.aload_n 0, 1) := dk_42 (dk_at dksX11_init_1 3 rfl rfl)
theorem dX11_init_27 : decode cX11_init 27 = .ok (.iload_n 3, 1) := dk_29 (dk_at dksX11_init_1 4 rfl rfl)
theorem dX11_init_28 : decode cX11_init 28 = .ok (.putfield 25, 3) := dk_181 0 25 (dk_at dksX11_init_1 5 rfl rfl)
theorem dX11_init_31 : decode cX11_init 31 = .ok (.aload_n 0, 1) := dk_42 (dk_at dksX11_init_1 8 rfl rfl)
theorem dX11_init_32 : decode cX11_init 32 = .ok (.iload 4, 2) := dk_21 4 (dk_at dksX11_init_1 9 rfl rfl)
theorem dX11_init_34 : decode cX11_init 34 = .ok (.putfield 28, 3) := dk_181 0 28 (dk_at dksX11_init_1 11 rfl rfl)
theorem dX11_init_37 : decode cX11_init 37 = .ok (.aload_n 0, 1) := dk_42 (dk_at dksX11_init_1 14 rfl rfl)
theorem dX11_init_38 : decode cX11_init 38 = .ok (.iload 5, 2) := dk_21 5 (dk_at dksX11_init_1 15 rfl rfl)
theorem dX11_init_40 : decode cX11_init 40 = .ok (.putfield 31, 3) := dk_181 0 31 (dk_at dksX11_init_1 17 rfl rfl)
theorem dX11_init_43 : decode cX11_init 43 = .ok (.aload_n 0, 1) := dk_42 (dk_at dksX11_init_1 20 rfl rfl)
theorem dX11_init_44 : decode cX11_init 44 = .ok (.iload 6, 2) := dk_21 6 (dk_at dksX11_init_1 21 rfl rfl)
theorem dX11_init_46 : decode cX11_init 46 = .ok (.putfield 34, 3) := dk_181 0 34 (dk_at dksX11_init_2 0 rfl rfl)
theorem dX11_init_49 : decode cX11_init 49 = .ok (.return_, 1) := dk_177 (dk_at dksX11_init_2 3 rfl rfl)
abbrev cX11_pull : ByteArray := prog_5_method_2_code
def yX11_pull : MethodName := ⟨RX11, "pull", "()I"⟩
def dkwX11_pull_0 : List UInt8 := [42, 180, 0, 34, 42, 180, 0, 9, 96, 4, 100, 42, 180, 0, 9, 108, 172]
abbrev dktX11_pull_0 : List UInt8 := dkwX11_pull_0 ++ []
theorem dksX11_pull_0 : cX11_pull.data.toList.drop 0 = dktX11_pull_0 := by decide +kernel
theorem dX11_pull_0 : decode cX11_pull 0 = .ok (.aload_n 0, 1) := dk_42 (dk_at dksX11_pull_0 0 rfl rfl)
theorem dX11_pull_1 : decode cX11_pull 1 = .ok (.getfield 34, 3) := dk_180 0 34 (dk_at dksX11_pull_0 1 rfl rfl)
theorem dX11_pull_4 : decode cX11_pull 4 = .ok (.aload_n 0, 1) := dk_42 (dk_at dksX11_pull_0 4 rfl rfl)
theorem dX11_pull_5 : decode cX11_pull 5 = .ok (.getfield 9, 3) := dk_180 0 9 (dk_at dksX11_pull_0 5 rfl rfl)
theorem dX11_pull_8 : decode cX11_pull 8 = .ok (.iadd, 1) := dk_96 (dk_at dksX11_pull_0 8 rfl rfl)
theorem dX11_pull_9 : decode cX11_pull 9 = .ok (.iconst 1, 1) := dk_4 (dk_at dksX11_pull_0 9 rfl rfl)
theorem dX11_pull_10 : decode cX11_pull 10 = .ok (.isub, 1) := dk_100 (dk_at dksX11_pull_0 10 rfl rfl)
theorem dX11_pull_11 : decode cX11_pull 11 = .ok (.aload_n 0, 1) := dk_42 (dk_at dksX11_pull_0 11 rfl rfl)
theorem dX11_pull_12 : decode cX11_pull 12 = .ok (.getfield 9, 3) := dk_180 0 9 (dk_at dksX11_pull_0 12 rfl rfl)
theorem dX11_pull_15 : decode cX11_pull 15 = .ok (.idiv, 1) := dk_108 (dk_at dksX11_pull_0 15 rfl rfl)
theorem dX11_pull_16 : decode cX11_pull 16 = .ok (.ireturn, 1) := dk_172 (dk_at dksX11_pull_0 16 rfl rfl)
abbrev cX11_beyond : ByteArray := prog_5_method_3_code
def yX11_beyond : MethodName := ⟨RX11, "beyond", "(I)I"⟩
def dkwX11_beyond_1 : List UInt8 := [180, 0, 25, 167, 0, 4, 2, 172]
abbrev dktX11_beyond_1 : List UInt8 := dkwX11_beyond_1 ++ []
def dkwX11_beyond_0 : List UInt8 := [27, 42, 180, 0, 25, 160, 0, 10, 42, 180, 0, 28, 167, 0, 19, 27, 42, 180, 0, 28, 160, 0, 10, 42]
abbrev dktX11_beyond_0 : List UInt8 := dkwX11_beyond_0 ++ dktX11_beyond_1
theorem dksX11_beyond_0 : cX11_beyond.data.toList.drop 0 = dktX11_beyond_0 := by decide +kernel
theorem dksX11_beyond_1 : cX11_beyond.data.toList.drop 24 = dktX11_beyond_1 := dk_seg dksX11_beyond_0 24 rfl rfl
theorem dX11_beyond_0 : decode cX11_beyond 0 = .ok (.iload_n 1, 1) := dk_27 (dk_at dksX11_beyond_0 0 rfl rfl)
theorem dX11_beyond_1 : decode cX11_beyond 1 = .ok (.aload_n 0, 1) := dk_42 (dk_at dksX11_beyond_0 1 rfl rfl)
theorem dX11_beyond_2 : decode cX11_beyond 2 = .ok (.getfield 25, 3) := dk_180 0 25 (dk_at dksX11_beyond_0 2 rfl rfl)
theorem dX11_beyond_5 : decode cX11_beyond 5 = .ok (.if_icmp .ne 10, 3) := dk_160 0 10 (dk_at dksX11_beyond_0 5 rfl rfl)
theorem dX11_beyond_8 : decode cX11_beyond 8 = .ok (.aload_n 0, 1) := dk_42 (dk_at dksX11_beyond_0 8 rfl rfl)
theorem dX11_beyond_9 : decode cX11_beyond 9 = .ok (.getfield 28, 3) := dk_180 0 28 (dk_at dksX11_beyond_0 9 rfl rfl)
theorem dX11_beyond_12 : decode cX11_beyond 12 = .ok (.goto 19, 3) := dk_167 0 19 (dk_at dksX11_beyond_0 12 rfl rfl)
theorem dX11_beyond_15 : decode cX11_beyond 15 = .ok (.iload_n 1, 1) := dk_27 (dk_at dksX11_beyond_0 15 rfl rfl)
theorem dX11_beyond_16 : decode cX11_beyond 16 = .ok (.aload_n 0, 1) := dk_42 (dk_at dksX11_beyond_0 16 rfl rfl)
theorem dX11_beyond_17 : decode cX11_beyond 17 = .ok (.getfield 28, 3) := dk_180 0 28 (dk_at dksX11_beyond_0 17 rfl rfl)
theorem dX11_beyond_20 : decode cX11_beyond 20 = .ok (.if_icmp .ne 10, 3) := dk_160 0 10 (dk_at dksX11_beyond_0 20 rfl rfl)
theorem dX11_beyond_23 : decode cX11_beyond 23 = .ok (.aload_n 0, 1) := dk_42 (dk_at dksX11_beyond_0 23 rfl rfl)
theorem dX11_beyond_24 : decode cX11_beyond 24 = .ok (.getfield 25, 3) := dk_180 0 25 (dk_at dksX11_beyond_1 0 rfl rfl)
theorem dX11_beyond_27 : decode cX11_beyond 27 = .ok (.goto 4, 3) := dk_167 0 4 (dk_at dksX11_beyond_1 3 rfl rfl)
theorem dX11_beyond_30 : decode cX11_beyond 30 = .ok (.iconst (-1), 1) := dk_2 (dk_at dksX11_beyond_1 6 rfl rfl)
theorem dX11_beyond_31 : decode cX11_beyond 31 = .ok (.ireturn, 1) := dk_172 (dk_at dksX11_beyond_1 7 rfl rfl)
theorem q166 : (Jvm.Cond.initialized "SillBridges$Bridge") ∈ lw_all := lw_g (lw_at lw_m1 23 rfl) rfl
theorem q901 : (Jvm.Cond.instantiable "SillBridges$Bridge" (10 : Nat)) ∈ lw_all := lw_g (lw_at lw_m4 38 rfl) rfl
theorem q907 : (Jvm.Cond.instanceMethod ({ cls := "SillBridges$Bridge", name := "<init>", desc := "(JIIII)V" } : Jvm.MethodName)) ∈ lw_all := lw_g (lw_at lw_m4 44 rfl) rfl
theorem q908 : (Jvm.Cond.code ({ cls := "SillBridges$Bridge", name := "<init>", desc := "(JIIII)V" } : Jvm.MethodName) prog_5_method_1_code (7 : Nat) (Option.none : Option Jvm.ClassFile.FieldType)) ∈ lw_all := lw_g (lw_at lw_m4 45 rfl) rfl
theorem q909 : (Jvm.Cond.methodLink "SillBridges$Bridge" (3 : Nat) ({ cls := "java/lang/Object", name := "<init>", desc := "()V" } : Jvm.MethodName)) ∈ lw_all := lw_g (lw_at lw_m4 46 rfl) rfl
theorem q910 : (Jvm.Cond.fieldLink "SillBridges$Bridge" (21 : Nat) "SillBridges$Bridge" "name" "J") ∈ lw_all := lw_g (lw_at lw_m4 47 rfl) rfl
theorem q912 : (Jvm.Cond.fieldLink "SillBridges$Bridge" (25 : Nat) "SillBridges$Bridge" "from" "I") ∈ lw_all := lw_g (lw_at lw_m4 49 rfl) rfl
theorem q914 : (Jvm.Cond.fieldLink "SillBridges$Bridge" (28 : Nat) "SillBridges$Bridge" "to" "I") ∈ lw_all := lw_g (lw_at lw_m4 51 rfl) rfl
theorem q916 : (Jvm.Cond.fieldLink "SillBridges$Bridge" (31 : Nat) "SillBridges$Bridge" "sill" "I") ∈ lw_all := lw_g (lw_at lw_m4 53 rfl) rfl
theorem q919 : (Jvm.Cond.fieldLink "SillBridges$Bridge" (34 : Nat) "SillBridges$Bridge" "needs" "I") ∈ lw_all := lw_g (lw_at lw_m4 56 rfl) rfl
theorem q921 : (Jvm.Cond.fieldLink "SillBridges$Bridge" (9 : Nat) "SillBridges$Bridge" "by" "I") ∈ lw_all := lw_g (lw_at lw_m4 58 rfl) rfl
theorem q924 : (Jvm.Cond.fieldLink "SillBridges$Bridge" (15 : Nat) "SillBridges$Bridge" "bears" "I") ∈ lw_all := lw_g (lw_at lw_m4 61 rfl) rfl
theorem q932 : (Jvm.Cond.fieldLink "SillBridges$Bridge" (18 : Nat) "SillBridges$Bridge" "takes" "I") ∈ lw_all := lw_g (lw_at lw_m4 69 rfl) rfl
theorem q940 : (Jvm.Cond.laysFinal "SillBridges$Bridge" "SillBridges$Bridge" "name" "J") ∈ lw_all := lw_g (lw_at lw_m4 77 rfl) rfl
theorem q941 : (Jvm.Cond.soleField "SillBridges$Bridge" "name") ∈ lw_all := lw_g (lw_at lw_m4 78 rfl) rfl
theorem q942 : (Jvm.Cond.laysFinal "SillBridges$Bridge" "SillBridges$Bridge" "from" "I") ∈ lw_all := lw_g (lw_at lw_m4 79 rfl) rfl
theorem q943 : (Jvm.Cond.soleField "SillBridges$Bridge" "from") ∈ lw_all := lw_g (lw_at lw_m4 80 rfl) rfl
theorem q944 : (Jvm.Cond.laysFinal "SillBridges$Bridge" "SillBridges$Bridge" "to" "I") ∈ lw_all := lw_g (lw_at lw_m4 81 rfl) rfl
theorem q945 : (Jvm.Cond.soleField "SillBridges$Bridge" "to") ∈ lw_all := lw_g (lw_at lw_m4 82 rfl) rfl
theorem q946 : (Jvm.Cond.laysFinal "SillBridges$Bridge" "SillBridges$Bridge" "sill" "I") ∈ lw_all := lw_g (lw_at lw_m4 83 rfl) rfl
theorem q947 : (Jvm.Cond.soleField "SillBridges$Bridge" "sill") ∈ lw_all := lw_g (lw_at lw_m4 84 rfl) rfl
theorem q948 : (Jvm.Cond.laysFinal "SillBridges$Bridge" "SillBridges$Bridge" "needs" "I") ∈ lw_all := lw_g (lw_at lw_m4 85 rfl) rfl
theorem q949 : (Jvm.Cond.soleField "SillBridges$Bridge" "needs") ∈ lw_all := lw_g (lw_at lw_m4 86 rfl) rfl
theorem q950 : (Jvm.Cond.lays "SillBridges$Bridge" "SillBridges$Bridge" "by" "I") ∈ lw_all := lw_g (lw_at lw_m4 87 rfl) rfl
theorem q951 : (Jvm.Cond.soleField "SillBridges$Bridge" "by") ∈ lw_all := lw_g (lw_at lw_m4 88 rfl) rfl
theorem q952 : (Jvm.Cond.lays "SillBridges$Bridge" "SillBridges$Bridge" "bears" "I") ∈ lw_all := lw_g (lw_at lw_m4 89 rfl) rfl
theorem q953 : (Jvm.Cond.soleField "SillBridges$Bridge" "bears") ∈ lw_all := lw_g (lw_at lw_m4 90 rfl) rfl
theorem q954 : (Jvm.Cond.lays "SillBridges$Bridge" "SillBridges$Bridge" "toll" "I") ∈ lw_all := lw_g (lw_at lw_m4 91 rfl) rfl
theorem q955 : (Jvm.Cond.soleField "SillBridges$Bridge" "toll") ∈ lw_all := lw_g (lw_at lw_m4 92 rfl) rfl
theorem q956 : (Jvm.Cond.lays "SillBridges$Bridge" "SillBridges$Bridge" "takes" "I") ∈ lw_all := lw_g (lw_at lw_m4 93 rfl) rfl
theorem q957 : (Jvm.Cond.soleField "SillBridges$Bridge" "takes") ∈ lw_all := lw_g (lw_at lw_m4 94 rfl) rfl
theorem q958 : (Jvm.Cond.lays "SillBridges$Bridge" "SillBridges$Bridge" "sways" "I") ∈ lw_all := lw_g (lw_at lw_m4 95 rfl) rfl
theorem q959 : (Jvm.Cond.soleField "SillBridges$Bridge" "sways") ∈ lw_all := lw_g (lw_at lw_m4 96 rfl) rfl
theorem q960 : (Jvm.Cond.superclass "SillBridges$Bridge" "java/lang/Object") ∈ lw_all := lw_g (lw_at lw_m4 97 rfl) rfl
theorem q1205 : (Jvm.Cond.instanceMethod ({ cls := "SillBridges$Bridge", name := "pull", desc := "()I" } : Jvm.MethodName)) ∈ lw_all := lw_g (lw_at lw_m5 102 rfl) rfl
theorem q1206 : (Jvm.Cond.selects "SillBridges$Bridge" ({ cls := "SillBridges$Bridge", name := "pull", desc := "()I" } : Jvm.MethodName) ({ cls := "SillBridges$Bridge", name := "pull", desc := "()I" } : Jvm.MethodName)) ∈ lw_all := lw_g (lw_at lw_m5 103 rfl) rfl
theorem q1207 : (Jvm.Cond.code ({ cls := "SillBridges$Bridge", name := "pull", desc := "()I" } : Jvm.MethodName) prog_5_method_2_code (1 : Nat) (Option.some Jvm.ClassFile.FieldType.int)) ∈ lw_all := lw_g (lw_at lw_m5 104 rfl) rfl
theorem q1302 : (Jvm.Cond.instanceMethod ({ cls := "SillBridges$Bridge", name := "beyond", desc := "(I)I" } : Jvm.MethodName)) ∈ lw_all := lw_g (lw_at lw_m5 199 rfl) rfl
theorem q1303 : (Jvm.Cond.selects "SillBridges$Bridge" ({ cls := "SillBridges$Bridge", name := "beyond", desc := "(I)I" } : Jvm.MethodName) ({ cls := "SillBridges$Bridge", name := "beyond", desc := "(I)I" } : Jvm.MethodName)) ∈ lw_all := lw_g (lw_at lw_m5 200 rfl) rfl
theorem q1304 : (Jvm.Cond.code ({ cls := "SillBridges$Bridge", name := "beyond", desc := "(I)I" } : Jvm.MethodName) prog_5_method_3_code (2 : Nat) (Option.some Jvm.ClassFile.FieldType.int)) ∈ lw_all := lw_g (lw_at lw_m5 201 rfl) rfl
theorem in_X11 : ∀ w ∈ wsX110, w ∈ lw_all := lw_in wsX110 [940, 942, 944, 946, 948, 950, 952, 954, 956, 958] (by decide +kernel) (by decide +kernel)

/-! SillBridges$Person -/
set_option maxRecDepth 100000
def RX12 : String := "SillBridges$Person"
def TX12 : u_T := fun k => match k with
  | 0 => ("SillBridges$Person", "name", "J", true)
  | 1 => ("SillBridges$Person", "weight", "I", true)
  | 2 => ("SillBridges$Person", "at", "I", true)
  | 3 => ("SillBridges$Person", "wants", "I", false)
  | 4 => ("SillBridges$Person", "carries", "I", false)
  | _ => ("SillBridges$Person", "led", "Z", false)
def tyX12 : Nat → FieldType := fun k => match k with
  | 0 => .long
  | 1 => .int
  | 2 => .int
  | 3 => .int
  | 4 => .int
  | _ => .boolean
abbrev wsX120 : List Cond := u_ws RX12 TX12 6
theorem nmX12 : ∀ a, a < 6 → ∀ b, b < 6 → a ≠ b → (TX12 a).2.1 ≠ (TX12 b).2.1 := by decide +kernel
theorem tyX12_ok : ∀ k, k < 6 → parseFieldDescriptor (TX12 k).2.2.1 = some (tyX12 k) := by decide +kernel
abbrev cX12_init : ByteArray := prog_10_method_1_code
def yX12_init : MethodName := ⟨RX12, "<init>", "(JII)V"⟩
def dkwX12_init_1 : List UInt8 := [181, 0, 22, 177]
abbrev dktX12_init_1 : List UInt8 := dkwX12_init_1 ++ []
def dkwX12_init_0 : List UInt8 := [42, 183, 0, 3, 42, 2, 181, 0, 9, 42, 31, 181, 0, 15, 42, 29, 181, 0, 19, 42, 21, 4]
abbrev dktX12_init_0 : List UInt8 := dkwX12_init_0 ++ dktX12_init_1
theorem dksX12_init_0 : cX12_init.data.toList.drop 0 = dktX12_init_0 := by decide +kernel
theorem dksX12_init_1 : cX12_init.data.toList.drop 22 = dktX12_init_1 := dk_seg dksX12_init_0 22 rfl rfl
theorem dX12_init_0 : decode cX12_init 0 = .ok (.aload_n 0, 1) := dk_42 (dk_at dksX12_init_0 0 rfl rfl)
theorem dX12_init_1 : decode cX12_init 1 = .ok (.invokespecial 3, 3) := dk_183 0 3 (dk_at dksX12_init_0 1 rfl rfl)
theorem dX12_init_4 : decode cX12_init 4 = .ok (.aload_n 0, 1) := dk_42 (dk_at dksX12_init_0 4 rfl rfl)
theorem dX12_init_5 : decode cX12_init 5 = .ok (.iconst (-1), 1) := dk_2 (dk_at dksX12_init_0 5 rfl rfl)
theorem dX12_init_6 : decode cX12_init 6 = .ok (.putfield 9, 3) := dk_181 0 9 (dk_at dksX12_init_0 6 rfl rfl)
theorem dX12_init_9 : decode cX12_init 9 = .ok (.aload_n 0, 1) := dk_42 (dk_at dksX12_init_0 9 rfl rfl)
theorem dX12_init_10 : decode cX12_init 10 = .ok (.lload_n 1, 1) := dk_31 (dk_at dksX12_init_0 10 rfl rfl)
theorem dX12_init_11 : decode cX12_init 11 = .ok (.putfield 15, 3) := dk_181 0 15 (dk_at dksX12_init_0 11 rfl rfl)
theorem dX12_init_14 : decode cX12_init 14 = .ok (.aload_n 0, 1) := dk_42 (dk_at dksX12_init_0 14 rfl rfl)
theorem dX12_init_15 : decode cX12_init 15 = .ok (.iload_n 3, 1) := dk_29 (dk_at dksX12_init_0 15 rfl rfl)
theorem dX12_init_16 : decode cX12_init 16 = .ok (.putfield 19, 3) := dk_181 0 19 (dk_at dksX12_init_0 16 rfl rfl)
theorem dX12_init_19 : decode cX12_init 19 = .ok (.aload_n 0, 1) := dk_42 (dk_at dksX12_init_0 19 rfl rfl)
theorem dX12_init_20 : decode cX12_init 20 = .ok (.iload 4, 2) := dk_21 4 (dk_at dksX12_init_0 20 rfl rfl)
theorem dX12_init_22 : decode cX12_init 22 = .ok (.putfield 22, 3) := dk_181 0 22 (dk_at dksX12_init_1 0 rfl rfl)
theorem dX12_init_25 : decode cX12_init 25 = .ok (.return_, 1) := dk_177 (dk_at dksX12_init_1 3 rfl rfl)
theorem q167 : (Jvm.Cond.initialized "SillBridges$Person") ∈ lw_all := lw_g (lw_at lw_m1 24 rfl) rfl
theorem q970 : (Jvm.Cond.instantiable "SillBridges$Person" (6 : Nat)) ∈ lw_all := lw_g (lw_at lw_m4 107 rfl) rfl
theorem q972 : (Jvm.Cond.instanceMethod ({ cls := "SillBridges$Person", name := "<init>", desc := "(JII)V" } : Jvm.MethodName)) ∈ lw_all := lw_g (lw_at lw_m4 109 rfl) rfl
theorem q973 : (Jvm.Cond.code ({ cls := "SillBridges$Person", name := "<init>", desc := "(JII)V" } : Jvm.MethodName) prog_10_method_1_code (5 : Nat) (Option.none : Option Jvm.ClassFile.FieldType)) ∈ lw_all := lw_g (lw_at lw_m4 110 rfl) rfl
theorem q974 : (Jvm.Cond.methodLink "SillBridges$Person" (3 : Nat) ({ cls := "java/lang/Object", name := "<init>", desc := "()V" } : Jvm.MethodName)) ∈ lw_all := lw_g (lw_at lw_m4 111 rfl) rfl
theorem q975 : (Jvm.Cond.fieldLink "SillBridges$Person" (15 : Nat) "SillBridges$Person" "name" "J") ∈ lw_all := lw_g (lw_at lw_m4 112 rfl) rfl
theorem q977 : (Jvm.Cond.fieldLink "SillBridges$Person" (19 : Nat) "SillBridges$Person" "weight" "I") ∈ lw_all := lw_g (lw_at lw_m4 114 rfl) rfl
theorem q980 : (Jvm.Cond.fieldLink "SillBridges$Person" (22 : Nat) "SillBridges$Person" "at" "I") ∈ lw_all := lw_g (lw_at lw_m4 117 rfl) rfl
theorem q982 : (Jvm.Cond.fieldLink "SillBridges$Person" (9 : Nat) "SillBridges$Person" "wants" "I") ∈ lw_all := lw_g (lw_at lw_m4 119 rfl) rfl
theorem q992 : (Jvm.Cond.laysFinal "SillBridges$Person" "SillBridges$Person" "name" "J") ∈ lw_all := lw_g (lw_at lw_m4 129 rfl) rfl
theorem q993 : (Jvm.Cond.soleField "SillBridges$Person" "name") ∈ lw_all := lw_g (lw_at lw_m4 130 rfl) rfl
theorem q994 : (Jvm.Cond.laysFinal "SillBridges$Person" "SillBridges$Person" "weight" "I") ∈ lw_all := lw_g (lw_at lw_m4 131 rfl) rfl
theorem q995 : (Jvm.Cond.soleField "SillBridges$Person" "weight") ∈ lw_all := lw_g (lw_at lw_m4 132 rfl) rfl
theorem q996 : (Jvm.Cond.laysFinal "SillBridges$Person" "SillBridges$Person" "at" "I") ∈ lw_all := lw_g (lw_at lw_m4 133 rfl) rfl
theorem q997 : (Jvm.Cond.soleField "SillBridges$Person" "at") ∈ lw_all := lw_g (lw_at lw_m4 134 rfl) rfl
theorem q998 : (Jvm.Cond.lays "SillBridges$Person" "SillBridges$Person" "wants" "I") ∈ lw_all := lw_g (lw_at lw_m4 135 rfl) rfl
theorem q999 : (Jvm.Cond.soleField "SillBridges$Person" "wants") ∈ lw_all := lw_g (lw_at lw_m4 136 rfl) rfl
theorem q1000 : (Jvm.Cond.lays "SillBridges$Person" "SillBridges$Person" "carries" "I") ∈ lw_all := lw_g (lw_at lw_m4 137 rfl) rfl
theorem q1001 : (Jvm.Cond.soleField "SillBridges$Person" "carries") ∈ lw_all := lw_g (lw_at lw_m4 138 rfl) rfl
theorem q1002 : (Jvm.Cond.lays "SillBridges$Person" "SillBridges$Person" "led" "Z") ∈ lw_all := lw_g (lw_at lw_m4 139 rfl) rfl
theorem q1003 : (Jvm.Cond.soleField "SillBridges$Person" "led") ∈ lw_all := lw_g (lw_at lw_m4 140 rfl) rfl
theorem q1004 : (Jvm.Cond.superclass "SillBridges$Person" "java/lang/Object") ∈ lw_all := lw_g (lw_at lw_m4 141 rfl) rfl
theorem in_X12 : ∀ w ∈ wsX120, w ∈ lw_all := lw_in wsX120 [992, 994, 996, 998, 1000, 1002] (by decide +kernel) (by decide +kernel)

/-! SillBridges$Load -/
set_option maxRecDepth 100000
def RX13 : String := "SillBridges$Load"
def TX13 : u_T := fun k => match k with
  | 0 => ("SillBridges$Load", "name", "J", true)
  | 1 => ("SillBridges$Load", "weight", "I", true)
  | _ => ("SillBridges$Load", "at", "I", true)
def tyX13 : Nat → FieldType := fun k => match k with
  | 0 => .long
  | 1 => .int
  | _ => .int
abbrev wsX130 : List Cond := u_ws RX13 TX13 3
theorem nmX13 : ∀ a, a < 3 → ∀ b, b < 3 → a ≠ b → (TX13 a).2.1 ≠ (TX13 b).2.1 := by decide +kernel
theorem tyX13_ok : ∀ k, k < 3 → parseFieldDescriptor (TX13 k).2.2.1 = some (tyX13 k) := by decide +kernel
abbrev cX13_init : ByteArray := prog_7_method_1_code
def yX13_init : MethodName := ⟨RX13, "<init>", "(JII)V"⟩
def dkwX13_init_0 : List UInt8 := [42, 183, 0, 1, 42, 31, 181, 0, 7, 42, 29, 181, 0, 13, 42, 21, 4, 181, 0, 17, 177]
abbrev dktX13_init_0 : List UInt8 := dkwX13_init_0 ++ []
theorem dksX13_init_0 : cX13_init.data.toList.drop 0 = dktX13_init_0 := by decide +kernel
theorem dX13_init_0 : decode cX13_init 0 = .ok (.aload_n 0, 1) := dk_42 (dk_at dksX13_init_0 0 rfl rfl)
theorem dX13_init_1 : decode cX13_init 1 = .ok (.invokespecial 1, 3) := dk_183 0 1 (dk_at dksX13_init_0 1 rfl rfl)
theorem dX13_init_4 : decode cX13_init 4 = .ok (.aload_n 0, 1) := dk_42 (dk_at dksX13_init_0 4 rfl rfl)
theorem dX13_init_5 : decode cX13_init 5 = .ok (.lload_n 1, 1) := dk_31 (dk_at dksX13_init_0 5 rfl rfl)
theorem dX13_init_6 : decode cX13_init 6 = .ok (.putfield 7, 3) := dk_181 0 7 (dk_at dksX13_init_0 6 rfl rfl)
theorem dX13_init_9 : decode cX13_init 9 = .ok (.aload_n 0, 1) := dk_42 (dk_at dksX13_init_0 9 rfl rfl)
theorem dX13_init_10 : decode cX13_init 10 = .ok (.iload_n 3, 1) := dk_29 (dk_at dksX13_init_0 10 rfl rfl)
theorem dX13_init_11 : decode cX13_init 11 = .ok (.putfield 13, 3) := dk_181 0 13 (dk_at dksX13_init_0 11 rfl rfl)
theorem dX13_init_14 : decode cX13_init 14 = .ok (.aload_n 0, 1) := dk_42 (dk_at dksX13_init_0 14 rfl rfl)
theorem dX13_init_15 : decode cX13_init 15 = .ok (.iload 4, 2) := dk_21 4 (dk_at dksX13_init_0 15 rfl rfl)
theorem dX13_init_17 : decode cX13_init 17 = .ok (.putfield 17, 3) := dk_181 0 17 (dk_at dksX13_init_0 17 rfl rfl)
theorem dX13_init_20 : decode cX13_init 20 = .ok (.return_, 1) := dk_177 (dk_at dksX13_init_0 20 rfl rfl)
theorem q168 : (Jvm.Cond.initialized "SillBridges$Load") ∈ lw_all := lw_g (lw_at lw_m1 25 rfl) rfl
theorem q1010 : (Jvm.Cond.instantiable "SillBridges$Load" (3 : Nat)) ∈ lw_all := lw_g (lw_at lw_m4 147 rfl) rfl
theorem q1012 : (Jvm.Cond.instanceMethod ({ cls := "SillBridges$Load", name := "<init>", desc := "(JII)V" } : Jvm.MethodName)) ∈ lw_all := lw_g (lw_at lw_m4 149 rfl) rfl
theorem q1013 : (Jvm.Cond.code ({ cls := "SillBridges$Load", name := "<init>", desc := "(JII)V" } : Jvm.MethodName) prog_7_method_1_code (5 : Nat) (Option.none : Option Jvm.ClassFile.FieldType)) ∈ lw_all := lw_g (lw_at lw_m4 150 rfl) rfl
theorem q1014 : (Jvm.Cond.methodLink "SillBridges$Load" (1 : Nat) ({ cls := "java/lang/Object", name := "<init>", desc := "()V" } : Jvm.MethodName)) ∈ lw_all := lw_g (lw_at lw_m4 151 rfl) rfl
theorem q1015 : (Jvm.Cond.fieldLink "SillBridges$Load" (7 : Nat) "SillBridges$Load" "name" "J") ∈ lw_all := lw_g (lw_at lw_m4 152 rfl) rfl
theorem q1017 : (Jvm.Cond.fieldLink "SillBridges$Load" (13 : Nat) "SillBridges$Load" "weight" "I") ∈ lw_all := lw_g (lw_at lw_m4 154 rfl) rfl
theorem q1020 : (Jvm.Cond.fieldLink "SillBridges$Load" (17 : Nat) "SillBridges$Load" "at" "I") ∈ lw_all := lw_g (lw_at lw_m4 157 rfl) rfl
theorem q1022 : (Jvm.Cond.laysFinal "SillBridges$Load" "SillBridges$Load" "name" "J") ∈ lw_all := lw_g (lw_at lw_m4 159 rfl) rfl
theorem q1023 : (Jvm.Cond.soleField "SillBridges$Load" "name") ∈ lw_all := lw_g (lw_at lw_m4 160 rfl) rfl
theorem q1024 : (Jvm.Cond.laysFinal "SillBridges$Load" "SillBridges$Load" "weight" "I") ∈ lw_all := lw_g (lw_at lw_m4 161 rfl) rfl
theorem q1025 : (Jvm.Cond.soleField "SillBridges$Load" "weight") ∈ lw_all := lw_g (lw_at lw_m4 162 rfl) rfl
theorem q1026 : (Jvm.Cond.laysFinal "SillBridges$Load" "SillBridges$Load" "at" "I") ∈ lw_all := lw_g (lw_at lw_m4 163 rfl) rfl
theorem q1027 : (Jvm.Cond.soleField "SillBridges$Load" "at") ∈ lw_all := lw_g (lw_at lw_m4 164 rfl) rfl
theorem q1028 : (Jvm.Cond.superclass "SillBridges$Load" "java/lang/Object") ∈ lw_all := lw_g (lw_at lw_m4 165 rfl) rfl
theorem in_X13 : ∀ w ∈ wsX130, w ∈ lw_all := lw_in wsX130 [1022, 1024, 1026] (by decide +kernel) (by decide +kernel)

/-! SillBridges$Step -/
set_option maxRecDepth 100000
def RX14 : String := "SillBridges$Step"
abbrev cX14_init : ByteArray := prog_15_method_1_code
def yX14_init : MethodName := ⟨RX14, "<init>", "()V"⟩
theorem dX14_init_0 : decode cX14_init 0 = .ok (.aload_n 0, 1) := by decide +kernel
theorem dX14_init_1 : decode cX14_init 1 = .ok (.invokespecial 3, 3) := by decide +kernel
theorem dX14_init_4 : decode cX14_init 4 = .ok (.return_, 1) := by decide +kernel
abbrev cX14_go : ByteArray := prog_15_method_3_code
def yX14_go : MethodName := ⟨RX14, "go", "(LSillBridges$Running;)V"⟩
def dkwX14_go_1 : List UInt8 := [181, 0, 9, 42, 43, 182, 0, 19, 177]
abbrev dktX14_go_1 : List UInt8 := dkwX14_go_1 ++ []
def dkwX14_go_0 : List UInt8 := [43, 180, 0, 9, 17, 1, 144, 160, 0, 9, 43, 4, 181, 0, 15, 177, 43, 89, 180, 0, 9, 4, 96]
abbrev dktX14_go_0 : List UInt8 := dkwX14_go_0 ++ dktX14_go_1
theorem dksX14_go_0 : cX14_go.data.toList.drop 0 = dktX14_go_0 := by decide +kernel
theorem dksX14_go_1 : cX14_go.data.toList.drop 23 = dktX14_go_1 := dk_seg dksX14_go_0 23 rfl rfl
theorem dX14_go_0 : decode cX14_go 0 = .ok (.aload_n 1, 1) := dk_43 (dk_at dksX14_go_0 0 rfl rfl)
theorem dX14_go_1 : decode cX14_go 1 = .ok (.getfield 9, 3) := dk_180 0 9 (dk_at dksX14_go_0 1 rfl rfl)
theorem dX14_go_4 : decode cX14_go 4 = .ok (.sipush 400, 3) := dk_17 1 144 (dk_at dksX14_go_0 4 rfl rfl)
theorem dX14_go_7 : decode cX14_go 7 = .ok (.if_icmp .ne 9, 3) := dk_160 0 9 (dk_at dksX14_go_0 7 rfl rfl)
theorem dX14_go_10 : decode cX14_go 10 = .ok (.aload_n 1, 1) := dk_43 (dk_at dksX14_go_0 10 rfl rfl)
theorem dX14_go_11 : decode cX14_go 11 = .ok (.iconst 1, 1) := dk_4 (dk_at dksX14_go_0 11 rfl rfl)
theorem dX14_go_12 : decode cX14_go 12 = .ok (.putfield 15, 3) := dk_181 0 15 (dk_at dksX14_go_0 12 rfl rfl)
theorem dX14_go_15 : decode cX14_go 15 = .ok (.return_, 1) := dk_177 (dk_at dksX14_go_0 15 rfl rfl)
theorem dX14_go_16 : decode cX14_go 16 = .ok (.aload_n 1, 1) := dk_43 (dk_at dksX14_go_0 16 rfl rfl)
theorem dX14_go_17 : decode cX14_go 17 = .ok (.dup, 1) := dk_89 (dk_at dksX14_go_0 17 rfl rfl)
theorem dX14_go_18 : decode cX14_go 18 = .ok (.getfield 9, 3) := dk_180 0 9 (dk_at dksX14_go_0 18 rfl rfl)
theorem dX14_go_21 : decode cX14_go 21 = .ok (.iconst 1, 1) := dk_4 (dk_at dksX14_go_0 21 rfl rfl)
theorem dX14_go_22 : decode cX14_go 22 = .ok (.iadd, 1) := dk_96 (dk_at dksX14_go_0 22 rfl rfl)
theorem dX14_go_23 : decode cX14_go 23 = .ok (.putfield 9, 3) := dk_181 0 9 (dk_at dksX14_go_1 0 rfl rfl)
theorem dX14_go_26 : decode cX14_go 26 = .ok (.aload_n 0, 1) := dk_42 (dk_at dksX14_go_1 3 rfl rfl)
theorem dX14_go_27 : decode cX14_go 27 = .ok (.aload_n 1, 1) := dk_43 (dk_at dksX14_go_1 4 rfl rfl)
theorem dX14_go_28 : decode cX14_go 28 = .ok (.invokevirtual 19, 3) := dk_182 0 19 (dk_at dksX14_go_1 5 rfl rfl)
theorem dX14_go_31 : decode cX14_go 31 = .ok (.return_, 1) := dk_177 (dk_at dksX14_go_1 8 rfl rfl)
theorem q170 : (Jvm.Cond.initialized "SillBridges$Step") ∈ lw_all := lw_g (lw_at lw_m1 27 rfl) rfl
theorem q447 : (Jvm.Cond.fieldLinkNest "SillBridges$Step" (9 : Nat) "SillBridges$Running" "steps" "I" "SillBridges") ∈ lw_tbl := lw_at lw_m2 64 rfl
theorem q463 : (Jvm.Cond.fieldLinkNest "SillBridges$Step" (15 : Nat) "SillBridges$Running" "isOver" "Z" "SillBridges") ∈ lw_tbl := lw_at lw_m2 80 rfl
theorem q1058 : (Jvm.Cond.instanceMethod ({ cls := "SillBridges$Step", name := "<init>", desc := "()V" } : Jvm.MethodName)) ∈ lw_all := lw_g (lw_at lw_m4 195 rfl) rfl
theorem q1059 : (Jvm.Cond.code ({ cls := "SillBridges$Step", name := "<init>", desc := "()V" } : Jvm.MethodName) prog_15_method_1_code (1 : Nat) (Option.none : Option Jvm.ClassFile.FieldType)) ∈ lw_all := lw_g (lw_at lw_m4 196 rfl) rfl
theorem q1060 : (Jvm.Cond.methodLink "SillBridges$Step" (3 : Nat) ({ cls := "java/lang/Object", name := "<init>", desc := "()V" } : Jvm.MethodName)) ∈ lw_all := lw_g (lw_at lw_m4 197 rfl) rfl
theorem q1497 : (Jvm.Cond.instanceMethod ({ cls := "SillBridges$Step", name := "go", desc := "(LSillBridges$Running;)V" } : Jvm.MethodName)) ∈ lw_all := lw_g (lw_at lw_m6 154 rfl) rfl
theorem q1498 : (Jvm.Cond.sameMethod "SillBridges$Step" "SillBridges$Step" "go" "(LSillBridges$Running;)V") ∈ lw_all := lw_g (lw_at lw_m6 155 rfl) rfl
theorem q1503 : (Jvm.Cond.code ({ cls := "SillBridges$Step", name := "go", desc := "(LSillBridges$Running;)V" } : Jvm.MethodName) prog_15_method_3_code (2 : Nat) (Option.none : Option Jvm.ClassFile.FieldType)) ∈ lw_all := lw_g (lw_at lw_m6 160 rfl) rfl
theorem q1504 : (Jvm.Cond.methodLink "SillBridges$Step" (19 : Nat) ({ cls := "SillBridges$Step", name := "does", desc := "(LSillBridges$Running;)V" } : Jvm.MethodName)) ∈ lw_all := lw_g (lw_at lw_m6 161 rfl) rfl
theorem q1505 : (Jvm.Cond.declares ({ cls := "SillBridges$Step", name := "does", desc := "(LSillBridges$Running;)V" } : Jvm.MethodName)) ∈ lw_tbl := lw_at lw_m6 162 rfl
theorem q1506 : (Jvm.Cond.sameMethod "SillBridges$Step" "SillBridges$Step" "does" "(LSillBridges$Running;)V") ∈ lw_all := lw_g (lw_at lw_m6 163 rfl) rfl

/-! SillBridges$Block -/
set_option maxRecDepth 100000
def RX15 : String := "SillBridges$Block"
abbrev cX15_init : ByteArray := prog_4_method_1_code
def yX15_init : MethodName := ⟨RX15, "<init>", "()V"⟩
def dkwX15_init_0 : List UInt8 := [42, 183, 0, 1, 42, 7, 189, 0, 2, 181, 0, 7, 177]
abbrev dktX15_init_0 : List UInt8 := dkwX15_init_0 ++ []
theorem dksX15_init_0 : cX15_init.data.toList.drop 0 = dktX15_init_0 := by decide +kernel
theorem dX15_init_0 : decode cX15_init 0 = .ok (.aload_n 0, 1) := dk_42 (dk_at dksX15_init_0 0 rfl rfl)
theorem dX15_init_1 : decode cX15_init 1 = .ok (.invokespecial 1, 3) := dk_183 0 1 (dk_at dksX15_init_0 1 rfl rfl)
theorem dX15_init_4 : decode cX15_init 4 = .ok (.aload_n 0, 1) := dk_42 (dk_at dksX15_init_0 4 rfl rfl)
theorem dX15_init_5 : decode cX15_init 5 = .ok (.iconst 4, 1) := dk_7 (dk_at dksX15_init_0 5 rfl rfl)
theorem dX15_init_6 : decode cX15_init 6 = .ok (.anewarray 2, 3) := dk_189 0 2 (dk_at dksX15_init_0 6 rfl rfl)
theorem dX15_init_9 : decode cX15_init 9 = .ok (.putfield 7, 3) := dk_181 0 7 (dk_at dksX15_init_0 9 rfl rfl)
theorem dX15_init_12 : decode cX15_init 12 = .ok (.return_, 1) := dk_177 (dk_at dksX15_init_0 12 rfl rfl)
abbrev cX15_add : ByteArray := prog_4_method_2_code
def yX15_add : MethodName := ⟨RX15, "add", "(LSillBridges$Step;)V"⟩
def dkwX15_add_2 : List UInt8 := [180, 0, 13, 43, 83, 42, 89, 180, 0, 13, 4, 96, 181, 0, 13, 177]
abbrev dktX15_add_2 : List UInt8 := dkwX15_add_2 ++ []
def dkwX15_add_1 : List UInt8 := [180, 0, 7, 3, 44, 3, 42, 180, 0, 13, 184, 0, 17, 42, 44, 181, 0, 7, 42, 180, 0, 7, 42]
abbrev dktX15_add_1 : List UInt8 := dkwX15_add_1 ++ dktX15_add_2
def dkwX15_add_0 : List UInt8 := [42, 180, 0, 13, 42, 180, 0, 7, 190, 160, 0, 32, 5, 42, 180, 0, 13, 104, 189, 0, 2, 77, 42]
abbrev dktX15_add_0 : List UInt8 := dkwX15_add_0 ++ dktX15_add_1
theorem dksX15_add_0 : cX15_add.data.toList.drop 0 = dktX15_add_0 := by decide +kernel
theorem dksX15_add_1 : cX15_add.data.toList.drop 23 = dktX15_add_1 := dk_seg dksX15_add_0 23 rfl rfl
theorem dksX15_add_2 : cX15_add.data.toList.drop 46 = dktX15_add_2 := dk_seg dksX15_add_1 23 rfl rfl
theorem dX15_add_0 : decode cX15_add 0 = .ok (.aload_n 0, 1) := dk_42 (dk_at dksX15_add_0 0 rfl rfl)
theorem dX15_add_1 : decode cX15_add 1 = .ok (.getfield 13, 3) := dk_180 0 13 (dk_at dksX15_add_0 1 rfl rfl)
theorem dX15_add_4 : decode cX15_add 4 = .ok (.aload_n 0, 1) := dk_42 (dk_at dksX15_add_0 4 rfl rfl)
theorem dX15_add_5 : decode cX15_add 5 = .ok (.getfield 7, 3) := dk_180 0 7 (dk_at dksX15_add_0 5 rfl rfl)
theorem dX15_add_8 : decode cX15_add 8 = .ok (.arraylength, 1) := dk_190 (dk_at dksX15_add_0 8 rfl rfl)
theorem dX15_add_9 : decode cX15_add 9 = .ok (.if_icmp .ne 32, 3) := dk_160 0 32 (dk_at dksX15_add_0 9 rfl rfl)
theorem dX15_add_12 : decode cX15_add 12 = .ok (.iconst 2, 1) := dk_5 (dk_at dksX15_add_0 12 rfl rfl)
theorem dX15_add_13 : decode cX15_add 13 = .ok (.aload_n 0, 1) := dk_42 (dk_at dksX15_add_0 13 rfl rfl)
theorem dX15_add_14 : decode cX15_add 14 = .ok (.getfield 13, 3) := dk_180 0 13 (dk_at dksX15_add_0 14 rfl rfl)
theorem dX15_add_17 : decode cX15_add 17 = .ok (.imul, 1) := dk_104 (dk_at dksX15_add_0 17 rfl rfl)
theorem dX15_add_18 : decode cX15_add 18 = .ok (.anewarray 2, 3) := dk_189 0 2 (dk_at dksX15_add_0 18 rfl rfl)
theorem dX15_add_21 : decode cX15_add 21 = .ok (.astore_n 2, 1) := dk_77 (dk_at dksX15_add_0 21 rfl rfl)
theorem dX15_add_22 : decode cX15_add 22 = .ok (.aload_n 0, 1) := dk_42 (dk_at dksX15_add_0 22 rfl rfl)
theorem dX15_add_23 : decode cX15_add 23 = .ok (.getfield 7, 3) := dk_180 0 7 (dk_at dksX15_add_1 0 rfl rfl)
theorem dX15_add_26 : decode cX15_add 26 = .ok (.iconst 0, 1) := dk_3 (dk_at dksX15_add_1 3 rfl rfl)
theorem dX15_add_27 : decode cX15_add 27 = .ok (.aload_n 2, 1) := dk_44 (dk_at dksX15_add_1 4 rfl rfl)
theorem dX15_add_28 : decode cX15_add 28 = .ok (.iconst 0, 1) := dk_3 (dk_at dksX15_add_1 5 rfl rfl)
theorem dX15_add_29 : decode cX15_add 29 = .ok (.aload_n 0, 1) := dk_42 (dk_at dksX15_add_1 6 rfl rfl)
theorem dX15_add_30 : decode cX15_add 30 = .ok (.getfield 13, 3) := dk_180 0 13 (dk_at dksX15_add_1 7 rfl rfl)
theorem dX15_add_33 : decode cX15_add 33 = .ok (.invokestatic 17, 3) := dk_184 0 17 (dk_at dksX15_add_1 10 rfl rfl)
theorem dX15_add_36 : decode cX15_add 36 = .ok (.aload_n 0, 1) := dk_42 (dk_at dksX15_add_1 13 rfl rfl)
theorem dX15_add_37 : decode cX15_add 37 = .ok (.aload_n 2, 1) := dk_44 (dk_at dksX15_add_1 14 rfl rfl)
theorem dX15_add_38 : decode cX15_add 38 = .ok (.putfield 7, 3) := dk_181 0 7 (dk_at dksX15_add_1 15 rfl rfl)
theorem dX15_add_41 : decode cX15_add 41 = .ok (.aload_n 0, 1) := dk_42 (dk_at dksX15_add_1 18 rfl rfl)
theorem dX15_add_42 : decode cX15_add 42 = .ok (.getfield 7, 3) := dk_180 0 7 (dk_at dksX15_add_1 19 rfl rfl)
theorem dX15_add_45 : decode cX15_add 45 = .ok (.aload_n 0, 1) := dk_42 (dk_at dksX15_add_1 22 rfl rfl)
theorem dX15_add_46 : decode cX15_add 46 = .ok (.getfield 13, 3) := dk_180 0 13 (dk_at dksX15_add_2 0 rfl rfl)
theorem dX15_add_49 : decode cX15_add 49 = .ok (.aload_n 1, 1) := dk_43 (dk_at dksX15_add_2 3 rfl rfl)
theorem dX15_add_50 : decode cX15_add 50 = .ok (.aastore, 1) := dk_83 (dk_at dksX15_add_2 4 rfl rfl)
theorem dX15_add_51 : decode cX15_add 51 = .ok (.aload_n 0, 1) := dk_42 (dk_at dksX15_add_2 5 rfl rfl)
theorem dX15_add_52 : decode cX15_add 52 = .ok (.dup, 1) := dk_89 (dk_at dksX15_add_2 6 rfl rfl)
theorem dX15_add_53 : decode cX15_add 53 = .ok (.getfield 13, 3) := dk_180 0 13 (dk_at dksX15_add_2 7 rfl rfl)
theorem dX15_add_56 : decode cX15_add 56 = .ok (.iconst 1, 1) := dk_4 (dk_at dksX15_add_2 10 rfl rfl)
theorem dX15_add_57 : decode cX15_add 57 = .ok (.iadd, 1) := dk_96 (dk_at dksX15_add_2 11 rfl rfl)
theorem dX15_add_58 : decode cX15_add 58 = .ok (.putfield 13, 3) := dk_181 0 13 (dk_at dksX15_add_2 12 rfl rfl)
theorem dX15_add_61 : decode cX15_add 61 = .ok (.return_, 1) := dk_177 (dk_at dksX15_add_2 15 rfl rfl)
abbrev cX15_all : ByteArray := prog_4_method_3_code
def yX15_all : MethodName := ⟨RX15, "all", "(LSillBridges$Running;)V"⟩
def dkwX15_all_1 : List UInt8 := [182, 0, 29, 132, 2, 1, 167, 255, 228, 177]
abbrev dktX15_all_1 : List UInt8 := dkwX15_all_1 ++ []
def dkwX15_all_0 : List UInt8 := [3, 61, 28, 42, 180, 0, 13, 162, 0, 26, 43, 180, 0, 23, 154, 0, 19, 42, 180, 0, 7, 28, 50, 43]
abbrev dktX15_all_0 : List UInt8 := dkwX15_all_0 ++ dktX15_all_1
theorem dksX15_all_0 : cX15_all.data.toList.drop 0 = dktX15_all_0 := by decide +kernel
theorem dksX15_all_1 : cX15_all.data.toList.drop 24 = dktX15_all_1 := dk_seg dksX15_all_0 24 rfl rfl
theorem dX15_all_0 : decode cX15_all 0 = .ok (.iconst 0, 1) := dk_3 (dk_at dksX15_all_0 0 rfl rfl)
theorem dX15_all_1 : decode cX15_all 1 = .ok (.istore_n 2, 1) := dk_61 (dk_at dksX15_all_0 1 rfl rfl)
theorem dX15_all_2 : decode cX15_all 2 = .ok (.iload_n 2, 1) := dk_28 (dk_at dksX15_all_0 2 rfl rfl)
theorem dX15_all_3 : decode cX15_all 3 = .ok (.aload_n 0, 1) := dk_42 (dk_at dksX15_all_0 3 rfl rfl)
theorem dX15_all_4 : decode cX15_all 4 = .ok (.getfield 13, 3) := dk_180 0 13 (dk_at dksX15_all_0 4 rfl rfl)
theorem dX15_all_7 : decode cX15_all 7 = .ok (.if_icmp .ge 26, 3) := dk_162 0 26 (dk_at dksX15_all_0 7 rfl rfl)
theorem dX15_all_10 : decode cX15_all 10 = .ok (.aload_n 1, 1) := dk_43 (dk_at dksX15_all_0 10 rfl rfl)
theorem dX15_all_11 : decode cX15_all 11 = .ok (.getfield 23, 3) := dk_180 0 23 (dk_at dksX15_all_0 11 rfl rfl)
theorem dX15_all_14 : decode cX15_all 14 = .ok (.ifCond .ne 19, 3) := dk_154 0 19 (dk_at dksX15_all_0 14 rfl rfl)
theorem dX15_all_17 : decode cX15_all 17 = .ok (.aload_n 0, 1) := dk_42 (dk_at dksX15_all_0 17 rfl rfl)
theorem dX15_all_18 : decode cX15_all 18 = .ok (.getfield 7, 3) := dk_180 0 7 (dk_at dksX15_all_0 18 rfl rfl)
theorem dX15_all_21 : decode cX15_all 21 = .ok (.iload_n 2, 1) := dk_28 (dk_at dksX15_all_0 21 rfl rfl)
theorem dX15_all_22 : decode cX15_all 22 = .ok (.aaload, 1) := dk_50 (dk_at dksX15_all_0 22 rfl rfl)
theorem dX15_all_23 : decode cX15_all 23 = .ok (.aload_n 1, 1) := dk_43 (dk_at dksX15_all_0 23 rfl rfl)
theorem dX15_all_24 : decode cX15_all 24 = .ok (.invokevirtual 29, 3) := dk_182 0 29 (dk_at dksX15_all_1 0 rfl rfl)
theorem dX15_all_27 : decode cX15_all 27 = .ok (.iinc 2 1, 3) := dk_132 2 1 (dk_at dksX15_all_1 3 rfl rfl)
theorem dX15_all_30 : decode cX15_all 30 = .ok (.goto (-28), 3) := dk_167 255 228 (dk_at dksX15_all_1 6 rfl rfl)
theorem dX15_all_33 : decode cX15_all 33 = .ok (.return_, 1) := dk_177 (dk_at dksX15_all_1 9 rfl rfl)
theorem q171 : (Jvm.Cond.initialized "SillBridges$Block") ∈ lw_all := lw_g (lw_at lw_m1 28 rfl) rfl
theorem q462 : (Jvm.Cond.fieldLinkNest "SillBridges$Block" (23 : Nat) "SillBridges$Running" "isOver" "Z" "SillBridges") ∈ lw_tbl := lw_at lw_m2 79 rfl
theorem q1055 : (Jvm.Cond.instanceMethod ({ cls := "SillBridges$Block", name := "<init>", desc := "()V" } : Jvm.MethodName)) ∈ lw_all := lw_g (lw_at lw_m4 192 rfl) rfl
theorem q1056 : (Jvm.Cond.code ({ cls := "SillBridges$Block", name := "<init>", desc := "()V" } : Jvm.MethodName) prog_4_method_1_code (1 : Nat) (Option.none : Option Jvm.ClassFile.FieldType)) ∈ lw_all := lw_g (lw_at lw_m4 193 rfl) rfl
theorem q1057 : (Jvm.Cond.methodLinkNest "SillBridges$Block" (1 : Nat) ({ cls := "SillBridges$Step", name := "<init>", desc := "()V" } : Jvm.MethodName) "SillBridges") ∈ lw_tbl := lw_at lw_m4 194 rfl
theorem q1061 : (Jvm.Cond.classLink "SillBridges$Block" (2 : Nat) "SillBridges$Step") ∈ lw_all := lw_g (lw_at lw_m4 198 rfl) rfl
theorem q1064 : (Jvm.Cond.fieldLink "SillBridges$Block" (7 : Nat) "SillBridges$Block" "steps" "[LSillBridges$Step;") ∈ lw_all := lw_g (lw_at lw_m4 201 rfl) rfl
theorem q1065 : (Jvm.Cond.fieldLink "SillBridges$Block" (13 : Nat) "SillBridges$Block" "size" "I") ∈ lw_all := lw_g (lw_at lw_m4 202 rfl) rfl
theorem q1069 : (Jvm.Cond.soleField "SillBridges$Block" "steps") ∈ lw_all := lw_g (lw_at lw_m4 206 rfl) rfl
theorem q1071 : (Jvm.Cond.soleField "SillBridges$Block" "size") ∈ lw_all := lw_g (lw_at lw_m4 208 rfl) rfl
theorem q1173 : (Jvm.Cond.instanceMethod ({ cls := "SillBridges$Block", name := "add", desc := "(LSillBridges$Step;)V" } : Jvm.MethodName)) ∈ lw_all := lw_g (lw_at lw_m5 70 rfl) rfl
theorem q1174 : (Jvm.Cond.sameMethod "SillBridges$Block" "SillBridges$Block" "add" "(LSillBridges$Step;)V") ∈ lw_all := lw_g (lw_at lw_m5 71 rfl) rfl
theorem q1177 : (Jvm.Cond.code ({ cls := "SillBridges$Block", name := "add", desc := "(LSillBridges$Step;)V" } : Jvm.MethodName) prog_4_method_2_code (3 : Nat) (Option.none : Option Jvm.ClassFile.FieldType)) ∈ lw_all := lw_g (lw_at lw_m5 74 rfl) rfl
theorem q1178 : (Jvm.Cond.methodLink "SillBridges$Block" (17 : Nat) ({ cls := "java/lang/System", name := "arraycopy", desc := "(Ljava/lang/Object;ILjava/lang/Object;II)V" } : Jvm.MethodName)) ∈ lw_all := lw_g (lw_at lw_m5 75 rfl) rfl
theorem q1492 : (Jvm.Cond.declares ({ cls := "SillBridges$Block", name := "all", desc := "(LSillBridges$Running;)V" } : Jvm.MethodName)) ∈ lw_tbl := lw_at lw_m6 149 rfl
theorem q1494 : (Jvm.Cond.instanceMethod ({ cls := "SillBridges$Block", name := "all", desc := "(LSillBridges$Running;)V" } : Jvm.MethodName)) ∈ lw_all := lw_g (lw_at lw_m6 151 rfl) rfl
theorem q1495 : (Jvm.Cond.code ({ cls := "SillBridges$Block", name := "all", desc := "(LSillBridges$Running;)V" } : Jvm.MethodName) prog_4_method_3_code (3 : Nat) (Option.none : Option Jvm.ClassFile.FieldType)) ∈ lw_all := lw_g (lw_at lw_m6 152 rfl) rfl
theorem q1496 : (Jvm.Cond.methodLink "SillBridges$Block" (29 : Nat) ({ cls := "SillBridges$Step", name := "go", desc := "(LSillBridges$Running;)V" } : Jvm.MethodName)) ∈ lw_all := lw_g (lw_at lw_m6 153 rfl) rfl

/-! SillBridges$Loop -/
set_option maxRecDepth 100000
def RX16 : String := "SillBridges$Loop"
def TX16 : u_T := fun k => match k with
  | 0 => ("SillBridges$Block", "steps", "[LSillBridges$Step;", false)
  | 1 => ("SillBridges$Block", "size", "I", false)
  | _ => ("SillBridges$Loop", "times", "I", true)
def tyX16 : Nat → FieldType := fun k => match k with
  | 0 => .array (.object "SillBridges$Step")
  | 1 => .int
  | _ => .int
abbrev wsX160 : List Cond := u_ws RX16 TX16 3
theorem nmX16 : ∀ a, a < 3 → ∀ b, b < 3 → a ≠ b → (TX16 a).2.1 ≠ (TX16 b).2.1 := by decide +kernel
theorem tyX16_ok : ∀ k, k < 3 → parseFieldDescriptor (TX16 k).2.2.1 = some (tyX16 k) := by decide +kernel
abbrev cX16_init : ByteArray := prog_8_method_1_code
def yX16_init : MethodName := ⟨RX16, "<init>", "(I)V"⟩
def dkwX16_init_0 : List UInt8 := [42, 183, 0, 1, 42, 27, 181, 0, 7, 177]
abbrev dktX16_init_0 : List UInt8 := dkwX16_init_0 ++ []
theorem dksX16_init_0 : cX16_init.data.toList.drop 0 = dktX16_init_0 := by decide +kernel
theorem dX16_init_0 : decode cX16_init 0 = .ok (.aload_n 0, 1) := dk_42 (dk_at dksX16_init_0 0 rfl rfl)
theorem dX16_init_1 : decode cX16_init 1 = .ok (.invokespecial 1, 3) := dk_183 0 1 (dk_at dksX16_init_0 1 rfl rfl)
theorem dX16_init_4 : decode cX16_init 4 = .ok (.aload_n 0, 1) := dk_42 (dk_at dksX16_init_0 4 rfl rfl)
theorem dX16_init_5 : decode cX16_init 5 = .ok (.iload_n 1, 1) := dk_27 (dk_at dksX16_init_0 5 rfl rfl)
theorem dX16_init_6 : decode cX16_init 6 = .ok (.putfield 7, 3) := dk_181 0 7 (dk_at dksX16_init_0 6 rfl rfl)
theorem dX16_init_9 : decode cX16_init 9 = .ok (.return_, 1) := dk_177 (dk_at dksX16_init_0 9 rfl rfl)
abbrev cX16_does : ByteArray := prog_8_method_2_code
def yX16_does : MethodName := ⟨RX16, "does", "(LSillBridges$Running;)V"⟩
def dkwX16_does_1 : List UInt8 := [132, 2, 1, 167, 255, 233, 177]
abbrev dktX16_does_1 : List UInt8 := dkwX16_does_1 ++ []
def dkwX16_does_0 : List UInt8 := [3, 61, 28, 42, 180, 0, 7, 162, 0, 21, 43, 180, 0, 13, 154, 0, 14, 42, 43, 182, 0, 19]
abbrev dktX16_does_0 : List UInt8 := dkwX16_does_0 ++ dktX16_does_1
theorem dksX16_does_0 : cX16_does.data.toList.drop 0 = dktX16_does_0 := by decide +kernel
theorem dksX16_does_1 : cX16_does.data.toList.drop 22 = dktX16_does_1 := dk_seg dksX16_does_0 22 rfl rfl
theorem dX16_does_0 : decode cX16_does 0 = .ok (.iconst 0, 1) := dk_3 (dk_at dksX16_does_0 0 rfl rfl)
theorem dX16_does_1 : decode cX16_does 1 = .ok (.istore_n 2, 1) := dk_61 (dk_at dksX16_does_0 1 rfl rfl)
theorem dX16_does_2 : decode cX16_does 2 = .ok (.iload_n 2, 1) := dk_28 (dk_at dksX16_does_0 2 rfl rfl)
theorem dX16_does_3 : decode cX16_does 3 = .ok (.aload_n 0, 1) := dk_42 (dk_at dksX16_does_0 3 rfl rfl)
theorem dX16_does_4 : decode cX16_does 4 = .ok (.getfield 7, 3) := dk_180 0 7 (dk_at dksX16_does_0 4 rfl rfl)
theorem dX16_does_7 : decode cX16_does 7 = .ok (.if_icmp .ge 21, 3) := dk_162 0 21 (dk_at dksX16_does_0 7 rfl rfl)
theorem dX16_does_10 : decode cX16_does 10 = .ok (.aload_n 1, 1) := dk_43 (dk_at dksX16_does_0 10 rfl rfl)
theorem dX16_does_11 : decode cX16_does 11 = .ok (.getfield 13, 3) := dk_180 0 13 (dk_at dksX16_does_0 11 rfl rfl)
theorem dX16_does_14 : decode cX16_does 14 = .ok (.ifCond .ne 14, 3) := dk_154 0 14 (dk_at dksX16_does_0 14 rfl rfl)
theorem dX16_does_17 : decode cX16_does 17 = .ok (.aload_n 0, 1) := dk_42 (dk_at dksX16_does_0 17 rfl rfl)
theorem dX16_does_18 : decode cX16_does 18 = .ok (.aload_n 1, 1) := dk_43 (dk_at dksX16_does_0 18 rfl rfl)
theorem dX16_does_19 : decode cX16_does 19 = .ok (.invokevirtual 19, 3) := dk_182 0 19 (dk_at dksX16_does_0 19 rfl rfl)
theorem dX16_does_22 : decode cX16_does 22 = .ok (.iinc 2 1, 3) := dk_132 2 1 (dk_at dksX16_does_1 0 rfl rfl)
theorem dX16_does_25 : decode cX16_does 25 = .ok (.goto (-23), 3) := dk_167 255 233 (dk_at dksX16_does_1 3 rfl rfl)
theorem dX16_does_28 : decode cX16_does 28 = .ok (.return_, 1) := dk_177 (dk_at dksX16_does_1 6 rfl rfl)
theorem q172 : (Jvm.Cond.initialized "SillBridges$Loop") ∈ lw_all := lw_g (lw_at lw_m1 29 rfl) rfl
theorem q460 : (Jvm.Cond.fieldLinkNest "SillBridges$Loop" (13 : Nat) "SillBridges$Running" "isOver" "Z" "SillBridges") ∈ lw_tbl := lw_at lw_m2 77 rfl
theorem q1050 : (Jvm.Cond.instantiable "SillBridges$Loop" (3 : Nat)) ∈ lw_all := lw_g (lw_at lw_m4 187 rfl) rfl
theorem q1052 : (Jvm.Cond.instanceMethod ({ cls := "SillBridges$Loop", name := "<init>", desc := "(I)V" } : Jvm.MethodName)) ∈ lw_all := lw_g (lw_at lw_m4 189 rfl) rfl
theorem q1053 : (Jvm.Cond.code ({ cls := "SillBridges$Loop", name := "<init>", desc := "(I)V" } : Jvm.MethodName) prog_8_method_1_code (2 : Nat) (Option.none : Option Jvm.ClassFile.FieldType)) ∈ lw_all := lw_g (lw_at lw_m4 190 rfl) rfl
theorem q1054 : (Jvm.Cond.methodLinkNest "SillBridges$Loop" (1 : Nat) ({ cls := "SillBridges$Block", name := "<init>", desc := "()V" } : Jvm.MethodName) "SillBridges") ∈ lw_tbl := lw_at lw_m4 191 rfl
theorem q1063 : (Jvm.Cond.fieldLink "SillBridges$Loop" (7 : Nat) "SillBridges$Loop" "times" "I") ∈ lw_all := lw_g (lw_at lw_m4 200 rfl) rfl
theorem q1066 : (Jvm.Cond.laysFinal "SillBridges$Loop" "SillBridges$Loop" "times" "I") ∈ lw_all := lw_g (lw_at lw_m4 203 rfl) rfl
theorem q1067 : (Jvm.Cond.soleField "SillBridges$Loop" "times") ∈ lw_all := lw_g (lw_at lw_m4 204 rfl) rfl
theorem q1068 : (Jvm.Cond.lays "SillBridges$Loop" "SillBridges$Block" "steps" "[LSillBridges$Step;") ∈ lw_all := lw_g (lw_at lw_m4 205 rfl) rfl
theorem q1070 : (Jvm.Cond.lays "SillBridges$Loop" "SillBridges$Block" "size" "I") ∈ lw_all := lw_g (lw_at lw_m4 207 rfl) rfl
theorem q1072 : (Jvm.Cond.superclass "SillBridges$Loop" "SillBridges$Block") ∈ lw_all := lw_g (lw_at lw_m4 209 rfl) rfl
theorem q1175 : (Jvm.Cond.selects "SillBridges$Loop" ({ cls := "SillBridges$Block", name := "add", desc := "(LSillBridges$Step;)V" } : Jvm.MethodName) ({ cls := "SillBridges$Block", name := "add", desc := "(LSillBridges$Step;)V" } : Jvm.MethodName)) ∈ lw_all := lw_g (lw_at lw_m5 72 rfl) rfl
theorem q1491 : (Jvm.Cond.sameMethod "SillBridges$Loop" "SillBridges$Block" "all" "(LSillBridges$Running;)V") ∈ lw_all := lw_g (lw_at lw_m6 148 rfl) rfl
theorem q1493 : (Jvm.Cond.selects "SillBridges$Loop" ({ cls := "SillBridges$Loop", name := "all", desc := "(LSillBridges$Running;)V" } : Jvm.MethodName) ({ cls := "SillBridges$Block", name := "all", desc := "(LSillBridges$Running;)V" } : Jvm.MethodName)) ∈ lw_all := lw_g (lw_at lw_m6 150 rfl) rfl
theorem q1500 : (Jvm.Cond.selects "SillBridges$Loop" ({ cls := "SillBridges$Step", name := "go", desc := "(LSillBridges$Running;)V" } : Jvm.MethodName) ({ cls := "SillBridges$Step", name := "go", desc := "(LSillBridges$Running;)V" } : Jvm.MethodName)) ∈ lw_all := lw_g (lw_at lw_m6 157 rfl) rfl
theorem q1530 : (Jvm.Cond.selects "SillBridges$Loop" ({ cls := "SillBridges$Step", name := "does", desc := "(LSillBridges$Running;)V" } : Jvm.MethodName) ({ cls := "SillBridges$Loop", name := "does", desc := "(LSillBridges$Running;)V" } : Jvm.MethodName)) ∈ lw_all := lw_g (lw_at lw_m6 187 rfl) rfl
theorem q1531 : (Jvm.Cond.instanceMethod ({ cls := "SillBridges$Loop", name := "does", desc := "(LSillBridges$Running;)V" } : Jvm.MethodName)) ∈ lw_all := lw_g (lw_at lw_m6 188 rfl) rfl
theorem q1532 : (Jvm.Cond.code ({ cls := "SillBridges$Loop", name := "does", desc := "(LSillBridges$Running;)V" } : Jvm.MethodName) prog_8_method_2_code (3 : Nat) (Option.none : Option Jvm.ClassFile.FieldType)) ∈ lw_all := lw_g (lw_at lw_m6 189 rfl) rfl
theorem q1533 : (Jvm.Cond.methodLink "SillBridges$Loop" (19 : Nat) ({ cls := "SillBridges$Loop", name := "all", desc := "(LSillBridges$Running;)V" } : Jvm.MethodName)) ∈ lw_all := lw_g (lw_at lw_m6 190 rfl) rfl
theorem q2290 : (Jvm.Cond.castable "SillBridges$Loop" "SillBridges$Step") ∈ lw_tbl := lw_at lw_m9 227 rfl
theorem in_X16 : ∀ w ∈ wsX160, w ∈ lw_all := lw_in wsX160 [1068, 1070, 1066] (by decide +kernel) (by decide +kernel)

/-! SillBridges$When -/
set_option maxRecDepth 100000
def RX17 : String := "SillBridges$When"
def TX17 : u_T := fun k => match k with
  | 0 => ("SillBridges$Block", "steps", "[LSillBridges$Step;", false)
  | 1 => ("SillBridges$Block", "size", "I", false)
  | 2 => ("SillBridges$When", "what", "I", true)
  | 3 => ("SillBridges$When", "first", "I", true)
  | _ => ("SillBridges$When", "second", "I", true)
def tyX17 : Nat → FieldType := fun k => match k with
  | 0 => .array (.object "SillBridges$Step")
  | 1 => .int
  | 2 => .int
  | 3 => .int
  | _ => .int
abbrev wsX170 : List Cond := u_ws RX17 TX17 5
theorem nmX17 : ∀ a, a < 5 → ∀ b, b < 5 → a ≠ b → (TX17 a).2.1 ≠ (TX17 b).2.1 := by decide +kernel
theorem tyX17_ok : ∀ k, k < 5 → parseFieldDescriptor (TX17 k).2.2.1 = some (tyX17 k) := by decide +kernel
abbrev cX17_init : ByteArray := prog_19_method_1_code
def yX17_init : MethodName := ⟨RX17, "<init>", "(III)V"⟩
def dkwX17_init_0 : List UInt8 := [42, 183, 0, 3, 42, 27, 181, 0, 9, 42, 28, 181, 0, 15, 42, 29, 181, 0, 18, 177]
abbrev dktX17_init_0 : List UInt8 := dkwX17_init_0 ++ []
theorem dksX17_init_0 : cX17_init.data.toList.drop 0 = dktX17_init_0 := by decide +kernel
theorem dX17_init_0 : decode cX17_init 0 = .ok (.aload_n 0, 1) := dk_42 (dk_at dksX17_init_0 0 rfl rfl)
theorem dX17_init_1 : decode cX17_init 1 = .ok (.invokespecial 3, 3) := dk_183 0 3 (dk_at dksX17_init_0 1 rfl rfl)
theorem dX17_init_4 : decode cX17_init 4 = .ok (.aload_n 0, 1) := dk_42 (dk_at dksX17_init_0 4 rfl rfl)
theorem dX17_init_5 : decode cX17_init 5 = .ok (.iload_n 1, 1) := dk_27 (dk_at dksX17_init_0 5 rfl rfl)
theorem dX17_init_6 : decode cX17_init 6 = .ok (.putfield 9, 3) := dk_181 0 9 (dk_at dksX17_init_0 6 rfl rfl)
theorem dX17_init_9 : decode cX17_init 9 = .ok (.aload_n 0, 1) := dk_42 (dk_at dksX17_init_0 9 rfl rfl)
theorem dX17_init_10 : decode cX17_init 10 = .ok (.iload_n 2, 1) := dk_28 (dk_at dksX17_init_0 10 rfl rfl)
theorem dX17_init_11 : decode cX17_init 11 = .ok (.putfield 15, 3) := dk_181 0 15 (dk_at dksX17_init_0 11 rfl rfl)
theorem dX17_init_14 : decode cX17_init 14 = .ok (.aload_n 0, 1) := dk_42 (dk_at dksX17_init_0 14 rfl rfl)
theorem dX17_init_15 : decode cX17_init 15 = .ok (.iload_n 3, 1) := dk_29 (dk_at dksX17_init_0 15 rfl rfl)
theorem dX17_init_16 : decode cX17_init 16 = .ok (.putfield 18, 3) := dk_181 0 18 (dk_at dksX17_init_0 16 rfl rfl)
theorem dX17_init_19 : decode cX17_init 19 = .ok (.return_, 1) := dk_177 (dk_at dksX17_init_0 19 rfl rfl)
abbrev cX17_does : ByteArray := prog_19_method_2_code
def yX17_does : MethodName := ⟨RX17, "does", "(LSillBridges$Running;)V"⟩
def dkwX17_does_3 : List UInt8 := [167, 0, 4, 3, 61, 28, 153, 0, 8, 42, 43, 182, 0, 41, 177]
abbrev dktX17_does_3 : List UInt8 := dkwX17_does_3 ++ []
def dkwX17_does_2 : List UInt8 := [180, 0, 15, 182, 0, 33, 167, 0, 22, 43, 180, 0, 21, 42, 180, 0, 15, 182, 0, 37, 155, 0, 7, 4]
abbrev dktX17_does_2 : List UInt8 := dkwX17_does_2 ++ dktX17_does_3
def dkwX17_does_1 : List UInt8 := [160, 0, 7, 4, 167, 0, 48, 3, 167, 0, 44, 42, 180, 0, 9, 4, 160, 0, 17, 43, 180, 0, 21, 42]
abbrev dktX17_does_1 : List UInt8 := dkwX17_does_1 ++ dktX17_does_2
def dkwX17_does_0 : List UInt8 := [42, 180, 0, 9, 154, 0, 30, 43, 180, 0, 21, 180, 0, 27, 42, 180, 0, 15, 46, 42, 180, 0, 18]
abbrev dktX17_does_0 : List UInt8 := dkwX17_does_0 ++ dktX17_does_1
theorem dksX17_does_0 : cX17_does.data.toList.drop 0 = dktX17_does_0 := by decide +kernel
theorem dksX17_does_1 : cX17_does.data.toList.drop 23 = dktX17_does_1 := dk_seg dksX17_does_0 23 rfl rfl
theorem dksX17_does_2 : cX17_does.data.toList.drop 47 = dktX17_does_2 := dk_seg dksX17_does_1 24 rfl rfl
theorem dksX17_does_3 : cX17_does.data.toList.drop 71 = dktX17_does_3 := dk_seg dksX17_does_2 24 rfl rfl
theorem dX17_does_0 : decode cX17_does 0 = .ok (.aload_n 0, 1) := dk_42 (dk_at dksX17_does_0 0 rfl rfl)
theorem dX17_does_1 : decode cX17_does 1 = .ok (.getfield 9, 3) := dk_180 0 9 (dk_at dksX17_does_0 1 rfl rfl)
theorem dX17_does_4 : decode cX17_does 4 = .ok (.ifCond .ne 30, 3) := dk_154 0 30 (dk_at dksX17_does_0 4 rfl rfl)
theorem dX17_does_7 : decode cX17_does 7 = .ok (.aload_n 1, 1) := dk_43 (dk_at dksX17_does_0 7 rfl rfl)
theorem dX17_does_8 : decode cX17_does 8 = .ok (.getfield 21, 3) := dk_180 0 21 (dk_at dksX17_does_0 8 rfl rfl)
theorem dX17_does_11 : decode cX17_does 11 = .ok (.getfield 27, 3) := dk_180 0 27 (dk_at dksX17_does_0 11 rfl rfl)
theorem dX17_does_14 : decode cX17_does 14 = .ok (.aload_n 0, 1) := dk_42 (dk_at dksX17_does_0 14 rfl rfl)
theorem dX17_does_15 : decode cX17_does 15 = .ok (.getfield 15, 3) := dk_180 0 15 (dk_at dksX17_does_0 15 rfl rfl)
theorem dX17_does_18 : decode cX17_does 18 = .ok (.iaload, 1) := dk_46 (dk_at dksX17_does_0 18 rfl rfl)
theorem dX17_does_19 : decode cX17_does 19 = .ok (.aload_n 0, 1) := dk_42 (dk_at dksX17_does_0 19 rfl rfl)
theorem dX17_does_20 : decode cX17_does 20 = .ok (.getfield 18, 3) := dk_180 0 18 (dk_at dksX17_does_0 20 rfl rfl)
theorem dX17_does_23 : decode cX17_does 23 = .ok (.if_icmp .ne 7, 3) := dk_160 0 7 (dk_at dksX17_does_1 0 rfl rfl)
theorem dX17_does_26 : decode cX17_does 26 = .ok (.iconst 1, 1) := dk_4 (dk_at dksX17_does_1 3 rfl rfl)
theorem dX17_does_27 : decode cX17_does 27 = .ok (.goto 48, 3) := dk_167 0 48 (dk_at dksX17_does_1 4 rfl rfl)
theorem dX17_does_30 : decode cX17_does 30 = .ok (.iconst 0, 1) := dk_3 (dk_at dksX17_does_1 7 rfl rfl)
theorem dX17_does_31 : decode cX17_does 31 = .ok (.goto 44, 3) := dk_167 0 44 (dk_at dksX17_does_1 8 rfl rfl)
theorem dX17_does_34 : decode cX17_does 34 = .ok (.aload_n 0, 1) := dk_42 (dk_at dksX17_does_1 11 rfl rfl)
theorem dX17_does_35 : decode cX17_does 35 = .ok (.getfield 9, 3) := dk_180 0 9 (dk_at dksX17_does_1 12 rfl rfl)
theorem dX17_does_38 : decode cX17_does 38 = .ok (.iconst 1, 1) := dk_4 (dk_at dksX17_does_1 15 rfl rfl)
theorem dX17_does_39 : decode cX17_does 39 = .ok (.if_icmp .ne 17, 3) := dk_160 0 17 (dk_at dksX17_does_1 16 rfl rfl)
theorem dX17_does_42 : decode cX17_does 42 = .ok (.aload_n 1, 1) := dk_43 (dk_at dksX17_does_1 19 rfl rfl)
theorem dX17_does_43 : decode cX17_does 43 = .ok (.getfield 21, 3) := dk_180 0 21 (dk_at dksX17_does_1 20 rfl rfl)
theorem dX17_does_46 : decode cX17_does 46 = .ok (.aload_n 0, 1) := dk_42 (dk_at dksX17_does_1 23 rfl rfl)
theorem dX17_does_47 : decode cX17_does 47 = .ok (.getfield 15, 3) := dk_180 0 15 (dk_at dksX17_does_2 0 rfl rfl)
theorem dX17_does_50 : decode cX17_does 50 = .ok (.invokevirtual 33, 3) := dk_182 0 33 (dk_at dksX17_does_2 3 rfl rfl)
theorem dX17_does_53 : decode cX17_does 53 = .ok (.goto 22, 3) := dk_167 0 22 (dk_at dksX17_does_2 6 rfl rfl)
theorem dX17_does_56 : decode cX17_does 56 = .ok (.aload_n 1, 1) := dk_43 (dk_at dksX17_does_2 9 rfl rfl)
theorem dX17_does_57 : decode cX17_does 57 = .ok (.getfield 21, 3) := dk_180 0 21 (dk_at dksX17_does_2 10 rfl rfl)
theorem dX17_does_60 : decode cX17_does 60 = .ok (.aload_n 0, 1) := dk_42 (dk_at dksX17_does_2 13 rfl rfl)
theorem dX17_does_61 : decode cX17_does 61 = .ok (.getfield 15, 3) := dk_180 0 15 (dk_at dksX17_does_2 14 rfl rfl)
theorem dX17_does_64 : decode cX17_does 64 = .ok (.invokevirtual 37, 3) := dk_182 0 37 (dk_at dksX17_does_2 17 rfl rfl)
theorem dX17_does_67 : decode cX17_does 67 = .ok (.ifCond .lt 7, 3) := dk_155 0 7 (dk_at dksX17_does_2 20 rfl rfl)
theorem dX17_does_70 : decode cX17_does 70 = .ok (.iconst 1, 1) := dk_4 (dk_at dksX17_does_2 23 rfl rfl)
theorem dX17_does_71 : decode cX17_does 71 = .ok (.goto 4, 3) := dk_167 0 4 (dk_at dksX17_does_3 0 rfl rfl)
theorem dX17_does_74 : decode cX17_does 74 = .ok (.iconst 0, 1) := dk_3 (dk_at dksX17_does_3 3 rfl rfl)
theorem dX17_does_75 : decode cX17_does 75 = .ok (.istore_n 2, 1) := dk_61 (dk_at dksX17_does_3 4 rfl rfl)
theorem dX17_does_76 : decode cX17_does 76 = .ok (.iload_n 2, 1) := dk_28 (dk_at dksX17_does_3 5 rfl rfl)
theorem dX17_does_77 : decode cX17_does 77 = .ok (.ifCond .eq 8, 3) := dk_153 0 8 (dk_at dksX17_does_3 6 rfl rfl)
theorem dX17_does_80 : decode cX17_does 80 = .ok (.aload_n 0, 1) := dk_42 (dk_at dksX17_does_3 9 rfl rfl)
theorem dX17_does_81 : decode cX17_does 81 = .ok (.aload_n 1, 1) := dk_43 (dk_at dksX17_does_3 10 rfl rfl)
theorem dX17_does_82 : decode cX17_does 82 = .ok (.invokevirtual 41, 3) := dk_182 0 41 (dk_at dksX17_does_3 11 rfl rfl)
theorem dX17_does_85 : decode cX17_does 85 = .ok (.return_, 1) := dk_177 (dk_at dksX17_does_3 14 rfl rfl)
theorem q173 : (Jvm.Cond.initialized "SillBridges$When") ∈ lw_all := lw_g (lw_at lw_m1 30 rfl) rfl
theorem q372 : (Jvm.Cond.fieldLinkNest "SillBridges$When" (27 : Nat) "SillBridges$Spot" "at" "[I" "SillBridges") ∈ lw_tbl := lw_at lw_m1 229 rfl
theorem q443 : (Jvm.Cond.fieldLinkNest "SillBridges$When" (21 : Nat) "SillBridges$Running" "spot" "LSillBridges$Spot;" "SillBridges") ∈ lw_tbl := lw_at lw_m2 60 rfl
theorem q1098 : (Jvm.Cond.instantiable "SillBridges$When" (5 : Nat)) ∈ lw_all := lw_g (lw_at lw_m4 235 rfl) rfl
theorem q1105 : (Jvm.Cond.instanceMethod ({ cls := "SillBridges$When", name := "<init>", desc := "(III)V" } : Jvm.MethodName)) ∈ lw_all := lw_g (lw_at lw_m5 2 rfl) rfl
theorem q1106 : (Jvm.Cond.code ({ cls := "SillBridges$When", name := "<init>", desc := "(III)V" } : Jvm.MethodName) prog_19_method_1_code (4 : Nat) (Option.none : Option Jvm.ClassFile.FieldType)) ∈ lw_all := lw_g (lw_at lw_m5 3 rfl) rfl
theorem q1107 : (Jvm.Cond.methodLinkNest "SillBridges$When" (3 : Nat) ({ cls := "SillBridges$Block", name := "<init>", desc := "()V" } : Jvm.MethodName) "SillBridges") ∈ lw_tbl := lw_at lw_m5 4 rfl
theorem q1108 : (Jvm.Cond.fieldLink "SillBridges$When" (9 : Nat) "SillBridges$When" "what" "I") ∈ lw_all := lw_g (lw_at lw_m5 5 rfl) rfl
theorem q1109 : (Jvm.Cond.fieldLink "SillBridges$When" (15 : Nat) "SillBridges$When" "first" "I") ∈ lw_all := lw_g (lw_at lw_m5 6 rfl) rfl
theorem q1110 : (Jvm.Cond.fieldLink "SillBridges$When" (18 : Nat) "SillBridges$When" "second" "I") ∈ lw_all := lw_g (lw_at lw_m5 7 rfl) rfl
theorem q1111 : (Jvm.Cond.laysFinal "SillBridges$When" "SillBridges$When" "what" "I") ∈ lw_all := lw_g (lw_at lw_m5 8 rfl) rfl
theorem q1112 : (Jvm.Cond.soleField "SillBridges$When" "what") ∈ lw_all := lw_g (lw_at lw_m5 9 rfl) rfl
theorem q1113 : (Jvm.Cond.laysFinal "SillBridges$When" "SillBridges$When" "first" "I") ∈ lw_all := lw_g (lw_at lw_m5 10 rfl) rfl
theorem q1114 : (Jvm.Cond.soleField "SillBridges$When" "first") ∈ lw_all := lw_g (lw_at lw_m5 11 rfl) rfl
theorem q1115 : (Jvm.Cond.laysFinal "SillBridges$When" "SillBridges$When" "second" "I") ∈ lw_all := lw_g (lw_at lw_m5 12 rfl) rfl
theorem q1116 : (Jvm.Cond.soleField "SillBridges$When" "second") ∈ lw_all := lw_g (lw_at lw_m5 13 rfl) rfl
theorem q1117 : (Jvm.Cond.lays "SillBridges$When" "SillBridges$Block" "steps" "[LSillBridges$Step;") ∈ lw_all := lw_g (lw_at lw_m5 14 rfl) rfl
theorem q1118 : (Jvm.Cond.lays "SillBridges$When" "SillBridges$Block" "size" "I") ∈ lw_all := lw_g (lw_at lw_m5 15 rfl) rfl
theorem q1119 : (Jvm.Cond.superclass "SillBridges$When" "SillBridges$Block") ∈ lw_all := lw_g (lw_at lw_m5 16 rfl) rfl
theorem q1176 : (Jvm.Cond.selects "SillBridges$When" ({ cls := "SillBridges$Block", name := "add", desc := "(LSillBridges$Step;)V" } : Jvm.MethodName) ({ cls := "SillBridges$Block", name := "add", desc := "(LSillBridges$Step;)V" } : Jvm.MethodName)) ∈ lw_all := lw_g (lw_at lw_m5 73 rfl) rfl
theorem q1502 : (Jvm.Cond.selects "SillBridges$When" ({ cls := "SillBridges$Step", name := "go", desc := "(LSillBridges$Running;)V" } : Jvm.MethodName) ({ cls := "SillBridges$Step", name := "go", desc := "(LSillBridges$Running;)V" } : Jvm.MethodName)) ∈ lw_all := lw_g (lw_at lw_m6 159 rfl) rfl
theorem q1537 : (Jvm.Cond.selects "SillBridges$When" ({ cls := "SillBridges$Step", name := "does", desc := "(LSillBridges$Running;)V" } : Jvm.MethodName) ({ cls := "SillBridges$When", name := "does", desc := "(LSillBridges$Running;)V" } : Jvm.MethodName)) ∈ lw_all := lw_g (lw_at lw_m6 194 rfl) rfl
theorem q1538 : (Jvm.Cond.instanceMethod ({ cls := "SillBridges$When", name := "does", desc := "(LSillBridges$Running;)V" } : Jvm.MethodName)) ∈ lw_all := lw_g (lw_at lw_m6 195 rfl) rfl
theorem q1539 : (Jvm.Cond.code ({ cls := "SillBridges$When", name := "does", desc := "(LSillBridges$Running;)V" } : Jvm.MethodName) prog_19_method_2_code (3 : Nat) (Option.none : Option Jvm.ClassFile.FieldType)) ∈ lw_all := lw_g (lw_at lw_m6 196 rfl) rfl
theorem q1540 : (Jvm.Cond.methodLink "SillBridges$When" (33 : Nat) ({ cls := "SillBridges$Spot", name := "hangs", desc := "(I)Z" } : Jvm.MethodName)) ∈ lw_all := lw_g (lw_at lw_m6 197 rfl) rfl
theorem q1541 : (Jvm.Cond.methodLink "SillBridges$When" (37 : Nat) ({ cls := "SillBridges$Spot", name := "carried", desc := "(I)I" } : Jvm.MethodName)) ∈ lw_all := lw_g (lw_at lw_m6 198 rfl) rfl
theorem q1542 : (Jvm.Cond.methodLink "SillBridges$When" (41 : Nat) ({ cls := "SillBridges$When", name := "all", desc := "(LSillBridges$Running;)V" } : Jvm.MethodName)) ∈ lw_all := lw_g (lw_at lw_m6 199 rfl) rfl
theorem q1543 : (Jvm.Cond.sameMethod "SillBridges$When" "SillBridges$Block" "all" "(LSillBridges$Running;)V") ∈ lw_all := lw_g (lw_at lw_m6 200 rfl) rfl
theorem q1544 : (Jvm.Cond.selects "SillBridges$When" ({ cls := "SillBridges$When", name := "all", desc := "(LSillBridges$Running;)V" } : Jvm.MethodName) ({ cls := "SillBridges$Block", name := "all", desc := "(LSillBridges$Running;)V" } : Jvm.MethodName)) ∈ lw_all := lw_g (lw_at lw_m6 201 rfl) rfl
theorem q2291 : (Jvm.Cond.castable "SillBridges$When" "SillBridges$Step") ∈ lw_tbl := lw_at lw_m9 228 rfl
theorem in_X17 : ∀ w ∈ wsX170, w ∈ lw_all := lw_in wsX170 [1117, 1118, 1111, 1113, 1115] (by decide +kernel) (by decide +kernel)

/-! SillBridges$Act -/
set_option maxRecDepth 100000
def RX18 : String := "SillBridges$Act"
def TX18 : u_T := fun k => match k with
  | 0 => ("SillBridges$Act", "how", "I", true)
  | 1 => ("SillBridges$Act", "first", "I", true)
  | 2 => ("SillBridges$Act", "second", "I", true)
  | _ => ("SillBridges$Act", "what", "I", true)
def tyX18 : Nat → FieldType := fun k => match k with
  | 0 => .int
  | 1 => .int
  | 2 => .int
  | _ => .int
abbrev wsX180 : List Cond := u_ws RX18 TX18 4
theorem nmX18 : ∀ a, a < 4 → ∀ b, b < 4 → a ≠ b → (TX18 a).2.1 ≠ (TX18 b).2.1 := by decide +kernel
theorem tyX18_ok : ∀ k, k < 4 → parseFieldDescriptor (TX18 k).2.2.1 = some (tyX18 k) := by decide +kernel
abbrev cX18_init : ByteArray := prog_2_method_1_code
def yX18_init : MethodName := ⟨RX18, "<init>", "(IIII)V"⟩
def dkwX18_init_2 : List UInt8 := [181, 0, 30, 177]
abbrev dktX18_init_2 : List UInt8 := dkwX18_init_2 ++ []
def dkwX18_init_1 : List UInt8 := [181, 0, 21, 42, 29, 156, 0, 7, 2, 167, 0, 8, 28, 29, 184, 0, 24, 181, 0, 27, 42, 21, 4]
abbrev dktX18_init_1 : List UInt8 := dkwX18_init_1 ++ dktX18_init_2
def dkwX18_init_0 : List UInt8 := [42, 183, 0, 3, 42, 27, 181, 0, 9, 42, 28, 29, 156, 0, 7, 28, 167, 0, 4, 29, 184, 0, 15]
abbrev dktX18_init_0 : List UInt8 := dkwX18_init_0 ++ dktX18_init_1
theorem dksX18_init_0 : cX18_init.data.toList.drop 0 = dktX18_init_0 := by decide +kernel
theorem dksX18_init_1 : cX18_init.data.toList.drop 23 = dktX18_init_1 := dk_seg dksX18_init_0 23 rfl rfl
theorem dksX18_init_2 : cX18_init.data.toList.drop 46 = dktX18_init_2 := dk_seg dksX18_init_1 23 rfl rfl
theorem dX18_init_0 : decode cX18_init 0 = .ok (.aload_n 0, 1) := dk_42 (dk_at dksX18_init_0 0 rfl rfl)
theorem dX18_init_1 : decode cX18_init 1 = .ok (.invokespecial 3, 3) := dk_183 0 3 (dk_at dksX18_init_0 1 rfl rfl)
theorem dX18_init_4 : decode cX18_init 4 = .ok (.aload_n 0, 1) := dk_42 (dk_at dksX18_init_0 4 rfl rfl)
theorem dX18_init_5 : decode cX18_init 5 = .ok (.iload_n 1, 1) := dk_27 (dk_at dksX18_init_0 5 rfl rfl)
theorem dX18_init_6 : decode cX18_init 6 = .ok (.putfield 9, 3) := dk_181 0 9 (dk_at dksX18_init_0 6 rfl rfl)
theorem dX18_init_9 : decode cX18_init 9 = .ok (.aload_n 0, 1) := dk_42 (dk_at dksX18_init_0 9 rfl rfl)
theorem dX18_init_10 : decode cX18_init 10 = .ok (.iload_n 2, 1) := dk_28 (dk_at dksX18_init_0 10 rfl rfl)
theorem dX18_init_11 : decode cX18_init 11 = .ok (.iload_n 3, 1) := dk_29 (dk_at dksX18_init_0 11 rfl rfl)
theorem dX18_init_12 : decode cX18_init 12 = .ok (.ifCond .ge 7, 3) := dk_156 0 7 (dk_at dksX18_init_0 12 rfl rfl)
theorem dX18_init_15 : decode cX18_init 15 = .ok (.iload_n 2, 1) := dk_28 (dk_at dksX18_init_0 15 rfl rfl)
theorem dX18_init_16 : decode cX18_init 16 = .ok (.goto 4, 3) := dk_167 0 4 (dk_at dksX18_init_0 16 rfl rfl)
theorem dX18_init_19 : decode cX18_init 19 = .ok (.iload_n 3, 1) := dk_29 (dk_at dksX18_init_0 19 rfl rfl)
theorem dX18_init_20 : decode cX18_init 20 = .ok (.invokestatic 15, 3) := dk_184 0 15 (dk_at dksX18_init_0 20 rfl rfl)
theorem dX18_init_23 : decode cX18_init 23 = .ok (.putfield 21, 3) := dk_181 0 21 (dk_at dksX18_init_1 0 rfl rfl)
theorem dX18_init_26 : decode cX18_init 26 = .ok (.aload_n 0, 1) := dk_42 (dk_at dksX18_init_1 3 rfl rfl)
theorem dX18_init_27 : decode cX18_init 27 = .ok (.iload_n 3, 1) := dk_29 (dk_at dksX18_init_1 4 rfl rfl)
theorem dX18_init_28 : decode cX18_init 28 = .ok (.ifCond .ge 7, 3) := dk_156 0 7 (dk_at dksX18_init_1 5 rfl rfl)
theorem dX18_init_31 : decode cX18_init 31 = .ok (.iconst (-1), 1) := dk_2 (dk_at dksX18_init_1 8 rfl rfl)
theorem dX18_init_32 : decode cX18_init 32 = .ok (.goto 8, 3) := dk_167 0 8 (dk_at dksX18_init_1 9 rfl rfl)
theorem dX18_init_35 : decode cX18_init 35 = .ok (.iload_n 2, 1) := dk_28 (dk_at dksX18_init_1 12 rfl rfl)
theorem dX18_init_36 : decode cX18_init 36 = .ok (.iload_n 3, 1) := dk_29 (dk_at dksX18_init_1 13 rfl rfl)
theorem dX18_init_37 : decode cX18_init 37 = .ok (.invokestatic 24, 3) := dk_184 0 24 (dk_at dksX18_init_1 14 rfl rfl)
theorem dX18_init_40 : decode cX18_init 40 = .ok (.putfield 27, 3) := dk_181 0 27 (dk_at dksX18_init_1 17 rfl rfl)
theorem dX18_init_43 : decode cX18_init 43 = .ok (.aload_n 0, 1) := dk_42 (dk_at dksX18_init_1 20 rfl rfl)
theorem dX18_init_44 : decode cX18_init 44 = .ok (.iload 4, 2) := dk_21 4 (dk_at dksX18_init_1 21 rfl rfl)
theorem dX18_init_46 : decode cX18_init 46 = .ok (.putfield 30, 3) := dk_181 0 30 (dk_at dksX18_init_2 0 rfl rfl)
theorem dX18_init_49 : decode cX18_init 49 = .ok (.return_, 1) := dk_177 (dk_at dksX18_init_2 3 rfl rfl)
abbrev cX18_does : ByteArray := prog_2_method_2_code
def yX18_does : MethodName := ⟨RX18, "does", "(LSillBridges$Running;)V"⟩
def dkwX18_does_0 : List UInt8 := [43, 42, 180, 0, 9, 42, 180, 0, 21, 42, 180, 0, 27, 42, 180, 0, 30, 182, 0, 33, 177]
abbrev dktX18_does_0 : List UInt8 := dkwX18_does_0 ++ []
theorem dksX18_does_0 : cX18_does.data.toList.drop 0 = dktX18_does_0 := by decide +kernel
theorem dX18_does_0 : decode cX18_does 0 = .ok (.aload_n 1, 1) := dk_43 (dk_at dksX18_does_0 0 rfl rfl)
theorem dX18_does_1 : decode cX18_does 1 = .ok (.aload_n 0, 1) := dk_42 (dk_at dksX18_does_0 1 rfl rfl)
theorem dX18_does_2 : decode cX18_does 2 = .ok (.getfield 9, 3) := dk_180 0 9 (dk_at dksX18_does_0 2 rfl rfl)
theorem dX18_does_5 : decode cX18_does 5 = .ok (.aload_n 0, 1) := dk_42 (dk_at dksX18_does_0 5 rfl rfl)
theorem dX18_does_6 : decode cX18_does 6 = .ok (.getfield 21, 3) := dk_180 0 21 (dk_at dksX18_does_0 6 rfl rfl)
theorem dX18_does_9 : decode cX18_does 9 = .ok (.aload_n 0, 1) := dk_42 (dk_at dksX18_does_0 9 rfl rfl)
theorem dX18_does_10 : decode cX18_does 10 = .ok (.getfield 27, 3) := dk_180 0 27 (dk_at dksX18_does_0 10 rfl rfl)
theorem dX18_does_13 : decode cX18_does 13 = .ok (.aload_n 0, 1) := dk_42 (dk_at dksX18_does_0 13 rfl rfl)
theorem dX18_does_14 : decode cX18_does 14 = .ok (.getfield 30, 3) := dk_180 0 30 (dk_at dksX18_does_0 14 rfl rfl)
theorem dX18_does_17 : decode cX18_does 17 = .ok (.invokevirtual 33, 3) := dk_182 0 33 (dk_at dksX18_does_0 17 rfl rfl)
theorem dX18_does_20 : decode cX18_does 20 = .ok (.return_, 1) := dk_177 (dk_at dksX18_does_0 20 rfl rfl)
theorem q174 : (Jvm.Cond.initialized "SillBridges$Act") ∈ lw_all := lw_g (lw_at lw_m1 31 rfl) rfl
theorem q1136 : (Jvm.Cond.instantiable "SillBridges$Act" (4 : Nat)) ∈ lw_all := lw_g (lw_at lw_m5 33 rfl) rfl
theorem q1138 : (Jvm.Cond.instanceMethod ({ cls := "SillBridges$Act", name := "<init>", desc := "(IIII)V" } : Jvm.MethodName)) ∈ lw_all := lw_g (lw_at lw_m5 35 rfl) rfl
theorem q1139 : (Jvm.Cond.code ({ cls := "SillBridges$Act", name := "<init>", desc := "(IIII)V" } : Jvm.MethodName) prog_2_method_1_code (5 : Nat) (Option.none : Option Jvm.ClassFile.FieldType)) ∈ lw_all := lw_g (lw_at lw_m5 36 rfl) rfl
theorem q1140 : (Jvm.Cond.methodLinkNest "SillBridges$Act" (3 : Nat) ({ cls := "SillBridges$Step", name := "<init>", desc := "()V" } : Jvm.MethodName) "SillBridges") ∈ lw_tbl := lw_at lw_m5 37 rfl
theorem q1141 : (Jvm.Cond.methodLink "SillBridges$Act" (15 : Nat) ({ cls := "java/lang/Math", name := "min", desc := "(II)I" } : Jvm.MethodName)) ∈ lw_all := lw_g (lw_at lw_m5 38 rfl) rfl
theorem q1144 : (Jvm.Cond.methodLink "SillBridges$Act" (24 : Nat) ({ cls := "java/lang/Math", name := "max", desc := "(II)I" } : Jvm.MethodName)) ∈ lw_all := lw_g (lw_at lw_m5 41 rfl) rfl
theorem q1147 : (Jvm.Cond.fieldLink "SillBridges$Act" (9 : Nat) "SillBridges$Act" "how" "I") ∈ lw_all := lw_g (lw_at lw_m5 44 rfl) rfl
theorem q1148 : (Jvm.Cond.fieldLink "SillBridges$Act" (21 : Nat) "SillBridges$Act" "first" "I") ∈ lw_all := lw_g (lw_at lw_m5 45 rfl) rfl
theorem q1149 : (Jvm.Cond.fieldLink "SillBridges$Act" (27 : Nat) "SillBridges$Act" "second" "I") ∈ lw_all := lw_g (lw_at lw_m5 46 rfl) rfl
theorem q1150 : (Jvm.Cond.fieldLink "SillBridges$Act" (30 : Nat) "SillBridges$Act" "what" "I") ∈ lw_all := lw_g (lw_at lw_m5 47 rfl) rfl
theorem q1151 : (Jvm.Cond.laysFinal "SillBridges$Act" "SillBridges$Act" "how" "I") ∈ lw_all := lw_g (lw_at lw_m5 48 rfl) rfl
theorem q1152 : (Jvm.Cond.soleField "SillBridges$Act" "how") ∈ lw_all := lw_g (lw_at lw_m5 49 rfl) rfl
theorem q1153 : (Jvm.Cond.laysFinal "SillBridges$Act" "SillBridges$Act" "first" "I") ∈ lw_all := lw_g (lw_at lw_m5 50 rfl) rfl
theorem q1154 : (Jvm.Cond.soleField "SillBridges$Act" "first") ∈ lw_all := lw_g (lw_at lw_m5 51 rfl) rfl
theorem q1155 : (Jvm.Cond.laysFinal "SillBridges$Act" "SillBridges$Act" "second" "I") ∈ lw_all := lw_g (lw_at lw_m5 52 rfl) rfl
theorem q1156 : (Jvm.Cond.soleField "SillBridges$Act" "second") ∈ lw_all := lw_g (lw_at lw_m5 53 rfl) rfl
theorem q1157 : (Jvm.Cond.laysFinal "SillBridges$Act" "SillBridges$Act" "what" "I") ∈ lw_all := lw_g (lw_at lw_m5 54 rfl) rfl
theorem q1158 : (Jvm.Cond.soleField "SillBridges$Act" "what") ∈ lw_all := lw_g (lw_at lw_m5 55 rfl) rfl
theorem q1159 : (Jvm.Cond.superclass "SillBridges$Act" "SillBridges$Step") ∈ lw_all := lw_g (lw_at lw_m5 56 rfl) rfl
theorem q1499 : (Jvm.Cond.selects "SillBridges$Act" ({ cls := "SillBridges$Step", name := "go", desc := "(LSillBridges$Running;)V" } : Jvm.MethodName) ({ cls := "SillBridges$Step", name := "go", desc := "(LSillBridges$Running;)V" } : Jvm.MethodName)) ∈ lw_all := lw_g (lw_at lw_m6 156 rfl) rfl
theorem q1507 : (Jvm.Cond.selects "SillBridges$Act" ({ cls := "SillBridges$Step", name := "does", desc := "(LSillBridges$Running;)V" } : Jvm.MethodName) ({ cls := "SillBridges$Act", name := "does", desc := "(LSillBridges$Running;)V" } : Jvm.MethodName)) ∈ lw_all := lw_g (lw_at lw_m6 164 rfl) rfl
theorem q1508 : (Jvm.Cond.instanceMethod ({ cls := "SillBridges$Act", name := "does", desc := "(LSillBridges$Running;)V" } : Jvm.MethodName)) ∈ lw_all := lw_g (lw_at lw_m6 165 rfl) rfl
theorem q1509 : (Jvm.Cond.code ({ cls := "SillBridges$Act", name := "does", desc := "(LSillBridges$Running;)V" } : Jvm.MethodName) prog_2_method_2_code (2 : Nat) (Option.none : Option Jvm.ClassFile.FieldType)) ∈ lw_all := lw_g (lw_at lw_m6 166 rfl) rfl
theorem q1510 : (Jvm.Cond.methodLink "SillBridges$Act" (33 : Nat) ({ cls := "SillBridges$Running", name := "move", desc := "(IIII)V" } : Jvm.MethodName)) ∈ lw_all := lw_g (lw_at lw_m6 167 rfl) rfl
theorem q2292 : (Jvm.Cond.castable "SillBridges$Act" "SillBridges$Step") ∈ lw_tbl := lw_at lw_m9 229 rfl
theorem in_X18 : ∀ w ∈ wsX180, w ∈ lw_all := lw_in wsX180 [1151, 1153, 1155, 1157] (by decide +kernel) (by decide +kernel)

/-! SillBridges$Stop -/
set_option maxRecDepth 100000
def RX19 : String := "SillBridges$Stop"
abbrev cX19_init : ByteArray := prog_16_method_1_code
def yX19_init : MethodName := ⟨RX19, "<init>", "()V"⟩
theorem dX19_init_0 : decode cX19_init 0 = .ok (.aload_n 0, 1) := by decide +kernel
theorem dX19_init_1 : decode cX19_init 1 = .ok (.invokespecial 1, 3) := by decide +kernel
theorem dX19_init_4 : decode cX19_init 4 = .ok (.return_, 1) := by decide +kernel
abbrev cX19_does : ByteArray := prog_16_method_2_code
def yX19_does : MethodName := ⟨RX19, "does", "(LSillBridges$Running;)V"⟩
def dkwX19_does_0 : List UInt8 := [43, 4, 181, 0, 7, 177]
abbrev dktX19_does_0 : List UInt8 := dkwX19_does_0 ++ []
theorem dksX19_does_0 : cX19_does.data.toList.drop 0 = dktX19_does_0 := by decide +kernel
theorem dX19_does_0 : decode cX19_does 0 = .ok (.aload_n 1, 1) := dk_43 (dk_at dksX19_does_0 0 rfl rfl)
theorem dX19_does_1 : decode cX19_does 1 = .ok (.iconst 1, 1) := dk_4 (dk_at dksX19_does_0 1 rfl rfl)
theorem dX19_does_2 : decode cX19_does 2 = .ok (.putfield 7, 3) := dk_181 0 7 (dk_at dksX19_does_0 2 rfl rfl)
theorem dX19_does_5 : decode cX19_does 5 = .ok (.return_, 1) := dk_177 (dk_at dksX19_does_0 5 rfl rfl)
theorem q175 : (Jvm.Cond.initialized "SillBridges$Stop") ∈ lw_all := lw_g (lw_at lw_m1 32 rfl) rfl
theorem q459 : (Jvm.Cond.fieldLinkNest "SillBridges$Stop" (7 : Nat) "SillBridges$Running" "isOver" "Z" "SillBridges") ∈ lw_tbl := lw_at lw_m2 76 rfl
theorem q1166 : (Jvm.Cond.instantiable "SillBridges$Stop" (0 : Nat)) ∈ lw_all := lw_g (lw_at lw_m5 63 rfl) rfl
theorem q1168 : (Jvm.Cond.instanceMethod ({ cls := "SillBridges$Stop", name := "<init>", desc := "()V" } : Jvm.MethodName)) ∈ lw_all := lw_g (lw_at lw_m5 65 rfl) rfl
theorem q1169 : (Jvm.Cond.code ({ cls := "SillBridges$Stop", name := "<init>", desc := "()V" } : Jvm.MethodName) prog_16_method_1_code (1 : Nat) (Option.none : Option Jvm.ClassFile.FieldType)) ∈ lw_all := lw_g (lw_at lw_m5 66 rfl) rfl
theorem q1170 : (Jvm.Cond.methodLinkNest "SillBridges$Stop" (1 : Nat) ({ cls := "SillBridges$Step", name := "<init>", desc := "()V" } : Jvm.MethodName) "SillBridges") ∈ lw_tbl := lw_at lw_m5 67 rfl
theorem q1171 : (Jvm.Cond.superclass "SillBridges$Stop" "SillBridges$Step") ∈ lw_all := lw_g (lw_at lw_m5 68 rfl) rfl
theorem q1501 : (Jvm.Cond.selects "SillBridges$Stop" ({ cls := "SillBridges$Step", name := "go", desc := "(LSillBridges$Running;)V" } : Jvm.MethodName) ({ cls := "SillBridges$Step", name := "go", desc := "(LSillBridges$Running;)V" } : Jvm.MethodName)) ∈ lw_all := lw_g (lw_at lw_m6 158 rfl) rfl
theorem q1534 : (Jvm.Cond.selects "SillBridges$Stop" ({ cls := "SillBridges$Step", name := "does", desc := "(LSillBridges$Running;)V" } : Jvm.MethodName) ({ cls := "SillBridges$Stop", name := "does", desc := "(LSillBridges$Running;)V" } : Jvm.MethodName)) ∈ lw_all := lw_g (lw_at lw_m6 191 rfl) rfl
theorem q1535 : (Jvm.Cond.instanceMethod ({ cls := "SillBridges$Stop", name := "does", desc := "(LSillBridges$Running;)V" } : Jvm.MethodName)) ∈ lw_all := lw_g (lw_at lw_m6 192 rfl) rfl
theorem q1536 : (Jvm.Cond.code ({ cls := "SillBridges$Stop", name := "does", desc := "(LSillBridges$Running;)V" } : Jvm.MethodName) prog_16_method_2_code (2 : Nat) (Option.none : Option Jvm.ClassFile.FieldType)) ∈ lw_all := lw_g (lw_at lw_m6 193 rfl) rfl
theorem q2293 : (Jvm.Cond.castable "SillBridges$Stop" "SillBridges$Step") ∈ lw_tbl := lw_at lw_m9 230 rfl

theorem q186 : (Jvm.Cond.arrayOver (Jvm.ClassFile.FieldType.object "SillBridges$Tray")) ∈ lw_tbl := lw_at lw_m1 43 rfl
set_option maxRecDepth 100000
theorem q266 : (Jvm.Cond.arrayClass Jvm.ClassFile.FieldType.byte) ∈ lw_all := lw_g (lw_at lw_m1 123 rfl) rfl
theorem q305 : (Jvm.Cond.arrayOver (Jvm.ClassFile.FieldType.object "SillBridges$Bridge")) ∈ lw_tbl := lw_at lw_m1 162 rfl
theorem q307 : (Jvm.Cond.arrayOver (Jvm.ClassFile.FieldType.object "SillBridges$Person")) ∈ lw_tbl := lw_at lw_m1 164 rfl
theorem q309 : (Jvm.Cond.arrayOver (Jvm.ClassFile.FieldType.object "SillBridges$Load")) ∈ lw_tbl := lw_at lw_m1 166 rfl
theorem q366 : (Jvm.Cond.arrayClass Jvm.ClassFile.FieldType.long) ∈ lw_all := lw_g (lw_at lw_m1 223 rfl) rfl
theorem q367 : (Jvm.Cond.arrayClass Jvm.ClassFile.FieldType.int) ∈ lw_all := lw_g (lw_at lw_m1 224 rfl) rfl
theorem q403 : (Jvm.Cond.arrayOver (Jvm.ClassFile.FieldType.object "SillBridges$House")) ∈ lw_tbl := lw_at lw_m2 20 rfl
theorem q486 : (Jvm.Cond.arrayClass Jvm.ClassFile.FieldType.boolean) ∈ lw_all := lw_g (lw_at lw_m2 103 rfl) rfl
theorem q634 : (Jvm.Cond.arrayClass Jvm.ClassFile.FieldType.short) ∈ lw_all := lw_g (lw_at lw_m3 11 rfl) rfl
theorem q1062 : (Jvm.Cond.arrayOver (Jvm.ClassFile.FieldType.object "SillBridges$Step")) ∈ lw_tbl := lw_at lw_m4 199 rfl

theorem q161 : (Jvm.Cond.initialized "java/lang/System") ∈ lw_all := lw_g (lw_at lw_m1 18 rfl) rfl
set_option maxRecDepth 100000
theorem q690 : (Jvm.Cond.static ({ cls := "java/lang/System", name := "arraycopy", desc := "(Ljava/lang/Object;ILjava/lang/Object;II)V" } : Jvm.MethodName)) ∈ lw_all := lw_g (lw_at lw_m3 67 rfl) rfl
theorem q691 : (Jvm.Cond.native ({ cls := "java/lang/System", name := "arraycopy", desc := "(Ljava/lang/Object;ILjava/lang/Object;II)V" } : Jvm.MethodName)) ∈ lw_all := lw_g (lw_at lw_m3 68 rfl) rfl

theorem q143 : (Jvm.Cond.initialized "SillBridgesLaw") ∈ lw_all := lw_g (lw_at lw_m1 0 rfl) rfl
set_option maxRecDepth 100000
theorem q177 : (Jvm.Cond.classLink "SillBridgesLaw" (7 : Nat) "SillBridges") ∈ lw_all := lw_g (lw_at lw_m1 34 rfl) rfl
theorem q179 : (Jvm.Cond.methodLink "SillBridgesLaw" (9 : Nat) ({ cls := "SillBridges", name := "<init>", desc := "()V" } : Jvm.MethodName)) ∈ lw_all := lw_g (lw_at lw_m1 36 rfl) rfl
theorem q574 : (Jvm.Cond.methodLink "SillBridgesLaw" (13 : Nat) ({ cls := "SillBridges", name := "status", desc := "()I" } : Jvm.MethodName)) ∈ lw_all := lw_g (lw_at lw_m2 191 rfl) rfl
theorem q578 : (Jvm.Cond.methodLink "SillBridgesLaw" (18 : Nat) ({ cls := "SillBridges", name := "top", desc := "()J" } : Jvm.MethodName)) ∈ lw_all := lw_g (lw_at lw_m2 195 rfl) rfl
theorem q582 : (Jvm.Cond.methodLink "SillBridgesLaw" (23 : Nat) ({ cls := "SillBridges", name := "bottom", desc := "()J" } : Jvm.MethodName)) ∈ lw_all := lw_g (lw_at lw_m2 199 rfl) rfl
theorem q586 : (Jvm.Cond.methodLink "SillBridgesLaw" (27 : Nat) ({ cls := "SillBridges", name := "tray", desc := "(III)Z" } : Jvm.MethodName)) ∈ lw_all := lw_g (lw_at lw_m2 203 rfl) rfl
theorem q635 : (Jvm.Cond.methodLink "SillBridgesLaw" (34 : Nat) ({ cls := "SillBridges", name := "write", desc := "(IIJ)Z" } : Jvm.MethodName)) ∈ lw_all := lw_g (lw_at lw_m3 12 rfl) rfl
theorem q669 : (Jvm.Cond.methodLink "SillBridgesLaw" (39 : Nat) ({ cls := "SillBridges", name := "read", desc := "(II)J" } : Jvm.MethodName)) ∈ lw_all := lw_g (lw_at lw_m3 46 rfl) rfl
theorem q681 : (Jvm.Cond.methodLink "SillBridgesLaw" (44 : Nat) ({ cls := "SillBridges", name := "pour", desc := "(IIIII)Z" } : Jvm.MethodName)) ∈ lw_all := lw_g (lw_at lw_m3 58 rfl) rfl
theorem q692 : (Jvm.Cond.methodLink "SillBridgesLaw" (49 : Nat) ({ cls := "SillBridges", name := "feed", desc := "(IIIII)I" } : Jvm.MethodName)) ∈ lw_all := lw_g (lw_at lw_m3 69 rfl) rfl
theorem q700 : (Jvm.Cond.methodLink "SillBridgesLaw" (54 : Nat) ({ cls := "SillBridges", name := "town", desc := "(I)I" } : Jvm.MethodName)) ∈ lw_all := lw_g (lw_at lw_m3 77 rfl) rfl
theorem q1045 : (Jvm.Cond.methodLink "SillBridgesLaw" (59 : Nat) ({ cls := "SillBridges", name := "orders", desc := "(I)I" } : Jvm.MethodName)) ∈ lw_all := lw_g (lw_at lw_m4 182 rfl) rfl
theorem q1179 : (Jvm.Cond.methodLink "SillBridgesLaw" (63 : Nat) ({ cls := "SillBridges", name := "fault", desc := "(I)I" } : Jvm.MethodName)) ∈ lw_all := lw_g (lw_at lw_m5 76 rfl) rfl
theorem q1183 : (Jvm.Cond.methodLink "SillBridgesLaw" (67 : Nat) ({ cls := "SillBridges", name := "told", desc := "(I)I" } : Jvm.MethodName)) ∈ lw_all := lw_g (lw_at lw_m5 80 rfl) rfl
theorem q1195 : (Jvm.Cond.methodLink "SillBridgesLaw" (71 : Nat) ({ cls := "SillBridges", name := "bridge", desc := "(II)I" } : Jvm.MethodName)) ∈ lw_all := lw_g (lw_at lw_m5 92 rfl) rfl
theorem q1208 : (Jvm.Cond.methodLink "SillBridgesLaw" (76 : Nat) ({ cls := "SillBridges", name := "person", desc := "(II)I" } : Jvm.MethodName)) ∈ lw_all := lw_g (lw_at lw_m5 105 rfl) rfl
theorem q1221 : (Jvm.Cond.methodLink "SillBridgesLaw" (80 : Nat) ({ cls := "SillBridges", name := "stones", desc := "(I)I" } : Jvm.MethodName)) ∈ lw_all := lw_g (lw_at lw_m5 118 rfl) rfl
theorem q1229 : (Jvm.Cond.methodLink "SillBridgesLaw" (84 : Nat) ({ cls := "SillBridges", name := "at", desc := "(I)I" } : Jvm.MethodName)) ∈ lw_all := lw_g (lw_at lw_m5 126 rfl) rfl
theorem q1233 : (Jvm.Cond.methodLink "SillBridgesLaw" (88 : Nat) ({ cls := "SillBridges", name := "carries", desc := "(I)I" } : Jvm.MethodName)) ∈ lw_all := lw_g (lw_at lw_m5 130 rfl) rfl
theorem q1241 : (Jvm.Cond.methodLink "SillBridgesLaw" (92 : Nat) ({ cls := "SillBridges", name := "load", desc := "(II)I" } : Jvm.MethodName)) ∈ lw_all := lw_g (lw_at lw_m5 138 rfl) rfl
theorem q1253 : (Jvm.Cond.methodLink "SillBridgesLaw" (96 : Nat) ({ cls := "SillBridges", name := "weight", desc := "(I)I" } : Jvm.MethodName)) ∈ lw_all := lw_g (lw_at lw_m5 150 rfl) rfl
theorem q1262 : (Jvm.Cond.methodLink "SillBridgesLaw" (100 : Nat) ({ cls := "SillBridges", name := "hangs", desc := "(I)I" } : Jvm.MethodName)) ∈ lw_all := lw_g (lw_at lw_m5 159 rfl) rfl
theorem q1276 : (Jvm.Cond.methodLink "SillBridgesLaw" (104 : Nat) ({ cls := "SillBridges", name := "put", desc := "(II)Z" } : Jvm.MethodName)) ∈ lw_all := lw_g (lw_at lw_m5 173 rfl) rfl
theorem q1280 : (Jvm.Cond.methodLink "SillBridgesLaw" (109 : Nat) ({ cls := "SillBridges", name := "go", desc := "(II)Z" } : Jvm.MethodName)) ∈ lw_all := lw_g (lw_at lw_m5 177 rfl) rfl
theorem q1309 : (Jvm.Cond.methodLink "SillBridgesLaw" (113 : Nat) ({ cls := "SillBridges", name := "both", desc := "(III)Z" } : Jvm.MethodName)) ∈ lw_all := lw_g (lw_at lw_m5 206 rfl) rfl
theorem q1313 : (Jvm.Cond.methodLink "SillBridgesLaw" (117 : Nat) ({ cls := "SillBridges", name := "why", desc := "(III)I" } : Jvm.MethodName)) ∈ lw_all := lw_g (lw_at lw_m5 210 rfl) rfl
theorem q1318 : (Jvm.Cond.methodLink "SillBridgesLaw" (122 : Nat) ({ cls := "SillBridges", name := "lift", desc := "(II)Z" } : Jvm.MethodName)) ∈ lw_all := lw_g (lw_at lw_m5 215 rfl) rfl
theorem q1322 : (Jvm.Cond.methodLink "SillBridgesLaw" (126 : Nat) ({ cls := "SillBridges", name := "drop", desc := "(I)Z" } : Jvm.MethodName)) ∈ lw_all := lw_g (lw_at lw_m5 219 rfl) rfl
theorem q1326 : (Jvm.Cond.methodLink "SillBridgesLaw" (131 : Nat) ({ cls := "SillBridges", name := "begin", desc := "()Z" } : Jvm.MethodName)) ∈ lw_all := lw_g (lw_at lw_m5 223 rfl) rfl
theorem q1330 : (Jvm.Cond.methodLink "SillBridgesLaw" (136 : Nat) ({ cls := "SillBridges", name := "least", desc := "(I)I" } : Jvm.MethodName)) ∈ lw_all := lw_g (lw_at lw_m5 227 rfl) rfl
theorem q1394 : (Jvm.Cond.methodLink "SillBridgesLaw" (140 : Nat) ({ cls := "SillBridges", name := "first", desc := "()I" } : Jvm.MethodName)) ∈ lw_all := lw_g (lw_at lw_m6 51 rfl) rfl
theorem q1406 : (Jvm.Cond.methodLink "SillBridgesLaw" (144 : Nat) ({ cls := "SillBridges", name := "firstAt", desc := "(II)I" } : Jvm.MethodName)) ∈ lw_all := lw_g (lw_at lw_m6 63 rfl) rfl
theorem q1410 : (Jvm.Cond.methodLink "SillBridgesLaw" (148 : Nat) ({ cls := "SillBridges", name := "reach", desc := "(I)I" } : Jvm.MethodName)) ∈ lw_all := lw_g (lw_at lw_m6 67 rfl) rfl
theorem q1414 : (Jvm.Cond.methodLink "SillBridgesLaw" (152 : Nat) ({ cls := "SillBridges", name := "fewest", desc := "(II)I" } : Jvm.MethodName)) ∈ lw_all := lw_g (lw_at lw_m6 71 rfl) rfl
theorem q1418 : (Jvm.Cond.methodLink "SillBridgesLaw" (156 : Nat) ({ cls := "SillBridges", name := "states", desc := "()I" } : Jvm.MethodName)) ∈ lw_all := lw_g (lw_at lw_m6 75 rfl) rfl
theorem q1422 : (Jvm.Cond.methodLink "SillBridgesLaw" (160 : Nat) ({ cls := "SillBridges", name := "most", desc := "(I)I" } : Jvm.MethodName)) ∈ lw_all := lw_g (lw_at lw_m6 79 rfl) rfl
theorem q1427 : (Jvm.Cond.methodLink "SillBridgesLaw" (164 : Nat) ({ cls := "SillBridges", name := "lost", desc := "()I" } : Jvm.MethodName)) ∈ lw_all := lw_g (lw_at lw_m6 84 rfl) rfl
theorem q1439 : (Jvm.Cond.methodLink "SillBridgesLaw" (168 : Nat) ({ cls := "SillBridges", name := "safe", desc := "()I" } : Jvm.MethodName)) ∈ lw_all := lw_g (lw_at lw_m6 96 rfl) rfl
theorem q1443 : (Jvm.Cond.methodLink "SillBridgesLaw" (172 : Nat) ({ cls := "SillBridges", name := "free", desc := "()I" } : Jvm.MethodName)) ∈ lw_all := lw_g (lw_at lw_m6 100 rfl) rfl
theorem q1447 : (Jvm.Cond.methodLink "SillBridgesLaw" (176 : Nat) ({ cls := "SillBridges", name := "needed", desc := "()I" } : Jvm.MethodName)) ∈ lw_all := lw_g (lw_at lw_m6 104 rfl) rfl
theorem q1455 : (Jvm.Cond.methodLink "SillBridgesLaw" (180 : Nat) ({ cls := "SillBridges", name := "stone", desc := "(I)I" } : Jvm.MethodName)) ∈ lw_all := lw_g (lw_at lw_m6 112 rfl) rfl
theorem q1463 : (Jvm.Cond.methodLink "SillBridgesLaw" (184 : Nat) ({ cls := "SillBridges", name := "bestStone", desc := "(I)I" } : Jvm.MethodName)) ∈ lw_all := lw_g (lw_at lw_m6 120 rfl) rfl
theorem q1467 : (Jvm.Cond.methodLink "SillBridgesLaw" (188 : Nat) ({ cls := "SillBridges", name := "rope", desc := "(III)I" } : Jvm.MethodName)) ∈ lw_all := lw_g (lw_at lw_m6 124 rfl) rfl
theorem q1477 : (Jvm.Cond.methodLink "SillBridgesLaw" (192 : Nat) ({ cls := "SillBridges", name := "run", desc := "(I)I" } : Jvm.MethodName)) ∈ lw_all := lw_g (lw_at lw_m6 134 rfl) rfl
theorem q1545 : (Jvm.Cond.methodLink "SillBridgesLaw" (196 : Nat) ({ cls := "SillBridges", name := "ran", desc := "(I)I" } : Jvm.MethodName)) ∈ lw_all := lw_g (lw_at lw_m6 202 rfl) rfl
theorem q1550 : (Jvm.Cond.methodLink "SillBridgesLaw" (200 : Nat) ({ cls := "SillBridges", name := "ranAt", desc := "(I)I" } : Jvm.MethodName)) ∈ lw_all := lw_g (lw_at lw_m6 207 rfl) rfl
theorem q1554 : (Jvm.Cond.methodLink "SillBridgesLaw" (204 : Nat) ({ cls := "SillBridges", name := "odds", desc := "(II)Z" } : Jvm.MethodName)) ∈ lw_all := lw_g (lw_at lw_m6 211 rfl) rfl
theorem q1568 : (Jvm.Cond.methodLink "SillBridgesLaw" (208 : Nat) ({ cls := "SillBridges", name := "mark", desc := "()I" } : Jvm.MethodName)) ∈ lw_all := lw_g (lw_at lw_m6 225 rfl) rfl
theorem q1577 : (Jvm.Cond.methodLink "SillBridgesLaw" (212 : Nat) ({ cls := "SillBridges", name := "back", desc := "()I" } : Jvm.MethodName)) ∈ lw_all := lw_g (lw_at lw_m6 234 rfl) rfl
theorem q1581 : (Jvm.Cond.classLink "SillBridgesLaw" (10 : Nat) "SillBridgesModel") ∈ lw_all := lw_g (lw_at lw_m6 238 rfl) rfl
theorem q1583 : (Jvm.Cond.methodLink "SillBridgesLaw" (12 : Nat) ({ cls := "SillBridgesModel", name := "<init>", desc := "()V" } : Jvm.MethodName)) ∈ lw_all := lw_g (lw_at lw_m7 0 rfl) rfl
theorem q1751 : (Jvm.Cond.methodLink "SillBridgesLaw" (17 : Nat) ({ cls := "SillBridgesModel", name := "status", desc := "()I" } : Jvm.MethodName)) ∈ lw_all := lw_g (lw_at lw_m7 168 rfl) rfl
theorem q1755 : (Jvm.Cond.methodLink "SillBridgesLaw" (22 : Nat) ({ cls := "SillBridgesModel", name := "top", desc := "()J" } : Jvm.MethodName)) ∈ lw_all := lw_g (lw_at lw_m7 172 rfl) rfl
theorem q1759 : (Jvm.Cond.methodLink "SillBridgesLaw" (26 : Nat) ({ cls := "SillBridgesModel", name := "bottom", desc := "()J" } : Jvm.MethodName)) ∈ lw_all := lw_g (lw_at lw_m7 176 rfl) rfl
theorem q1763 : (Jvm.Cond.methodLink "SillBridgesLaw" (31 : Nat) ({ cls := "SillBridgesModel", name := "tray", desc := "(III)Z" } : Jvm.MethodName)) ∈ lw_all := lw_g (lw_at lw_m7 180 rfl) rfl
theorem q1774 : (Jvm.Cond.methodLink "SillBridgesLaw" (38 : Nat) ({ cls := "SillBridgesModel", name := "write", desc := "(IIJ)Z" } : Jvm.MethodName)) ∈ lw_all := lw_g (lw_at lw_m7 191 rfl) rfl
theorem q1785 : (Jvm.Cond.methodLink "SillBridgesLaw" (43 : Nat) ({ cls := "SillBridgesModel", name := "read", desc := "(II)J" } : Jvm.MethodName)) ∈ lw_all := lw_g (lw_at lw_m7 202 rfl) rfl
theorem q1790 : (Jvm.Cond.methodLink "SillBridgesLaw" (48 : Nat) ({ cls := "SillBridgesModel", name := "pour", desc := "(IIIII)Z" } : Jvm.MethodName)) ∈ lw_all := lw_g (lw_at lw_m7 207 rfl) rfl
theorem q1794 : (Jvm.Cond.methodLink "SillBridgesLaw" (53 : Nat) ({ cls := "SillBridgesModel", name := "feed", desc := "(IIIII)I" } : Jvm.MethodName)) ∈ lw_all := lw_g (lw_at lw_m7 211 rfl) rfl
theorem q1802 : (Jvm.Cond.methodLink "SillBridgesLaw" (66 : Nat) ({ cls := "SillBridgesModel", name := "fault", desc := "(I)I" } : Jvm.MethodName)) ∈ lw_all := lw_g (lw_at lw_m7 219 rfl) rfl
theorem q1806 : (Jvm.Cond.methodLink "SillBridgesLaw" (58 : Nat) ({ cls := "SillBridgesModel", name := "town", desc := "(I)I" } : Jvm.MethodName)) ∈ lw_all := lw_g (lw_at lw_m7 223 rfl) rfl
theorem q1925 : (Jvm.Cond.methodLink "SillBridgesLaw" (62 : Nat) ({ cls := "SillBridgesModel", name := "orders", desc := "(I)I" } : Jvm.MethodName)) ∈ lw_all := lw_g (lw_at lw_m8 102 rfl) rfl
theorem q1949 : (Jvm.Cond.methodLink "SillBridgesLaw" (70 : Nat) ({ cls := "SillBridgesModel", name := "told", desc := "(I)I" } : Jvm.MethodName)) ∈ lw_all := lw_g (lw_at lw_m8 126 rfl) rfl
theorem q1961 : (Jvm.Cond.methodLink "SillBridgesLaw" (75 : Nat) ({ cls := "SillBridgesModel", name := "bridge", desc := "(II)I" } : Jvm.MethodName)) ∈ lw_all := lw_g (lw_at lw_m8 138 rfl) rfl
theorem q1977 : (Jvm.Cond.methodLink "SillBridgesLaw" (79 : Nat) ({ cls := "SillBridgesModel", name := "person", desc := "(II)I" } : Jvm.MethodName)) ∈ lw_all := lw_g (lw_at lw_m8 154 rfl) rfl
theorem q1989 : (Jvm.Cond.methodLink "SillBridgesLaw" (83 : Nat) ({ cls := "SillBridgesModel", name := "stones", desc := "(I)I" } : Jvm.MethodName)) ∈ lw_all := lw_g (lw_at lw_m8 166 rfl) rfl
theorem q1997 : (Jvm.Cond.methodLink "SillBridgesLaw" (87 : Nat) ({ cls := "SillBridgesModel", name := "at", desc := "(I)I" } : Jvm.MethodName)) ∈ lw_all := lw_g (lw_at lw_m8 174 rfl) rfl
theorem q2001 : (Jvm.Cond.methodLink "SillBridgesLaw" (91 : Nat) ({ cls := "SillBridgesModel", name := "carries", desc := "(I)I" } : Jvm.MethodName)) ∈ lw_all := lw_g (lw_at lw_m8 178 rfl) rfl
theorem q2009 : (Jvm.Cond.methodLink "SillBridgesLaw" (95 : Nat) ({ cls := "SillBridgesModel", name := "load", desc := "(II)I" } : Jvm.MethodName)) ∈ lw_all := lw_g (lw_at lw_m8 186 rfl) rfl
theorem q2017 : (Jvm.Cond.methodLink "SillBridgesLaw" (99 : Nat) ({ cls := "SillBridgesModel", name := "weight", desc := "(I)I" } : Jvm.MethodName)) ∈ lw_all := lw_g (lw_at lw_m8 194 rfl) rfl
theorem q2029 : (Jvm.Cond.methodLink "SillBridgesLaw" (103 : Nat) ({ cls := "SillBridgesModel", name := "hangs", desc := "(I)I" } : Jvm.MethodName)) ∈ lw_all := lw_g (lw_at lw_m8 206 rfl) rfl
theorem q2037 : (Jvm.Cond.methodLink "SillBridgesLaw" (108 : Nat) ({ cls := "SillBridgesModel", name := "put", desc := "(II)Z" } : Jvm.MethodName)) ∈ lw_all := lw_g (lw_at lw_m8 214 rfl) rfl
theorem q2041 : (Jvm.Cond.methodLink "SillBridgesLaw" (135 : Nat) ({ cls := "SillBridgesModel", name := "begin", desc := "()Z" } : Jvm.MethodName)) ∈ lw_all := lw_g (lw_at lw_m8 218 rfl) rfl
theorem q2045 : (Jvm.Cond.methodLink "SillBridgesLaw" (112 : Nat) ({ cls := "SillBridgesModel", name := "go", desc := "(II)Z" } : Jvm.MethodName)) ∈ lw_all := lw_g (lw_at lw_m8 222 rfl) rfl
theorem q2069 : (Jvm.Cond.methodLink "SillBridgesLaw" (116 : Nat) ({ cls := "SillBridgesModel", name := "both", desc := "(III)Z" } : Jvm.MethodName)) ∈ lw_all := lw_g (lw_at lw_m9 6 rfl) rfl
theorem q2077 : (Jvm.Cond.methodLink "SillBridgesLaw" (121 : Nat) ({ cls := "SillBridgesModel", name := "why", desc := "(III)I" } : Jvm.MethodName)) ∈ lw_all := lw_g (lw_at lw_m9 14 rfl) rfl
theorem q2081 : (Jvm.Cond.methodLink "SillBridgesLaw" (125 : Nat) ({ cls := "SillBridgesModel", name := "lift", desc := "(II)Z" } : Jvm.MethodName)) ∈ lw_all := lw_g (lw_at lw_m9 18 rfl) rfl
theorem q2089 : (Jvm.Cond.methodLink "SillBridgesLaw" (130 : Nat) ({ cls := "SillBridgesModel", name := "drop", desc := "(I)Z" } : Jvm.MethodName)) ∈ lw_all := lw_g (lw_at lw_m9 26 rfl) rfl
theorem q2097 : (Jvm.Cond.methodLink "SillBridgesLaw" (139 : Nat) ({ cls := "SillBridgesModel", name := "least", desc := "(I)I" } : Jvm.MethodName)) ∈ lw_all := lw_g (lw_at lw_m9 34 rfl) rfl
theorem q2149 : (Jvm.Cond.methodLink "SillBridgesLaw" (143 : Nat) ({ cls := "SillBridgesModel", name := "first", desc := "()I" } : Jvm.MethodName)) ∈ lw_all := lw_g (lw_at lw_m9 86 rfl) rfl
theorem q2161 : (Jvm.Cond.methodLink "SillBridgesLaw" (147 : Nat) ({ cls := "SillBridgesModel", name := "firstAt", desc := "(II)I" } : Jvm.MethodName)) ∈ lw_all := lw_g (lw_at lw_m9 98 rfl) rfl
theorem q2165 : (Jvm.Cond.methodLink "SillBridgesLaw" (151 : Nat) ({ cls := "SillBridgesModel", name := "reach", desc := "(I)I" } : Jvm.MethodName)) ∈ lw_all := lw_g (lw_at lw_m9 102 rfl) rfl
theorem q2169 : (Jvm.Cond.methodLink "SillBridgesLaw" (155 : Nat) ({ cls := "SillBridgesModel", name := "fewest", desc := "(II)I" } : Jvm.MethodName)) ∈ lw_all := lw_g (lw_at lw_m9 106 rfl) rfl
theorem q2173 : (Jvm.Cond.methodLink "SillBridgesLaw" (159 : Nat) ({ cls := "SillBridgesModel", name := "states", desc := "()I" } : Jvm.MethodName)) ∈ lw_all := lw_g (lw_at lw_m9 110 rfl) rfl
theorem q2177 : (Jvm.Cond.methodLink "SillBridgesLaw" (163 : Nat) ({ cls := "SillBridgesModel", name := "most", desc := "(I)I" } : Jvm.MethodName)) ∈ lw_all := lw_g (lw_at lw_m9 114 rfl) rfl
theorem q2181 : (Jvm.Cond.methodLink "SillBridgesLaw" (167 : Nat) ({ cls := "SillBridgesModel", name := "lost", desc := "()I" } : Jvm.MethodName)) ∈ lw_all := lw_g (lw_at lw_m9 118 rfl) rfl
theorem q2189 : (Jvm.Cond.methodLink "SillBridgesLaw" (171 : Nat) ({ cls := "SillBridgesModel", name := "safe", desc := "()I" } : Jvm.MethodName)) ∈ lw_all := lw_g (lw_at lw_m9 126 rfl) rfl
theorem q2193 : (Jvm.Cond.methodLink "SillBridgesLaw" (175 : Nat) ({ cls := "SillBridgesModel", name := "free", desc := "()I" } : Jvm.MethodName)) ∈ lw_all := lw_g (lw_at lw_m9 130 rfl) rfl
theorem q2197 : (Jvm.Cond.methodLink "SillBridgesLaw" (179 : Nat) ({ cls := "SillBridgesModel", name := "needed", desc := "()I" } : Jvm.MethodName)) ∈ lw_all := lw_g (lw_at lw_m9 134 rfl) rfl
theorem q2205 : (Jvm.Cond.methodLink "SillBridgesLaw" (183 : Nat) ({ cls := "SillBridgesModel", name := "stone", desc := "(I)I" } : Jvm.MethodName)) ∈ lw_all := lw_g (lw_at lw_m9 142 rfl) rfl
theorem q2217 : (Jvm.Cond.methodLink "SillBridgesLaw" (187 : Nat) ({ cls := "SillBridgesModel", name := "bestStone", desc := "(I)I" } : Jvm.MethodName)) ∈ lw_all := lw_g (lw_at lw_m9 154 rfl) rfl
theorem q2221 : (Jvm.Cond.methodLink "SillBridgesLaw" (191 : Nat) ({ cls := "SillBridgesModel", name := "rope", desc := "(III)I" } : Jvm.MethodName)) ∈ lw_all := lw_g (lw_at lw_m9 158 rfl) rfl
theorem q2230 : (Jvm.Cond.methodLink "SillBridgesLaw" (195 : Nat) ({ cls := "SillBridgesModel", name := "run", desc := "(I)I" } : Jvm.MethodName)) ∈ lw_all := lw_g (lw_at lw_m9 167 rfl) rfl
theorem q2259 : (Jvm.Cond.methodLink "SillBridgesLaw" (199 : Nat) ({ cls := "SillBridgesModel", name := "ran", desc := "(I)I" } : Jvm.MethodName)) ∈ lw_all := lw_g (lw_at lw_m9 196 rfl) rfl
theorem q2263 : (Jvm.Cond.methodLink "SillBridgesLaw" (203 : Nat) ({ cls := "SillBridgesModel", name := "ranAt", desc := "(I)I" } : Jvm.MethodName)) ∈ lw_all := lw_g (lw_at lw_m9 200 rfl) rfl
theorem q2267 : (Jvm.Cond.methodLink "SillBridgesLaw" (207 : Nat) ({ cls := "SillBridgesModel", name := "odds", desc := "(II)Z" } : Jvm.MethodName)) ∈ lw_all := lw_g (lw_at lw_m9 204 rfl) rfl
theorem q2275 : (Jvm.Cond.methodLink "SillBridgesLaw" (211 : Nat) ({ cls := "SillBridgesModel", name := "mark", desc := "()I" } : Jvm.MethodName)) ∈ lw_all := lw_g (lw_at lw_m9 212 rfl) rfl
theorem q2283 : (Jvm.Cond.methodLink "SillBridgesLaw" (215 : Nat) ({ cls := "SillBridgesModel", name := "back", desc := "()I" } : Jvm.MethodName)) ∈ lw_all := lw_g (lw_at lw_m9 220 rfl) rfl
theorem q2287 : (Jvm.Cond.constantLong "SillBridgesLaw" (32 : Nat) (4294967295 : Int64)) ∈ lw_all := lw_g (lw_at lw_m9 224 rfl) rfl
