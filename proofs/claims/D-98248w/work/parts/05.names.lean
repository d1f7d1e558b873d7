/-! java/lang/Throwable -/
set_option maxRecDepth 100000
def RJ0 : String := "java/lang/Throwable"
def TJ0 : u_T := fun k => match k with
  | 0 => ("java/lang/Throwable", "cause", "Ljava/lang/Throwable;", false)
  | 1 => ("java/lang/Throwable", "stackTrace", "[Ljava/lang/StackTraceElement;", false)
  | 2 => ("java/lang/Throwable", "suppressedExceptions", "Ljava/util/List;", false)
  | 3 => ("java/lang/Throwable", "detailMessage", "Ljava/lang/String;", false)
  | _ => ("java/lang/Throwable", "backtrace", "Ljava/lang/Object;", false)
def tyJ0 : Nat → FieldType := fun k => match k with
  | 0 => .object "java/lang/Throwable"
  | 1 => .array (.object "java/lang/StackTraceElement")
  | 2 => .object "java/util/List"
  | 3 => .object "java/lang/String"
  | _ => .object "java/lang/Object"
abbrev wsJ00 : List Cond := u_ws RJ0 TJ0 5
theorem nmJ0 : ∀ a, a < 5 → ∀ b, b < 5 → a ≠ b → (TJ0 a).2.1 ≠ (TJ0 b).2.1 := by decide +kernel
theorem tyJ0_ok : ∀ k, k < 5 → parseFieldDescriptor (TJ0 k).2.2.1 = some (tyJ0 k) := by decide +kernel
abbrev cJ0_init : ByteArray := prog_29_method_1_code
def yJ0_init : MethodName := ⟨RJ0, "<init>", "()V"⟩
def dkwJ0_init_1 : List UInt8 := [182, 0, 27, 87, 177]
abbrev dktJ0_init_1 : List UInt8 := dkwJ0_init_1 ++ []
def dkwJ0_init_0 : List UInt8 := [42, 183, 0, 1, 42, 42, 181, 0, 7, 42, 178, 0, 13, 181, 0, 17, 42, 178, 0, 20, 181, 0, 24, 42]
abbrev dktJ0_init_0 : List UInt8 := dkwJ0_init_0 ++ dktJ0_init_1
theorem dksJ0_init_0 : cJ0_init.data.toList.drop 0 = dktJ0_init_0 := by decide +kernel
theorem dksJ0_init_1 : cJ0_init.data.toList.drop 24 = dktJ0_init_1 := dk_seg dksJ0_init_0 24 rfl rfl
theorem dJ0_init_0 : decode cJ0_init 0 = .ok (.aload_n 0, 1) := dk_42 (dk_at dksJ0_init_0 0 rfl rfl)
theorem dJ0_init_1 : decode cJ0_init 1 = .ok (.invokespecial 1, 3) := dk_183 0 1 (dk_at dksJ0_init_0 1 rfl rfl)
theorem dJ0_init_4 : decode cJ0_init 4 = .ok (.aload_n 0, 1) := dk_42 (dk_at dksJ0_init_0 4 rfl rfl)
theorem dJ0_init_5 : decode cJ0_init 5 = .ok (.aload_n 0, 1) := dk_42 (dk_at dksJ0_init_0 5 rfl rfl)
theorem dJ0_init_6 : decode cJ0_init 6 = .ok (.putfield 7, 3) := dk_181 0 7 (dk_at dksJ0_init_0 6 rfl rfl)
theorem dJ0_init_9 : decode cJ0_init 9 = .ok (.aload_n 0, 1) := dk_42 (dk_at dksJ0_init_0 9 rfl rfl)
theorem dJ0_init_10 : decode cJ0_init 10 = .ok (.getstatic 13, 3) := dk_178 0 13 (dk_at dksJ0_init_0 10 rfl rfl)
theorem dJ0_init_13 : decode cJ0_init 13 = .ok (.putfield 17, 3) := dk_181 0 17 (dk_at dksJ0_init_0 13 rfl rfl)
theorem dJ0_init_16 : decode cJ0_init 16 = .ok (.aload_n 0, 1) := dk_42 (dk_at dksJ0_init_0 16 rfl rfl)
theorem dJ0_init_17 : decode cJ0_init 17 = .ok (.getstatic 20, 3) := dk_178 0 20 (dk_at dksJ0_init_0 17 rfl rfl)
theorem dJ0_init_20 : decode cJ0_init 20 = .ok (.putfield 24, 3) := dk_181 0 24 (dk_at dksJ0_init_0 20 rfl rfl)
theorem dJ0_init_23 : decode cJ0_init 23 = .ok (.aload_n 0, 1) := dk_42 (dk_at dksJ0_init_0 23 rfl rfl)
theorem dJ0_init_24 : decode cJ0_init 24 = .ok (.invokevirtual 27, 3) := dk_182 0 27 (dk_at dksJ0_init_1 0 rfl rfl)
theorem dJ0_init_27 : decode cJ0_init 27 = .ok (.pop, 1) := dk_87 (dk_at dksJ0_init_1 3 rfl rfl)
theorem dJ0_init_28 : decode cJ0_init 28 = .ok (.return_, 1) := dk_177 (dk_at dksJ0_init_1 4 rfl rfl)
abbrev cJ0_init_2 : ByteArray := prog_29_method_5_code
def yJ0_init_2 : MethodName := ⟨RJ0, "<init>", "(Ljava/lang/String;Ljava/lang/Throwable;ZZ)V"⟩
def dkwJ0_init_2_2 : List UInt8 := [44, 181, 0, 7, 29, 154, 0, 8, 42, 1, 181, 0, 24, 177]
abbrev dktJ0_init_2_2 : List UInt8 := dkwJ0_init_2_2 ++ []
def dkwJ0_init_2_1 : List UInt8 := [21, 4, 153, 0, 11, 42, 182, 0, 27, 87, 167, 0, 8, 42, 1, 181, 0, 17, 42, 43, 181, 0, 31, 42]
abbrev dktJ0_init_2_1 : List UInt8 := dkwJ0_init_2_1 ++ dktJ0_init_2_2
def dkwJ0_init_2_0 : List UInt8 := [42, 183, 0, 1, 42, 42, 181, 0, 7, 42, 178, 0, 13, 181, 0, 17, 42, 178, 0, 20, 181, 0, 24]
abbrev dktJ0_init_2_0 : List UInt8 := dkwJ0_init_2_0 ++ dktJ0_init_2_1
theorem dksJ0_init_2_0 : cJ0_init_2.data.toList.drop 0 = dktJ0_init_2_0 := by decide +kernel
theorem dksJ0_init_2_1 : cJ0_init_2.data.toList.drop 23 = dktJ0_init_2_1 := dk_seg dksJ0_init_2_0 23 rfl rfl
theorem dksJ0_init_2_2 : cJ0_init_2.data.toList.drop 47 = dktJ0_init_2_2 := dk_seg dksJ0_init_2_1 24 rfl rfl
theorem dJ0_init_2_0 : decode cJ0_init_2 0 = .ok (.aload_n 0, 1) := dk_42 (dk_at dksJ0_init_2_0 0 rfl rfl)
theorem dJ0_init_2_1 : decode cJ0_init_2 1 = .ok (.invokespecial 1, 3) := dk_183 0 1 (dk_at dksJ0_init_2_0 1 rfl rfl)
theorem dJ0_init_2_4 : decode cJ0_init_2 4 = .ok (.aload_n 0, 1) := dk_42 (dk_at dksJ0_init_2_0 4 rfl rfl)
theorem dJ0_init_2_5 : decode cJ0_init_2 5 = .ok (.aload_n 0, 1) := dk_42 (dk_at dksJ0_init_2_0 5 rfl rfl)
theorem dJ0_init_2_6 : decode cJ0_init_2 6 = .ok (.putfield 7, 3) := dk_181 0 7 (dk_at dksJ0_init_2_0 6 rfl rfl)
theorem dJ0_init_2_9 : decode cJ0_init_2 9 = .ok (.aload_n 0, 1) := dk_42 (dk_at dksJ0_init_2_0 9 rfl rfl)
theorem dJ0_init_2_10 : decode cJ0_init_2 10 = .ok (.getstatic 13, 3) := dk_178 0 13 (dk_at dksJ0_init_2_0 10 rfl rfl)
theorem dJ0_init_2_13 : decode cJ0_init_2 13 = .ok (.putfield 17, 3) := dk_181 0 17 (dk_at dksJ0_init_2_0 13 rfl rfl)
theorem dJ0_init_2_16 : decode cJ0_init_2 16 = .ok (.aload_n 0, 1) := dk_42 (dk_at dksJ0_init_2_0 16 rfl rfl)
theorem dJ0_init_2_17 : decode cJ0_init_2 17 = .ok (.getstatic 20, 3) := dk_178 0 20 (dk_at dksJ0_init_2_0 17 rfl rfl)
theorem dJ0_init_2_20 : decode cJ0_init_2 20 = .ok (.putfield 24, 3) := dk_181 0 24 (dk_at dksJ0_init_2_0 20 rfl rfl)
theorem dJ0_init_2_23 : decode cJ0_init_2 23 = .ok (.iload 4, 2) := dk_21 4 (dk_at dksJ0_init_2_1 0 rfl rfl)
theorem dJ0_init_2_25 : decode cJ0_init_2 25 = .ok (.ifCond .eq 11, 3) := dk_153 0 11 (dk_at dksJ0_init_2_1 2 rfl rfl)
theorem dJ0_init_2_28 : decode cJ0_init_2 28 = .ok (.aload_n 0, 1) := dk_42 (dk_at dksJ0_init_2_1 5 rfl rfl)
theorem dJ0_init_2_29 : decode cJ0_init_2 29 = .ok (.invokevirtual 27, 3) := dk_182 0 27 (dk_at dksJ0_init_2_1 6 rfl rfl)
theorem dJ0_init_2_32 : decode cJ0_init_2 32 = .ok (.pop, 1) := dk_87 (dk_at dksJ0_init_2_1 9 rfl rfl)
theorem dJ0_init_2_33 : decode cJ0_init_2 33 = .ok (.goto 8, 3) := dk_167 0 8 (dk_at dksJ0_init_2_1 10 rfl rfl)
theorem dJ0_init_2_36 : decode cJ0_init_2 36 = .ok (.aload_n 0, 1) := dk_42 (dk_at dksJ0_init_2_1 13 rfl rfl)
theorem dJ0_init_2_37 : decode cJ0_init_2 37 = .ok (.aconst_null, 1) := dk_1 (dk_at dksJ0_init_2_1 14 rfl rfl)
theorem dJ0_init_2_38 : decode cJ0_init_2 38 = .ok (.putfield 17, 3) := dk_181 0 17 (dk_at dksJ0_init_2_1 15 rfl rfl)
theorem dJ0_init_2_41 : decode cJ0_init_2 41 = .ok (.aload_n 0, 1) := dk_42 (dk_at dksJ0_init_2_1 18 rfl rfl)
theorem dJ0_init_2_42 : decode cJ0_init_2 42 = .ok (.aload_n 1, 1) := dk_43 (dk_at dksJ0_init_2_1 19 rfl rfl)
theorem dJ0_init_2_43 : decode cJ0_init_2 43 = .ok (.putfield 31, 3) := dk_181 0 31 (dk_at dksJ0_init_2_1 20 rfl rfl)
theorem dJ0_init_2_46 : decode cJ0_init_2 46 = .ok (.aload_n 0, 1) := dk_42 (dk_at dksJ0_init_2_1 23 rfl rfl)
theorem dJ0_init_2_47 : decode cJ0_init_2 47 = .ok (.aload_n 2, 1) := dk_44 (dk_at dksJ0_init_2_2 0 rfl rfl)
theorem dJ0_init_2_48 : decode cJ0_init_2 48 = .ok (.putfield 7, 3) := dk_181 0 7 (dk_at dksJ0_init_2_2 1 rfl rfl)
theorem dJ0_init_2_51 : decode cJ0_init_2 51 = .ok (.iload_n 3, 1) := dk_29 (dk_at dksJ0_init_2_2 4 rfl rfl)
theorem dJ0_init_2_52 : decode cJ0_init_2 52 = .ok (.ifCond .ne 8, 3) := dk_154 0 8 (dk_at dksJ0_init_2_2 5 rfl rfl)
theorem dJ0_init_2_55 : decode cJ0_init_2 55 = .ok (.aload_n 0, 1) := dk_42 (dk_at dksJ0_init_2_2 8 rfl rfl)
theorem dJ0_init_2_56 : decode cJ0_init_2 56 = .ok (.aconst_null, 1) := dk_1 (dk_at dksJ0_init_2_2 9 rfl rfl)
theorem dJ0_init_2_57 : decode cJ0_init_2 57 = .ok (.putfield 24, 3) := dk_181 0 24 (dk_at dksJ0_init_2_2 10 rfl rfl)
theorem dJ0_init_2_60 : decode cJ0_init_2 60 = .ok (.return_, 1) := dk_177 (dk_at dksJ0_init_2_2 13 rfl rfl)
abbrev cJ0_init_3 : ByteArray := prog_29_method_2_code
def yJ0_init_3 : MethodName := ⟨RJ0, "<init>", "(Ljava/lang/String;)V"⟩
def dkwJ0_init_3_1 : List UInt8 := [182, 0, 27, 87, 42, 43, 181, 0, 31, 177]
abbrev dktJ0_init_3_1 : List UInt8 := dkwJ0_init_3_1 ++ []
def dkwJ0_init_3_0 : List UInt8 := [42, 183, 0, 1, 42, 42, 181, 0, 7, 42, 178, 0, 13, 181, 0, 17, 42, 178, 0, 20, 181, 0, 24, 42]
abbrev dktJ0_init_3_0 : List UInt8 := dkwJ0_init_3_0 ++ dktJ0_init_3_1
theorem dksJ0_init_3_0 : cJ0_init_3.data.toList.drop 0 = dktJ0_init_3_0 := by decide +kernel
theorem dksJ0_init_3_1 : cJ0_init_3.data.toList.drop 24 = dktJ0_init_3_1 := dk_seg dksJ0_init_3_0 24 rfl rfl
theorem dJ0_init_3_0 : decode cJ0_init_3 0 = .ok (.aload_n 0, 1) := dk_42 (dk_at dksJ0_init_3_0 0 rfl rfl)
theorem dJ0_init_3_1 : decode cJ0_init_3 1 = .ok (.invokespecial 1, 3) := dk_183 0 1 (dk_at dksJ0_init_3_0 1 rfl rfl)
theorem dJ0_init_3_4 : decode cJ0_init_3 4 = .ok (.aload_n 0, 1) := dk_42 (dk_at dksJ0_init_3_0 4 rfl rfl)
theorem dJ0_init_3_5 : decode cJ0_init_3 5 = .ok (.aload_n 0, 1) := dk_42 (dk_at dksJ0_init_3_0 5 rfl rfl)
theorem dJ0_init_3_6 : decode cJ0_init_3 6 = .ok (.putfield 7, 3) := dk_181 0 7 (dk_at dksJ0_init_3_0 6 rfl rfl)
theorem dJ0_init_3_9 : decode cJ0_init_3 9 = .ok (.aload_n 0, 1) := dk_42 (dk_at dksJ0_init_3_0 9 rfl rfl)
theorem dJ0_init_3_10 : decode cJ0_init_3 10 = .ok (.getstatic 13, 3) := dk_178 0 13 (dk_at dksJ0_init_3_0 10 rfl rfl)
theorem dJ0_init_3_13 : decode cJ0_init_3 13 = .ok (.putfield 17, 3) := dk_181 0 17 (dk_at dksJ0_init_3_0 13 rfl rfl)
theorem dJ0_init_3_16 : decode cJ0_init_3 16 = .ok (.aload_n 0, 1) := dk_42 (dk_at dksJ0_init_3_0 16 rfl rfl)
theorem dJ0_init_3_17 : decode cJ0_init_3 17 = .ok (.getstatic 20, 3) := dk_178 0 20 (dk_at dksJ0_init_3_0 17 rfl rfl)
theorem dJ0_init_3_20 : decode cJ0_init_3 20 = .ok (.putfield 24, 3) := dk_181 0 24 (dk_at dksJ0_init_3_0 20 rfl rfl)
theorem dJ0_init_3_23 : decode cJ0_init_3 23 = .ok (.aload_n 0, 1) := dk_42 (dk_at dksJ0_init_3_0 23 rfl rfl)
theorem dJ0_init_3_24 : decode cJ0_init_3 24 = .ok (.invokevirtual 27, 3) := dk_182 0 27 (dk_at dksJ0_init_3_1 0 rfl rfl)
theorem dJ0_init_3_27 : decode cJ0_init_3 27 = .ok (.pop, 1) := dk_87 (dk_at dksJ0_init_3_1 3 rfl rfl)
theorem dJ0_init_3_28 : decode cJ0_init_3 28 = .ok (.aload_n 0, 1) := dk_42 (dk_at dksJ0_init_3_1 4 rfl rfl)
theorem dJ0_init_3_29 : decode cJ0_init_3 29 = .ok (.aload_n 1, 1) := dk_43 (dk_at dksJ0_init_3_1 5 rfl rfl)
theorem dJ0_init_3_30 : decode cJ0_init_3 30 = .ok (.putfield 31, 3) := dk_181 0 31 (dk_at dksJ0_init_3_1 6 rfl rfl)
theorem dJ0_init_3_33 : decode cJ0_init_3 33 = .ok (.return_, 1) := dk_177 (dk_at dksJ0_init_3_1 9 rfl rfl)
theorem q137 : (Jvm.Cond.initialized "java/lang/Throwable") ∈ lw_all := lw_g (lw_at lw_m1 4 rfl) rfl
theorem q184 : (Jvm.Cond.declares ({ cls := "java/lang/Throwable", name := "<init>", desc := "()V" } : Jvm.MethodName)) ∈ lw_tbl := lw_at lw_m1 51 rfl
theorem q185 : (Jvm.Cond.declares ({ cls := "java/lang/Throwable", name := "<init>", desc := "(Ljava/lang/String;)V" } : Jvm.MethodName)) ∈ lw_tbl := lw_at lw_m1 52 rfl
theorem q189 : (Jvm.Cond.lays "java/lang/Throwable" "java/lang/Throwable" "cause" "Ljava/lang/Throwable;") ∈ lw_all := lw_g (lw_at lw_m1 56 rfl) rfl
theorem q191 : (Jvm.Cond.lays "java/lang/Throwable" "java/lang/Throwable" "stackTrace" "[Ljava/lang/StackTraceElement;") ∈ lw_all := lw_g (lw_at lw_m1 58 rfl) rfl
theorem q193 : (Jvm.Cond.lays "java/lang/Throwable" "java/lang/Throwable" "suppressedExceptions" "Ljava/util/List;") ∈ lw_all := lw_g (lw_at lw_m1 60 rfl) rfl
theorem q195 : (Jvm.Cond.lays "java/lang/Throwable" "java/lang/Throwable" "detailMessage" "Ljava/lang/String;") ∈ lw_all := lw_g (lw_at lw_m1 62 rfl) rfl
theorem q197 : (Jvm.Cond.lays "java/lang/Throwable" "java/lang/Throwable" "backtrace" "Ljava/lang/Object;") ∈ lw_all := lw_g (lw_at lw_m1 64 rfl) rfl
theorem q198 : (Jvm.Cond.fieldLink "java/lang/Throwable" (198 : Nat) "java/lang/Throwable" "backtrace" "Ljava/lang/Object;") ∈ lw_all := lw_g (lw_at lw_m1 65 rfl) rfl
theorem q199 : (Jvm.Cond.superclass "java/lang/Throwable" "java/lang/Object") ∈ lw_all := lw_g (lw_at lw_m1 66 rfl) rfl
theorem q200 : (Jvm.Cond.instanceMethod ({ cls := "java/lang/Throwable", name := "<init>", desc := "()V" } : Jvm.MethodName)) ∈ lw_all := lw_g (lw_at lw_m1 67 rfl) rfl
theorem q201 : (Jvm.Cond.code ({ cls := "java/lang/Throwable", name := "<init>", desc := "()V" } : Jvm.MethodName) prog_29_method_1_code (1 : Nat) (Option.none : Option Jvm.ClassFile.FieldType)) ∈ lw_all := lw_g (lw_at lw_m1 68 rfl) rfl
theorem q202 : (Jvm.Cond.methodLink "java/lang/Throwable" (1 : Nat) ({ cls := "java/lang/Object", name := "<init>", desc := "()V" } : Jvm.MethodName)) ∈ lw_all := lw_g (lw_at lw_m1 69 rfl) rfl
theorem q203 : (Jvm.Cond.fieldLink "java/lang/Throwable" (13 : Nat) "java/lang/Throwable" "UNASSIGNED_STACK" "[Ljava/lang/StackTraceElement;") ∈ lw_all := lw_g (lw_at lw_m1 70 rfl) rfl
theorem q204 : (Jvm.Cond.laysStatic "java/lang/Throwable" "UNASSIGNED_STACK" "[Ljava/lang/StackTraceElement;") ∈ lw_tbl := lw_at lw_m1 71 rfl
theorem q205 : (Jvm.Cond.fieldLink "java/lang/Throwable" (20 : Nat) "java/lang/Throwable" "SUPPRESSED_SENTINEL" "Ljava/util/List;") ∈ lw_all := lw_g (lw_at lw_m1 72 rfl) rfl
theorem q206 : (Jvm.Cond.laysStatic "java/lang/Throwable" "SUPPRESSED_SENTINEL" "Ljava/util/List;") ∈ lw_tbl := lw_at lw_m1 73 rfl
theorem q207 : (Jvm.Cond.methodLink "java/lang/Throwable" (27 : Nat) ({ cls := "java/lang/Throwable", name := "fillInStackTrace", desc := "()Ljava/lang/Throwable;" } : Jvm.MethodName)) ∈ lw_all := lw_g (lw_at lw_m1 74 rfl) rfl
theorem q208 : (Jvm.Cond.instanceMethod ({ cls := "java/lang/Throwable", name := "fillInStackTrace", desc := "()Ljava/lang/Throwable;" } : Jvm.MethodName)) ∈ lw_all := lw_g (lw_at lw_m1 75 rfl) rfl
theorem q209 : (Jvm.Cond.sameMethod "java/lang/Throwable" "java/lang/Throwable" "fillInStackTrace" "()Ljava/lang/Throwable;") ∈ lw_all := lw_g (lw_at lw_m1 76 rfl) rfl
theorem q222 : (Jvm.Cond.declares ({ cls := "java/lang/Throwable", name := "fillInStackTrace", desc := "()Ljava/lang/Throwable;" } : Jvm.MethodName)) ∈ lw_tbl := lw_at lw_m1 89 rfl
theorem q226 : (Jvm.Cond.codeSync ({ cls := "java/lang/Throwable", name := "fillInStackTrace", desc := "()Ljava/lang/Throwable;" } : Jvm.MethodName) prog_29_method_18_code (1 : Nat) (Option.some (Jvm.ClassFile.FieldType.object "java/lang/Throwable"))) ∈ lw_all := lw_g (lw_at lw_m1 93 rfl) rfl
theorem q227 : (Jvm.Cond.methodLink "java/lang/Throwable" (202 : Nat) ({ cls := "java/lang/Throwable", name := "fillInStackTrace", desc := "(I)Ljava/lang/Throwable;" } : Jvm.MethodName)) ∈ lw_all := lw_g (lw_at lw_m1 94 rfl) rfl
theorem q228 : (Jvm.Cond.privateMethod ({ cls := "java/lang/Throwable", name := "fillInStackTrace", desc := "(I)Ljava/lang/Throwable;" } : Jvm.MethodName)) ∈ lw_tbl := lw_at lw_m1 95 rfl
theorem q229 : (Jvm.Cond.instanceMethod ({ cls := "java/lang/Throwable", name := "fillInStackTrace", desc := "(I)Ljava/lang/Throwable;" } : Jvm.MethodName)) ∈ lw_all := lw_g (lw_at lw_m1 96 rfl) rfl
theorem q230 : (Jvm.Cond.instantiable "java/lang/Throwable" (6 : Nat)) ∈ lw_all := lw_g (lw_at lw_m1 97 rfl) rfl
theorem q231 : (Jvm.Cond.native ({ cls := "java/lang/Throwable", name := "fillInStackTrace", desc := "(I)Ljava/lang/Throwable;" } : Jvm.MethodName)) ∈ lw_all := lw_g (lw_at lw_m1 98 rfl) rfl
theorem q242 : (Jvm.Cond.instanceMethod ({ cls := "java/lang/Throwable", name := "<init>", desc := "(Ljava/lang/String;Ljava/lang/Throwable;ZZ)V" } : Jvm.MethodName)) ∈ lw_all := lw_g (lw_at lw_m1 109 rfl) rfl
theorem q243 : (Jvm.Cond.code ({ cls := "java/lang/Throwable", name := "<init>", desc := "(Ljava/lang/String;Ljava/lang/Throwable;ZZ)V" } : Jvm.MethodName) prog_29_method_5_code (5 : Nat) (Option.none : Option Jvm.ClassFile.FieldType)) ∈ lw_all := lw_g (lw_at lw_m1 110 rfl) rfl
theorem q248 : (Jvm.Cond.fieldLink "java/lang/Throwable" (198 : Nat) "java/lang/Throwable" "backtrace" "Ljava/lang/Object;") ∈ lw_all := lw_g (lw_at lw_m1 115 rfl) rfl
theorem q249 : (Jvm.Cond.fieldLink "java/lang/Throwable" (31 : Nat) "java/lang/Throwable" "detailMessage" "Ljava/lang/String;") ∈ lw_all := lw_g (lw_at lw_m1 116 rfl) rfl
theorem q250 : (Jvm.Cond.fieldLink "java/lang/Throwable" (7 : Nat) "java/lang/Throwable" "cause" "Ljava/lang/Throwable;") ∈ lw_all := lw_g (lw_at lw_m1 117 rfl) rfl
theorem q251 : (Jvm.Cond.fieldLink "java/lang/Throwable" (17 : Nat) "java/lang/Throwable" "stackTrace" "[Ljava/lang/StackTraceElement;") ∈ lw_all := lw_g (lw_at lw_m1 118 rfl) rfl
theorem q252 : (Jvm.Cond.fieldLink "java/lang/Throwable" (24 : Nat) "java/lang/Throwable" "suppressedExceptions" "Ljava/util/List;") ∈ lw_all := lw_g (lw_at lw_m1 119 rfl) rfl
theorem q257 : (Jvm.Cond.soleField "java/lang/Throwable" "backtrace") ∈ lw_all := lw_g (lw_at lw_m1 124 rfl) rfl
theorem q258 : (Jvm.Cond.soleField "java/lang/Throwable" "detailMessage") ∈ lw_all := lw_g (lw_at lw_m1 125 rfl) rfl
theorem q259 : (Jvm.Cond.soleField "java/lang/Throwable" "cause") ∈ lw_all := lw_g (lw_at lw_m1 126 rfl) rfl
theorem q260 : (Jvm.Cond.soleField "java/lang/Throwable" "stackTrace") ∈ lw_all := lw_g (lw_at lw_m1 127 rfl) rfl
theorem q262 : (Jvm.Cond.soleField "java/lang/Throwable" "depth") ∈ lw_all := lw_g (lw_at lw_m1 129 rfl) rfl
theorem q263 : (Jvm.Cond.soleField "java/lang/Throwable" "suppressedExceptions") ∈ lw_all := lw_g (lw_at lw_m1 130 rfl) rfl
theorem q532 : (Jvm.Cond.instanceMethod ({ cls := "java/lang/Throwable", name := "<init>", desc := "(Ljava/lang/String;)V" } : Jvm.MethodName)) ∈ lw_all := lw_g (lw_at lw_m2 159 rfl) rfl
theorem q533 : (Jvm.Cond.code ({ cls := "java/lang/Throwable", name := "<init>", desc := "(Ljava/lang/String;)V" } : Jvm.MethodName) prog_29_method_2_code (2 : Nat) (Option.none : Option Jvm.ClassFile.FieldType)) ∈ lw_all := lw_g (lw_at lw_m2 160 rfl) rfl
theorem q2306 : (Jvm.Cond.sameMethod "java/lang/Throwable" "java/lang/Throwable" "fillInStackTrace" "(I)Ljava/lang/Throwable;") ∈ lw_all := lw_g (lw_at lw_m10 13 rfl) rfl
theorem in_J0 : ∀ w ∈ wsJ00, w ∈ lw_all := lw_in wsJ00 [189, 191, 193, 195, 197] (by decide +kernel) (by decide +kernel)

/-! java/lang/Exception -/
set_option maxRecDepth 100000
def RJ1 : String := "java/lang/Exception"
abbrev cJ1_init : ByteArray := prog_18_method_5_code
def yJ1_init : MethodName := ⟨RJ1, "<init>", "(Ljava/lang/String;Ljava/lang/Throwable;ZZ)V"⟩
def dkwJ1_init_0 : List UInt8 := [42, 43, 44, 29, 21, 4, 183, 0, 16, 177]
abbrev dktJ1_init_0 : List UInt8 := dkwJ1_init_0 ++ []
theorem dksJ1_init_0 : cJ1_init.data.toList.drop 0 = dktJ1_init_0 := by decide +kernel
theorem dJ1_init_0 : decode cJ1_init 0 = .ok (.aload_n 0, 1) := dk_42 (dk_at dksJ1_init_0 0 rfl rfl)
theorem dJ1_init_1 : decode cJ1_init 1 = .ok (.aload_n 1, 1) := dk_43 (dk_at dksJ1_init_0 1 rfl rfl)
theorem dJ1_init_2 : decode cJ1_init 2 = .ok (.aload_n 2, 1) := dk_44 (dk_at dksJ1_init_0 2 rfl rfl)
theorem dJ1_init_3 : decode cJ1_init 3 = .ok (.iload_n 3, 1) := dk_29 (dk_at dksJ1_init_0 3 rfl rfl)
theorem dJ1_init_4 : decode cJ1_init 4 = .ok (.iload 4, 2) := dk_21 4 (dk_at dksJ1_init_0 4 rfl rfl)
theorem dJ1_init_6 : decode cJ1_init 6 = .ok (.invokespecial 16, 3) := dk_183 0 16 (dk_at dksJ1_init_0 6 rfl rfl)
theorem dJ1_init_9 : decode cJ1_init 9 = .ok (.return_, 1) := dk_177 (dk_at dksJ1_init_0 9 rfl rfl)
abbrev cJ1_init_2 : ByteArray := prog_18_method_2_code
def yJ1_init_2 : MethodName := ⟨RJ1, "<init>", "(Ljava/lang/String;)V"⟩
def dkwJ1_init_2_0 : List UInt8 := [42, 43, 183, 0, 7, 177]
abbrev dktJ1_init_2_0 : List UInt8 := dkwJ1_init_2_0 ++ []
theorem dksJ1_init_2_0 : cJ1_init_2.data.toList.drop 0 = dktJ1_init_2_0 := by decide +kernel
theorem dJ1_init_2_0 : decode cJ1_init_2 0 = .ok (.aload_n 0, 1) := dk_42 (dk_at dksJ1_init_2_0 0 rfl rfl)
theorem dJ1_init_2_1 : decode cJ1_init_2 1 = .ok (.aload_n 1, 1) := dk_43 (dk_at dksJ1_init_2_0 1 rfl rfl)
theorem dJ1_init_2_2 : decode cJ1_init_2 2 = .ok (.invokespecial 7, 3) := dk_183 0 7 (dk_at dksJ1_init_2_0 2 rfl rfl)
theorem dJ1_init_2_5 : decode cJ1_init_2 5 = .ok (.return_, 1) := dk_177 (dk_at dksJ1_init_2_0 5 rfl rfl)
abbrev cJ1_init_3 : ByteArray := prog_18_method_1_code
def yJ1_init_3 : MethodName := ⟨RJ1, "<init>", "()V"⟩
theorem dJ1_init_3_0 : decode cJ1_init_3 0 = .ok (.aload_n 0, 1) := by decide +kernel
theorem dJ1_init_3_1 : decode cJ1_init_3 1 = .ok (.invokespecial 1, 3) := by decide +kernel
theorem dJ1_init_3_4 : decode cJ1_init_3 4 = .ok (.return_, 1) := by decide +kernel
theorem q138 : (Jvm.Cond.initialized "java/lang/Exception") ∈ lw_all := lw_g (lw_at lw_m1 5 rfl) rfl
theorem q182 : (Jvm.Cond.declares ({ cls := "java/lang/Exception", name := "<init>", desc := "()V" } : Jvm.MethodName)) ∈ lw_tbl := lw_at lw_m1 49 rfl
theorem q183 : (Jvm.Cond.declares ({ cls := "java/lang/Exception", name := "<init>", desc := "(Ljava/lang/String;)V" } : Jvm.MethodName)) ∈ lw_tbl := lw_at lw_m1 50 rfl
theorem q225 : (Jvm.Cond.superclass "java/lang/Exception" "java/lang/Throwable") ∈ lw_all := lw_g (lw_at lw_m1 92 rfl) rfl
theorem q239 : (Jvm.Cond.instanceMethod ({ cls := "java/lang/Exception", name := "<init>", desc := "(Ljava/lang/String;Ljava/lang/Throwable;ZZ)V" } : Jvm.MethodName)) ∈ lw_all := lw_g (lw_at lw_m1 106 rfl) rfl
theorem q240 : (Jvm.Cond.code ({ cls := "java/lang/Exception", name := "<init>", desc := "(Ljava/lang/String;Ljava/lang/Throwable;ZZ)V" } : Jvm.MethodName) prog_18_method_5_code (5 : Nat) (Option.none : Option Jvm.ClassFile.FieldType)) ∈ lw_all := lw_g (lw_at lw_m1 107 rfl) rfl
theorem q241 : (Jvm.Cond.methodLink "java/lang/Exception" (16 : Nat) ({ cls := "java/lang/Throwable", name := "<init>", desc := "(Ljava/lang/String;Ljava/lang/Throwable;ZZ)V" } : Jvm.MethodName)) ∈ lw_all := lw_g (lw_at lw_m1 108 rfl) rfl
theorem q529 : (Jvm.Cond.instanceMethod ({ cls := "java/lang/Exception", name := "<init>", desc := "(Ljava/lang/String;)V" } : Jvm.MethodName)) ∈ lw_all := lw_g (lw_at lw_m2 156 rfl) rfl
theorem q530 : (Jvm.Cond.code ({ cls := "java/lang/Exception", name := "<init>", desc := "(Ljava/lang/String;)V" } : Jvm.MethodName) prog_18_method_2_code (2 : Nat) (Option.none : Option Jvm.ClassFile.FieldType)) ∈ lw_all := lw_g (lw_at lw_m2 157 rfl) rfl
theorem q531 : (Jvm.Cond.methodLink "java/lang/Exception" (7 : Nat) ({ cls := "java/lang/Throwable", name := "<init>", desc := "(Ljava/lang/String;)V" } : Jvm.MethodName)) ∈ lw_all := lw_g (lw_at lw_m2 158 rfl) rfl
theorem q571 : (Jvm.Cond.instanceMethod ({ cls := "java/lang/Exception", name := "<init>", desc := "()V" } : Jvm.MethodName)) ∈ lw_all := lw_g (lw_at lw_m2 198 rfl) rfl
theorem q572 : (Jvm.Cond.code ({ cls := "java/lang/Exception", name := "<init>", desc := "()V" } : Jvm.MethodName) prog_18_method_1_code (1 : Nat) (Option.none : Option Jvm.ClassFile.FieldType)) ∈ lw_all := lw_g (lw_at lw_m2 199 rfl) rfl
theorem q573 : (Jvm.Cond.methodLink "java/lang/Exception" (1 : Nat) ({ cls := "java/lang/Throwable", name := "<init>", desc := "()V" } : Jvm.MethodName)) ∈ lw_all := lw_g (lw_at lw_m2 200 rfl) rfl

/-! jdk/internal/util/Preconditions -/
set_option maxRecDepth 100000
def RJ10 : String := "jdk/internal/util/Preconditions"
abbrev cJ10_checkIndex : ByteArray := prog_30_method_11_code
def yJ10_checkIndex : MethodName := ⟨RJ10, "checkIndex", "(IILjava/util/function/BiFunction;)I"⟩
def dkwJ10_checkIndex_0 : List UInt8 := [26, 155, 0, 8, 26, 27, 161, 0, 10, 44, 26, 27, 184, 0, 95, 191, 26, 172]
abbrev dktJ10_checkIndex_0 : List UInt8 := dkwJ10_checkIndex_0 ++ []
theorem dksJ10_checkIndex_0 : cJ10_checkIndex.data.toList.drop 0 = dktJ10_checkIndex_0 := by decide +kernel
theorem dJ10_checkIndex_0 : decode cJ10_checkIndex 0 = .ok (.iload_n 0, 1) := dk_26 (dk_at dksJ10_checkIndex_0 0 rfl rfl)
theorem dJ10_checkIndex_1 : decode cJ10_checkIndex 1 = .ok (.ifCond .lt 8, 3) := dk_155 0 8 (dk_at dksJ10_checkIndex_0 1 rfl rfl)
theorem dJ10_checkIndex_4 : decode cJ10_checkIndex 4 = .ok (.iload_n 0, 1) := dk_26 (dk_at dksJ10_checkIndex_0 4 rfl rfl)
theorem dJ10_checkIndex_5 : decode cJ10_checkIndex 5 = .ok (.iload_n 1, 1) := dk_27 (dk_at dksJ10_checkIndex_0 5 rfl rfl)
theorem dJ10_checkIndex_6 : decode cJ10_checkIndex 6 = .ok (.if_icmp .lt 10, 3) := dk_161 0 10 (dk_at dksJ10_checkIndex_0 6 rfl rfl)
theorem dJ10_checkIndex_9 : decode cJ10_checkIndex 9 = .ok (.aload_n 2, 1) := dk_44 (dk_at dksJ10_checkIndex_0 9 rfl rfl)
theorem dJ10_checkIndex_10 : decode cJ10_checkIndex 10 = .ok (.iload_n 0, 1) := dk_26 (dk_at dksJ10_checkIndex_0 10 rfl rfl)
theorem dJ10_checkIndex_11 : decode cJ10_checkIndex 11 = .ok (.iload_n 1, 1) := dk_27 (dk_at dksJ10_checkIndex_0 11 rfl rfl)
theorem dJ10_checkIndex_12 : decode cJ10_checkIndex 12 = .ok (.invokestatic 95, 3) := dk_184 0 95 (dk_at dksJ10_checkIndex_0 12 rfl rfl)
theorem dJ10_checkIndex_15 : decode cJ10_checkIndex 15 = .ok (.athrow, 1) := dk_191 (dk_at dksJ10_checkIndex_0 15 rfl rfl)
theorem dJ10_checkIndex_16 : decode cJ10_checkIndex 16 = .ok (.iload_n 0, 1) := dk_26 (dk_at dksJ10_checkIndex_0 16 rfl rfl)
theorem dJ10_checkIndex_17 : decode cJ10_checkIndex 17 = .ok (.ireturn, 1) := dk_172 (dk_at dksJ10_checkIndex_0 17 rfl rfl)
theorem q152 : (Jvm.Cond.initialized "jdk/internal/util/Preconditions") ∈ lw_all := lw_g (lw_at lw_m1 19 rfl) rfl
theorem q713 : (Jvm.Cond.laysStatic "jdk/internal/util/Preconditions" "SIOOBE_FORMATTER" "Ljava/util/function/BiFunction;") ∈ lw_tbl := lw_at lw_m3 100 rfl
theorem q715 : (Jvm.Cond.static ({ cls := "jdk/internal/util/Preconditions", name := "checkIndex", desc := "(IILjava/util/function/BiFunction;)I" } : Jvm.MethodName)) ∈ lw_all := lw_g (lw_at lw_m3 102 rfl) rfl
theorem q716 : (Jvm.Cond.code ({ cls := "jdk/internal/util/Preconditions", name := "checkIndex", desc := "(IILjava/util/function/BiFunction;)I" } : Jvm.MethodName) prog_30_method_11_code (3 : Nat) (Option.some Jvm.ClassFile.FieldType.int)) ∈ lw_all := lw_g (lw_at lw_m3 103 rfl) rfl

/-! java/lang/StringUTF16 -/
set_option maxRecDepth 100000
def RJ11 : String := "java/lang/StringUTF16"
abbrev cJ11_charAt : ByteArray := prog_27_method_83_code
def yJ11_charAt : MethodName := ⟨RJ11, "charAt", "([BI)C"⟩
def dkwJ11_charAt_0 : List UInt8 := [27, 42, 184, 0, 67, 42, 27, 184, 0, 71, 172]
abbrev dktJ11_charAt_0 : List UInt8 := dkwJ11_charAt_0 ++ []
theorem dksJ11_charAt_0 : cJ11_charAt.data.toList.drop 0 = dktJ11_charAt_0 := by decide +kernel
theorem dJ11_charAt_0 : decode cJ11_charAt 0 = .ok (.iload_n 1, 1) := dk_27 (dk_at dksJ11_charAt_0 0 rfl rfl)
theorem dJ11_charAt_1 : decode cJ11_charAt 1 = .ok (.aload_n 0, 1) := dk_42 (dk_at dksJ11_charAt_0 1 rfl rfl)
theorem dJ11_charAt_2 : decode cJ11_charAt 2 = .ok (.invokestatic 67, 3) := dk_184 0 67 (dk_at dksJ11_charAt_0 2 rfl rfl)
theorem dJ11_charAt_5 : decode cJ11_charAt 5 = .ok (.aload_n 0, 1) := dk_42 (dk_at dksJ11_charAt_0 5 rfl rfl)
theorem dJ11_charAt_6 : decode cJ11_charAt 6 = .ok (.iload_n 1, 1) := dk_27 (dk_at dksJ11_charAt_0 6 rfl rfl)
theorem dJ11_charAt_7 : decode cJ11_charAt 7 = .ok (.invokestatic 71, 3) := dk_184 0 71 (dk_at dksJ11_charAt_0 7 rfl rfl)
theorem dJ11_charAt_10 : decode cJ11_charAt 10 = .ok (.ireturn, 1) := dk_172 (dk_at dksJ11_charAt_0 10 rfl rfl)
abbrev cJ11_checkIndex : ByteArray := prog_27_method_91_code
def yJ11_checkIndex : MethodName := ⟨RJ11, "checkIndex", "(I[B)V"⟩
def dkwJ11_checkIndex_0 : List UInt8 := [26, 43, 184, 0, 48, 184, 1, 158, 177]
abbrev dktJ11_checkIndex_0 : List UInt8 := dkwJ11_checkIndex_0 ++ []
theorem dksJ11_checkIndex_0 : cJ11_checkIndex.data.toList.drop 0 = dktJ11_checkIndex_0 := by decide +kernel
theorem dJ11_checkIndex_0 : decode cJ11_checkIndex 0 = .ok (.iload_n 0, 1) := dk_26 (dk_at dksJ11_checkIndex_0 0 rfl rfl)
theorem dJ11_checkIndex_1 : decode cJ11_checkIndex 1 = .ok (.aload_n 1, 1) := dk_43 (dk_at dksJ11_checkIndex_0 1 rfl rfl)
theorem dJ11_checkIndex_2 : decode cJ11_checkIndex 2 = .ok (.invokestatic 48, 3) := dk_184 0 48 (dk_at dksJ11_checkIndex_0 2 rfl rfl)
theorem dJ11_checkIndex_5 : decode cJ11_checkIndex 5 = .ok (.invokestatic 414, 3) := dk_184 1 158 (dk_at dksJ11_checkIndex_0 5 rfl rfl)
theorem dJ11_checkIndex_8 : decode cJ11_checkIndex 8 = .ok (.return_, 1) := dk_177 (dk_at dksJ11_checkIndex_0 8 rfl rfl)
abbrev cJ11_length : ByteArray := prog_27_method_6_code
def yJ11_length : MethodName := ⟨RJ11, "length", "([B)I"⟩
def dkwJ11_length_0 : List UInt8 := [42, 190, 4, 122, 172]
abbrev dktJ11_length_0 : List UInt8 := dkwJ11_length_0 ++ []
theorem dksJ11_length_0 : cJ11_length.data.toList.drop 0 = dktJ11_length_0 := by decide +kernel
theorem dJ11_length_0 : decode cJ11_length 0 = .ok (.aload_n 0, 1) := dk_42 (dk_at dksJ11_length_0 0 rfl rfl)
theorem dJ11_length_1 : decode cJ11_length 1 = .ok (.arraylength, 1) := dk_190 (dk_at dksJ11_length_0 1 rfl rfl)
theorem dJ11_length_2 : decode cJ11_length 2 = .ok (.iconst 1, 1) := dk_4 (dk_at dksJ11_length_0 2 rfl rfl)
theorem dJ11_length_3 : decode cJ11_length 3 = .ok (.ishr, 1) := dk_122 (dk_at dksJ11_length_0 3 rfl rfl)
theorem dJ11_length_4 : decode cJ11_length 4 = .ok (.ireturn, 1) := dk_172 (dk_at dksJ11_length_0 4 rfl rfl)
abbrev cJ11_getChar : ByteArray := prog_27_method_5_code
def yJ11_getChar : MethodName := ⟨RJ11, "getChar", "([BI)C"⟩
def dkwJ11_getChar_2 : List UInt8 := [51, 17, 0, 255, 126, 178, 0, 63, 120, 128, 146, 172]
abbrev dktJ11_getChar_2 : List UInt8 := dkwJ11_getChar_2 ++ []
def dkwJ11_getChar_1 : List UInt8 := [183, 0, 56, 191, 27, 4, 120, 60, 42, 27, 132, 1, 1, 51, 17, 0, 255, 126, 178, 0, 59, 120, 42, 27]
abbrev dktJ11_getChar_1 : List UInt8 := dkwJ11_getChar_1 ++ dktJ11_getChar_2
def dkwJ11_getChar_0 : List UInt8 := [178, 0, 44, 154, 0, 25, 27, 155, 0, 11, 27, 42, 184, 0, 48, 161, 0, 13, 187, 0, 52, 89, 18, 54]
abbrev dktJ11_getChar_0 : List UInt8 := dkwJ11_getChar_0 ++ dktJ11_getChar_1
theorem dksJ11_getChar_0 : cJ11_getChar.data.toList.drop 0 = dktJ11_getChar_0 := by decide +kernel
theorem dksJ11_getChar_1 : cJ11_getChar.data.toList.drop 24 = dktJ11_getChar_1 := dk_seg dksJ11_getChar_0 24 rfl rfl
theorem dksJ11_getChar_2 : cJ11_getChar.data.toList.drop 48 = dktJ11_getChar_2 := dk_seg dksJ11_getChar_1 24 rfl rfl
theorem dJ11_getChar_0 : decode cJ11_getChar 0 = .ok (.getstatic 44, 3) := dk_178 0 44 (dk_at dksJ11_getChar_0 0 rfl rfl)
theorem dJ11_getChar_3 : decode cJ11_getChar 3 = .ok (.ifCond .ne 25, 3) := dk_154 0 25 (dk_at dksJ11_getChar_0 3 rfl rfl)
theorem dJ11_getChar_6 : decode cJ11_getChar 6 = .ok (.iload_n 1, 1) := dk_27 (dk_at dksJ11_getChar_0 6 rfl rfl)
theorem dJ11_getChar_7 : decode cJ11_getChar 7 = .ok (.ifCond .lt 11, 3) := dk_155 0 11 (dk_at dksJ11_getChar_0 7 rfl rfl)
theorem dJ11_getChar_10 : decode cJ11_getChar 10 = .ok (.iload_n 1, 1) := dk_27 (dk_at dksJ11_getChar_0 10 rfl rfl)
theorem dJ11_getChar_11 : decode cJ11_getChar 11 = .ok (.aload_n 0, 1) := dk_42 (dk_at dksJ11_getChar_0 11 rfl rfl)
theorem dJ11_getChar_12 : decode cJ11_getChar 12 = .ok (.invokestatic 48, 3) := dk_184 0 48 (dk_at dksJ11_getChar_0 12 rfl rfl)
theorem dJ11_getChar_15 : decode cJ11_getChar 15 = .ok (.if_icmp .lt 13, 3) := dk_161 0 13 (dk_at dksJ11_getChar_0 15 rfl rfl)
theorem dJ11_getChar_18 : decode cJ11_getChar 18 = .ok (.new 52, 3) := dk_187 0 52 (dk_at dksJ11_getChar_0 18 rfl rfl)
theorem dJ11_getChar_21 : decode cJ11_getChar 21 = .ok (.dup, 1) := dk_89 (dk_at dksJ11_getChar_0 21 rfl rfl)
theorem dJ11_getChar_22 : decode cJ11_getChar 22 = .ok (.ldc 54, 2) := dk_18 54 (dk_at dksJ11_getChar_0 22 rfl rfl)
theorem dJ11_getChar_24 : decode cJ11_getChar 24 = .ok (.invokespecial 56, 3) := dk_183 0 56 (dk_at dksJ11_getChar_1 0 rfl rfl)
theorem dJ11_getChar_27 : decode cJ11_getChar 27 = .ok (.athrow, 1) := dk_191 (dk_at dksJ11_getChar_1 3 rfl rfl)
theorem dJ11_getChar_28 : decode cJ11_getChar 28 = .ok (.iload_n 1, 1) := dk_27 (dk_at dksJ11_getChar_1 4 rfl rfl)
theorem dJ11_getChar_29 : decode cJ11_getChar 29 = .ok (.iconst 1, 1) := dk_4 (dk_at dksJ11_getChar_1 5 rfl rfl)
theorem dJ11_getChar_30 : decode cJ11_getChar 30 = .ok (.ishl, 1) := dk_120 (dk_at dksJ11_getChar_1 6 rfl rfl)
theorem dJ11_getChar_31 : decode cJ11_getChar 31 = .ok (.istore_n 1, 1) := dk_60 (dk_at dksJ11_getChar_1 7 rfl rfl)
theorem dJ11_getChar_32 : decode cJ11_getChar 32 = .ok (.aload_n 0, 1) := dk_42 (dk_at dksJ11_getChar_1 8 rfl rfl)
theorem dJ11_getChar_33 : decode cJ11_getChar 33 = .ok (.iload_n 1, 1) := dk_27 (dk_at dksJ11_getChar_1 9 rfl rfl)
theorem dJ11_getChar_34 : decode cJ11_getChar 34 = .ok (.iinc 1 1, 3) := dk_132 1 1 (dk_at dksJ11_getChar_1 10 rfl rfl)
theorem dJ11_getChar_37 : decode cJ11_getChar 37 = .ok (.baload, 1) := dk_51 (dk_at dksJ11_getChar_1 13 rfl rfl)
theorem dJ11_getChar_38 : decode cJ11_getChar 38 = .ok (.sipush 255, 3) := dk_17 0 255 (dk_at dksJ11_getChar_1 14 rfl rfl)
theorem dJ11_getChar_41 : decode cJ11_getChar 41 = .ok (.iand, 1) := dk_126 (dk_at dksJ11_getChar_1 17 rfl rfl)
theorem dJ11_getChar_42 : decode cJ11_getChar 42 = .ok (.getstatic 59, 3) := dk_178 0 59 (dk_at dksJ11_getChar_1 18 rfl rfl)
theorem dJ11_getChar_45 : decode cJ11_getChar 45 = .ok (.ishl, 1) := dk_120 (dk_at dksJ11_getChar_1 21 rfl rfl)
theorem dJ11_getChar_46 : decode cJ11_getChar 46 = .ok (.aload_n 0, 1) := dk_42 (dk_at dksJ11_getChar_1 22 rfl rfl)
theorem dJ11_getChar_47 : decode cJ11_getChar 47 = .ok (.iload_n 1, 1) := dk_27 (dk_at dksJ11_getChar_1 23 rfl rfl)
theorem dJ11_getChar_48 : decode cJ11_getChar 48 = .ok (.baload, 1) := dk_51 (dk_at dksJ11_getChar_2 0 rfl rfl)
theorem dJ11_getChar_49 : decode cJ11_getChar 49 = .ok (.sipush 255, 3) := dk_17 0 255 (dk_at dksJ11_getChar_2 1 rfl rfl)
theorem dJ11_getChar_52 : decode cJ11_getChar 52 = .ok (.iand, 1) := dk_126 (dk_at dksJ11_getChar_2 4 rfl rfl)
theorem dJ11_getChar_53 : decode cJ11_getChar 53 = .ok (.getstatic 63, 3) := dk_178 0 63 (dk_at dksJ11_getChar_2 5 rfl rfl)
theorem dJ11_getChar_56 : decode cJ11_getChar 56 = .ok (.ishl, 1) := dk_120 (dk_at dksJ11_getChar_2 8 rfl rfl)
theorem dJ11_getChar_57 : decode cJ11_getChar 57 = .ok (.ior, 1) := dk_128 (dk_at dksJ11_getChar_2 9 rfl rfl)
theorem dJ11_getChar_58 : decode cJ11_getChar 58 = .ok (.i2c, 1) := dk_146 (dk_at dksJ11_getChar_2 10 rfl rfl)
theorem dJ11_getChar_59 : decode cJ11_getChar 59 = .ok (.ireturn, 1) := dk_172 (dk_at dksJ11_getChar_2 11 rfl rfl)
theorem q153 : (Jvm.Cond.initialized "java/lang/StringUTF16") ∈ lw_all := lw_g (lw_at lw_m1 20 rfl) rfl
theorem q718 : (Jvm.Cond.static ({ cls := "java/lang/StringUTF16", name := "charAt", desc := "([BI)C" } : Jvm.MethodName)) ∈ lw_all := lw_g (lw_at lw_m3 105 rfl) rfl
theorem q719 : (Jvm.Cond.code ({ cls := "java/lang/StringUTF16", name := "charAt", desc := "([BI)C" } : Jvm.MethodName) prog_27_method_83_code (2 : Nat) (Option.some Jvm.ClassFile.FieldType.char)) ∈ lw_all := lw_g (lw_at lw_m3 106 rfl) rfl
theorem q720 : (Jvm.Cond.methodLink "java/lang/StringUTF16" (67 : Nat) ({ cls := "java/lang/StringUTF16", name := "checkIndex", desc := "(I[B)V" } : Jvm.MethodName)) ∈ lw_all := lw_g (lw_at lw_m3 107 rfl) rfl
theorem q721 : (Jvm.Cond.static ({ cls := "java/lang/StringUTF16", name := "checkIndex", desc := "(I[B)V" } : Jvm.MethodName)) ∈ lw_all := lw_g (lw_at lw_m3 108 rfl) rfl
theorem q722 : (Jvm.Cond.code ({ cls := "java/lang/StringUTF16", name := "checkIndex", desc := "(I[B)V" } : Jvm.MethodName) prog_27_method_91_code (2 : Nat) (Option.none : Option Jvm.ClassFile.FieldType)) ∈ lw_all := lw_g (lw_at lw_m3 109 rfl) rfl
theorem q723 : (Jvm.Cond.methodLink "java/lang/StringUTF16" (48 : Nat) ({ cls := "java/lang/StringUTF16", name := "length", desc := "([B)I" } : Jvm.MethodName)) ∈ lw_all := lw_g (lw_at lw_m3 110 rfl) rfl
theorem q724 : (Jvm.Cond.static ({ cls := "java/lang/StringUTF16", name := "length", desc := "([B)I" } : Jvm.MethodName)) ∈ lw_all := lw_g (lw_at lw_m3 111 rfl) rfl
theorem q725 : (Jvm.Cond.code ({ cls := "java/lang/StringUTF16", name := "length", desc := "([B)I" } : Jvm.MethodName) prog_27_method_6_code (1 : Nat) (Option.some Jvm.ClassFile.FieldType.int)) ∈ lw_all := lw_g (lw_at lw_m3 112 rfl) rfl
theorem q726 : (Jvm.Cond.methodLink "java/lang/StringUTF16" (414 : Nat) ({ cls := "java/lang/String", name := "checkIndex", desc := "(II)V" } : Jvm.MethodName)) ∈ lw_all := lw_g (lw_at lw_m3 113 rfl) rfl
theorem q727 : (Jvm.Cond.methodLink "java/lang/StringUTF16" (71 : Nat) ({ cls := "java/lang/StringUTF16", name := "getChar", desc := "([BI)C" } : Jvm.MethodName)) ∈ lw_all := lw_g (lw_at lw_m3 114 rfl) rfl
theorem q728 : (Jvm.Cond.static ({ cls := "java/lang/StringUTF16", name := "getChar", desc := "([BI)C" } : Jvm.MethodName)) ∈ lw_all := lw_g (lw_at lw_m3 115 rfl) rfl
theorem q729 : (Jvm.Cond.code ({ cls := "java/lang/StringUTF16", name := "getChar", desc := "([BI)C" } : Jvm.MethodName) prog_27_method_5_code (2 : Nat) (Option.some Jvm.ClassFile.FieldType.char)) ∈ lw_all := lw_g (lw_at lw_m3 116 rfl) rfl
theorem q730 : (Jvm.Cond.fieldLink "java/lang/StringUTF16" (44 : Nat) "java/lang/StringUTF16" "$assertionsDisabled" "Z") ∈ lw_all := lw_g (lw_at lw_m3 117 rfl) rfl
theorem q731 : (Jvm.Cond.laysStatic "java/lang/StringUTF16" "$assertionsDisabled" "Z") ∈ lw_tbl := lw_at lw_m3 118 rfl
theorem q732 : (Jvm.Cond.fieldLink "java/lang/StringUTF16" (59 : Nat) "java/lang/StringUTF16" "HI_BYTE_SHIFT" "I") ∈ lw_all := lw_g (lw_at lw_m3 119 rfl) rfl
theorem q733 : (Jvm.Cond.laysStatic "java/lang/StringUTF16" "HI_BYTE_SHIFT" "I") ∈ lw_tbl := lw_at lw_m3 120 rfl
theorem q734 : (Jvm.Cond.fieldLink "java/lang/StringUTF16" (63 : Nat) "java/lang/StringUTF16" "LO_BYTE_SHIFT" "I") ∈ lw_all := lw_g (lw_at lw_m3 121 rfl) rfl
theorem q735 : (Jvm.Cond.laysStatic "java/lang/StringUTF16" "LO_BYTE_SHIFT" "I") ∈ lw_tbl := lw_at lw_m3 122 rfl

/-! java/lang/Integer -/
set_option maxRecDepth 100000
def RJ12 : String := "java/lang/Integer"
abbrev cJ12_bitCount : ByteArray := prog_20_method_49_code
def yJ12_bitCount : MethodName := ⟨RJ12, "bitCount", "(I)I"⟩
def dkwJ12_bitCount_2 : List UInt8 := [26, 16, 63, 126, 172]
abbrev dktJ12_bitCount_2 : List UInt8 := dkwJ12_bitCount_2 ++ []
def dkwJ12_bitCount_1 : List UInt8 := [26, 26, 7, 124, 96, 19, 1, 11, 126, 59, 26, 26, 16, 8, 124, 96, 59, 26, 26, 16, 16, 124, 96, 59]
abbrev dktJ12_bitCount_1 : List UInt8 := dkwJ12_bitCount_1 ++ dktJ12_bitCount_2
def dkwJ12_bitCount_0 : List UInt8 := [26, 26, 4, 124, 19, 1, 9, 126, 100, 59, 26, 19, 1, 10, 126, 26, 5, 124, 19, 1, 10, 126, 96, 59]
abbrev dktJ12_bitCount_0 : List UInt8 := dkwJ12_bitCount_0 ++ dktJ12_bitCount_1
theorem dksJ12_bitCount_0 : cJ12_bitCount.data.toList.drop 0 = dktJ12_bitCount_0 := by decide +kernel
theorem dksJ12_bitCount_1 : cJ12_bitCount.data.toList.drop 24 = dktJ12_bitCount_1 := dk_seg dksJ12_bitCount_0 24 rfl rfl
theorem dksJ12_bitCount_2 : cJ12_bitCount.data.toList.drop 48 = dktJ12_bitCount_2 := dk_seg dksJ12_bitCount_1 24 rfl rfl
theorem dJ12_bitCount_0 : decode cJ12_bitCount 0 = .ok (.iload_n 0, 1) := dk_26 (dk_at dksJ12_bitCount_0 0 rfl rfl)
theorem dJ12_bitCount_1 : decode cJ12_bitCount 1 = .ok (.iload_n 0, 1) := dk_26 (dk_at dksJ12_bitCount_0 1 rfl rfl)
theorem dJ12_bitCount_2 : decode cJ12_bitCount 2 = .ok (.iconst 1, 1) := dk_4 (dk_at dksJ12_bitCount_0 2 rfl rfl)
theorem dJ12_bitCount_3 : decode cJ12_bitCount 3 = .ok (.iushr, 1) := dk_124 (dk_at dksJ12_bitCount_0 3 rfl rfl)
theorem dJ12_bitCount_4 : decode cJ12_bitCount 4 = .ok (.ldc_w 265, 3) := dk_19 1 9 (dk_at dksJ12_bitCount_0 4 rfl rfl)
theorem dJ12_bitCount_7 : decode cJ12_bitCount 7 = .ok (.iand, 1) := dk_126 (dk_at dksJ12_bitCount_0 7 rfl rfl)
theorem dJ12_bitCount_8 : decode cJ12_bitCount 8 = .ok (.isub, 1) := dk_100 (dk_at dksJ12_bitCount_0 8 rfl rfl)
theorem dJ12_bitCount_9 : decode cJ12_bitCount 9 = .ok (.istore_n 0, 1) := dk_59 (dk_at dksJ12_bitCount_0 9 rfl rfl)
theorem dJ12_bitCount_10 : decode cJ12_bitCount 10 = .ok (.iload_n 0, 1) := dk_26 (dk_at dksJ12_bitCount_0 10 rfl rfl)
theorem dJ12_bitCount_11 : decode cJ12_bitCount 11 = .ok (.ldc_w 266, 3) := dk_19 1 10 (dk_at dksJ12_bitCount_0 11 rfl rfl)
theorem dJ12_bitCount_14 : decode cJ12_bitCount 14 = .ok (.iand, 1) := dk_126 (dk_at dksJ12_bitCount_0 14 rfl rfl)
theorem dJ12_bitCount_15 : decode cJ12_bitCount 15 = .ok (.iload_n 0, 1) := dk_26 (dk_at dksJ12_bitCount_0 15 rfl rfl)
theorem dJ12_bitCount_16 : decode cJ12_bitCount 16 = .ok (.iconst 2, 1) := dk_5 (dk_at dksJ12_bitCount_0 16 rfl rfl)
theorem dJ12_bitCount_17 : decode cJ12_bitCount 17 = .ok (.iushr, 1) := dk_124 (dk_at dksJ12_bitCount_0 17 rfl rfl)
theorem dJ12_bitCount_18 : decode cJ12_bitCount 18 = .ok (.ldc_w 266, 3) := dk_19 1 10 (dk_at dksJ12_bitCount_0 18 rfl rfl)
theorem dJ12_bitCount_21 : decode cJ12_bitCount 21 = .ok (.iand, 1) := dk_126 (dk_at dksJ12_bitCount_0 21 rfl rfl)
theorem dJ12_bitCount_22 : decode cJ12_bitCount 22 = .ok (.iadd, 1) := dk_96 (dk_at dksJ12_bitCount_0 22 rfl rfl)
theorem dJ12_bitCount_23 : decode cJ12_bitCount 23 = .ok (.istore_n 0, 1) := dk_59 (dk_at dksJ12_bitCount_0 23 rfl rfl)
theorem dJ12_bitCount_24 : decode cJ12_bitCount 24 = .ok (.iload_n 0, 1) := dk_26 (dk_at dksJ12_bitCount_1 0 rfl rfl)
theorem dJ12_bitCount_25 : decode cJ12_bitCount 25 = .ok (.iload_n 0, 1) := dk_26 (dk_at dksJ12_bitCount_1 1 rfl rfl)
theorem dJ12_bitCount_26 : decode cJ12_bitCount 26 = .ok (.iconst 4, 1) := dk_7 (dk_at dksJ12_bitCount_1 2 rfl rfl)
theorem dJ12_bitCount_27 : decode cJ12_bitCount 27 = .ok (.iushr, 1) := dk_124 (dk_at dksJ12_bitCount_1 3 rfl rfl)
theorem dJ12_bitCount_28 : decode cJ12_bitCount 28 = .ok (.iadd, 1) := dk_96 (dk_at dksJ12_bitCount_1 4 rfl rfl)
theorem dJ12_bitCount_29 : decode cJ12_bitCount 29 = .ok (.ldc_w 267, 3) := dk_19 1 11 (dk_at dksJ12_bitCount_1 5 rfl rfl)
theorem dJ12_bitCount_32 : decode cJ12_bitCount 32 = .ok (.iand, 1) := dk_126 (dk_at dksJ12_bitCount_1 8 rfl rfl)
theorem dJ12_bitCount_33 : decode cJ12_bitCount 33 = .ok (.istore_n 0, 1) := dk_59 (dk_at dksJ12_bitCount_1 9 rfl rfl)
theorem dJ12_bitCount_34 : decode cJ12_bitCount 34 = .ok (.iload_n 0, 1) := dk_26 (dk_at dksJ12_bitCount_1 10 rfl rfl)
theorem dJ12_bitCount_35 : decode cJ12_bitCount 35 = .ok (.iload_n 0, 1) := dk_26 (dk_at dksJ12_bitCount_1 11 rfl rfl)
theorem dJ12_bitCount_36 : decode cJ12_bitCount 36 = .ok (.bipush 8, 2) := dk_16 8 (dk_at dksJ12_bitCount_1 12 rfl rfl)
theorem dJ12_bitCount_38 : decode cJ12_bitCount 38 = .ok (.iushr, 1) := dk_124 (dk_at dksJ12_bitCount_1 14 rfl rfl)
theorem dJ12_bitCount_39 : decode cJ12_bitCount 39 = .ok (.iadd, 1) := dk_96 (dk_at dksJ12_bitCount_1 15 rfl rfl)
theorem dJ12_bitCount_40 : decode cJ12_bitCount 40 = .ok (.istore_n 0, 1) := dk_59 (dk_at dksJ12_bitCount_1 16 rfl rfl)
theorem dJ12_bitCount_41 : decode cJ12_bitCount 41 = .ok (.iload_n 0, 1) := dk_26 (dk_at dksJ12_bitCount_1 17 rfl rfl)
theorem dJ12_bitCount_42 : decode cJ12_bitCount 42 = .ok (.iload_n 0, 1) := dk_26 (dk_at dksJ12_bitCount_1 18 rfl rfl)
theorem dJ12_bitCount_43 : decode cJ12_bitCount 43 = .ok (.bipush 16, 2) := dk_16 16 (dk_at dksJ12_bitCount_1 19 rfl rfl)
theorem dJ12_bitCount_45 : decode cJ12_bitCount 45 = .ok (.iushr, 1) := dk_124 (dk_at dksJ12_bitCount_1 21 rfl rfl)
theorem dJ12_bitCount_46 : decode cJ12_bitCount 46 = .ok (.iadd, 1) := dk_96 (dk_at dksJ12_bitCount_1 22 rfl rfl)
theorem dJ12_bitCount_47 : decode cJ12_bitCount 47 = .ok (.istore_n 0, 1) := dk_59 (dk_at dksJ12_bitCount_1 23 rfl rfl)
theorem dJ12_bitCount_48 : decode cJ12_bitCount 48 = .ok (.iload_n 0, 1) := dk_26 (dk_at dksJ12_bitCount_2 0 rfl rfl)
theorem dJ12_bitCount_49 : decode cJ12_bitCount 49 = .ok (.bipush 63, 2) := dk_16 63 (dk_at dksJ12_bitCount_2 1 rfl rfl)
theorem dJ12_bitCount_51 : decode cJ12_bitCount 51 = .ok (.iand, 1) := dk_126 (dk_at dksJ12_bitCount_2 3 rfl rfl)
theorem dJ12_bitCount_52 : decode cJ12_bitCount 52 = .ok (.ireturn, 1) := dk_172 (dk_at dksJ12_bitCount_2 4 rfl rfl)
theorem q161 : (Jvm.Cond.initialized "java/lang/Integer") ∈ lw_all := lw_g (lw_at lw_m1 28 rfl) rfl
theorem q1230 : (Jvm.Cond.static ({ cls := "java/lang/Integer", name := "bitCount", desc := "(I)I" } : Jvm.MethodName)) ∈ lw_all := lw_g (lw_at lw_m5 137 rfl) rfl
theorem q1231 : (Jvm.Cond.code ({ cls := "java/lang/Integer", name := "bitCount", desc := "(I)I" } : Jvm.MethodName) prog_20_method_49_code (1 : Nat) (Option.some Jvm.ClassFile.FieldType.int)) ∈ lw_all := lw_g (lw_at lw_m5 138 rfl) rfl
theorem q1232 : (Jvm.Cond.constant "java/lang/Integer" (265 : Nat) (1431655765 : Int32)) ∈ lw_all := lw_g (lw_at lw_m5 139 rfl) rfl
theorem q1233 : (Jvm.Cond.constant "java/lang/Integer" (266 : Nat) (858993459 : Int32)) ∈ lw_all := lw_g (lw_at lw_m5 140 rfl) rfl
theorem q1234 : (Jvm.Cond.constant "java/lang/Integer" (267 : Nat) (252645135 : Int32)) ∈ lw_all := lw_g (lw_at lw_m5 141 rfl) rfl

/-! java/lang/Object -/
set_option maxRecDepth 100000
def RJ13 : String := "java/lang/Object"
abbrev cJ13_init : ByteArray := object_method_1_code
def yJ13_init : MethodName := ⟨RJ13, "<init>", "()V"⟩
theorem dJ13_init_0 : decode cJ13_init 0 = .ok (.return_, 1) := by decide +kernel
theorem q169 : (Jvm.Cond.instanceMethod ({ cls := "java/lang/Object", name := "<init>", desc := "()V" } : Jvm.MethodName)) ∈ lw_all := lw_g (lw_at lw_m1 36 rfl) rfl
theorem q170 : (Jvm.Cond.code ({ cls := "java/lang/Object", name := "<init>", desc := "()V" } : Jvm.MethodName) object_method_1_code (1 : Nat) (Option.none : Option Jvm.ClassFile.FieldType)) ∈ lw_all := lw_g (lw_at lw_m1 37 rfl) rfl

/-! java/lang/RuntimeException -/
set_option maxRecDepth 100000
def RJ2 : String := "java/lang/RuntimeException"
abbrev cJ2_init : ByteArray := prog_24_method_5_code
def yJ2_init : MethodName := ⟨RJ2, "<init>", "(Ljava/lang/String;Ljava/lang/Throwable;ZZ)V"⟩
def dkwJ2_init_0 : List UInt8 := [42, 43, 44, 29, 21, 4, 183, 0, 16, 177]
abbrev dktJ2_init_0 : List UInt8 := dkwJ2_init_0 ++ []
theorem dksJ2_init_0 : cJ2_init.data.toList.drop 0 = dktJ2_init_0 := by decide +kernel
theorem dJ2_init_0 : decode cJ2_init 0 = .ok (.aload_n 0, 1) := dk_42 (dk_at dksJ2_init_0 0 rfl rfl)
theorem dJ2_init_1 : decode cJ2_init 1 = .ok (.aload_n 1, 1) := dk_43 (dk_at dksJ2_init_0 1 rfl rfl)
theorem dJ2_init_2 : decode cJ2_init 2 = .ok (.aload_n 2, 1) := dk_44 (dk_at dksJ2_init_0 2 rfl rfl)
theorem dJ2_init_3 : decode cJ2_init 3 = .ok (.iload_n 3, 1) := dk_29 (dk_at dksJ2_init_0 3 rfl rfl)
theorem dJ2_init_4 : decode cJ2_init 4 = .ok (.iload 4, 2) := dk_21 4 (dk_at dksJ2_init_0 4 rfl rfl)
theorem dJ2_init_6 : decode cJ2_init 6 = .ok (.invokespecial 16, 3) := dk_183 0 16 (dk_at dksJ2_init_0 6 rfl rfl)
theorem dJ2_init_9 : decode cJ2_init 9 = .ok (.return_, 1) := dk_177 (dk_at dksJ2_init_0 9 rfl rfl)
abbrev cJ2_init_2 : ByteArray := prog_24_method_2_code
def yJ2_init_2 : MethodName := ⟨RJ2, "<init>", "(Ljava/lang/String;)V"⟩
def dkwJ2_init_2_0 : List UInt8 := [42, 43, 183, 0, 7, 177]
abbrev dktJ2_init_2_0 : List UInt8 := dkwJ2_init_2_0 ++ []
theorem dksJ2_init_2_0 : cJ2_init_2.data.toList.drop 0 = dktJ2_init_2_0 := by decide +kernel
theorem dJ2_init_2_0 : decode cJ2_init_2 0 = .ok (.aload_n 0, 1) := dk_42 (dk_at dksJ2_init_2_0 0 rfl rfl)
theorem dJ2_init_2_1 : decode cJ2_init_2 1 = .ok (.aload_n 1, 1) := dk_43 (dk_at dksJ2_init_2_0 1 rfl rfl)
theorem dJ2_init_2_2 : decode cJ2_init_2 2 = .ok (.invokespecial 7, 3) := dk_183 0 7 (dk_at dksJ2_init_2_0 2 rfl rfl)
theorem dJ2_init_2_5 : decode cJ2_init_2 5 = .ok (.return_, 1) := dk_177 (dk_at dksJ2_init_2_0 5 rfl rfl)
abbrev cJ2_init_3 : ByteArray := prog_24_method_1_code
def yJ2_init_3 : MethodName := ⟨RJ2, "<init>", "()V"⟩
theorem dJ2_init_3_0 : decode cJ2_init_3 0 = .ok (.aload_n 0, 1) := by decide +kernel
theorem dJ2_init_3_1 : decode cJ2_init_3 1 = .ok (.invokespecial 1, 3) := by decide +kernel
theorem dJ2_init_3_4 : decode cJ2_init_3 4 = .ok (.return_, 1) := by decide +kernel
theorem q139 : (Jvm.Cond.initialized "java/lang/RuntimeException") ∈ lw_all := lw_g (lw_at lw_m1 6 rfl) rfl
theorem q180 : (Jvm.Cond.declares ({ cls := "java/lang/RuntimeException", name := "<init>", desc := "()V" } : Jvm.MethodName)) ∈ lw_tbl := lw_at lw_m1 47 rfl
theorem q181 : (Jvm.Cond.declares ({ cls := "java/lang/RuntimeException", name := "<init>", desc := "(Ljava/lang/String;)V" } : Jvm.MethodName)) ∈ lw_tbl := lw_at lw_m1 48 rfl
theorem q221 : (Jvm.Cond.sameMethod "java/lang/RuntimeException" "java/lang/Throwable" "fillInStackTrace" "()Ljava/lang/Throwable;") ∈ lw_all := lw_g (lw_at lw_m1 88 rfl) rfl
theorem q224 : (Jvm.Cond.superclass "java/lang/RuntimeException" "java/lang/Exception") ∈ lw_all := lw_g (lw_at lw_m1 91 rfl) rfl
theorem q236 : (Jvm.Cond.instanceMethod ({ cls := "java/lang/RuntimeException", name := "<init>", desc := "(Ljava/lang/String;Ljava/lang/Throwable;ZZ)V" } : Jvm.MethodName)) ∈ lw_all := lw_g (lw_at lw_m1 103 rfl) rfl
theorem q237 : (Jvm.Cond.code ({ cls := "java/lang/RuntimeException", name := "<init>", desc := "(Ljava/lang/String;Ljava/lang/Throwable;ZZ)V" } : Jvm.MethodName) prog_24_method_5_code (5 : Nat) (Option.none : Option Jvm.ClassFile.FieldType)) ∈ lw_all := lw_g (lw_at lw_m1 104 rfl) rfl
theorem q238 : (Jvm.Cond.methodLink "java/lang/RuntimeException" (16 : Nat) ({ cls := "java/lang/Exception", name := "<init>", desc := "(Ljava/lang/String;Ljava/lang/Throwable;ZZ)V" } : Jvm.MethodName)) ∈ lw_all := lw_g (lw_at lw_m1 105 rfl) rfl
theorem q526 : (Jvm.Cond.instanceMethod ({ cls := "java/lang/RuntimeException", name := "<init>", desc := "(Ljava/lang/String;)V" } : Jvm.MethodName)) ∈ lw_all := lw_g (lw_at lw_m2 153 rfl) rfl
theorem q527 : (Jvm.Cond.code ({ cls := "java/lang/RuntimeException", name := "<init>", desc := "(Ljava/lang/String;)V" } : Jvm.MethodName) prog_24_method_2_code (2 : Nat) (Option.none : Option Jvm.ClassFile.FieldType)) ∈ lw_all := lw_g (lw_at lw_m2 154 rfl) rfl
theorem q528 : (Jvm.Cond.methodLink "java/lang/RuntimeException" (7 : Nat) ({ cls := "java/lang/Exception", name := "<init>", desc := "(Ljava/lang/String;)V" } : Jvm.MethodName)) ∈ lw_all := lw_g (lw_at lw_m2 155 rfl) rfl
theorem q568 : (Jvm.Cond.instanceMethod ({ cls := "java/lang/RuntimeException", name := "<init>", desc := "()V" } : Jvm.MethodName)) ∈ lw_all := lw_g (lw_at lw_m2 195 rfl) rfl
theorem q569 : (Jvm.Cond.code ({ cls := "java/lang/RuntimeException", name := "<init>", desc := "()V" } : Jvm.MethodName) prog_24_method_1_code (1 : Nat) (Option.none : Option Jvm.ClassFile.FieldType)) ∈ lw_all := lw_g (lw_at lw_m2 196 rfl) rfl
theorem q570 : (Jvm.Cond.methodLink "java/lang/RuntimeException" (1 : Nat) ({ cls := "java/lang/Exception", name := "<init>", desc := "()V" } : Jvm.MethodName)) ∈ lw_all := lw_g (lw_at lw_m2 197 rfl) rfl
theorem q588 : (Jvm.Cond.castable "java/lang/RuntimeException" "java/lang/Throwable") ∈ lw_tbl := lw_at lw_m2 215 rfl

/-! java/lang/NegativeArraySizeException -/
set_option maxRecDepth 100000
def RJ3 : String := "java/lang/NegativeArraySizeException"
def TJ3 : u_T := fun k => match k with
  | 0 => ("java/lang/Throwable", "backtrace", "Ljava/lang/Object;", false)
  | 1 => ("java/lang/Throwable", "detailMessage", "Ljava/lang/String;", false)
  | 2 => ("java/lang/Throwable", "cause", "Ljava/lang/Throwable;", false)
  | 3 => ("java/lang/Throwable", "stackTrace", "[Ljava/lang/StackTraceElement;", false)
  | 4 => ("java/lang/Throwable", "depth", "I", false)
  | _ => ("java/lang/Throwable", "suppressedExceptions", "Ljava/util/List;", false)
def tyJ3 : Nat → FieldType := fun k => match k with
  | 0 => .object "java/lang/Object"
  | 1 => .object "java/lang/String"
  | 2 => .object "java/lang/Throwable"
  | 3 => .array (.object "java/lang/StackTraceElement")
  | 4 => .int
  | _ => .object "java/util/List"
abbrev wsJ30 : List Cond := u_ws RJ3 TJ3 6
theorem nmJ3 : ∀ a, a < 6 → ∀ b, b < 6 → a ≠ b → (TJ3 a).2.1 ≠ (TJ3 b).2.1 := by decide +kernel
theorem tyJ3_ok : ∀ k, k < 6 → parseFieldDescriptor (TJ3 k).2.2.1 = some (tyJ3 k) := by decide +kernel
abbrev cJ3_init : ByteArray := prog_22_method_2_code
def yJ3_init : MethodName := ⟨RJ3, "<init>", "(Ljava/lang/String;)V"⟩
def dkwJ3_init_0 : List UInt8 := [42, 43, 183, 0, 7, 177]
abbrev dktJ3_init_0 : List UInt8 := dkwJ3_init_0 ++ []
theorem dksJ3_init_0 : cJ3_init.data.toList.drop 0 = dktJ3_init_0 := by decide +kernel
theorem dJ3_init_0 : decode cJ3_init 0 = .ok (.aload_n 0, 1) := dk_42 (dk_at dksJ3_init_0 0 rfl rfl)
theorem dJ3_init_1 : decode cJ3_init 1 = .ok (.aload_n 1, 1) := dk_43 (dk_at dksJ3_init_0 1 rfl rfl)
theorem dJ3_init_2 : decode cJ3_init 2 = .ok (.invokespecial 7, 3) := dk_183 0 7 (dk_at dksJ3_init_0 2 rfl rfl)
theorem dJ3_init_5 : decode cJ3_init 5 = .ok (.return_, 1) := dk_177 (dk_at dksJ3_init_0 5 rfl rfl)
theorem q144 : (Jvm.Cond.initialized "java/lang/NegativeArraySizeException") ∈ lw_all := lw_g (lw_at lw_m1 11 rfl) rfl
theorem q211 : (Jvm.Cond.selects "java/lang/NegativeArraySizeException" ({ cls := "java/lang/Throwable", name := "fillInStackTrace", desc := "()Ljava/lang/Throwable;" } : Jvm.MethodName) ({ cls := "java/lang/Throwable", name := "fillInStackTrace", desc := "()Ljava/lang/Throwable;" } : Jvm.MethodName)) ∈ lw_all := lw_g (lw_at lw_m1 78 rfl) rfl
theorem q522 : (Jvm.Cond.instantiable "java/lang/NegativeArraySizeException" (6 : Nat)) ∈ lw_all := lw_g (lw_at lw_m2 149 rfl) rfl
theorem q523 : (Jvm.Cond.instanceMethod ({ cls := "java/lang/NegativeArraySizeException", name := "<init>", desc := "(Ljava/lang/String;)V" } : Jvm.MethodName)) ∈ lw_all := lw_g (lw_at lw_m2 150 rfl) rfl
theorem q524 : (Jvm.Cond.code ({ cls := "java/lang/NegativeArraySizeException", name := "<init>", desc := "(Ljava/lang/String;)V" } : Jvm.MethodName) prog_22_method_2_code (2 : Nat) (Option.none : Option Jvm.ClassFile.FieldType)) ∈ lw_all := lw_g (lw_at lw_m2 151 rfl) rfl
theorem q525 : (Jvm.Cond.methodLink "java/lang/NegativeArraySizeException" (7 : Nat) ({ cls := "java/lang/RuntimeException", name := "<init>", desc := "(Ljava/lang/String;)V" } : Jvm.MethodName)) ∈ lw_all := lw_g (lw_at lw_m2 152 rfl) rfl
theorem q534 : (Jvm.Cond.lays "java/lang/NegativeArraySizeException" "java/lang/Throwable" "backtrace" "Ljava/lang/Object;") ∈ lw_all := lw_g (lw_at lw_m2 161 rfl) rfl
theorem q535 : (Jvm.Cond.lays "java/lang/NegativeArraySizeException" "java/lang/Throwable" "detailMessage" "Ljava/lang/String;") ∈ lw_all := lw_g (lw_at lw_m2 162 rfl) rfl
theorem q536 : (Jvm.Cond.lays "java/lang/NegativeArraySizeException" "java/lang/Throwable" "cause" "Ljava/lang/Throwable;") ∈ lw_all := lw_g (lw_at lw_m2 163 rfl) rfl
theorem q537 : (Jvm.Cond.lays "java/lang/NegativeArraySizeException" "java/lang/Throwable" "stackTrace" "[Ljava/lang/StackTraceElement;") ∈ lw_all := lw_g (lw_at lw_m2 164 rfl) rfl
theorem q538 : (Jvm.Cond.lays "java/lang/NegativeArraySizeException" "java/lang/Throwable" "depth" "I") ∈ lw_all := lw_g (lw_at lw_m2 165 rfl) rfl
theorem q539 : (Jvm.Cond.lays "java/lang/NegativeArraySizeException" "java/lang/Throwable" "suppressedExceptions" "Ljava/util/List;") ∈ lw_all := lw_g (lw_at lw_m2 166 rfl) rfl
theorem q540 : (Jvm.Cond.superclass "java/lang/NegativeArraySizeException" "java/lang/RuntimeException") ∈ lw_all := lw_g (lw_at lw_m2 167 rfl) rfl
theorem q541 : (Jvm.Cond.castable "java/lang/NegativeArraySizeException" "java/lang/NegativeArraySizeException") ∈ lw_tbl := lw_at lw_m2 168 rfl
theorem q542 : (Jvm.Cond.selects "java/lang/NegativeArraySizeException" ({ cls := "java/lang/Throwable", name := "fillInStackTrace", desc := "(I)Ljava/lang/Throwable;" } : Jvm.MethodName) ({ cls := "java/lang/Throwable", name := "fillInStackTrace", desc := "(I)Ljava/lang/Throwable;" } : Jvm.MethodName)) ∈ lw_all := lw_g (lw_at lw_m2 169 rfl) rfl
theorem in_J3 : ∀ w ∈ wsJ30, w ∈ lw_all := lw_in wsJ30 [534, 535, 536, 537, 538, 539] (by decide +kernel) (by decide +kernel)

/-! java/lang/String -/
set_option maxRecDepth 100000
def RJ4 : String := "java/lang/String"
def TJ4 : u_T := fun k => match k with
  | 0 => ("java/lang/String", "value", "[B", true)
  | _ => ("java/lang/String", "coder", "B", true)
def tyJ4 : Nat → FieldType := fun k => match k with
  | 0 => .array .byte
  | _ => .byte
abbrev wsJ40 : List Cond := u_ws RJ4 TJ4 2
theorem nmJ4 : ∀ a, a < 2 → ∀ b, b < 2 → a ≠ b → (TJ4 a).2.1 ≠ (TJ4 b).2.1 := by decide +kernel
theorem tyJ4_ok : ∀ k, k < 2 → parseFieldDescriptor (TJ4 k).2.2.1 = some (tyJ4 k) := by decide +kernel
abbrev cJ4_length : ByteArray := prog_25_method_54_code
def yJ4_length : MethodName := ⟨RJ4, "length", "()I"⟩
def dkwJ4_length_0 : List UInt8 := [42, 180, 0, 9, 190, 42, 182, 1, 79, 122, 172]
abbrev dktJ4_length_0 : List UInt8 := dkwJ4_length_0 ++ []
theorem dksJ4_length_0 : cJ4_length.data.toList.drop 0 = dktJ4_length_0 := by decide +kernel
theorem dJ4_length_0 : decode cJ4_length 0 = .ok (.aload_n 0, 1) := dk_42 (dk_at dksJ4_length_0 0 rfl rfl)
theorem dJ4_length_1 : decode cJ4_length 1 = .ok (.getfield 9, 3) := dk_180 0 9 (dk_at dksJ4_length_0 1 rfl rfl)
theorem dJ4_length_4 : decode cJ4_length 4 = .ok (.arraylength, 1) := dk_190 (dk_at dksJ4_length_0 4 rfl rfl)
theorem dJ4_length_5 : decode cJ4_length 5 = .ok (.aload_n 0, 1) := dk_42 (dk_at dksJ4_length_0 5 rfl rfl)
theorem dJ4_length_6 : decode cJ4_length 6 = .ok (.invokevirtual 335, 3) := dk_182 1 79 (dk_at dksJ4_length_0 6 rfl rfl)
theorem dJ4_length_9 : decode cJ4_length 9 = .ok (.ishr, 1) := dk_122 (dk_at dksJ4_length_0 9 rfl rfl)
theorem dJ4_length_10 : decode cJ4_length 10 = .ok (.ireturn, 1) := dk_172 (dk_at dksJ4_length_0 10 rfl rfl)
abbrev cJ4_coder : ByteArray := prog_25_method_152_code
def yJ4_coder : MethodName := ⟨RJ4, "coder", "()B"⟩
def dkwJ4_coder_0 : List UInt8 := [178, 0, 38, 153, 0, 10, 42, 180, 0, 15, 167, 0, 4, 4, 172]
abbrev dktJ4_coder_0 : List UInt8 := dkwJ4_coder_0 ++ []
theorem dksJ4_coder_0 : cJ4_coder.data.toList.drop 0 = dktJ4_coder_0 := by decide +kernel
theorem dJ4_coder_0 : decode cJ4_coder 0 = .ok (.getstatic 38, 3) := dk_178 0 38 (dk_at dksJ4_coder_0 0 rfl rfl)
theorem dJ4_coder_3 : decode cJ4_coder 3 = .ok (.ifCond .eq 10, 3) := dk_153 0 10 (dk_at dksJ4_coder_0 3 rfl rfl)
theorem dJ4_coder_6 : decode cJ4_coder 6 = .ok (.aload_n 0, 1) := dk_42 (dk_at dksJ4_coder_0 6 rfl rfl)
theorem dJ4_coder_7 : decode cJ4_coder 7 = .ok (.getfield 15, 3) := dk_180 0 15 (dk_at dksJ4_coder_0 7 rfl rfl)
theorem dJ4_coder_10 : decode cJ4_coder 10 = .ok (.goto 4, 3) := dk_167 0 4 (dk_at dksJ4_coder_0 10 rfl rfl)
theorem dJ4_coder_13 : decode cJ4_coder 13 = .ok (.iconst 1, 1) := dk_4 (dk_at dksJ4_coder_0 13 rfl rfl)
theorem dJ4_coder_14 : decode cJ4_coder 14 = .ok (.ireturn, 1) := dk_172 (dk_at dksJ4_coder_0 14 rfl rfl)
abbrev cJ4_charAt : ByteArray := prog_25_method_56_code
def yJ4_charAt : MethodName := ⟨RJ4, "charAt", "(I)C"⟩
def dkwJ4_charAt_1 : List UInt8 := [172]
abbrev dktJ4_charAt_1 : List UInt8 := dkwJ4_charAt_1 ++ []
def dkwJ4_charAt_0 : List UInt8 := [42, 182, 1, 236, 153, 0, 12, 42, 180, 0, 9, 27, 184, 1, 239, 172, 42, 180, 0, 9, 27, 184, 1, 242]
abbrev dktJ4_charAt_0 : List UInt8 := dkwJ4_charAt_0 ++ dktJ4_charAt_1
theorem dksJ4_charAt_0 : cJ4_charAt.data.toList.drop 0 = dktJ4_charAt_0 := by decide +kernel
theorem dksJ4_charAt_1 : cJ4_charAt.data.toList.drop 24 = dktJ4_charAt_1 := dk_seg dksJ4_charAt_0 24 rfl rfl
theorem dJ4_charAt_0 : decode cJ4_charAt 0 = .ok (.aload_n 0, 1) := dk_42 (dk_at dksJ4_charAt_0 0 rfl rfl)
theorem dJ4_charAt_1 : decode cJ4_charAt 1 = .ok (.invokevirtual 492, 3) := dk_182 1 236 (dk_at dksJ4_charAt_0 1 rfl rfl)
theorem dJ4_charAt_4 : decode cJ4_charAt 4 = .ok (.ifCond .eq 12, 3) := dk_153 0 12 (dk_at dksJ4_charAt_0 4 rfl rfl)
theorem dJ4_charAt_7 : decode cJ4_charAt 7 = .ok (.aload_n 0, 1) := dk_42 (dk_at dksJ4_charAt_0 7 rfl rfl)
theorem dJ4_charAt_8 : decode cJ4_charAt 8 = .ok (.getfield 9, 3) := dk_180 0 9 (dk_at dksJ4_charAt_0 8 rfl rfl)
theorem dJ4_charAt_11 : decode cJ4_charAt 11 = .ok (.iload_n 1, 1) := dk_27 (dk_at dksJ4_charAt_0 11 rfl rfl)
theorem dJ4_charAt_12 : decode cJ4_charAt 12 = .ok (.invokestatic 495, 3) := dk_184 1 239 (dk_at dksJ4_charAt_0 12 rfl rfl)
theorem dJ4_charAt_15 : decode cJ4_charAt 15 = .ok (.ireturn, 1) := dk_172 (dk_at dksJ4_charAt_0 15 rfl rfl)
theorem dJ4_charAt_16 : decode cJ4_charAt 16 = .ok (.aload_n 0, 1) := dk_42 (dk_at dksJ4_charAt_0 16 rfl rfl)
theorem dJ4_charAt_17 : decode cJ4_charAt 17 = .ok (.getfield 9, 3) := dk_180 0 9 (dk_at dksJ4_charAt_0 17 rfl rfl)
theorem dJ4_charAt_20 : decode cJ4_charAt 20 = .ok (.iload_n 1, 1) := dk_27 (dk_at dksJ4_charAt_0 20 rfl rfl)
theorem dJ4_charAt_21 : decode cJ4_charAt 21 = .ok (.invokestatic 498, 3) := dk_184 1 242 (dk_at dksJ4_charAt_0 21 rfl rfl)
theorem dJ4_charAt_24 : decode cJ4_charAt 24 = .ok (.ireturn, 1) := dk_172 (dk_at dksJ4_charAt_1 0 rfl rfl)
abbrev cJ4_isLatin1 : ByteArray := prog_25_method_154_code
def yJ4_isLatin1 : MethodName := ⟨RJ4, "isLatin1", "()Z"⟩
def dkwJ4_isLatin1_0 : List UInt8 := [178, 0, 38, 153, 0, 14, 42, 180, 0, 15, 154, 0, 7, 4, 167, 0, 4, 3, 172]
abbrev dktJ4_isLatin1_0 : List UInt8 := dkwJ4_isLatin1_0 ++ []
theorem dksJ4_isLatin1_0 : cJ4_isLatin1.data.toList.drop 0 = dktJ4_isLatin1_0 := by decide +kernel
theorem dJ4_isLatin1_0 : decode cJ4_isLatin1 0 = .ok (.getstatic 38, 3) := dk_178 0 38 (dk_at dksJ4_isLatin1_0 0 rfl rfl)
theorem dJ4_isLatin1_3 : decode cJ4_isLatin1 3 = .ok (.ifCond .eq 14, 3) := dk_153 0 14 (dk_at dksJ4_isLatin1_0 3 rfl rfl)
theorem dJ4_isLatin1_6 : decode cJ4_isLatin1 6 = .ok (.aload_n 0, 1) := dk_42 (dk_at dksJ4_isLatin1_0 6 rfl rfl)
theorem dJ4_isLatin1_7 : decode cJ4_isLatin1 7 = .ok (.getfield 15, 3) := dk_180 0 15 (dk_at dksJ4_isLatin1_0 7 rfl rfl)
theorem dJ4_isLatin1_10 : decode cJ4_isLatin1 10 = .ok (.ifCond .ne 7, 3) := dk_154 0 7 (dk_at dksJ4_isLatin1_0 10 rfl rfl)
theorem dJ4_isLatin1_13 : decode cJ4_isLatin1 13 = .ok (.iconst 1, 1) := dk_4 (dk_at dksJ4_isLatin1_0 13 rfl rfl)
theorem dJ4_isLatin1_14 : decode cJ4_isLatin1 14 = .ok (.goto 4, 3) := dk_167 0 4 (dk_at dksJ4_isLatin1_0 14 rfl rfl)
theorem dJ4_isLatin1_17 : decode cJ4_isLatin1 17 = .ok (.iconst 0, 1) := dk_3 (dk_at dksJ4_isLatin1_0 17 rfl rfl)
theorem dJ4_isLatin1_18 : decode cJ4_isLatin1 18 = .ok (.ireturn, 1) := dk_172 (dk_at dksJ4_isLatin1_0 18 rfl rfl)
abbrev cJ4_checkIndex : ByteArray := prog_25_method_155_code
def yJ4_checkIndex : MethodName := ⟨RJ4, "checkIndex", "(II)V"⟩
def dkwJ4_checkIndex_0 : List UInt8 := [26, 27, 178, 4, 29, 184, 4, 35, 87, 177]
abbrev dktJ4_checkIndex_0 : List UInt8 := dkwJ4_checkIndex_0 ++ []
theorem dksJ4_checkIndex_0 : cJ4_checkIndex.data.toList.drop 0 = dktJ4_checkIndex_0 := by decide +kernel
theorem dJ4_checkIndex_0 : decode cJ4_checkIndex 0 = .ok (.iload_n 0, 1) := dk_26 (dk_at dksJ4_checkIndex_0 0 rfl rfl)
theorem dJ4_checkIndex_1 : decode cJ4_checkIndex 1 = .ok (.iload_n 1, 1) := dk_27 (dk_at dksJ4_checkIndex_0 1 rfl rfl)
theorem dJ4_checkIndex_2 : decode cJ4_checkIndex 2 = .ok (.getstatic 1053, 3) := dk_178 4 29 (dk_at dksJ4_checkIndex_0 2 rfl rfl)
theorem dJ4_checkIndex_5 : decode cJ4_checkIndex 5 = .ok (.invokestatic 1059, 3) := dk_184 4 35 (dk_at dksJ4_checkIndex_0 5 rfl rfl)
theorem dJ4_checkIndex_8 : decode cJ4_checkIndex 8 = .ok (.pop, 1) := dk_87 (dk_at dksJ4_checkIndex_0 8 rfl rfl)
theorem dJ4_checkIndex_9 : decode cJ4_checkIndex 9 = .ok (.return_, 1) := dk_177 (dk_at dksJ4_checkIndex_0 9 rfl rfl)
theorem q145 : (Jvm.Cond.initialized "java/lang/String") ∈ lw_all := lw_g (lw_at lw_m1 12 rfl) rfl
theorem q543 : (Jvm.Cond.instantiable "java/lang/String" (4 : Nat)) ∈ lw_all := lw_g (lw_at lw_m2 170 rfl) rfl
theorem q544 : (Jvm.Cond.laysFinal "java/lang/String" "java/lang/String" "value" "[B") ∈ lw_all := lw_g (lw_at lw_m2 171 rfl) rfl
theorem q545 : (Jvm.Cond.soleField "java/lang/String" "value") ∈ lw_all := lw_g (lw_at lw_m2 172 rfl) rfl
theorem q546 : (Jvm.Cond.laysFinal "java/lang/String" "java/lang/String" "coder" "B") ∈ lw_all := lw_g (lw_at lw_m2 173 rfl) rfl
theorem q547 : (Jvm.Cond.soleField "java/lang/String" "coder") ∈ lw_all := lw_g (lw_at lw_m2 174 rfl) rfl
theorem q689 : (Jvm.Cond.instanceMethod ({ cls := "java/lang/String", name := "length", desc := "()I" } : Jvm.MethodName)) ∈ lw_all := lw_g (lw_at lw_m3 76 rfl) rfl
theorem q690 : (Jvm.Cond.selects "java/lang/String" ({ cls := "java/lang/String", name := "length", desc := "()I" } : Jvm.MethodName) ({ cls := "java/lang/String", name := "length", desc := "()I" } : Jvm.MethodName)) ∈ lw_all := lw_g (lw_at lw_m3 77 rfl) rfl
theorem q691 : (Jvm.Cond.code ({ cls := "java/lang/String", name := "length", desc := "()I" } : Jvm.MethodName) prog_25_method_54_code (1 : Nat) (Option.some Jvm.ClassFile.FieldType.int)) ∈ lw_all := lw_g (lw_at lw_m3 78 rfl) rfl
theorem q692 : (Jvm.Cond.methodLink "java/lang/String" (335 : Nat) ({ cls := "java/lang/String", name := "coder", desc := "()B" } : Jvm.MethodName)) ∈ lw_all := lw_g (lw_at lw_m3 79 rfl) rfl
theorem q693 : (Jvm.Cond.instanceMethod ({ cls := "java/lang/String", name := "coder", desc := "()B" } : Jvm.MethodName)) ∈ lw_all := lw_g (lw_at lw_m3 80 rfl) rfl
theorem q694 : (Jvm.Cond.selects "java/lang/String" ({ cls := "java/lang/String", name := "coder", desc := "()B" } : Jvm.MethodName) ({ cls := "java/lang/String", name := "coder", desc := "()B" } : Jvm.MethodName)) ∈ lw_all := lw_g (lw_at lw_m3 81 rfl) rfl
theorem q695 : (Jvm.Cond.code ({ cls := "java/lang/String", name := "coder", desc := "()B" } : Jvm.MethodName) prog_25_method_152_code (1 : Nat) (Option.some Jvm.ClassFile.FieldType.byte)) ∈ lw_all := lw_g (lw_at lw_m3 82 rfl) rfl
theorem q696 : (Jvm.Cond.fieldLink "java/lang/String" (38 : Nat) "java/lang/String" "COMPACT_STRINGS" "Z") ∈ lw_all := lw_g (lw_at lw_m3 83 rfl) rfl
theorem q697 : (Jvm.Cond.laysStatic "java/lang/String" "COMPACT_STRINGS" "Z") ∈ lw_tbl := lw_at lw_m3 84 rfl
theorem q699 : (Jvm.Cond.instanceMethod ({ cls := "java/lang/String", name := "charAt", desc := "(I)C" } : Jvm.MethodName)) ∈ lw_all := lw_g (lw_at lw_m3 86 rfl) rfl
theorem q700 : (Jvm.Cond.selects "java/lang/String" ({ cls := "java/lang/String", name := "charAt", desc := "(I)C" } : Jvm.MethodName) ({ cls := "java/lang/String", name := "charAt", desc := "(I)C" } : Jvm.MethodName)) ∈ lw_all := lw_g (lw_at lw_m3 87 rfl) rfl
theorem q701 : (Jvm.Cond.code ({ cls := "java/lang/String", name := "charAt", desc := "(I)C" } : Jvm.MethodName) prog_25_method_56_code (2 : Nat) (Option.some Jvm.ClassFile.FieldType.char)) ∈ lw_all := lw_g (lw_at lw_m3 88 rfl) rfl
theorem q702 : (Jvm.Cond.methodLink "java/lang/String" (492 : Nat) ({ cls := "java/lang/String", name := "isLatin1", desc := "()Z" } : Jvm.MethodName)) ∈ lw_all := lw_g (lw_at lw_m3 89 rfl) rfl
theorem q703 : (Jvm.Cond.instanceMethod ({ cls := "java/lang/String", name := "isLatin1", desc := "()Z" } : Jvm.MethodName)) ∈ lw_all := lw_g (lw_at lw_m3 90 rfl) rfl
theorem q704 : (Jvm.Cond.selects "java/lang/String" ({ cls := "java/lang/String", name := "isLatin1", desc := "()Z" } : Jvm.MethodName) ({ cls := "java/lang/String", name := "isLatin1", desc := "()Z" } : Jvm.MethodName)) ∈ lw_all := lw_g (lw_at lw_m3 91 rfl) rfl
theorem q705 : (Jvm.Cond.code ({ cls := "java/lang/String", name := "isLatin1", desc := "()Z" } : Jvm.MethodName) prog_25_method_154_code (1 : Nat) (Option.some Jvm.ClassFile.FieldType.boolean)) ∈ lw_all := lw_g (lw_at lw_m3 92 rfl) rfl
theorem q706 : (Jvm.Cond.methodLink "java/lang/String" (495 : Nat) ({ cls := "java/lang/StringLatin1", name := "charAt", desc := "([BI)C" } : Jvm.MethodName)) ∈ lw_all := lw_g (lw_at lw_m3 93 rfl) rfl
theorem q710 : (Jvm.Cond.static ({ cls := "java/lang/String", name := "checkIndex", desc := "(II)V" } : Jvm.MethodName)) ∈ lw_all := lw_g (lw_at lw_m3 97 rfl) rfl
theorem q711 : (Jvm.Cond.code ({ cls := "java/lang/String", name := "checkIndex", desc := "(II)V" } : Jvm.MethodName) prog_25_method_155_code (2 : Nat) (Option.none : Option Jvm.ClassFile.FieldType)) ∈ lw_all := lw_g (lw_at lw_m3 98 rfl) rfl
theorem q712 : (Jvm.Cond.fieldLink "java/lang/String" (1053 : Nat) "jdk/internal/util/Preconditions" "SIOOBE_FORMATTER" "Ljava/util/function/BiFunction;") ∈ lw_all := lw_g (lw_at lw_m3 99 rfl) rfl
theorem q714 : (Jvm.Cond.methodLink "java/lang/String" (1059 : Nat) ({ cls := "jdk/internal/util/Preconditions", name := "checkIndex", desc := "(IILjava/util/function/BiFunction;)I" } : Jvm.MethodName)) ∈ lw_all := lw_g (lw_at lw_m3 101 rfl) rfl
theorem q717 : (Jvm.Cond.methodLink "java/lang/String" (498 : Nat) ({ cls := "java/lang/StringUTF16", name := "charAt", desc := "([BI)C" } : Jvm.MethodName)) ∈ lw_all := lw_g (lw_at lw_m3 104 rfl) rfl
theorem q2327 : (Jvm.Cond.fieldLink "java/lang/String" (9 : Nat) "java/lang/String" "value" "[B") ∈ lw_all := lw_g (lw_at lw_m10 34 rfl) rfl
theorem q2328 : (Jvm.Cond.fieldLink "java/lang/String" (15 : Nat) "java/lang/String" "coder" "B") ∈ lw_all := lw_g (lw_at lw_m10 35 rfl) rfl
theorem in_J4 : ∀ w ∈ wsJ40, w ∈ lw_all := lw_in wsJ40 [544, 546] (by decide +kernel) (by decide +kernel)

/-! java/lang/NullPointerException -/
set_option maxRecDepth 100000
def RJ5 : String := "java/lang/NullPointerException"
def TJ5 : u_T := fun k => match k with
  | 0 => ("java/lang/Throwable", "backtrace", "Ljava/lang/Object;", false)
  | 1 => ("java/lang/Throwable", "detailMessage", "Ljava/lang/String;", false)
  | 2 => ("java/lang/Throwable", "cause", "Ljava/lang/Throwable;", false)
  | 3 => ("java/lang/Throwable", "stackTrace", "[Ljava/lang/StackTraceElement;", false)
  | 4 => ("java/lang/Throwable", "depth", "I", false)
  | 5 => ("java/lang/Throwable", "suppressedExceptions", "Ljava/util/List;", false)
  | 6 => ("java/lang/NullPointerException", "extendedMessageState", "I", false)
  | _ => ("java/lang/NullPointerException", "extendedMessage", "Ljava/lang/String;", false)
def tyJ5 : Nat → FieldType := fun k => match k with
  | 0 => .object "java/lang/Object"
  | 1 => .object "java/lang/String"
  | 2 => .object "java/lang/Throwable"
  | 3 => .array (.object "java/lang/StackTraceElement")
  | 4 => .int
  | 5 => .object "java/util/List"
  | 6 => .int
  | _ => .object "java/lang/String"
abbrev wsJ50 : List Cond := u_ws RJ5 TJ5 8
theorem nmJ5 : ∀ a, a < 8 → ∀ b, b < 8 → a ≠ b → (TJ5 a).2.1 ≠ (TJ5 b).2.1 := by decide +kernel
theorem tyJ5_ok : ∀ k, k < 8 → parseFieldDescriptor (TJ5 k).2.2.1 = some (tyJ5 k) := by decide +kernel
abbrev cJ5_init : ByteArray := prog_23_method_1_code
def yJ5_init : MethodName := ⟨RJ5, "<init>", "()V"⟩
theorem dJ5_init_0 : decode cJ5_init 0 = .ok (.aload_n 0, 1) := by decide +kernel
theorem dJ5_init_1 : decode cJ5_init 1 = .ok (.invokespecial 1, 3) := by decide +kernel
theorem dJ5_init_4 : decode cJ5_init 4 = .ok (.return_, 1) := by decide +kernel
theorem q146 : (Jvm.Cond.initialized "java/lang/NullPointerException") ∈ lw_all := lw_g (lw_at lw_m1 13 rfl) rfl
theorem q212 : (Jvm.Cond.selects "java/lang/NullPointerException" ({ cls := "java/lang/Throwable", name := "fillInStackTrace", desc := "()Ljava/lang/Throwable;" } : Jvm.MethodName) ({ cls := "java/lang/NullPointerException", name := "fillInStackTrace", desc := "()Ljava/lang/Throwable;" } : Jvm.MethodName)) ∈ lw_all := lw_g (lw_at lw_m1 79 rfl) rfl
theorem q213 : (Jvm.Cond.instanceMethod ({ cls := "java/lang/NullPointerException", name := "fillInStackTrace", desc := "()Ljava/lang/Throwable;" } : Jvm.MethodName)) ∈ lw_all := lw_g (lw_at lw_m1 80 rfl) rfl
theorem q214 : (Jvm.Cond.codeSync ({ cls := "java/lang/NullPointerException", name := "fillInStackTrace", desc := "()Ljava/lang/Throwable;" } : Jvm.MethodName) prog_23_method_3_code (1 : Nat) (Option.some (Jvm.ClassFile.FieldType.object "java/lang/Throwable"))) ∈ lw_all := lw_g (lw_at lw_m1 81 rfl) rfl
theorem q215 : (Jvm.Cond.methodLink "java/lang/NullPointerException" (16 : Nat) ({ cls := "java/lang/NullPointerException", name := "getExtendedNPEMessage", desc := "()Ljava/lang/String;" } : Jvm.MethodName)) ∈ lw_all := lw_g (lw_at lw_m1 82 rfl) rfl
theorem q216 : (Jvm.Cond.privateMethod ({ cls := "java/lang/NullPointerException", name := "getExtendedNPEMessage", desc := "()Ljava/lang/String;" } : Jvm.MethodName)) ∈ lw_tbl := lw_at lw_m1 83 rfl
theorem q217 : (Jvm.Cond.instanceMethod ({ cls := "java/lang/NullPointerException", name := "getExtendedNPEMessage", desc := "()Ljava/lang/String;" } : Jvm.MethodName)) ∈ lw_all := lw_g (lw_at lw_m1 84 rfl) rfl
theorem q218 : (Jvm.Cond.instantiable "java/lang/NullPointerException" (8 : Nat)) ∈ lw_all := lw_g (lw_at lw_m1 85 rfl) rfl
theorem q219 : (Jvm.Cond.native ({ cls := "java/lang/NullPointerException", name := "getExtendedNPEMessage", desc := "()Ljava/lang/String;" } : Jvm.MethodName)) ∈ lw_all := lw_g (lw_at lw_m1 86 rfl) rfl
theorem q220 : (Jvm.Cond.methodLink "java/lang/NullPointerException" (24 : Nat) ({ cls := "java/lang/RuntimeException", name := "fillInStackTrace", desc := "()Ljava/lang/Throwable;" } : Jvm.MethodName)) ∈ lw_all := lw_g (lw_at lw_m1 87 rfl) rfl
theorem q223 : (Jvm.Cond.superclass "java/lang/NullPointerException" "java/lang/RuntimeException") ∈ lw_all := lw_g (lw_at lw_m1 90 rfl) rfl
theorem q565 : (Jvm.Cond.instanceMethod ({ cls := "java/lang/NullPointerException", name := "<init>", desc := "()V" } : Jvm.MethodName)) ∈ lw_all := lw_g (lw_at lw_m2 192 rfl) rfl
theorem q566 : (Jvm.Cond.code ({ cls := "java/lang/NullPointerException", name := "<init>", desc := "()V" } : Jvm.MethodName) prog_23_method_1_code (1 : Nat) (Option.none : Option Jvm.ClassFile.FieldType)) ∈ lw_all := lw_g (lw_at lw_m2 193 rfl) rfl
theorem q567 : (Jvm.Cond.methodLink "java/lang/NullPointerException" (1 : Nat) ({ cls := "java/lang/RuntimeException", name := "<init>", desc := "()V" } : Jvm.MethodName)) ∈ lw_all := lw_g (lw_at lw_m2 194 rfl) rfl
theorem q574 : (Jvm.Cond.fieldLink "java/lang/NullPointerException" (10 : Nat) "java/lang/NullPointerException" "extendedMessageState" "I") ∈ lw_all := lw_g (lw_at lw_m2 201 rfl) rfl
theorem q575 : (Jvm.Cond.fieldLink "java/lang/NullPointerException" (20 : Nat) "java/lang/NullPointerException" "extendedMessage" "Ljava/lang/String;") ∈ lw_all := lw_g (lw_at lw_m2 202 rfl) rfl
theorem q576 : (Jvm.Cond.lays "java/lang/NullPointerException" "java/lang/NullPointerException" "extendedMessageState" "I") ∈ lw_all := lw_g (lw_at lw_m2 203 rfl) rfl
theorem q577 : (Jvm.Cond.soleField "java/lang/NullPointerException" "extendedMessageState") ∈ lw_all := lw_g (lw_at lw_m2 204 rfl) rfl
theorem q578 : (Jvm.Cond.lays "java/lang/NullPointerException" "java/lang/NullPointerException" "extendedMessage" "Ljava/lang/String;") ∈ lw_all := lw_g (lw_at lw_m2 205 rfl) rfl
theorem q579 : (Jvm.Cond.soleField "java/lang/NullPointerException" "extendedMessage") ∈ lw_all := lw_g (lw_at lw_m2 206 rfl) rfl
theorem q580 : (Jvm.Cond.lays "java/lang/NullPointerException" "java/lang/Throwable" "backtrace" "Ljava/lang/Object;") ∈ lw_all := lw_g (lw_at lw_m2 207 rfl) rfl
theorem q581 : (Jvm.Cond.lays "java/lang/NullPointerException" "java/lang/Throwable" "detailMessage" "Ljava/lang/String;") ∈ lw_all := lw_g (lw_at lw_m2 208 rfl) rfl
theorem q582 : (Jvm.Cond.lays "java/lang/NullPointerException" "java/lang/Throwable" "cause" "Ljava/lang/Throwable;") ∈ lw_all := lw_g (lw_at lw_m2 209 rfl) rfl
theorem q583 : (Jvm.Cond.lays "java/lang/NullPointerException" "java/lang/Throwable" "stackTrace" "[Ljava/lang/StackTraceElement;") ∈ lw_all := lw_g (lw_at lw_m2 210 rfl) rfl
theorem q584 : (Jvm.Cond.lays "java/lang/NullPointerException" "java/lang/Throwable" "depth" "I") ∈ lw_all := lw_g (lw_at lw_m2 211 rfl) rfl
theorem q585 : (Jvm.Cond.lays "java/lang/NullPointerException" "java/lang/Throwable" "suppressedExceptions" "Ljava/util/List;") ∈ lw_all := lw_g (lw_at lw_m2 212 rfl) rfl
theorem q586 : (Jvm.Cond.castable "java/lang/NullPointerException" "java/lang/NullPointerException") ∈ lw_tbl := lw_at lw_m2 213 rfl
theorem q587 : (Jvm.Cond.selects "java/lang/NullPointerException" ({ cls := "java/lang/Throwable", name := "fillInStackTrace", desc := "(I)Ljava/lang/Throwable;" } : Jvm.MethodName) ({ cls := "java/lang/Throwable", name := "fillInStackTrace", desc := "(I)Ljava/lang/Throwable;" } : Jvm.MethodName)) ∈ lw_all := lw_g (lw_at lw_m2 214 rfl) rfl
theorem in_J5 : ∀ w ∈ wsJ50, w ∈ lw_all := lw_in wsJ50 [580, 581, 582, 583, 584, 585, 576, 578] (by decide +kernel) (by decide +kernel)

/-! java/lang/IndexOutOfBoundsException -/
set_option maxRecDepth 100000
def RJ6 : String := "java/lang/IndexOutOfBoundsException"
abbrev cJ6_init : ByteArray := prog_19_method_2_code
def yJ6_init : MethodName := ⟨RJ6, "<init>", "(Ljava/lang/String;)V"⟩
def dkwJ6_init_0 : List UInt8 := [42, 43, 183, 0, 7, 177]
abbrev dktJ6_init_0 : List UInt8 := dkwJ6_init_0 ++ []
theorem dksJ6_init_0 : cJ6_init.data.toList.drop 0 = dktJ6_init_0 := by decide +kernel
theorem dJ6_init_0 : decode cJ6_init 0 = .ok (.aload_n 0, 1) := dk_42 (dk_at dksJ6_init_0 0 rfl rfl)
theorem dJ6_init_1 : decode cJ6_init 1 = .ok (.aload_n 1, 1) := dk_43 (dk_at dksJ6_init_0 1 rfl rfl)
theorem dJ6_init_2 : decode cJ6_init 2 = .ok (.invokespecial 7, 3) := dk_183 0 7 (dk_at dksJ6_init_0 2 rfl rfl)
theorem dJ6_init_5 : decode cJ6_init 5 = .ok (.return_, 1) := dk_177 (dk_at dksJ6_init_0 5 rfl rfl)
theorem q147 : (Jvm.Cond.initialized "java/lang/IndexOutOfBoundsException") ∈ lw_all := lw_g (lw_at lw_m1 14 rfl) rfl
theorem q594 : (Jvm.Cond.instanceMethod ({ cls := "java/lang/IndexOutOfBoundsException", name := "<init>", desc := "(Ljava/lang/String;)V" } : Jvm.MethodName)) ∈ lw_all := lw_g (lw_at lw_m2 221 rfl) rfl
theorem q595 : (Jvm.Cond.code ({ cls := "java/lang/IndexOutOfBoundsException", name := "<init>", desc := "(Ljava/lang/String;)V" } : Jvm.MethodName) prog_19_method_2_code (2 : Nat) (Option.none : Option Jvm.ClassFile.FieldType)) ∈ lw_all := lw_g (lw_at lw_m2 222 rfl) rfl
theorem q596 : (Jvm.Cond.methodLink "java/lang/IndexOutOfBoundsException" (7 : Nat) ({ cls := "java/lang/RuntimeException", name := "<init>", desc := "(Ljava/lang/String;)V" } : Jvm.MethodName)) ∈ lw_all := lw_g (lw_at lw_m2 223 rfl) rfl
theorem q605 : (Jvm.Cond.declares ({ cls := "java/lang/IndexOutOfBoundsException", name := "<init>", desc := "()V" } : Jvm.MethodName)) ∈ lw_tbl := lw_at lw_m2 232 rfl
theorem q606 : (Jvm.Cond.declares ({ cls := "java/lang/IndexOutOfBoundsException", name := "<init>", desc := "(Ljava/lang/String;)V" } : Jvm.MethodName)) ∈ lw_tbl := lw_at lw_m2 233 rfl

/-! java/lang/ArrayIndexOutOfBoundsException -/
set_option maxRecDepth 100000
def RJ7 : String := "java/lang/ArrayIndexOutOfBoundsException"
def TJ7 : u_T := fun k => match k with
  | 0 => ("java/lang/Throwable", "backtrace", "Ljava/lang/Object;", false)
  | 1 => ("java/lang/Throwable", "detailMessage", "Ljava/lang/String;", false)
  | 2 => ("java/lang/Throwable", "cause", "Ljava/lang/Throwable;", false)
  | 3 => ("java/lang/Throwable", "stackTrace", "[Ljava/lang/StackTraceElement;", false)
  | 4 => ("java/lang/Throwable", "depth", "I", false)
  | _ => ("java/lang/Throwable", "suppressedExceptions", "Ljava/util/List;", false)
def tyJ7 : Nat → FieldType := fun k => match k with
  | 0 => .object "java/lang/Object"
  | 1 => .object "java/lang/String"
  | 2 => .object "java/lang/Throwable"
  | 3 => .array (.object "java/lang/StackTraceElement")
  | 4 => .int
  | _ => .object "java/util/List"
abbrev wsJ70 : List Cond := u_ws RJ7 TJ7 6
theorem nmJ7 : ∀ a, a < 6 → ∀ b, b < 6 → a ≠ b → (TJ7 a).2.1 ≠ (TJ7 b).2.1 := by decide +kernel
theorem tyJ7_ok : ∀ k, k < 6 → parseFieldDescriptor (TJ7 k).2.2.1 = some (tyJ7 k) := by decide +kernel
abbrev cJ7_init : ByteArray := prog_17_method_2_code
def yJ7_init : MethodName := ⟨RJ7, "<init>", "(Ljava/lang/String;)V"⟩
def dkwJ7_init_0 : List UInt8 := [42, 43, 183, 0, 7, 177]
abbrev dktJ7_init_0 : List UInt8 := dkwJ7_init_0 ++ []
theorem dksJ7_init_0 : cJ7_init.data.toList.drop 0 = dktJ7_init_0 := by decide +kernel
theorem dJ7_init_0 : decode cJ7_init 0 = .ok (.aload_n 0, 1) := dk_42 (dk_at dksJ7_init_0 0 rfl rfl)
theorem dJ7_init_1 : decode cJ7_init 1 = .ok (.aload_n 1, 1) := dk_43 (dk_at dksJ7_init_0 1 rfl rfl)
theorem dJ7_init_2 : decode cJ7_init 2 = .ok (.invokespecial 7, 3) := dk_183 0 7 (dk_at dksJ7_init_0 2 rfl rfl)
theorem dJ7_init_5 : decode cJ7_init 5 = .ok (.return_, 1) := dk_177 (dk_at dksJ7_init_0 5 rfl rfl)
theorem q148 : (Jvm.Cond.initialized "java/lang/ArrayIndexOutOfBoundsException") ∈ lw_all := lw_g (lw_at lw_m1 15 rfl) rfl
theorem q210 : (Jvm.Cond.selects "java/lang/ArrayIndexOutOfBoundsException" ({ cls := "java/lang/Throwable", name := "fillInStackTrace", desc := "()Ljava/lang/Throwable;" } : Jvm.MethodName) ({ cls := "java/lang/Throwable", name := "fillInStackTrace", desc := "()Ljava/lang/Throwable;" } : Jvm.MethodName)) ∈ lw_all := lw_g (lw_at lw_m1 77 rfl) rfl
theorem q590 : (Jvm.Cond.instantiable "java/lang/ArrayIndexOutOfBoundsException" (6 : Nat)) ∈ lw_all := lw_g (lw_at lw_m2 217 rfl) rfl
theorem q591 : (Jvm.Cond.instanceMethod ({ cls := "java/lang/ArrayIndexOutOfBoundsException", name := "<init>", desc := "(Ljava/lang/String;)V" } : Jvm.MethodName)) ∈ lw_all := lw_g (lw_at lw_m2 218 rfl) rfl
theorem q592 : (Jvm.Cond.code ({ cls := "java/lang/ArrayIndexOutOfBoundsException", name := "<init>", desc := "(Ljava/lang/String;)V" } : Jvm.MethodName) prog_17_method_2_code (2 : Nat) (Option.none : Option Jvm.ClassFile.FieldType)) ∈ lw_all := lw_g (lw_at lw_m2 219 rfl) rfl
theorem q593 : (Jvm.Cond.methodLink "java/lang/ArrayIndexOutOfBoundsException" (7 : Nat) ({ cls := "java/lang/IndexOutOfBoundsException", name := "<init>", desc := "(Ljava/lang/String;)V" } : Jvm.MethodName)) ∈ lw_all := lw_g (lw_at lw_m2 220 rfl) rfl
theorem q597 : (Jvm.Cond.lays "java/lang/ArrayIndexOutOfBoundsException" "java/lang/Throwable" "backtrace" "Ljava/lang/Object;") ∈ lw_all := lw_g (lw_at lw_m2 224 rfl) rfl
theorem q598 : (Jvm.Cond.lays "java/lang/ArrayIndexOutOfBoundsException" "java/lang/Throwable" "detailMessage" "Ljava/lang/String;") ∈ lw_all := lw_g (lw_at lw_m2 225 rfl) rfl
theorem q599 : (Jvm.Cond.lays "java/lang/ArrayIndexOutOfBoundsException" "java/lang/Throwable" "cause" "Ljava/lang/Throwable;") ∈ lw_all := lw_g (lw_at lw_m2 226 rfl) rfl
theorem q600 : (Jvm.Cond.lays "java/lang/ArrayIndexOutOfBoundsException" "java/lang/Throwable" "stackTrace" "[Ljava/lang/StackTraceElement;") ∈ lw_all := lw_g (lw_at lw_m2 227 rfl) rfl
theorem q601 : (Jvm.Cond.lays "java/lang/ArrayIndexOutOfBoundsException" "java/lang/Throwable" "depth" "I") ∈ lw_all := lw_g (lw_at lw_m2 228 rfl) rfl
theorem q602 : (Jvm.Cond.lays "java/lang/ArrayIndexOutOfBoundsException" "java/lang/Throwable" "suppressedExceptions" "Ljava/util/List;") ∈ lw_all := lw_g (lw_at lw_m2 229 rfl) rfl
theorem q603 : (Jvm.Cond.superclass "java/lang/ArrayIndexOutOfBoundsException" "java/lang/IndexOutOfBoundsException") ∈ lw_all := lw_g (lw_at lw_m2 230 rfl) rfl
theorem q604 : (Jvm.Cond.castable "java/lang/ArrayIndexOutOfBoundsException" "java/lang/ArrayIndexOutOfBoundsException") ∈ lw_tbl := lw_at lw_m2 231 rfl
theorem q607 : (Jvm.Cond.selects "java/lang/ArrayIndexOutOfBoundsException" ({ cls := "java/lang/Throwable", name := "fillInStackTrace", desc := "(I)Ljava/lang/Throwable;" } : Jvm.MethodName) ({ cls := "java/lang/Throwable", name := "fillInStackTrace", desc := "(I)Ljava/lang/Throwable;" } : Jvm.MethodName)) ∈ lw_all := lw_g (lw_at lw_m2 234 rfl) rfl
theorem q2322 : (Jvm.Cond.castable "java/lang/ArrayIndexOutOfBoundsException" "java/lang/IndexOutOfBoundsException") ∈ lw_tbl := lw_at lw_m10 29 rfl
theorem in_J7 : ∀ w ∈ wsJ70, w ∈ lw_all := lw_in wsJ70 [597, 598, 599, 600, 601, 602] (by decide +kernel) (by decide +kernel)

/-! java/lang/Math -/
set_option maxRecDepth 100000
def RJ8 : String := "java/lang/Math"
abbrev cJ8_min : ByteArray := prog_21_method_69_code
def yJ8_min : MethodName := ⟨RJ8, "min", "(II)I"⟩
def dkwJ8_min_0 : List UInt8 := [26, 27, 163, 0, 7, 26, 167, 0, 4, 27, 172]
abbrev dktJ8_min_0 : List UInt8 := dkwJ8_min_0 ++ []
theorem dksJ8_min_0 : cJ8_min.data.toList.drop 0 = dktJ8_min_0 := by decide +kernel
theorem dJ8_min_0 : decode cJ8_min 0 = .ok (.iload_n 0, 1) := dk_26 (dk_at dksJ8_min_0 0 rfl rfl)
theorem dJ8_min_1 : decode cJ8_min 1 = .ok (.iload_n 1, 1) := dk_27 (dk_at dksJ8_min_0 1 rfl rfl)
theorem dJ8_min_2 : decode cJ8_min 2 = .ok (.if_icmp .gt 7, 3) := dk_163 0 7 (dk_at dksJ8_min_0 2 rfl rfl)
theorem dJ8_min_5 : decode cJ8_min 5 = .ok (.iload_n 0, 1) := dk_26 (dk_at dksJ8_min_0 5 rfl rfl)
theorem dJ8_min_6 : decode cJ8_min 6 = .ok (.goto 4, 3) := dk_167 0 4 (dk_at dksJ8_min_0 6 rfl rfl)
theorem dJ8_min_9 : decode cJ8_min 9 = .ok (.iload_n 1, 1) := dk_27 (dk_at dksJ8_min_0 9 rfl rfl)
theorem dJ8_min_10 : decode cJ8_min 10 = .ok (.ireturn, 1) := dk_172 (dk_at dksJ8_min_0 10 rfl rfl)
abbrev cJ8_max : ByteArray := prog_21_method_65_code
def yJ8_max : MethodName := ⟨RJ8, "max", "(II)I"⟩
def dkwJ8_max_0 : List UInt8 := [26, 27, 161, 0, 7, 26, 167, 0, 4, 27, 172]
abbrev dktJ8_max_0 : List UInt8 := dkwJ8_max_0 ++ []
theorem dksJ8_max_0 : cJ8_max.data.toList.drop 0 = dktJ8_max_0 := by decide +kernel
theorem dJ8_max_0 : decode cJ8_max 0 = .ok (.iload_n 0, 1) := dk_26 (dk_at dksJ8_max_0 0 rfl rfl)
theorem dJ8_max_1 : decode cJ8_max 1 = .ok (.iload_n 1, 1) := dk_27 (dk_at dksJ8_max_0 1 rfl rfl)
theorem dJ8_max_2 : decode cJ8_max 2 = .ok (.if_icmp .lt 7, 3) := dk_161 0 7 (dk_at dksJ8_max_0 2 rfl rfl)
theorem dJ8_max_5 : decode cJ8_max 5 = .ok (.iload_n 0, 1) := dk_26 (dk_at dksJ8_max_0 5 rfl rfl)
theorem dJ8_max_6 : decode cJ8_max 6 = .ok (.goto 4, 3) := dk_167 0 4 (dk_at dksJ8_max_0 6 rfl rfl)
theorem dJ8_max_9 : decode cJ8_max 9 = .ok (.iload_n 1, 1) := dk_27 (dk_at dksJ8_max_0 9 rfl rfl)
theorem dJ8_max_10 : decode cJ8_max 10 = .ok (.ireturn, 1) := dk_172 (dk_at dksJ8_max_0 10 rfl rfl)
abbrev cJ8_abs : ByteArray := prog_21_method_61_code
def yJ8_abs : MethodName := ⟨RJ8, "abs", "(J)J"⟩
def dkwJ8_abs_0 : List UInt8 := [30, 9, 148, 156, 0, 8, 30, 117, 167, 0, 4, 30, 173]
abbrev dktJ8_abs_0 : List UInt8 := dkwJ8_abs_0 ++ []
theorem dksJ8_abs_0 : cJ8_abs.data.toList.drop 0 = dktJ8_abs_0 := by decide +kernel
theorem dJ8_abs_0 : decode cJ8_abs 0 = .ok (.lload_n 0, 1) := dk_30 (dk_at dksJ8_abs_0 0 rfl rfl)
theorem dJ8_abs_1 : decode cJ8_abs 1 = .ok (.lconst 0, 1) := dk_9 (dk_at dksJ8_abs_0 1 rfl rfl)
theorem dJ8_abs_2 : decode cJ8_abs 2 = .ok (.lcmp, 1) := dk_148 (dk_at dksJ8_abs_0 2 rfl rfl)
theorem dJ8_abs_3 : decode cJ8_abs 3 = .ok (.ifCond .ge 8, 3) := dk_156 0 8 (dk_at dksJ8_abs_0 3 rfl rfl)
theorem dJ8_abs_6 : decode cJ8_abs 6 = .ok (.lload_n 0, 1) := dk_30 (dk_at dksJ8_abs_0 6 rfl rfl)
theorem dJ8_abs_7 : decode cJ8_abs 7 = .ok (.lneg, 1) := dk_117 (dk_at dksJ8_abs_0 7 rfl rfl)
theorem dJ8_abs_8 : decode cJ8_abs 8 = .ok (.goto 4, 3) := dk_167 0 4 (dk_at dksJ8_abs_0 8 rfl rfl)
theorem dJ8_abs_11 : decode cJ8_abs 11 = .ok (.lload_n 0, 1) := dk_30 (dk_at dksJ8_abs_0 11 rfl rfl)
theorem dJ8_abs_12 : decode cJ8_abs 12 = .ok (.lreturn, 1) := dk_173 (dk_at dksJ8_abs_0 12 rfl rfl)
theorem q150 : (Jvm.Cond.initialized "java/lang/Math") ∈ lw_all := lw_g (lw_at lw_m1 17 rfl) rfl
theorem q682 : (Jvm.Cond.static ({ cls := "java/lang/Math", name := "min", desc := "(II)I" } : Jvm.MethodName)) ∈ lw_all := lw_g (lw_at lw_m3 69 rfl) rfl
theorem q683 : (Jvm.Cond.code ({ cls := "java/lang/Math", name := "min", desc := "(II)I" } : Jvm.MethodName) prog_21_method_69_code (2 : Nat) (Option.some Jvm.ClassFile.FieldType.int)) ∈ lw_all := lw_g (lw_at lw_m3 70 rfl) rfl
theorem q1059 : (Jvm.Cond.static ({ cls := "java/lang/Math", name := "max", desc := "(II)I" } : Jvm.MethodName)) ∈ lw_all := lw_g (lw_at lw_m4 206 rfl) rfl
theorem q1060 : (Jvm.Cond.code ({ cls := "java/lang/Math", name := "max", desc := "(II)I" } : Jvm.MethodName) prog_21_method_65_code (2 : Nat) (Option.some Jvm.ClassFile.FieldType.int)) ∈ lw_all := lw_g (lw_at lw_m4 207 rfl) rfl
theorem q1437 : (Jvm.Cond.static ({ cls := "java/lang/Math", name := "abs", desc := "(J)J" } : Jvm.MethodName)) ∈ lw_all := lw_g (lw_at lw_m6 104 rfl) rfl
theorem q1438 : (Jvm.Cond.code ({ cls := "java/lang/Math", name := "abs", desc := "(J)J" } : Jvm.MethodName) prog_21_method_61_code (2 : Nat) (Option.some Jvm.ClassFile.FieldType.long)) ∈ lw_all := lw_g (lw_at lw_m6 105 rfl) rfl

/-! java/lang/StringLatin1 -/
set_option maxRecDepth 100000
def RJ9 : String := "java/lang/StringLatin1"
abbrev cJ9_charAt : ByteArray := prog_26_method_2_code
def yJ9_charAt : MethodName := ⟨RJ9, "charAt", "([BI)C"⟩
def dkwJ9_charAt_0 : List UInt8 := [27, 42, 190, 184, 0, 9, 42, 27, 51, 17, 0, 255, 126, 146, 172]
abbrev dktJ9_charAt_0 : List UInt8 := dkwJ9_charAt_0 ++ []
theorem dksJ9_charAt_0 : cJ9_charAt.data.toList.drop 0 = dktJ9_charAt_0 := by decide +kernel
theorem dJ9_charAt_0 : decode cJ9_charAt 0 = .ok (.iload_n 1, 1) := dk_27 (dk_at dksJ9_charAt_0 0 rfl rfl)
theorem dJ9_charAt_1 : decode cJ9_charAt 1 = .ok (.aload_n 0, 1) := dk_42 (dk_at dksJ9_charAt_0 1 rfl rfl)
theorem dJ9_charAt_2 : decode cJ9_charAt 2 = .ok (.arraylength, 1) := dk_190 (dk_at dksJ9_charAt_0 2 rfl rfl)
theorem dJ9_charAt_3 : decode cJ9_charAt 3 = .ok (.invokestatic 9, 3) := dk_184 0 9 (dk_at dksJ9_charAt_0 3 rfl rfl)
theorem dJ9_charAt_6 : decode cJ9_charAt 6 = .ok (.aload_n 0, 1) := dk_42 (dk_at dksJ9_charAt_0 6 rfl rfl)
theorem dJ9_charAt_7 : decode cJ9_charAt 7 = .ok (.iload_n 1, 1) := dk_27 (dk_at dksJ9_charAt_0 7 rfl rfl)
theorem dJ9_charAt_8 : decode cJ9_charAt 8 = .ok (.baload, 1) := dk_51 (dk_at dksJ9_charAt_0 8 rfl rfl)
theorem dJ9_charAt_9 : decode cJ9_charAt 9 = .ok (.sipush 255, 3) := dk_17 0 255 (dk_at dksJ9_charAt_0 9 rfl rfl)
theorem dJ9_charAt_12 : decode cJ9_charAt 12 = .ok (.iand, 1) := dk_126 (dk_at dksJ9_charAt_0 12 rfl rfl)
theorem dJ9_charAt_13 : decode cJ9_charAt 13 = .ok (.i2c, 1) := dk_146 (dk_at dksJ9_charAt_0 13 rfl rfl)
theorem dJ9_charAt_14 : decode cJ9_charAt 14 = .ok (.ireturn, 1) := dk_172 (dk_at dksJ9_charAt_0 14 rfl rfl)
theorem q151 : (Jvm.Cond.initialized "java/lang/StringLatin1") ∈ lw_all := lw_g (lw_at lw_m1 18 rfl) rfl
theorem q707 : (Jvm.Cond.static ({ cls := "java/lang/StringLatin1", name := "charAt", desc := "([BI)C" } : Jvm.MethodName)) ∈ lw_all := lw_g (lw_at lw_m3 94 rfl) rfl
theorem q708 : (Jvm.Cond.code ({ cls := "java/lang/StringLatin1", name := "charAt", desc := "([BI)C" } : Jvm.MethodName) prog_26_method_2_code (2 : Nat) (Option.some Jvm.ClassFile.FieldType.char)) ∈ lw_all := lw_g (lw_at lw_m3 95 rfl) rfl
theorem q709 : (Jvm.Cond.methodLink "java/lang/StringLatin1" (9 : Nat) ({ cls := "java/lang/String", name := "checkIndex", desc := "(II)V" } : Jvm.MethodName)) ∈ lw_all := lw_g (lw_at lw_m3 96 rfl) rfl

/-! the law's own entry -/
set_option maxRecDepth 100000
abbrev cL_law : ByteArray := code
def dkwL_law_64 : List UInt8 := [3, 172, 132, 3, 6, 167, 249, 101, 4, 172]
abbrev dktL_law_64 : List UInt8 := dkwL_law_64 ++ []
def dkwL_law_63 : List UInt8 := [43, 182, 0, 240, 44, 182, 0, 243, 159, 0, 18, 3, 172, 43, 182, 0, 244, 44, 182, 0, 247, 159, 0, 5]
abbrev dktL_law_63 : List UInt8 := dkwL_law_63 ++ dktL_law_64
def dkwL_law_62 : List UInt8 := [44, 42, 29, 4, 96, 46, 42, 29, 5, 96, 46, 42, 29, 6, 96, 46, 182, 0, 239, 159, 0, 31, 3, 172]
abbrev dktL_law_62 : List UInt8 := dkwL_law_62 ++ dktL_law_63
def dkwL_law_61 : List UInt8 := [159, 0, 74, 3, 172, 43, 42, 29, 4, 96, 46, 42, 29, 5, 96, 46, 42, 29, 6, 96, 46, 182, 0, 236]
abbrev dktL_law_61 : List UInt8 := dkwL_law_61 ++ dktL_law_62
def dkwL_law_60 : List UInt8 := [42, 29, 5, 96, 46, 182, 0, 232, 44, 42, 29, 4, 96, 46, 42, 29, 5, 96, 46, 182, 0, 235]
abbrev dktL_law_60 : List UInt8 := dkwL_law_60 ++ dktL_law_61
def dkwL_law_59 : List UInt8 := [46, 182, 0, 228, 44, 42, 29, 4, 96, 46, 182, 0, 231, 159, 0, 107, 3, 172, 43, 42, 29, 4, 96, 46]
abbrev dktL_law_59 : List UInt8 := dkwL_law_59 ++ dktL_law_60
def dkwL_law_58 : List UInt8 := [96, 46, 182, 0, 224, 44, 42, 29, 4, 96, 46, 182, 0, 227, 159, 0, 130, 3, 172, 43, 42, 29, 4, 96]
abbrev dktL_law_58 : List UInt8 := dkwL_law_58 ++ dktL_law_59
def dkwL_law_57 : List UInt8 := [4, 96, 46, 182, 0, 220, 44, 42, 29, 4, 96, 46, 182, 0, 223, 159, 0, 153, 3, 172, 43, 42, 29, 4]
abbrev dktL_law_57 : List UInt8 := dkwL_law_57 ++ dktL_law_58
def dkwL_law_56 : List UInt8 := [29, 4, 96, 46, 182, 0, 216, 44, 42, 29, 4, 96, 46, 182, 0, 219, 159, 0, 176, 3, 172, 43, 42, 29]
abbrev dktL_law_56 : List UInt8 := dkwL_law_56 ++ dktL_law_57
def dkwL_law_55 : List UInt8 := [182, 0, 212, 44, 42, 29, 4, 96, 46, 42, 29, 5, 96, 46, 182, 0, 215, 159, 0, 199, 3, 172, 43, 42]
abbrev dktL_law_55 : List UInt8 := dkwL_law_55 ++ dktL_law_56
def dkwL_law_54 : List UInt8 := [4, 96, 46, 182, 0, 211, 159, 0, 232, 3, 172, 43, 42, 29, 4, 96, 46, 42, 29, 5, 96, 46]
abbrev dktL_law_54 : List UInt8 := dkwL_law_54 ++ dktL_law_55
def dkwL_law_53 : List UInt8 := [182, 0, 204, 44, 182, 0, 207, 159, 0, 255, 3, 172, 43, 42, 29, 4, 96, 46, 182, 0, 208, 44, 42, 29]
abbrev dktL_law_53 : List UInt8 := dkwL_law_53 ++ dktL_law_54
def dkwL_law_52 : List UInt8 := [182, 0, 198, 159, 1, 25, 3, 172, 43, 182, 0, 199, 44, 182, 0, 203, 159, 1, 12, 3, 172, 43]
abbrev dktL_law_52 : List UInt8 := dkwL_law_52 ++ dktL_law_53
def dkwL_law_51 : List UInt8 := [4, 96, 46, 42, 29, 5, 96, 46, 182, 0, 194, 44, 42, 29, 4, 96, 46, 42, 29, 5, 96, 46]
abbrev dktL_law_51 : List UInt8 := dkwL_law_51 ++ dktL_law_52
def dkwL_law_50 : List UInt8 := [182, 0, 189, 159, 1, 71, 3, 172, 43, 182, 0, 190, 44, 182, 0, 193, 159, 1, 58, 3, 172, 43, 42, 29]
abbrev dktL_law_50 : List UInt8 := dkwL_law_50 ++ dktL_law_51
def dkwL_law_49 : List UInt8 := [182, 0, 182, 44, 42, 29, 4, 96, 46, 182, 0, 185, 159, 1, 84, 3, 172, 43, 182, 0, 186, 44]
abbrev dktL_law_49 : List UInt8 := dkwL_law_49 ++ dktL_law_50
def dkwL_law_48 : List UInt8 := [159, 1, 120, 3, 172, 43, 182, 0, 178, 44, 182, 0, 181, 159, 1, 107, 3, 172, 43, 42, 29, 4, 96, 46]
abbrev dktL_law_48 : List UInt8 := dkwL_law_48 ++ dktL_law_49
def dkwL_law_47 : List UInt8 := [182, 0, 174, 44, 42, 29, 4, 96, 46, 42, 29, 5, 96, 46, 42, 29, 6, 96, 46, 182, 0, 177]
abbrev dktL_law_47 : List UInt8 := dkwL_law_47 ++ dktL_law_48
def dkwL_law_46 : List UInt8 := [182, 0, 173, 159, 1, 163, 3, 172, 43, 42, 29, 4, 96, 46, 42, 29, 5, 96, 46, 42, 29, 6, 96, 46]
abbrev dktL_law_46 : List UInt8 := dkwL_law_46 ++ dktL_law_47
def dkwL_law_45 : List UInt8 := [182, 0, 169, 159, 1, 186, 3, 172, 43, 42, 29, 4, 96, 46, 182, 0, 170, 44, 42, 29, 4, 96, 46]
abbrev dktL_law_45 : List UInt8 := dkwL_law_45 ++ dktL_law_46
def dkwL_law_44 : List UInt8 := [182, 0, 165, 159, 1, 209, 3, 172, 43, 42, 29, 4, 96, 46, 182, 0, 166, 44, 42, 29, 4, 96, 46]
abbrev dktL_law_44 : List UInt8 := dkwL_law_44 ++ dktL_law_45
def dkwL_law_43 : List UInt8 := [159, 1, 235, 3, 172, 43, 182, 0, 158, 44, 182, 0, 161, 159, 1, 222, 3, 172, 43, 182, 0, 162, 44]
abbrev dktL_law_43 : List UInt8 := dkwL_law_43 ++ dktL_law_44
def dkwL_law_42 : List UInt8 := [46, 42, 29, 5, 96, 46, 182, 0, 154, 44, 42, 29, 4, 96, 46, 42, 29, 5, 96, 46, 182, 0, 157]
abbrev dktL_law_42 : List UInt8 := dkwL_law_42 ++ dktL_law_43
def dkwL_law_41 : List UInt8 := [96, 46, 182, 0, 150, 44, 42, 29, 4, 96, 46, 182, 0, 153, 159, 2, 12, 3, 172, 43, 42, 29, 4, 96]
abbrev dktL_law_41 : List UInt8 := dkwL_law_41 ++ dktL_law_42
def dkwL_law_40 : List UInt8 := [4, 96, 46, 182, 0, 146, 44, 42, 29, 4, 96, 46, 182, 0, 149, 159, 2, 35, 3, 172, 43, 42, 29, 4]
abbrev dktL_law_40 : List UInt8 := dkwL_law_40 ++ dktL_law_41
def dkwL_law_39 : List UInt8 := [182, 0, 141, 159, 2, 71, 3, 172, 43, 182, 0, 142, 44, 182, 0, 145, 159, 2, 58, 3, 172, 43, 42, 29]
abbrev dktL_law_39 : List UInt8 := dkwL_law_39 ++ dktL_law_40
def dkwL_law_38 : List UInt8 := [46, 182, 0, 137, 159, 2, 94, 3, 172, 43, 42, 29, 4, 96, 46, 182, 0, 138, 44, 42, 29, 4, 96, 46]
abbrev dktL_law_38 : List UInt8 := dkwL_law_38 ++ dktL_law_39
def dkwL_law_37 : List UInt8 := [96, 46, 182, 0, 133, 159, 2, 117, 3, 172, 43, 42, 29, 4, 96, 46, 182, 0, 134, 44, 42, 29, 4, 96]
abbrev dktL_law_37 : List UInt8 := dkwL_law_37 ++ dktL_law_38
def dkwL_law_36 : List UInt8 := [4, 96, 46, 182, 0, 129, 159, 2, 140, 3, 172, 43, 42, 29, 4, 96, 46, 182, 0, 130, 44, 42, 29, 4]
abbrev dktL_law_36 : List UInt8 := dkwL_law_36 ++ dktL_law_37
def dkwL_law_35 : List UInt8 := [29, 6, 96, 46, 182, 0, 125, 159, 2, 163, 3, 172, 43, 42, 29, 4, 96, 46, 182, 0, 126, 44, 42, 29]
abbrev dktL_law_35 : List UInt8 := dkwL_law_35 ++ dktL_law_36
def dkwL_law_34 : List UInt8 := [29, 5, 96, 46, 42, 29, 6, 96, 46, 182, 0, 121, 44, 42, 29, 4, 96, 46, 42, 29, 5, 96, 46, 42]
abbrev dktL_law_34 : List UInt8 := dkwL_law_34 ++ dktL_law_35
def dkwL_law_33 : List UInt8 := [182, 0, 117, 44, 42, 29, 4, 96, 46, 182, 0, 120, 159, 2, 206, 3, 172, 43, 42, 29, 4, 96, 46, 42]
abbrev dktL_law_33 : List UInt8 := dkwL_law_33 ++ dktL_law_34
def dkwL_law_32 : List UInt8 := [182, 0, 112, 44, 42, 29, 4, 96, 46, 182, 0, 116, 159, 2, 229, 3, 172, 43, 42, 29, 4, 96, 46]
abbrev dktL_law_32 : List UInt8 := dkwL_law_32 ++ dktL_law_33
def dkwL_law_31 : List UInt8 := [182, 0, 108, 44, 42, 29, 4, 96, 46, 182, 0, 111, 159, 2, 252, 3, 172, 43, 42, 29, 4, 96, 46]
abbrev dktL_law_31 : List UInt8 := dkwL_law_31 ++ dktL_law_32
def dkwL_law_30 : List UInt8 := [182, 0, 104, 44, 42, 29, 4, 96, 46, 182, 0, 107, 159, 3, 19, 3, 172, 43, 42, 29, 4, 96, 46]
abbrev dktL_law_30 : List UInt8 := dkwL_law_30 ++ dktL_law_31
def dkwL_law_29 : List UInt8 := [159, 3, 55, 3, 172, 43, 182, 0, 100, 44, 182, 0, 103, 159, 3, 42, 3, 172, 43, 42, 29, 4, 96, 46]
abbrev dktL_law_29 : List UInt8 := dkwL_law_29 ++ dktL_law_30
def dkwL_law_28 : List UInt8 := [42, 29, 5, 96, 46, 182, 0, 96, 44, 42, 29, 4, 96, 46, 42, 29, 5, 96, 46, 182, 0, 99]
abbrev dktL_law_28 : List UInt8 := dkwL_law_28 ++ dktL_law_29
def dkwL_law_27 : List UInt8 := [46, 182, 0, 92, 44, 42, 29, 4, 96, 46, 182, 0, 95, 159, 3, 88, 3, 172, 43, 42, 29, 4, 96, 46]
abbrev dktL_law_27 : List UInt8 := dkwL_law_27 ++ dktL_law_28
def dkwL_law_26 : List UInt8 := [44, 42, 29, 4, 96, 46, 42, 29, 5, 96, 46, 182, 0, 91, 159, 3, 111, 3, 172, 43, 42, 29, 4, 96]
abbrev dktL_law_26 : List UInt8 := dkwL_law_26 ++ dktL_law_27
def dkwL_law_25 : List UInt8 := [96, 46, 182, 0, 87, 159, 3, 144, 3, 172, 43, 42, 29, 4, 96, 46, 42, 29, 5, 96, 46, 182, 0, 88]
abbrev dktL_law_25 : List UInt8 := dkwL_law_25 ++ dktL_law_26
def dkwL_law_24 : List UInt8 := [5, 96, 46, 182, 0, 83, 159, 3, 167, 3, 172, 43, 42, 29, 4, 96, 46, 182, 0, 84, 44, 42, 29, 4]
abbrev dktL_law_24 : List UInt8 := dkwL_law_24 ++ dktL_law_25
def dkwL_law_23 : List UInt8 := [3, 172, 43, 42, 29, 4, 96, 46, 42, 29, 5, 96, 46, 182, 0, 80, 44, 42, 29, 4, 96, 46, 42, 29]
abbrev dktL_law_23 : List UInt8 := dkwL_law_23 ++ dktL_law_24
def dkwL_law_22 : List UInt8 := [29, 5, 96, 46, 182, 0, 76, 44, 42, 29, 4, 96, 46, 42, 29, 5, 96, 46, 182, 0, 79, 159, 3, 200]
abbrev dktL_law_22 : List UInt8 := dkwL_law_22 ++ dktL_law_23
def dkwL_law_21 : List UInt8 := [29, 4, 96, 46, 42, 29, 5, 96, 46, 182, 0, 75, 159, 3, 233, 3, 172, 43, 42, 29, 4, 96, 46, 42]
abbrev dktL_law_21 : List UInt8 := dkwL_law_21 ++ dktL_law_22
def dkwL_law_20 : List UInt8 := [182, 0, 70, 159, 4, 10, 3, 172, 43, 42, 29, 4, 96, 46, 42, 29, 5, 96, 46, 182, 0, 71, 44, 42]
abbrev dktL_law_20 : List UInt8 := dkwL_law_20 ++ dktL_law_21
def dkwL_law_19 : List UInt8 := [182, 0, 66, 159, 4, 33, 3, 172, 43, 42, 29, 4, 96, 46, 182, 0, 67, 44, 42, 29, 4, 96, 46]
abbrev dktL_law_19 : List UInt8 := dkwL_law_19 ++ dktL_law_20
def dkwL_law_18 : List UInt8 := [182, 0, 62, 159, 4, 56, 3, 172, 43, 42, 29, 4, 96, 46, 182, 0, 63, 44, 42, 29, 4, 96, 46]
abbrev dktL_law_18 : List UInt8 := dkwL_law_18 ++ dktL_law_19
def dkwL_law_17 : List UInt8 := [182, 0, 58, 159, 4, 79, 3, 172, 43, 42, 29, 4, 96, 46, 182, 0, 59, 44, 42, 29, 4, 96, 46]
abbrev dktL_law_17 : List UInt8 := dkwL_law_17 ++ dktL_law_18
def dkwL_law_16 : List UInt8 := [182, 0, 53, 159, 4, 102, 3, 172, 43, 42, 29, 4, 96, 46, 182, 0, 54, 44, 42, 29, 4, 96, 46]
abbrev dktL_law_16 : List UInt8 := dkwL_law_16 ++ dktL_law_17
def dkwL_law_15 : List UInt8 := [4, 96, 46, 42, 29, 5, 96, 46, 42, 29, 6, 96, 46, 42, 29, 7, 96, 46, 42, 29, 8, 96, 46]
abbrev dktL_law_15 : List UInt8 := dkwL_law_15 ++ dktL_law_16
def dkwL_law_14 : List UInt8 := [5, 96, 46, 42, 29, 6, 96, 46, 42, 29, 7, 96, 46, 42, 29, 8, 96, 46, 182, 0, 49, 44, 42, 29]
abbrev dktL_law_14 : List UInt8 := dkwL_law_14 ++ dktL_law_15
def dkwL_law_13 : List UInt8 := [7, 96, 46, 42, 29, 8, 96, 46, 182, 0, 48, 159, 4, 165, 3, 172, 43, 42, 29, 4, 96, 46, 42, 29]
abbrev dktL_law_13 : List UInt8 := dkwL_law_13 ++ dktL_law_14
def dkwL_law_12 : List UInt8 := [8, 96, 46, 182, 0, 44, 44, 42, 29, 4, 96, 46, 42, 29, 5, 96, 46, 42, 29, 6, 96, 46, 42, 29]
abbrev dktL_law_12 : List UInt8 := dkwL_law_12 ++ dktL_law_13
def dkwL_law_11 : List UInt8 := [172, 43, 42, 29, 4, 96, 46, 42, 29, 5, 96, 46, 42, 29, 6, 96, 46, 42, 29, 7, 96, 46, 42, 29]
abbrev dktL_law_11 : List UInt8 := dkwL_law_11 ++ dktL_law_12
def dkwL_law_10 : List UInt8 := [96, 46, 182, 0, 39, 44, 42, 29, 4, 96, 46, 42, 29, 5, 96, 46, 182, 0, 43, 148, 153, 4, 228, 3]
abbrev dktL_law_10 : List UInt8 := dkwL_law_10 ++ dktL_law_11
def dkwL_law_9 : List UInt8 := [46, 133, 20, 0, 32, 127, 129, 182, 0, 38, 159, 5, 6, 3, 172, 43, 42, 29, 4, 96, 46, 42, 29, 5]
abbrev dktL_law_9 : List UInt8 := dkwL_law_9 ++ dktL_law_10
def dkwL_law_8 : List UInt8 := [44, 42, 29, 4, 96, 46, 42, 29, 5, 96, 46, 42, 29, 6, 96, 46, 133, 16, 32, 121, 42, 29, 7, 96]
abbrev dktL_law_8 : List UInt8 := dkwL_law_8 ++ dktL_law_9
def dkwL_law_7 : List UInt8 := [46, 42, 29, 6, 96, 46, 133, 16, 32, 121, 42, 29, 7, 96, 46, 133, 20, 0, 32, 127, 129, 182, 0, 34]
abbrev dktL_law_7 : List UInt8 := dkwL_law_7 ++ dktL_law_8
def dkwL_law_6 : List UInt8 := [46, 42, 29, 6, 96, 46, 182, 0, 31, 159, 5, 79, 3, 172, 43, 42, 29, 4, 96, 46, 42, 29, 5, 96]
abbrev dktL_law_6 : List UInt8 := dkwL_law_6 ++ dktL_law_7
def dkwL_law_5 : List UInt8 := [46, 42, 29, 5, 96, 46, 42, 29, 6, 96, 46, 182, 0, 27, 44, 42, 29, 4, 96, 46, 42, 29, 5, 96]
abbrev dktL_law_5 : List UInt8 := dkwL_law_5 ++ dktL_law_6
def dkwL_law_4 : List UInt8 := [153, 5, 136, 3, 172, 43, 182, 0, 23, 44, 182, 0, 26, 148, 153, 5, 122, 3, 172, 43, 42, 29, 4, 96]
abbrev dktL_law_4 : List UInt8 := dkwL_law_4 ++ dktL_law_5
def dkwL_law_3 : List UInt8 := [43, 182, 0, 13, 44, 182, 0, 17, 159, 5, 150, 3, 172, 43, 182, 0, 18, 44, 182, 0, 22, 148]
abbrev dktL_law_3 : List UInt8 := dkwL_law_3 ++ dktL_law_4
def dkwL_law_2 : List UInt8 := [170, 0, 0, 0, 0, 6, 137, 0, 0, 0, 0, 0, 0, 0, 54, 0, 0, 0, 235, 0, 0, 0, 248, 0, 0, 1, 6, 0, 0, 1, 20, 0, 0, 1, 63, 0, 0, 1, 136, 0, 0, 1, 170, 0, 0, 1, 233, 0, 0, 2, 40, 0, 0, 2, 63, 0, 0, 2, 86, 0, 0, 2, 109, 0, 0, 2, 132, 0, 0, 2, 165, 0, 0, 2, 198, 0, 0, 2, 231, 0, 0, 2, 254, 0, 0, 3, 31, 0, 0, 3, 54, 0, 0, 3, 87, 0, 0, 3, 100, 0, 0, 3, 123, 0, 0, 3, 146, 0, 0, 3, 169, 0, 0, 3, 192, 0, 0, 3, 235, 0, 0, 4, 2, 0, 0, 4, 25, 0, 0, 4, 48, 0, 0, 4, 71, 0, 0, 4, 84, 0, 0, 4, 107, 0, 0, 4, 130, 0, 0, 4, 163, 0, 0, 4, 176, 0, 0, 4, 189, 0, 0, 4, 212, 0, 0, 4, 235, 0, 0, 5, 22, 0, 0, 5, 35, 0, 0, 5, 58, 0, 0, 5, 71, 0, 0, 5, 84, 0, 0, 5, 117, 0, 0, 5, 130, 0, 0, 5, 143, 0, 0, 5, 166, 0, 0, 5, 199, 0, 0, 5, 222, 0, 0, 5, 245, 0, 0, 6, 12, 0, 0, 6, 35, 0, 0, 6, 68, 0, 0, 6, 111, 0, 0, 6, 124]
abbrev dktL_law_2 : List UInt8 := dkwL_law_2 ++ dktL_law_3
def dkwL_law_1 : List UInt8 := [163, 6, 152, 42, 29, 46, 16, 63, 126]
abbrev dktL_law_1 : List UInt8 := dkwL_law_1 ++ dktL_law_2
def dkwL_law_0 : List UInt8 := [187, 0, 7, 89, 183, 0, 9, 76, 187, 0, 10, 89, 183, 0, 12, 77, 3, 62, 29, 42, 190, 16, 6, 100]
abbrev dktL_law_0 : List UInt8 := dkwL_law_0 ++ dktL_law_1
theorem dksL_law_0 : cL_law.data.toList.drop 0 = dktL_law_0 := by decide +kernel
theorem dksL_law_1 : cL_law.data.toList.drop 24 = dktL_law_1 := dk_seg dksL_law_0 24 rfl rfl
theorem dksL_law_2 : cL_law.data.toList.drop 33 = dktL_law_2 := dk_seg dksL_law_1 9 rfl rfl
theorem dksL_law_3 : cL_law.data.toList.drop 268 = dktL_law_3 := dk_seg dksL_law_2 235 rfl rfl
theorem dksL_law_4 : cL_law.data.toList.drop 290 = dktL_law_4 := dk_seg dksL_law_3 22 rfl rfl
theorem dksL_law_5 : cL_law.data.toList.drop 314 = dktL_law_5 := dk_seg dksL_law_4 24 rfl rfl
theorem dksL_law_6 : cL_law.data.toList.drop 338 = dktL_law_6 := dk_seg dksL_law_5 24 rfl rfl
theorem dksL_law_7 : cL_law.data.toList.drop 362 = dktL_law_7 := dk_seg dksL_law_6 24 rfl rfl
theorem dksL_law_8 : cL_law.data.toList.drop 386 = dktL_law_8 := dk_seg dksL_law_7 24 rfl rfl
theorem dksL_law_9 : cL_law.data.toList.drop 410 = dktL_law_9 := dk_seg dksL_law_8 24 rfl rfl
theorem dksL_law_10 : cL_law.data.toList.drop 434 = dktL_law_10 := dk_seg dksL_law_9 24 rfl rfl
theorem dksL_law_11 : cL_law.data.toList.drop 458 = dktL_law_11 := dk_seg dksL_law_10 24 rfl rfl
theorem dksL_law_12 : cL_law.data.toList.drop 482 = dktL_law_12 := dk_seg dksL_law_11 24 rfl rfl
theorem dksL_law_13 : cL_law.data.toList.drop 506 = dktL_law_13 := dk_seg dksL_law_12 24 rfl rfl
theorem dksL_law_14 : cL_law.data.toList.drop 530 = dktL_law_14 := dk_seg dksL_law_13 24 rfl rfl
theorem dksL_law_15 : cL_law.data.toList.drop 554 = dktL_law_15 := dk_seg dksL_law_14 24 rfl rfl
theorem dksL_law_16 : cL_law.data.toList.drop 577 = dktL_law_16 := dk_seg dksL_law_15 23 rfl rfl
theorem dksL_law_17 : cL_law.data.toList.drop 600 = dktL_law_17 := dk_seg dksL_law_16 23 rfl rfl
theorem dksL_law_18 : cL_law.data.toList.drop 623 = dktL_law_18 := dk_seg dksL_law_17 23 rfl rfl
theorem dksL_law_19 : cL_law.data.toList.drop 646 = dktL_law_19 := dk_seg dksL_law_18 23 rfl rfl
theorem dksL_law_20 : cL_law.data.toList.drop 669 = dktL_law_20 := dk_seg dksL_law_19 23 rfl rfl
theorem dksL_law_21 : cL_law.data.toList.drop 693 = dktL_law_21 := dk_seg dksL_law_20 24 rfl rfl
theorem dksL_law_22 : cL_law.data.toList.drop 717 = dktL_law_22 := dk_seg dksL_law_21 24 rfl rfl
theorem dksL_law_23 : cL_law.data.toList.drop 741 = dktL_law_23 := dk_seg dksL_law_22 24 rfl rfl
theorem dksL_law_24 : cL_law.data.toList.drop 765 = dktL_law_24 := dk_seg dksL_law_23 24 rfl rfl
theorem dksL_law_25 : cL_law.data.toList.drop 789 = dktL_law_25 := dk_seg dksL_law_24 24 rfl rfl
theorem dksL_law_26 : cL_law.data.toList.drop 813 = dktL_law_26 := dk_seg dksL_law_25 24 rfl rfl
theorem dksL_law_27 : cL_law.data.toList.drop 837 = dktL_law_27 := dk_seg dksL_law_26 24 rfl rfl
theorem dksL_law_28 : cL_law.data.toList.drop 861 = dktL_law_28 := dk_seg dksL_law_27 24 rfl rfl
theorem dksL_law_29 : cL_law.data.toList.drop 883 = dktL_law_29 := dk_seg dksL_law_28 22 rfl rfl
theorem dksL_law_30 : cL_law.data.toList.drop 907 = dktL_law_30 := dk_seg dksL_law_29 24 rfl rfl
theorem dksL_law_31 : cL_law.data.toList.drop 930 = dktL_law_31 := dk_seg dksL_law_30 23 rfl rfl
theorem dksL_law_32 : cL_law.data.toList.drop 953 = dktL_law_32 := dk_seg dksL_law_31 23 rfl rfl
theorem dksL_law_33 : cL_law.data.toList.drop 976 = dktL_law_33 := dk_seg dksL_law_32 23 rfl rfl
theorem dksL_law_34 : cL_law.data.toList.drop 1000 = dktL_law_34 := dk_seg dksL_law_33 24 rfl rfl
theorem dksL_law_35 : cL_law.data.toList.drop 1024 = dktL_law_35 := dk_seg dksL_law_34 24 rfl rfl
theorem dksL_law_36 : cL_law.data.toList.drop 1048 = dktL_law_36 := dk_seg dksL_law_35 24 rfl rfl
theorem dksL_law_37 : cL_law.data.toList.drop 1072 = dktL_law_37 := dk_seg dksL_law_36 24 rfl rfl
theorem dksL_law_38 : cL_law.data.toList.drop 1096 = dktL_law_38 := dk_seg dksL_law_37 24 rfl rfl
theorem dksL_law_39 : cL_law.data.toList.drop 1120 = dktL_law_39 := dk_seg dksL_law_38 24 rfl rfl
theorem dksL_law_40 : cL_law.data.toList.drop 1144 = dktL_law_40 := dk_seg dksL_law_39 24 rfl rfl
theorem dksL_law_41 : cL_law.data.toList.drop 1168 = dktL_law_41 := dk_seg dksL_law_40 24 rfl rfl
theorem dksL_law_42 : cL_law.data.toList.drop 1192 = dktL_law_42 := dk_seg dksL_law_41 24 rfl rfl
theorem dksL_law_43 : cL_law.data.toList.drop 1215 = dktL_law_43 := dk_seg dksL_law_42 23 rfl rfl
theorem dksL_law_44 : cL_law.data.toList.drop 1238 = dktL_law_44 := dk_seg dksL_law_43 23 rfl rfl
theorem dksL_law_45 : cL_law.data.toList.drop 1261 = dktL_law_45 := dk_seg dksL_law_44 23 rfl rfl
theorem dksL_law_46 : cL_law.data.toList.drop 1284 = dktL_law_46 := dk_seg dksL_law_45 23 rfl rfl
theorem dksL_law_47 : cL_law.data.toList.drop 1308 = dktL_law_47 := dk_seg dksL_law_46 24 rfl rfl
theorem dksL_law_48 : cL_law.data.toList.drop 1330 = dktL_law_48 := dk_seg dksL_law_47 22 rfl rfl
theorem dksL_law_49 : cL_law.data.toList.drop 1354 = dktL_law_49 := dk_seg dksL_law_48 24 rfl rfl
theorem dksL_law_50 : cL_law.data.toList.drop 1376 = dktL_law_50 := dk_seg dksL_law_49 22 rfl rfl
theorem dksL_law_51 : cL_law.data.toList.drop 1400 = dktL_law_51 := dk_seg dksL_law_50 24 rfl rfl
theorem dksL_law_52 : cL_law.data.toList.drop 1422 = dktL_law_52 := dk_seg dksL_law_51 22 rfl rfl
theorem dksL_law_53 : cL_law.data.toList.drop 1444 = dktL_law_53 := dk_seg dksL_law_52 22 rfl rfl
theorem dksL_law_54 : cL_law.data.toList.drop 1468 = dktL_law_54 := dk_seg dksL_law_53 24 rfl rfl
theorem dksL_law_55 : cL_law.data.toList.drop 1490 = dktL_law_55 := dk_seg dksL_law_54 22 rfl rfl
theorem dksL_law_56 : cL_law.data.toList.drop 1514 = dktL_law_56 := dk_seg dksL_law_55 24 rfl rfl
theorem dksL_law_57 : cL_law.data.toList.drop 1538 = dktL_law_57 := dk_seg dksL_law_56 24 rfl rfl
theorem dksL_law_58 : cL_law.data.toList.drop 1562 = dktL_law_58 := dk_seg dksL_law_57 24 rfl rfl
theorem dksL_law_59 : cL_law.data.toList.drop 1586 = dktL_law_59 := dk_seg dksL_law_58 24 rfl rfl
theorem dksL_law_60 : cL_law.data.toList.drop 1610 = dktL_law_60 := dk_seg dksL_law_59 24 rfl rfl
theorem dksL_law_61 : cL_law.data.toList.drop 1632 = dktL_law_61 := dk_seg dksL_law_60 22 rfl rfl
theorem dksL_law_62 : cL_law.data.toList.drop 1656 = dktL_law_62 := dk_seg dksL_law_61 24 rfl rfl
theorem dksL_law_63 : cL_law.data.toList.drop 1680 = dktL_law_63 := dk_seg dksL_law_62 24 rfl rfl
theorem dksL_law_64 : cL_law.data.toList.drop 1704 = dktL_law_64 := dk_seg dksL_law_63 24 rfl rfl
theorem dL_law_0 : decode cL_law 0 = .ok (.new 7, 3) := dk_187 0 7 (dk_at dksL_law_0 0 rfl rfl)
theorem dL_law_3 : decode cL_law 3 = .ok (.dup, 1) := dk_89 (dk_at dksL_law_0 3 rfl rfl)
theorem dL_law_4 : decode cL_law 4 = .ok (.invokespecial 9, 3) := dk_183 0 9 (dk_at dksL_law_0 4 rfl rfl)
theorem dL_law_7 : decode cL_law 7 = .ok (.astore_n 1, 1) := dk_76 (dk_at dksL_law_0 7 rfl rfl)
theorem dL_law_8 : decode cL_law 8 = .ok (.new 10, 3) := dk_187 0 10 (dk_at dksL_law_0 8 rfl rfl)
theorem dL_law_11 : decode cL_law 11 = .ok (.dup, 1) := dk_89 (dk_at dksL_law_0 11 rfl rfl)
theorem dL_law_12 : decode cL_law 12 = .ok (.invokespecial 12, 3) := dk_183 0 12 (dk_at dksL_law_0 12 rfl rfl)
theorem dL_law_15 : decode cL_law 15 = .ok (.astore_n 2, 1) := dk_77 (dk_at dksL_law_0 15 rfl rfl)
theorem dL_law_16 : decode cL_law 16 = .ok (.iconst 0, 1) := dk_3 (dk_at dksL_law_0 16 rfl rfl)
theorem dL_law_17 : decode cL_law 17 = .ok (.istore_n 3, 1) := dk_62 (dk_at dksL_law_0 17 rfl rfl)
theorem dL_law_18 : decode cL_law 18 = .ok (.iload_n 3, 1) := dk_29 (dk_at dksL_law_0 18 rfl rfl)
theorem dL_law_19 : decode cL_law 19 = .ok (.aload_n 0, 1) := dk_42 (dk_at dksL_law_0 19 rfl rfl)
theorem dL_law_20 : decode cL_law 20 = .ok (.arraylength, 1) := dk_190 (dk_at dksL_law_0 20 rfl rfl)
theorem dL_law_21 : decode cL_law 21 = .ok (.bipush 6, 2) := dk_16 6 (dk_at dksL_law_0 21 rfl rfl)
theorem dL_law_23 : decode cL_law 23 = .ok (.isub, 1) := dk_100 (dk_at dksL_law_0 23 rfl rfl)
theorem dL_law_24 : decode cL_law 24 = .ok (.if_icmp .gt 1688, 3) := dk_163 6 152 (dk_at dksL_law_1 0 rfl rfl)
theorem dL_law_27 : decode cL_law 27 = .ok (.aload_n 0, 1) := dk_42 (dk_at dksL_law_1 3 rfl rfl)
theorem dL_law_28 : decode cL_law 28 = .ok (.iload_n 3, 1) := dk_29 (dk_at dksL_law_1 4 rfl rfl)
theorem dL_law_29 : decode cL_law 29 = .ok (.iaload, 1) := dk_46 (dk_at dksL_law_1 5 rfl rfl)
theorem dL_law_30 : decode cL_law 30 = .ok (.bipush 63, 2) := dk_16 63 (dk_at dksL_law_1 6 rfl rfl)
theorem dL_law_32 : decode cL_law 32 = .ok (.iand, 1) := dk_126 (dk_at dksL_law_1 8 rfl rfl)
theorem dL_law_33 : decode cL_law 33 = .ok (.tableswitch 1673 0 54 #[235, 248, 262, 276, 319, 392, 426, 489, 552, 575, 598, 621, 644, 677, 710, 743, 766, 799, 822, 855, 868, 891, 914, 937, 960, 1003, 1026, 1049, 1072, 1095, 1108, 1131, 1154, 1187, 1200, 1213, 1236, 1259, 1302, 1315, 1338, 1351, 1364, 1397, 1410, 1423, 1446, 1479, 1502, 1525, 1548, 1571, 1604, 1647, 1660], 235) := by decide +kernel
theorem dL_law_268 : decode cL_law 268 = .ok (.aload_n 1, 1) := dk_43 (dk_at dksL_law_3 0 rfl rfl)
theorem dL_law_269 : decode cL_law 269 = .ok (.invokevirtual 13, 3) := dk_182 0 13 (dk_at dksL_law_3 1 rfl rfl)
theorem dL_law_272 : decode cL_law 272 = .ok (.aload_n 2, 1) := dk_44 (dk_at dksL_law_3 4 rfl rfl)
theorem dL_law_273 : decode cL_law 273 = .ok (.invokevirtual 17, 3) := dk_182 0 17 (dk_at dksL_law_3 5 rfl rfl)
theorem dL_law_276 : decode cL_law 276 = .ok (.if_icmp .eq 1430, 3) := dk_159 5 150 (dk_at dksL_law_3 8 rfl rfl)
theorem dL_law_279 : decode cL_law 279 = .ok (.iconst 0, 1) := dk_3 (dk_at dksL_law_3 11 rfl rfl)
theorem dL_law_280 : decode cL_law 280 = .ok (.ireturn, 1) := dk_172 (dk_at dksL_law_3 12 rfl rfl)
theorem dL_law_281 : decode cL_law 281 = .ok (.aload_n 1, 1) := dk_43 (dk_at dksL_law_3 13 rfl rfl)
theorem dL_law_282 : decode cL_law 282 = .ok (.invokevirtual 18, 3) := dk_182 0 18 (dk_at dksL_law_3 14 rfl rfl)
theorem dL_law_285 : decode cL_law 285 = .ok (.aload_n 2, 1) := dk_44 (dk_at dksL_law_3 17 rfl rfl)
theorem dL_law_286 : decode cL_law 286 = .ok (.invokevirtual 22, 3) := dk_182 0 22 (dk_at dksL_law_3 18 rfl rfl)
theorem dL_law_289 : decode cL_law 289 = .ok (.lcmp, 1) := dk_148 (dk_at dksL_law_3 21 rfl rfl)
theorem dL_law_290 : decode cL_law 290 = .ok (.ifCond .eq 1416, 3) := dk_153 5 136 (dk_at dksL_law_4 0 rfl rfl)
theorem dL_law_293 : decode cL_law 293 = .ok (.iconst 0, 1) := dk_3 (dk_at dksL_law_4 3 rfl rfl)
theorem dL_law_294 : decode cL_law 294 = .ok (.ireturn, 1) := dk_172 (dk_at dksL_law_4 4 rfl rfl)
theorem dL_law_295 : decode cL_law 295 = .ok (.aload_n 1, 1) := dk_43 (dk_at dksL_law_4 5 rfl rfl)
theorem dL_law_296 : decode cL_law 296 = .ok (.invokevirtual 23, 3) := dk_182 0 23 (dk_at dksL_law_4 6 rfl rfl)
theorem dL_law_299 : decode cL_law 299 = .ok (.aload_n 2, 1) := dk_44 (dk_at dksL_law_4 9 rfl rfl)
theorem dL_law_300 : decode cL_law 300 = .ok (.invokevirtual 26, 3) := dk_182 0 26 (dk_at dksL_law_4 10 rfl rfl)
theorem dL_law_303 : decode cL_law 303 = .ok (.lcmp, 1) := dk_148 (dk_at dksL_law_4 13 rfl rfl)
theorem dL_law_304 : decode cL_law 304 = .ok (.ifCond .eq 1402, 3) := dk_153 5 122 (dk_at dksL_law_4 14 rfl rfl)
theorem dL_law_307 : decode cL_law 307 = .ok (.iconst 0, 1) := dk_3 (dk_at dksL_law_4 17 rfl rfl)
theorem dL_law_308 : decode cL_law 308 = .ok (.ireturn, 1) := dk_172 (dk_at dksL_law_4 18 rfl rfl)
theorem dL_law_309 : decode cL_law 309 = .ok (.aload_n 1, 1) := dk_43 (dk_at dksL_law_4 19 rfl rfl)
theorem dL_law_310 : decode cL_law 310 = .ok (.aload_n 0, 1) := dk_42 (dk_at dksL_law_4 20 rfl rfl)
theorem dL_law_311 : decode cL_law 311 = .ok (.iload_n 3, 1) := dk_29 (dk_at dksL_law_4 21 rfl rfl)
theorem dL_law_312 : decode cL_law 312 = .ok (.iconst 1, 1) := dk_4 (dk_at dksL_law_4 22 rfl rfl)
theorem dL_law_313 : decode cL_law 313 = .ok (.iadd, 1) := dk_96 (dk_at dksL_law_4 23 rfl rfl)
theorem dL_law_314 : decode cL_law 314 = .ok (.iaload, 1) := dk_46 (dk_at dksL_law_5 0 rfl rfl)
theorem dL_law_315 : decode cL_law 315 = .ok (.aload_n 0, 1) := dk_42 (dk_at dksL_law_5 1 rfl rfl)
theorem dL_law_316 : decode cL_law 316 = .ok (.iload_n 3, 1) := dk_29 (dk_at dksL_law_5 2 rfl rfl)
theorem dL_law_317 : decode cL_law 317 = .ok (.iconst 2, 1) := dk_5 (dk_at dksL_law_5 3 rfl rfl)
theorem dL_law_318 : decode cL_law 318 = .ok (.iadd, 1) := dk_96 (dk_at dksL_law_5 4 rfl rfl)
theorem dL_law_319 : decode cL_law 319 = .ok (.iaload, 1) := dk_46 (dk_at dksL_law_5 5 rfl rfl)
theorem dL_law_320 : decode cL_law 320 = .ok (.aload_n 0, 1) := dk_42 (dk_at dksL_law_5 6 rfl rfl)
theorem dL_law_321 : decode cL_law 321 = .ok (.iload_n 3, 1) := dk_29 (dk_at dksL_law_5 7 rfl rfl)
theorem dL_law_322 : decode cL_law 322 = .ok (.iconst 3, 1) := dk_6 (dk_at dksL_law_5 8 rfl rfl)
theorem dL_law_323 : decode cL_law 323 = .ok (.iadd, 1) := dk_96 (dk_at dksL_law_5 9 rfl rfl)
theorem dL_law_324 : decode cL_law 324 = .ok (.iaload, 1) := dk_46 (dk_at dksL_law_5 10 rfl rfl)
theorem dL_law_325 : decode cL_law 325 = .ok (.invokevirtual 27, 3) := dk_182 0 27 (dk_at dksL_law_5 11 rfl rfl)
theorem dL_law_328 : decode cL_law 328 = .ok (.aload_n 2, 1) := dk_44 (dk_at dksL_law_5 14 rfl rfl)
theorem dL_law_329 : decode cL_law 329 = .ok (.aload_n 0, 1) := dk_42 (dk_at dksL_law_5 15 rfl rfl)
theorem dL_law_330 : decode cL_law 330 = .ok (.iload_n 3, 1) := dk_29 (dk_at dksL_law_5 16 rfl rfl)
theorem dL_law_331 : decode cL_law 331 = .ok (.iconst 1, 1) := dk_4 (dk_at dksL_law_5 17 rfl rfl)
theorem dL_law_332 : decode cL_law 332 = .ok (.iadd, 1) := dk_96 (dk_at dksL_law_5 18 rfl rfl)
theorem dL_law_333 : decode cL_law 333 = .ok (.iaload, 1) := dk_46 (dk_at dksL_law_5 19 rfl rfl)
theorem dL_law_334 : decode cL_law 334 = .ok (.aload_n 0, 1) := dk_42 (dk_at dksL_law_5 20 rfl rfl)
theorem dL_law_335 : decode cL_law 335 = .ok (.iload_n 3, 1) := dk_29 (dk_at dksL_law_5 21 rfl rfl)
theorem dL_law_336 : decode cL_law 336 = .ok (.iconst 2, 1) := dk_5 (dk_at dksL_law_5 22 rfl rfl)
theorem dL_law_337 : decode cL_law 337 = .ok (.iadd, 1) := dk_96 (dk_at dksL_law_5 23 rfl rfl)
theorem dL_law_338 : decode cL_law 338 = .ok (.iaload, 1) := dk_46 (dk_at dksL_law_6 0 rfl rfl)
theorem dL_law_339 : decode cL_law 339 = .ok (.aload_n 0, 1) := dk_42 (dk_at dksL_law_6 1 rfl rfl)
theorem dL_law_340 : decode cL_law 340 = .ok (.iload_n 3, 1) := dk_29 (dk_at dksL_law_6 2 rfl rfl)
theorem dL_law_341 : decode cL_law 341 = .ok (.iconst 3, 1) := dk_6 (dk_at dksL_law_6 3 rfl rfl)
theorem dL_law_342 : decode cL_law 342 = .ok (.iadd, 1) := dk_96 (dk_at dksL_law_6 4 rfl rfl)
theorem dL_law_343 : decode cL_law 343 = .ok (.iaload, 1) := dk_46 (dk_at dksL_law_6 5 rfl rfl)
theorem dL_law_344 : decode cL_law 344 = .ok (.invokevirtual 31, 3) := dk_182 0 31 (dk_at dksL_law_6 6 rfl rfl)
theorem dL_law_347 : decode cL_law 347 = .ok (.if_icmp .eq 1359, 3) := dk_159 5 79 (dk_at dksL_law_6 9 rfl rfl)
theorem dL_law_350 : decode cL_law 350 = .ok (.iconst 0, 1) := dk_3 (dk_at dksL_law_6 12 rfl rfl)
theorem dL_law_351 : decode cL_law 351 = .ok (.ireturn, 1) := dk_172 (dk_at dksL_law_6 13 rfl rfl)
theorem dL_law_352 : decode cL_law 352 = .ok (.aload_n 1, 1) := dk_43 (dk_at dksL_law_6 14 rfl rfl)
theorem dL_law_353 : decode cL_law 353 = .ok (.aload_n 0, 1) := dk_42 (dk_at dksL_law_6 15 rfl rfl)
theorem dL_law_354 : decode cL_law 354 = .ok (.iload_n 3, 1) := dk_29 (dk_at dksL_law_6 16 rfl rfl)
theorem dL_law_355 : decode cL_law 355 = .ok (.iconst 1, 1) := dk_4 (dk_at dksL_law_6 17 rfl rfl)
theorem dL_law_356 : decode cL_law 356 = .ok (.iadd, 1) := dk_96 (dk_at dksL_law_6 18 rfl rfl)
theorem dL_law_357 : decode cL_law 357 = .ok (.iaload, 1) := dk_46 (dk_at dksL_law_6 19 rfl rfl)
theorem dL_law_358 : decode cL_law 358 = .ok (.aload_n 0, 1) := dk_42 (dk_at dksL_law_6 20 rfl rfl)
theorem dL_law_359 : decode cL_law 359 = .ok (.iload_n 3, 1) := dk_29 (dk_at dksL_law_6 21 rfl rfl)
theorem dL_law_360 : decode cL_law 360 = .ok (.iconst 2, 1) := dk_5 (dk_at dksL_law_6 22 rfl rfl)
theorem dL_law_361 : decode cL_law 361 = .ok (.iadd, 1) := dk_96 (dk_at dksL_law_6 23 rfl rfl)
theorem dL_law_362 : decode cL_law 362 = .ok (.iaload, 1) := dk_46 (dk_at dksL_law_7 0 rfl rfl)
theorem dL_law_363 : decode cL_law 363 = .ok (.aload_n 0, 1) := dk_42 (dk_at dksL_law_7 1 rfl rfl)
theorem dL_law_364 : decode cL_law 364 = .ok (.iload_n 3, 1) := dk_29 (dk_at dksL_law_7 2 rfl rfl)
theorem dL_law_365 : decode cL_law 365 = .ok (.iconst 3, 1) := dk_6 (dk_at dksL_law_7 3 rfl rfl)
theorem dL_law_366 : decode cL_law 366 = .ok (.iadd, 1) := dk_96 (dk_at dksL_law_7 4 rfl rfl)
theorem dL_law_367 : decode cL_law 367 = .ok (.iaload, 1) := dk_46 (dk_at dksL_law_7 5 rfl rfl)
theorem dL_law_368 : decode cL_law 368 = .ok (.i2l, 1) := dk_133 (dk_at dksL_law_7 6 rfl rfl)
theorem dL_law_369 : decode cL_law 369 = .ok (.bipush 32, 2) := dk_16 32 (dk_at dksL_law_7 7 rfl rfl)
theorem dL_law_371 : decode cL_law 371 = .ok (.lshl, 1) := dk_121 (dk_at dksL_law_7 9 rfl rfl)
theorem dL_law_372 : decode cL_law 372 = .ok (.aload_n 0, 1) := dk_42 (dk_at dksL_law_7 10 rfl rfl)
theorem dL_law_373 : decode cL_law 373 = .ok (.iload_n 3, 1) := dk_29 (dk_at dksL_law_7 11 rfl rfl)
theorem dL_law_374 : decode cL_law 374 = .ok (.iconst 4, 1) := dk_7 (dk_at dksL_law_7 12 rfl rfl)
theorem dL_law_375 : decode cL_law 375 = .ok (.iadd, 1) := dk_96 (dk_at dksL_law_7 13 rfl rfl)
theorem dL_law_376 : decode cL_law 376 = .ok (.iaload, 1) := dk_46 (dk_at dksL_law_7 14 rfl rfl)
theorem dL_law_377 : decode cL_law 377 = .ok (.i2l, 1) := dk_133 (dk_at dksL_law_7 15 rfl rfl)
theorem dL_law_378 : decode cL_law 378 = .ok (.ldc2_w 32, 3) := dk_20 0 32 (dk_at dksL_law_7 16 rfl rfl)
theorem dL_law_381 : decode cL_law 381 = .ok (.land, 1) := dk_127 (dk_at dksL_law_7 19 rfl rfl)
theorem dL_law_382 : decode cL_law 382 = .ok (.lor, 1) := dk_129 (dk_at dksL_law_7 20 rfl rfl)
theorem dL_law_383 : decode cL_law 383 = .ok (.invokevirtual 34, 3) := dk_182 0 34 (dk_at dksL_law_7 21 rfl rfl)
theorem dL_law_386 : decode cL_law 386 = .ok (.aload_n 2, 1) := dk_44 (dk_at dksL_law_8 0 rfl rfl)
theorem dL_law_387 : decode cL_law 387 = .ok (.aload_n 0, 1) := dk_42 (dk_at dksL_law_8 1 rfl rfl)
theorem dL_law_388 : decode cL_law 388 = .ok (.iload_n 3, 1) := dk_29 (dk_at dksL_law_8 2 rfl rfl)
theorem dL_law_389 : decode cL_law 389 = .ok (.iconst 1, 1) := dk_4 (dk_at dksL_law_8 3 rfl rfl)
theorem dL_law_390 : decode cL_law 390 = .ok (.iadd, 1) := dk_96 (dk_at dksL_law_8 4 rfl rfl)
theorem dL_law_391 : decode cL_law 391 = .ok (.iaload, 1) := dk_46 (dk_at dksL_law_8 5 rfl rfl)
theorem dL_law_392 : decode cL_law 392 = .ok (.aload_n 0, 1) := dk_42 (dk_at dksL_law_8 6 rfl rfl)
theorem dL_law_393 : decode cL_law 393 = .ok (.iload_n 3, 1) := dk_29 (dk_at dksL_law_8 7 rfl rfl)
theorem dL_law_394 : decode cL_law 394 = .ok (.iconst 2, 1) := dk_5 (dk_at dksL_law_8 8 rfl rfl)
theorem dL_law_395 : decode cL_law 395 = .ok (.iadd, 1) := dk_96 (dk_at dksL_law_8 9 rfl rfl)
theorem dL_law_396 : decode cL_law 396 = .ok (.iaload, 1) := dk_46 (dk_at dksL_law_8 10 rfl rfl)
theorem dL_law_397 : decode cL_law 397 = .ok (.aload_n 0, 1) := dk_42 (dk_at dksL_law_8 11 rfl rfl)
theorem dL_law_398 : decode cL_law 398 = .ok (.iload_n 3, 1) := dk_29 (dk_at dksL_law_8 12 rfl rfl)
theorem dL_law_399 : decode cL_law 399 = .ok (.iconst 3, 1) := dk_6 (dk_at dksL_law_8 13 rfl rfl)
theorem dL_law_400 : decode cL_law 400 = .ok (.iadd, 1) := dk_96 (dk_at dksL_law_8 14 rfl rfl)
theorem dL_law_401 : decode cL_law 401 = .ok (.iaload, 1) := dk_46 (dk_at dksL_law_8 15 rfl rfl)
theorem dL_law_402 : decode cL_law 402 = .ok (.i2l, 1) := dk_133 (dk_at dksL_law_8 16 rfl rfl)
theorem dL_law_403 : decode cL_law 403 = .ok (.bipush 32, 2) := dk_16 32 (dk_at dksL_law_8 17 rfl rfl)
theorem dL_law_405 : decode cL_law 405 = .ok (.lshl, 1) := dk_121 (dk_at dksL_law_8 19 rfl rfl)
theorem dL_law_406 : decode cL_law 406 = .ok (.aload_n 0, 1) := dk_42 (dk_at dksL_law_8 20 rfl rfl)
theorem dL_law_407 : decode cL_law 407 = .ok (.iload_n 3, 1) := dk_29 (dk_at dksL_law_8 21 rfl rfl)
theorem dL_law_408 : decode cL_law 408 = .ok (.iconst 4, 1) := dk_7 (dk_at dksL_law_8 22 rfl rfl)
theorem dL_law_409 : decode cL_law 409 = .ok (.iadd, 1) := dk_96 (dk_at dksL_law_8 23 rfl rfl)
theorem dL_law_410 : decode cL_law 410 = .ok (.iaload, 1) := dk_46 (dk_at dksL_law_9 0 rfl rfl)
theorem dL_law_411 : decode cL_law 411 = .ok (.i2l, 1) := dk_133 (dk_at dksL_law_9 1 rfl rfl)
theorem dL_law_412 : decode cL_law 412 = .ok (.ldc2_w 32, 3) := dk_20 0 32 (dk_at dksL_law_9 2 rfl rfl)
theorem dL_law_415 : decode cL_law 415 = .ok (.land, 1) := dk_127 (dk_at dksL_law_9 5 rfl rfl)
theorem dL_law_416 : decode cL_law 416 = .ok (.lor, 1) := dk_129 (dk_at dksL_law_9 6 rfl rfl)
theorem dL_law_417 : decode cL_law 417 = .ok (.invokevirtual 38, 3) := dk_182 0 38 (dk_at dksL_law_9 7 rfl rfl)
theorem dL_law_420 : decode cL_law 420 = .ok (.if_icmp .eq 1286, 3) := dk_159 5 6 (dk_at dksL_law_9 10 rfl rfl)
theorem dL_law_423 : decode cL_law 423 = .ok (.iconst 0, 1) := dk_3 (dk_at dksL_law_9 13 rfl rfl)
theorem dL_law_424 : decode cL_law 424 = .ok (.ireturn, 1) := dk_172 (dk_at dksL_law_9 14 rfl rfl)
theorem dL_law_425 : decode cL_law 425 = .ok (.aload_n 1, 1) := dk_43 (dk_at dksL_law_9 15 rfl rfl)
theorem dL_law_426 : decode cL_law 426 = .ok (.aload_n 0, 1) := dk_42 (dk_at dksL_law_9 16 rfl rfl)
theorem dL_law_427 : decode cL_law 427 = .ok (.iload_n 3, 1) := dk_29 (dk_at dksL_law_9 17 rfl rfl)
theorem dL_law_428 : decode cL_law 428 = .ok (.iconst 1, 1) := dk_4 (dk_at dksL_law_9 18 rfl rfl)
theorem dL_law_429 : decode cL_law 429 = .ok (.iadd, 1) := dk_96 (dk_at dksL_law_9 19 rfl rfl)
theorem dL_law_430 : decode cL_law 430 = .ok (.iaload, 1) := dk_46 (dk_at dksL_law_9 20 rfl rfl)
theorem dL_law_431 : decode cL_law 431 = .ok (.aload_n 0, 1) := dk_42 (dk_at dksL_law_9 21 rfl rfl)
theorem dL_law_432 : decode cL_law 432 = .ok (.iload_n 3, 1) := dk_29 (dk_at dksL_law_9 22 rfl rfl)
theorem dL_law_433 : decode cL_law 433 = .ok (.iconst 2, 1) := dk_5 (dk_at dksL_law_9 23 rfl rfl)
theorem dL_law_434 : decode cL_law 434 = .ok (.iadd, 1) := dk_96 (dk_at dksL_law_10 0 rfl rfl)
theorem dL_law_435 : decode cL_law 435 = .ok (.iaload, 1) := dk_46 (dk_at dksL_law_10 1 rfl rfl)
theorem dL_law_436 : decode cL_law 436 = .ok (.invokevirtual 39, 3) := dk_182 0 39 (dk_at dksL_law_10 2 rfl rfl)
theorem dL_law_439 : decode cL_law 439 = .ok (.aload_n 2, 1) := dk_44 (dk_at dksL_law_10 5 rfl rfl)
theorem dL_law_440 : decode cL_law 440 = .ok (.aload_n 0, 1) := dk_42 (dk_at dksL_law_10 6 rfl rfl)
theorem dL_law_441 : decode cL_law 441 = .ok (.iload_n 3, 1) := dk_29 (dk_at dksL_law_10 7 rfl rfl)
theorem dL_law_442 : decode cL_law 442 = .ok (.iconst 1, 1) := dk_4 (dk_at dksL_law_10 8 rfl rfl)
theorem dL_law_443 : decode cL_law 443 = .ok (.iadd, 1) := dk_96 (dk_at dksL_law_10 9 rfl rfl)
theorem dL_law_444 : decode cL_law 444 = .ok (.iaload, 1) := dk_46 (dk_at dksL_law_10 10 rfl rfl)
theorem dL_law_445 : decode cL_law 445 = .ok (.aload_n 0, 1) := dk_42 (dk_at dksL_law_10 11 rfl rfl)
theorem dL_law_446 : decode cL_law 446 = .ok (.iload_n 3, 1) := dk_29 (dk_at dksL_law_10 12 rfl rfl)
theorem dL_law_447 : decode cL_law 447 = .ok (.iconst 2, 1) := dk_5 (dk_at dksL_law_10 13 rfl rfl)
theorem dL_law_448 : decode cL_law 448 = .ok (.iadd, 1) := dk_96 (dk_at dksL_law_10 14 rfl rfl)
theorem dL_law_449 : decode cL_law 449 = .ok (.iaload, 1) := dk_46 (dk_at dksL_law_10 15 rfl rfl)
theorem dL_law_450 : decode cL_law 450 = .ok (.invokevirtual 43, 3) := dk_182 0 43 (dk_at dksL_law_10 16 rfl rfl)
theorem dL_law_453 : decode cL_law 453 = .ok (.lcmp, 1) := dk_148 (dk_at dksL_law_10 19 rfl rfl)
theorem dL_law_454 : decode cL_law 454 = .ok (.ifCond .eq 1252, 3) := dk_153 4 228 (dk_at dksL_law_10 20 rfl rfl)
theorem dL_law_457 : decode cL_law 457 = .ok (.iconst 0, 1) := dk_3 (dk_at dksL_law_10 23 rfl rfl)
theorem dL_law_458 : decode cL_law 458 = .ok (.ireturn, 1) := dk_172 (dk_at dksL_law_11 0 rfl rfl)
theorem dL_law_459 : decode cL_law 459 = .ok (.aload_n 1, 1) := dk_43 (dk_at dksL_law_11 1 rfl rfl)
theorem dL_law_460 : decode cL_law 460 = .ok (.aload_n 0, 1) := dk_42 (dk_at dksL_law_11 2 rfl rfl)
theorem dL_law_461 : decode cL_law 461 = .ok (.iload_n 3, 1) := dk_29 (dk_at dksL_law_11 3 rfl rfl)
theorem dL_law_462 : decode cL_law 462 = .ok (.iconst 1, 1) := dk_4 (dk_at dksL_law_11 4 rfl rfl)
theorem dL_law_463 : decode cL_law 463 = .ok (.iadd, 1) := dk_96 (dk_at dksL_law_11 5 rfl rfl)
theorem dL_law_464 : decode cL_law 464 = .ok (.iaload, 1) := dk_46 (dk_at dksL_law_11 6 rfl rfl)
theorem dL_law_465 : decode cL_law 465 = .ok (.aload_n 0, 1) := dk_42 (dk_at dksL_law_11 7 rfl rfl)
theorem dL_law_466 : decode cL_law 466 = .ok (.iload_n 3, 1) := dk_29 (dk_at dksL_law_11 8 rfl rfl)
theorem dL_law_467 : decode cL_law 467 = .ok (.iconst 2, 1) := dk_5 (dk_at dksL_law_11 9 rfl rfl)
theorem dL_law_468 : decode cL_law 468 = .ok (.iadd, 1) := dk_96 (dk_at dksL_law_11 10 rfl rfl)
theorem dL_law_469 : decode cL_law 469 = .ok (.iaload, 1) := dk_46 (dk_at dksL_law_11 11 rfl rfl)
theorem dL_law_470 : decode cL_law 470 = .ok (.aload_n 0, 1) := dk_42 (dk_at dksL_law_11 12 rfl rfl)
theorem dL_law_471 : decode cL_law 471 = .ok (.iload_n 3, 1) := dk_29 (dk_at dksL_law_11 13 rfl rfl)
theorem dL_law_472 : decode cL_law 472 = .ok (.iconst 3, 1) := dk_6 (dk_at dksL_law_11 14 rfl rfl)
theorem dL_law_473 : decode cL_law 473 = .ok (.iadd, 1) := dk_96 (dk_at dksL_law_11 15 rfl rfl)
theorem dL_law_474 : decode cL_law 474 = .ok (.iaload, 1) := dk_46 (dk_at dksL_law_11 16 rfl rfl)
theorem dL_law_475 : decode cL_law 475 = .ok (.aload_n 0, 1) := dk_42 (dk_at dksL_law_11 17 rfl rfl)
theorem dL_law_476 : decode cL_law 476 = .ok (.iload_n 3, 1) := dk_29 (dk_at dksL_law_11 18 rfl rfl)
theorem dL_law_477 : decode cL_law 477 = .ok (.iconst 4, 1) := dk_7 (dk_at dksL_law_11 19 rfl rfl)
theorem dL_law_478 : decode cL_law 478 = .ok (.iadd, 1) := dk_96 (dk_at dksL_law_11 20 rfl rfl)
theorem dL_law_479 : decode cL_law 479 = .ok (.iaload, 1) := dk_46 (dk_at dksL_law_11 21 rfl rfl)
theorem dL_law_480 : decode cL_law 480 = .ok (.aload_n 0, 1) := dk_42 (dk_at dksL_law_11 22 rfl rfl)
theorem dL_law_481 : decode cL_law 481 = .ok (.iload_n 3, 1) := dk_29 (dk_at dksL_law_11 23 rfl rfl)
theorem dL_law_482 : decode cL_law 482 = .ok (.iconst 5, 1) := dk_8 (dk_at dksL_law_12 0 rfl rfl)
theorem dL_law_483 : decode cL_law 483 = .ok (.iadd, 1) := dk_96 (dk_at dksL_law_12 1 rfl rfl)
theorem dL_law_484 : decode cL_law 484 = .ok (.iaload, 1) := dk_46 (dk_at dksL_law_12 2 rfl rfl)
theorem dL_law_485 : decode cL_law 485 = .ok (.invokevirtual 44, 3) := dk_182 0 44 (dk_at dksL_law_12 3 rfl rfl)
theorem dL_law_488 : decode cL_law 488 = .ok (.aload_n 2, 1) := dk_44 (dk_at dksL_law_12 6 rfl rfl)
theorem dL_law_489 : decode cL_law 489 = .ok (.aload_n 0, 1) := dk_42 (dk_at dksL_law_12 7 rfl rfl)
theorem dL_law_490 : decode cL_law 490 = .ok (.iload_n 3, 1) := dk_29 (dk_at dksL_law_12 8 rfl rfl)
theorem dL_law_491 : decode cL_law 491 = .ok (.iconst 1, 1) := dk_4 (dk_at dksL_law_12 9 rfl rfl)
theorem dL_law_492 : decode cL_law 492 = .ok (.iadd, 1) := dk_96 (dk_at dksL_law_12 10 rfl rfl)
theorem dL_law_493 : decode cL_law 493 = .ok (.iaload, 1) := dk_46 (dk_at dksL_law_12 11 rfl rfl)
theorem dL_law_494 : decode cL_law 494 = .ok (.aload_n 0, 1) := dk_42 (dk_at dksL_law_12 12 rfl rfl)
theorem dL_law_495 : decode cL_law 495 = .ok (.iload_n 3, 1) := dk_29 (dk_at dksL_law_12 13 rfl rfl)
theorem dL_law_496 : decode cL_law 496 = .ok (.iconst 2, 1) := dk_5 (dk_at dksL_law_12 14 rfl rfl)
theorem dL_law_497 : decode cL_law 497 = .ok (.iadd, 1) := dk_96 (dk_at dksL_law_12 15 rfl rfl)
theorem dL_law_498 : decode cL_law 498 = .ok (.iaload, 1) := dk_46 (dk_at dksL_law_12 16 rfl rfl)
theorem dL_law_499 : decode cL_law 499 = .ok (.aload_n 0, 1) := dk_42 (dk_at dksL_law_12 17 rfl rfl)
theorem dL_law_500 : decode cL_law 500 = .ok (.iload_n 3, 1) := dk_29 (dk_at dksL_law_12 18 rfl rfl)
theorem dL_law_501 : decode cL_law 501 = .ok (.iconst 3, 1) := dk_6 (dk_at dksL_law_12 19 rfl rfl)
theorem dL_law_502 : decode cL_law 502 = .ok (.iadd, 1) := dk_96 (dk_at dksL_law_12 20 rfl rfl)
theorem dL_law_503 : decode cL_law 503 = .ok (.iaload, 1) := dk_46 (dk_at dksL_law_12 21 rfl rfl)
theorem dL_law_504 : decode cL_law 504 = .ok (.aload_n 0, 1) := dk_42 (dk_at dksL_law_12 22 rfl rfl)
theorem dL_law_505 : decode cL_law 505 = .ok (.iload_n 3, 1) := dk_29 (dk_at dksL_law_12 23 rfl rfl)
theorem dL_law_506 : decode cL_law 506 = .ok (.iconst 4, 1) := dk_7 (dk_at dksL_law_13 0 rfl rfl)
theorem dL_law_507 : decode cL_law 507 = .ok (.iadd, 1) := dk_96 (dk_at dksL_law_13 1 rfl rfl)
theorem dL_law_508 : decode cL_law 508 = .ok (.iaload, 1) := dk_46 (dk_at dksL_law_13 2 rfl rfl)
theorem dL_law_509 : decode cL_law 509 = .ok (.aload_n 0, 1) := dk_42 (dk_at dksL_law_13 3 rfl rfl)
theorem dL_law_510 : decode cL_law 510 = .ok (.iload_n 3, 1) := dk_29 (dk_at dksL_law_13 4 rfl rfl)
theorem dL_law_511 : decode cL_law 511 = .ok (.iconst 5, 1) := dk_8 (dk_at dksL_law_13 5 rfl rfl)
theorem dL_law_512 : decode cL_law 512 = .ok (.iadd, 1) := dk_96 (dk_at dksL_law_13 6 rfl rfl)
theorem dL_law_513 : decode cL_law 513 = .ok (.iaload, 1) := dk_46 (dk_at dksL_law_13 7 rfl rfl)
theorem dL_law_514 : decode cL_law 514 = .ok (.invokevirtual 48, 3) := dk_182 0 48 (dk_at dksL_law_13 8 rfl rfl)
theorem dL_law_517 : decode cL_law 517 = .ok (.if_icmp .eq 1189, 3) := dk_159 4 165 (dk_at dksL_law_13 11 rfl rfl)
theorem dL_law_520 : decode cL_law 520 = .ok (.iconst 0, 1) := dk_3 (dk_at dksL_law_13 14 rfl rfl)
theorem dL_law_521 : decode cL_law 521 = .ok (.ireturn, 1) := dk_172 (dk_at dksL_law_13 15 rfl rfl)
theorem dL_law_522 : decode cL_law 522 = .ok (.aload_n 1, 1) := dk_43 (dk_at dksL_law_13 16 rfl rfl)
theorem dL_law_523 : decode cL_law 523 = .ok (.aload_n 0, 1) := dk_42 (dk_at dksL_law_13 17 rfl rfl)
theorem dL_law_524 : decode cL_law 524 = .ok (.iload_n 3, 1) := dk_29 (dk_at dksL_law_13 18 rfl rfl)
theorem dL_law_525 : decode cL_law 525 = .ok (.iconst 1, 1) := dk_4 (dk_at dksL_law_13 19 rfl rfl)
theorem dL_law_526 : decode cL_law 526 = .ok (.iadd, 1) := dk_96 (dk_at dksL_law_13 20 rfl rfl)
theorem dL_law_527 : decode cL_law 527 = .ok (.iaload, 1) := dk_46 (dk_at dksL_law_13 21 rfl rfl)
theorem dL_law_528 : decode cL_law 528 = .ok (.aload_n 0, 1) := dk_42 (dk_at dksL_law_13 22 rfl rfl)
theorem dL_law_529 : decode cL_law 529 = .ok (.iload_n 3, 1) := dk_29 (dk_at dksL_law_13 23 rfl rfl)
theorem dL_law_530 : decode cL_law 530 = .ok (.iconst 2, 1) := dk_5 (dk_at dksL_law_14 0 rfl rfl)
theorem dL_law_531 : decode cL_law 531 = .ok (.iadd, 1) := dk_96 (dk_at dksL_law_14 1 rfl rfl)
theorem dL_law_532 : decode cL_law 532 = .ok (.iaload, 1) := dk_46 (dk_at dksL_law_14 2 rfl rfl)
theorem dL_law_533 : decode cL_law 533 = .ok (.aload_n 0, 1) := dk_42 (dk_at dksL_law_14 3 rfl rfl)
theorem dL_law_534 : decode cL_law 534 = .ok (.iload_n 3, 1) := dk_29 (dk_at dksL_law_14 4 rfl rfl)
theorem dL_law_535 : decode cL_law 535 = .ok (.iconst 3, 1) := dk_6 (dk_at dksL_law_14 5 rfl rfl)
theorem dL_law_536 : decode cL_law 536 = .ok (.iadd, 1) := dk_96 (dk_at dksL_law_14 6 rfl rfl)
theorem dL_law_537 : decode cL_law 537 = .ok (.iaload, 1) := dk_46 (dk_at dksL_law_14 7 rfl rfl)
theorem dL_law_538 : decode cL_law 538 = .ok (.aload_n 0, 1) := dk_42 (dk_at dksL_law_14 8 rfl rfl)
theorem dL_law_539 : decode cL_law 539 = .ok (.iload_n 3, 1) := dk_29 (dk_at dksL_law_14 9 rfl rfl)
theorem dL_law_540 : decode cL_law 540 = .ok (.iconst 4, 1) := dk_7 (dk_at dksL_law_14 10 rfl rfl)
theorem dL_law_541 : decode cL_law 541 = .ok (.iadd, 1) := dk_96 (dk_at dksL_law_14 11 rfl rfl)
theorem dL_law_542 : decode cL_law 542 = .ok (.iaload, 1) := dk_46 (dk_at dksL_law_14 12 rfl rfl)
theorem dL_law_543 : decode cL_law 543 = .ok (.aload_n 0, 1) := dk_42 (dk_at dksL_law_14 13 rfl rfl)
theorem dL_law_544 : decode cL_law 544 = .ok (.iload_n 3, 1) := dk_29 (dk_at dksL_law_14 14 rfl rfl)
theorem dL_law_545 : decode cL_law 545 = .ok (.iconst 5, 1) := dk_8 (dk_at dksL_law_14 15 rfl rfl)
theorem dL_law_546 : decode cL_law 546 = .ok (.iadd, 1) := dk_96 (dk_at dksL_law_14 16 rfl rfl)
theorem dL_law_547 : decode cL_law 547 = .ok (.iaload, 1) := dk_46 (dk_at dksL_law_14 17 rfl rfl)
theorem dL_law_548 : decode cL_law 548 = .ok (.invokevirtual 49, 3) := dk_182 0 49 (dk_at dksL_law_14 18 rfl rfl)
theorem dL_law_551 : decode cL_law 551 = .ok (.aload_n 2, 1) := dk_44 (dk_at dksL_law_14 21 rfl rfl)
theorem dL_law_552 : decode cL_law 552 = .ok (.aload_n 0, 1) := dk_42 (dk_at dksL_law_14 22 rfl rfl)
theorem dL_law_553 : decode cL_law 553 = .ok (.iload_n 3, 1) := dk_29 (dk_at dksL_law_14 23 rfl rfl)
theorem dL_law_554 : decode cL_law 554 = .ok (.iconst 1, 1) := dk_4 (dk_at dksL_law_15 0 rfl rfl)
theorem dL_law_555 : decode cL_law 555 = .ok (.iadd, 1) := dk_96 (dk_at dksL_law_15 1 rfl rfl)
theorem dL_law_556 : decode cL_law 556 = .ok (.iaload, 1) := dk_46 (dk_at dksL_law_15 2 rfl rfl)
theorem dL_law_557 : decode cL_law 557 = .ok (.aload_n 0, 1) := dk_42 (dk_at dksL_law_15 3 rfl rfl)
theorem dL_law_558 : decode cL_law 558 = .ok (.iload_n 3, 1) := dk_29 (dk_at dksL_law_15 4 rfl rfl)
theorem dL_law_559 : decode cL_law 559 = .ok (.iconst 2, 1) := dk_5 (dk_at dksL_law_15 5 rfl rfl)
theorem dL_law_560 : decode cL_law 560 = .ok (.iadd, 1) := dk_96 (dk_at dksL_law_15 6 rfl rfl)
theorem dL_law_561 : decode cL_law 561 = .ok (.iaload, 1) := dk_46 (dk_at dksL_law_15 7 rfl rfl)
theorem dL_law_562 : decode cL_law 562 = .ok (.aload_n 0, 1) := dk_42 (dk_at dksL_law_15 8 rfl rfl)
theorem dL_law_563 : decode cL_law 563 = .ok (.iload_n 3, 1) := dk_29 (dk_at dksL_law_15 9 rfl rfl)
theorem dL_law_564 : decode cL_law 564 = .ok (.iconst 3, 1) := dk_6 (dk_at dksL_law_15 10 rfl rfl)
theorem dL_law_565 : decode cL_law 565 = .ok (.iadd, 1) := dk_96 (dk_at dksL_law_15 11 rfl rfl)
theorem dL_law_566 : decode cL_law 566 = .ok (.iaload, 1) := dk_46 (dk_at dksL_law_15 12 rfl rfl)
theorem dL_law_567 : decode cL_law 567 = .ok (.aload_n 0, 1) := dk_42 (dk_at dksL_law_15 13 rfl rfl)
theorem dL_law_568 : decode cL_law 568 = .ok (.iload_n 3, 1) := dk_29 (dk_at dksL_law_15 14 rfl rfl)
theorem dL_law_569 : decode cL_law 569 = .ok (.iconst 4, 1) := dk_7 (dk_at dksL_law_15 15 rfl rfl)
theorem dL_law_570 : decode cL_law 570 = .ok (.iadd, 1) := dk_96 (dk_at dksL_law_15 16 rfl rfl)
theorem dL_law_571 : decode cL_law 571 = .ok (.iaload, 1) := dk_46 (dk_at dksL_law_15 17 rfl rfl)
theorem dL_law_572 : decode cL_law 572 = .ok (.aload_n 0, 1) := dk_42 (dk_at dksL_law_15 18 rfl rfl)
theorem dL_law_573 : decode cL_law 573 = .ok (.iload_n 3, 1) := dk_29 (dk_at dksL_law_15 19 rfl rfl)
theorem dL_law_574 : decode cL_law 574 = .ok (.iconst 5, 1) := dk_8 (dk_at dksL_law_15 20 rfl rfl)
theorem dL_law_575 : decode cL_law 575 = .ok (.iadd, 1) := dk_96 (dk_at dksL_law_15 21 rfl rfl)
theorem dL_law_576 : decode cL_law 576 = .ok (.iaload, 1) := dk_46 (dk_at dksL_law_15 22 rfl rfl)
theorem dL_law_577 : decode cL_law 577 = .ok (.invokevirtual 53, 3) := dk_182 0 53 (dk_at dksL_law_16 0 rfl rfl)
theorem dL_law_580 : decode cL_law 580 = .ok (.if_icmp .eq 1126, 3) := dk_159 4 102 (dk_at dksL_law_16 3 rfl rfl)
theorem dL_law_583 : decode cL_law 583 = .ok (.iconst 0, 1) := dk_3 (dk_at dksL_law_16 6 rfl rfl)
theorem dL_law_584 : decode cL_law 584 = .ok (.ireturn, 1) := dk_172 (dk_at dksL_law_16 7 rfl rfl)
theorem dL_law_585 : decode cL_law 585 = .ok (.aload_n 1, 1) := dk_43 (dk_at dksL_law_16 8 rfl rfl)
theorem dL_law_586 : decode cL_law 586 = .ok (.aload_n 0, 1) := dk_42 (dk_at dksL_law_16 9 rfl rfl)
theorem dL_law_587 : decode cL_law 587 = .ok (.iload_n 3, 1) := dk_29 (dk_at dksL_law_16 10 rfl rfl)
theorem dL_law_588 : decode cL_law 588 = .ok (.iconst 1, 1) := dk_4 (dk_at dksL_law_16 11 rfl rfl)
theorem dL_law_589 : decode cL_law 589 = .ok (.iadd, 1) := dk_96 (dk_at dksL_law_16 12 rfl rfl)
theorem dL_law_590 : decode cL_law 590 = .ok (.iaload, 1) := dk_46 (dk_at dksL_law_16 13 rfl rfl)
theorem dL_law_591 : decode cL_law 591 = .ok (.invokevirtual 54, 3) := dk_182 0 54 (dk_at dksL_law_16 14 rfl rfl)
theorem dL_law_594 : decode cL_law 594 = .ok (.aload_n 2, 1) := dk_44 (dk_at dksL_law_16 17 rfl rfl)
theorem dL_law_595 : decode cL_law 595 = .ok (.aload_n 0, 1) := dk_42 (dk_at dksL_law_16 18 rfl rfl)
theorem dL_law_596 : decode cL_law 596 = .ok (.iload_n 3, 1) := dk_29 (dk_at dksL_law_16 19 rfl rfl)
theorem dL_law_597 : decode cL_law 597 = .ok (.iconst 1, 1) := dk_4 (dk_at dksL_law_16 20 rfl rfl)
theorem dL_law_598 : decode cL_law 598 = .ok (.iadd, 1) := dk_96 (dk_at dksL_law_16 21 rfl rfl)
theorem dL_law_599 : decode cL_law 599 = .ok (.iaload, 1) := dk_46 (dk_at dksL_law_16 22 rfl rfl)
theorem dL_law_600 : decode cL_law 600 = .ok (.invokevirtual 58, 3) := dk_182 0 58 (dk_at dksL_law_17 0 rfl rfl)
theorem dL_law_603 : decode cL_law 603 = .ok (.if_icmp .eq 1103, 3) := dk_159 4 79 (dk_at dksL_law_17 3 rfl rfl)
theorem dL_law_606 : decode cL_law 606 = .ok (.iconst 0, 1) := dk_3 (dk_at dksL_law_17 6 rfl rfl)
theorem dL_law_607 : decode cL_law 607 = .ok (.ireturn, 1) := dk_172 (dk_at dksL_law_17 7 rfl rfl)
theorem dL_law_608 : decode cL_law 608 = .ok (.aload_n 1, 1) := dk_43 (dk_at dksL_law_17 8 rfl rfl)
theorem dL_law_609 : decode cL_law 609 = .ok (.aload_n 0, 1) := dk_42 (dk_at dksL_law_17 9 rfl rfl)
theorem dL_law_610 : decode cL_law 610 = .ok (.iload_n 3, 1) := dk_29 (dk_at dksL_law_17 10 rfl rfl)
theorem dL_law_611 : decode cL_law 611 = .ok (.iconst 1, 1) := dk_4 (dk_at dksL_law_17 11 rfl rfl)
theorem dL_law_612 : decode cL_law 612 = .ok (.iadd, 1) := dk_96 (dk_at dksL_law_17 12 rfl rfl)
theorem dL_law_613 : decode cL_law 613 = .ok (.iaload, 1) := dk_46 (dk_at dksL_law_17 13 rfl rfl)
theorem dL_law_614 : decode cL_law 614 = .ok (.invokevirtual 59, 3) := dk_182 0 59 (dk_at dksL_law_17 14 rfl rfl)
theorem dL_law_617 : decode cL_law 617 = .ok (.aload_n 2, 1) := dk_44 (dk_at dksL_law_17 17 rfl rfl)
theorem dL_law_618 : decode cL_law 618 = .ok (.aload_n 0, 1) := dk_42 (dk_at dksL_law_17 18 rfl rfl)
theorem dL_law_619 : decode cL_law 619 = .ok (.iload_n 3, 1) := dk_29 (dk_at dksL_law_17 19 rfl rfl)
theorem dL_law_620 : decode cL_law 620 = .ok (.iconst 1, 1) := dk_4 (dk_at dksL_law_17 20 rfl rfl)
theorem dL_law_621 : decode cL_law 621 = .ok (.iadd, 1) := dk_96 (dk_at dksL_law_17 21 rfl rfl)
theorem dL_law_622 : decode cL_law 622 = .ok (.iaload, 1) := dk_46 (dk_at dksL_law_17 22 rfl rfl)
theorem dL_law_623 : decode cL_law 623 = .ok (.invokevirtual 62, 3) := dk_182 0 62 (dk_at dksL_law_18 0 rfl rfl)
theorem dL_law_626 : decode cL_law 626 = .ok (.if_icmp .eq 1080, 3) := dk_159 4 56 (dk_at dksL_law_18 3 rfl rfl)
theorem dL_law_629 : decode cL_law 629 = .ok (.iconst 0, 1) := dk_3 (dk_at dksL_law_18 6 rfl rfl)
theorem dL_law_630 : decode cL_law 630 = .ok (.ireturn, 1) := dk_172 (dk_at dksL_law_18 7 rfl rfl)
theorem dL_law_631 : decode cL_law 631 = .ok (.aload_n 1, 1) := dk_43 (dk_at dksL_law_18 8 rfl rfl)
theorem dL_law_632 : decode cL_law 632 = .ok (.aload_n 0, 1) := dk_42 (dk_at dksL_law_18 9 rfl rfl)
theorem dL_law_633 : decode cL_law 633 = .ok (.iload_n 3, 1) := dk_29 (dk_at dksL_law_18 10 rfl rfl)
theorem dL_law_634 : decode cL_law 634 = .ok (.iconst 1, 1) := dk_4 (dk_at dksL_law_18 11 rfl rfl)
theorem dL_law_635 : decode cL_law 635 = .ok (.iadd, 1) := dk_96 (dk_at dksL_law_18 12 rfl rfl)
theorem dL_law_636 : decode cL_law 636 = .ok (.iaload, 1) := dk_46 (dk_at dksL_law_18 13 rfl rfl)
theorem dL_law_637 : decode cL_law 637 = .ok (.invokevirtual 63, 3) := dk_182 0 63 (dk_at dksL_law_18 14 rfl rfl)
theorem dL_law_640 : decode cL_law 640 = .ok (.aload_n 2, 1) := dk_44 (dk_at dksL_law_18 17 rfl rfl)
theorem dL_law_641 : decode cL_law 641 = .ok (.aload_n 0, 1) := dk_42 (dk_at dksL_law_18 18 rfl rfl)
theorem dL_law_642 : decode cL_law 642 = .ok (.iload_n 3, 1) := dk_29 (dk_at dksL_law_18 19 rfl rfl)
theorem dL_law_643 : decode cL_law 643 = .ok (.iconst 1, 1) := dk_4 (dk_at dksL_law_18 20 rfl rfl)
theorem dL_law_644 : decode cL_law 644 = .ok (.iadd, 1) := dk_96 (dk_at dksL_law_18 21 rfl rfl)
theorem dL_law_645 : decode cL_law 645 = .ok (.iaload, 1) := dk_46 (dk_at dksL_law_18 22 rfl rfl)
theorem dL_law_646 : decode cL_law 646 = .ok (.invokevirtual 66, 3) := dk_182 0 66 (dk_at dksL_law_19 0 rfl rfl)
theorem dL_law_649 : decode cL_law 649 = .ok (.if_icmp .eq 1057, 3) := dk_159 4 33 (dk_at dksL_law_19 3 rfl rfl)
theorem dL_law_652 : decode cL_law 652 = .ok (.iconst 0, 1) := dk_3 (dk_at dksL_law_19 6 rfl rfl)
theorem dL_law_653 : decode cL_law 653 = .ok (.ireturn, 1) := dk_172 (dk_at dksL_law_19 7 rfl rfl)
theorem dL_law_654 : decode cL_law 654 = .ok (.aload_n 1, 1) := dk_43 (dk_at dksL_law_19 8 rfl rfl)
theorem dL_law_655 : decode cL_law 655 = .ok (.aload_n 0, 1) := dk_42 (dk_at dksL_law_19 9 rfl rfl)
theorem dL_law_656 : decode cL_law 656 = .ok (.iload_n 3, 1) := dk_29 (dk_at dksL_law_19 10 rfl rfl)
theorem dL_law_657 : decode cL_law 657 = .ok (.iconst 1, 1) := dk_4 (dk_at dksL_law_19 11 rfl rfl)
theorem dL_law_658 : decode cL_law 658 = .ok (.iadd, 1) := dk_96 (dk_at dksL_law_19 12 rfl rfl)
theorem dL_law_659 : decode cL_law 659 = .ok (.iaload, 1) := dk_46 (dk_at dksL_law_19 13 rfl rfl)
theorem dL_law_660 : decode cL_law 660 = .ok (.invokevirtual 67, 3) := dk_182 0 67 (dk_at dksL_law_19 14 rfl rfl)
theorem dL_law_663 : decode cL_law 663 = .ok (.aload_n 2, 1) := dk_44 (dk_at dksL_law_19 17 rfl rfl)
theorem dL_law_664 : decode cL_law 664 = .ok (.aload_n 0, 1) := dk_42 (dk_at dksL_law_19 18 rfl rfl)
theorem dL_law_665 : decode cL_law 665 = .ok (.iload_n 3, 1) := dk_29 (dk_at dksL_law_19 19 rfl rfl)
theorem dL_law_666 : decode cL_law 666 = .ok (.iconst 1, 1) := dk_4 (dk_at dksL_law_19 20 rfl rfl)
theorem dL_law_667 : decode cL_law 667 = .ok (.iadd, 1) := dk_96 (dk_at dksL_law_19 21 rfl rfl)
theorem dL_law_668 : decode cL_law 668 = .ok (.iaload, 1) := dk_46 (dk_at dksL_law_19 22 rfl rfl)
theorem dL_law_669 : decode cL_law 669 = .ok (.invokevirtual 70, 3) := dk_182 0 70 (dk_at dksL_law_20 0 rfl rfl)
theorem dL_law_672 : decode cL_law 672 = .ok (.if_icmp .eq 1034, 3) := dk_159 4 10 (dk_at dksL_law_20 3 rfl rfl)
theorem dL_law_675 : decode cL_law 675 = .ok (.iconst 0, 1) := dk_3 (dk_at dksL_law_20 6 rfl rfl)
theorem dL_law_676 : decode cL_law 676 = .ok (.ireturn, 1) := dk_172 (dk_at dksL_law_20 7 rfl rfl)
theorem dL_law_677 : decode cL_law 677 = .ok (.aload_n 1, 1) := dk_43 (dk_at dksL_law_20 8 rfl rfl)
theorem dL_law_678 : decode cL_law 678 = .ok (.aload_n 0, 1) := dk_42 (dk_at dksL_law_20 9 rfl rfl)
theorem dL_law_679 : decode cL_law 679 = .ok (.iload_n 3, 1) := dk_29 (dk_at dksL_law_20 10 rfl rfl)
theorem dL_law_680 : decode cL_law 680 = .ok (.iconst 1, 1) := dk_4 (dk_at dksL_law_20 11 rfl rfl)
theorem dL_law_681 : decode cL_law 681 = .ok (.iadd, 1) := dk_96 (dk_at dksL_law_20 12 rfl rfl)
theorem dL_law_682 : decode cL_law 682 = .ok (.iaload, 1) := dk_46 (dk_at dksL_law_20 13 rfl rfl)
theorem dL_law_683 : decode cL_law 683 = .ok (.aload_n 0, 1) := dk_42 (dk_at dksL_law_20 14 rfl rfl)
theorem dL_law_684 : decode cL_law 684 = .ok (.iload_n 3, 1) := dk_29 (dk_at dksL_law_20 15 rfl rfl)
theorem dL_law_685 : decode cL_law 685 = .ok (.iconst 2, 1) := dk_5 (dk_at dksL_law_20 16 rfl rfl)
theorem dL_law_686 : decode cL_law 686 = .ok (.iadd, 1) := dk_96 (dk_at dksL_law_20 17 rfl rfl)
theorem dL_law_687 : decode cL_law 687 = .ok (.iaload, 1) := dk_46 (dk_at dksL_law_20 18 rfl rfl)
theorem dL_law_688 : decode cL_law 688 = .ok (.invokevirtual 71, 3) := dk_182 0 71 (dk_at dksL_law_20 19 rfl rfl)
theorem dL_law_691 : decode cL_law 691 = .ok (.aload_n 2, 1) := dk_44 (dk_at dksL_law_20 22 rfl rfl)
theorem dL_law_692 : decode cL_law 692 = .ok (.aload_n 0, 1) := dk_42 (dk_at dksL_law_20 23 rfl rfl)
theorem dL_law_693 : decode cL_law 693 = .ok (.iload_n 3, 1) := dk_29 (dk_at dksL_law_21 0 rfl rfl)
theorem dL_law_694 : decode cL_law 694 = .ok (.iconst 1, 1) := dk_4 (dk_at dksL_law_21 1 rfl rfl)
theorem dL_law_695 : decode cL_law 695 = .ok (.iadd, 1) := dk_96 (dk_at dksL_law_21 2 rfl rfl)
theorem dL_law_696 : decode cL_law 696 = .ok (.iaload, 1) := dk_46 (dk_at dksL_law_21 3 rfl rfl)
theorem dL_law_697 : decode cL_law 697 = .ok (.aload_n 0, 1) := dk_42 (dk_at dksL_law_21 4 rfl rfl)
theorem dL_law_698 : decode cL_law 698 = .ok (.iload_n 3, 1) := dk_29 (dk_at dksL_law_21 5 rfl rfl)
theorem dL_law_699 : decode cL_law 699 = .ok (.iconst 2, 1) := dk_5 (dk_at dksL_law_21 6 rfl rfl)
theorem dL_law_700 : decode cL_law 700 = .ok (.iadd, 1) := dk_96 (dk_at dksL_law_21 7 rfl rfl)
theorem dL_law_701 : decode cL_law 701 = .ok (.iaload, 1) := dk_46 (dk_at dksL_law_21 8 rfl rfl)
theorem dL_law_702 : decode cL_law 702 = .ok (.invokevirtual 75, 3) := dk_182 0 75 (dk_at dksL_law_21 9 rfl rfl)
theorem dL_law_705 : decode cL_law 705 = .ok (.if_icmp .eq 1001, 3) := dk_159 3 233 (dk_at dksL_law_21 12 rfl rfl)
theorem dL_law_708 : decode cL_law 708 = .ok (.iconst 0, 1) := dk_3 (dk_at dksL_law_21 15 rfl rfl)
theorem dL_law_709 : decode cL_law 709 = .ok (.ireturn, 1) := dk_172 (dk_at dksL_law_21 16 rfl rfl)
theorem dL_law_710 : decode cL_law 710 = .ok (.aload_n 1, 1) := dk_43 (dk_at dksL_law_21 17 rfl rfl)
theorem dL_law_711 : decode cL_law 711 = .ok (.aload_n 0, 1) := dk_42 (dk_at dksL_law_21 18 rfl rfl)
theorem dL_law_712 : decode cL_law 712 = .ok (.iload_n 3, 1) := dk_29 (dk_at dksL_law_21 19 rfl rfl)
theorem dL_law_713 : decode cL_law 713 = .ok (.iconst 1, 1) := dk_4 (dk_at dksL_law_21 20 rfl rfl)
theorem dL_law_714 : decode cL_law 714 = .ok (.iadd, 1) := dk_96 (dk_at dksL_law_21 21 rfl rfl)
theorem dL_law_715 : decode cL_law 715 = .ok (.iaload, 1) := dk_46 (dk_at dksL_law_21 22 rfl rfl)
theorem dL_law_716 : decode cL_law 716 = .ok (.aload_n 0, 1) := dk_42 (dk_at dksL_law_21 23 rfl rfl)
theorem dL_law_717 : decode cL_law 717 = .ok (.iload_n 3, 1) := dk_29 (dk_at dksL_law_22 0 rfl rfl)
theorem dL_law_718 : decode cL_law 718 = .ok (.iconst 2, 1) := dk_5 (dk_at dksL_law_22 1 rfl rfl)
theorem dL_law_719 : decode cL_law 719 = .ok (.iadd, 1) := dk_96 (dk_at dksL_law_22 2 rfl rfl)
theorem dL_law_720 : decode cL_law 720 = .ok (.iaload, 1) := dk_46 (dk_at dksL_law_22 3 rfl rfl)
theorem dL_law_721 : decode cL_law 721 = .ok (.invokevirtual 76, 3) := dk_182 0 76 (dk_at dksL_law_22 4 rfl rfl)
theorem dL_law_724 : decode cL_law 724 = .ok (.aload_n 2, 1) := dk_44 (dk_at dksL_law_22 7 rfl rfl)
theorem dL_law_725 : decode cL_law 725 = .ok (.aload_n 0, 1) := dk_42 (dk_at dksL_law_22 8 rfl rfl)
theorem dL_law_726 : decode cL_law 726 = .ok (.iload_n 3, 1) := dk_29 (dk_at dksL_law_22 9 rfl rfl)
theorem dL_law_727 : decode cL_law 727 = .ok (.iconst 1, 1) := dk_4 (dk_at dksL_law_22 10 rfl rfl)
theorem dL_law_728 : decode cL_law 728 = .ok (.iadd, 1) := dk_96 (dk_at dksL_law_22 11 rfl rfl)
theorem dL_law_729 : decode cL_law 729 = .ok (.iaload, 1) := dk_46 (dk_at dksL_law_22 12 rfl rfl)
theorem dL_law_730 : decode cL_law 730 = .ok (.aload_n 0, 1) := dk_42 (dk_at dksL_law_22 13 rfl rfl)
theorem dL_law_731 : decode cL_law 731 = .ok (.iload_n 3, 1) := dk_29 (dk_at dksL_law_22 14 rfl rfl)
theorem dL_law_732 : decode cL_law 732 = .ok (.iconst 2, 1) := dk_5 (dk_at dksL_law_22 15 rfl rfl)
theorem dL_law_733 : decode cL_law 733 = .ok (.iadd, 1) := dk_96 (dk_at dksL_law_22 16 rfl rfl)
theorem dL_law_734 : decode cL_law 734 = .ok (.iaload, 1) := dk_46 (dk_at dksL_law_22 17 rfl rfl)
theorem dL_law_735 : decode cL_law 735 = .ok (.invokevirtual 79, 3) := dk_182 0 79 (dk_at dksL_law_22 18 rfl rfl)
theorem dL_law_738 : decode cL_law 738 = .ok (.if_icmp .eq 968, 3) := dk_159 3 200 (dk_at dksL_law_22 21 rfl rfl)
theorem dL_law_741 : decode cL_law 741 = .ok (.iconst 0, 1) := dk_3 (dk_at dksL_law_23 0 rfl rfl)
theorem dL_law_742 : decode cL_law 742 = .ok (.ireturn, 1) := dk_172 (dk_at dksL_law_23 1 rfl rfl)
theorem dL_law_743 : decode cL_law 743 = .ok (.aload_n 1, 1) := dk_43 (dk_at dksL_law_23 2 rfl rfl)
theorem dL_law_744 : decode cL_law 744 = .ok (.aload_n 0, 1) := dk_42 (dk_at dksL_law_23 3 rfl rfl)
theorem dL_law_745 : decode cL_law 745 = .ok (.iload_n 3, 1) := dk_29 (dk_at dksL_law_23 4 rfl rfl)
theorem dL_law_746 : decode cL_law 746 = .ok (.iconst 1, 1) := dk_4 (dk_at dksL_law_23 5 rfl rfl)
theorem dL_law_747 : decode cL_law 747 = .ok (.iadd, 1) := dk_96 (dk_at dksL_law_23 6 rfl rfl)
theorem dL_law_748 : decode cL_law 748 = .ok (.iaload, 1) := dk_46 (dk_at dksL_law_23 7 rfl rfl)
theorem dL_law_749 : decode cL_law 749 = .ok (.aload_n 0, 1) := dk_42 (dk_at dksL_law_23 8 rfl rfl)
theorem dL_law_750 : decode cL_law 750 = .ok (.iload_n 3, 1) := dk_29 (dk_at dksL_law_23 9 rfl rfl)
theorem dL_law_751 : decode cL_law 751 = .ok (.iconst 2, 1) := dk_5 (dk_at dksL_law_23 10 rfl rfl)
theorem dL_law_752 : decode cL_law 752 = .ok (.iadd, 1) := dk_96 (dk_at dksL_law_23 11 rfl rfl)
theorem dL_law_753 : decode cL_law 753 = .ok (.iaload, 1) := dk_46 (dk_at dksL_law_23 12 rfl rfl)
theorem dL_law_754 : decode cL_law 754 = .ok (.invokevirtual 80, 3) := dk_182 0 80 (dk_at dksL_law_23 13 rfl rfl)
theorem dL_law_757 : decode cL_law 757 = .ok (.aload_n 2, 1) := dk_44 (dk_at dksL_law_23 16 rfl rfl)
theorem dL_law_758 : decode cL_law 758 = .ok (.aload_n 0, 1) := dk_42 (dk_at dksL_law_23 17 rfl rfl)
theorem dL_law_759 : decode cL_law 759 = .ok (.iload_n 3, 1) := dk_29 (dk_at dksL_law_23 18 rfl rfl)
theorem dL_law_760 : decode cL_law 760 = .ok (.iconst 1, 1) := dk_4 (dk_at dksL_law_23 19 rfl rfl)
theorem dL_law_761 : decode cL_law 761 = .ok (.iadd, 1) := dk_96 (dk_at dksL_law_23 20 rfl rfl)
theorem dL_law_762 : decode cL_law 762 = .ok (.iaload, 1) := dk_46 (dk_at dksL_law_23 21 rfl rfl)
theorem dL_law_763 : decode cL_law 763 = .ok (.aload_n 0, 1) := dk_42 (dk_at dksL_law_23 22 rfl rfl)
theorem dL_law_764 : decode cL_law 764 = .ok (.iload_n 3, 1) := dk_29 (dk_at dksL_law_23 23 rfl rfl)
theorem dL_law_765 : decode cL_law 765 = .ok (.iconst 2, 1) := dk_5 (dk_at dksL_law_24 0 rfl rfl)
theorem dL_law_766 : decode cL_law 766 = .ok (.iadd, 1) := dk_96 (dk_at dksL_law_24 1 rfl rfl)
theorem dL_law_767 : decode cL_law 767 = .ok (.iaload, 1) := dk_46 (dk_at dksL_law_24 2 rfl rfl)
theorem dL_law_768 : decode cL_law 768 = .ok (.invokevirtual 83, 3) := dk_182 0 83 (dk_at dksL_law_24 3 rfl rfl)
theorem dL_law_771 : decode cL_law 771 = .ok (.if_icmp .eq 935, 3) := dk_159 3 167 (dk_at dksL_law_24 6 rfl rfl)
theorem dL_law_774 : decode cL_law 774 = .ok (.iconst 0, 1) := dk_3 (dk_at dksL_law_24 9 rfl rfl)
theorem dL_law_775 : decode cL_law 775 = .ok (.ireturn, 1) := dk_172 (dk_at dksL_law_24 10 rfl rfl)
theorem dL_law_776 : decode cL_law 776 = .ok (.aload_n 1, 1) := dk_43 (dk_at dksL_law_24 11 rfl rfl)
theorem dL_law_777 : decode cL_law 777 = .ok (.aload_n 0, 1) := dk_42 (dk_at dksL_law_24 12 rfl rfl)
theorem dL_law_778 : decode cL_law 778 = .ok (.iload_n 3, 1) := dk_29 (dk_at dksL_law_24 13 rfl rfl)
theorem dL_law_779 : decode cL_law 779 = .ok (.iconst 1, 1) := dk_4 (dk_at dksL_law_24 14 rfl rfl)
theorem dL_law_780 : decode cL_law 780 = .ok (.iadd, 1) := dk_96 (dk_at dksL_law_24 15 rfl rfl)
theorem dL_law_781 : decode cL_law 781 = .ok (.iaload, 1) := dk_46 (dk_at dksL_law_24 16 rfl rfl)
theorem dL_law_782 : decode cL_law 782 = .ok (.invokevirtual 84, 3) := dk_182 0 84 (dk_at dksL_law_24 17 rfl rfl)
theorem dL_law_785 : decode cL_law 785 = .ok (.aload_n 2, 1) := dk_44 (dk_at dksL_law_24 20 rfl rfl)
theorem dL_law_786 : decode cL_law 786 = .ok (.aload_n 0, 1) := dk_42 (dk_at dksL_law_24 21 rfl rfl)
theorem dL_law_787 : decode cL_law 787 = .ok (.iload_n 3, 1) := dk_29 (dk_at dksL_law_24 22 rfl rfl)
theorem dL_law_788 : decode cL_law 788 = .ok (.iconst 1, 1) := dk_4 (dk_at dksL_law_24 23 rfl rfl)
theorem dL_law_789 : decode cL_law 789 = .ok (.iadd, 1) := dk_96 (dk_at dksL_law_25 0 rfl rfl)
theorem dL_law_790 : decode cL_law 790 = .ok (.iaload, 1) := dk_46 (dk_at dksL_law_25 1 rfl rfl)
theorem dL_law_791 : decode cL_law 791 = .ok (.invokevirtual 87, 3) := dk_182 0 87 (dk_at dksL_law_25 2 rfl rfl)
theorem dL_law_794 : decode cL_law 794 = .ok (.if_icmp .eq 912, 3) := dk_159 3 144 (dk_at dksL_law_25 5 rfl rfl)
theorem dL_law_797 : decode cL_law 797 = .ok (.iconst 0, 1) := dk_3 (dk_at dksL_law_25 8 rfl rfl)
theorem dL_law_798 : decode cL_law 798 = .ok (.ireturn, 1) := dk_172 (dk_at dksL_law_25 9 rfl rfl)
theorem dL_law_799 : decode cL_law 799 = .ok (.aload_n 1, 1) := dk_43 (dk_at dksL_law_25 10 rfl rfl)
theorem dL_law_800 : decode cL_law 800 = .ok (.aload_n 0, 1) := dk_42 (dk_at dksL_law_25 11 rfl rfl)
theorem dL_law_801 : decode cL_law 801 = .ok (.iload_n 3, 1) := dk_29 (dk_at dksL_law_25 12 rfl rfl)
theorem dL_law_802 : decode cL_law 802 = .ok (.iconst 1, 1) := dk_4 (dk_at dksL_law_25 13 rfl rfl)
theorem dL_law_803 : decode cL_law 803 = .ok (.iadd, 1) := dk_96 (dk_at dksL_law_25 14 rfl rfl)
theorem dL_law_804 : decode cL_law 804 = .ok (.iaload, 1) := dk_46 (dk_at dksL_law_25 15 rfl rfl)
theorem dL_law_805 : decode cL_law 805 = .ok (.aload_n 0, 1) := dk_42 (dk_at dksL_law_25 16 rfl rfl)
theorem dL_law_806 : decode cL_law 806 = .ok (.iload_n 3, 1) := dk_29 (dk_at dksL_law_25 17 rfl rfl)
theorem dL_law_807 : decode cL_law 807 = .ok (.iconst 2, 1) := dk_5 (dk_at dksL_law_25 18 rfl rfl)
theorem dL_law_808 : decode cL_law 808 = .ok (.iadd, 1) := dk_96 (dk_at dksL_law_25 19 rfl rfl)
theorem dL_law_809 : decode cL_law 809 = .ok (.iaload, 1) := dk_46 (dk_at dksL_law_25 20 rfl rfl)
theorem dL_law_810 : decode cL_law 810 = .ok (.invokevirtual 88, 3) := dk_182 0 88 (dk_at dksL_law_25 21 rfl rfl)
theorem dL_law_813 : decode cL_law 813 = .ok (.aload_n 2, 1) := dk_44 (dk_at dksL_law_26 0 rfl rfl)
theorem dL_law_814 : decode cL_law 814 = .ok (.aload_n 0, 1) := dk_42 (dk_at dksL_law_26 1 rfl rfl)
theorem dL_law_815 : decode cL_law 815 = .ok (.iload_n 3, 1) := dk_29 (dk_at dksL_law_26 2 rfl rfl)
theorem dL_law_816 : decode cL_law 816 = .ok (.iconst 1, 1) := dk_4 (dk_at dksL_law_26 3 rfl rfl)
theorem dL_law_817 : decode cL_law 817 = .ok (.iadd, 1) := dk_96 (dk_at dksL_law_26 4 rfl rfl)
theorem dL_law_818 : decode cL_law 818 = .ok (.iaload, 1) := dk_46 (dk_at dksL_law_26 5 rfl rfl)
theorem dL_law_819 : decode cL_law 819 = .ok (.aload_n 0, 1) := dk_42 (dk_at dksL_law_26 6 rfl rfl)
theorem dL_law_820 : decode cL_law 820 = .ok (.iload_n 3, 1) := dk_29 (dk_at dksL_law_26 7 rfl rfl)
theorem dL_law_821 : decode cL_law 821 = .ok (.iconst 2, 1) := dk_5 (dk_at dksL_law_26 8 rfl rfl)
theorem dL_law_822 : decode cL_law 822 = .ok (.iadd, 1) := dk_96 (dk_at dksL_law_26 9 rfl rfl)
theorem dL_law_823 : decode cL_law 823 = .ok (.iaload, 1) := dk_46 (dk_at dksL_law_26 10 rfl rfl)
theorem dL_law_824 : decode cL_law 824 = .ok (.invokevirtual 91, 3) := dk_182 0 91 (dk_at dksL_law_26 11 rfl rfl)
theorem dL_law_827 : decode cL_law 827 = .ok (.if_icmp .eq 879, 3) := dk_159 3 111 (dk_at dksL_law_26 14 rfl rfl)
theorem dL_law_830 : decode cL_law 830 = .ok (.iconst 0, 1) := dk_3 (dk_at dksL_law_26 17 rfl rfl)
theorem dL_law_831 : decode cL_law 831 = .ok (.ireturn, 1) := dk_172 (dk_at dksL_law_26 18 rfl rfl)
theorem dL_law_832 : decode cL_law 832 = .ok (.aload_n 1, 1) := dk_43 (dk_at dksL_law_26 19 rfl rfl)
theorem dL_law_833 : decode cL_law 833 = .ok (.aload_n 0, 1) := dk_42 (dk_at dksL_law_26 20 rfl rfl)
theorem dL_law_834 : decode cL_law 834 = .ok (.iload_n 3, 1) := dk_29 (dk_at dksL_law_26 21 rfl rfl)
theorem dL_law_835 : decode cL_law 835 = .ok (.iconst 1, 1) := dk_4 (dk_at dksL_law_26 22 rfl rfl)
theorem dL_law_836 : decode cL_law 836 = .ok (.iadd, 1) := dk_96 (dk_at dksL_law_26 23 rfl rfl)
theorem dL_law_837 : decode cL_law 837 = .ok (.iaload, 1) := dk_46 (dk_at dksL_law_27 0 rfl rfl)
theorem dL_law_838 : decode cL_law 838 = .ok (.invokevirtual 92, 3) := dk_182 0 92 (dk_at dksL_law_27 1 rfl rfl)
theorem dL_law_841 : decode cL_law 841 = .ok (.aload_n 2, 1) := dk_44 (dk_at dksL_law_27 4 rfl rfl)
theorem dL_law_842 : decode cL_law 842 = .ok (.aload_n 0, 1) := dk_42 (dk_at dksL_law_27 5 rfl rfl)
theorem dL_law_843 : decode cL_law 843 = .ok (.iload_n 3, 1) := dk_29 (dk_at dksL_law_27 6 rfl rfl)
theorem dL_law_844 : decode cL_law 844 = .ok (.iconst 1, 1) := dk_4 (dk_at dksL_law_27 7 rfl rfl)
theorem dL_law_845 : decode cL_law 845 = .ok (.iadd, 1) := dk_96 (dk_at dksL_law_27 8 rfl rfl)
theorem dL_law_846 : decode cL_law 846 = .ok (.iaload, 1) := dk_46 (dk_at dksL_law_27 9 rfl rfl)
theorem dL_law_847 : decode cL_law 847 = .ok (.invokevirtual 95, 3) := dk_182 0 95 (dk_at dksL_law_27 10 rfl rfl)
theorem dL_law_850 : decode cL_law 850 = .ok (.if_icmp .eq 856, 3) := dk_159 3 88 (dk_at dksL_law_27 13 rfl rfl)
theorem dL_law_853 : decode cL_law 853 = .ok (.iconst 0, 1) := dk_3 (dk_at dksL_law_27 16 rfl rfl)
theorem dL_law_854 : decode cL_law 854 = .ok (.ireturn, 1) := dk_172 (dk_at dksL_law_27 17 rfl rfl)
theorem dL_law_855 : decode cL_law 855 = .ok (.aload_n 1, 1) := dk_43 (dk_at dksL_law_27 18 rfl rfl)
theorem dL_law_856 : decode cL_law 856 = .ok (.aload_n 0, 1) := dk_42 (dk_at dksL_law_27 19 rfl rfl)
theorem dL_law_857 : decode cL_law 857 = .ok (.iload_n 3, 1) := dk_29 (dk_at dksL_law_27 20 rfl rfl)
theorem dL_law_858 : decode cL_law 858 = .ok (.iconst 1, 1) := dk_4 (dk_at dksL_law_27 21 rfl rfl)
theorem dL_law_859 : decode cL_law 859 = .ok (.iadd, 1) := dk_96 (dk_at dksL_law_27 22 rfl rfl)
theorem dL_law_860 : decode cL_law 860 = .ok (.iaload, 1) := dk_46 (dk_at dksL_law_27 23 rfl rfl)
theorem dL_law_861 : decode cL_law 861 = .ok (.aload_n 0, 1) := dk_42 (dk_at dksL_law_28 0 rfl rfl)
theorem dL_law_862 : decode cL_law 862 = .ok (.iload_n 3, 1) := dk_29 (dk_at dksL_law_28 1 rfl rfl)
theorem dL_law_863 : decode cL_law 863 = .ok (.iconst 2, 1) := dk_5 (dk_at dksL_law_28 2 rfl rfl)
theorem dL_law_864 : decode cL_law 864 = .ok (.iadd, 1) := dk_96 (dk_at dksL_law_28 3 rfl rfl)
theorem dL_law_865 : decode cL_law 865 = .ok (.iaload, 1) := dk_46 (dk_at dksL_law_28 4 rfl rfl)
theorem dL_law_866 : decode cL_law 866 = .ok (.invokevirtual 96, 3) := dk_182 0 96 (dk_at dksL_law_28 5 rfl rfl)
theorem dL_law_869 : decode cL_law 869 = .ok (.aload_n 2, 1) := dk_44 (dk_at dksL_law_28 8 rfl rfl)
theorem dL_law_870 : decode cL_law 870 = .ok (.aload_n 0, 1) := dk_42 (dk_at dksL_law_28 9 rfl rfl)
theorem dL_law_871 : decode cL_law 871 = .ok (.iload_n 3, 1) := dk_29 (dk_at dksL_law_28 10 rfl rfl)
theorem dL_law_872 : decode cL_law 872 = .ok (.iconst 1, 1) := dk_4 (dk_at dksL_law_28 11 rfl rfl)
theorem dL_law_873 : decode cL_law 873 = .ok (.iadd, 1) := dk_96 (dk_at dksL_law_28 12 rfl rfl)
theorem dL_law_874 : decode cL_law 874 = .ok (.iaload, 1) := dk_46 (dk_at dksL_law_28 13 rfl rfl)
theorem dL_law_875 : decode cL_law 875 = .ok (.aload_n 0, 1) := dk_42 (dk_at dksL_law_28 14 rfl rfl)
theorem dL_law_876 : decode cL_law 876 = .ok (.iload_n 3, 1) := dk_29 (dk_at dksL_law_28 15 rfl rfl)
theorem dL_law_877 : decode cL_law 877 = .ok (.iconst 2, 1) := dk_5 (dk_at dksL_law_28 16 rfl rfl)
theorem dL_law_878 : decode cL_law 878 = .ok (.iadd, 1) := dk_96 (dk_at dksL_law_28 17 rfl rfl)
theorem dL_law_879 : decode cL_law 879 = .ok (.iaload, 1) := dk_46 (dk_at dksL_law_28 18 rfl rfl)
theorem dL_law_880 : decode cL_law 880 = .ok (.invokevirtual 99, 3) := dk_182 0 99 (dk_at dksL_law_28 19 rfl rfl)
theorem dL_law_883 : decode cL_law 883 = .ok (.if_icmp .eq 823, 3) := dk_159 3 55 (dk_at dksL_law_29 0 rfl rfl)
theorem dL_law_886 : decode cL_law 886 = .ok (.iconst 0, 1) := dk_3 (dk_at dksL_law_29 3 rfl rfl)
theorem dL_law_887 : decode cL_law 887 = .ok (.ireturn, 1) := dk_172 (dk_at dksL_law_29 4 rfl rfl)
theorem dL_law_888 : decode cL_law 888 = .ok (.aload_n 1, 1) := dk_43 (dk_at dksL_law_29 5 rfl rfl)
theorem dL_law_889 : decode cL_law 889 = .ok (.invokevirtual 100, 3) := dk_182 0 100 (dk_at dksL_law_29 6 rfl rfl)
theorem dL_law_892 : decode cL_law 892 = .ok (.aload_n 2, 1) := dk_44 (dk_at dksL_law_29 9 rfl rfl)
theorem dL_law_893 : decode cL_law 893 = .ok (.invokevirtual 103, 3) := dk_182 0 103 (dk_at dksL_law_29 10 rfl rfl)
theorem dL_law_896 : decode cL_law 896 = .ok (.if_icmp .eq 810, 3) := dk_159 3 42 (dk_at dksL_law_29 13 rfl rfl)
theorem dL_law_899 : decode cL_law 899 = .ok (.iconst 0, 1) := dk_3 (dk_at dksL_law_29 16 rfl rfl)
theorem dL_law_900 : decode cL_law 900 = .ok (.ireturn, 1) := dk_172 (dk_at dksL_law_29 17 rfl rfl)
theorem dL_law_901 : decode cL_law 901 = .ok (.aload_n 1, 1) := dk_43 (dk_at dksL_law_29 18 rfl rfl)
theorem dL_law_902 : decode cL_law 902 = .ok (.aload_n 0, 1) := dk_42 (dk_at dksL_law_29 19 rfl rfl)
theorem dL_law_903 : decode cL_law 903 = .ok (.iload_n 3, 1) := dk_29 (dk_at dksL_law_29 20 rfl rfl)
theorem dL_law_904 : decode cL_law 904 = .ok (.iconst 1, 1) := dk_4 (dk_at dksL_law_29 21 rfl rfl)
theorem dL_law_905 : decode cL_law 905 = .ok (.iadd, 1) := dk_96 (dk_at dksL_law_29 22 rfl rfl)
theorem dL_law_906 : decode cL_law 906 = .ok (.iaload, 1) := dk_46 (dk_at dksL_law_29 23 rfl rfl)
theorem dL_law_907 : decode cL_law 907 = .ok (.invokevirtual 104, 3) := dk_182 0 104 (dk_at dksL_law_30 0 rfl rfl)
theorem dL_law_910 : decode cL_law 910 = .ok (.aload_n 2, 1) := dk_44 (dk_at dksL_law_30 3 rfl rfl)
theorem dL_law_911 : decode cL_law 911 = .ok (.aload_n 0, 1) := dk_42 (dk_at dksL_law_30 4 rfl rfl)
theorem dL_law_912 : decode cL_law 912 = .ok (.iload_n 3, 1) := dk_29 (dk_at dksL_law_30 5 rfl rfl)
theorem dL_law_913 : decode cL_law 913 = .ok (.iconst 1, 1) := dk_4 (dk_at dksL_law_30 6 rfl rfl)
theorem dL_law_914 : decode cL_law 914 = .ok (.iadd, 1) := dk_96 (dk_at dksL_law_30 7 rfl rfl)
theorem dL_law_915 : decode cL_law 915 = .ok (.iaload, 1) := dk_46 (dk_at dksL_law_30 8 rfl rfl)
theorem dL_law_916 : decode cL_law 916 = .ok (.invokevirtual 107, 3) := dk_182 0 107 (dk_at dksL_law_30 9 rfl rfl)
theorem dL_law_919 : decode cL_law 919 = .ok (.if_icmp .eq 787, 3) := dk_159 3 19 (dk_at dksL_law_30 12 rfl rfl)
theorem dL_law_922 : decode cL_law 922 = .ok (.iconst 0, 1) := dk_3 (dk_at dksL_law_30 15 rfl rfl)
theorem dL_law_923 : decode cL_law 923 = .ok (.ireturn, 1) := dk_172 (dk_at dksL_law_30 16 rfl rfl)
theorem dL_law_924 : decode cL_law 924 = .ok (.aload_n 1, 1) := dk_43 (dk_at dksL_law_30 17 rfl rfl)
theorem dL_law_925 : decode cL_law 925 = .ok (.aload_n 0, 1) := dk_42 (dk_at dksL_law_30 18 rfl rfl)
theorem dL_law_926 : decode cL_law 926 = .ok (.iload_n 3, 1) := dk_29 (dk_at dksL_law_30 19 rfl rfl)
theorem dL_law_927 : decode cL_law 927 = .ok (.iconst 1, 1) := dk_4 (dk_at dksL_law_30 20 rfl rfl)
theorem dL_law_928 : decode cL_law 928 = .ok (.iadd, 1) := dk_96 (dk_at dksL_law_30 21 rfl rfl)
theorem dL_law_929 : decode cL_law 929 = .ok (.iaload, 1) := dk_46 (dk_at dksL_law_30 22 rfl rfl)
theorem dL_law_930 : decode cL_law 930 = .ok (.invokevirtual 108, 3) := dk_182 0 108 (dk_at dksL_law_31 0 rfl rfl)
theorem dL_law_933 : decode cL_law 933 = .ok (.aload_n 2, 1) := dk_44 (dk_at dksL_law_31 3 rfl rfl)
theorem dL_law_934 : decode cL_law 934 = .ok (.aload_n 0, 1) := dk_42 (dk_at dksL_law_31 4 rfl rfl)
theorem dL_law_935 : decode cL_law 935 = .ok (.iload_n 3, 1) := dk_29 (dk_at dksL_law_31 5 rfl rfl)
theorem dL_law_936 : decode cL_law 936 = .ok (.iconst 1, 1) := dk_4 (dk_at dksL_law_31 6 rfl rfl)
theorem dL_law_937 : decode cL_law 937 = .ok (.iadd, 1) := dk_96 (dk_at dksL_law_31 7 rfl rfl)
theorem dL_law_938 : decode cL_law 938 = .ok (.iaload, 1) := dk_46 (dk_at dksL_law_31 8 rfl rfl)
theorem dL_law_939 : decode cL_law 939 = .ok (.invokevirtual 111, 3) := dk_182 0 111 (dk_at dksL_law_31 9 rfl rfl)
theorem dL_law_942 : decode cL_law 942 = .ok (.if_icmp .eq 764, 3) := dk_159 2 252 (dk_at dksL_law_31 12 rfl rfl)
theorem dL_law_945 : decode cL_law 945 = .ok (.iconst 0, 1) := dk_3 (dk_at dksL_law_31 15 rfl rfl)
theorem dL_law_946 : decode cL_law 946 = .ok (.ireturn, 1) := dk_172 (dk_at dksL_law_31 16 rfl rfl)
theorem dL_law_947 : decode cL_law 947 = .ok (.aload_n 1, 1) := dk_43 (dk_at dksL_law_31 17 rfl rfl)
theorem dL_law_948 : decode cL_law 948 = .ok (.aload_n 0, 1) := dk_42 (dk_at dksL_law_31 18 rfl rfl)
theorem dL_law_949 : decode cL_law 949 = .ok (.iload_n 3, 1) := dk_29 (dk_at dksL_law_31 19 rfl rfl)
theorem dL_law_950 : decode cL_law 950 = .ok (.iconst 1, 1) := dk_4 (dk_at dksL_law_31 20 rfl rfl)
theorem dL_law_951 : decode cL_law 951 = .ok (.iadd, 1) := dk_96 (dk_at dksL_law_31 21 rfl rfl)
theorem dL_law_952 : decode cL_law 952 = .ok (.iaload, 1) := dk_46 (dk_at dksL_law_31 22 rfl rfl)
theorem dL_law_953 : decode cL_law 953 = .ok (.invokevirtual 112, 3) := dk_182 0 112 (dk_at dksL_law_32 0 rfl rfl)
theorem dL_law_956 : decode cL_law 956 = .ok (.aload_n 2, 1) := dk_44 (dk_at dksL_law_32 3 rfl rfl)
theorem dL_law_957 : decode cL_law 957 = .ok (.aload_n 0, 1) := dk_42 (dk_at dksL_law_32 4 rfl rfl)
theorem dL_law_958 : decode cL_law 958 = .ok (.iload_n 3, 1) := dk_29 (dk_at dksL_law_32 5 rfl rfl)
theorem dL_law_959 : decode cL_law 959 = .ok (.iconst 1, 1) := dk_4 (dk_at dksL_law_32 6 rfl rfl)
theorem dL_law_960 : decode cL_law 960 = .ok (.iadd, 1) := dk_96 (dk_at dksL_law_32 7 rfl rfl)
theorem dL_law_961 : decode cL_law 961 = .ok (.iaload, 1) := dk_46 (dk_at dksL_law_32 8 rfl rfl)
theorem dL_law_962 : decode cL_law 962 = .ok (.invokevirtual 116, 3) := dk_182 0 116 (dk_at dksL_law_32 9 rfl rfl)
theorem dL_law_965 : decode cL_law 965 = .ok (.if_icmp .eq 741, 3) := dk_159 2 229 (dk_at dksL_law_32 12 rfl rfl)
theorem dL_law_968 : decode cL_law 968 = .ok (.iconst 0, 1) := dk_3 (dk_at dksL_law_32 15 rfl rfl)
theorem dL_law_969 : decode cL_law 969 = .ok (.ireturn, 1) := dk_172 (dk_at dksL_law_32 16 rfl rfl)
theorem dL_law_970 : decode cL_law 970 = .ok (.aload_n 1, 1) := dk_43 (dk_at dksL_law_32 17 rfl rfl)
theorem dL_law_971 : decode cL_law 971 = .ok (.aload_n 0, 1) := dk_42 (dk_at dksL_law_32 18 rfl rfl)
theorem dL_law_972 : decode cL_law 972 = .ok (.iload_n 3, 1) := dk_29 (dk_at dksL_law_32 19 rfl rfl)
theorem dL_law_973 : decode cL_law 973 = .ok (.iconst 1, 1) := dk_4 (dk_at dksL_law_32 20 rfl rfl)
theorem dL_law_974 : decode cL_law 974 = .ok (.iadd, 1) := dk_96 (dk_at dksL_law_32 21 rfl rfl)
theorem dL_law_975 : decode cL_law 975 = .ok (.iaload, 1) := dk_46 (dk_at dksL_law_32 22 rfl rfl)
theorem dL_law_976 : decode cL_law 976 = .ok (.invokevirtual 117, 3) := dk_182 0 117 (dk_at dksL_law_33 0 rfl rfl)
theorem dL_law_979 : decode cL_law 979 = .ok (.aload_n 2, 1) := dk_44 (dk_at dksL_law_33 3 rfl rfl)
theorem dL_law_980 : decode cL_law 980 = .ok (.aload_n 0, 1) := dk_42 (dk_at dksL_law_33 4 rfl rfl)
theorem dL_law_981 : decode cL_law 981 = .ok (.iload_n 3, 1) := dk_29 (dk_at dksL_law_33 5 rfl rfl)
theorem dL_law_982 : decode cL_law 982 = .ok (.iconst 1, 1) := dk_4 (dk_at dksL_law_33 6 rfl rfl)
theorem dL_law_983 : decode cL_law 983 = .ok (.iadd, 1) := dk_96 (dk_at dksL_law_33 7 rfl rfl)
theorem dL_law_984 : decode cL_law 984 = .ok (.iaload, 1) := dk_46 (dk_at dksL_law_33 8 rfl rfl)
theorem dL_law_985 : decode cL_law 985 = .ok (.invokevirtual 120, 3) := dk_182 0 120 (dk_at dksL_law_33 9 rfl rfl)
theorem dL_law_988 : decode cL_law 988 = .ok (.if_icmp .eq 718, 3) := dk_159 2 206 (dk_at dksL_law_33 12 rfl rfl)
theorem dL_law_991 : decode cL_law 991 = .ok (.iconst 0, 1) := dk_3 (dk_at dksL_law_33 15 rfl rfl)
theorem dL_law_992 : decode cL_law 992 = .ok (.ireturn, 1) := dk_172 (dk_at dksL_law_33 16 rfl rfl)
theorem dL_law_993 : decode cL_law 993 = .ok (.aload_n 1, 1) := dk_43 (dk_at dksL_law_33 17 rfl rfl)
theorem dL_law_994 : decode cL_law 994 = .ok (.aload_n 0, 1) := dk_42 (dk_at dksL_law_33 18 rfl rfl)
theorem dL_law_995 : decode cL_law 995 = .ok (.iload_n 3, 1) := dk_29 (dk_at dksL_law_33 19 rfl rfl)
theorem dL_law_996 : decode cL_law 996 = .ok (.iconst 1, 1) := dk_4 (dk_at dksL_law_33 20 rfl rfl)
theorem dL_law_997 : decode cL_law 997 = .ok (.iadd, 1) := dk_96 (dk_at dksL_law_33 21 rfl rfl)
theorem dL_law_998 : decode cL_law 998 = .ok (.iaload, 1) := dk_46 (dk_at dksL_law_33 22 rfl rfl)
theorem dL_law_999 : decode cL_law 999 = .ok (.aload_n 0, 1) := dk_42 (dk_at dksL_law_33 23 rfl rfl)
theorem dL_law_1000 : decode cL_law 1000 = .ok (.iload_n 3, 1) := dk_29 (dk_at dksL_law_34 0 rfl rfl)
theorem dL_law_1001 : decode cL_law 1001 = .ok (.iconst 2, 1) := dk_5 (dk_at dksL_law_34 1 rfl rfl)
theorem dL_law_1002 : decode cL_law 1002 = .ok (.iadd, 1) := dk_96 (dk_at dksL_law_34 2 rfl rfl)
theorem dL_law_1003 : decode cL_law 1003 = .ok (.iaload, 1) := dk_46 (dk_at dksL_law_34 3 rfl rfl)
theorem dL_law_1004 : decode cL_law 1004 = .ok (.aload_n 0, 1) := dk_42 (dk_at dksL_law_34 4 rfl rfl)
theorem dL_law_1005 : decode cL_law 1005 = .ok (.iload_n 3, 1) := dk_29 (dk_at dksL_law_34 5 rfl rfl)
theorem dL_law_1006 : decode cL_law 1006 = .ok (.iconst 3, 1) := dk_6 (dk_at dksL_law_34 6 rfl rfl)
theorem dL_law_1007 : decode cL_law 1007 = .ok (.iadd, 1) := dk_96 (dk_at dksL_law_34 7 rfl rfl)
theorem dL_law_1008 : decode cL_law 1008 = .ok (.iaload, 1) := dk_46 (dk_at dksL_law_34 8 rfl rfl)
theorem dL_law_1009 : decode cL_law 1009 = .ok (.invokevirtual 121, 3) := dk_182 0 121 (dk_at dksL_law_34 9 rfl rfl)
theorem dL_law_1012 : decode cL_law 1012 = .ok (.aload_n 2, 1) := dk_44 (dk_at dksL_law_34 12 rfl rfl)
theorem dL_law_1013 : decode cL_law 1013 = .ok (.aload_n 0, 1) := dk_42 (dk_at dksL_law_34 13 rfl rfl)
theorem dL_law_1014 : decode cL_law 1014 = .ok (.iload_n 3, 1) := dk_29 (dk_at dksL_law_34 14 rfl rfl)
theorem dL_law_1015 : decode cL_law 1015 = .ok (.iconst 1, 1) := dk_4 (dk_at dksL_law_34 15 rfl rfl)
theorem dL_law_1016 : decode cL_law 1016 = .ok (.iadd, 1) := dk_96 (dk_at dksL_law_34 16 rfl rfl)
theorem dL_law_1017 : decode cL_law 1017 = .ok (.iaload, 1) := dk_46 (dk_at dksL_law_34 17 rfl rfl)
theorem dL_law_1018 : decode cL_law 1018 = .ok (.aload_n 0, 1) := dk_42 (dk_at dksL_law_34 18 rfl rfl)
theorem dL_law_1019 : decode cL_law 1019 = .ok (.iload_n 3, 1) := dk_29 (dk_at dksL_law_34 19 rfl rfl)
theorem dL_law_1020 : decode cL_law 1020 = .ok (.iconst 2, 1) := dk_5 (dk_at dksL_law_34 20 rfl rfl)
theorem dL_law_1021 : decode cL_law 1021 = .ok (.iadd, 1) := dk_96 (dk_at dksL_law_34 21 rfl rfl)
theorem dL_law_1022 : decode cL_law 1022 = .ok (.iaload, 1) := dk_46 (dk_at dksL_law_34 22 rfl rfl)
theorem dL_law_1023 : decode cL_law 1023 = .ok (.aload_n 0, 1) := dk_42 (dk_at dksL_law_34 23 rfl rfl)
theorem dL_law_1024 : decode cL_law 1024 = .ok (.iload_n 3, 1) := dk_29 (dk_at dksL_law_35 0 rfl rfl)
theorem dL_law_1025 : decode cL_law 1025 = .ok (.iconst 3, 1) := dk_6 (dk_at dksL_law_35 1 rfl rfl)
theorem dL_law_1026 : decode cL_law 1026 = .ok (.iadd, 1) := dk_96 (dk_at dksL_law_35 2 rfl rfl)
theorem dL_law_1027 : decode cL_law 1027 = .ok (.iaload, 1) := dk_46 (dk_at dksL_law_35 3 rfl rfl)
theorem dL_law_1028 : decode cL_law 1028 = .ok (.invokevirtual 125, 3) := dk_182 0 125 (dk_at dksL_law_35 4 rfl rfl)
theorem dL_law_1031 : decode cL_law 1031 = .ok (.if_icmp .eq 675, 3) := dk_159 2 163 (dk_at dksL_law_35 7 rfl rfl)
theorem dL_law_1034 : decode cL_law 1034 = .ok (.iconst 0, 1) := dk_3 (dk_at dksL_law_35 10 rfl rfl)
theorem dL_law_1035 : decode cL_law 1035 = .ok (.ireturn, 1) := dk_172 (dk_at dksL_law_35 11 rfl rfl)
theorem dL_law_1036 : decode cL_law 1036 = .ok (.aload_n 1, 1) := dk_43 (dk_at dksL_law_35 12 rfl rfl)
theorem dL_law_1037 : decode cL_law 1037 = .ok (.aload_n 0, 1) := dk_42 (dk_at dksL_law_35 13 rfl rfl)
theorem dL_law_1038 : decode cL_law 1038 = .ok (.iload_n 3, 1) := dk_29 (dk_at dksL_law_35 14 rfl rfl)
theorem dL_law_1039 : decode cL_law 1039 = .ok (.iconst 1, 1) := dk_4 (dk_at dksL_law_35 15 rfl rfl)
theorem dL_law_1040 : decode cL_law 1040 = .ok (.iadd, 1) := dk_96 (dk_at dksL_law_35 16 rfl rfl)
theorem dL_law_1041 : decode cL_law 1041 = .ok (.iaload, 1) := dk_46 (dk_at dksL_law_35 17 rfl rfl)
theorem dL_law_1042 : decode cL_law 1042 = .ok (.invokevirtual 126, 3) := dk_182 0 126 (dk_at dksL_law_35 18 rfl rfl)
theorem dL_law_1045 : decode cL_law 1045 = .ok (.aload_n 2, 1) := dk_44 (dk_at dksL_law_35 21 rfl rfl)
theorem dL_law_1046 : decode cL_law 1046 = .ok (.aload_n 0, 1) := dk_42 (dk_at dksL_law_35 22 rfl rfl)
theorem dL_law_1047 : decode cL_law 1047 = .ok (.iload_n 3, 1) := dk_29 (dk_at dksL_law_35 23 rfl rfl)
theorem dL_law_1048 : decode cL_law 1048 = .ok (.iconst 1, 1) := dk_4 (dk_at dksL_law_36 0 rfl rfl)
theorem dL_law_1049 : decode cL_law 1049 = .ok (.iadd, 1) := dk_96 (dk_at dksL_law_36 1 rfl rfl)
theorem dL_law_1050 : decode cL_law 1050 = .ok (.iaload, 1) := dk_46 (dk_at dksL_law_36 2 rfl rfl)
theorem dL_law_1051 : decode cL_law 1051 = .ok (.invokevirtual 129, 3) := dk_182 0 129 (dk_at dksL_law_36 3 rfl rfl)
theorem dL_law_1054 : decode cL_law 1054 = .ok (.if_icmp .eq 652, 3) := dk_159 2 140 (dk_at dksL_law_36 6 rfl rfl)
theorem dL_law_1057 : decode cL_law 1057 = .ok (.iconst 0, 1) := dk_3 (dk_at dksL_law_36 9 rfl rfl)
theorem dL_law_1058 : decode cL_law 1058 = .ok (.ireturn, 1) := dk_172 (dk_at dksL_law_36 10 rfl rfl)
theorem dL_law_1059 : decode cL_law 1059 = .ok (.aload_n 1, 1) := dk_43 (dk_at dksL_law_36 11 rfl rfl)
theorem dL_law_1060 : decode cL_law 1060 = .ok (.aload_n 0, 1) := dk_42 (dk_at dksL_law_36 12 rfl rfl)
theorem dL_law_1061 : decode cL_law 1061 = .ok (.iload_n 3, 1) := dk_29 (dk_at dksL_law_36 13 rfl rfl)
theorem dL_law_1062 : decode cL_law 1062 = .ok (.iconst 1, 1) := dk_4 (dk_at dksL_law_36 14 rfl rfl)
theorem dL_law_1063 : decode cL_law 1063 = .ok (.iadd, 1) := dk_96 (dk_at dksL_law_36 15 rfl rfl)
theorem dL_law_1064 : decode cL_law 1064 = .ok (.iaload, 1) := dk_46 (dk_at dksL_law_36 16 rfl rfl)
theorem dL_law_1065 : decode cL_law 1065 = .ok (.invokevirtual 130, 3) := dk_182 0 130 (dk_at dksL_law_36 17 rfl rfl)
theorem dL_law_1068 : decode cL_law 1068 = .ok (.aload_n 2, 1) := dk_44 (dk_at dksL_law_36 20 rfl rfl)
theorem dL_law_1069 : decode cL_law 1069 = .ok (.aload_n 0, 1) := dk_42 (dk_at dksL_law_36 21 rfl rfl)
theorem dL_law_1070 : decode cL_law 1070 = .ok (.iload_n 3, 1) := dk_29 (dk_at dksL_law_36 22 rfl rfl)
theorem dL_law_1071 : decode cL_law 1071 = .ok (.iconst 1, 1) := dk_4 (dk_at dksL_law_36 23 rfl rfl)
theorem dL_law_1072 : decode cL_law 1072 = .ok (.iadd, 1) := dk_96 (dk_at dksL_law_37 0 rfl rfl)
theorem dL_law_1073 : decode cL_law 1073 = .ok (.iaload, 1) := dk_46 (dk_at dksL_law_37 1 rfl rfl)
theorem dL_law_1074 : decode cL_law 1074 = .ok (.invokevirtual 133, 3) := dk_182 0 133 (dk_at dksL_law_37 2 rfl rfl)
theorem dL_law_1077 : decode cL_law 1077 = .ok (.if_icmp .eq 629, 3) := dk_159 2 117 (dk_at dksL_law_37 5 rfl rfl)
theorem dL_law_1080 : decode cL_law 1080 = .ok (.iconst 0, 1) := dk_3 (dk_at dksL_law_37 8 rfl rfl)
theorem dL_law_1081 : decode cL_law 1081 = .ok (.ireturn, 1) := dk_172 (dk_at dksL_law_37 9 rfl rfl)
theorem dL_law_1082 : decode cL_law 1082 = .ok (.aload_n 1, 1) := dk_43 (dk_at dksL_law_37 10 rfl rfl)
theorem dL_law_1083 : decode cL_law 1083 = .ok (.aload_n 0, 1) := dk_42 (dk_at dksL_law_37 11 rfl rfl)
theorem dL_law_1084 : decode cL_law 1084 = .ok (.iload_n 3, 1) := dk_29 (dk_at dksL_law_37 12 rfl rfl)
theorem dL_law_1085 : decode cL_law 1085 = .ok (.iconst 1, 1) := dk_4 (dk_at dksL_law_37 13 rfl rfl)
theorem dL_law_1086 : decode cL_law 1086 = .ok (.iadd, 1) := dk_96 (dk_at dksL_law_37 14 rfl rfl)
theorem dL_law_1087 : decode cL_law 1087 = .ok (.iaload, 1) := dk_46 (dk_at dksL_law_37 15 rfl rfl)
theorem dL_law_1088 : decode cL_law 1088 = .ok (.invokevirtual 134, 3) := dk_182 0 134 (dk_at dksL_law_37 16 rfl rfl)
theorem dL_law_1091 : decode cL_law 1091 = .ok (.aload_n 2, 1) := dk_44 (dk_at dksL_law_37 19 rfl rfl)
theorem dL_law_1092 : decode cL_law 1092 = .ok (.aload_n 0, 1) := dk_42 (dk_at dksL_law_37 20 rfl rfl)
theorem dL_law_1093 : decode cL_law 1093 = .ok (.iload_n 3, 1) := dk_29 (dk_at dksL_law_37 21 rfl rfl)
theorem dL_law_1094 : decode cL_law 1094 = .ok (.iconst 1, 1) := dk_4 (dk_at dksL_law_37 22 rfl rfl)
theorem dL_law_1095 : decode cL_law 1095 = .ok (.iadd, 1) := dk_96 (dk_at dksL_law_37 23 rfl rfl)
theorem dL_law_1096 : decode cL_law 1096 = .ok (.iaload, 1) := dk_46 (dk_at dksL_law_38 0 rfl rfl)
theorem dL_law_1097 : decode cL_law 1097 = .ok (.invokevirtual 137, 3) := dk_182 0 137 (dk_at dksL_law_38 1 rfl rfl)
theorem dL_law_1100 : decode cL_law 1100 = .ok (.if_icmp .eq 606, 3) := dk_159 2 94 (dk_at dksL_law_38 4 rfl rfl)
theorem dL_law_1103 : decode cL_law 1103 = .ok (.iconst 0, 1) := dk_3 (dk_at dksL_law_38 7 rfl rfl)
theorem dL_law_1104 : decode cL_law 1104 = .ok (.ireturn, 1) := dk_172 (dk_at dksL_law_38 8 rfl rfl)
theorem dL_law_1105 : decode cL_law 1105 = .ok (.aload_n 1, 1) := dk_43 (dk_at dksL_law_38 9 rfl rfl)
theorem dL_law_1106 : decode cL_law 1106 = .ok (.aload_n 0, 1) := dk_42 (dk_at dksL_law_38 10 rfl rfl)
theorem dL_law_1107 : decode cL_law 1107 = .ok (.iload_n 3, 1) := dk_29 (dk_at dksL_law_38 11 rfl rfl)
theorem dL_law_1108 : decode cL_law 1108 = .ok (.iconst 1, 1) := dk_4 (dk_at dksL_law_38 12 rfl rfl)
theorem dL_law_1109 : decode cL_law 1109 = .ok (.iadd, 1) := dk_96 (dk_at dksL_law_38 13 rfl rfl)
theorem dL_law_1110 : decode cL_law 1110 = .ok (.iaload, 1) := dk_46 (dk_at dksL_law_38 14 rfl rfl)
theorem dL_law_1111 : decode cL_law 1111 = .ok (.invokevirtual 138, 3) := dk_182 0 138 (dk_at dksL_law_38 15 rfl rfl)
theorem dL_law_1114 : decode cL_law 1114 = .ok (.aload_n 2, 1) := dk_44 (dk_at dksL_law_38 18 rfl rfl)
theorem dL_law_1115 : decode cL_law 1115 = .ok (.aload_n 0, 1) := dk_42 (dk_at dksL_law_38 19 rfl rfl)
theorem dL_law_1116 : decode cL_law 1116 = .ok (.iload_n 3, 1) := dk_29 (dk_at dksL_law_38 20 rfl rfl)
theorem dL_law_1117 : decode cL_law 1117 = .ok (.iconst 1, 1) := dk_4 (dk_at dksL_law_38 21 rfl rfl)
theorem dL_law_1118 : decode cL_law 1118 = .ok (.iadd, 1) := dk_96 (dk_at dksL_law_38 22 rfl rfl)
theorem dL_law_1119 : decode cL_law 1119 = .ok (.iaload, 1) := dk_46 (dk_at dksL_law_38 23 rfl rfl)
theorem dL_law_1120 : decode cL_law 1120 = .ok (.invokevirtual 141, 3) := dk_182 0 141 (dk_at dksL_law_39 0 rfl rfl)
theorem dL_law_1123 : decode cL_law 1123 = .ok (.if_icmp .eq 583, 3) := dk_159 2 71 (dk_at dksL_law_39 3 rfl rfl)
theorem dL_law_1126 : decode cL_law 1126 = .ok (.iconst 0, 1) := dk_3 (dk_at dksL_law_39 6 rfl rfl)
theorem dL_law_1127 : decode cL_law 1127 = .ok (.ireturn, 1) := dk_172 (dk_at dksL_law_39 7 rfl rfl)
theorem dL_law_1128 : decode cL_law 1128 = .ok (.aload_n 1, 1) := dk_43 (dk_at dksL_law_39 8 rfl rfl)
theorem dL_law_1129 : decode cL_law 1129 = .ok (.invokevirtual 142, 3) := dk_182 0 142 (dk_at dksL_law_39 9 rfl rfl)
theorem dL_law_1132 : decode cL_law 1132 = .ok (.aload_n 2, 1) := dk_44 (dk_at dksL_law_39 12 rfl rfl)
theorem dL_law_1133 : decode cL_law 1133 = .ok (.invokevirtual 145, 3) := dk_182 0 145 (dk_at dksL_law_39 13 rfl rfl)
theorem dL_law_1136 : decode cL_law 1136 = .ok (.if_icmp .eq 570, 3) := dk_159 2 58 (dk_at dksL_law_39 16 rfl rfl)
theorem dL_law_1139 : decode cL_law 1139 = .ok (.iconst 0, 1) := dk_3 (dk_at dksL_law_39 19 rfl rfl)
theorem dL_law_1140 : decode cL_law 1140 = .ok (.ireturn, 1) := dk_172 (dk_at dksL_law_39 20 rfl rfl)
theorem dL_law_1141 : decode cL_law 1141 = .ok (.aload_n 1, 1) := dk_43 (dk_at dksL_law_39 21 rfl rfl)
theorem dL_law_1142 : decode cL_law 1142 = .ok (.aload_n 0, 1) := dk_42 (dk_at dksL_law_39 22 rfl rfl)
theorem dL_law_1143 : decode cL_law 1143 = .ok (.iload_n 3, 1) := dk_29 (dk_at dksL_law_39 23 rfl rfl)
theorem dL_law_1144 : decode cL_law 1144 = .ok (.iconst 1, 1) := dk_4 (dk_at dksL_law_40 0 rfl rfl)
theorem dL_law_1145 : decode cL_law 1145 = .ok (.iadd, 1) := dk_96 (dk_at dksL_law_40 1 rfl rfl)
theorem dL_law_1146 : decode cL_law 1146 = .ok (.iaload, 1) := dk_46 (dk_at dksL_law_40 2 rfl rfl)
theorem dL_law_1147 : decode cL_law 1147 = .ok (.invokevirtual 146, 3) := dk_182 0 146 (dk_at dksL_law_40 3 rfl rfl)
theorem dL_law_1150 : decode cL_law 1150 = .ok (.aload_n 2, 1) := dk_44 (dk_at dksL_law_40 6 rfl rfl)
theorem dL_law_1151 : decode cL_law 1151 = .ok (.aload_n 0, 1) := dk_42 (dk_at dksL_law_40 7 rfl rfl)
theorem dL_law_1152 : decode cL_law 1152 = .ok (.iload_n 3, 1) := dk_29 (dk_at dksL_law_40 8 rfl rfl)
theorem dL_law_1153 : decode cL_law 1153 = .ok (.iconst 1, 1) := dk_4 (dk_at dksL_law_40 9 rfl rfl)
theorem dL_law_1154 : decode cL_law 1154 = .ok (.iadd, 1) := dk_96 (dk_at dksL_law_40 10 rfl rfl)
theorem dL_law_1155 : decode cL_law 1155 = .ok (.iaload, 1) := dk_46 (dk_at dksL_law_40 11 rfl rfl)
theorem dL_law_1156 : decode cL_law 1156 = .ok (.invokevirtual 149, 3) := dk_182 0 149 (dk_at dksL_law_40 12 rfl rfl)
theorem dL_law_1159 : decode cL_law 1159 = .ok (.if_icmp .eq 547, 3) := dk_159 2 35 (dk_at dksL_law_40 15 rfl rfl)
theorem dL_law_1162 : decode cL_law 1162 = .ok (.iconst 0, 1) := dk_3 (dk_at dksL_law_40 18 rfl rfl)
theorem dL_law_1163 : decode cL_law 1163 = .ok (.ireturn, 1) := dk_172 (dk_at dksL_law_40 19 rfl rfl)
theorem dL_law_1164 : decode cL_law 1164 = .ok (.aload_n 1, 1) := dk_43 (dk_at dksL_law_40 20 rfl rfl)
theorem dL_law_1165 : decode cL_law 1165 = .ok (.aload_n 0, 1) := dk_42 (dk_at dksL_law_40 21 rfl rfl)
theorem dL_law_1166 : decode cL_law 1166 = .ok (.iload_n 3, 1) := dk_29 (dk_at dksL_law_40 22 rfl rfl)
theorem dL_law_1167 : decode cL_law 1167 = .ok (.iconst 1, 1) := dk_4 (dk_at dksL_law_40 23 rfl rfl)
theorem dL_law_1168 : decode cL_law 1168 = .ok (.iadd, 1) := dk_96 (dk_at dksL_law_41 0 rfl rfl)
theorem dL_law_1169 : decode cL_law 1169 = .ok (.iaload, 1) := dk_46 (dk_at dksL_law_41 1 rfl rfl)
theorem dL_law_1170 : decode cL_law 1170 = .ok (.invokevirtual 150, 3) := dk_182 0 150 (dk_at dksL_law_41 2 rfl rfl)
theorem dL_law_1173 : decode cL_law 1173 = .ok (.aload_n 2, 1) := dk_44 (dk_at dksL_law_41 5 rfl rfl)
theorem dL_law_1174 : decode cL_law 1174 = .ok (.aload_n 0, 1) := dk_42 (dk_at dksL_law_41 6 rfl rfl)
theorem dL_law_1175 : decode cL_law 1175 = .ok (.iload_n 3, 1) := dk_29 (dk_at dksL_law_41 7 rfl rfl)
theorem dL_law_1176 : decode cL_law 1176 = .ok (.iconst 1, 1) := dk_4 (dk_at dksL_law_41 8 rfl rfl)
theorem dL_law_1177 : decode cL_law 1177 = .ok (.iadd, 1) := dk_96 (dk_at dksL_law_41 9 rfl rfl)
theorem dL_law_1178 : decode cL_law 1178 = .ok (.iaload, 1) := dk_46 (dk_at dksL_law_41 10 rfl rfl)
theorem dL_law_1179 : decode cL_law 1179 = .ok (.invokevirtual 153, 3) := dk_182 0 153 (dk_at dksL_law_41 11 rfl rfl)
theorem dL_law_1182 : decode cL_law 1182 = .ok (.if_icmp .eq 524, 3) := dk_159 2 12 (dk_at dksL_law_41 14 rfl rfl)
theorem dL_law_1185 : decode cL_law 1185 = .ok (.iconst 0, 1) := dk_3 (dk_at dksL_law_41 17 rfl rfl)
theorem dL_law_1186 : decode cL_law 1186 = .ok (.ireturn, 1) := dk_172 (dk_at dksL_law_41 18 rfl rfl)
theorem dL_law_1187 : decode cL_law 1187 = .ok (.aload_n 1, 1) := dk_43 (dk_at dksL_law_41 19 rfl rfl)
theorem dL_law_1188 : decode cL_law 1188 = .ok (.aload_n 0, 1) := dk_42 (dk_at dksL_law_41 20 rfl rfl)
theorem dL_law_1189 : decode cL_law 1189 = .ok (.iload_n 3, 1) := dk_29 (dk_at dksL_law_41 21 rfl rfl)
theorem dL_law_1190 : decode cL_law 1190 = .ok (.iconst 1, 1) := dk_4 (dk_at dksL_law_41 22 rfl rfl)
theorem dL_law_1191 : decode cL_law 1191 = .ok (.iadd, 1) := dk_96 (dk_at dksL_law_41 23 rfl rfl)
theorem dL_law_1192 : decode cL_law 1192 = .ok (.iaload, 1) := dk_46 (dk_at dksL_law_42 0 rfl rfl)
theorem dL_law_1193 : decode cL_law 1193 = .ok (.aload_n 0, 1) := dk_42 (dk_at dksL_law_42 1 rfl rfl)
theorem dL_law_1194 : decode cL_law 1194 = .ok (.iload_n 3, 1) := dk_29 (dk_at dksL_law_42 2 rfl rfl)
theorem dL_law_1195 : decode cL_law 1195 = .ok (.iconst 2, 1) := dk_5 (dk_at dksL_law_42 3 rfl rfl)
theorem dL_law_1196 : decode cL_law 1196 = .ok (.iadd, 1) := dk_96 (dk_at dksL_law_42 4 rfl rfl)
theorem dL_law_1197 : decode cL_law 1197 = .ok (.iaload, 1) := dk_46 (dk_at dksL_law_42 5 rfl rfl)
theorem dL_law_1198 : decode cL_law 1198 = .ok (.invokevirtual 154, 3) := dk_182 0 154 (dk_at dksL_law_42 6 rfl rfl)
theorem dL_law_1201 : decode cL_law 1201 = .ok (.aload_n 2, 1) := dk_44 (dk_at dksL_law_42 9 rfl rfl)
theorem dL_law_1202 : decode cL_law 1202 = .ok (.aload_n 0, 1) := dk_42 (dk_at dksL_law_42 10 rfl rfl)
theorem dL_law_1203 : decode cL_law 1203 = .ok (.iload_n 3, 1) := dk_29 (dk_at dksL_law_42 11 rfl rfl)
theorem dL_law_1204 : decode cL_law 1204 = .ok (.iconst 1, 1) := dk_4 (dk_at dksL_law_42 12 rfl rfl)
theorem dL_law_1205 : decode cL_law 1205 = .ok (.iadd, 1) := dk_96 (dk_at dksL_law_42 13 rfl rfl)
theorem dL_law_1206 : decode cL_law 1206 = .ok (.iaload, 1) := dk_46 (dk_at dksL_law_42 14 rfl rfl)
theorem dL_law_1207 : decode cL_law 1207 = .ok (.aload_n 0, 1) := dk_42 (dk_at dksL_law_42 15 rfl rfl)
theorem dL_law_1208 : decode cL_law 1208 = .ok (.iload_n 3, 1) := dk_29 (dk_at dksL_law_42 16 rfl rfl)
theorem dL_law_1209 : decode cL_law 1209 = .ok (.iconst 2, 1) := dk_5 (dk_at dksL_law_42 17 rfl rfl)
theorem dL_law_1210 : decode cL_law 1210 = .ok (.iadd, 1) := dk_96 (dk_at dksL_law_42 18 rfl rfl)
theorem dL_law_1211 : decode cL_law 1211 = .ok (.iaload, 1) := dk_46 (dk_at dksL_law_42 19 rfl rfl)
theorem dL_law_1212 : decode cL_law 1212 = .ok (.invokevirtual 157, 3) := dk_182 0 157 (dk_at dksL_law_42 20 rfl rfl)
theorem dL_law_1215 : decode cL_law 1215 = .ok (.if_icmp .eq 491, 3) := dk_159 1 235 (dk_at dksL_law_43 0 rfl rfl)
theorem dL_law_1218 : decode cL_law 1218 = .ok (.iconst 0, 1) := dk_3 (dk_at dksL_law_43 3 rfl rfl)
theorem dL_law_1219 : decode cL_law 1219 = .ok (.ireturn, 1) := dk_172 (dk_at dksL_law_43 4 rfl rfl)
theorem dL_law_1220 : decode cL_law 1220 = .ok (.aload_n 1, 1) := dk_43 (dk_at dksL_law_43 5 rfl rfl)
theorem dL_law_1221 : decode cL_law 1221 = .ok (.invokevirtual 158, 3) := dk_182 0 158 (dk_at dksL_law_43 6 rfl rfl)
theorem dL_law_1224 : decode cL_law 1224 = .ok (.aload_n 2, 1) := dk_44 (dk_at dksL_law_43 9 rfl rfl)
theorem dL_law_1225 : decode cL_law 1225 = .ok (.invokevirtual 161, 3) := dk_182 0 161 (dk_at dksL_law_43 10 rfl rfl)
theorem dL_law_1228 : decode cL_law 1228 = .ok (.if_icmp .eq 478, 3) := dk_159 1 222 (dk_at dksL_law_43 13 rfl rfl)
theorem dL_law_1231 : decode cL_law 1231 = .ok (.iconst 0, 1) := dk_3 (dk_at dksL_law_43 16 rfl rfl)
theorem dL_law_1232 : decode cL_law 1232 = .ok (.ireturn, 1) := dk_172 (dk_at dksL_law_43 17 rfl rfl)
theorem dL_law_1233 : decode cL_law 1233 = .ok (.aload_n 1, 1) := dk_43 (dk_at dksL_law_43 18 rfl rfl)
theorem dL_law_1234 : decode cL_law 1234 = .ok (.invokevirtual 162, 3) := dk_182 0 162 (dk_at dksL_law_43 19 rfl rfl)
theorem dL_law_1237 : decode cL_law 1237 = .ok (.aload_n 2, 1) := dk_44 (dk_at dksL_law_43 22 rfl rfl)
theorem dL_law_1238 : decode cL_law 1238 = .ok (.invokevirtual 165, 3) := dk_182 0 165 (dk_at dksL_law_44 0 rfl rfl)
theorem dL_law_1241 : decode cL_law 1241 = .ok (.if_icmp .eq 465, 3) := dk_159 1 209 (dk_at dksL_law_44 3 rfl rfl)
theorem dL_law_1244 : decode cL_law 1244 = .ok (.iconst 0, 1) := dk_3 (dk_at dksL_law_44 6 rfl rfl)
theorem dL_law_1245 : decode cL_law 1245 = .ok (.ireturn, 1) := dk_172 (dk_at dksL_law_44 7 rfl rfl)
theorem dL_law_1246 : decode cL_law 1246 = .ok (.aload_n 1, 1) := dk_43 (dk_at dksL_law_44 8 rfl rfl)
theorem dL_law_1247 : decode cL_law 1247 = .ok (.aload_n 0, 1) := dk_42 (dk_at dksL_law_44 9 rfl rfl)
theorem dL_law_1248 : decode cL_law 1248 = .ok (.iload_n 3, 1) := dk_29 (dk_at dksL_law_44 10 rfl rfl)
theorem dL_law_1249 : decode cL_law 1249 = .ok (.iconst 1, 1) := dk_4 (dk_at dksL_law_44 11 rfl rfl)
theorem dL_law_1250 : decode cL_law 1250 = .ok (.iadd, 1) := dk_96 (dk_at dksL_law_44 12 rfl rfl)
theorem dL_law_1251 : decode cL_law 1251 = .ok (.iaload, 1) := dk_46 (dk_at dksL_law_44 13 rfl rfl)
theorem dL_law_1252 : decode cL_law 1252 = .ok (.invokevirtual 166, 3) := dk_182 0 166 (dk_at dksL_law_44 14 rfl rfl)
theorem dL_law_1255 : decode cL_law 1255 = .ok (.aload_n 2, 1) := dk_44 (dk_at dksL_law_44 17 rfl rfl)
theorem dL_law_1256 : decode cL_law 1256 = .ok (.aload_n 0, 1) := dk_42 (dk_at dksL_law_44 18 rfl rfl)
theorem dL_law_1257 : decode cL_law 1257 = .ok (.iload_n 3, 1) := dk_29 (dk_at dksL_law_44 19 rfl rfl)
theorem dL_law_1258 : decode cL_law 1258 = .ok (.iconst 1, 1) := dk_4 (dk_at dksL_law_44 20 rfl rfl)
theorem dL_law_1259 : decode cL_law 1259 = .ok (.iadd, 1) := dk_96 (dk_at dksL_law_44 21 rfl rfl)
theorem dL_law_1260 : decode cL_law 1260 = .ok (.iaload, 1) := dk_46 (dk_at dksL_law_44 22 rfl rfl)
theorem dL_law_1261 : decode cL_law 1261 = .ok (.invokevirtual 169, 3) := dk_182 0 169 (dk_at dksL_law_45 0 rfl rfl)
theorem dL_law_1264 : decode cL_law 1264 = .ok (.if_icmp .eq 442, 3) := dk_159 1 186 (dk_at dksL_law_45 3 rfl rfl)
theorem dL_law_1267 : decode cL_law 1267 = .ok (.iconst 0, 1) := dk_3 (dk_at dksL_law_45 6 rfl rfl)
theorem dL_law_1268 : decode cL_law 1268 = .ok (.ireturn, 1) := dk_172 (dk_at dksL_law_45 7 rfl rfl)
theorem dL_law_1269 : decode cL_law 1269 = .ok (.aload_n 1, 1) := dk_43 (dk_at dksL_law_45 8 rfl rfl)
theorem dL_law_1270 : decode cL_law 1270 = .ok (.aload_n 0, 1) := dk_42 (dk_at dksL_law_45 9 rfl rfl)
theorem dL_law_1271 : decode cL_law 1271 = .ok (.iload_n 3, 1) := dk_29 (dk_at dksL_law_45 10 rfl rfl)
theorem dL_law_1272 : decode cL_law 1272 = .ok (.iconst 1, 1) := dk_4 (dk_at dksL_law_45 11 rfl rfl)
theorem dL_law_1273 : decode cL_law 1273 = .ok (.iadd, 1) := dk_96 (dk_at dksL_law_45 12 rfl rfl)
theorem dL_law_1274 : decode cL_law 1274 = .ok (.iaload, 1) := dk_46 (dk_at dksL_law_45 13 rfl rfl)
theorem dL_law_1275 : decode cL_law 1275 = .ok (.invokevirtual 170, 3) := dk_182 0 170 (dk_at dksL_law_45 14 rfl rfl)
theorem dL_law_1278 : decode cL_law 1278 = .ok (.aload_n 2, 1) := dk_44 (dk_at dksL_law_45 17 rfl rfl)
theorem dL_law_1279 : decode cL_law 1279 = .ok (.aload_n 0, 1) := dk_42 (dk_at dksL_law_45 18 rfl rfl)
theorem dL_law_1280 : decode cL_law 1280 = .ok (.iload_n 3, 1) := dk_29 (dk_at dksL_law_45 19 rfl rfl)
theorem dL_law_1281 : decode cL_law 1281 = .ok (.iconst 1, 1) := dk_4 (dk_at dksL_law_45 20 rfl rfl)
theorem dL_law_1282 : decode cL_law 1282 = .ok (.iadd, 1) := dk_96 (dk_at dksL_law_45 21 rfl rfl)
theorem dL_law_1283 : decode cL_law 1283 = .ok (.iaload, 1) := dk_46 (dk_at dksL_law_45 22 rfl rfl)
theorem dL_law_1284 : decode cL_law 1284 = .ok (.invokevirtual 173, 3) := dk_182 0 173 (dk_at dksL_law_46 0 rfl rfl)
theorem dL_law_1287 : decode cL_law 1287 = .ok (.if_icmp .eq 419, 3) := dk_159 1 163 (dk_at dksL_law_46 3 rfl rfl)
theorem dL_law_1290 : decode cL_law 1290 = .ok (.iconst 0, 1) := dk_3 (dk_at dksL_law_46 6 rfl rfl)
theorem dL_law_1291 : decode cL_law 1291 = .ok (.ireturn, 1) := dk_172 (dk_at dksL_law_46 7 rfl rfl)
theorem dL_law_1292 : decode cL_law 1292 = .ok (.aload_n 1, 1) := dk_43 (dk_at dksL_law_46 8 rfl rfl)
theorem dL_law_1293 : decode cL_law 1293 = .ok (.aload_n 0, 1) := dk_42 (dk_at dksL_law_46 9 rfl rfl)
theorem dL_law_1294 : decode cL_law 1294 = .ok (.iload_n 3, 1) := dk_29 (dk_at dksL_law_46 10 rfl rfl)
theorem dL_law_1295 : decode cL_law 1295 = .ok (.iconst 1, 1) := dk_4 (dk_at dksL_law_46 11 rfl rfl)
theorem dL_law_1296 : decode cL_law 1296 = .ok (.iadd, 1) := dk_96 (dk_at dksL_law_46 12 rfl rfl)
theorem dL_law_1297 : decode cL_law 1297 = .ok (.iaload, 1) := dk_46 (dk_at dksL_law_46 13 rfl rfl)
theorem dL_law_1298 : decode cL_law 1298 = .ok (.aload_n 0, 1) := dk_42 (dk_at dksL_law_46 14 rfl rfl)
theorem dL_law_1299 : decode cL_law 1299 = .ok (.iload_n 3, 1) := dk_29 (dk_at dksL_law_46 15 rfl rfl)
theorem dL_law_1300 : decode cL_law 1300 = .ok (.iconst 2, 1) := dk_5 (dk_at dksL_law_46 16 rfl rfl)
theorem dL_law_1301 : decode cL_law 1301 = .ok (.iadd, 1) := dk_96 (dk_at dksL_law_46 17 rfl rfl)
theorem dL_law_1302 : decode cL_law 1302 = .ok (.iaload, 1) := dk_46 (dk_at dksL_law_46 18 rfl rfl)
theorem dL_law_1303 : decode cL_law 1303 = .ok (.aload_n 0, 1) := dk_42 (dk_at dksL_law_46 19 rfl rfl)
theorem dL_law_1304 : decode cL_law 1304 = .ok (.iload_n 3, 1) := dk_29 (dk_at dksL_law_46 20 rfl rfl)
theorem dL_law_1305 : decode cL_law 1305 = .ok (.iconst 3, 1) := dk_6 (dk_at dksL_law_46 21 rfl rfl)
theorem dL_law_1306 : decode cL_law 1306 = .ok (.iadd, 1) := dk_96 (dk_at dksL_law_46 22 rfl rfl)
theorem dL_law_1307 : decode cL_law 1307 = .ok (.iaload, 1) := dk_46 (dk_at dksL_law_46 23 rfl rfl)
theorem dL_law_1308 : decode cL_law 1308 = .ok (.invokevirtual 174, 3) := dk_182 0 174 (dk_at dksL_law_47 0 rfl rfl)
theorem dL_law_1311 : decode cL_law 1311 = .ok (.aload_n 2, 1) := dk_44 (dk_at dksL_law_47 3 rfl rfl)
theorem dL_law_1312 : decode cL_law 1312 = .ok (.aload_n 0, 1) := dk_42 (dk_at dksL_law_47 4 rfl rfl)
theorem dL_law_1313 : decode cL_law 1313 = .ok (.iload_n 3, 1) := dk_29 (dk_at dksL_law_47 5 rfl rfl)
theorem dL_law_1314 : decode cL_law 1314 = .ok (.iconst 1, 1) := dk_4 (dk_at dksL_law_47 6 rfl rfl)
theorem dL_law_1315 : decode cL_law 1315 = .ok (.iadd, 1) := dk_96 (dk_at dksL_law_47 7 rfl rfl)
theorem dL_law_1316 : decode cL_law 1316 = .ok (.iaload, 1) := dk_46 (dk_at dksL_law_47 8 rfl rfl)
theorem dL_law_1317 : decode cL_law 1317 = .ok (.aload_n 0, 1) := dk_42 (dk_at dksL_law_47 9 rfl rfl)
theorem dL_law_1318 : decode cL_law 1318 = .ok (.iload_n 3, 1) := dk_29 (dk_at dksL_law_47 10 rfl rfl)
theorem dL_law_1319 : decode cL_law 1319 = .ok (.iconst 2, 1) := dk_5 (dk_at dksL_law_47 11 rfl rfl)
theorem dL_law_1320 : decode cL_law 1320 = .ok (.iadd, 1) := dk_96 (dk_at dksL_law_47 12 rfl rfl)
theorem dL_law_1321 : decode cL_law 1321 = .ok (.iaload, 1) := dk_46 (dk_at dksL_law_47 13 rfl rfl)
theorem dL_law_1322 : decode cL_law 1322 = .ok (.aload_n 0, 1) := dk_42 (dk_at dksL_law_47 14 rfl rfl)
theorem dL_law_1323 : decode cL_law 1323 = .ok (.iload_n 3, 1) := dk_29 (dk_at dksL_law_47 15 rfl rfl)
theorem dL_law_1324 : decode cL_law 1324 = .ok (.iconst 3, 1) := dk_6 (dk_at dksL_law_47 16 rfl rfl)
theorem dL_law_1325 : decode cL_law 1325 = .ok (.iadd, 1) := dk_96 (dk_at dksL_law_47 17 rfl rfl)
theorem dL_law_1326 : decode cL_law 1326 = .ok (.iaload, 1) := dk_46 (dk_at dksL_law_47 18 rfl rfl)
theorem dL_law_1327 : decode cL_law 1327 = .ok (.invokevirtual 177, 3) := dk_182 0 177 (dk_at dksL_law_47 19 rfl rfl)
theorem dL_law_1330 : decode cL_law 1330 = .ok (.if_icmp .eq 376, 3) := dk_159 1 120 (dk_at dksL_law_48 0 rfl rfl)
theorem dL_law_1333 : decode cL_law 1333 = .ok (.iconst 0, 1) := dk_3 (dk_at dksL_law_48 3 rfl rfl)
theorem dL_law_1334 : decode cL_law 1334 = .ok (.ireturn, 1) := dk_172 (dk_at dksL_law_48 4 rfl rfl)
theorem dL_law_1335 : decode cL_law 1335 = .ok (.aload_n 1, 1) := dk_43 (dk_at dksL_law_48 5 rfl rfl)
theorem dL_law_1336 : decode cL_law 1336 = .ok (.invokevirtual 178, 3) := dk_182 0 178 (dk_at dksL_law_48 6 rfl rfl)
theorem dL_law_1339 : decode cL_law 1339 = .ok (.aload_n 2, 1) := dk_44 (dk_at dksL_law_48 9 rfl rfl)
theorem dL_law_1340 : decode cL_law 1340 = .ok (.invokevirtual 181, 3) := dk_182 0 181 (dk_at dksL_law_48 10 rfl rfl)
theorem dL_law_1343 : decode cL_law 1343 = .ok (.if_icmp .eq 363, 3) := dk_159 1 107 (dk_at dksL_law_48 13 rfl rfl)
theorem dL_law_1346 : decode cL_law 1346 = .ok (.iconst 0, 1) := dk_3 (dk_at dksL_law_48 16 rfl rfl)
theorem dL_law_1347 : decode cL_law 1347 = .ok (.ireturn, 1) := dk_172 (dk_at dksL_law_48 17 rfl rfl)
theorem dL_law_1348 : decode cL_law 1348 = .ok (.aload_n 1, 1) := dk_43 (dk_at dksL_law_48 18 rfl rfl)
theorem dL_law_1349 : decode cL_law 1349 = .ok (.aload_n 0, 1) := dk_42 (dk_at dksL_law_48 19 rfl rfl)
theorem dL_law_1350 : decode cL_law 1350 = .ok (.iload_n 3, 1) := dk_29 (dk_at dksL_law_48 20 rfl rfl)
theorem dL_law_1351 : decode cL_law 1351 = .ok (.iconst 1, 1) := dk_4 (dk_at dksL_law_48 21 rfl rfl)
theorem dL_law_1352 : decode cL_law 1352 = .ok (.iadd, 1) := dk_96 (dk_at dksL_law_48 22 rfl rfl)
theorem dL_law_1353 : decode cL_law 1353 = .ok (.iaload, 1) := dk_46 (dk_at dksL_law_48 23 rfl rfl)
theorem dL_law_1354 : decode cL_law 1354 = .ok (.invokevirtual 182, 3) := dk_182 0 182 (dk_at dksL_law_49 0 rfl rfl)
theorem dL_law_1357 : decode cL_law 1357 = .ok (.aload_n 2, 1) := dk_44 (dk_at dksL_law_49 3 rfl rfl)
theorem dL_law_1358 : decode cL_law 1358 = .ok (.aload_n 0, 1) := dk_42 (dk_at dksL_law_49 4 rfl rfl)
theorem dL_law_1359 : decode cL_law 1359 = .ok (.iload_n 3, 1) := dk_29 (dk_at dksL_law_49 5 rfl rfl)
theorem dL_law_1360 : decode cL_law 1360 = .ok (.iconst 1, 1) := dk_4 (dk_at dksL_law_49 6 rfl rfl)
theorem dL_law_1361 : decode cL_law 1361 = .ok (.iadd, 1) := dk_96 (dk_at dksL_law_49 7 rfl rfl)
theorem dL_law_1362 : decode cL_law 1362 = .ok (.iaload, 1) := dk_46 (dk_at dksL_law_49 8 rfl rfl)
theorem dL_law_1363 : decode cL_law 1363 = .ok (.invokevirtual 185, 3) := dk_182 0 185 (dk_at dksL_law_49 9 rfl rfl)
theorem dL_law_1366 : decode cL_law 1366 = .ok (.if_icmp .eq 340, 3) := dk_159 1 84 (dk_at dksL_law_49 12 rfl rfl)
theorem dL_law_1369 : decode cL_law 1369 = .ok (.iconst 0, 1) := dk_3 (dk_at dksL_law_49 15 rfl rfl)
theorem dL_law_1370 : decode cL_law 1370 = .ok (.ireturn, 1) := dk_172 (dk_at dksL_law_49 16 rfl rfl)
theorem dL_law_1371 : decode cL_law 1371 = .ok (.aload_n 1, 1) := dk_43 (dk_at dksL_law_49 17 rfl rfl)
theorem dL_law_1372 : decode cL_law 1372 = .ok (.invokevirtual 186, 3) := dk_182 0 186 (dk_at dksL_law_49 18 rfl rfl)
theorem dL_law_1375 : decode cL_law 1375 = .ok (.aload_n 2, 1) := dk_44 (dk_at dksL_law_49 21 rfl rfl)
theorem dL_law_1376 : decode cL_law 1376 = .ok (.invokevirtual 189, 3) := dk_182 0 189 (dk_at dksL_law_50 0 rfl rfl)
theorem dL_law_1379 : decode cL_law 1379 = .ok (.if_icmp .eq 327, 3) := dk_159 1 71 (dk_at dksL_law_50 3 rfl rfl)
theorem dL_law_1382 : decode cL_law 1382 = .ok (.iconst 0, 1) := dk_3 (dk_at dksL_law_50 6 rfl rfl)
theorem dL_law_1383 : decode cL_law 1383 = .ok (.ireturn, 1) := dk_172 (dk_at dksL_law_50 7 rfl rfl)
theorem dL_law_1384 : decode cL_law 1384 = .ok (.aload_n 1, 1) := dk_43 (dk_at dksL_law_50 8 rfl rfl)
theorem dL_law_1385 : decode cL_law 1385 = .ok (.invokevirtual 190, 3) := dk_182 0 190 (dk_at dksL_law_50 9 rfl rfl)
theorem dL_law_1388 : decode cL_law 1388 = .ok (.aload_n 2, 1) := dk_44 (dk_at dksL_law_50 12 rfl rfl)
theorem dL_law_1389 : decode cL_law 1389 = .ok (.invokevirtual 193, 3) := dk_182 0 193 (dk_at dksL_law_50 13 rfl rfl)
theorem dL_law_1392 : decode cL_law 1392 = .ok (.if_icmp .eq 314, 3) := dk_159 1 58 (dk_at dksL_law_50 16 rfl rfl)
theorem dL_law_1395 : decode cL_law 1395 = .ok (.iconst 0, 1) := dk_3 (dk_at dksL_law_50 19 rfl rfl)
theorem dL_law_1396 : decode cL_law 1396 = .ok (.ireturn, 1) := dk_172 (dk_at dksL_law_50 20 rfl rfl)
theorem dL_law_1397 : decode cL_law 1397 = .ok (.aload_n 1, 1) := dk_43 (dk_at dksL_law_50 21 rfl rfl)
theorem dL_law_1398 : decode cL_law 1398 = .ok (.aload_n 0, 1) := dk_42 (dk_at dksL_law_50 22 rfl rfl)
theorem dL_law_1399 : decode cL_law 1399 = .ok (.iload_n 3, 1) := dk_29 (dk_at dksL_law_50 23 rfl rfl)
theorem dL_law_1400 : decode cL_law 1400 = .ok (.iconst 1, 1) := dk_4 (dk_at dksL_law_51 0 rfl rfl)
theorem dL_law_1401 : decode cL_law 1401 = .ok (.iadd, 1) := dk_96 (dk_at dksL_law_51 1 rfl rfl)
theorem dL_law_1402 : decode cL_law 1402 = .ok (.iaload, 1) := dk_46 (dk_at dksL_law_51 2 rfl rfl)
theorem dL_law_1403 : decode cL_law 1403 = .ok (.aload_n 0, 1) := dk_42 (dk_at dksL_law_51 3 rfl rfl)
theorem dL_law_1404 : decode cL_law 1404 = .ok (.iload_n 3, 1) := dk_29 (dk_at dksL_law_51 4 rfl rfl)
theorem dL_law_1405 : decode cL_law 1405 = .ok (.iconst 2, 1) := dk_5 (dk_at dksL_law_51 5 rfl rfl)
theorem dL_law_1406 : decode cL_law 1406 = .ok (.iadd, 1) := dk_96 (dk_at dksL_law_51 6 rfl rfl)
theorem dL_law_1407 : decode cL_law 1407 = .ok (.iaload, 1) := dk_46 (dk_at dksL_law_51 7 rfl rfl)
theorem dL_law_1408 : decode cL_law 1408 = .ok (.invokevirtual 194, 3) := dk_182 0 194 (dk_at dksL_law_51 8 rfl rfl)
theorem dL_law_1411 : decode cL_law 1411 = .ok (.aload_n 2, 1) := dk_44 (dk_at dksL_law_51 11 rfl rfl)
theorem dL_law_1412 : decode cL_law 1412 = .ok (.aload_n 0, 1) := dk_42 (dk_at dksL_law_51 12 rfl rfl)
theorem dL_law_1413 : decode cL_law 1413 = .ok (.iload_n 3, 1) := dk_29 (dk_at dksL_law_51 13 rfl rfl)
theorem dL_law_1414 : decode cL_law 1414 = .ok (.iconst 1, 1) := dk_4 (dk_at dksL_law_51 14 rfl rfl)
theorem dL_law_1415 : decode cL_law 1415 = .ok (.iadd, 1) := dk_96 (dk_at dksL_law_51 15 rfl rfl)
theorem dL_law_1416 : decode cL_law 1416 = .ok (.iaload, 1) := dk_46 (dk_at dksL_law_51 16 rfl rfl)
theorem dL_law_1417 : decode cL_law 1417 = .ok (.aload_n 0, 1) := dk_42 (dk_at dksL_law_51 17 rfl rfl)
theorem dL_law_1418 : decode cL_law 1418 = .ok (.iload_n 3, 1) := dk_29 (dk_at dksL_law_51 18 rfl rfl)
theorem dL_law_1419 : decode cL_law 1419 = .ok (.iconst 2, 1) := dk_5 (dk_at dksL_law_51 19 rfl rfl)
theorem dL_law_1420 : decode cL_law 1420 = .ok (.iadd, 1) := dk_96 (dk_at dksL_law_51 20 rfl rfl)
theorem dL_law_1421 : decode cL_law 1421 = .ok (.iaload, 1) := dk_46 (dk_at dksL_law_51 21 rfl rfl)
theorem dL_law_1422 : decode cL_law 1422 = .ok (.invokevirtual 198, 3) := dk_182 0 198 (dk_at dksL_law_52 0 rfl rfl)
theorem dL_law_1425 : decode cL_law 1425 = .ok (.if_icmp .eq 281, 3) := dk_159 1 25 (dk_at dksL_law_52 3 rfl rfl)
theorem dL_law_1428 : decode cL_law 1428 = .ok (.iconst 0, 1) := dk_3 (dk_at dksL_law_52 6 rfl rfl)
theorem dL_law_1429 : decode cL_law 1429 = .ok (.ireturn, 1) := dk_172 (dk_at dksL_law_52 7 rfl rfl)
theorem dL_law_1430 : decode cL_law 1430 = .ok (.aload_n 1, 1) := dk_43 (dk_at dksL_law_52 8 rfl rfl)
theorem dL_law_1431 : decode cL_law 1431 = .ok (.invokevirtual 199, 3) := dk_182 0 199 (dk_at dksL_law_52 9 rfl rfl)
theorem dL_law_1434 : decode cL_law 1434 = .ok (.aload_n 2, 1) := dk_44 (dk_at dksL_law_52 12 rfl rfl)
theorem dL_law_1435 : decode cL_law 1435 = .ok (.invokevirtual 203, 3) := dk_182 0 203 (dk_at dksL_law_52 13 rfl rfl)
theorem dL_law_1438 : decode cL_law 1438 = .ok (.if_icmp .eq 268, 3) := dk_159 1 12 (dk_at dksL_law_52 16 rfl rfl)
theorem dL_law_1441 : decode cL_law 1441 = .ok (.iconst 0, 1) := dk_3 (dk_at dksL_law_52 19 rfl rfl)
theorem dL_law_1442 : decode cL_law 1442 = .ok (.ireturn, 1) := dk_172 (dk_at dksL_law_52 20 rfl rfl)
theorem dL_law_1443 : decode cL_law 1443 = .ok (.aload_n 1, 1) := dk_43 (dk_at dksL_law_52 21 rfl rfl)
theorem dL_law_1444 : decode cL_law 1444 = .ok (.invokevirtual 204, 3) := dk_182 0 204 (dk_at dksL_law_53 0 rfl rfl)
theorem dL_law_1447 : decode cL_law 1447 = .ok (.aload_n 2, 1) := dk_44 (dk_at dksL_law_53 3 rfl rfl)
theorem dL_law_1448 : decode cL_law 1448 = .ok (.invokevirtual 207, 3) := dk_182 0 207 (dk_at dksL_law_53 4 rfl rfl)
theorem dL_law_1451 : decode cL_law 1451 = .ok (.if_icmp .eq 255, 3) := dk_159 0 255 (dk_at dksL_law_53 7 rfl rfl)
theorem dL_law_1454 : decode cL_law 1454 = .ok (.iconst 0, 1) := dk_3 (dk_at dksL_law_53 10 rfl rfl)
theorem dL_law_1455 : decode cL_law 1455 = .ok (.ireturn, 1) := dk_172 (dk_at dksL_law_53 11 rfl rfl)
theorem dL_law_1456 : decode cL_law 1456 = .ok (.aload_n 1, 1) := dk_43 (dk_at dksL_law_53 12 rfl rfl)
theorem dL_law_1457 : decode cL_law 1457 = .ok (.aload_n 0, 1) := dk_42 (dk_at dksL_law_53 13 rfl rfl)
theorem dL_law_1458 : decode cL_law 1458 = .ok (.iload_n 3, 1) := dk_29 (dk_at dksL_law_53 14 rfl rfl)
theorem dL_law_1459 : decode cL_law 1459 = .ok (.iconst 1, 1) := dk_4 (dk_at dksL_law_53 15 rfl rfl)
theorem dL_law_1460 : decode cL_law 1460 = .ok (.iadd, 1) := dk_96 (dk_at dksL_law_53 16 rfl rfl)
theorem dL_law_1461 : decode cL_law 1461 = .ok (.iaload, 1) := dk_46 (dk_at dksL_law_53 17 rfl rfl)
theorem dL_law_1462 : decode cL_law 1462 = .ok (.invokevirtual 208, 3) := dk_182 0 208 (dk_at dksL_law_53 18 rfl rfl)
theorem dL_law_1465 : decode cL_law 1465 = .ok (.aload_n 2, 1) := dk_44 (dk_at dksL_law_53 21 rfl rfl)
theorem dL_law_1466 : decode cL_law 1466 = .ok (.aload_n 0, 1) := dk_42 (dk_at dksL_law_53 22 rfl rfl)
theorem dL_law_1467 : decode cL_law 1467 = .ok (.iload_n 3, 1) := dk_29 (dk_at dksL_law_53 23 rfl rfl)
theorem dL_law_1468 : decode cL_law 1468 = .ok (.iconst 1, 1) := dk_4 (dk_at dksL_law_54 0 rfl rfl)
theorem dL_law_1469 : decode cL_law 1469 = .ok (.iadd, 1) := dk_96 (dk_at dksL_law_54 1 rfl rfl)
theorem dL_law_1470 : decode cL_law 1470 = .ok (.iaload, 1) := dk_46 (dk_at dksL_law_54 2 rfl rfl)
theorem dL_law_1471 : decode cL_law 1471 = .ok (.invokevirtual 211, 3) := dk_182 0 211 (dk_at dksL_law_54 3 rfl rfl)
theorem dL_law_1474 : decode cL_law 1474 = .ok (.if_icmp .eq 232, 3) := dk_159 0 232 (dk_at dksL_law_54 6 rfl rfl)
theorem dL_law_1477 : decode cL_law 1477 = .ok (.iconst 0, 1) := dk_3 (dk_at dksL_law_54 9 rfl rfl)
theorem dL_law_1478 : decode cL_law 1478 = .ok (.ireturn, 1) := dk_172 (dk_at dksL_law_54 10 rfl rfl)
theorem dL_law_1479 : decode cL_law 1479 = .ok (.aload_n 1, 1) := dk_43 (dk_at dksL_law_54 11 rfl rfl)
theorem dL_law_1480 : decode cL_law 1480 = .ok (.aload_n 0, 1) := dk_42 (dk_at dksL_law_54 12 rfl rfl)
theorem dL_law_1481 : decode cL_law 1481 = .ok (.iload_n 3, 1) := dk_29 (dk_at dksL_law_54 13 rfl rfl)
theorem dL_law_1482 : decode cL_law 1482 = .ok (.iconst 1, 1) := dk_4 (dk_at dksL_law_54 14 rfl rfl)
theorem dL_law_1483 : decode cL_law 1483 = .ok (.iadd, 1) := dk_96 (dk_at dksL_law_54 15 rfl rfl)
theorem dL_law_1484 : decode cL_law 1484 = .ok (.iaload, 1) := dk_46 (dk_at dksL_law_54 16 rfl rfl)
theorem dL_law_1485 : decode cL_law 1485 = .ok (.aload_n 0, 1) := dk_42 (dk_at dksL_law_54 17 rfl rfl)
theorem dL_law_1486 : decode cL_law 1486 = .ok (.iload_n 3, 1) := dk_29 (dk_at dksL_law_54 18 rfl rfl)
theorem dL_law_1487 : decode cL_law 1487 = .ok (.iconst 2, 1) := dk_5 (dk_at dksL_law_54 19 rfl rfl)
theorem dL_law_1488 : decode cL_law 1488 = .ok (.iadd, 1) := dk_96 (dk_at dksL_law_54 20 rfl rfl)
theorem dL_law_1489 : decode cL_law 1489 = .ok (.iaload, 1) := dk_46 (dk_at dksL_law_54 21 rfl rfl)
theorem dL_law_1490 : decode cL_law 1490 = .ok (.invokevirtual 212, 3) := dk_182 0 212 (dk_at dksL_law_55 0 rfl rfl)
theorem dL_law_1493 : decode cL_law 1493 = .ok (.aload_n 2, 1) := dk_44 (dk_at dksL_law_55 3 rfl rfl)
theorem dL_law_1494 : decode cL_law 1494 = .ok (.aload_n 0, 1) := dk_42 (dk_at dksL_law_55 4 rfl rfl)
theorem dL_law_1495 : decode cL_law 1495 = .ok (.iload_n 3, 1) := dk_29 (dk_at dksL_law_55 5 rfl rfl)
theorem dL_law_1496 : decode cL_law 1496 = .ok (.iconst 1, 1) := dk_4 (dk_at dksL_law_55 6 rfl rfl)
theorem dL_law_1497 : decode cL_law 1497 = .ok (.iadd, 1) := dk_96 (dk_at dksL_law_55 7 rfl rfl)
theorem dL_law_1498 : decode cL_law 1498 = .ok (.iaload, 1) := dk_46 (dk_at dksL_law_55 8 rfl rfl)
theorem dL_law_1499 : decode cL_law 1499 = .ok (.aload_n 0, 1) := dk_42 (dk_at dksL_law_55 9 rfl rfl)
theorem dL_law_1500 : decode cL_law 1500 = .ok (.iload_n 3, 1) := dk_29 (dk_at dksL_law_55 10 rfl rfl)
theorem dL_law_1501 : decode cL_law 1501 = .ok (.iconst 2, 1) := dk_5 (dk_at dksL_law_55 11 rfl rfl)
theorem dL_law_1502 : decode cL_law 1502 = .ok (.iadd, 1) := dk_96 (dk_at dksL_law_55 12 rfl rfl)
theorem dL_law_1503 : decode cL_law 1503 = .ok (.iaload, 1) := dk_46 (dk_at dksL_law_55 13 rfl rfl)
theorem dL_law_1504 : decode cL_law 1504 = .ok (.invokevirtual 215, 3) := dk_182 0 215 (dk_at dksL_law_55 14 rfl rfl)
theorem dL_law_1507 : decode cL_law 1507 = .ok (.if_icmp .eq 199, 3) := dk_159 0 199 (dk_at dksL_law_55 17 rfl rfl)
theorem dL_law_1510 : decode cL_law 1510 = .ok (.iconst 0, 1) := dk_3 (dk_at dksL_law_55 20 rfl rfl)
theorem dL_law_1511 : decode cL_law 1511 = .ok (.ireturn, 1) := dk_172 (dk_at dksL_law_55 21 rfl rfl)
theorem dL_law_1512 : decode cL_law 1512 = .ok (.aload_n 1, 1) := dk_43 (dk_at dksL_law_55 22 rfl rfl)
theorem dL_law_1513 : decode cL_law 1513 = .ok (.aload_n 0, 1) := dk_42 (dk_at dksL_law_55 23 rfl rfl)
theorem dL_law_1514 : decode cL_law 1514 = .ok (.iload_n 3, 1) := dk_29 (dk_at dksL_law_56 0 rfl rfl)
theorem dL_law_1515 : decode cL_law 1515 = .ok (.iconst 1, 1) := dk_4 (dk_at dksL_law_56 1 rfl rfl)
theorem dL_law_1516 : decode cL_law 1516 = .ok (.iadd, 1) := dk_96 (dk_at dksL_law_56 2 rfl rfl)
theorem dL_law_1517 : decode cL_law 1517 = .ok (.iaload, 1) := dk_46 (dk_at dksL_law_56 3 rfl rfl)
theorem dL_law_1518 : decode cL_law 1518 = .ok (.invokevirtual 216, 3) := dk_182 0 216 (dk_at dksL_law_56 4 rfl rfl)
theorem dL_law_1521 : decode cL_law 1521 = .ok (.aload_n 2, 1) := dk_44 (dk_at dksL_law_56 7 rfl rfl)
theorem dL_law_1522 : decode cL_law 1522 = .ok (.aload_n 0, 1) := dk_42 (dk_at dksL_law_56 8 rfl rfl)
theorem dL_law_1523 : decode cL_law 1523 = .ok (.iload_n 3, 1) := dk_29 (dk_at dksL_law_56 9 rfl rfl)
theorem dL_law_1524 : decode cL_law 1524 = .ok (.iconst 1, 1) := dk_4 (dk_at dksL_law_56 10 rfl rfl)
theorem dL_law_1525 : decode cL_law 1525 = .ok (.iadd, 1) := dk_96 (dk_at dksL_law_56 11 rfl rfl)
theorem dL_law_1526 : decode cL_law 1526 = .ok (.iaload, 1) := dk_46 (dk_at dksL_law_56 12 rfl rfl)
theorem dL_law_1527 : decode cL_law 1527 = .ok (.invokevirtual 219, 3) := dk_182 0 219 (dk_at dksL_law_56 13 rfl rfl)
theorem dL_law_1530 : decode cL_law 1530 = .ok (.if_icmp .eq 176, 3) := dk_159 0 176 (dk_at dksL_law_56 16 rfl rfl)
theorem dL_law_1533 : decode cL_law 1533 = .ok (.iconst 0, 1) := dk_3 (dk_at dksL_law_56 19 rfl rfl)
theorem dL_law_1534 : decode cL_law 1534 = .ok (.ireturn, 1) := dk_172 (dk_at dksL_law_56 20 rfl rfl)
theorem dL_law_1535 : decode cL_law 1535 = .ok (.aload_n 1, 1) := dk_43 (dk_at dksL_law_56 21 rfl rfl)
theorem dL_law_1536 : decode cL_law 1536 = .ok (.aload_n 0, 1) := dk_42 (dk_at dksL_law_56 22 rfl rfl)
theorem dL_law_1537 : decode cL_law 1537 = .ok (.iload_n 3, 1) := dk_29 (dk_at dksL_law_56 23 rfl rfl)
theorem dL_law_1538 : decode cL_law 1538 = .ok (.iconst 1, 1) := dk_4 (dk_at dksL_law_57 0 rfl rfl)
theorem dL_law_1539 : decode cL_law 1539 = .ok (.iadd, 1) := dk_96 (dk_at dksL_law_57 1 rfl rfl)
theorem dL_law_1540 : decode cL_law 1540 = .ok (.iaload, 1) := dk_46 (dk_at dksL_law_57 2 rfl rfl)
theorem dL_law_1541 : decode cL_law 1541 = .ok (.invokevirtual 220, 3) := dk_182 0 220 (dk_at dksL_law_57 3 rfl rfl)
theorem dL_law_1544 : decode cL_law 1544 = .ok (.aload_n 2, 1) := dk_44 (dk_at dksL_law_57 6 rfl rfl)
theorem dL_law_1545 : decode cL_law 1545 = .ok (.aload_n 0, 1) := dk_42 (dk_at dksL_law_57 7 rfl rfl)
theorem dL_law_1546 : decode cL_law 1546 = .ok (.iload_n 3, 1) := dk_29 (dk_at dksL_law_57 8 rfl rfl)
theorem dL_law_1547 : decode cL_law 1547 = .ok (.iconst 1, 1) := dk_4 (dk_at dksL_law_57 9 rfl rfl)
theorem dL_law_1548 : decode cL_law 1548 = .ok (.iadd, 1) := dk_96 (dk_at dksL_law_57 10 rfl rfl)
theorem dL_law_1549 : decode cL_law 1549 = .ok (.iaload, 1) := dk_46 (dk_at dksL_law_57 11 rfl rfl)
theorem dL_law_1550 : decode cL_law 1550 = .ok (.invokevirtual 223, 3) := dk_182 0 223 (dk_at dksL_law_57 12 rfl rfl)
theorem dL_law_1553 : decode cL_law 1553 = .ok (.if_icmp .eq 153, 3) := dk_159 0 153 (dk_at dksL_law_57 15 rfl rfl)
theorem dL_law_1556 : decode cL_law 1556 = .ok (.iconst 0, 1) := dk_3 (dk_at dksL_law_57 18 rfl rfl)
theorem dL_law_1557 : decode cL_law 1557 = .ok (.ireturn, 1) := dk_172 (dk_at dksL_law_57 19 rfl rfl)
theorem dL_law_1558 : decode cL_law 1558 = .ok (.aload_n 1, 1) := dk_43 (dk_at dksL_law_57 20 rfl rfl)
theorem dL_law_1559 : decode cL_law 1559 = .ok (.aload_n 0, 1) := dk_42 (dk_at dksL_law_57 21 rfl rfl)
theorem dL_law_1560 : decode cL_law 1560 = .ok (.iload_n 3, 1) := dk_29 (dk_at dksL_law_57 22 rfl rfl)
theorem dL_law_1561 : decode cL_law 1561 = .ok (.iconst 1, 1) := dk_4 (dk_at dksL_law_57 23 rfl rfl)
theorem dL_law_1562 : decode cL_law 1562 = .ok (.iadd, 1) := dk_96 (dk_at dksL_law_58 0 rfl rfl)
theorem dL_law_1563 : decode cL_law 1563 = .ok (.iaload, 1) := dk_46 (dk_at dksL_law_58 1 rfl rfl)
theorem dL_law_1564 : decode cL_law 1564 = .ok (.invokevirtual 224, 3) := dk_182 0 224 (dk_at dksL_law_58 2 rfl rfl)
theorem dL_law_1567 : decode cL_law 1567 = .ok (.aload_n 2, 1) := dk_44 (dk_at dksL_law_58 5 rfl rfl)
theorem dL_law_1568 : decode cL_law 1568 = .ok (.aload_n 0, 1) := dk_42 (dk_at dksL_law_58 6 rfl rfl)
theorem dL_law_1569 : decode cL_law 1569 = .ok (.iload_n 3, 1) := dk_29 (dk_at dksL_law_58 7 rfl rfl)
theorem dL_law_1570 : decode cL_law 1570 = .ok (.iconst 1, 1) := dk_4 (dk_at dksL_law_58 8 rfl rfl)
theorem dL_law_1571 : decode cL_law 1571 = .ok (.iadd, 1) := dk_96 (dk_at dksL_law_58 9 rfl rfl)
theorem dL_law_1572 : decode cL_law 1572 = .ok (.iaload, 1) := dk_46 (dk_at dksL_law_58 10 rfl rfl)
theorem dL_law_1573 : decode cL_law 1573 = .ok (.invokevirtual 227, 3) := dk_182 0 227 (dk_at dksL_law_58 11 rfl rfl)
theorem dL_law_1576 : decode cL_law 1576 = .ok (.if_icmp .eq 130, 3) := dk_159 0 130 (dk_at dksL_law_58 14 rfl rfl)
theorem dL_law_1579 : decode cL_law 1579 = .ok (.iconst 0, 1) := dk_3 (dk_at dksL_law_58 17 rfl rfl)
theorem dL_law_1580 : decode cL_law 1580 = .ok (.ireturn, 1) := dk_172 (dk_at dksL_law_58 18 rfl rfl)
theorem dL_law_1581 : decode cL_law 1581 = .ok (.aload_n 1, 1) := dk_43 (dk_at dksL_law_58 19 rfl rfl)
theorem dL_law_1582 : decode cL_law 1582 = .ok (.aload_n 0, 1) := dk_42 (dk_at dksL_law_58 20 rfl rfl)
theorem dL_law_1583 : decode cL_law 1583 = .ok (.iload_n 3, 1) := dk_29 (dk_at dksL_law_58 21 rfl rfl)
theorem dL_law_1584 : decode cL_law 1584 = .ok (.iconst 1, 1) := dk_4 (dk_at dksL_law_58 22 rfl rfl)
theorem dL_law_1585 : decode cL_law 1585 = .ok (.iadd, 1) := dk_96 (dk_at dksL_law_58 23 rfl rfl)
theorem dL_law_1586 : decode cL_law 1586 = .ok (.iaload, 1) := dk_46 (dk_at dksL_law_59 0 rfl rfl)
theorem dL_law_1587 : decode cL_law 1587 = .ok (.invokevirtual 228, 3) := dk_182 0 228 (dk_at dksL_law_59 1 rfl rfl)
theorem dL_law_1590 : decode cL_law 1590 = .ok (.aload_n 2, 1) := dk_44 (dk_at dksL_law_59 4 rfl rfl)
theorem dL_law_1591 : decode cL_law 1591 = .ok (.aload_n 0, 1) := dk_42 (dk_at dksL_law_59 5 rfl rfl)
theorem dL_law_1592 : decode cL_law 1592 = .ok (.iload_n 3, 1) := dk_29 (dk_at dksL_law_59 6 rfl rfl)
theorem dL_law_1593 : decode cL_law 1593 = .ok (.iconst 1, 1) := dk_4 (dk_at dksL_law_59 7 rfl rfl)
theorem dL_law_1594 : decode cL_law 1594 = .ok (.iadd, 1) := dk_96 (dk_at dksL_law_59 8 rfl rfl)
theorem dL_law_1595 : decode cL_law 1595 = .ok (.iaload, 1) := dk_46 (dk_at dksL_law_59 9 rfl rfl)
theorem dL_law_1596 : decode cL_law 1596 = .ok (.invokevirtual 231, 3) := dk_182 0 231 (dk_at dksL_law_59 10 rfl rfl)
theorem dL_law_1599 : decode cL_law 1599 = .ok (.if_icmp .eq 107, 3) := dk_159 0 107 (dk_at dksL_law_59 13 rfl rfl)
theorem dL_law_1602 : decode cL_law 1602 = .ok (.iconst 0, 1) := dk_3 (dk_at dksL_law_59 16 rfl rfl)
theorem dL_law_1603 : decode cL_law 1603 = .ok (.ireturn, 1) := dk_172 (dk_at dksL_law_59 17 rfl rfl)
theorem dL_law_1604 : decode cL_law 1604 = .ok (.aload_n 1, 1) := dk_43 (dk_at dksL_law_59 18 rfl rfl)
theorem dL_law_1605 : decode cL_law 1605 = .ok (.aload_n 0, 1) := dk_42 (dk_at dksL_law_59 19 rfl rfl)
theorem dL_law_1606 : decode cL_law 1606 = .ok (.iload_n 3, 1) := dk_29 (dk_at dksL_law_59 20 rfl rfl)
theorem dL_law_1607 : decode cL_law 1607 = .ok (.iconst 1, 1) := dk_4 (dk_at dksL_law_59 21 rfl rfl)
theorem dL_law_1608 : decode cL_law 1608 = .ok (.iadd, 1) := dk_96 (dk_at dksL_law_59 22 rfl rfl)
theorem dL_law_1609 : decode cL_law 1609 = .ok (.iaload, 1) := dk_46 (dk_at dksL_law_59 23 rfl rfl)
theorem dL_law_1610 : decode cL_law 1610 = .ok (.aload_n 0, 1) := dk_42 (dk_at dksL_law_60 0 rfl rfl)
theorem dL_law_1611 : decode cL_law 1611 = .ok (.iload_n 3, 1) := dk_29 (dk_at dksL_law_60 1 rfl rfl)
theorem dL_law_1612 : decode cL_law 1612 = .ok (.iconst 2, 1) := dk_5 (dk_at dksL_law_60 2 rfl rfl)
theorem dL_law_1613 : decode cL_law 1613 = .ok (.iadd, 1) := dk_96 (dk_at dksL_law_60 3 rfl rfl)
theorem dL_law_1614 : decode cL_law 1614 = .ok (.iaload, 1) := dk_46 (dk_at dksL_law_60 4 rfl rfl)
theorem dL_law_1615 : decode cL_law 1615 = .ok (.invokevirtual 232, 3) := dk_182 0 232 (dk_at dksL_law_60 5 rfl rfl)
theorem dL_law_1618 : decode cL_law 1618 = .ok (.aload_n 2, 1) := dk_44 (dk_at dksL_law_60 8 rfl rfl)
theorem dL_law_1619 : decode cL_law 1619 = .ok (.aload_n 0, 1) := dk_42 (dk_at dksL_law_60 9 rfl rfl)
theorem dL_law_1620 : decode cL_law 1620 = .ok (.iload_n 3, 1) := dk_29 (dk_at dksL_law_60 10 rfl rfl)
theorem dL_law_1621 : decode cL_law 1621 = .ok (.iconst 1, 1) := dk_4 (dk_at dksL_law_60 11 rfl rfl)
theorem dL_law_1622 : decode cL_law 1622 = .ok (.iadd, 1) := dk_96 (dk_at dksL_law_60 12 rfl rfl)
theorem dL_law_1623 : decode cL_law 1623 = .ok (.iaload, 1) := dk_46 (dk_at dksL_law_60 13 rfl rfl)
theorem dL_law_1624 : decode cL_law 1624 = .ok (.aload_n 0, 1) := dk_42 (dk_at dksL_law_60 14 rfl rfl)
theorem dL_law_1625 : decode cL_law 1625 = .ok (.iload_n 3, 1) := dk_29 (dk_at dksL_law_60 15 rfl rfl)
theorem dL_law_1626 : decode cL_law 1626 = .ok (.iconst 2, 1) := dk_5 (dk_at dksL_law_60 16 rfl rfl)
theorem dL_law_1627 : decode cL_law 1627 = .ok (.iadd, 1) := dk_96 (dk_at dksL_law_60 17 rfl rfl)
theorem dL_law_1628 : decode cL_law 1628 = .ok (.iaload, 1) := dk_46 (dk_at dksL_law_60 18 rfl rfl)
theorem dL_law_1629 : decode cL_law 1629 = .ok (.invokevirtual 235, 3) := dk_182 0 235 (dk_at dksL_law_60 19 rfl rfl)
theorem dL_law_1632 : decode cL_law 1632 = .ok (.if_icmp .eq 74, 3) := dk_159 0 74 (dk_at dksL_law_61 0 rfl rfl)
theorem dL_law_1635 : decode cL_law 1635 = .ok (.iconst 0, 1) := dk_3 (dk_at dksL_law_61 3 rfl rfl)
theorem dL_law_1636 : decode cL_law 1636 = .ok (.ireturn, 1) := dk_172 (dk_at dksL_law_61 4 rfl rfl)
theorem dL_law_1637 : decode cL_law 1637 = .ok (.aload_n 1, 1) := dk_43 (dk_at dksL_law_61 5 rfl rfl)
theorem dL_law_1638 : decode cL_law 1638 = .ok (.aload_n 0, 1) := dk_42 (dk_at dksL_law_61 6 rfl rfl)
theorem dL_law_1639 : decode cL_law 1639 = .ok (.iload_n 3, 1) := dk_29 (dk_at dksL_law_61 7 rfl rfl)
theorem dL_law_1640 : decode cL_law 1640 = .ok (.iconst 1, 1) := dk_4 (dk_at dksL_law_61 8 rfl rfl)
theorem dL_law_1641 : decode cL_law 1641 = .ok (.iadd, 1) := dk_96 (dk_at dksL_law_61 9 rfl rfl)
theorem dL_law_1642 : decode cL_law 1642 = .ok (.iaload, 1) := dk_46 (dk_at dksL_law_61 10 rfl rfl)
theorem dL_law_1643 : decode cL_law 1643 = .ok (.aload_n 0, 1) := dk_42 (dk_at dksL_law_61 11 rfl rfl)
theorem dL_law_1644 : decode cL_law 1644 = .ok (.iload_n 3, 1) := dk_29 (dk_at dksL_law_61 12 rfl rfl)
theorem dL_law_1645 : decode cL_law 1645 = .ok (.iconst 2, 1) := dk_5 (dk_at dksL_law_61 13 rfl rfl)
theorem dL_law_1646 : decode cL_law 1646 = .ok (.iadd, 1) := dk_96 (dk_at dksL_law_61 14 rfl rfl)
theorem dL_law_1647 : decode cL_law 1647 = .ok (.iaload, 1) := dk_46 (dk_at dksL_law_61 15 rfl rfl)
theorem dL_law_1648 : decode cL_law 1648 = .ok (.aload_n 0, 1) := dk_42 (dk_at dksL_law_61 16 rfl rfl)
theorem dL_law_1649 : decode cL_law 1649 = .ok (.iload_n 3, 1) := dk_29 (dk_at dksL_law_61 17 rfl rfl)
theorem dL_law_1650 : decode cL_law 1650 = .ok (.iconst 3, 1) := dk_6 (dk_at dksL_law_61 18 rfl rfl)
theorem dL_law_1651 : decode cL_law 1651 = .ok (.iadd, 1) := dk_96 (dk_at dksL_law_61 19 rfl rfl)
theorem dL_law_1652 : decode cL_law 1652 = .ok (.iaload, 1) := dk_46 (dk_at dksL_law_61 20 rfl rfl)
theorem dL_law_1653 : decode cL_law 1653 = .ok (.invokevirtual 236, 3) := dk_182 0 236 (dk_at dksL_law_61 21 rfl rfl)
theorem dL_law_1656 : decode cL_law 1656 = .ok (.aload_n 2, 1) := dk_44 (dk_at dksL_law_62 0 rfl rfl)
theorem dL_law_1657 : decode cL_law 1657 = .ok (.aload_n 0, 1) := dk_42 (dk_at dksL_law_62 1 rfl rfl)
theorem dL_law_1658 : decode cL_law 1658 = .ok (.iload_n 3, 1) := dk_29 (dk_at dksL_law_62 2 rfl rfl)
theorem dL_law_1659 : decode cL_law 1659 = .ok (.iconst 1, 1) := dk_4 (dk_at dksL_law_62 3 rfl rfl)
theorem dL_law_1660 : decode cL_law 1660 = .ok (.iadd, 1) := dk_96 (dk_at dksL_law_62 4 rfl rfl)
theorem dL_law_1661 : decode cL_law 1661 = .ok (.iaload, 1) := dk_46 (dk_at dksL_law_62 5 rfl rfl)
theorem dL_law_1662 : decode cL_law 1662 = .ok (.aload_n 0, 1) := dk_42 (dk_at dksL_law_62 6 rfl rfl)
theorem dL_law_1663 : decode cL_law 1663 = .ok (.iload_n 3, 1) := dk_29 (dk_at dksL_law_62 7 rfl rfl)
theorem dL_law_1664 : decode cL_law 1664 = .ok (.iconst 2, 1) := dk_5 (dk_at dksL_law_62 8 rfl rfl)
theorem dL_law_1665 : decode cL_law 1665 = .ok (.iadd, 1) := dk_96 (dk_at dksL_law_62 9 rfl rfl)
theorem dL_law_1666 : decode cL_law 1666 = .ok (.iaload, 1) := dk_46 (dk_at dksL_law_62 10 rfl rfl)
theorem dL_law_1667 : decode cL_law 1667 = .ok (.aload_n 0, 1) := dk_42 (dk_at dksL_law_62 11 rfl rfl)
theorem dL_law_1668 : decode cL_law 1668 = .ok (.iload_n 3, 1) := dk_29 (dk_at dksL_law_62 12 rfl rfl)
theorem dL_law_1669 : decode cL_law 1669 = .ok (.iconst 3, 1) := dk_6 (dk_at dksL_law_62 13 rfl rfl)
theorem dL_law_1670 : decode cL_law 1670 = .ok (.iadd, 1) := dk_96 (dk_at dksL_law_62 14 rfl rfl)
theorem dL_law_1671 : decode cL_law 1671 = .ok (.iaload, 1) := dk_46 (dk_at dksL_law_62 15 rfl rfl)
theorem dL_law_1672 : decode cL_law 1672 = .ok (.invokevirtual 239, 3) := dk_182 0 239 (dk_at dksL_law_62 16 rfl rfl)
theorem dL_law_1675 : decode cL_law 1675 = .ok (.if_icmp .eq 31, 3) := dk_159 0 31 (dk_at dksL_law_62 19 rfl rfl)
theorem dL_law_1678 : decode cL_law 1678 = .ok (.iconst 0, 1) := dk_3 (dk_at dksL_law_62 22 rfl rfl)
theorem dL_law_1679 : decode cL_law 1679 = .ok (.ireturn, 1) := dk_172 (dk_at dksL_law_62 23 rfl rfl)
theorem dL_law_1680 : decode cL_law 1680 = .ok (.aload_n 1, 1) := dk_43 (dk_at dksL_law_63 0 rfl rfl)
theorem dL_law_1681 : decode cL_law 1681 = .ok (.invokevirtual 240, 3) := dk_182 0 240 (dk_at dksL_law_63 1 rfl rfl)
theorem dL_law_1684 : decode cL_law 1684 = .ok (.aload_n 2, 1) := dk_44 (dk_at dksL_law_63 4 rfl rfl)
theorem dL_law_1685 : decode cL_law 1685 = .ok (.invokevirtual 243, 3) := dk_182 0 243 (dk_at dksL_law_63 5 rfl rfl)
theorem dL_law_1688 : decode cL_law 1688 = .ok (.if_icmp .eq 18, 3) := dk_159 0 18 (dk_at dksL_law_63 8 rfl rfl)
theorem dL_law_1691 : decode cL_law 1691 = .ok (.iconst 0, 1) := dk_3 (dk_at dksL_law_63 11 rfl rfl)
theorem dL_law_1692 : decode cL_law 1692 = .ok (.ireturn, 1) := dk_172 (dk_at dksL_law_63 12 rfl rfl)
theorem dL_law_1693 : decode cL_law 1693 = .ok (.aload_n 1, 1) := dk_43 (dk_at dksL_law_63 13 rfl rfl)
theorem dL_law_1694 : decode cL_law 1694 = .ok (.invokevirtual 244, 3) := dk_182 0 244 (dk_at dksL_law_63 14 rfl rfl)
theorem dL_law_1697 : decode cL_law 1697 = .ok (.aload_n 2, 1) := dk_44 (dk_at dksL_law_63 17 rfl rfl)
theorem dL_law_1698 : decode cL_law 1698 = .ok (.invokevirtual 247, 3) := dk_182 0 247 (dk_at dksL_law_63 18 rfl rfl)
theorem dL_law_1701 : decode cL_law 1701 = .ok (.if_icmp .eq 5, 3) := dk_159 0 5 (dk_at dksL_law_63 21 rfl rfl)
theorem dL_law_1704 : decode cL_law 1704 = .ok (.iconst 0, 1) := dk_3 (dk_at dksL_law_64 0 rfl rfl)
theorem dL_law_1705 : decode cL_law 1705 = .ok (.ireturn, 1) := dk_172 (dk_at dksL_law_64 1 rfl rfl)
theorem dL_law_1706 : decode cL_law 1706 = .ok (.iinc 3 6, 3) := dk_132 3 6 (dk_at dksL_law_64 2 rfl rfl)
theorem dL_law_1709 : decode cL_law 1709 = .ok (.goto (-1691), 3) := dk_167 249 101 (dk_at dksL_law_64 5 rfl rfl)
theorem dL_law_1712 : decode cL_law 1712 = .ok (.iconst 1, 1) := dk_4 (dk_at dksL_law_64 8 rfl rfl)
theorem dL_law_1713 : decode cL_law 1713 = .ok (.ireturn, 1) := dk_172 (dk_at dksL_law_64 9 rfl rfl)

/-! CableDrawer$Scan -/
set_option maxRecDepth 100000
def RX1 : String := "CableDrawer$Scan"
abbrev cX1_init : ByteArray := prog_9_method_1_code
def yX1_init : MethodName := ⟨RX1, "<init>", "([BLjava/lang/String;Ljava/lang/String;LCableDrawer$Wrong;)V"⟩
def dkwX1_init_1 : List UInt8 := [181, 0, 22, 177]
abbrev dktX1_init_1 : List UInt8 := dkwX1_init_1 ++ []
def dkwX1_init_0 : List UInt8 := [42, 183, 0, 3, 42, 43, 181, 0, 9, 42, 44, 181, 0, 15, 42, 45, 181, 0, 19, 42, 25, 4]
abbrev dktX1_init_0 : List UInt8 := dkwX1_init_0 ++ dktX1_init_1
theorem dksX1_init_0 : cX1_init.data.toList.drop 0 = dktX1_init_0 := by decide +kernel
theorem dksX1_init_1 : cX1_init.data.toList.drop 22 = dktX1_init_1 := dk_seg dksX1_init_0 22 rfl rfl
theorem dX1_init_0 : decode cX1_init 0 = .ok (.aload_n 0, 1) := dk_42 (dk_at dksX1_init_0 0 rfl rfl)
theorem dX1_init_1 : decode cX1_init 1 = .ok (.invokespecial 3, 3) := dk_183 0 3 (dk_at dksX1_init_0 1 rfl rfl)
theorem dX1_init_4 : decode cX1_init 4 = .ok (.aload_n 0, 1) := dk_42 (dk_at dksX1_init_0 4 rfl rfl)
theorem dX1_init_5 : decode cX1_init 5 = .ok (.aload_n 1, 1) := dk_43 (dk_at dksX1_init_0 5 rfl rfl)
theorem dX1_init_6 : decode cX1_init 6 = .ok (.putfield 9, 3) := dk_181 0 9 (dk_at dksX1_init_0 6 rfl rfl)
theorem dX1_init_9 : decode cX1_init 9 = .ok (.aload_n 0, 1) := dk_42 (dk_at dksX1_init_0 9 rfl rfl)
theorem dX1_init_10 : decode cX1_init 10 = .ok (.aload_n 2, 1) := dk_44 (dk_at dksX1_init_0 10 rfl rfl)
theorem dX1_init_11 : decode cX1_init 11 = .ok (.putfield 15, 3) := dk_181 0 15 (dk_at dksX1_init_0 11 rfl rfl)
theorem dX1_init_14 : decode cX1_init 14 = .ok (.aload_n 0, 1) := dk_42 (dk_at dksX1_init_0 14 rfl rfl)
theorem dX1_init_15 : decode cX1_init 15 = .ok (.aload_n 3, 1) := dk_45 (dk_at dksX1_init_0 15 rfl rfl)
theorem dX1_init_16 : decode cX1_init 16 = .ok (.putfield 19, 3) := dk_181 0 19 (dk_at dksX1_init_0 16 rfl rfl)
theorem dX1_init_19 : decode cX1_init 19 = .ok (.aload_n 0, 1) := dk_42 (dk_at dksX1_init_0 19 rfl rfl)
theorem dX1_init_20 : decode cX1_init 20 = .ok (.aload 4, 2) := dk_25 4 (dk_at dksX1_init_0 20 rfl rfl)
theorem dX1_init_22 : decode cX1_init 22 = .ok (.putfield 22, 3) := dk_181 0 22 (dk_at dksX1_init_1 0 rfl rfl)
theorem dX1_init_25 : decode cX1_init 25 = .ok (.return_, 1) := dk_177 (dk_at dksX1_init_1 3 rfl rfl)
abbrev cX1_begin : ByteArray := prog_9_method_2_code
def yX1_begin : MethodName := ⟨RX1, "begin", "(I)V"⟩
def dkwX1_begin_0 : List UInt8 := [42, 27, 181, 0, 26, 42, 3, 181, 0, 30, 42, 182, 0, 33, 177]
abbrev dktX1_begin_0 : List UInt8 := dkwX1_begin_0 ++ []
theorem dksX1_begin_0 : cX1_begin.data.toList.drop 0 = dktX1_begin_0 := by decide +kernel
theorem dX1_begin_0 : decode cX1_begin 0 = .ok (.aload_n 0, 1) := dk_42 (dk_at dksX1_begin_0 0 rfl rfl)
theorem dX1_begin_1 : decode cX1_begin 1 = .ok (.iload_n 1, 1) := dk_27 (dk_at dksX1_begin_0 1 rfl rfl)
theorem dX1_begin_2 : decode cX1_begin 2 = .ok (.putfield 26, 3) := dk_181 0 26 (dk_at dksX1_begin_0 2 rfl rfl)
theorem dX1_begin_5 : decode cX1_begin 5 = .ok (.aload_n 0, 1) := dk_42 (dk_at dksX1_begin_0 5 rfl rfl)
theorem dX1_begin_6 : decode cX1_begin 6 = .ok (.iconst 0, 1) := dk_3 (dk_at dksX1_begin_0 6 rfl rfl)
theorem dX1_begin_7 : decode cX1_begin 7 = .ok (.putfield 30, 3) := dk_181 0 30 (dk_at dksX1_begin_0 7 rfl rfl)
theorem dX1_begin_10 : decode cX1_begin 10 = .ok (.aload_n 0, 1) := dk_42 (dk_at dksX1_begin_0 10 rfl rfl)
theorem dX1_begin_11 : decode cX1_begin 11 = .ok (.invokevirtual 33, 3) := dk_182 0 33 (dk_at dksX1_begin_0 11 rfl rfl)
theorem dX1_begin_14 : decode cX1_begin 14 = .ok (.return_, 1) := dk_177 (dk_at dksX1_begin_0 14 rfl rfl)
abbrev cX1_next : ByteArray := prog_9_method_7_code
def yX1_next : MethodName := ⟨RX1, "next", "()V"⟩
def dkwX1_next_10 : List UInt8 := [181, 0, 56, 177]
abbrev dktX1_next_10 : List UInt8 := dkwX1_next_10 ++ []
def dkwX1_next_9 : List UInt8 := [89, 180, 0, 30, 4, 96, 181, 0, 30, 42, 42, 27, 182, 0, 73, 153, 0, 7, 7, 167, 0, 4, 4]
abbrev dktX1_next_9 : List UInt8 := dkwX1_next_9 ++ dktX1_next_10
def dkwX1_next_8 : List UInt8 := [180, 0, 30, 42, 180, 0, 50, 100, 7, 164, 0, 7, 4, 167, 0, 4, 6, 181, 0, 56, 167, 0, 30, 42]
abbrev dktX1_next_8 : List UInt8 := dkwX1_next_8 ++ dktX1_next_9
def dkwX1_next_7 : List UInt8 := [100, 184, 0, 67, 181, 0, 53, 42, 89, 180, 0, 30, 4, 96, 181, 0, 30, 167, 255, 204, 42, 42]
abbrev dktX1_next_7 : List UInt8 := dkwX1_next_7 ++ dktX1_next_8
def dkwX1_next_6 : List UInt8 := [153, 0, 44, 42, 18, 66, 16, 10, 42, 180, 0, 53, 104, 42, 42, 180, 0, 30, 182, 0, 46, 96, 16, 48]
abbrev dktX1_next_6 : List UInt8 := dkwX1_next_6 ++ dktX1_next_7
def dkwX1_next_5 : List UInt8 := [184, 0, 63, 153, 0, 88, 42, 3, 181, 0, 53, 42, 42, 180, 0, 30, 182, 0, 46, 184, 0, 63]
abbrev dktX1_next_5 : List UInt8 := dkwX1_next_5 ++ dktX1_next_6
def dkwX1_next_4 : List UInt8 := [42, 89, 180, 0, 30, 4, 96, 181, 0, 30, 167, 255, 232, 42, 5, 181, 0, 56, 167, 0, 122, 27]
abbrev dktX1_next_4 : List UInt8 := dkwX1_next_4 ++ dktX1_next_5
def dkwX1_next_3 : List UInt8 := [167, 0, 164, 27, 184, 0, 59, 153, 0, 38, 42, 42, 180, 0, 30, 182, 0, 46, 184, 0, 59, 153, 0, 16]
abbrev dktX1_next_3 : List UInt8 := dkwX1_next_3 ++ dktX1_next_4
def dkwX1_next_2 : List UInt8 := [42, 42, 180, 0, 30, 182, 0, 46, 60, 42, 27, 181, 0, 53, 27, 2, 160, 0, 11, 42, 3, 181, 0, 56]
abbrev dktX1_next_2 : List UInt8 := dkwX1_next_2 ++ dktX1_next_3
def dkwX1_next_1 : List UInt8 := [160, 0, 16, 42, 89, 180, 0, 30, 4, 96, 181, 0, 30, 167, 255, 220, 42, 42, 180, 0, 30, 181, 0, 50]
abbrev dktX1_next_1 : List UInt8 := dkwX1_next_1 ++ dktX1_next_2
def dkwX1_next_0 : List UInt8 := [42, 42, 180, 0, 30, 182, 0, 46, 16, 32, 159, 0, 16, 42, 42, 180, 0, 30, 182, 0, 46, 16, 10]
abbrev dktX1_next_0 : List UInt8 := dkwX1_next_0 ++ dktX1_next_1
theorem dksX1_next_0 : cX1_next.data.toList.drop 0 = dktX1_next_0 := by decide +kernel
theorem dksX1_next_1 : cX1_next.data.toList.drop 23 = dktX1_next_1 := dk_seg dksX1_next_0 23 rfl rfl
theorem dksX1_next_2 : cX1_next.data.toList.drop 47 = dktX1_next_2 := dk_seg dksX1_next_1 24 rfl rfl
theorem dksX1_next_3 : cX1_next.data.toList.drop 71 = dktX1_next_3 := dk_seg dksX1_next_2 24 rfl rfl
theorem dksX1_next_4 : cX1_next.data.toList.drop 95 = dktX1_next_4 := dk_seg dksX1_next_3 24 rfl rfl
theorem dksX1_next_5 : cX1_next.data.toList.drop 117 = dktX1_next_5 := dk_seg dksX1_next_4 22 rfl rfl
theorem dksX1_next_6 : cX1_next.data.toList.drop 139 = dktX1_next_6 := dk_seg dksX1_next_5 22 rfl rfl
theorem dksX1_next_7 : cX1_next.data.toList.drop 163 = dktX1_next_7 := dk_seg dksX1_next_6 24 rfl rfl
theorem dksX1_next_8 : cX1_next.data.toList.drop 185 = dktX1_next_8 := dk_seg dksX1_next_7 22 rfl rfl
theorem dksX1_next_9 : cX1_next.data.toList.drop 209 = dktX1_next_9 := dk_seg dksX1_next_8 24 rfl rfl
theorem dksX1_next_10 : cX1_next.data.toList.drop 232 = dktX1_next_10 := dk_seg dksX1_next_9 23 rfl rfl
theorem dX1_next_0 : decode cX1_next 0 = .ok (.aload_n 0, 1) := dk_42 (dk_at dksX1_next_0 0 rfl rfl)
theorem dX1_next_1 : decode cX1_next 1 = .ok (.aload_n 0, 1) := dk_42 (dk_at dksX1_next_0 1 rfl rfl)
theorem dX1_next_2 : decode cX1_next 2 = .ok (.getfield 30, 3) := dk_180 0 30 (dk_at dksX1_next_0 2 rfl rfl)
theorem dX1_next_5 : decode cX1_next 5 = .ok (.invokevirtual 46, 3) := dk_182 0 46 (dk_at dksX1_next_0 5 rfl rfl)
theorem dX1_next_8 : decode cX1_next 8 = .ok (.bipush 32, 2) := dk_16 32 (dk_at dksX1_next_0 8 rfl rfl)
theorem dX1_next_10 : decode cX1_next 10 = .ok (.if_icmp .eq 16, 3) := dk_159 0 16 (dk_at dksX1_next_0 10 rfl rfl)
theorem dX1_next_13 : decode cX1_next 13 = .ok (.aload_n 0, 1) := dk_42 (dk_at dksX1_next_0 13 rfl rfl)
theorem dX1_next_14 : decode cX1_next 14 = .ok (.aload_n 0, 1) := dk_42 (dk_at dksX1_next_0 14 rfl rfl)
theorem dX1_next_15 : decode cX1_next 15 = .ok (.getfield 30, 3) := dk_180 0 30 (dk_at dksX1_next_0 15 rfl rfl)
theorem dX1_next_18 : decode cX1_next 18 = .ok (.invokevirtual 46, 3) := dk_182 0 46 (dk_at dksX1_next_0 18 rfl rfl)
theorem dX1_next_21 : decode cX1_next 21 = .ok (.bipush 10, 2) := dk_16 10 (dk_at dksX1_next_0 21 rfl rfl)
theorem dX1_next_23 : decode cX1_next 23 = .ok (.if_icmp .ne 16, 3) := dk_160 0 16 (dk_at dksX1_next_1 0 rfl rfl)
theorem dX1_next_26 : decode cX1_next 26 = .ok (.aload_n 0, 1) := dk_42 (dk_at dksX1_next_1 3 rfl rfl)
theorem dX1_next_27 : decode cX1_next 27 = .ok (.dup, 1) := dk_89 (dk_at dksX1_next_1 4 rfl rfl)
theorem dX1_next_28 : decode cX1_next 28 = .ok (.getfield 30, 3) := dk_180 0 30 (dk_at dksX1_next_1 5 rfl rfl)
theorem dX1_next_31 : decode cX1_next 31 = .ok (.iconst 1, 1) := dk_4 (dk_at dksX1_next_1 8 rfl rfl)
theorem dX1_next_32 : decode cX1_next 32 = .ok (.iadd, 1) := dk_96 (dk_at dksX1_next_1 9 rfl rfl)
theorem dX1_next_33 : decode cX1_next 33 = .ok (.putfield 30, 3) := dk_181 0 30 (dk_at dksX1_next_1 10 rfl rfl)
theorem dX1_next_36 : decode cX1_next 36 = .ok (.goto (-36), 3) := dk_167 255 220 (dk_at dksX1_next_1 13 rfl rfl)
theorem dX1_next_39 : decode cX1_next 39 = .ok (.aload_n 0, 1) := dk_42 (dk_at dksX1_next_1 16 rfl rfl)
theorem dX1_next_40 : decode cX1_next 40 = .ok (.aload_n 0, 1) := dk_42 (dk_at dksX1_next_1 17 rfl rfl)
theorem dX1_next_41 : decode cX1_next 41 = .ok (.getfield 30, 3) := dk_180 0 30 (dk_at dksX1_next_1 18 rfl rfl)
theorem dX1_next_44 : decode cX1_next 44 = .ok (.putfield 50, 3) := dk_181 0 50 (dk_at dksX1_next_1 21 rfl rfl)
theorem dX1_next_47 : decode cX1_next 47 = .ok (.aload_n 0, 1) := dk_42 (dk_at dksX1_next_2 0 rfl rfl)
theorem dX1_next_48 : decode cX1_next 48 = .ok (.aload_n 0, 1) := dk_42 (dk_at dksX1_next_2 1 rfl rfl)
theorem dX1_next_49 : decode cX1_next 49 = .ok (.getfield 30, 3) := dk_180 0 30 (dk_at dksX1_next_2 2 rfl rfl)
theorem dX1_next_52 : decode cX1_next 52 = .ok (.invokevirtual 46, 3) := dk_182 0 46 (dk_at dksX1_next_2 5 rfl rfl)
theorem dX1_next_55 : decode cX1_next 55 = .ok (.istore_n 1, 1) := dk_60 (dk_at dksX1_next_2 8 rfl rfl)
theorem dX1_next_56 : decode cX1_next 56 = .ok (.aload_n 0, 1) := dk_42 (dk_at dksX1_next_2 9 rfl rfl)
theorem dX1_next_57 : decode cX1_next 57 = .ok (.iload_n 1, 1) := dk_27 (dk_at dksX1_next_2 10 rfl rfl)
theorem dX1_next_58 : decode cX1_next 58 = .ok (.putfield 53, 3) := dk_181 0 53 (dk_at dksX1_next_2 11 rfl rfl)
theorem dX1_next_61 : decode cX1_next 61 = .ok (.iload_n 1, 1) := dk_27 (dk_at dksX1_next_2 14 rfl rfl)
theorem dX1_next_62 : decode cX1_next 62 = .ok (.iconst (-1), 1) := dk_2 (dk_at dksX1_next_2 15 rfl rfl)
theorem dX1_next_63 : decode cX1_next 63 = .ok (.if_icmp .ne 11, 3) := dk_160 0 11 (dk_at dksX1_next_2 16 rfl rfl)
theorem dX1_next_66 : decode cX1_next 66 = .ok (.aload_n 0, 1) := dk_42 (dk_at dksX1_next_2 19 rfl rfl)
theorem dX1_next_67 : decode cX1_next 67 = .ok (.iconst 0, 1) := dk_3 (dk_at dksX1_next_2 20 rfl rfl)
theorem dX1_next_68 : decode cX1_next 68 = .ok (.putfield 56, 3) := dk_181 0 56 (dk_at dksX1_next_2 21 rfl rfl)
theorem dX1_next_71 : decode cX1_next 71 = .ok (.goto 164, 3) := dk_167 0 164 (dk_at dksX1_next_3 0 rfl rfl)
theorem dX1_next_74 : decode cX1_next 74 = .ok (.iload_n 1, 1) := dk_27 (dk_at dksX1_next_3 3 rfl rfl)
theorem dX1_next_75 : decode cX1_next 75 = .ok (.invokestatic 59, 3) := dk_184 0 59 (dk_at dksX1_next_3 4 rfl rfl)
theorem dX1_next_78 : decode cX1_next 78 = .ok (.ifCond .eq 38, 3) := dk_153 0 38 (dk_at dksX1_next_3 7 rfl rfl)
theorem dX1_next_81 : decode cX1_next 81 = .ok (.aload_n 0, 1) := dk_42 (dk_at dksX1_next_3 10 rfl rfl)
theorem dX1_next_82 : decode cX1_next 82 = .ok (.aload_n 0, 1) := dk_42 (dk_at dksX1_next_3 11 rfl rfl)
theorem dX1_next_83 : decode cX1_next 83 = .ok (.getfield 30, 3) := dk_180 0 30 (dk_at dksX1_next_3 12 rfl rfl)
theorem dX1_next_86 : decode cX1_next 86 = .ok (.invokevirtual 46, 3) := dk_182 0 46 (dk_at dksX1_next_3 15 rfl rfl)
theorem dX1_next_89 : decode cX1_next 89 = .ok (.invokestatic 59, 3) := dk_184 0 59 (dk_at dksX1_next_3 18 rfl rfl)
theorem dX1_next_92 : decode cX1_next 92 = .ok (.ifCond .eq 16, 3) := dk_153 0 16 (dk_at dksX1_next_3 21 rfl rfl)
theorem dX1_next_95 : decode cX1_next 95 = .ok (.aload_n 0, 1) := dk_42 (dk_at dksX1_next_4 0 rfl rfl)
theorem dX1_next_96 : decode cX1_next 96 = .ok (.dup, 1) := dk_89 (dk_at dksX1_next_4 1 rfl rfl)
theorem dX1_next_97 : decode cX1_next 97 = .ok (.getfield 30, 3) := dk_180 0 30 (dk_at dksX1_next_4 2 rfl rfl)
theorem dX1_next_100 : decode cX1_next 100 = .ok (.iconst 1, 1) := dk_4 (dk_at dksX1_next_4 5 rfl rfl)
theorem dX1_next_101 : decode cX1_next 101 = .ok (.iadd, 1) := dk_96 (dk_at dksX1_next_4 6 rfl rfl)
theorem dX1_next_102 : decode cX1_next 102 = .ok (.putfield 30, 3) := dk_181 0 30 (dk_at dksX1_next_4 7 rfl rfl)
theorem dX1_next_105 : decode cX1_next 105 = .ok (.goto (-24), 3) := dk_167 255 232 (dk_at dksX1_next_4 10 rfl rfl)
theorem dX1_next_108 : decode cX1_next 108 = .ok (.aload_n 0, 1) := dk_42 (dk_at dksX1_next_4 13 rfl rfl)
theorem dX1_next_109 : decode cX1_next 109 = .ok (.iconst 2, 1) := dk_5 (dk_at dksX1_next_4 14 rfl rfl)
theorem dX1_next_110 : decode cX1_next 110 = .ok (.putfield 56, 3) := dk_181 0 56 (dk_at dksX1_next_4 15 rfl rfl)
theorem dX1_next_113 : decode cX1_next 113 = .ok (.goto 122, 3) := dk_167 0 122 (dk_at dksX1_next_4 18 rfl rfl)
theorem dX1_next_116 : decode cX1_next 116 = .ok (.iload_n 1, 1) := dk_27 (dk_at dksX1_next_4 21 rfl rfl)
theorem dX1_next_117 : decode cX1_next 117 = .ok (.invokestatic 63, 3) := dk_184 0 63 (dk_at dksX1_next_5 0 rfl rfl)
theorem dX1_next_120 : decode cX1_next 120 = .ok (.ifCond .eq 88, 3) := dk_153 0 88 (dk_at dksX1_next_5 3 rfl rfl)
theorem dX1_next_123 : decode cX1_next 123 = .ok (.aload_n 0, 1) := dk_42 (dk_at dksX1_next_5 6 rfl rfl)
theorem dX1_next_124 : decode cX1_next 124 = .ok (.iconst 0, 1) := dk_3 (dk_at dksX1_next_5 7 rfl rfl)
theorem dX1_next_125 : decode cX1_next 125 = .ok (.putfield 53, 3) := dk_181 0 53 (dk_at dksX1_next_5 8 rfl rfl)
theorem dX1_next_128 : decode cX1_next 128 = .ok (.aload_n 0, 1) := dk_42 (dk_at dksX1_next_5 11 rfl rfl)
theorem dX1_next_129 : decode cX1_next 129 = .ok (.aload_n 0, 1) := dk_42 (dk_at dksX1_next_5 12 rfl rfl)
theorem dX1_next_130 : decode cX1_next 130 = .ok (.getfield 30, 3) := dk_180 0 30 (dk_at dksX1_next_5 13 rfl rfl)
theorem dX1_next_133 : decode cX1_next 133 = .ok (.invokevirtual 46, 3) := dk_182 0 46 (dk_at dksX1_next_5 16 rfl rfl)
theorem dX1_next_136 : decode cX1_next 136 = .ok (.invokestatic 63, 3) := dk_184 0 63 (dk_at dksX1_next_5 19 rfl rfl)
theorem dX1_next_139 : decode cX1_next 139 = .ok (.ifCond .eq 44, 3) := dk_153 0 44 (dk_at dksX1_next_6 0 rfl rfl)
theorem dX1_next_142 : decode cX1_next 142 = .ok (.aload_n 0, 1) := dk_42 (dk_at dksX1_next_6 3 rfl rfl)
theorem dX1_next_143 : decode cX1_next 143 = .ok (.ldc 66, 2) := dk_18 66 (dk_at dksX1_next_6 4 rfl rfl)
theorem dX1_next_145 : decode cX1_next 145 = .ok (.bipush 10, 2) := dk_16 10 (dk_at dksX1_next_6 6 rfl rfl)
theorem dX1_next_147 : decode cX1_next 147 = .ok (.aload_n 0, 1) := dk_42 (dk_at dksX1_next_6 8 rfl rfl)
theorem dX1_next_148 : decode cX1_next 148 = .ok (.getfield 53, 3) := dk_180 0 53 (dk_at dksX1_next_6 9 rfl rfl)
theorem dX1_next_151 : decode cX1_next 151 = .ok (.imul, 1) := dk_104 (dk_at dksX1_next_6 12 rfl rfl)
theorem dX1_next_152 : decode cX1_next 152 = .ok (.aload_n 0, 1) := dk_42 (dk_at dksX1_next_6 13 rfl rfl)
theorem dX1_next_153 : decode cX1_next 153 = .ok (.aload_n 0, 1) := dk_42 (dk_at dksX1_next_6 14 rfl rfl)
theorem dX1_next_154 : decode cX1_next 154 = .ok (.getfield 30, 3) := dk_180 0 30 (dk_at dksX1_next_6 15 rfl rfl)
theorem dX1_next_157 : decode cX1_next 157 = .ok (.invokevirtual 46, 3) := dk_182 0 46 (dk_at dksX1_next_6 18 rfl rfl)
theorem dX1_next_160 : decode cX1_next 160 = .ok (.iadd, 1) := dk_96 (dk_at dksX1_next_6 21 rfl rfl)
theorem dX1_next_161 : decode cX1_next 161 = .ok (.bipush 48, 2) := dk_16 48 (dk_at dksX1_next_6 22 rfl rfl)
theorem dX1_next_163 : decode cX1_next 163 = .ok (.isub, 1) := dk_100 (dk_at dksX1_next_7 0 rfl rfl)
theorem dX1_next_164 : decode cX1_next 164 = .ok (.invokestatic 67, 3) := dk_184 0 67 (dk_at dksX1_next_7 1 rfl rfl)
theorem dX1_next_167 : decode cX1_next 167 = .ok (.putfield 53, 3) := dk_181 0 53 (dk_at dksX1_next_7 4 rfl rfl)
theorem dX1_next_170 : decode cX1_next 170 = .ok (.aload_n 0, 1) := dk_42 (dk_at dksX1_next_7 7 rfl rfl)
theorem dX1_next_171 : decode cX1_next 171 = .ok (.dup, 1) := dk_89 (dk_at dksX1_next_7 8 rfl rfl)
theorem dX1_next_172 : decode cX1_next 172 = .ok (.getfield 30, 3) := dk_180 0 30 (dk_at dksX1_next_7 9 rfl rfl)
theorem dX1_next_175 : decode cX1_next 175 = .ok (.iconst 1, 1) := dk_4 (dk_at dksX1_next_7 12 rfl rfl)
theorem dX1_next_176 : decode cX1_next 176 = .ok (.iadd, 1) := dk_96 (dk_at dksX1_next_7 13 rfl rfl)
theorem dX1_next_177 : decode cX1_next 177 = .ok (.putfield 30, 3) := dk_181 0 30 (dk_at dksX1_next_7 14 rfl rfl)
theorem dX1_next_180 : decode cX1_next 180 = .ok (.goto (-52), 3) := dk_167 255 204 (dk_at dksX1_next_7 17 rfl rfl)
theorem dX1_next_183 : decode cX1_next 183 = .ok (.aload_n 0, 1) := dk_42 (dk_at dksX1_next_7 20 rfl rfl)
theorem dX1_next_184 : decode cX1_next 184 = .ok (.aload_n 0, 1) := dk_42 (dk_at dksX1_next_7 21 rfl rfl)
theorem dX1_next_185 : decode cX1_next 185 = .ok (.getfield 30, 3) := dk_180 0 30 (dk_at dksX1_next_8 0 rfl rfl)
theorem dX1_next_188 : decode cX1_next 188 = .ok (.aload_n 0, 1) := dk_42 (dk_at dksX1_next_8 3 rfl rfl)
theorem dX1_next_189 : decode cX1_next 189 = .ok (.getfield 50, 3) := dk_180 0 50 (dk_at dksX1_next_8 4 rfl rfl)
theorem dX1_next_192 : decode cX1_next 192 = .ok (.isub, 1) := dk_100 (dk_at dksX1_next_8 7 rfl rfl)
theorem dX1_next_193 : decode cX1_next 193 = .ok (.iconst 4, 1) := dk_7 (dk_at dksX1_next_8 8 rfl rfl)
theorem dX1_next_194 : decode cX1_next 194 = .ok (.if_icmp .le 7, 3) := dk_164 0 7 (dk_at dksX1_next_8 9 rfl rfl)
theorem dX1_next_197 : decode cX1_next 197 = .ok (.iconst 1, 1) := dk_4 (dk_at dksX1_next_8 12 rfl rfl)
theorem dX1_next_198 : decode cX1_next 198 = .ok (.goto 4, 3) := dk_167 0 4 (dk_at dksX1_next_8 13 rfl rfl)
theorem dX1_next_201 : decode cX1_next 201 = .ok (.iconst 3, 1) := dk_6 (dk_at dksX1_next_8 16 rfl rfl)
theorem dX1_next_202 : decode cX1_next 202 = .ok (.putfield 56, 3) := dk_181 0 56 (dk_at dksX1_next_8 17 rfl rfl)
theorem dX1_next_205 : decode cX1_next 205 = .ok (.goto 30, 3) := dk_167 0 30 (dk_at dksX1_next_8 20 rfl rfl)
theorem dX1_next_208 : decode cX1_next 208 = .ok (.aload_n 0, 1) := dk_42 (dk_at dksX1_next_8 23 rfl rfl)
theorem dX1_next_209 : decode cX1_next 209 = .ok (.dup, 1) := dk_89 (dk_at dksX1_next_9 0 rfl rfl)
theorem dX1_next_210 : decode cX1_next 210 = .ok (.getfield 30, 3) := dk_180 0 30 (dk_at dksX1_next_9 1 rfl rfl)
theorem dX1_next_213 : decode cX1_next 213 = .ok (.iconst 1, 1) := dk_4 (dk_at dksX1_next_9 4 rfl rfl)
theorem dX1_next_214 : decode cX1_next 214 = .ok (.iadd, 1) := dk_96 (dk_at dksX1_next_9 5 rfl rfl)
theorem dX1_next_215 : decode cX1_next 215 = .ok (.putfield 30, 3) := dk_181 0 30 (dk_at dksX1_next_9 6 rfl rfl)
theorem dX1_next_218 : decode cX1_next 218 = .ok (.aload_n 0, 1) := dk_42 (dk_at dksX1_next_9 9 rfl rfl)
theorem dX1_next_219 : decode cX1_next 219 = .ok (.aload_n 0, 1) := dk_42 (dk_at dksX1_next_9 10 rfl rfl)
theorem dX1_next_220 : decode cX1_next 220 = .ok (.iload_n 1, 1) := dk_27 (dk_at dksX1_next_9 11 rfl rfl)
theorem dX1_next_221 : decode cX1_next 221 = .ok (.invokevirtual 73, 3) := dk_182 0 73 (dk_at dksX1_next_9 12 rfl rfl)
theorem dX1_next_224 : decode cX1_next 224 = .ok (.ifCond .eq 7, 3) := dk_153 0 7 (dk_at dksX1_next_9 15 rfl rfl)
theorem dX1_next_227 : decode cX1_next 227 = .ok (.iconst 4, 1) := dk_7 (dk_at dksX1_next_9 18 rfl rfl)
theorem dX1_next_228 : decode cX1_next 228 = .ok (.goto 4, 3) := dk_167 0 4 (dk_at dksX1_next_9 19 rfl rfl)
theorem dX1_next_231 : decode cX1_next 231 = .ok (.iconst 1, 1) := dk_4 (dk_at dksX1_next_9 22 rfl rfl)
theorem dX1_next_232 : decode cX1_next 232 = .ok (.putfield 56, 3) := dk_181 0 56 (dk_at dksX1_next_10 0 rfl rfl)
theorem dX1_next_235 : decode cX1_next 235 = .ok (.return_, 1) := dk_177 (dk_at dksX1_next_10 3 rfl rfl)
abbrev cX1_at : ByteArray := prog_9_method_3_code
def yX1_at : MethodName := ⟨RX1, "at", "(I)I"⟩
def dkwX1_at_0 : List UInt8 := [27, 42, 180, 0, 26, 162, 0, 16, 42, 180, 0, 9, 27, 51, 17, 0, 255, 126, 167, 0, 4, 2, 172]
abbrev dktX1_at_0 : List UInt8 := dkwX1_at_0 ++ []
theorem dksX1_at_0 : cX1_at.data.toList.drop 0 = dktX1_at_0 := by decide +kernel
theorem dX1_at_0 : decode cX1_at 0 = .ok (.iload_n 1, 1) := dk_27 (dk_at dksX1_at_0 0 rfl rfl)
theorem dX1_at_1 : decode cX1_at 1 = .ok (.aload_n 0, 1) := dk_42 (dk_at dksX1_at_0 1 rfl rfl)
theorem dX1_at_2 : decode cX1_at 2 = .ok (.getfield 26, 3) := dk_180 0 26 (dk_at dksX1_at_0 2 rfl rfl)
theorem dX1_at_5 : decode cX1_at 5 = .ok (.if_icmp .ge 16, 3) := dk_162 0 16 (dk_at dksX1_at_0 5 rfl rfl)
theorem dX1_at_8 : decode cX1_at 8 = .ok (.aload_n 0, 1) := dk_42 (dk_at dksX1_at_0 8 rfl rfl)
theorem dX1_at_9 : decode cX1_at 9 = .ok (.getfield 9, 3) := dk_180 0 9 (dk_at dksX1_at_0 9 rfl rfl)
theorem dX1_at_12 : decode cX1_at 12 = .ok (.iload_n 1, 1) := dk_27 (dk_at dksX1_at_0 12 rfl rfl)
theorem dX1_at_13 : decode cX1_at 13 = .ok (.baload, 1) := dk_51 (dk_at dksX1_at_0 13 rfl rfl)
theorem dX1_at_14 : decode cX1_at 14 = .ok (.sipush 255, 3) := dk_17 0 255 (dk_at dksX1_at_0 14 rfl rfl)
theorem dX1_at_17 : decode cX1_at 17 = .ok (.iand, 1) := dk_126 (dk_at dksX1_at_0 17 rfl rfl)
theorem dX1_at_18 : decode cX1_at 18 = .ok (.goto 4, 3) := dk_167 0 4 (dk_at dksX1_at_0 18 rfl rfl)
theorem dX1_at_21 : decode cX1_at 21 = .ok (.iconst (-1), 1) := dk_2 (dk_at dksX1_at_0 21 rfl rfl)
theorem dX1_at_22 : decode cX1_at 22 = .ok (.ireturn, 1) := dk_172 (dk_at dksX1_at_0 22 rfl rfl)
abbrev cX1_isSmall : ByteArray := prog_9_method_5_code
def yX1_isSmall : MethodName := ⟨RX1, "isSmall", "(I)Z"⟩
def dkwX1_isSmall_0 : List UInt8 := [26, 16, 97, 161, 0, 13, 26, 16, 122, 163, 0, 7, 4, 167, 0, 4, 3, 172]
abbrev dktX1_isSmall_0 : List UInt8 := dkwX1_isSmall_0 ++ []
theorem dksX1_isSmall_0 : cX1_isSmall.data.toList.drop 0 = dktX1_isSmall_0 := by decide +kernel
theorem dX1_isSmall_0 : decode cX1_isSmall 0 = .ok (.iload_n 0, 1) := dk_26 (dk_at dksX1_isSmall_0 0 rfl rfl)
theorem dX1_isSmall_1 : decode cX1_isSmall 1 = .ok (.bipush 97, 2) := dk_16 97 (dk_at dksX1_isSmall_0 1 rfl rfl)
theorem dX1_isSmall_3 : decode cX1_isSmall 3 = .ok (.if_icmp .lt 13, 3) := dk_161 0 13 (dk_at dksX1_isSmall_0 3 rfl rfl)
theorem dX1_isSmall_6 : decode cX1_isSmall 6 = .ok (.iload_n 0, 1) := dk_26 (dk_at dksX1_isSmall_0 6 rfl rfl)
theorem dX1_isSmall_7 : decode cX1_isSmall 7 = .ok (.bipush 122, 2) := dk_16 122 (dk_at dksX1_isSmall_0 7 rfl rfl)
theorem dX1_isSmall_9 : decode cX1_isSmall 9 = .ok (.if_icmp .gt 7, 3) := dk_163 0 7 (dk_at dksX1_isSmall_0 9 rfl rfl)
theorem dX1_isSmall_12 : decode cX1_isSmall 12 = .ok (.iconst 1, 1) := dk_4 (dk_at dksX1_isSmall_0 12 rfl rfl)
theorem dX1_isSmall_13 : decode cX1_isSmall 13 = .ok (.goto 4, 3) := dk_167 0 4 (dk_at dksX1_isSmall_0 13 rfl rfl)
theorem dX1_isSmall_16 : decode cX1_isSmall 16 = .ok (.iconst 0, 1) := dk_3 (dk_at dksX1_isSmall_0 16 rfl rfl)
theorem dX1_isSmall_17 : decode cX1_isSmall 17 = .ok (.ireturn, 1) := dk_172 (dk_at dksX1_isSmall_0 17 rfl rfl)
abbrev cX1_isDigit : ByteArray := prog_9_method_4_code
def yX1_isDigit : MethodName := ⟨RX1, "isDigit", "(I)Z"⟩
def dkwX1_isDigit_0 : List UInt8 := [26, 16, 48, 161, 0, 13, 26, 16, 57, 163, 0, 7, 4, 167, 0, 4, 3, 172]
abbrev dktX1_isDigit_0 : List UInt8 := dkwX1_isDigit_0 ++ []
theorem dksX1_isDigit_0 : cX1_isDigit.data.toList.drop 0 = dktX1_isDigit_0 := by decide +kernel
theorem dX1_isDigit_0 : decode cX1_isDigit 0 = .ok (.iload_n 0, 1) := dk_26 (dk_at dksX1_isDigit_0 0 rfl rfl)
theorem dX1_isDigit_1 : decode cX1_isDigit 1 = .ok (.bipush 48, 2) := dk_16 48 (dk_at dksX1_isDigit_0 1 rfl rfl)
theorem dX1_isDigit_3 : decode cX1_isDigit 3 = .ok (.if_icmp .lt 13, 3) := dk_161 0 13 (dk_at dksX1_isDigit_0 3 rfl rfl)
theorem dX1_isDigit_6 : decode cX1_isDigit 6 = .ok (.iload_n 0, 1) := dk_26 (dk_at dksX1_isDigit_0 6 rfl rfl)
theorem dX1_isDigit_7 : decode cX1_isDigit 7 = .ok (.bipush 57, 2) := dk_16 57 (dk_at dksX1_isDigit_0 7 rfl rfl)
theorem dX1_isDigit_9 : decode cX1_isDigit 9 = .ok (.if_icmp .gt 7, 3) := dk_163 0 7 (dk_at dksX1_isDigit_0 9 rfl rfl)
theorem dX1_isDigit_12 : decode cX1_isDigit 12 = .ok (.iconst 1, 1) := dk_4 (dk_at dksX1_isDigit_0 12 rfl rfl)
theorem dX1_isDigit_13 : decode cX1_isDigit 13 = .ok (.goto 4, 3) := dk_167 0 4 (dk_at dksX1_isDigit_0 13 rfl rfl)
theorem dX1_isDigit_16 : decode cX1_isDigit 16 = .ok (.iconst 0, 1) := dk_3 (dk_at dksX1_isDigit_0 16 rfl rfl)
theorem dX1_isDigit_17 : decode cX1_isDigit 17 = .ok (.ireturn, 1) := dk_172 (dk_at dksX1_isDigit_0 17 rfl rfl)
abbrev cX1_isSign : ByteArray := prog_9_method_6_code
def yX1_isSign : MethodName := ⟨RX1, "isSign", "(I)Z"⟩
def dkwX1_isSign_1 : List UInt8 := [160, 0, 5, 4, 172, 132, 2, 1, 167, 255, 228, 3, 172]
abbrev dktX1_isSign_1 : List UInt8 := dkwX1_isSign_1 ++ []
def dkwX1_isSign_0 : List UInt8 := [3, 61, 28, 42, 180, 0, 19, 182, 0, 36, 162, 0, 23, 42, 180, 0, 19, 28, 182, 0, 42, 27]
abbrev dktX1_isSign_0 : List UInt8 := dkwX1_isSign_0 ++ dktX1_isSign_1
theorem dksX1_isSign_0 : cX1_isSign.data.toList.drop 0 = dktX1_isSign_0 := by decide +kernel
theorem dksX1_isSign_1 : cX1_isSign.data.toList.drop 22 = dktX1_isSign_1 := dk_seg dksX1_isSign_0 22 rfl rfl
theorem dX1_isSign_0 : decode cX1_isSign 0 = .ok (.iconst 0, 1) := dk_3 (dk_at dksX1_isSign_0 0 rfl rfl)
theorem dX1_isSign_1 : decode cX1_isSign 1 = .ok (.istore_n 2, 1) := dk_61 (dk_at dksX1_isSign_0 1 rfl rfl)
theorem dX1_isSign_2 : decode cX1_isSign 2 = .ok (.iload_n 2, 1) := dk_28 (dk_at dksX1_isSign_0 2 rfl rfl)
theorem dX1_isSign_3 : decode cX1_isSign 3 = .ok (.aload_n 0, 1) := dk_42 (dk_at dksX1_isSign_0 3 rfl rfl)
theorem dX1_isSign_4 : decode cX1_isSign 4 = .ok (.getfield 19, 3) := dk_180 0 19 (dk_at dksX1_isSign_0 4 rfl rfl)
theorem dX1_isSign_7 : decode cX1_isSign 7 = .ok (.invokevirtual 36, 3) := dk_182 0 36 (dk_at dksX1_isSign_0 7 rfl rfl)
theorem dX1_isSign_10 : decode cX1_isSign 10 = .ok (.if_icmp .ge 23, 3) := dk_162 0 23 (dk_at dksX1_isSign_0 10 rfl rfl)
theorem dX1_isSign_13 : decode cX1_isSign 13 = .ok (.aload_n 0, 1) := dk_42 (dk_at dksX1_isSign_0 13 rfl rfl)
theorem dX1_isSign_14 : decode cX1_isSign 14 = .ok (.getfield 19, 3) := dk_180 0 19 (dk_at dksX1_isSign_0 14 rfl rfl)
theorem dX1_isSign_17 : decode cX1_isSign 17 = .ok (.iload_n 2, 1) := dk_28 (dk_at dksX1_isSign_0 17 rfl rfl)
theorem dX1_isSign_18 : decode cX1_isSign 18 = .ok (.invokevirtual 42, 3) := dk_182 0 42 (dk_at dksX1_isSign_0 18 rfl rfl)
theorem dX1_isSign_21 : decode cX1_isSign 21 = .ok (.iload_n 1, 1) := dk_27 (dk_at dksX1_isSign_0 21 rfl rfl)
theorem dX1_isSign_22 : decode cX1_isSign 22 = .ok (.if_icmp .ne 5, 3) := dk_160 0 5 (dk_at dksX1_isSign_1 0 rfl rfl)
theorem dX1_isSign_25 : decode cX1_isSign 25 = .ok (.iconst 1, 1) := dk_4 (dk_at dksX1_isSign_1 3 rfl rfl)
theorem dX1_isSign_26 : decode cX1_isSign 26 = .ok (.ireturn, 1) := dk_172 (dk_at dksX1_isSign_1 4 rfl rfl)
theorem dX1_isSign_27 : decode cX1_isSign 27 = .ok (.iinc 2 1, 3) := dk_132 2 1 (dk_at dksX1_isSign_1 5 rfl rfl)
theorem dX1_isSign_30 : decode cX1_isSign 30 = .ok (.goto (-28), 3) := dk_167 255 228 (dk_at dksX1_isSign_1 8 rfl rfl)
theorem dX1_isSign_33 : decode cX1_isSign 33 = .ok (.iconst 0, 1) := dk_3 (dk_at dksX1_isSign_1 11 rfl rfl)
theorem dX1_isSign_34 : decode cX1_isSign 34 = .ok (.ireturn, 1) := dk_172 (dk_at dksX1_isSign_1 12 rfl rfl)
abbrev cX1_key : ByteArray := prog_9_method_10_code
def yX1_key : MethodName := ⟨RX1, "key", "()I"⟩
def dkwX1_key_0 : List UInt8 := [42, 42, 180, 0, 15, 182, 0, 86, 172]
abbrev dktX1_key_0 : List UInt8 := dkwX1_key_0 ++ []
theorem dksX1_key_0 : cX1_key.data.toList.drop 0 = dktX1_key_0 := by decide +kernel
theorem dX1_key_0 : decode cX1_key 0 = .ok (.aload_n 0, 1) := dk_42 (dk_at dksX1_key_0 0 rfl rfl)
theorem dX1_key_1 : decode cX1_key 1 = .ok (.aload_n 0, 1) := dk_42 (dk_at dksX1_key_0 1 rfl rfl)
theorem dX1_key_2 : decode cX1_key 2 = .ok (.getfield 15, 3) := dk_180 0 15 (dk_at dksX1_key_0 2 rfl rfl)
theorem dX1_key_5 : decode cX1_key 5 = .ok (.invokevirtual 86, 3) := dk_182 0 86 (dk_at dksX1_key_0 5 rfl rfl)
theorem dX1_key_8 : decode cX1_key 8 = .ok (.ireturn, 1) := dk_172 (dk_at dksX1_key_0 8 rfl rfl)
abbrev cX1_in : ByteArray := prog_9_method_11_code
def yX1_in : MethodName := ⟨RX1, "in", "(Ljava/lang/String;)I"⟩
def dkwX1_in_2 : List UInt8 := [182, 0, 90, 153, 0, 5, 28, 172, 132, 2, 1, 21, 4, 4, 96, 62, 167, 255, 207, 2, 172]
abbrev dktX1_in_2 : List UInt8 := dkwX1_in_2 ++ []
def dkwX1_in_1 : List UInt8 := [54, 4, 43, 21, 4, 182, 0, 42, 16, 32, 159, 0, 9, 132, 4, 1, 167, 255, 242, 42, 43, 29, 21, 4]
abbrev dktX1_in_1 : List UInt8 := dkwX1_in_1 ++ dktX1_in_2
def dkwX1_in_0 : List UInt8 := [42, 180, 0, 56, 5, 159, 0, 5, 2, 172, 3, 61, 4, 62, 29, 43, 182, 0, 36, 162, 0, 47, 29]
abbrev dktX1_in_0 : List UInt8 := dkwX1_in_0 ++ dktX1_in_1
theorem dksX1_in_0 : cX1_in.data.toList.drop 0 = dktX1_in_0 := by decide +kernel
theorem dksX1_in_1 : cX1_in.data.toList.drop 23 = dktX1_in_1 := dk_seg dksX1_in_0 23 rfl rfl
theorem dksX1_in_2 : cX1_in.data.toList.drop 47 = dktX1_in_2 := dk_seg dksX1_in_1 24 rfl rfl
theorem dX1_in_0 : decode cX1_in 0 = .ok (.aload_n 0, 1) := dk_42 (dk_at dksX1_in_0 0 rfl rfl)
theorem dX1_in_1 : decode cX1_in 1 = .ok (.getfield 56, 3) := dk_180 0 56 (dk_at dksX1_in_0 1 rfl rfl)
theorem dX1_in_4 : decode cX1_in 4 = .ok (.iconst 2, 1) := dk_5 (dk_at dksX1_in_0 4 rfl rfl)
theorem dX1_in_5 : decode cX1_in 5 = .ok (.if_icmp .eq 5, 3) := dk_159 0 5 (dk_at dksX1_in_0 5 rfl rfl)
theorem dX1_in_8 : decode cX1_in 8 = .ok (.iconst (-1), 1) := dk_2 (dk_at dksX1_in_0 8 rfl rfl)
theorem dX1_in_9 : decode cX1_in 9 = .ok (.ireturn, 1) := dk_172 (dk_at dksX1_in_0 9 rfl rfl)
theorem dX1_in_10 : decode cX1_in 10 = .ok (.iconst 0, 1) := dk_3 (dk_at dksX1_in_0 10 rfl rfl)
theorem dX1_in_11 : decode cX1_in 11 = .ok (.istore_n 2, 1) := dk_61 (dk_at dksX1_in_0 11 rfl rfl)
theorem dX1_in_12 : decode cX1_in 12 = .ok (.iconst 1, 1) := dk_4 (dk_at dksX1_in_0 12 rfl rfl)
theorem dX1_in_13 : decode cX1_in 13 = .ok (.istore_n 3, 1) := dk_62 (dk_at dksX1_in_0 13 rfl rfl)
theorem dX1_in_14 : decode cX1_in 14 = .ok (.iload_n 3, 1) := dk_29 (dk_at dksX1_in_0 14 rfl rfl)
theorem dX1_in_15 : decode cX1_in 15 = .ok (.aload_n 1, 1) := dk_43 (dk_at dksX1_in_0 15 rfl rfl)
theorem dX1_in_16 : decode cX1_in 16 = .ok (.invokevirtual 36, 3) := dk_182 0 36 (dk_at dksX1_in_0 16 rfl rfl)
theorem dX1_in_19 : decode cX1_in 19 = .ok (.if_icmp .ge 47, 3) := dk_162 0 47 (dk_at dksX1_in_0 19 rfl rfl)
theorem dX1_in_22 : decode cX1_in 22 = .ok (.iload_n 3, 1) := dk_29 (dk_at dksX1_in_0 22 rfl rfl)
theorem dX1_in_23 : decode cX1_in 23 = .ok (.istore 4, 2) := dk_54 4 (dk_at dksX1_in_1 0 rfl rfl)
theorem dX1_in_25 : decode cX1_in 25 = .ok (.aload_n 1, 1) := dk_43 (dk_at dksX1_in_1 2 rfl rfl)
theorem dX1_in_26 : decode cX1_in 26 = .ok (.iload 4, 2) := dk_21 4 (dk_at dksX1_in_1 3 rfl rfl)
theorem dX1_in_28 : decode cX1_in 28 = .ok (.invokevirtual 42, 3) := dk_182 0 42 (dk_at dksX1_in_1 5 rfl rfl)
theorem dX1_in_31 : decode cX1_in 31 = .ok (.bipush 32, 2) := dk_16 32 (dk_at dksX1_in_1 8 rfl rfl)
theorem dX1_in_33 : decode cX1_in 33 = .ok (.if_icmp .eq 9, 3) := dk_159 0 9 (dk_at dksX1_in_1 10 rfl rfl)
theorem dX1_in_36 : decode cX1_in 36 = .ok (.iinc 4 1, 3) := dk_132 4 1 (dk_at dksX1_in_1 13 rfl rfl)
theorem dX1_in_39 : decode cX1_in 39 = .ok (.goto (-14), 3) := dk_167 255 242 (dk_at dksX1_in_1 16 rfl rfl)
theorem dX1_in_42 : decode cX1_in 42 = .ok (.aload_n 0, 1) := dk_42 (dk_at dksX1_in_1 19 rfl rfl)
theorem dX1_in_43 : decode cX1_in 43 = .ok (.aload_n 1, 1) := dk_43 (dk_at dksX1_in_1 20 rfl rfl)
theorem dX1_in_44 : decode cX1_in 44 = .ok (.iload_n 3, 1) := dk_29 (dk_at dksX1_in_1 21 rfl rfl)
theorem dX1_in_45 : decode cX1_in 45 = .ok (.iload 4, 2) := dk_21 4 (dk_at dksX1_in_1 22 rfl rfl)
theorem dX1_in_47 : decode cX1_in 47 = .ok (.invokevirtual 90, 3) := dk_182 0 90 (dk_at dksX1_in_2 0 rfl rfl)
theorem dX1_in_50 : decode cX1_in 50 = .ok (.ifCond .eq 5, 3) := dk_153 0 5 (dk_at dksX1_in_2 3 rfl rfl)
theorem dX1_in_53 : decode cX1_in 53 = .ok (.iload_n 2, 1) := dk_28 (dk_at dksX1_in_2 6 rfl rfl)
theorem dX1_in_54 : decode cX1_in 54 = .ok (.ireturn, 1) := dk_172 (dk_at dksX1_in_2 7 rfl rfl)
theorem dX1_in_55 : decode cX1_in 55 = .ok (.iinc 2 1, 3) := dk_132 2 1 (dk_at dksX1_in_2 8 rfl rfl)
theorem dX1_in_58 : decode cX1_in 58 = .ok (.iload 4, 2) := dk_21 4 (dk_at dksX1_in_2 11 rfl rfl)
theorem dX1_in_60 : decode cX1_in 60 = .ok (.iconst 1, 1) := dk_4 (dk_at dksX1_in_2 13 rfl rfl)
theorem dX1_in_61 : decode cX1_in 61 = .ok (.iadd, 1) := dk_96 (dk_at dksX1_in_2 14 rfl rfl)
theorem dX1_in_62 : decode cX1_in 62 = .ok (.istore_n 3, 1) := dk_62 (dk_at dksX1_in_2 15 rfl rfl)
theorem dX1_in_63 : decode cX1_in 63 = .ok (.goto (-49), 3) := dk_167 255 207 (dk_at dksX1_in_2 16 rfl rfl)
theorem dX1_in_66 : decode cX1_in 66 = .ok (.iconst (-1), 1) := dk_2 (dk_at dksX1_in_2 19 rfl rfl)
theorem dX1_in_67 : decode cX1_in 67 = .ok (.ireturn, 1) := dk_172 (dk_at dksX1_in_2 20 rfl rfl)
abbrev cX1_isWord : ByteArray := prog_9_method_12_code
def yX1_isWord : MethodName := ⟨RX1, "isWord", "(Ljava/lang/String;II)Z"⟩
def dkwX1_isWord_2 : List UInt8 := [159, 0, 5, 3, 172, 132, 4, 1, 167, 255, 223, 4, 172]
abbrev dktX1_isWord_2 : List UInt8 := dkwX1_isWord_2 ++ []
def dkwX1_isWord_1 : List UInt8 := [162, 0, 33, 43, 21, 4, 182, 0, 42, 42, 42, 180, 0, 50, 21, 4, 96, 28, 100, 182, 0, 46]
abbrev dktX1_isWord_1 : List UInt8 := dkwX1_isWord_1 ++ dktX1_isWord_2
def dkwX1_isWord_0 : List UInt8 := [29, 28, 100, 42, 180, 0, 30, 42, 180, 0, 50, 100, 159, 0, 5, 3, 172, 28, 54, 4, 21, 4, 29]
abbrev dktX1_isWord_0 : List UInt8 := dkwX1_isWord_0 ++ dktX1_isWord_1
theorem dksX1_isWord_0 : cX1_isWord.data.toList.drop 0 = dktX1_isWord_0 := by decide +kernel
theorem dksX1_isWord_1 : cX1_isWord.data.toList.drop 23 = dktX1_isWord_1 := dk_seg dksX1_isWord_0 23 rfl rfl
theorem dksX1_isWord_2 : cX1_isWord.data.toList.drop 45 = dktX1_isWord_2 := dk_seg dksX1_isWord_1 22 rfl rfl
theorem dX1_isWord_0 : decode cX1_isWord 0 = .ok (.iload_n 3, 1) := dk_29 (dk_at dksX1_isWord_0 0 rfl rfl)
theorem dX1_isWord_1 : decode cX1_isWord 1 = .ok (.iload_n 2, 1) := dk_28 (dk_at dksX1_isWord_0 1 rfl rfl)
theorem dX1_isWord_2 : decode cX1_isWord 2 = .ok (.isub, 1) := dk_100 (dk_at dksX1_isWord_0 2 rfl rfl)
theorem dX1_isWord_3 : decode cX1_isWord 3 = .ok (.aload_n 0, 1) := dk_42 (dk_at dksX1_isWord_0 3 rfl rfl)
theorem dX1_isWord_4 : decode cX1_isWord 4 = .ok (.getfield 30, 3) := dk_180 0 30 (dk_at dksX1_isWord_0 4 rfl rfl)
theorem dX1_isWord_7 : decode cX1_isWord 7 = .ok (.aload_n 0, 1) := dk_42 (dk_at dksX1_isWord_0 7 rfl rfl)
theorem dX1_isWord_8 : decode cX1_isWord 8 = .ok (.getfield 50, 3) := dk_180 0 50 (dk_at dksX1_isWord_0 8 rfl rfl)
theorem dX1_isWord_11 : decode cX1_isWord 11 = .ok (.isub, 1) := dk_100 (dk_at dksX1_isWord_0 11 rfl rfl)
theorem dX1_isWord_12 : decode cX1_isWord 12 = .ok (.if_icmp .eq 5, 3) := dk_159 0 5 (dk_at dksX1_isWord_0 12 rfl rfl)
theorem dX1_isWord_15 : decode cX1_isWord 15 = .ok (.iconst 0, 1) := dk_3 (dk_at dksX1_isWord_0 15 rfl rfl)
theorem dX1_isWord_16 : decode cX1_isWord 16 = .ok (.ireturn, 1) := dk_172 (dk_at dksX1_isWord_0 16 rfl rfl)
theorem dX1_isWord_17 : decode cX1_isWord 17 = .ok (.iload_n 2, 1) := dk_28 (dk_at dksX1_isWord_0 17 rfl rfl)
theorem dX1_isWord_18 : decode cX1_isWord 18 = .ok (.istore 4, 2) := dk_54 4 (dk_at dksX1_isWord_0 18 rfl rfl)
theorem dX1_isWord_20 : decode cX1_isWord 20 = .ok (.iload 4, 2) := dk_21 4 (dk_at dksX1_isWord_0 20 rfl rfl)
theorem dX1_isWord_22 : decode cX1_isWord 22 = .ok (.iload_n 3, 1) := dk_29 (dk_at dksX1_isWord_0 22 rfl rfl)
theorem dX1_isWord_23 : decode cX1_isWord 23 = .ok (.if_icmp .ge 33, 3) := dk_162 0 33 (dk_at dksX1_isWord_1 0 rfl rfl)
theorem dX1_isWord_26 : decode cX1_isWord 26 = .ok (.aload_n 1, 1) := dk_43 (dk_at dksX1_isWord_1 3 rfl rfl)
theorem dX1_isWord_27 : decode cX1_isWord 27 = .ok (.iload 4, 2) := dk_21 4 (dk_at dksX1_isWord_1 4 rfl rfl)
theorem dX1_isWord_29 : decode cX1_isWord 29 = .ok (.invokevirtual 42, 3) := dk_182 0 42 (dk_at dksX1_isWord_1 6 rfl rfl)
theorem dX1_isWord_32 : decode cX1_isWord 32 = .ok (.aload_n 0, 1) := dk_42 (dk_at dksX1_isWord_1 9 rfl rfl)
theorem dX1_isWord_33 : decode cX1_isWord 33 = .ok (.aload_n 0, 1) := dk_42 (dk_at dksX1_isWord_1 10 rfl rfl)
theorem dX1_isWord_34 : decode cX1_isWord 34 = .ok (.getfield 50, 3) := dk_180 0 50 (dk_at dksX1_isWord_1 11 rfl rfl)
theorem dX1_isWord_37 : decode cX1_isWord 37 = .ok (.iload 4, 2) := dk_21 4 (dk_at dksX1_isWord_1 14 rfl rfl)
theorem dX1_isWord_39 : decode cX1_isWord 39 = .ok (.iadd, 1) := dk_96 (dk_at dksX1_isWord_1 16 rfl rfl)
theorem dX1_isWord_40 : decode cX1_isWord 40 = .ok (.iload_n 2, 1) := dk_28 (dk_at dksX1_isWord_1 17 rfl rfl)
theorem dX1_isWord_41 : decode cX1_isWord 41 = .ok (.isub, 1) := dk_100 (dk_at dksX1_isWord_1 18 rfl rfl)
theorem dX1_isWord_42 : decode cX1_isWord 42 = .ok (.invokevirtual 46, 3) := dk_182 0 46 (dk_at dksX1_isWord_1 19 rfl rfl)
theorem dX1_isWord_45 : decode cX1_isWord 45 = .ok (.if_icmp .eq 5, 3) := dk_159 0 5 (dk_at dksX1_isWord_2 0 rfl rfl)
theorem dX1_isWord_48 : decode cX1_isWord 48 = .ok (.iconst 0, 1) := dk_3 (dk_at dksX1_isWord_2 3 rfl rfl)
theorem dX1_isWord_49 : decode cX1_isWord 49 = .ok (.ireturn, 1) := dk_172 (dk_at dksX1_isWord_2 4 rfl rfl)
theorem dX1_isWord_50 : decode cX1_isWord 50 = .ok (.iinc 4 1, 3) := dk_132 4 1 (dk_at dksX1_isWord_2 5 rfl rfl)
theorem dX1_isWord_53 : decode cX1_isWord 53 = .ok (.goto (-33), 3) := dk_167 255 223 (dk_at dksX1_isWord_2 8 rfl rfl)
theorem dX1_isWord_56 : decode cX1_isWord 56 = .ok (.iconst 1, 1) := dk_4 (dk_at dksX1_isWord_2 11 rfl rfl)
theorem dX1_isWord_57 : decode cX1_isWord 57 = .ok (.ireturn, 1) := dk_172 (dk_at dksX1_isWord_2 12 rfl rfl)
abbrev cX1_need : ByteArray := prog_9_method_9_code
def yX1_need : MethodName := ⟨RX1, "need", "(Z)V"⟩
def dkwX1_need_0 : List UInt8 := [27, 154, 0, 9, 42, 5, 182, 0, 82, 191, 177]
abbrev dktX1_need_0 : List UInt8 := dkwX1_need_0 ++ []
theorem dksX1_need_0 : cX1_need.data.toList.drop 0 = dktX1_need_0 := by decide +kernel
theorem dX1_need_0 : decode cX1_need 0 = .ok (.iload_n 1, 1) := dk_27 (dk_at dksX1_need_0 0 rfl rfl)
theorem dX1_need_1 : decode cX1_need 1 = .ok (.ifCond .ne 9, 3) := dk_154 0 9 (dk_at dksX1_need_0 1 rfl rfl)
theorem dX1_need_4 : decode cX1_need 4 = .ok (.aload_n 0, 1) := dk_42 (dk_at dksX1_need_0 4 rfl rfl)
theorem dX1_need_5 : decode cX1_need 5 = .ok (.iconst 2, 1) := dk_5 (dk_at dksX1_need_0 5 rfl rfl)
theorem dX1_need_6 : decode cX1_need 6 = .ok (.invokevirtual 82, 3) := dk_182 0 82 (dk_at dksX1_need_0 6 rfl rfl)
theorem dX1_need_9 : decode cX1_need 9 = .ok (.athrow, 1) := dk_191 (dk_at dksX1_need_0 9 rfl rfl)
theorem dX1_need_10 : decode cX1_need 10 = .ok (.return_, 1) := dk_177 (dk_at dksX1_need_0 10 rfl rfl)
abbrev cX1_fail : ByteArray := prog_9_method_8_code
def yX1_fail : MethodName := ⟨RX1, "fail", "(I)LCableDrawer$Wrong;"⟩
def dkwX1_fail_1 : List UInt8 := [176]
abbrev dktX1_fail_1 : List UInt8 := dkwX1_fail_1 ++ []
def dkwX1_fail_0 : List UInt8 := [42, 180, 0, 22, 42, 180, 0, 56, 4, 160, 0, 7, 4, 167, 0, 4, 27, 42, 180, 0, 50, 182, 0, 76]
abbrev dktX1_fail_0 : List UInt8 := dkwX1_fail_0 ++ dktX1_fail_1
theorem dksX1_fail_0 : cX1_fail.data.toList.drop 0 = dktX1_fail_0 := by decide +kernel
theorem dksX1_fail_1 : cX1_fail.data.toList.drop 24 = dktX1_fail_1 := dk_seg dksX1_fail_0 24 rfl rfl
theorem dX1_fail_0 : decode cX1_fail 0 = .ok (.aload_n 0, 1) := dk_42 (dk_at dksX1_fail_0 0 rfl rfl)
theorem dX1_fail_1 : decode cX1_fail 1 = .ok (.getfield 22, 3) := dk_180 0 22 (dk_at dksX1_fail_0 1 rfl rfl)
theorem dX1_fail_4 : decode cX1_fail 4 = .ok (.aload_n 0, 1) := dk_42 (dk_at dksX1_fail_0 4 rfl rfl)
theorem dX1_fail_5 : decode cX1_fail 5 = .ok (.getfield 56, 3) := dk_180 0 56 (dk_at dksX1_fail_0 5 rfl rfl)
theorem dX1_fail_8 : decode cX1_fail 8 = .ok (.iconst 1, 1) := dk_4 (dk_at dksX1_fail_0 8 rfl rfl)
theorem dX1_fail_9 : decode cX1_fail 9 = .ok (.if_icmp .ne 7, 3) := dk_160 0 7 (dk_at dksX1_fail_0 9 rfl rfl)
theorem dX1_fail_12 : decode cX1_fail 12 = .ok (.iconst 1, 1) := dk_4 (dk_at dksX1_fail_0 12 rfl rfl)
theorem dX1_fail_13 : decode cX1_fail 13 = .ok (.goto 4, 3) := dk_167 0 4 (dk_at dksX1_fail_0 13 rfl rfl)
theorem dX1_fail_16 : decode cX1_fail 16 = .ok (.iload_n 1, 1) := dk_27 (dk_at dksX1_fail_0 16 rfl rfl)
theorem dX1_fail_17 : decode cX1_fail 17 = .ok (.aload_n 0, 1) := dk_42 (dk_at dksX1_fail_0 17 rfl rfl)
theorem dX1_fail_18 : decode cX1_fail 18 = .ok (.getfield 50, 3) := dk_180 0 50 (dk_at dksX1_fail_0 18 rfl rfl)
theorem dX1_fail_21 : decode cX1_fail 21 = .ok (.invokevirtual 76, 3) := dk_182 0 76 (dk_at dksX1_fail_0 21 rfl rfl)
theorem dX1_fail_24 : decode cX1_fail 24 = .ok (.areturn, 1) := dk_176 (dk_at dksX1_fail_1 0 rfl rfl)
abbrev cX1_name : ByteArray := prog_9_method_14_code
def yX1_name : MethodName := ⟨RX1, "name", "()J"⟩
def dkwX1_name_3 : List UInt8 := [167, 255, 233, 31, 173]
abbrev dktX1_name_3 : List UInt8 := dkwX1_name_3 ++ []
def dkwX1_name_2 : List UInt8 := [29, 42, 180, 0, 30, 162, 0, 21, 31, 16, 8, 121, 42, 29, 182, 0, 46, 133, 129, 64, 132, 3, 1]
abbrev dktX1_name_2 : List UInt8 := dkwX1_name_2 ++ dktX1_name_3
def dkwX1_name_1 : List UInt8 := [18, 94, 182, 0, 86, 2, 160, 0, 7, 4, 167, 0, 4, 3, 182, 0, 96, 9, 64, 42, 180, 0, 50, 62]
abbrev dktX1_name_1 : List UInt8 := dkwX1_name_1 ++ dktX1_name_2
def dkwX1_name_0 : List UInt8 := [42, 42, 180, 0, 56, 5, 160, 0, 31, 42, 180, 0, 30, 42, 180, 0, 50, 100, 16, 8, 163, 0, 17, 42]
abbrev dktX1_name_0 : List UInt8 := dkwX1_name_0 ++ dktX1_name_1
theorem dksX1_name_0 : cX1_name.data.toList.drop 0 = dktX1_name_0 := by decide +kernel
theorem dksX1_name_1 : cX1_name.data.toList.drop 24 = dktX1_name_1 := dk_seg dksX1_name_0 24 rfl rfl
theorem dksX1_name_2 : cX1_name.data.toList.drop 48 = dktX1_name_2 := dk_seg dksX1_name_1 24 rfl rfl
theorem dksX1_name_3 : cX1_name.data.toList.drop 71 = dktX1_name_3 := dk_seg dksX1_name_2 23 rfl rfl
theorem dX1_name_0 : decode cX1_name 0 = .ok (.aload_n 0, 1) := dk_42 (dk_at dksX1_name_0 0 rfl rfl)
theorem dX1_name_1 : decode cX1_name 1 = .ok (.aload_n 0, 1) := dk_42 (dk_at dksX1_name_0 1 rfl rfl)
theorem dX1_name_2 : decode cX1_name 2 = .ok (.getfield 56, 3) := dk_180 0 56 (dk_at dksX1_name_0 2 rfl rfl)
theorem dX1_name_5 : decode cX1_name 5 = .ok (.iconst 2, 1) := dk_5 (dk_at dksX1_name_0 5 rfl rfl)
theorem dX1_name_6 : decode cX1_name 6 = .ok (.if_icmp .ne 31, 3) := dk_160 0 31 (dk_at dksX1_name_0 6 rfl rfl)
theorem dX1_name_9 : decode cX1_name 9 = .ok (.aload_n 0, 1) := dk_42 (dk_at dksX1_name_0 9 rfl rfl)
theorem dX1_name_10 : decode cX1_name 10 = .ok (.getfield 30, 3) := dk_180 0 30 (dk_at dksX1_name_0 10 rfl rfl)
theorem dX1_name_13 : decode cX1_name 13 = .ok (.aload_n 0, 1) := dk_42 (dk_at dksX1_name_0 13 rfl rfl)
theorem dX1_name_14 : decode cX1_name 14 = .ok (.getfield 50, 3) := dk_180 0 50 (dk_at dksX1_name_0 14 rfl rfl)
theorem dX1_name_17 : decode cX1_name 17 = .ok (.isub, 1) := dk_100 (dk_at dksX1_name_0 17 rfl rfl)
theorem dX1_name_18 : decode cX1_name 18 = .ok (.bipush 8, 2) := dk_16 8 (dk_at dksX1_name_0 18 rfl rfl)
theorem dX1_name_20 : decode cX1_name 20 = .ok (.if_icmp .gt 17, 3) := dk_163 0 17 (dk_at dksX1_name_0 20 rfl rfl)
theorem dX1_name_23 : decode cX1_name 23 = .ok (.aload_n 0, 1) := dk_42 (dk_at dksX1_name_0 23 rfl rfl)
theorem dX1_name_24 : decode cX1_name 24 = .ok (.ldc 94, 2) := dk_18 94 (dk_at dksX1_name_1 0 rfl rfl)
theorem dX1_name_26 : decode cX1_name 26 = .ok (.invokevirtual 86, 3) := dk_182 0 86 (dk_at dksX1_name_1 2 rfl rfl)
theorem dX1_name_29 : decode cX1_name 29 = .ok (.iconst (-1), 1) := dk_2 (dk_at dksX1_name_1 5 rfl rfl)
theorem dX1_name_30 : decode cX1_name 30 = .ok (.if_icmp .ne 7, 3) := dk_160 0 7 (dk_at dksX1_name_1 6 rfl rfl)
theorem dX1_name_33 : decode cX1_name 33 = .ok (.iconst 1, 1) := dk_4 (dk_at dksX1_name_1 9 rfl rfl)
theorem dX1_name_34 : decode cX1_name 34 = .ok (.goto 4, 3) := dk_167 0 4 (dk_at dksX1_name_1 10 rfl rfl)
theorem dX1_name_37 : decode cX1_name 37 = .ok (.iconst 0, 1) := dk_3 (dk_at dksX1_name_1 13 rfl rfl)
theorem dX1_name_38 : decode cX1_name 38 = .ok (.invokevirtual 96, 3) := dk_182 0 96 (dk_at dksX1_name_1 14 rfl rfl)
theorem dX1_name_41 : decode cX1_name 41 = .ok (.lconst 0, 1) := dk_9 (dk_at dksX1_name_1 17 rfl rfl)
theorem dX1_name_42 : decode cX1_name 42 = .ok (.lstore_n 1, 1) := dk_64 (dk_at dksX1_name_1 18 rfl rfl)
theorem dX1_name_43 : decode cX1_name 43 = .ok (.aload_n 0, 1) := dk_42 (dk_at dksX1_name_1 19 rfl rfl)
theorem dX1_name_44 : decode cX1_name 44 = .ok (.getfield 50, 3) := dk_180 0 50 (dk_at dksX1_name_1 20 rfl rfl)
theorem dX1_name_47 : decode cX1_name 47 = .ok (.istore_n 3, 1) := dk_62 (dk_at dksX1_name_1 23 rfl rfl)
theorem dX1_name_48 : decode cX1_name 48 = .ok (.iload_n 3, 1) := dk_29 (dk_at dksX1_name_2 0 rfl rfl)
theorem dX1_name_49 : decode cX1_name 49 = .ok (.aload_n 0, 1) := dk_42 (dk_at dksX1_name_2 1 rfl rfl)
theorem dX1_name_50 : decode cX1_name 50 = .ok (.getfield 30, 3) := dk_180 0 30 (dk_at dksX1_name_2 2 rfl rfl)
theorem dX1_name_53 : decode cX1_name 53 = .ok (.if_icmp .ge 21, 3) := dk_162 0 21 (dk_at dksX1_name_2 5 rfl rfl)
theorem dX1_name_56 : decode cX1_name 56 = .ok (.lload_n 1, 1) := dk_31 (dk_at dksX1_name_2 8 rfl rfl)
theorem dX1_name_57 : decode cX1_name 57 = .ok (.bipush 8, 2) := dk_16 8 (dk_at dksX1_name_2 9 rfl rfl)
theorem dX1_name_59 : decode cX1_name 59 = .ok (.lshl, 1) := dk_121 (dk_at dksX1_name_2 11 rfl rfl)
theorem dX1_name_60 : decode cX1_name 60 = .ok (.aload_n 0, 1) := dk_42 (dk_at dksX1_name_2 12 rfl rfl)
theorem dX1_name_61 : decode cX1_name 61 = .ok (.iload_n 3, 1) := dk_29 (dk_at dksX1_name_2 13 rfl rfl)
theorem dX1_name_62 : decode cX1_name 62 = .ok (.invokevirtual 46, 3) := dk_182 0 46 (dk_at dksX1_name_2 14 rfl rfl)
theorem dX1_name_65 : decode cX1_name 65 = .ok (.i2l, 1) := dk_133 (dk_at dksX1_name_2 17 rfl rfl)
theorem dX1_name_66 : decode cX1_name 66 = .ok (.lor, 1) := dk_129 (dk_at dksX1_name_2 18 rfl rfl)
theorem dX1_name_67 : decode cX1_name 67 = .ok (.lstore_n 1, 1) := dk_64 (dk_at dksX1_name_2 19 rfl rfl)
theorem dX1_name_68 : decode cX1_name 68 = .ok (.iinc 3 1, 3) := dk_132 3 1 (dk_at dksX1_name_2 20 rfl rfl)
theorem dX1_name_71 : decode cX1_name 71 = .ok (.goto (-23), 3) := dk_167 255 233 (dk_at dksX1_name_3 0 rfl rfl)
theorem dX1_name_74 : decode cX1_name 74 = .ok (.lload_n 1, 1) := dk_31 (dk_at dksX1_name_3 3 rfl rfl)
theorem dX1_name_75 : decode cX1_name 75 = .ok (.lreturn, 1) := dk_173 (dk_at dksX1_name_3 4 rfl rfl)
abbrev cX1_passed : ByteArray := prog_9_method_16_code
def yX1_passed : MethodName := ⟨RX1, "passed", "(II)I"⟩
def dkwX1_passed_0 : List UInt8 := [42, 27, 28, 182, 0, 100, 62, 42, 182, 0, 33, 29, 172]
abbrev dktX1_passed_0 : List UInt8 := dkwX1_passed_0 ++ []
theorem dksX1_passed_0 : cX1_passed.data.toList.drop 0 = dktX1_passed_0 := by decide +kernel
theorem dX1_passed_0 : decode cX1_passed 0 = .ok (.aload_n 0, 1) := dk_42 (dk_at dksX1_passed_0 0 rfl rfl)
theorem dX1_passed_1 : decode cX1_passed 1 = .ok (.iload_n 1, 1) := dk_27 (dk_at dksX1_passed_0 1 rfl rfl)
theorem dX1_passed_2 : decode cX1_passed 2 = .ok (.iload_n 2, 1) := dk_28 (dk_at dksX1_passed_0 2 rfl rfl)
theorem dX1_passed_3 : decode cX1_passed 3 = .ok (.invokevirtual 100, 3) := dk_182 0 100 (dk_at dksX1_passed_0 3 rfl rfl)
theorem dX1_passed_6 : decode cX1_passed 6 = .ok (.istore_n 3, 1) := dk_62 (dk_at dksX1_passed_0 6 rfl rfl)
theorem dX1_passed_7 : decode cX1_passed 7 = .ok (.aload_n 0, 1) := dk_42 (dk_at dksX1_passed_0 7 rfl rfl)
theorem dX1_passed_8 : decode cX1_passed 8 = .ok (.invokevirtual 33, 3) := dk_182 0 33 (dk_at dksX1_passed_0 8 rfl rfl)
theorem dX1_passed_11 : decode cX1_passed 11 = .ok (.iload_n 3, 1) := dk_29 (dk_at dksX1_passed_0 11 rfl rfl)
theorem dX1_passed_12 : decode cX1_passed 12 = .ok (.ireturn, 1) := dk_172 (dk_at dksX1_passed_0 12 rfl rfl)
abbrev cX1_number : ByteArray := prog_9_method_15_code
def yX1_number : MethodName := ⟨RX1, "number", "(II)I"⟩
def dkwX1_number_1 : List UInt8 := [161, 0, 11, 42, 180, 0, 53, 28, 164, 0, 9, 42, 7, 182, 0, 82, 191, 42, 180, 0, 53, 172]
abbrev dktX1_number_1 : List UInt8 := dkwX1_number_1 ++ []
def dkwX1_number_0 : List UInt8 := [42, 42, 180, 0, 56, 6, 160, 0, 7, 4, 167, 0, 4, 3, 182, 0, 96, 42, 180, 0, 53, 27]
abbrev dktX1_number_0 : List UInt8 := dkwX1_number_0 ++ dktX1_number_1
theorem dksX1_number_0 : cX1_number.data.toList.drop 0 = dktX1_number_0 := by decide +kernel
theorem dksX1_number_1 : cX1_number.data.toList.drop 22 = dktX1_number_1 := dk_seg dksX1_number_0 22 rfl rfl
theorem dX1_number_0 : decode cX1_number 0 = .ok (.aload_n 0, 1) := dk_42 (dk_at dksX1_number_0 0 rfl rfl)
theorem dX1_number_1 : decode cX1_number 1 = .ok (.aload_n 0, 1) := dk_42 (dk_at dksX1_number_0 1 rfl rfl)
theorem dX1_number_2 : decode cX1_number 2 = .ok (.getfield 56, 3) := dk_180 0 56 (dk_at dksX1_number_0 2 rfl rfl)
theorem dX1_number_5 : decode cX1_number 5 = .ok (.iconst 3, 1) := dk_6 (dk_at dksX1_number_0 5 rfl rfl)
theorem dX1_number_6 : decode cX1_number 6 = .ok (.if_icmp .ne 7, 3) := dk_160 0 7 (dk_at dksX1_number_0 6 rfl rfl)
theorem dX1_number_9 : decode cX1_number 9 = .ok (.iconst 1, 1) := dk_4 (dk_at dksX1_number_0 9 rfl rfl)
theorem dX1_number_10 : decode cX1_number 10 = .ok (.goto 4, 3) := dk_167 0 4 (dk_at dksX1_number_0 10 rfl rfl)
theorem dX1_number_13 : decode cX1_number 13 = .ok (.iconst 0, 1) := dk_3 (dk_at dksX1_number_0 13 rfl rfl)
theorem dX1_number_14 : decode cX1_number 14 = .ok (.invokevirtual 96, 3) := dk_182 0 96 (dk_at dksX1_number_0 14 rfl rfl)
theorem dX1_number_17 : decode cX1_number 17 = .ok (.aload_n 0, 1) := dk_42 (dk_at dksX1_number_0 17 rfl rfl)
theorem dX1_number_18 : decode cX1_number 18 = .ok (.getfield 53, 3) := dk_180 0 53 (dk_at dksX1_number_0 18 rfl rfl)
theorem dX1_number_21 : decode cX1_number 21 = .ok (.iload_n 1, 1) := dk_27 (dk_at dksX1_number_0 21 rfl rfl)
theorem dX1_number_22 : decode cX1_number 22 = .ok (.if_icmp .lt 11, 3) := dk_161 0 11 (dk_at dksX1_number_1 0 rfl rfl)
theorem dX1_number_25 : decode cX1_number 25 = .ok (.aload_n 0, 1) := dk_42 (dk_at dksX1_number_1 3 rfl rfl)
theorem dX1_number_26 : decode cX1_number 26 = .ok (.getfield 53, 3) := dk_180 0 53 (dk_at dksX1_number_1 4 rfl rfl)
theorem dX1_number_29 : decode cX1_number 29 = .ok (.iload_n 2, 1) := dk_28 (dk_at dksX1_number_1 7 rfl rfl)
theorem dX1_number_30 : decode cX1_number 30 = .ok (.if_icmp .le 9, 3) := dk_164 0 9 (dk_at dksX1_number_1 8 rfl rfl)
theorem dX1_number_33 : decode cX1_number 33 = .ok (.aload_n 0, 1) := dk_42 (dk_at dksX1_number_1 11 rfl rfl)
theorem dX1_number_34 : decode cX1_number 34 = .ok (.iconst 4, 1) := dk_7 (dk_at dksX1_number_1 12 rfl rfl)
theorem dX1_number_35 : decode cX1_number 35 = .ok (.invokevirtual 82, 3) := dk_182 0 82 (dk_at dksX1_number_1 13 rfl rfl)
theorem dX1_number_38 : decode cX1_number 38 = .ok (.athrow, 1) := dk_191 (dk_at dksX1_number_1 16 rfl rfl)
theorem dX1_number_39 : decode cX1_number 39 = .ok (.aload_n 0, 1) := dk_42 (dk_at dksX1_number_1 17 rfl rfl)
theorem dX1_number_40 : decode cX1_number 40 = .ok (.getfield 53, 3) := dk_180 0 53 (dk_at dksX1_number_1 18 rfl rfl)
theorem dX1_number_43 : decode cX1_number 43 = .ok (.ireturn, 1) := dk_172 (dk_at dksX1_number_1 21 rfl rfl)
abbrev cX1_is : ByteArray := prog_9_method_13_code
def yX1_is : MethodName := ⟨RX1, "is", "(I)Z"⟩
def dkwX1_is_0 : List UInt8 := [42, 180, 0, 56, 7, 160, 0, 15, 42, 180, 0, 53, 27, 160, 0, 7, 4, 167, 0, 4, 3, 172]
abbrev dktX1_is_0 : List UInt8 := dkwX1_is_0 ++ []
theorem dksX1_is_0 : cX1_is.data.toList.drop 0 = dktX1_is_0 := by decide +kernel
theorem dX1_is_0 : decode cX1_is 0 = .ok (.aload_n 0, 1) := dk_42 (dk_at dksX1_is_0 0 rfl rfl)
theorem dX1_is_1 : decode cX1_is 1 = .ok (.getfield 56, 3) := dk_180 0 56 (dk_at dksX1_is_0 1 rfl rfl)
theorem dX1_is_4 : decode cX1_is 4 = .ok (.iconst 4, 1) := dk_7 (dk_at dksX1_is_0 4 rfl rfl)
theorem dX1_is_5 : decode cX1_is 5 = .ok (.if_icmp .ne 15, 3) := dk_160 0 15 (dk_at dksX1_is_0 5 rfl rfl)
theorem dX1_is_8 : decode cX1_is 8 = .ok (.aload_n 0, 1) := dk_42 (dk_at dksX1_is_0 8 rfl rfl)
theorem dX1_is_9 : decode cX1_is 9 = .ok (.getfield 53, 3) := dk_180 0 53 (dk_at dksX1_is_0 9 rfl rfl)
theorem dX1_is_12 : decode cX1_is 12 = .ok (.iload_n 1, 1) := dk_27 (dk_at dksX1_is_0 12 rfl rfl)
theorem dX1_is_13 : decode cX1_is 13 = .ok (.if_icmp .ne 7, 3) := dk_160 0 7 (dk_at dksX1_is_0 13 rfl rfl)
theorem dX1_is_16 : decode cX1_is 16 = .ok (.iconst 1, 1) := dk_4 (dk_at dksX1_is_0 16 rfl rfl)
theorem dX1_is_17 : decode cX1_is 17 = .ok (.goto 4, 3) := dk_167 0 4 (dk_at dksX1_is_0 17 rfl rfl)
theorem dX1_is_20 : decode cX1_is 20 = .ok (.iconst 0, 1) := dk_3 (dk_at dksX1_is_0 20 rfl rfl)
theorem dX1_is_21 : decode cX1_is 21 = .ok (.ireturn, 1) := dk_172 (dk_at dksX1_is_0 21 rfl rfl)
abbrev cX1_closes : ByteArray := prog_9_method_17_code
def yX1_closes : MethodName := ⟨RX1, "closes", "()V"⟩
def dkwX1_closes_0 : List UInt8 := [42, 42, 16, 59, 182, 0, 103, 182, 0, 96, 42, 182, 0, 33, 177]
abbrev dktX1_closes_0 : List UInt8 := dkwX1_closes_0 ++ []
theorem dksX1_closes_0 : cX1_closes.data.toList.drop 0 = dktX1_closes_0 := by decide +kernel
theorem dX1_closes_0 : decode cX1_closes 0 = .ok (.aload_n 0, 1) := dk_42 (dk_at dksX1_closes_0 0 rfl rfl)
theorem dX1_closes_1 : decode cX1_closes 1 = .ok (.aload_n 0, 1) := dk_42 (dk_at dksX1_closes_0 1 rfl rfl)
theorem dX1_closes_2 : decode cX1_closes 2 = .ok (.bipush 59, 2) := dk_16 59 (dk_at dksX1_closes_0 2 rfl rfl)
theorem dX1_closes_4 : decode cX1_closes 4 = .ok (.invokevirtual 103, 3) := dk_182 0 103 (dk_at dksX1_closes_0 4 rfl rfl)
theorem dX1_closes_7 : decode cX1_closes 7 = .ok (.invokevirtual 96, 3) := dk_182 0 96 (dk_at dksX1_closes_0 7 rfl rfl)
theorem dX1_closes_10 : decode cX1_closes 10 = .ok (.aload_n 0, 1) := dk_42 (dk_at dksX1_closes_0 10 rfl rfl)
theorem dX1_closes_11 : decode cX1_closes 11 = .ok (.invokevirtual 33, 3) := dk_182 0 33 (dk_at dksX1_closes_0 11 rfl rfl)
theorem dX1_closes_14 : decode cX1_closes 14 = .ok (.return_, 1) := dk_177 (dk_at dksX1_closes_0 14 rfl rfl)
theorem q135 : (Jvm.Cond.initialized "CableDrawer$Scan") ∈ lw_all := lw_g (lw_at lw_m1 2 rfl) rfl
theorem q271 : (Jvm.Cond.instanceMethod ({ cls := "CableDrawer$Scan", name := "<init>", desc := "([BLjava/lang/String;Ljava/lang/String;LCableDrawer$Wrong;)V" } : Jvm.MethodName)) ∈ lw_all := lw_g (lw_at lw_m1 138 rfl) rfl
theorem q272 : (Jvm.Cond.code ({ cls := "CableDrawer$Scan", name := "<init>", desc := "([BLjava/lang/String;Ljava/lang/String;LCableDrawer$Wrong;)V" } : Jvm.MethodName) prog_9_method_1_code (5 : Nat) (Option.none : Option Jvm.ClassFile.FieldType)) ∈ lw_all := lw_g (lw_at lw_m1 139 rfl) rfl
theorem q273 : (Jvm.Cond.methodLink "CableDrawer$Scan" (3 : Nat) ({ cls := "java/lang/Object", name := "<init>", desc := "()V" } : Jvm.MethodName)) ∈ lw_all := lw_g (lw_at lw_m1 140 rfl) rfl
theorem q284 : (Jvm.Cond.fieldLink "CableDrawer$Scan" (9 : Nat) "CableDrawer$Scan" "tape" "[B") ∈ lw_all := lw_g (lw_at lw_m1 151 rfl) rfl
theorem q287 : (Jvm.Cond.fieldLink "CableDrawer$Scan" (26 : Nat) "CableDrawer$Scan" "size" "I") ∈ lw_all := lw_g (lw_at lw_m1 154 rfl) rfl
theorem q290 : (Jvm.Cond.fieldLink "CableDrawer$Scan" (56 : Nat) "CableDrawer$Scan" "sort" "I") ∈ lw_all := lw_g (lw_at lw_m1 157 rfl) rfl
theorem q291 : (Jvm.Cond.fieldLink "CableDrawer$Scan" (50 : Nat) "CableDrawer$Scan" "from" "I") ∈ lw_all := lw_g (lw_at lw_m1 158 rfl) rfl
theorem q292 : (Jvm.Cond.fieldLink "CableDrawer$Scan" (30 : Nat) "CableDrawer$Scan" "end" "I") ∈ lw_all := lw_g (lw_at lw_m1 159 rfl) rfl
theorem q293 : (Jvm.Cond.fieldLink "CableDrawer$Scan" (53 : Nat) "CableDrawer$Scan" "value" "I") ∈ lw_all := lw_g (lw_at lw_m1 160 rfl) rfl
theorem q296 : (Jvm.Cond.fieldLink "CableDrawer$Scan" (15 : Nat) "CableDrawer$Scan" "keys" "Ljava/lang/String;") ∈ lw_all := lw_g (lw_at lw_m1 163 rfl) rfl
theorem q297 : (Jvm.Cond.fieldLink "CableDrawer$Scan" (19 : Nat) "CableDrawer$Scan" "signs" "Ljava/lang/String;") ∈ lw_all := lw_g (lw_at lw_m1 164 rfl) rfl
theorem q298 : (Jvm.Cond.fieldLink "CableDrawer$Scan" (22 : Nat) "CableDrawer$Scan" "wrong" "LCableDrawer$Wrong;") ∈ lw_all := lw_g (lw_at lw_m1 165 rfl) rfl
theorem q316 : (Jvm.Cond.soleField "CableDrawer$Scan" "tape") ∈ lw_all := lw_g (lw_at lw_m1 183 rfl) rfl
theorem q318 : (Jvm.Cond.soleField "CableDrawer$Scan" "size") ∈ lw_all := lw_g (lw_at lw_m1 185 rfl) rfl
theorem q320 : (Jvm.Cond.soleField "CableDrawer$Scan" "sort") ∈ lw_all := lw_g (lw_at lw_m1 187 rfl) rfl
theorem q322 : (Jvm.Cond.soleField "CableDrawer$Scan" "from") ∈ lw_all := lw_g (lw_at lw_m1 189 rfl) rfl
theorem q324 : (Jvm.Cond.soleField "CableDrawer$Scan" "end") ∈ lw_all := lw_g (lw_at lw_m1 191 rfl) rfl
theorem q326 : (Jvm.Cond.soleField "CableDrawer$Scan" "value") ∈ lw_all := lw_g (lw_at lw_m1 193 rfl) rfl
theorem q328 : (Jvm.Cond.soleField "CableDrawer$Scan" "keys") ∈ lw_all := lw_g (lw_at lw_m1 195 rfl) rfl
theorem q330 : (Jvm.Cond.soleField "CableDrawer$Scan" "signs") ∈ lw_all := lw_g (lw_at lw_m1 197 rfl) rfl
theorem q332 : (Jvm.Cond.soleField "CableDrawer$Scan" "wrong") ∈ lw_all := lw_g (lw_at lw_m1 199 rfl) rfl
theorem q661 : (Jvm.Cond.declares ({ cls := "CableDrawer$Scan", name := "begin", desc := "(I)V" } : Jvm.MethodName)) ∈ lw_tbl := lw_at lw_m3 48 rfl
theorem q663 : (Jvm.Cond.instanceMethod ({ cls := "CableDrawer$Scan", name := "begin", desc := "(I)V" } : Jvm.MethodName)) ∈ lw_all := lw_g (lw_at lw_m3 50 rfl) rfl
theorem q664 : (Jvm.Cond.code ({ cls := "CableDrawer$Scan", name := "begin", desc := "(I)V" } : Jvm.MethodName) prog_9_method_2_code (2 : Nat) (Option.none : Option Jvm.ClassFile.FieldType)) ∈ lw_all := lw_g (lw_at lw_m3 51 rfl) rfl
theorem q665 : (Jvm.Cond.methodLink "CableDrawer$Scan" (33 : Nat) ({ cls := "CableDrawer$Scan", name := "next", desc := "()V" } : Jvm.MethodName)) ∈ lw_all := lw_g (lw_at lw_m3 52 rfl) rfl
theorem q666 : (Jvm.Cond.instanceMethod ({ cls := "CableDrawer$Scan", name := "next", desc := "()V" } : Jvm.MethodName)) ∈ lw_all := lw_g (lw_at lw_m3 53 rfl) rfl
theorem q667 : (Jvm.Cond.sameMethod "CableDrawer$Scan" "CableDrawer$Scan" "next" "()V") ∈ lw_all := lw_g (lw_at lw_m3 54 rfl) rfl
theorem q669 : (Jvm.Cond.code ({ cls := "CableDrawer$Scan", name := "next", desc := "()V" } : Jvm.MethodName) prog_9_method_7_code (2 : Nat) (Option.none : Option Jvm.ClassFile.FieldType)) ∈ lw_all := lw_g (lw_at lw_m3 56 rfl) rfl
theorem q670 : (Jvm.Cond.methodLink "CableDrawer$Scan" (46 : Nat) ({ cls := "CableDrawer$Scan", name := "at", desc := "(I)I" } : Jvm.MethodName)) ∈ lw_all := lw_g (lw_at lw_m3 57 rfl) rfl
theorem q671 : (Jvm.Cond.privateMethod ({ cls := "CableDrawer$Scan", name := "at", desc := "(I)I" } : Jvm.MethodName)) ∈ lw_tbl := lw_at lw_m3 58 rfl
theorem q672 : (Jvm.Cond.instanceMethod ({ cls := "CableDrawer$Scan", name := "at", desc := "(I)I" } : Jvm.MethodName)) ∈ lw_all := lw_g (lw_at lw_m3 59 rfl) rfl
theorem q673 : (Jvm.Cond.code ({ cls := "CableDrawer$Scan", name := "at", desc := "(I)I" } : Jvm.MethodName) prog_9_method_3_code (2 : Nat) (Option.some Jvm.ClassFile.FieldType.int)) ∈ lw_all := lw_g (lw_at lw_m3 60 rfl) rfl
theorem q674 : (Jvm.Cond.methodLink "CableDrawer$Scan" (59 : Nat) ({ cls := "CableDrawer$Scan", name := "isSmall", desc := "(I)Z" } : Jvm.MethodName)) ∈ lw_all := lw_g (lw_at lw_m3 61 rfl) rfl
theorem q675 : (Jvm.Cond.static ({ cls := "CableDrawer$Scan", name := "isSmall", desc := "(I)Z" } : Jvm.MethodName)) ∈ lw_all := lw_g (lw_at lw_m3 62 rfl) rfl
theorem q676 : (Jvm.Cond.code ({ cls := "CableDrawer$Scan", name := "isSmall", desc := "(I)Z" } : Jvm.MethodName) prog_9_method_5_code (1 : Nat) (Option.some Jvm.ClassFile.FieldType.boolean)) ∈ lw_all := lw_g (lw_at lw_m3 63 rfl) rfl
theorem q677 : (Jvm.Cond.methodLink "CableDrawer$Scan" (63 : Nat) ({ cls := "CableDrawer$Scan", name := "isDigit", desc := "(I)Z" } : Jvm.MethodName)) ∈ lw_all := lw_g (lw_at lw_m3 64 rfl) rfl
theorem q678 : (Jvm.Cond.static ({ cls := "CableDrawer$Scan", name := "isDigit", desc := "(I)Z" } : Jvm.MethodName)) ∈ lw_all := lw_g (lw_at lw_m3 65 rfl) rfl
theorem q679 : (Jvm.Cond.code ({ cls := "CableDrawer$Scan", name := "isDigit", desc := "(I)Z" } : Jvm.MethodName) prog_9_method_4_code (1 : Nat) (Option.some Jvm.ClassFile.FieldType.boolean)) ∈ lw_all := lw_g (lw_at lw_m3 66 rfl) rfl
theorem q680 : (Jvm.Cond.constant "CableDrawer$Scan" (66 : Nat) (100000 : Int32)) ∈ lw_all := lw_g (lw_at lw_m3 67 rfl) rfl
theorem q681 : (Jvm.Cond.methodLink "CableDrawer$Scan" (67 : Nat) ({ cls := "java/lang/Math", name := "min", desc := "(II)I" } : Jvm.MethodName)) ∈ lw_all := lw_g (lw_at lw_m3 68 rfl) rfl
theorem q684 : (Jvm.Cond.methodLink "CableDrawer$Scan" (73 : Nat) ({ cls := "CableDrawer$Scan", name := "isSign", desc := "(I)Z" } : Jvm.MethodName)) ∈ lw_all := lw_g (lw_at lw_m3 71 rfl) rfl
theorem q685 : (Jvm.Cond.privateMethod ({ cls := "CableDrawer$Scan", name := "isSign", desc := "(I)Z" } : Jvm.MethodName)) ∈ lw_tbl := lw_at lw_m3 72 rfl
theorem q686 : (Jvm.Cond.instanceMethod ({ cls := "CableDrawer$Scan", name := "isSign", desc := "(I)Z" } : Jvm.MethodName)) ∈ lw_all := lw_g (lw_at lw_m3 73 rfl) rfl
theorem q687 : (Jvm.Cond.code ({ cls := "CableDrawer$Scan", name := "isSign", desc := "(I)Z" } : Jvm.MethodName) prog_9_method_6_code (3 : Nat) (Option.some Jvm.ClassFile.FieldType.boolean)) ∈ lw_all := lw_g (lw_at lw_m3 74 rfl) rfl
theorem q688 : (Jvm.Cond.methodLink "CableDrawer$Scan" (36 : Nat) ({ cls := "java/lang/String", name := "length", desc := "()I" } : Jvm.MethodName)) ∈ lw_all := lw_g (lw_at lw_m3 75 rfl) rfl
theorem q698 : (Jvm.Cond.methodLink "CableDrawer$Scan" (42 : Nat) ({ cls := "java/lang/String", name := "charAt", desc := "(I)C" } : Jvm.MethodName)) ∈ lw_all := lw_g (lw_at lw_m3 85 rfl) rfl
theorem q742 : (Jvm.Cond.declares ({ cls := "CableDrawer$Scan", name := "key", desc := "()I" } : Jvm.MethodName)) ∈ lw_tbl := lw_at lw_m3 129 rfl
theorem q744 : (Jvm.Cond.instanceMethod ({ cls := "CableDrawer$Scan", name := "key", desc := "()I" } : Jvm.MethodName)) ∈ lw_all := lw_g (lw_at lw_m3 131 rfl) rfl
theorem q745 : (Jvm.Cond.code ({ cls := "CableDrawer$Scan", name := "key", desc := "()I" } : Jvm.MethodName) prog_9_method_10_code (1 : Nat) (Option.some Jvm.ClassFile.FieldType.int)) ∈ lw_all := lw_g (lw_at lw_m3 132 rfl) rfl
theorem q746 : (Jvm.Cond.methodLink "CableDrawer$Scan" (86 : Nat) ({ cls := "CableDrawer$Scan", name := "in", desc := "(Ljava/lang/String;)I" } : Jvm.MethodName)) ∈ lw_all := lw_g (lw_at lw_m3 133 rfl) rfl
theorem q747 : (Jvm.Cond.instanceMethod ({ cls := "CableDrawer$Scan", name := "in", desc := "(Ljava/lang/String;)I" } : Jvm.MethodName)) ∈ lw_all := lw_g (lw_at lw_m3 134 rfl) rfl
theorem q748 : (Jvm.Cond.sameMethod "CableDrawer$Scan" "CableDrawer$Scan" "in" "(Ljava/lang/String;)I") ∈ lw_all := lw_g (lw_at lw_m3 135 rfl) rfl
theorem q750 : (Jvm.Cond.code ({ cls := "CableDrawer$Scan", name := "in", desc := "(Ljava/lang/String;)I" } : Jvm.MethodName) prog_9_method_11_code (5 : Nat) (Option.some Jvm.ClassFile.FieldType.int)) ∈ lw_all := lw_g (lw_at lw_m3 137 rfl) rfl
theorem q751 : (Jvm.Cond.methodLink "CableDrawer$Scan" (90 : Nat) ({ cls := "CableDrawer$Scan", name := "isWord", desc := "(Ljava/lang/String;II)Z" } : Jvm.MethodName)) ∈ lw_all := lw_g (lw_at lw_m3 138 rfl) rfl
theorem q752 : (Jvm.Cond.privateMethod ({ cls := "CableDrawer$Scan", name := "isWord", desc := "(Ljava/lang/String;II)Z" } : Jvm.MethodName)) ∈ lw_tbl := lw_at lw_m3 139 rfl
theorem q753 : (Jvm.Cond.instanceMethod ({ cls := "CableDrawer$Scan", name := "isWord", desc := "(Ljava/lang/String;II)Z" } : Jvm.MethodName)) ∈ lw_all := lw_g (lw_at lw_m3 140 rfl) rfl
theorem q754 : (Jvm.Cond.code ({ cls := "CableDrawer$Scan", name := "isWord", desc := "(Ljava/lang/String;II)Z" } : Jvm.MethodName) prog_9_method_12_code (5 : Nat) (Option.some Jvm.ClassFile.FieldType.boolean)) ∈ lw_all := lw_g (lw_at lw_m3 141 rfl) rfl
theorem q757 : (Jvm.Cond.declares ({ cls := "CableDrawer$Scan", name := "need", desc := "(Z)V" } : Jvm.MethodName)) ∈ lw_tbl := lw_at lw_m3 144 rfl
theorem q759 : (Jvm.Cond.instanceMethod ({ cls := "CableDrawer$Scan", name := "need", desc := "(Z)V" } : Jvm.MethodName)) ∈ lw_all := lw_g (lw_at lw_m3 146 rfl) rfl
theorem q760 : (Jvm.Cond.code ({ cls := "CableDrawer$Scan", name := "need", desc := "(Z)V" } : Jvm.MethodName) prog_9_method_9_code (2 : Nat) (Option.none : Option Jvm.ClassFile.FieldType)) ∈ lw_all := lw_g (lw_at lw_m3 147 rfl) rfl
theorem q761 : (Jvm.Cond.methodLink "CableDrawer$Scan" (82 : Nat) ({ cls := "CableDrawer$Scan", name := "fail", desc := "(I)LCableDrawer$Wrong;" } : Jvm.MethodName)) ∈ lw_all := lw_g (lw_at lw_m3 148 rfl) rfl
theorem q762 : (Jvm.Cond.instanceMethod ({ cls := "CableDrawer$Scan", name := "fail", desc := "(I)LCableDrawer$Wrong;" } : Jvm.MethodName)) ∈ lw_all := lw_g (lw_at lw_m3 149 rfl) rfl
theorem q763 : (Jvm.Cond.sameMethod "CableDrawer$Scan" "CableDrawer$Scan" "fail" "(I)LCableDrawer$Wrong;") ∈ lw_all := lw_g (lw_at lw_m3 150 rfl) rfl
theorem q765 : (Jvm.Cond.code ({ cls := "CableDrawer$Scan", name := "fail", desc := "(I)LCableDrawer$Wrong;" } : Jvm.MethodName) prog_9_method_8_code (2 : Nat) (Option.some (Jvm.ClassFile.FieldType.object "CableDrawer$Wrong"))) ∈ lw_all := lw_g (lw_at lw_m3 152 rfl) rfl
theorem q766 : (Jvm.Cond.methodLink "CableDrawer$Scan" (76 : Nat) ({ cls := "CableDrawer$Wrong", name := "of", desc := "(II)LCableDrawer$Wrong;" } : Jvm.MethodName)) ∈ lw_all := lw_g (lw_at lw_m3 153 rfl) rfl
theorem q772 : (Jvm.Cond.declares ({ cls := "CableDrawer$Scan", name := "fail", desc := "(I)LCableDrawer$Wrong;" } : Jvm.MethodName)) ∈ lw_tbl := lw_at lw_m3 159 rfl
theorem q776 : (Jvm.Cond.declares ({ cls := "CableDrawer$Scan", name := "next", desc := "()V" } : Jvm.MethodName)) ∈ lw_tbl := lw_at lw_m3 163 rfl
theorem q786 : (Jvm.Cond.declares ({ cls := "CableDrawer$Scan", name := "name", desc := "()J" } : Jvm.MethodName)) ∈ lw_tbl := lw_at lw_m3 173 rfl
theorem q788 : (Jvm.Cond.instanceMethod ({ cls := "CableDrawer$Scan", name := "name", desc := "()J" } : Jvm.MethodName)) ∈ lw_all := lw_g (lw_at lw_m3 175 rfl) rfl
theorem q789 : (Jvm.Cond.code ({ cls := "CableDrawer$Scan", name := "name", desc := "()J" } : Jvm.MethodName) prog_9_method_14_code (4 : Nat) (Option.some Jvm.ClassFile.FieldType.long)) ∈ lw_all := lw_g (lw_at lw_m3 176 rfl) rfl
theorem q790 : (Jvm.Cond.stringRef "CableDrawer$Scan" (94 : Nat) " lead cross look long stiff ends costs used threaded tight knot from open take loosen pull cut clip when loop stop end lump free ") ∈ lw_tbl := lw_at lw_m3 177 rfl
theorem q791 : (Jvm.Cond.methodLink "CableDrawer$Scan" (96 : Nat) ({ cls := "CableDrawer$Scan", name := "need", desc := "(Z)V" } : Jvm.MethodName)) ∈ lw_all := lw_g (lw_at lw_m3 178 rfl) rfl
theorem q862 : (Jvm.Cond.declares ({ cls := "CableDrawer$Scan", name := "passed", desc := "(II)I" } : Jvm.MethodName)) ∈ lw_tbl := lw_at lw_m4 9 rfl
theorem q864 : (Jvm.Cond.instanceMethod ({ cls := "CableDrawer$Scan", name := "passed", desc := "(II)I" } : Jvm.MethodName)) ∈ lw_all := lw_g (lw_at lw_m4 11 rfl) rfl
theorem q865 : (Jvm.Cond.code ({ cls := "CableDrawer$Scan", name := "passed", desc := "(II)I" } : Jvm.MethodName) prog_9_method_16_code (4 : Nat) (Option.some Jvm.ClassFile.FieldType.int)) ∈ lw_all := lw_g (lw_at lw_m4 12 rfl) rfl
theorem q866 : (Jvm.Cond.methodLink "CableDrawer$Scan" (100 : Nat) ({ cls := "CableDrawer$Scan", name := "number", desc := "(II)I" } : Jvm.MethodName)) ∈ lw_all := lw_g (lw_at lw_m4 13 rfl) rfl
theorem q867 : (Jvm.Cond.instanceMethod ({ cls := "CableDrawer$Scan", name := "number", desc := "(II)I" } : Jvm.MethodName)) ∈ lw_all := lw_g (lw_at lw_m4 14 rfl) rfl
theorem q868 : (Jvm.Cond.sameMethod "CableDrawer$Scan" "CableDrawer$Scan" "number" "(II)I") ∈ lw_all := lw_g (lw_at lw_m4 15 rfl) rfl
theorem q870 : (Jvm.Cond.code ({ cls := "CableDrawer$Scan", name := "number", desc := "(II)I" } : Jvm.MethodName) prog_9_method_15_code (3 : Nat) (Option.some Jvm.ClassFile.FieldType.int)) ∈ lw_all := lw_g (lw_at lw_m4 17 rfl) rfl
theorem q947 : (Jvm.Cond.declares ({ cls := "CableDrawer$Scan", name := "is", desc := "(I)Z" } : Jvm.MethodName)) ∈ lw_tbl := lw_at lw_m4 94 rfl
theorem q949 : (Jvm.Cond.instanceMethod ({ cls := "CableDrawer$Scan", name := "is", desc := "(I)Z" } : Jvm.MethodName)) ∈ lw_all := lw_g (lw_at lw_m4 96 rfl) rfl
theorem q950 : (Jvm.Cond.code ({ cls := "CableDrawer$Scan", name := "is", desc := "(I)Z" } : Jvm.MethodName) prog_9_method_13_code (2 : Nat) (Option.some Jvm.ClassFile.FieldType.boolean)) ∈ lw_all := lw_g (lw_at lw_m4 97 rfl) rfl
theorem q953 : (Jvm.Cond.declares ({ cls := "CableDrawer$Scan", name := "closes", desc := "()V" } : Jvm.MethodName)) ∈ lw_tbl := lw_at lw_m4 100 rfl
theorem q955 : (Jvm.Cond.instanceMethod ({ cls := "CableDrawer$Scan", name := "closes", desc := "()V" } : Jvm.MethodName)) ∈ lw_all := lw_g (lw_at lw_m4 102 rfl) rfl
theorem q956 : (Jvm.Cond.code ({ cls := "CableDrawer$Scan", name := "closes", desc := "()V" } : Jvm.MethodName) prog_9_method_17_code (1 : Nat) (Option.none : Option Jvm.ClassFile.FieldType)) ∈ lw_all := lw_g (lw_at lw_m4 103 rfl) rfl
theorem q957 : (Jvm.Cond.methodLink "CableDrawer$Scan" (103 : Nat) ({ cls := "CableDrawer$Scan", name := "is", desc := "(I)Z" } : Jvm.MethodName)) ∈ lw_all := lw_g (lw_at lw_m4 104 rfl) rfl
theorem q2307 : (Jvm.Cond.sameMethod "CableDrawer$Scan" "CableDrawer$Scan" "at" "(I)I") ∈ lw_all := lw_g (lw_at lw_m10 14 rfl) rfl
theorem q2308 : (Jvm.Cond.sameMethod "CableDrawer$Scan" "CableDrawer$Scan" "isSign" "(I)Z") ∈ lw_all := lw_g (lw_at lw_m10 15 rfl) rfl
theorem q2309 : (Jvm.Cond.sameMethod "CableDrawer$Scan" "CableDrawer$Scan" "isWord" "(Ljava/lang/String;II)Z") ∈ lw_all := lw_g (lw_at lw_m10 16 rfl) rfl
theorem q2310 : (Jvm.Cond.sameMethod "CableDrawer$Scan" "CableDrawer$Scan" "need" "(Z)V") ∈ lw_all := lw_g (lw_at lw_m10 17 rfl) rfl
theorem q2312 : (Jvm.Cond.sameMethod "CableDrawer$Scan" "CableDrawer$Scan" "is" "(I)Z") ∈ lw_all := lw_g (lw_at lw_m10 19 rfl) rfl

/-! CableDrawer$Threaded -/
set_option maxRecDepth 100000
def RX10 : String := "CableDrawer$Threaded"
def TX10 : u_T := fun k => match k with
  | 0 => ("CableDrawer$Crossing", "over", "I", true)
  | _ => ("CableDrawer$Crossing", "under", "I", true)
def tyX10 : Nat → FieldType := fun k => match k with
  | 0 => .int
  | _ => .int
abbrev wsX100 : List Cond := u_ws RX10 TX10 2
theorem nmX10 : ∀ a, a < 2 → ∀ b, b < 2 → a ≠ b → (TX10 a).2.1 ≠ (TX10 b).2.1 := by decide +kernel
theorem tyX10_ok : ∀ k, k < 2 → parseFieldDescriptor (TX10 k).2.2.1 = some (tyX10 k) := by decide +kernel
abbrev cX10_init : ByteArray := prog_11_method_1_code
def yX10_init : MethodName := ⟨RX10, "<init>", "(II)V"⟩
def dkwX10_init_0 : List UInt8 := [42, 27, 28, 183, 0, 1, 177]
abbrev dktX10_init_0 : List UInt8 := dkwX10_init_0 ++ []
theorem dksX10_init_0 : cX10_init.data.toList.drop 0 = dktX10_init_0 := by decide +kernel
theorem dX10_init_0 : decode cX10_init 0 = .ok (.aload_n 0, 1) := dk_42 (dk_at dksX10_init_0 0 rfl rfl)
theorem dX10_init_1 : decode cX10_init 1 = .ok (.iload_n 1, 1) := dk_27 (dk_at dksX10_init_0 1 rfl rfl)
theorem dX10_init_2 : decode cX10_init 2 = .ok (.iload_n 2, 1) := dk_28 (dk_at dksX10_init_0 2 rfl rfl)
theorem dX10_init_3 : decode cX10_init 3 = .ok (.invokespecial 1, 3) := dk_183 0 1 (dk_at dksX10_init_0 3 rfl rfl)
theorem dX10_init_6 : decode cX10_init 6 = .ok (.return_, 1) := dk_177 (dk_at dksX10_init_0 6 rfl rfl)
abbrev cX10_state : ByteArray := prog_11_method_2_code
def yX10_state : MethodName := ⟨RX10, "state", "()I"⟩
theorem dX10_state_0 : decode cX10_state 0 = .ok (.iconst 1, 1) := by decide +kernel
theorem dX10_state_1 : decode cX10_state 1 = .ok (.ireturn, 1) := by decide +kernel
abbrev cX10_seconds : ByteArray := prog_11_method_3_code
def yX10_seconds : MethodName := ⟨RX10, "seconds", "()I"⟩
theorem dX10_seconds_0 : decode cX10_seconds 0 = .ok (.iconst 3, 1) := by decide +kernel
theorem dX10_seconds_1 : decode cX10_seconds 1 = .ok (.ireturn, 1) := by decide +kernel
abbrev cX10_loosened : ByteArray := prog_11_method_4_code
def yX10_loosened : MethodName := ⟨RX10, "loosened", "()I"⟩
def dkwX10_loosened_0 : List UInt8 := [42, 182, 0, 7, 4, 100, 172]
abbrev dktX10_loosened_0 : List UInt8 := dkwX10_loosened_0 ++ []
theorem dksX10_loosened_0 : cX10_loosened.data.toList.drop 0 = dktX10_loosened_0 := by decide +kernel
theorem dX10_loosened_0 : decode cX10_loosened 0 = .ok (.aload_n 0, 1) := dk_42 (dk_at dksX10_loosened_0 0 rfl rfl)
theorem dX10_loosened_1 : decode cX10_loosened 1 = .ok (.invokevirtual 7, 3) := dk_182 0 7 (dk_at dksX10_loosened_0 1 rfl rfl)
theorem dX10_loosened_4 : decode cX10_loosened 4 = .ok (.iconst 1, 1) := dk_4 (dk_at dksX10_loosened_0 4 rfl rfl)
theorem dX10_loosened_5 : decode cX10_loosened 5 = .ok (.isub, 1) := dk_100 (dk_at dksX10_loosened_0 5 rfl rfl)
theorem dX10_loosened_6 : decode cX10_loosened 6 = .ok (.ireturn, 1) := dk_172 (dk_at dksX10_loosened_0 6 rfl rfl)
abbrev cX10_pulled : ByteArray := prog_11_method_5_code
def yX10_pulled : MethodName := ⟨RX10, "pulled", "()I"⟩
def dkwX10_pulled_0 : List UInt8 := [42, 182, 0, 7, 4, 96, 172]
abbrev dktX10_pulled_0 : List UInt8 := dkwX10_pulled_0 ++ []
theorem dksX10_pulled_0 : cX10_pulled.data.toList.drop 0 = dktX10_pulled_0 := by decide +kernel
theorem dX10_pulled_0 : decode cX10_pulled 0 = .ok (.aload_n 0, 1) := dk_42 (dk_at dksX10_pulled_0 0 rfl rfl)
theorem dX10_pulled_1 : decode cX10_pulled 1 = .ok (.invokevirtual 7, 3) := dk_182 0 7 (dk_at dksX10_pulled_0 1 rfl rfl)
theorem dX10_pulled_4 : decode cX10_pulled 4 = .ok (.iconst 1, 1) := dk_4 (dk_at dksX10_pulled_0 4 rfl rfl)
theorem dX10_pulled_5 : decode cX10_pulled 5 = .ok (.iadd, 1) := dk_96 (dk_at dksX10_pulled_0 5 rfl rfl)
theorem dX10_pulled_6 : decode cX10_pulled 6 = .ok (.ireturn, 1) := dk_172 (dk_at dksX10_pulled_0 6 rfl rfl)
theorem q157 : (Jvm.Cond.initialized "CableDrawer$Threaded") ∈ lw_all := lw_g (lw_at lw_m1 24 rfl) rfl
theorem q915 : (Jvm.Cond.instantiable "CableDrawer$Threaded" (2 : Nat)) ∈ lw_all := lw_g (lw_at lw_m4 62 rfl) rfl
theorem q917 : (Jvm.Cond.instanceMethod ({ cls := "CableDrawer$Threaded", name := "<init>", desc := "(II)V" } : Jvm.MethodName)) ∈ lw_all := lw_g (lw_at lw_m4 64 rfl) rfl
theorem q918 : (Jvm.Cond.code ({ cls := "CableDrawer$Threaded", name := "<init>", desc := "(II)V" } : Jvm.MethodName) prog_11_method_1_code (3 : Nat) (Option.none : Option Jvm.ClassFile.FieldType)) ∈ lw_all := lw_g (lw_at lw_m4 65 rfl) rfl
theorem q919 : (Jvm.Cond.methodLink "CableDrawer$Threaded" (1 : Nat) ({ cls := "CableDrawer$Crossing", name := "<init>", desc := "(II)V" } : Jvm.MethodName)) ∈ lw_all := lw_g (lw_at lw_m4 66 rfl) rfl
theorem q920 : (Jvm.Cond.laysFinal "CableDrawer$Threaded" "CableDrawer$Crossing" "over" "I") ∈ lw_all := lw_g (lw_at lw_m4 67 rfl) rfl
theorem q921 : (Jvm.Cond.laysFinal "CableDrawer$Threaded" "CableDrawer$Crossing" "under" "I") ∈ lw_all := lw_g (lw_at lw_m4 68 rfl) rfl
theorem q922 : (Jvm.Cond.superclass "CableDrawer$Threaded" "CableDrawer$Crossing") ∈ lw_all := lw_g (lw_at lw_m4 69 rfl) rfl
theorem q1050 : (Jvm.Cond.selects "CableDrawer$Threaded" ({ cls := "CableDrawer$Crossing", name := "isOf", desc := "(I)Z" } : Jvm.MethodName) ({ cls := "CableDrawer$Crossing", name := "isOf", desc := "(I)Z" } : Jvm.MethodName)) ∈ lw_all := lw_g (lw_at lw_m4 197 rfl) rfl
theorem q1075 : (Jvm.Cond.instanceMethod ({ cls := "CableDrawer$Threaded", name := "state", desc := "()I" } : Jvm.MethodName)) ∈ lw_all := lw_g (lw_at lw_m4 222 rfl) rfl
theorem q1076 : (Jvm.Cond.code ({ cls := "CableDrawer$Threaded", name := "state", desc := "()I" } : Jvm.MethodName) prog_11_method_2_code (1 : Nat) (Option.some Jvm.ClassFile.FieldType.int)) ∈ lw_all := lw_g (lw_at lw_m4 223 rfl) rfl
theorem q1080 : (Jvm.Cond.selects "CableDrawer$Threaded" ({ cls := "CableDrawer$Crossing", name := "state", desc := "()I" } : Jvm.MethodName) ({ cls := "CableDrawer$Threaded", name := "state", desc := "()I" } : Jvm.MethodName)) ∈ lw_all := lw_g (lw_at lw_m4 227 rfl) rfl
theorem q1142 : (Jvm.Cond.instanceMethod ({ cls := "CableDrawer$Threaded", name := "seconds", desc := "()I" } : Jvm.MethodName)) ∈ lw_all := lw_g (lw_at lw_m5 49 rfl) rfl
theorem q1143 : (Jvm.Cond.code ({ cls := "CableDrawer$Threaded", name := "seconds", desc := "()I" } : Jvm.MethodName) prog_11_method_3_code (1 : Nat) (Option.some Jvm.ClassFile.FieldType.int)) ∈ lw_all := lw_g (lw_at lw_m5 50 rfl) rfl
theorem q1147 : (Jvm.Cond.selects "CableDrawer$Threaded" ({ cls := "CableDrawer$Crossing", name := "seconds", desc := "()I" } : Jvm.MethodName) ({ cls := "CableDrawer$Threaded", name := "seconds", desc := "()I" } : Jvm.MethodName)) ∈ lw_all := lw_g (lw_at lw_m5 54 rfl) rfl
theorem q1154 : (Jvm.Cond.selects "CableDrawer$Threaded" ({ cls := "CableDrawer$Crossing", name := "other", desc := "(I)I" } : Jvm.MethodName) ({ cls := "CableDrawer$Crossing", name := "other", desc := "(I)I" } : Jvm.MethodName)) ∈ lw_all := lw_g (lw_at lw_m5 61 rfl) rfl
theorem q1179 : (Jvm.Cond.selects "CableDrawer$Threaded" ({ cls := "CableDrawer$Crossing", name := "loosened", desc := "()I" } : Jvm.MethodName) ({ cls := "CableDrawer$Threaded", name := "loosened", desc := "()I" } : Jvm.MethodName)) ∈ lw_all := lw_g (lw_at lw_m5 86 rfl) rfl
theorem q1180 : (Jvm.Cond.instanceMethod ({ cls := "CableDrawer$Threaded", name := "loosened", desc := "()I" } : Jvm.MethodName)) ∈ lw_all := lw_g (lw_at lw_m5 87 rfl) rfl
theorem q1181 : (Jvm.Cond.code ({ cls := "CableDrawer$Threaded", name := "loosened", desc := "()I" } : Jvm.MethodName) prog_11_method_4_code (1 : Nat) (Option.some Jvm.ClassFile.FieldType.int)) ∈ lw_all := lw_g (lw_at lw_m5 88 rfl) rfl
theorem q1182 : (Jvm.Cond.methodLink "CableDrawer$Threaded" (7 : Nat) ({ cls := "CableDrawer$Threaded", name := "state", desc := "()I" } : Jvm.MethodName)) ∈ lw_all := lw_g (lw_at lw_m5 89 rfl) rfl
theorem q1212 : (Jvm.Cond.selects "CableDrawer$Threaded" ({ cls := "CableDrawer$Crossing", name := "holds", desc := "()Z" } : Jvm.MethodName) ({ cls := "CableDrawer$Crossing", name := "holds", desc := "()Z" } : Jvm.MethodName)) ∈ lw_all := lw_g (lw_at lw_m5 119 rfl) rfl
theorem q1224 : (Jvm.Cond.selects "CableDrawer$Threaded" ({ cls := "CableDrawer$Crossing", name := "pulled", desc := "()I" } : Jvm.MethodName) ({ cls := "CableDrawer$Threaded", name := "pulled", desc := "()I" } : Jvm.MethodName)) ∈ lw_all := lw_g (lw_at lw_m5 131 rfl) rfl
theorem q1225 : (Jvm.Cond.instanceMethod ({ cls := "CableDrawer$Threaded", name := "pulled", desc := "()I" } : Jvm.MethodName)) ∈ lw_all := lw_g (lw_at lw_m5 132 rfl) rfl
theorem q1226 : (Jvm.Cond.code ({ cls := "CableDrawer$Threaded", name := "pulled", desc := "()I" } : Jvm.MethodName) prog_11_method_5_code (1 : Nat) (Option.some Jvm.ClassFile.FieldType.int)) ∈ lw_all := lw_g (lw_at lw_m5 133 rfl) rfl
theorem q2315 : (Jvm.Cond.sameMethod "CableDrawer$Threaded" "CableDrawer$Threaded" "state" "()I") ∈ lw_all := lw_g (lw_at lw_m10 22 rfl) rfl
theorem q2317 : (Jvm.Cond.sameMethod "CableDrawer$Threaded" "CableDrawer$Threaded" "seconds" "()I") ∈ lw_all := lw_g (lw_at lw_m10 24 rfl) rfl
theorem q2320 : (Jvm.Cond.selects "CableDrawer$Threaded" ({ cls := "CableDrawer$Threaded", name := "state", desc := "()I" } : Jvm.MethodName) ({ cls := "CableDrawer$Threaded", name := "state", desc := "()I" } : Jvm.MethodName)) ∈ lw_all := lw_g (lw_at lw_m10 27 rfl) rfl
theorem q2324 : (Jvm.Cond.castable "CableDrawer$Threaded" "CableDrawer$Crossing") ∈ lw_tbl := lw_at lw_m10 31 rfl
theorem in_X10 : ∀ w ∈ wsX100, w ∈ lw_all := lw_in wsX100 [920, 921] (by decide +kernel) (by decide +kernel)

/-! CableDrawer$Tight -/
set_option maxRecDepth 100000
def RX11 : String := "CableDrawer$Tight"
def TX11 : u_T := fun k => match k with
  | 0 => ("CableDrawer$Crossing", "over", "I", true)
  | _ => ("CableDrawer$Crossing", "under", "I", true)
def tyX11 : Nat → FieldType := fun k => match k with
  | 0 => .int
  | _ => .int
abbrev wsX110 : List Cond := u_ws RX11 TX11 2
theorem nmX11 : ∀ a, a < 2 → ∀ b, b < 2 → a ≠ b → (TX11 a).2.1 ≠ (TX11 b).2.1 := by decide +kernel
theorem tyX11_ok : ∀ k, k < 2 → parseFieldDescriptor (TX11 k).2.2.1 = some (tyX11 k) := by decide +kernel
abbrev cX11_init : ByteArray := prog_12_method_1_code
def yX11_init : MethodName := ⟨RX11, "<init>", "(II)V"⟩
def dkwX11_init_0 : List UInt8 := [42, 27, 28, 183, 0, 1, 177]
abbrev dktX11_init_0 : List UInt8 := dkwX11_init_0 ++ []
theorem dksX11_init_0 : cX11_init.data.toList.drop 0 = dktX11_init_0 := by decide +kernel
theorem dX11_init_0 : decode cX11_init 0 = .ok (.aload_n 0, 1) := dk_42 (dk_at dksX11_init_0 0 rfl rfl)
theorem dX11_init_1 : decode cX11_init 1 = .ok (.iload_n 1, 1) := dk_27 (dk_at dksX11_init_0 1 rfl rfl)
theorem dX11_init_2 : decode cX11_init 2 = .ok (.iload_n 2, 1) := dk_28 (dk_at dksX11_init_0 2 rfl rfl)
theorem dX11_init_3 : decode cX11_init 3 = .ok (.invokespecial 1, 3) := dk_183 0 1 (dk_at dksX11_init_0 3 rfl rfl)
theorem dX11_init_6 : decode cX11_init 6 = .ok (.return_, 1) := dk_177 (dk_at dksX11_init_0 6 rfl rfl)
abbrev cX11_state : ByteArray := prog_12_method_2_code
def yX11_state : MethodName := ⟨RX11, "state", "()I"⟩
def dkwX11_state_0 : List UInt8 := [42, 183, 0, 7, 4, 96, 172]
abbrev dktX11_state_0 : List UInt8 := dkwX11_state_0 ++ []
theorem dksX11_state_0 : cX11_state.data.toList.drop 0 = dktX11_state_0 := by decide +kernel
theorem dX11_state_0 : decode cX11_state 0 = .ok (.aload_n 0, 1) := dk_42 (dk_at dksX11_state_0 0 rfl rfl)
theorem dX11_state_1 : decode cX11_state 1 = .ok (.invokespecial 7, 3) := dk_183 0 7 (dk_at dksX11_state_0 1 rfl rfl)
theorem dX11_state_4 : decode cX11_state 4 = .ok (.iconst 1, 1) := dk_4 (dk_at dksX11_state_0 4 rfl rfl)
theorem dX11_state_5 : decode cX11_state 5 = .ok (.iadd, 1) := dk_96 (dk_at dksX11_state_0 5 rfl rfl)
theorem dX11_state_6 : decode cX11_state 6 = .ok (.ireturn, 1) := dk_172 (dk_at dksX11_state_0 6 rfl rfl)
abbrev cX11_seconds : ByteArray := prog_12_method_3_code
def yX11_seconds : MethodName := ⟨RX11, "seconds", "()I"⟩
def dkwX11_seconds_0 : List UInt8 := [5, 42, 183, 0, 11, 104, 172]
abbrev dktX11_seconds_0 : List UInt8 := dkwX11_seconds_0 ++ []
theorem dksX11_seconds_0 : cX11_seconds.data.toList.drop 0 = dktX11_seconds_0 := by decide +kernel
theorem dX11_seconds_0 : decode cX11_seconds 0 = .ok (.iconst 2, 1) := dk_5 (dk_at dksX11_seconds_0 0 rfl rfl)
theorem dX11_seconds_1 : decode cX11_seconds 1 = .ok (.aload_n 0, 1) := dk_42 (dk_at dksX11_seconds_0 1 rfl rfl)
theorem dX11_seconds_2 : decode cX11_seconds 2 = .ok (.invokespecial 11, 3) := dk_183 0 11 (dk_at dksX11_seconds_0 2 rfl rfl)
theorem dX11_seconds_5 : decode cX11_seconds 5 = .ok (.imul, 1) := dk_104 (dk_at dksX11_seconds_0 5 rfl rfl)
theorem dX11_seconds_6 : decode cX11_seconds 6 = .ok (.ireturn, 1) := dk_172 (dk_at dksX11_seconds_0 6 rfl rfl)
theorem q158 : (Jvm.Cond.initialized "CableDrawer$Tight") ∈ lw_all := lw_g (lw_at lw_m1 25 rfl) rfl
theorem q924 : (Jvm.Cond.instantiable "CableDrawer$Tight" (2 : Nat)) ∈ lw_all := lw_g (lw_at lw_m4 71 rfl) rfl
theorem q926 : (Jvm.Cond.instanceMethod ({ cls := "CableDrawer$Tight", name := "<init>", desc := "(II)V" } : Jvm.MethodName)) ∈ lw_all := lw_g (lw_at lw_m4 73 rfl) rfl
theorem q927 : (Jvm.Cond.code ({ cls := "CableDrawer$Tight", name := "<init>", desc := "(II)V" } : Jvm.MethodName) prog_12_method_1_code (3 : Nat) (Option.none : Option Jvm.ClassFile.FieldType)) ∈ lw_all := lw_g (lw_at lw_m4 74 rfl) rfl
theorem q928 : (Jvm.Cond.methodLink "CableDrawer$Tight" (1 : Nat) ({ cls := "CableDrawer$Threaded", name := "<init>", desc := "(II)V" } : Jvm.MethodName)) ∈ lw_all := lw_g (lw_at lw_m4 75 rfl) rfl
theorem q929 : (Jvm.Cond.laysFinal "CableDrawer$Tight" "CableDrawer$Crossing" "over" "I") ∈ lw_all := lw_g (lw_at lw_m4 76 rfl) rfl
theorem q930 : (Jvm.Cond.laysFinal "CableDrawer$Tight" "CableDrawer$Crossing" "under" "I") ∈ lw_all := lw_g (lw_at lw_m4 77 rfl) rfl
theorem q931 : (Jvm.Cond.superclass "CableDrawer$Tight" "CableDrawer$Threaded") ∈ lw_all := lw_g (lw_at lw_m4 78 rfl) rfl
theorem q1051 : (Jvm.Cond.selects "CableDrawer$Tight" ({ cls := "CableDrawer$Crossing", name := "isOf", desc := "(I)Z" } : Jvm.MethodName) ({ cls := "CableDrawer$Crossing", name := "isOf", desc := "(I)Z" } : Jvm.MethodName)) ∈ lw_all := lw_g (lw_at lw_m4 198 rfl) rfl
theorem q1072 : (Jvm.Cond.instanceMethod ({ cls := "CableDrawer$Tight", name := "state", desc := "()I" } : Jvm.MethodName)) ∈ lw_all := lw_g (lw_at lw_m4 219 rfl) rfl
theorem q1073 : (Jvm.Cond.code ({ cls := "CableDrawer$Tight", name := "state", desc := "()I" } : Jvm.MethodName) prog_12_method_2_code (1 : Nat) (Option.some Jvm.ClassFile.FieldType.int)) ∈ lw_all := lw_g (lw_at lw_m4 220 rfl) rfl
theorem q1074 : (Jvm.Cond.methodLink "CableDrawer$Tight" (7 : Nat) ({ cls := "CableDrawer$Threaded", name := "state", desc := "()I" } : Jvm.MethodName)) ∈ lw_all := lw_g (lw_at lw_m4 221 rfl) rfl
theorem q1081 : (Jvm.Cond.selects "CableDrawer$Tight" ({ cls := "CableDrawer$Crossing", name := "state", desc := "()I" } : Jvm.MethodName) ({ cls := "CableDrawer$Tight", name := "state", desc := "()I" } : Jvm.MethodName)) ∈ lw_all := lw_g (lw_at lw_m4 228 rfl) rfl
theorem q1139 : (Jvm.Cond.instanceMethod ({ cls := "CableDrawer$Tight", name := "seconds", desc := "()I" } : Jvm.MethodName)) ∈ lw_all := lw_g (lw_at lw_m5 46 rfl) rfl
theorem q1140 : (Jvm.Cond.code ({ cls := "CableDrawer$Tight", name := "seconds", desc := "()I" } : Jvm.MethodName) prog_12_method_3_code (1 : Nat) (Option.some Jvm.ClassFile.FieldType.int)) ∈ lw_all := lw_g (lw_at lw_m5 47 rfl) rfl
theorem q1141 : (Jvm.Cond.methodLink "CableDrawer$Tight" (11 : Nat) ({ cls := "CableDrawer$Threaded", name := "seconds", desc := "()I" } : Jvm.MethodName)) ∈ lw_all := lw_g (lw_at lw_m5 48 rfl) rfl
theorem q1148 : (Jvm.Cond.selects "CableDrawer$Tight" ({ cls := "CableDrawer$Crossing", name := "seconds", desc := "()I" } : Jvm.MethodName) ({ cls := "CableDrawer$Tight", name := "seconds", desc := "()I" } : Jvm.MethodName)) ∈ lw_all := lw_g (lw_at lw_m5 55 rfl) rfl
theorem q1155 : (Jvm.Cond.selects "CableDrawer$Tight" ({ cls := "CableDrawer$Crossing", name := "other", desc := "(I)I" } : Jvm.MethodName) ({ cls := "CableDrawer$Crossing", name := "other", desc := "(I)I" } : Jvm.MethodName)) ∈ lw_all := lw_g (lw_at lw_m5 62 rfl) rfl
theorem q1183 : (Jvm.Cond.selects "CableDrawer$Tight" ({ cls := "CableDrawer$Crossing", name := "loosened", desc := "()I" } : Jvm.MethodName) ({ cls := "CableDrawer$Threaded", name := "loosened", desc := "()I" } : Jvm.MethodName)) ∈ lw_all := lw_g (lw_at lw_m5 90 rfl) rfl
theorem q1213 : (Jvm.Cond.selects "CableDrawer$Tight" ({ cls := "CableDrawer$Crossing", name := "holds", desc := "()Z" } : Jvm.MethodName) ({ cls := "CableDrawer$Crossing", name := "holds", desc := "()Z" } : Jvm.MethodName)) ∈ lw_all := lw_g (lw_at lw_m5 120 rfl) rfl
theorem q1227 : (Jvm.Cond.selects "CableDrawer$Tight" ({ cls := "CableDrawer$Crossing", name := "pulled", desc := "()I" } : Jvm.MethodName) ({ cls := "CableDrawer$Threaded", name := "pulled", desc := "()I" } : Jvm.MethodName)) ∈ lw_all := lw_g (lw_at lw_m5 134 rfl) rfl
theorem q2314 : (Jvm.Cond.sameMethod "CableDrawer$Tight" "CableDrawer$Tight" "state" "()I") ∈ lw_all := lw_g (lw_at lw_m10 21 rfl) rfl
theorem q2316 : (Jvm.Cond.sameMethod "CableDrawer$Tight" "CableDrawer$Tight" "seconds" "()I") ∈ lw_all := lw_g (lw_at lw_m10 23 rfl) rfl
theorem q2321 : (Jvm.Cond.selects "CableDrawer$Tight" ({ cls := "CableDrawer$Threaded", name := "state", desc := "()I" } : Jvm.MethodName) ({ cls := "CableDrawer$Tight", name := "state", desc := "()I" } : Jvm.MethodName)) ∈ lw_all := lw_g (lw_at lw_m10 28 rfl) rfl
theorem q2325 : (Jvm.Cond.castable "CableDrawer$Tight" "CableDrawer$Crossing") ∈ lw_tbl := lw_at lw_m10 32 rfl
theorem in_X11 : ∀ w ∈ wsX110, w ∈ lw_all := lw_in wsX110 [929, 930] (by decide +kernel) (by decide +kernel)

/-! CableDrawer$Knotted -/
set_option maxRecDepth 100000
def RX12 : String := "CableDrawer$Knotted"
def TX12 : u_T := fun k => match k with
  | 0 => ("CableDrawer$Crossing", "over", "I", true)
  | _ => ("CableDrawer$Crossing", "under", "I", true)
def tyX12 : Nat → FieldType := fun k => match k with
  | 0 => .int
  | _ => .int
abbrev wsX120 : List Cond := u_ws RX12 TX12 2
theorem nmX12 : ∀ a, a < 2 → ∀ b, b < 2 → a ≠ b → (TX12 a).2.1 ≠ (TX12 b).2.1 := by decide +kernel
theorem tyX12_ok : ∀ k, k < 2 → parseFieldDescriptor (TX12 k).2.2.1 = some (tyX12 k) := by decide +kernel
abbrev cX12_init : ByteArray := prog_5_method_1_code
def yX12_init : MethodName := ⟨RX12, "<init>", "(II)V"⟩
def dkwX12_init_0 : List UInt8 := [42, 27, 28, 183, 0, 1, 177]
abbrev dktX12_init_0 : List UInt8 := dkwX12_init_0 ++ []
theorem dksX12_init_0 : cX12_init.data.toList.drop 0 = dktX12_init_0 := by decide +kernel
theorem dX12_init_0 : decode cX12_init 0 = .ok (.aload_n 0, 1) := dk_42 (dk_at dksX12_init_0 0 rfl rfl)
theorem dX12_init_1 : decode cX12_init 1 = .ok (.iload_n 1, 1) := dk_27 (dk_at dksX12_init_0 1 rfl rfl)
theorem dX12_init_2 : decode cX12_init 2 = .ok (.iload_n 2, 1) := dk_28 (dk_at dksX12_init_0 2 rfl rfl)
theorem dX12_init_3 : decode cX12_init 3 = .ok (.invokespecial 1, 3) := dk_183 0 1 (dk_at dksX12_init_0 3 rfl rfl)
theorem dX12_init_6 : decode cX12_init 6 = .ok (.return_, 1) := dk_177 (dk_at dksX12_init_0 6 rfl rfl)
abbrev cX12_state : ByteArray := prog_5_method_2_code
def yX12_state : MethodName := ⟨RX12, "state", "()I"⟩
def dkwX12_state_0 : List UInt8 := [42, 183, 0, 7, 4, 96, 172]
abbrev dktX12_state_0 : List UInt8 := dkwX12_state_0 ++ []
theorem dksX12_state_0 : cX12_state.data.toList.drop 0 = dktX12_state_0 := by decide +kernel
theorem dX12_state_0 : decode cX12_state 0 = .ok (.aload_n 0, 1) := dk_42 (dk_at dksX12_state_0 0 rfl rfl)
theorem dX12_state_1 : decode cX12_state 1 = .ok (.invokespecial 7, 3) := dk_183 0 7 (dk_at dksX12_state_0 1 rfl rfl)
theorem dX12_state_4 : decode cX12_state 4 = .ok (.iconst 1, 1) := dk_4 (dk_at dksX12_state_0 4 rfl rfl)
theorem dX12_state_5 : decode cX12_state 5 = .ok (.iadd, 1) := dk_96 (dk_at dksX12_state_0 5 rfl rfl)
theorem dX12_state_6 : decode cX12_state 6 = .ok (.ireturn, 1) := dk_172 (dk_at dksX12_state_0 6 rfl rfl)
abbrev cX12_seconds : ByteArray := prog_5_method_3_code
def yX12_seconds : MethodName := ⟨RX12, "seconds", "()I"⟩
def dkwX12_seconds_0 : List UInt8 := [42, 183, 0, 11, 16, 9, 96, 172]
abbrev dktX12_seconds_0 : List UInt8 := dkwX12_seconds_0 ++ []
theorem dksX12_seconds_0 : cX12_seconds.data.toList.drop 0 = dktX12_seconds_0 := by decide +kernel
theorem dX12_seconds_0 : decode cX12_seconds 0 = .ok (.aload_n 0, 1) := dk_42 (dk_at dksX12_seconds_0 0 rfl rfl)
theorem dX12_seconds_1 : decode cX12_seconds 1 = .ok (.invokespecial 11, 3) := dk_183 0 11 (dk_at dksX12_seconds_0 1 rfl rfl)
theorem dX12_seconds_4 : decode cX12_seconds 4 = .ok (.bipush 9, 2) := dk_16 9 (dk_at dksX12_seconds_0 4 rfl rfl)
theorem dX12_seconds_6 : decode cX12_seconds 6 = .ok (.iadd, 1) := dk_96 (dk_at dksX12_seconds_0 6 rfl rfl)
theorem dX12_seconds_7 : decode cX12_seconds 7 = .ok (.ireturn, 1) := dk_172 (dk_at dksX12_seconds_0 7 rfl rfl)
abbrev cX12_loosened : ByteArray := prog_5_method_4_code
def yX12_loosened : MethodName := ⟨RX12, "loosened", "()I"⟩
theorem dX12_loosened_0 : decode cX12_loosened 0 = .ok (.aload_n 0, 1) := by decide +kernel
theorem dX12_loosened_1 : decode cX12_loosened 1 = .ok (.invokevirtual 14, 3) := by decide +kernel
theorem dX12_loosened_4 : decode cX12_loosened 4 = .ok (.ireturn, 1) := by decide +kernel
abbrev cX12_pulled : ByteArray := prog_5_method_5_code
def yX12_pulled : MethodName := ⟨RX12, "pulled", "()I"⟩
theorem dX12_pulled_0 : decode cX12_pulled 0 = .ok (.aload_n 0, 1) := by decide +kernel
theorem dX12_pulled_1 : decode cX12_pulled 1 = .ok (.invokevirtual 14, 3) := by decide +kernel
theorem dX12_pulled_4 : decode cX12_pulled 4 = .ok (.ireturn, 1) := by decide +kernel
theorem q159 : (Jvm.Cond.initialized "CableDrawer$Knotted") ∈ lw_all := lw_g (lw_at lw_m1 26 rfl) rfl
theorem q933 : (Jvm.Cond.instantiable "CableDrawer$Knotted" (2 : Nat)) ∈ lw_all := lw_g (lw_at lw_m4 80 rfl) rfl
theorem q935 : (Jvm.Cond.instanceMethod ({ cls := "CableDrawer$Knotted", name := "<init>", desc := "(II)V" } : Jvm.MethodName)) ∈ lw_all := lw_g (lw_at lw_m4 82 rfl) rfl
theorem q936 : (Jvm.Cond.code ({ cls := "CableDrawer$Knotted", name := "<init>", desc := "(II)V" } : Jvm.MethodName) prog_5_method_1_code (3 : Nat) (Option.none : Option Jvm.ClassFile.FieldType)) ∈ lw_all := lw_g (lw_at lw_m4 83 rfl) rfl
theorem q937 : (Jvm.Cond.methodLink "CableDrawer$Knotted" (1 : Nat) ({ cls := "CableDrawer$Tight", name := "<init>", desc := "(II)V" } : Jvm.MethodName)) ∈ lw_all := lw_g (lw_at lw_m4 84 rfl) rfl
theorem q938 : (Jvm.Cond.laysFinal "CableDrawer$Knotted" "CableDrawer$Crossing" "over" "I") ∈ lw_all := lw_g (lw_at lw_m4 85 rfl) rfl
theorem q939 : (Jvm.Cond.laysFinal "CableDrawer$Knotted" "CableDrawer$Crossing" "under" "I") ∈ lw_all := lw_g (lw_at lw_m4 86 rfl) rfl
theorem q940 : (Jvm.Cond.superclass "CableDrawer$Knotted" "CableDrawer$Tight") ∈ lw_all := lw_g (lw_at lw_m4 87 rfl) rfl
theorem q1048 : (Jvm.Cond.selects "CableDrawer$Knotted" ({ cls := "CableDrawer$Crossing", name := "isOf", desc := "(I)Z" } : Jvm.MethodName) ({ cls := "CableDrawer$Crossing", name := "isOf", desc := "(I)Z" } : Jvm.MethodName)) ∈ lw_all := lw_g (lw_at lw_m4 195 rfl) rfl
theorem q1068 : (Jvm.Cond.selects "CableDrawer$Knotted" ({ cls := "CableDrawer$Crossing", name := "state", desc := "()I" } : Jvm.MethodName) ({ cls := "CableDrawer$Knotted", name := "state", desc := "()I" } : Jvm.MethodName)) ∈ lw_all := lw_g (lw_at lw_m4 215 rfl) rfl
theorem q1069 : (Jvm.Cond.instanceMethod ({ cls := "CableDrawer$Knotted", name := "state", desc := "()I" } : Jvm.MethodName)) ∈ lw_all := lw_g (lw_at lw_m4 216 rfl) rfl
theorem q1070 : (Jvm.Cond.code ({ cls := "CableDrawer$Knotted", name := "state", desc := "()I" } : Jvm.MethodName) prog_5_method_2_code (1 : Nat) (Option.some Jvm.ClassFile.FieldType.int)) ∈ lw_all := lw_g (lw_at lw_m4 217 rfl) rfl
theorem q1071 : (Jvm.Cond.methodLink "CableDrawer$Knotted" (7 : Nat) ({ cls := "CableDrawer$Tight", name := "state", desc := "()I" } : Jvm.MethodName)) ∈ lw_all := lw_g (lw_at lw_m4 218 rfl) rfl
theorem q1135 : (Jvm.Cond.selects "CableDrawer$Knotted" ({ cls := "CableDrawer$Crossing", name := "seconds", desc := "()I" } : Jvm.MethodName) ({ cls := "CableDrawer$Knotted", name := "seconds", desc := "()I" } : Jvm.MethodName)) ∈ lw_all := lw_g (lw_at lw_m5 42 rfl) rfl
theorem q1136 : (Jvm.Cond.instanceMethod ({ cls := "CableDrawer$Knotted", name := "seconds", desc := "()I" } : Jvm.MethodName)) ∈ lw_all := lw_g (lw_at lw_m5 43 rfl) rfl
theorem q1137 : (Jvm.Cond.code ({ cls := "CableDrawer$Knotted", name := "seconds", desc := "()I" } : Jvm.MethodName) prog_5_method_3_code (1 : Nat) (Option.some Jvm.ClassFile.FieldType.int)) ∈ lw_all := lw_g (lw_at lw_m5 44 rfl) rfl
theorem q1138 : (Jvm.Cond.methodLink "CableDrawer$Knotted" (11 : Nat) ({ cls := "CableDrawer$Tight", name := "seconds", desc := "()I" } : Jvm.MethodName)) ∈ lw_all := lw_g (lw_at lw_m5 45 rfl) rfl
theorem q1152 : (Jvm.Cond.selects "CableDrawer$Knotted" ({ cls := "CableDrawer$Crossing", name := "other", desc := "(I)I" } : Jvm.MethodName) ({ cls := "CableDrawer$Crossing", name := "other", desc := "(I)I" } : Jvm.MethodName)) ∈ lw_all := lw_g (lw_at lw_m5 59 rfl) rfl
theorem q1172 : (Jvm.Cond.selects "CableDrawer$Knotted" ({ cls := "CableDrawer$Crossing", name := "loosened", desc := "()I" } : Jvm.MethodName) ({ cls := "CableDrawer$Knotted", name := "loosened", desc := "()I" } : Jvm.MethodName)) ∈ lw_all := lw_g (lw_at lw_m5 79 rfl) rfl
theorem q1173 : (Jvm.Cond.instanceMethod ({ cls := "CableDrawer$Knotted", name := "loosened", desc := "()I" } : Jvm.MethodName)) ∈ lw_all := lw_g (lw_at lw_m5 80 rfl) rfl
theorem q1174 : (Jvm.Cond.code ({ cls := "CableDrawer$Knotted", name := "loosened", desc := "()I" } : Jvm.MethodName) prog_5_method_4_code (1 : Nat) (Option.some Jvm.ClassFile.FieldType.int)) ∈ lw_all := lw_g (lw_at lw_m5 81 rfl) rfl
theorem q1175 : (Jvm.Cond.methodLink "CableDrawer$Knotted" (14 : Nat) ({ cls := "CableDrawer$Knotted", name := "state", desc := "()I" } : Jvm.MethodName)) ∈ lw_all := lw_g (lw_at lw_m5 82 rfl) rfl
theorem q1208 : (Jvm.Cond.selects "CableDrawer$Knotted" ({ cls := "CableDrawer$Crossing", name := "holds", desc := "()Z" } : Jvm.MethodName) ({ cls := "CableDrawer$Crossing", name := "holds", desc := "()Z" } : Jvm.MethodName)) ∈ lw_all := lw_g (lw_at lw_m5 115 rfl) rfl
theorem q1218 : (Jvm.Cond.selects "CableDrawer$Knotted" ({ cls := "CableDrawer$Crossing", name := "pulled", desc := "()I" } : Jvm.MethodName) ({ cls := "CableDrawer$Knotted", name := "pulled", desc := "()I" } : Jvm.MethodName)) ∈ lw_all := lw_g (lw_at lw_m5 125 rfl) rfl
theorem q1219 : (Jvm.Cond.instanceMethod ({ cls := "CableDrawer$Knotted", name := "pulled", desc := "()I" } : Jvm.MethodName)) ∈ lw_all := lw_g (lw_at lw_m5 126 rfl) rfl
theorem q1220 : (Jvm.Cond.code ({ cls := "CableDrawer$Knotted", name := "pulled", desc := "()I" } : Jvm.MethodName) prog_5_method_5_code (1 : Nat) (Option.some Jvm.ClassFile.FieldType.int)) ∈ lw_all := lw_g (lw_at lw_m5 127 rfl) rfl
theorem q2318 : (Jvm.Cond.selects "CableDrawer$Knotted" ({ cls := "CableDrawer$Knotted", name := "state", desc := "()I" } : Jvm.MethodName) ({ cls := "CableDrawer$Knotted", name := "state", desc := "()I" } : Jvm.MethodName)) ∈ lw_all := lw_g (lw_at lw_m10 25 rfl) rfl
theorem q2319 : (Jvm.Cond.selects "CableDrawer$Knotted" ({ cls := "CableDrawer$Threaded", name := "state", desc := "()I" } : Jvm.MethodName) ({ cls := "CableDrawer$Knotted", name := "state", desc := "()I" } : Jvm.MethodName)) ∈ lw_all := lw_g (lw_at lw_m10 26 rfl) rfl
theorem q2326 : (Jvm.Cond.castable "CableDrawer$Knotted" "CableDrawer$Crossing") ∈ lw_tbl := lw_at lw_m10 33 rfl
theorem in_X12 : ∀ w ∈ wsX120, w ∈ lw_all := lw_in wsX120 [938, 939] (by decide +kernel) (by decide +kernel)

/-! CableDrawer$Step -/
set_option maxRecDepth 100000
def RX13 : String := "CableDrawer$Step"
def TX13 : u_T := fun k => match k with
  | 0 => ("CableDrawer$Step", "kind", "I", true)
  | 1 => ("CableDrawer$Step", "one", "I", false)
  | 2 => ("CableDrawer$Step", "two", "I", false)
  | 3 => ("CableDrawer$Step", "test", "I", false)
  | 4 => ("CableDrawer$Step", "compares", "I", false)
  | 5 => ("CableDrawer$Step", "to", "I", false)
  | _ => ("CableDrawer$Step", "rounds", "I", false)
def tyX13 : Nat → FieldType := fun k => match k with
  | 0 => .int
  | 1 => .int
  | 2 => .int
  | 3 => .int
  | 4 => .int
  | 5 => .int
  | _ => .int
abbrev wsX130 : List Cond := u_ws RX13 TX13 7
theorem nmX13 : ∀ a, a < 7 → ∀ b, b < 7 → a ≠ b → (TX13 a).2.1 ≠ (TX13 b).2.1 := by decide +kernel
theorem tyX13_ok : ∀ k, k < 7 → parseFieldDescriptor (TX13 k).2.2.1 = some (tyX13 k) := by decide +kernel
abbrev cX13_init : ByteArray := prog_10_method_1_code
def yX13_init : MethodName := ⟨RX13, "<init>", "(I)V"⟩
def dkwX13_init_0 : List UInt8 := [42, 183, 0, 1, 42, 27, 181, 0, 7, 177]
abbrev dktX13_init_0 : List UInt8 := dkwX13_init_0 ++ []
theorem dksX13_init_0 : cX13_init.data.toList.drop 0 = dktX13_init_0 := by decide +kernel
theorem dX13_init_0 : decode cX13_init 0 = .ok (.aload_n 0, 1) := dk_42 (dk_at dksX13_init_0 0 rfl rfl)
theorem dX13_init_1 : decode cX13_init 1 = .ok (.invokespecial 1, 3) := dk_183 0 1 (dk_at dksX13_init_0 1 rfl rfl)
theorem dX13_init_4 : decode cX13_init 4 = .ok (.aload_n 0, 1) := dk_42 (dk_at dksX13_init_0 4 rfl rfl)
theorem dX13_init_5 : decode cX13_init 5 = .ok (.iload_n 1, 1) := dk_27 (dk_at dksX13_init_0 5 rfl rfl)
theorem dX13_init_6 : decode cX13_init 6 = .ok (.putfield 7, 3) := dk_181 0 7 (dk_at dksX13_init_0 6 rfl rfl)
theorem dX13_init_9 : decode cX13_init 9 = .ok (.return_, 1) := dk_177 (dk_at dksX13_init_0 9 rfl rfl)
theorem q160 : (Jvm.Cond.initialized "CableDrawer$Step") ∈ lw_all := lw_g (lw_at lw_m1 27 rfl) rfl
theorem q980 : (Jvm.Cond.instantiable "CableDrawer$Step" (7 : Nat)) ∈ lw_all := lw_g (lw_at lw_m4 127 rfl) rfl
theorem q982 : (Jvm.Cond.instanceMethod ({ cls := "CableDrawer$Step", name := "<init>", desc := "(I)V" } : Jvm.MethodName)) ∈ lw_all := lw_g (lw_at lw_m4 129 rfl) rfl
theorem q983 : (Jvm.Cond.code ({ cls := "CableDrawer$Step", name := "<init>", desc := "(I)V" } : Jvm.MethodName) prog_10_method_1_code (2 : Nat) (Option.none : Option Jvm.ClassFile.FieldType)) ∈ lw_all := lw_g (lw_at lw_m4 130 rfl) rfl
theorem q984 : (Jvm.Cond.methodLink "CableDrawer$Step" (1 : Nat) ({ cls := "java/lang/Object", name := "<init>", desc := "()V" } : Jvm.MethodName)) ∈ lw_all := lw_g (lw_at lw_m4 131 rfl) rfl
theorem q985 : (Jvm.Cond.fieldLink "CableDrawer$Step" (7 : Nat) "CableDrawer$Step" "kind" "I") ∈ lw_all := lw_g (lw_at lw_m4 132 rfl) rfl
theorem q998 : (Jvm.Cond.laysFinal "CableDrawer$Step" "CableDrawer$Step" "kind" "I") ∈ lw_all := lw_g (lw_at lw_m4 145 rfl) rfl
theorem q999 : (Jvm.Cond.soleField "CableDrawer$Step" "kind") ∈ lw_all := lw_g (lw_at lw_m4 146 rfl) rfl
theorem q1000 : (Jvm.Cond.lays "CableDrawer$Step" "CableDrawer$Step" "one" "I") ∈ lw_all := lw_g (lw_at lw_m4 147 rfl) rfl
theorem q1001 : (Jvm.Cond.soleField "CableDrawer$Step" "one") ∈ lw_all := lw_g (lw_at lw_m4 148 rfl) rfl
theorem q1002 : (Jvm.Cond.lays "CableDrawer$Step" "CableDrawer$Step" "two" "I") ∈ lw_all := lw_g (lw_at lw_m4 149 rfl) rfl
theorem q1003 : (Jvm.Cond.soleField "CableDrawer$Step" "two") ∈ lw_all := lw_g (lw_at lw_m4 150 rfl) rfl
theorem q1004 : (Jvm.Cond.lays "CableDrawer$Step" "CableDrawer$Step" "test" "I") ∈ lw_all := lw_g (lw_at lw_m4 151 rfl) rfl
theorem q1005 : (Jvm.Cond.soleField "CableDrawer$Step" "test") ∈ lw_all := lw_g (lw_at lw_m4 152 rfl) rfl
theorem q1006 : (Jvm.Cond.lays "CableDrawer$Step" "CableDrawer$Step" "compares" "I") ∈ lw_all := lw_g (lw_at lw_m4 153 rfl) rfl
theorem q1007 : (Jvm.Cond.soleField "CableDrawer$Step" "compares") ∈ lw_all := lw_g (lw_at lw_m4 154 rfl) rfl
theorem q1008 : (Jvm.Cond.lays "CableDrawer$Step" "CableDrawer$Step" "to" "I") ∈ lw_all := lw_g (lw_at lw_m4 155 rfl) rfl
theorem q1009 : (Jvm.Cond.soleField "CableDrawer$Step" "to") ∈ lw_all := lw_g (lw_at lw_m4 156 rfl) rfl
theorem q1010 : (Jvm.Cond.lays "CableDrawer$Step" "CableDrawer$Step" "rounds" "I") ∈ lw_all := lw_g (lw_at lw_m4 157 rfl) rfl
theorem q1011 : (Jvm.Cond.soleField "CableDrawer$Step" "rounds") ∈ lw_all := lw_g (lw_at lw_m4 158 rfl) rfl
theorem q1012 : (Jvm.Cond.superclass "CableDrawer$Step" "java/lang/Object") ∈ lw_all := lw_g (lw_at lw_m4 159 rfl) rfl
theorem in_X13 : ∀ w ∈ wsX130, w ∈ lw_all := lw_in wsX130 [998, 1000, 1002, 1004, 1006, 1008, 1010] (by decide +kernel) (by decide +kernel)

/-! CableDrawer$Kept -/
set_option maxRecDepth 100000
def RX14 : String := "CableDrawer$Kept"
def TX14 : u_T := fun k => match k with
  | 0 => ("CableDrawer$Kept", "drawer", "LCableDrawer$Drawer;", true)
  | 1 => ("CableDrawer$Kept", "steps", "[LCableDrawer$Step;", true)
  | _ => ("CableDrawer$Kept", "stepMany", "I", true)
def tyX14 : Nat → FieldType := fun k => match k with
  | 0 => .object "CableDrawer$Drawer"
  | 1 => .array (.object "CableDrawer$Step")
  | _ => .int
abbrev wsX140 : List Cond := u_ws RX14 TX14 3
theorem nmX14 : ∀ a, a < 3 → ∀ b, b < 3 → a ≠ b → (TX14 a).2.1 ≠ (TX14 b).2.1 := by decide +kernel
theorem tyX14_ok : ∀ k, k < 3 → parseFieldDescriptor (TX14 k).2.2.1 = some (tyX14 k) := by decide +kernel
abbrev cX14_init : ByteArray := prog_4_method_1_code
def yX14_init : MethodName := ⟨RX14, "<init>", "(LCableDrawer$Drawer;[LCableDrawer$Step;I)V"⟩
def dkwX14_init_0 : List UInt8 := [42, 183, 0, 1, 42, 43, 181, 0, 7, 42, 44, 181, 0, 13, 42, 29, 181, 0, 17, 177]
abbrev dktX14_init_0 : List UInt8 := dkwX14_init_0 ++ []
theorem dksX14_init_0 : cX14_init.data.toList.drop 0 = dktX14_init_0 := by decide +kernel
theorem dX14_init_0 : decode cX14_init 0 = .ok (.aload_n 0, 1) := dk_42 (dk_at dksX14_init_0 0 rfl rfl)
theorem dX14_init_1 : decode cX14_init 1 = .ok (.invokespecial 1, 3) := dk_183 0 1 (dk_at dksX14_init_0 1 rfl rfl)
theorem dX14_init_4 : decode cX14_init 4 = .ok (.aload_n 0, 1) := dk_42 (dk_at dksX14_init_0 4 rfl rfl)
theorem dX14_init_5 : decode cX14_init 5 = .ok (.aload_n 1, 1) := dk_43 (dk_at dksX14_init_0 5 rfl rfl)
theorem dX14_init_6 : decode cX14_init 6 = .ok (.putfield 7, 3) := dk_181 0 7 (dk_at dksX14_init_0 6 rfl rfl)
theorem dX14_init_9 : decode cX14_init 9 = .ok (.aload_n 0, 1) := dk_42 (dk_at dksX14_init_0 9 rfl rfl)
theorem dX14_init_10 : decode cX14_init 10 = .ok (.aload_n 2, 1) := dk_44 (dk_at dksX14_init_0 10 rfl rfl)
theorem dX14_init_11 : decode cX14_init 11 = .ok (.putfield 13, 3) := dk_181 0 13 (dk_at dksX14_init_0 11 rfl rfl)
theorem dX14_init_14 : decode cX14_init 14 = .ok (.aload_n 0, 1) := dk_42 (dk_at dksX14_init_0 14 rfl rfl)
theorem dX14_init_15 : decode cX14_init 15 = .ok (.iload_n 3, 1) := dk_29 (dk_at dksX14_init_0 15 rfl rfl)
theorem dX14_init_16 : decode cX14_init 16 = .ok (.putfield 17, 3) := dk_181 0 17 (dk_at dksX14_init_0 16 rfl rfl)
theorem dX14_init_19 : decode cX14_init 19 = .ok (.return_, 1) := dk_177 (dk_at dksX14_init_0 19 rfl rfl)
theorem q162 : (Jvm.Cond.initialized "CableDrawer$Kept") ∈ lw_all := lw_g (lw_at lw_m1 29 rfl) rfl
theorem q1523 : (Jvm.Cond.instantiable "CableDrawer$Kept" (3 : Nat)) ∈ lw_all := lw_g (lw_at lw_m6 190 rfl) rfl
theorem q1525 : (Jvm.Cond.instanceMethod ({ cls := "CableDrawer$Kept", name := "<init>", desc := "(LCableDrawer$Drawer;[LCableDrawer$Step;I)V" } : Jvm.MethodName)) ∈ lw_all := lw_g (lw_at lw_m6 192 rfl) rfl
theorem q1526 : (Jvm.Cond.code ({ cls := "CableDrawer$Kept", name := "<init>", desc := "(LCableDrawer$Drawer;[LCableDrawer$Step;I)V" } : Jvm.MethodName) prog_4_method_1_code (4 : Nat) (Option.none : Option Jvm.ClassFile.FieldType)) ∈ lw_all := lw_g (lw_at lw_m6 193 rfl) rfl
theorem q1527 : (Jvm.Cond.methodLink "CableDrawer$Kept" (1 : Nat) ({ cls := "java/lang/Object", name := "<init>", desc := "()V" } : Jvm.MethodName)) ∈ lw_all := lw_g (lw_at lw_m6 194 rfl) rfl
theorem q1528 : (Jvm.Cond.fieldLink "CableDrawer$Kept" (7 : Nat) "CableDrawer$Kept" "drawer" "LCableDrawer$Drawer;") ∈ lw_all := lw_g (lw_at lw_m6 195 rfl) rfl
theorem q1530 : (Jvm.Cond.fieldLink "CableDrawer$Kept" (13 : Nat) "CableDrawer$Kept" "steps" "[LCableDrawer$Step;") ∈ lw_all := lw_g (lw_at lw_m6 197 rfl) rfl
theorem q1532 : (Jvm.Cond.fieldLink "CableDrawer$Kept" (17 : Nat) "CableDrawer$Kept" "stepMany" "I") ∈ lw_all := lw_g (lw_at lw_m6 199 rfl) rfl
theorem q1534 : (Jvm.Cond.laysFinal "CableDrawer$Kept" "CableDrawer$Kept" "drawer" "LCableDrawer$Drawer;") ∈ lw_all := lw_g (lw_at lw_m6 201 rfl) rfl
theorem q1535 : (Jvm.Cond.soleField "CableDrawer$Kept" "drawer") ∈ lw_all := lw_g (lw_at lw_m6 202 rfl) rfl
theorem q1536 : (Jvm.Cond.laysFinal "CableDrawer$Kept" "CableDrawer$Kept" "steps" "[LCableDrawer$Step;") ∈ lw_all := lw_g (lw_at lw_m6 203 rfl) rfl
theorem q1537 : (Jvm.Cond.soleField "CableDrawer$Kept" "steps") ∈ lw_all := lw_g (lw_at lw_m6 204 rfl) rfl
theorem q1538 : (Jvm.Cond.laysFinal "CableDrawer$Kept" "CableDrawer$Kept" "stepMany" "I") ∈ lw_all := lw_g (lw_at lw_m6 205 rfl) rfl
theorem q1539 : (Jvm.Cond.soleField "CableDrawer$Kept" "stepMany") ∈ lw_all := lw_g (lw_at lw_m6 206 rfl) rfl
theorem q1540 : (Jvm.Cond.superclass "CableDrawer$Kept" "java/lang/Object") ∈ lw_all := lw_g (lw_at lw_m6 207 rfl) rfl
theorem in_X14 : ∀ w ∈ wsX140, w ∈ lw_all := lw_in wsX140 [1534, 1536, 1538] (by decide +kernel) (by decide +kernel)

/-! CableDrawer$Reader -/
set_option maxRecDepth 100000
def RX2 : String := "CableDrawer$Reader"
def TX2 : u_T := fun k => match k with
  | 0 => ("CableDrawer$Scan", "tape", "[B", true)
  | 1 => ("CableDrawer$Scan", "size", "I", false)
  | 2 => ("CableDrawer$Scan", "sort", "I", false)
  | 3 => ("CableDrawer$Scan", "from", "I", false)
  | 4 => ("CableDrawer$Scan", "end", "I", false)
  | 5 => ("CableDrawer$Scan", "value", "I", false)
  | 6 => ("CableDrawer$Scan", "keys", "Ljava/lang/String;", true)
  | 7 => ("CableDrawer$Scan", "signs", "Ljava/lang/String;", true)
  | 8 => ("CableDrawer$Scan", "wrong", "LCableDrawer$Wrong;", true)
  | 9 => ("CableDrawer$Reader", "taped", "I", false)
  | 10 => ("CableDrawer$Reader", "stepMany", "I", false)
  | 11 => ("CableDrawer$Reader", "counted", "I", false)
  | 12 => ("CableDrawer$Reader", "open", "I", false)
  | 13 => ("CableDrawer$Reader", "drawer", "LCableDrawer$Drawer;", false)
  | 14 => ("CableDrawer$Reader", "steps", "[LCableDrawer$Step;", false)
  | 15 => ("CableDrawer$Reader", "opened", "[I", true)
  | _ => ("CableDrawer$Reader", "kinds", "[LCableDrawer$Crossing;", true)
def tyX2 : Nat → FieldType := fun k => match k with
  | 0 => .array .byte
  | 1 => .int
  | 2 => .int
  | 3 => .int
  | 4 => .int
  | 5 => .int
  | 6 => .object "java/lang/String"
  | 7 => .object "java/lang/String"
  | 8 => .object "CableDrawer$Wrong"
  | 9 => .int
  | 10 => .int
  | 11 => .int
  | 12 => .int
  | 13 => .object "CableDrawer$Drawer"
  | 14 => .array (.object "CableDrawer$Step")
  | 15 => .array .int
  | _ => .array (.object "CableDrawer$Crossing")
abbrev wsX20 : List Cond := u_ws RX2 TX2 17
set_option maxRecDepth 100000 in
theorem nmX2 : ∀ a, a < 17 → ∀ b, b < 17 → a ≠ b → (TX2 a).2.1 ≠ (TX2 b).2.1 := by decide +kernel
set_option maxRecDepth 100000 in
theorem tyX2_ok : ∀ k, k < 17 → parseFieldDescriptor (TX2 k).2.2.1 = some (tyX2 k) := by decide +kernel
abbrev cX2_init : ByteArray := prog_8_method_1_code
def yX2_init : MethodName := ⟨RX2, "<init>", "(LCableDrawer$Wrong;[LCableDrawer$Crossing;)V"⟩
def dkwX2_init_1 : List UInt8 := [181, 0, 19, 177]
abbrev dktX2_init_1 : List UInt8 := dkwX2_init_1 ++ []
def dkwX2_init_0 : List UInt8 := [42, 17, 3, 132, 188, 8, 18, 3, 18, 5, 43, 183, 0, 7, 42, 6, 188, 10, 181, 0, 13, 42, 44]
abbrev dktX2_init_0 : List UInt8 := dkwX2_init_0 ++ dktX2_init_1
theorem dksX2_init_0 : cX2_init.data.toList.drop 0 = dktX2_init_0 := by decide +kernel
theorem dksX2_init_1 : cX2_init.data.toList.drop 23 = dktX2_init_1 := dk_seg dksX2_init_0 23 rfl rfl
theorem dX2_init_0 : decode cX2_init 0 = .ok (.aload_n 0, 1) := dk_42 (dk_at dksX2_init_0 0 rfl rfl)
theorem dX2_init_1 : decode cX2_init 1 = .ok (.sipush 900, 3) := dk_17 3 132 (dk_at dksX2_init_0 1 rfl rfl)
theorem dX2_init_4 : decode cX2_init 4 = .ok (.newarray .byte, 2) := dk_188_8 (dk_at dksX2_init_0 4 rfl rfl)
theorem dX2_init_6 : decode cX2_init 6 = .ok (.ldc 3, 2) := dk_18 3 (dk_at dksX2_init_0 6 rfl rfl)
theorem dX2_init_8 : decode cX2_init 8 = .ok (.ldc 5, 2) := dk_18 5 (dk_at dksX2_init_0 8 rfl rfl)
theorem dX2_init_10 : decode cX2_init 10 = .ok (.aload_n 1, 1) := dk_43 (dk_at dksX2_init_0 10 rfl rfl)
theorem dX2_init_11 : decode cX2_init 11 = .ok (.invokespecial 7, 3) := dk_183 0 7 (dk_at dksX2_init_0 11 rfl rfl)
theorem dX2_init_14 : decode cX2_init 14 = .ok (.aload_n 0, 1) := dk_42 (dk_at dksX2_init_0 14 rfl rfl)
theorem dX2_init_15 : decode cX2_init 15 = .ok (.iconst 3, 1) := dk_6 (dk_at dksX2_init_0 15 rfl rfl)
theorem dX2_init_16 : decode cX2_init 16 = .ok (.newarray .int, 2) := dk_188_10 (dk_at dksX2_init_0 16 rfl rfl)
theorem dX2_init_18 : decode cX2_init 18 = .ok (.putfield 13, 3) := dk_181 0 13 (dk_at dksX2_init_0 18 rfl rfl)
theorem dX2_init_21 : decode cX2_init 21 = .ok (.aload_n 0, 1) := dk_42 (dk_at dksX2_init_0 21 rfl rfl)
theorem dX2_init_22 : decode cX2_init 22 = .ok (.aload_n 2, 1) := dk_44 (dk_at dksX2_init_0 22 rfl rfl)
theorem dX2_init_23 : decode cX2_init 23 = .ok (.putfield 19, 3) := dk_181 0 19 (dk_at dksX2_init_1 0 rfl rfl)
theorem dX2_init_26 : decode cX2_init 26 = .ok (.return_, 1) := dk_177 (dk_at dksX2_init_1 3 rfl rfl)
abbrev cX2_drawer : ByteArray := prog_8_method_5_code
def yX2_drawer : MethodName := ⟨RX2, "drawer", "(I)LCableDrawer$Drawer;"⟩
def dkwX2_drawer_1 : List UInt8 := [153, 0, 14, 42, 182, 0, 64, 42, 182, 0, 67, 167, 255, 241, 42, 180, 0, 35, 176]
abbrev dktX2_drawer_1 : List UInt8 := dkwX2_drawer_1 ++ []
def dkwX2_drawer_0 : List UInt8 := [42, 187, 0, 44, 89, 42, 180, 0, 19, 183, 0, 53, 181, 0, 35, 42, 27, 182, 0, 56, 42, 180, 0, 60]
abbrev dktX2_drawer_0 : List UInt8 := dkwX2_drawer_0 ++ dktX2_drawer_1
theorem dksX2_drawer_0 : cX2_drawer.data.toList.drop 0 = dktX2_drawer_0 := by decide +kernel
theorem dksX2_drawer_1 : cX2_drawer.data.toList.drop 24 = dktX2_drawer_1 := dk_seg dksX2_drawer_0 24 rfl rfl
theorem dX2_drawer_0 : decode cX2_drawer 0 = .ok (.aload_n 0, 1) := dk_42 (dk_at dksX2_drawer_0 0 rfl rfl)
theorem dX2_drawer_1 : decode cX2_drawer 1 = .ok (.new 44, 3) := dk_187 0 44 (dk_at dksX2_drawer_0 1 rfl rfl)
theorem dX2_drawer_4 : decode cX2_drawer 4 = .ok (.dup, 1) := dk_89 (dk_at dksX2_drawer_0 4 rfl rfl)
theorem dX2_drawer_5 : decode cX2_drawer 5 = .ok (.aload_n 0, 1) := dk_42 (dk_at dksX2_drawer_0 5 rfl rfl)
theorem dX2_drawer_6 : decode cX2_drawer 6 = .ok (.getfield 19, 3) := dk_180 0 19 (dk_at dksX2_drawer_0 6 rfl rfl)
theorem dX2_drawer_9 : decode cX2_drawer 9 = .ok (.invokespecial 53, 3) := dk_183 0 53 (dk_at dksX2_drawer_0 9 rfl rfl)
theorem dX2_drawer_12 : decode cX2_drawer 12 = .ok (.putfield 35, 3) := dk_181 0 35 (dk_at dksX2_drawer_0 12 rfl rfl)
theorem dX2_drawer_15 : decode cX2_drawer 15 = .ok (.aload_n 0, 1) := dk_42 (dk_at dksX2_drawer_0 15 rfl rfl)
theorem dX2_drawer_16 : decode cX2_drawer 16 = .ok (.iload_n 1, 1) := dk_27 (dk_at dksX2_drawer_0 16 rfl rfl)
theorem dX2_drawer_17 : decode cX2_drawer 17 = .ok (.invokevirtual 56, 3) := dk_182 0 56 (dk_at dksX2_drawer_0 17 rfl rfl)
theorem dX2_drawer_20 : decode cX2_drawer 20 = .ok (.aload_n 0, 1) := dk_42 (dk_at dksX2_drawer_0 20 rfl rfl)
theorem dX2_drawer_21 : decode cX2_drawer 21 = .ok (.getfield 60, 3) := dk_180 0 60 (dk_at dksX2_drawer_0 21 rfl rfl)
theorem dX2_drawer_24 : decode cX2_drawer 24 = .ok (.ifCond .eq 14, 3) := dk_153 0 14 (dk_at dksX2_drawer_1 0 rfl rfl)
theorem dX2_drawer_27 : decode cX2_drawer 27 = .ok (.aload_n 0, 1) := dk_42 (dk_at dksX2_drawer_1 3 rfl rfl)
theorem dX2_drawer_28 : decode cX2_drawer 28 = .ok (.invokevirtual 64, 3) := dk_182 0 64 (dk_at dksX2_drawer_1 4 rfl rfl)
theorem dX2_drawer_31 : decode cX2_drawer 31 = .ok (.aload_n 0, 1) := dk_42 (dk_at dksX2_drawer_1 7 rfl rfl)
theorem dX2_drawer_32 : decode cX2_drawer 32 = .ok (.invokevirtual 67, 3) := dk_182 0 67 (dk_at dksX2_drawer_1 8 rfl rfl)
theorem dX2_drawer_35 : decode cX2_drawer 35 = .ok (.goto (-15), 3) := dk_167 255 241 (dk_at dksX2_drawer_1 11 rfl rfl)
theorem dX2_drawer_38 : decode cX2_drawer 38 = .ok (.aload_n 0, 1) := dk_42 (dk_at dksX2_drawer_1 14 rfl rfl)
theorem dX2_drawer_39 : decode cX2_drawer 39 = .ok (.getfield 35, 3) := dk_180 0 35 (dk_at dksX2_drawer_1 15 rfl rfl)
theorem dX2_drawer_42 : decode cX2_drawer 42 = .ok (.areturn, 1) := dk_176 (dk_at dksX2_drawer_1 18 rfl rfl)
abbrev cX2_part : ByteArray := prog_8_method_6_code
def yX2_part : MethodName := ⟨RX2, "part", "()V"⟩
def dkwX2_part_7 : List UInt8 := [182, 0, 98, 177]
abbrev dktX2_part_7 : List UInt8 := dkwX2_part_7 ++ []
def dkwX2_part_6 : List UInt8 := [167, 0, 26, 42, 180, 0, 35, 180, 0, 94, 42, 180, 0, 35, 180, 0, 76, 42, 182, 0, 81, 80, 42]
abbrev dktX2_part_6 : List UInt8 := dkwX2_part_6 ++ dktX2_part_7
def dkwX2_part_5 : List UInt8 := [42, 187, 0, 79, 89, 42, 182, 0, 81, 183, 0, 84, 182, 0, 87, 167, 0, 33, 42, 182, 0, 91]
abbrev dktX2_part_5 : List UInt8 := dkwX2_part_5 ++ dktX2_part_6
def dkwX2_part_4 : List UInt8 := [171, 0, 0, 0, 0, 0, 0, 53, 0, 0, 0, 2, 0, 0, 0, 0, 0, 0, 0, 28, 0, 0, 0, 1, 0, 0, 0, 46]
abbrev dktX2_part_4 : List UInt8 := dkwX2_part_4 ++ dktX2_part_5
def dkwX2_part_3 : List UInt8 := [42, 16, 6, 182, 0, 49, 191, 42, 182, 0, 31, 27]
abbrev dktX2_part_3 : List UInt8 := dkwX2_part_3 ++ dktX2_part_4
def dkwX2_part_2 : List UInt8 := [180, 0, 73, 16, 24, 159, 0, 19, 27, 5, 160, 0, 21, 42, 180, 0, 35, 180, 0, 76, 6, 160, 0, 10]
abbrev dktX2_part_2 : List UInt8 := dkwX2_part_2 ++ dktX2_part_3
def dkwX2_part_1 : List UInt8 := [154, 0, 15, 42, 180, 0, 35, 180, 0, 70, 16, 8, 159, 0, 36, 27, 4, 160, 0, 15, 42, 180, 0, 35]
abbrev dktX2_part_1 : List UInt8 := dkwX2_part_1 ++ dktX2_part_2
def dkwX2_part_0 : List UInt8 := [42, 182, 0, 23, 60, 42, 27, 155, 0, 12, 27, 5, 163, 0, 7, 4, 167, 0, 4, 3, 182, 0, 27, 27]
abbrev dktX2_part_0 : List UInt8 := dkwX2_part_0 ++ dktX2_part_1
theorem dksX2_part_0 : cX2_part.data.toList.drop 0 = dktX2_part_0 := by decide +kernel
theorem dksX2_part_1 : cX2_part.data.toList.drop 24 = dktX2_part_1 := dk_seg dksX2_part_0 24 rfl rfl
theorem dksX2_part_2 : cX2_part.data.toList.drop 48 = dktX2_part_2 := dk_seg dksX2_part_1 24 rfl rfl
theorem dksX2_part_3 : cX2_part.data.toList.drop 72 = dktX2_part_3 := dk_seg dksX2_part_2 24 rfl rfl
theorem dksX2_part_4 : cX2_part.data.toList.drop 84 = dktX2_part_4 := dk_seg dksX2_part_3 12 rfl rfl
theorem dksX2_part_5 : cX2_part.data.toList.drop 112 = dktX2_part_5 := dk_seg dksX2_part_4 28 rfl rfl
theorem dksX2_part_6 : cX2_part.data.toList.drop 134 = dktX2_part_6 := dk_seg dksX2_part_5 22 rfl rfl
theorem dksX2_part_7 : cX2_part.data.toList.drop 157 = dktX2_part_7 := dk_seg dksX2_part_6 23 rfl rfl
theorem dX2_part_0 : decode cX2_part 0 = .ok (.aload_n 0, 1) := dk_42 (dk_at dksX2_part_0 0 rfl rfl)
theorem dX2_part_1 : decode cX2_part 1 = .ok (.invokevirtual 23, 3) := dk_182 0 23 (dk_at dksX2_part_0 1 rfl rfl)
theorem dX2_part_4 : decode cX2_part 4 = .ok (.istore_n 1, 1) := dk_60 (dk_at dksX2_part_0 4 rfl rfl)
theorem dX2_part_5 : decode cX2_part 5 = .ok (.aload_n 0, 1) := dk_42 (dk_at dksX2_part_0 5 rfl rfl)
theorem dX2_part_6 : decode cX2_part 6 = .ok (.iload_n 1, 1) := dk_27 (dk_at dksX2_part_0 6 rfl rfl)
theorem dX2_part_7 : decode cX2_part 7 = .ok (.ifCond .lt 12, 3) := dk_155 0 12 (dk_at dksX2_part_0 7 rfl rfl)
theorem dX2_part_10 : decode cX2_part 10 = .ok (.iload_n 1, 1) := dk_27 (dk_at dksX2_part_0 10 rfl rfl)
theorem dX2_part_11 : decode cX2_part 11 = .ok (.iconst 2, 1) := dk_5 (dk_at dksX2_part_0 11 rfl rfl)
theorem dX2_part_12 : decode cX2_part 12 = .ok (.if_icmp .gt 7, 3) := dk_163 0 7 (dk_at dksX2_part_0 12 rfl rfl)
theorem dX2_part_15 : decode cX2_part 15 = .ok (.iconst 1, 1) := dk_4 (dk_at dksX2_part_0 15 rfl rfl)
theorem dX2_part_16 : decode cX2_part 16 = .ok (.goto 4, 3) := dk_167 0 4 (dk_at dksX2_part_0 16 rfl rfl)
theorem dX2_part_19 : decode cX2_part 19 = .ok (.iconst 0, 1) := dk_3 (dk_at dksX2_part_0 19 rfl rfl)
theorem dX2_part_20 : decode cX2_part 20 = .ok (.invokevirtual 27, 3) := dk_182 0 27 (dk_at dksX2_part_0 20 rfl rfl)
theorem dX2_part_23 : decode cX2_part 23 = .ok (.iload_n 1, 1) := dk_27 (dk_at dksX2_part_0 23 rfl rfl)
theorem dX2_part_24 : decode cX2_part 24 = .ok (.ifCond .ne 15, 3) := dk_154 0 15 (dk_at dksX2_part_1 0 rfl rfl)
theorem dX2_part_27 : decode cX2_part 27 = .ok (.aload_n 0, 1) := dk_42 (dk_at dksX2_part_1 3 rfl rfl)
theorem dX2_part_28 : decode cX2_part 28 = .ok (.getfield 35, 3) := dk_180 0 35 (dk_at dksX2_part_1 4 rfl rfl)
theorem dX2_part_31 : decode cX2_part 31 = .ok (.getfield 70, 3) := dk_180 0 70 (dk_at dksX2_part_1 7 rfl rfl)
theorem dX2_part_34 : decode cX2_part 34 = .ok (.bipush 8, 2) := dk_16 8 (dk_at dksX2_part_1 10 rfl rfl)
theorem dX2_part_36 : decode cX2_part 36 = .ok (.if_icmp .eq 36, 3) := dk_159 0 36 (dk_at dksX2_part_1 12 rfl rfl)
theorem dX2_part_39 : decode cX2_part 39 = .ok (.iload_n 1, 1) := dk_27 (dk_at dksX2_part_1 15 rfl rfl)
theorem dX2_part_40 : decode cX2_part 40 = .ok (.iconst 1, 1) := dk_4 (dk_at dksX2_part_1 16 rfl rfl)
theorem dX2_part_41 : decode cX2_part 41 = .ok (.if_icmp .ne 15, 3) := dk_160 0 15 (dk_at dksX2_part_1 17 rfl rfl)
theorem dX2_part_44 : decode cX2_part 44 = .ok (.aload_n 0, 1) := dk_42 (dk_at dksX2_part_1 20 rfl rfl)
theorem dX2_part_45 : decode cX2_part 45 = .ok (.getfield 35, 3) := dk_180 0 35 (dk_at dksX2_part_1 21 rfl rfl)
theorem dX2_part_48 : decode cX2_part 48 = .ok (.getfield 73, 3) := dk_180 0 73 (dk_at dksX2_part_2 0 rfl rfl)
theorem dX2_part_51 : decode cX2_part 51 = .ok (.bipush 24, 2) := dk_16 24 (dk_at dksX2_part_2 3 rfl rfl)
theorem dX2_part_53 : decode cX2_part 53 = .ok (.if_icmp .eq 19, 3) := dk_159 0 19 (dk_at dksX2_part_2 5 rfl rfl)
theorem dX2_part_56 : decode cX2_part 56 = .ok (.iload_n 1, 1) := dk_27 (dk_at dksX2_part_2 8 rfl rfl)
theorem dX2_part_57 : decode cX2_part 57 = .ok (.iconst 2, 1) := dk_5 (dk_at dksX2_part_2 9 rfl rfl)
theorem dX2_part_58 : decode cX2_part 58 = .ok (.if_icmp .ne 21, 3) := dk_160 0 21 (dk_at dksX2_part_2 10 rfl rfl)
theorem dX2_part_61 : decode cX2_part 61 = .ok (.aload_n 0, 1) := dk_42 (dk_at dksX2_part_2 13 rfl rfl)
theorem dX2_part_62 : decode cX2_part 62 = .ok (.getfield 35, 3) := dk_180 0 35 (dk_at dksX2_part_2 14 rfl rfl)
theorem dX2_part_65 : decode cX2_part 65 = .ok (.getfield 76, 3) := dk_180 0 76 (dk_at dksX2_part_2 17 rfl rfl)
theorem dX2_part_68 : decode cX2_part 68 = .ok (.iconst 3, 1) := dk_6 (dk_at dksX2_part_2 20 rfl rfl)
theorem dX2_part_69 : decode cX2_part 69 = .ok (.if_icmp .ne 10, 3) := dk_160 0 10 (dk_at dksX2_part_2 21 rfl rfl)
theorem dX2_part_72 : decode cX2_part 72 = .ok (.aload_n 0, 1) := dk_42 (dk_at dksX2_part_3 0 rfl rfl)
theorem dX2_part_73 : decode cX2_part 73 = .ok (.bipush 6, 2) := dk_16 6 (dk_at dksX2_part_3 1 rfl rfl)
theorem dX2_part_75 : decode cX2_part 75 = .ok (.invokevirtual 49, 3) := dk_182 0 49 (dk_at dksX2_part_3 3 rfl rfl)
theorem dX2_part_78 : decode cX2_part 78 = .ok (.athrow, 1) := dk_191 (dk_at dksX2_part_3 6 rfl rfl)
theorem dX2_part_79 : decode cX2_part 79 = .ok (.aload_n 0, 1) := dk_42 (dk_at dksX2_part_3 7 rfl rfl)
theorem dX2_part_80 : decode cX2_part 80 = .ok (.invokevirtual 31, 3) := dk_182 0 31 (dk_at dksX2_part_3 8 rfl rfl)
theorem dX2_part_83 : decode cX2_part 83 = .ok (.iload_n 1, 1) := dk_27 (dk_at dksX2_part_3 11 rfl rfl)
theorem dX2_part_84 : decode cX2_part 84 = .ok (.lookupswitch 53 #[(0, 28), (1, 46)], 28) := by decide +kernel
theorem dX2_part_112 : decode cX2_part 112 = .ok (.aload_n 0, 1) := dk_42 (dk_at dksX2_part_5 0 rfl rfl)
theorem dX2_part_113 : decode cX2_part 113 = .ok (.new 79, 3) := dk_187 0 79 (dk_at dksX2_part_5 1 rfl rfl)
theorem dX2_part_116 : decode cX2_part 116 = .ok (.dup, 1) := dk_89 (dk_at dksX2_part_5 4 rfl rfl)
theorem dX2_part_117 : decode cX2_part 117 = .ok (.aload_n 0, 1) := dk_42 (dk_at dksX2_part_5 5 rfl rfl)
theorem dX2_part_118 : decode cX2_part 118 = .ok (.invokevirtual 81, 3) := dk_182 0 81 (dk_at dksX2_part_5 6 rfl rfl)
theorem dX2_part_121 : decode cX2_part 121 = .ok (.invokespecial 84, 3) := dk_183 0 84 (dk_at dksX2_part_5 9 rfl rfl)
theorem dX2_part_124 : decode cX2_part 124 = .ok (.invokevirtual 87, 3) := dk_182 0 87 (dk_at dksX2_part_5 12 rfl rfl)
theorem dX2_part_127 : decode cX2_part 127 = .ok (.goto 33, 3) := dk_167 0 33 (dk_at dksX2_part_5 15 rfl rfl)
theorem dX2_part_130 : decode cX2_part 130 = .ok (.aload_n 0, 1) := dk_42 (dk_at dksX2_part_5 18 rfl rfl)
theorem dX2_part_131 : decode cX2_part 131 = .ok (.invokevirtual 91, 3) := dk_182 0 91 (dk_at dksX2_part_5 19 rfl rfl)
theorem dX2_part_134 : decode cX2_part 134 = .ok (.goto 26, 3) := dk_167 0 26 (dk_at dksX2_part_6 0 rfl rfl)
theorem dX2_part_137 : decode cX2_part 137 = .ok (.aload_n 0, 1) := dk_42 (dk_at dksX2_part_6 3 rfl rfl)
theorem dX2_part_138 : decode cX2_part 138 = .ok (.getfield 35, 3) := dk_180 0 35 (dk_at dksX2_part_6 4 rfl rfl)
theorem dX2_part_141 : decode cX2_part 141 = .ok (.getfield 94, 3) := dk_180 0 94 (dk_at dksX2_part_6 7 rfl rfl)
theorem dX2_part_144 : decode cX2_part 144 = .ok (.aload_n 0, 1) := dk_42 (dk_at dksX2_part_6 10 rfl rfl)
theorem dX2_part_145 : decode cX2_part 145 = .ok (.getfield 35, 3) := dk_180 0 35 (dk_at dksX2_part_6 11 rfl rfl)
theorem dX2_part_148 : decode cX2_part 148 = .ok (.getfield 76, 3) := dk_180 0 76 (dk_at dksX2_part_6 14 rfl rfl)
theorem dX2_part_151 : decode cX2_part 151 = .ok (.aload_n 0, 1) := dk_42 (dk_at dksX2_part_6 17 rfl rfl)
theorem dX2_part_152 : decode cX2_part 152 = .ok (.invokevirtual 81, 3) := dk_182 0 81 (dk_at dksX2_part_6 18 rfl rfl)
theorem dX2_part_155 : decode cX2_part 155 = .ok (.lastore, 1) := dk_80 (dk_at dksX2_part_6 21 rfl rfl)
theorem dX2_part_156 : decode cX2_part 156 = .ok (.aload_n 0, 1) := dk_42 (dk_at dksX2_part_6 22 rfl rfl)
theorem dX2_part_157 : decode cX2_part 157 = .ok (.invokevirtual 98, 3) := dk_182 0 98 (dk_at dksX2_part_7 0 rfl rfl)
theorem dX2_part_160 : decode cX2_part 160 = .ok (.return_, 1) := dk_177 (dk_at dksX2_part_7 3 rfl rfl)
abbrev cX2_newName : ByteArray := prog_8_method_7_code
def yX2_newName : MethodName := ⟨RX2, "newName", "()J"⟩
def dkwX2_newName_1 : List UInt8 := [182, 0, 101, 2, 159, 0, 9, 42, 6, 182, 0, 49, 191, 42, 182, 0, 31, 31, 173]
abbrev dktX2_newName_1 : List UInt8 := dkwX2_newName_1 ++ []
def dkwX2_newName_0 : List UInt8 := [42, 182, 0, 39, 64, 42, 180, 0, 35, 31, 182, 0, 43, 2, 160, 0, 15, 42, 180, 0, 35, 31]
abbrev dktX2_newName_0 : List UInt8 := dkwX2_newName_0 ++ dktX2_newName_1
theorem dksX2_newName_0 : cX2_newName.data.toList.drop 0 = dktX2_newName_0 := by decide +kernel
theorem dksX2_newName_1 : cX2_newName.data.toList.drop 22 = dktX2_newName_1 := dk_seg dksX2_newName_0 22 rfl rfl
theorem dX2_newName_0 : decode cX2_newName 0 = .ok (.aload_n 0, 1) := dk_42 (dk_at dksX2_newName_0 0 rfl rfl)
theorem dX2_newName_1 : decode cX2_newName 1 = .ok (.invokevirtual 39, 3) := dk_182 0 39 (dk_at dksX2_newName_0 1 rfl rfl)
theorem dX2_newName_4 : decode cX2_newName 4 = .ok (.lstore_n 1, 1) := dk_64 (dk_at dksX2_newName_0 4 rfl rfl)
theorem dX2_newName_5 : decode cX2_newName 5 = .ok (.aload_n 0, 1) := dk_42 (dk_at dksX2_newName_0 5 rfl rfl)
theorem dX2_newName_6 : decode cX2_newName 6 = .ok (.getfield 35, 3) := dk_180 0 35 (dk_at dksX2_newName_0 6 rfl rfl)
theorem dX2_newName_9 : decode cX2_newName 9 = .ok (.lload_n 1, 1) := dk_31 (dk_at dksX2_newName_0 9 rfl rfl)
theorem dX2_newName_10 : decode cX2_newName 10 = .ok (.invokevirtual 43, 3) := dk_182 0 43 (dk_at dksX2_newName_0 10 rfl rfl)
theorem dX2_newName_13 : decode cX2_newName 13 = .ok (.iconst (-1), 1) := dk_2 (dk_at dksX2_newName_0 13 rfl rfl)
theorem dX2_newName_14 : decode cX2_newName 14 = .ok (.if_icmp .ne 15, 3) := dk_160 0 15 (dk_at dksX2_newName_0 14 rfl rfl)
theorem dX2_newName_17 : decode cX2_newName 17 = .ok (.aload_n 0, 1) := dk_42 (dk_at dksX2_newName_0 17 rfl rfl)
theorem dX2_newName_18 : decode cX2_newName 18 = .ok (.getfield 35, 3) := dk_180 0 35 (dk_at dksX2_newName_0 18 rfl rfl)
theorem dX2_newName_21 : decode cX2_newName 21 = .ok (.lload_n 1, 1) := dk_31 (dk_at dksX2_newName_0 21 rfl rfl)
theorem dX2_newName_22 : decode cX2_newName 22 = .ok (.invokevirtual 101, 3) := dk_182 0 101 (dk_at dksX2_newName_1 0 rfl rfl)
theorem dX2_newName_25 : decode cX2_newName 25 = .ok (.iconst (-1), 1) := dk_2 (dk_at dksX2_newName_1 3 rfl rfl)
theorem dX2_newName_26 : decode cX2_newName 26 = .ok (.if_icmp .eq 9, 3) := dk_159 0 9 (dk_at dksX2_newName_1 4 rfl rfl)
theorem dX2_newName_29 : decode cX2_newName 29 = .ok (.aload_n 0, 1) := dk_42 (dk_at dksX2_newName_1 7 rfl rfl)
theorem dX2_newName_30 : decode cX2_newName 30 = .ok (.iconst 3, 1) := dk_6 (dk_at dksX2_newName_1 8 rfl rfl)
theorem dX2_newName_31 : decode cX2_newName 31 = .ok (.invokevirtual 49, 3) := dk_182 0 49 (dk_at dksX2_newName_1 9 rfl rfl)
theorem dX2_newName_34 : decode cX2_newName 34 = .ok (.athrow, 1) := dk_191 (dk_at dksX2_newName_1 12 rfl rfl)
theorem dX2_newName_35 : decode cX2_newName 35 = .ok (.aload_n 0, 1) := dk_42 (dk_at dksX2_newName_1 13 rfl rfl)
theorem dX2_newName_36 : decode cX2_newName 36 = .ok (.invokevirtual 31, 3) := dk_182 0 31 (dk_at dksX2_newName_1 14 rfl rfl)
theorem dX2_newName_39 : decode cX2_newName 39 = .ok (.lload_n 1, 1) := dk_31 (dk_at dksX2_newName_1 17 rfl rfl)
theorem dX2_newName_40 : decode cX2_newName 40 = .ok (.lreturn, 1) := dk_173 (dk_at dksX2_newName_1 18 rfl rfl)
abbrev cX2_aLead : ByteArray := prog_8_method_8_code
def yX2_aLead : MethodName := ⟨RX2, "aLead", "(LCableDrawer$Lead;)V"⟩
def dkwX2_aLead_6 : List UInt8 := [96, 181, 0, 70, 177]
abbrev dktX2_aLead_6 : List UInt8 := dkwX2_aLead_6 ++ []
def dkwX2_aLead_5 : List UInt8 := [180, 0, 35, 180, 0, 137, 42, 180, 0, 35, 180, 0, 70, 43, 83, 42, 180, 0, 35, 89, 180, 0, 70, 4]
abbrev dktX2_aLead_5 : List UInt8 := dkwX2_aLead_5 ++ dktX2_aLead_6
def dkwX2_aLead_4 : List UInt8 := [43, 42, 3, 16, 16, 182, 0, 107, 181, 0, 130, 43, 42, 16, 17, 182, 0, 114, 181, 0, 133, 42]
abbrev dktX2_aLead_4 : List UInt8 := dkwX2_aLead_4 ++ dktX2_aLead_5
def dkwX2_aLead_3 : List UInt8 := [153, 0, 15, 43, 42, 3, 17, 3, 231, 182, 0, 107, 181, 0, 127, 42, 16, 7, 182, 0, 114, 153, 0, 14]
abbrev dktX2_aLead_3 : List UInt8 := dkwX2_aLead_3 ++ dktX2_aLead_4
def dkwX2_aLead_2 : List UInt8 := [182, 0, 107, 181, 0, 121, 43, 42, 4, 16, 9, 182, 0, 107, 181, 0, 124, 42, 16, 6, 182, 0, 114]
abbrev dktX2_aLead_2 : List UInt8 := dkwX2_aLead_2 ++ dktX2_aLead_3
def dkwX2_aLead_1 : List UInt8 := [43, 42, 3, 16, 9, 182, 0, 107, 181, 0, 118, 42, 8, 182, 0, 114, 153, 0, 25, 43, 42, 4, 16, 9]
abbrev dktX2_aLead_1 : List UInt8 := dkwX2_aLead_1 ++ dktX2_aLead_2
def dkwX2_aLead_0 : List UInt8 := [42, 6, 182, 0, 104, 43, 42, 4, 16, 30, 182, 0, 107, 181, 0, 111, 42, 7, 182, 0, 114, 153, 0, 14]
abbrev dktX2_aLead_0 : List UInt8 := dkwX2_aLead_0 ++ dktX2_aLead_1
theorem dksX2_aLead_0 : cX2_aLead.data.toList.drop 0 = dktX2_aLead_0 := by decide +kernel
theorem dksX2_aLead_1 : cX2_aLead.data.toList.drop 24 = dktX2_aLead_1 := dk_seg dksX2_aLead_0 24 rfl rfl
theorem dksX2_aLead_2 : cX2_aLead.data.toList.drop 48 = dktX2_aLead_2 := dk_seg dksX2_aLead_1 24 rfl rfl
theorem dksX2_aLead_3 : cX2_aLead.data.toList.drop 71 = dktX2_aLead_3 := dk_seg dksX2_aLead_2 23 rfl rfl
theorem dksX2_aLead_4 : cX2_aLead.data.toList.drop 95 = dktX2_aLead_4 := dk_seg dksX2_aLead_3 24 rfl rfl
theorem dksX2_aLead_5 : cX2_aLead.data.toList.drop 117 = dktX2_aLead_5 := dk_seg dksX2_aLead_4 22 rfl rfl
theorem dksX2_aLead_6 : cX2_aLead.data.toList.drop 141 = dktX2_aLead_6 := dk_seg dksX2_aLead_5 24 rfl rfl
theorem dX2_aLead_0 : decode cX2_aLead 0 = .ok (.aload_n 0, 1) := dk_42 (dk_at dksX2_aLead_0 0 rfl rfl)
theorem dX2_aLead_1 : decode cX2_aLead 1 = .ok (.iconst 3, 1) := dk_6 (dk_at dksX2_aLead_0 1 rfl rfl)
theorem dX2_aLead_2 : decode cX2_aLead 2 = .ok (.invokevirtual 104, 3) := dk_182 0 104 (dk_at dksX2_aLead_0 2 rfl rfl)
theorem dX2_aLead_5 : decode cX2_aLead 5 = .ok (.aload_n 1, 1) := dk_43 (dk_at dksX2_aLead_0 5 rfl rfl)
theorem dX2_aLead_6 : decode cX2_aLead 6 = .ok (.aload_n 0, 1) := dk_42 (dk_at dksX2_aLead_0 6 rfl rfl)
theorem dX2_aLead_7 : decode cX2_aLead 7 = .ok (.iconst 1, 1) := dk_4 (dk_at dksX2_aLead_0 7 rfl rfl)
theorem dX2_aLead_8 : decode cX2_aLead 8 = .ok (.bipush 30, 2) := dk_16 30 (dk_at dksX2_aLead_0 8 rfl rfl)
theorem dX2_aLead_10 : decode cX2_aLead 10 = .ok (.invokevirtual 107, 3) := dk_182 0 107 (dk_at dksX2_aLead_0 10 rfl rfl)
theorem dX2_aLead_13 : decode cX2_aLead 13 = .ok (.putfield 111, 3) := dk_181 0 111 (dk_at dksX2_aLead_0 13 rfl rfl)
theorem dX2_aLead_16 : decode cX2_aLead 16 = .ok (.aload_n 0, 1) := dk_42 (dk_at dksX2_aLead_0 16 rfl rfl)
theorem dX2_aLead_17 : decode cX2_aLead 17 = .ok (.iconst 4, 1) := dk_7 (dk_at dksX2_aLead_0 17 rfl rfl)
theorem dX2_aLead_18 : decode cX2_aLead 18 = .ok (.invokevirtual 114, 3) := dk_182 0 114 (dk_at dksX2_aLead_0 18 rfl rfl)
theorem dX2_aLead_21 : decode cX2_aLead 21 = .ok (.ifCond .eq 14, 3) := dk_153 0 14 (dk_at dksX2_aLead_0 21 rfl rfl)
theorem dX2_aLead_24 : decode cX2_aLead 24 = .ok (.aload_n 1, 1) := dk_43 (dk_at dksX2_aLead_1 0 rfl rfl)
theorem dX2_aLead_25 : decode cX2_aLead 25 = .ok (.aload_n 0, 1) := dk_42 (dk_at dksX2_aLead_1 1 rfl rfl)
theorem dX2_aLead_26 : decode cX2_aLead 26 = .ok (.iconst 0, 1) := dk_3 (dk_at dksX2_aLead_1 2 rfl rfl)
theorem dX2_aLead_27 : decode cX2_aLead 27 = .ok (.bipush 9, 2) := dk_16 9 (dk_at dksX2_aLead_1 3 rfl rfl)
theorem dX2_aLead_29 : decode cX2_aLead 29 = .ok (.invokevirtual 107, 3) := dk_182 0 107 (dk_at dksX2_aLead_1 5 rfl rfl)
theorem dX2_aLead_32 : decode cX2_aLead 32 = .ok (.putfield 118, 3) := dk_181 0 118 (dk_at dksX2_aLead_1 8 rfl rfl)
theorem dX2_aLead_35 : decode cX2_aLead 35 = .ok (.aload_n 0, 1) := dk_42 (dk_at dksX2_aLead_1 11 rfl rfl)
theorem dX2_aLead_36 : decode cX2_aLead 36 = .ok (.iconst 5, 1) := dk_8 (dk_at dksX2_aLead_1 12 rfl rfl)
theorem dX2_aLead_37 : decode cX2_aLead 37 = .ok (.invokevirtual 114, 3) := dk_182 0 114 (dk_at dksX2_aLead_1 13 rfl rfl)
theorem dX2_aLead_40 : decode cX2_aLead 40 = .ok (.ifCond .eq 25, 3) := dk_153 0 25 (dk_at dksX2_aLead_1 16 rfl rfl)
theorem dX2_aLead_43 : decode cX2_aLead 43 = .ok (.aload_n 1, 1) := dk_43 (dk_at dksX2_aLead_1 19 rfl rfl)
theorem dX2_aLead_44 : decode cX2_aLead 44 = .ok (.aload_n 0, 1) := dk_42 (dk_at dksX2_aLead_1 20 rfl rfl)
theorem dX2_aLead_45 : decode cX2_aLead 45 = .ok (.iconst 1, 1) := dk_4 (dk_at dksX2_aLead_1 21 rfl rfl)
theorem dX2_aLead_46 : decode cX2_aLead 46 = .ok (.bipush 9, 2) := dk_16 9 (dk_at dksX2_aLead_1 22 rfl rfl)
theorem dX2_aLead_48 : decode cX2_aLead 48 = .ok (.invokevirtual 107, 3) := dk_182 0 107 (dk_at dksX2_aLead_2 0 rfl rfl)
theorem dX2_aLead_51 : decode cX2_aLead 51 = .ok (.putfield 121, 3) := dk_181 0 121 (dk_at dksX2_aLead_2 3 rfl rfl)
theorem dX2_aLead_54 : decode cX2_aLead 54 = .ok (.aload_n 1, 1) := dk_43 (dk_at dksX2_aLead_2 6 rfl rfl)
theorem dX2_aLead_55 : decode cX2_aLead 55 = .ok (.aload_n 0, 1) := dk_42 (dk_at dksX2_aLead_2 7 rfl rfl)
theorem dX2_aLead_56 : decode cX2_aLead 56 = .ok (.iconst 1, 1) := dk_4 (dk_at dksX2_aLead_2 8 rfl rfl)
theorem dX2_aLead_57 : decode cX2_aLead 57 = .ok (.bipush 9, 2) := dk_16 9 (dk_at dksX2_aLead_2 9 rfl rfl)
theorem dX2_aLead_59 : decode cX2_aLead 59 = .ok (.invokevirtual 107, 3) := dk_182 0 107 (dk_at dksX2_aLead_2 11 rfl rfl)
theorem dX2_aLead_62 : decode cX2_aLead 62 = .ok (.putfield 124, 3) := dk_181 0 124 (dk_at dksX2_aLead_2 14 rfl rfl)
theorem dX2_aLead_65 : decode cX2_aLead 65 = .ok (.aload_n 0, 1) := dk_42 (dk_at dksX2_aLead_2 17 rfl rfl)
theorem dX2_aLead_66 : decode cX2_aLead 66 = .ok (.bipush 6, 2) := dk_16 6 (dk_at dksX2_aLead_2 18 rfl rfl)
theorem dX2_aLead_68 : decode cX2_aLead 68 = .ok (.invokevirtual 114, 3) := dk_182 0 114 (dk_at dksX2_aLead_2 20 rfl rfl)
theorem dX2_aLead_71 : decode cX2_aLead 71 = .ok (.ifCond .eq 15, 3) := dk_153 0 15 (dk_at dksX2_aLead_3 0 rfl rfl)
theorem dX2_aLead_74 : decode cX2_aLead 74 = .ok (.aload_n 1, 1) := dk_43 (dk_at dksX2_aLead_3 3 rfl rfl)
theorem dX2_aLead_75 : decode cX2_aLead 75 = .ok (.aload_n 0, 1) := dk_42 (dk_at dksX2_aLead_3 4 rfl rfl)
theorem dX2_aLead_76 : decode cX2_aLead 76 = .ok (.iconst 0, 1) := dk_3 (dk_at dksX2_aLead_3 5 rfl rfl)
theorem dX2_aLead_77 : decode cX2_aLead 77 = .ok (.sipush 999, 3) := dk_17 3 231 (dk_at dksX2_aLead_3 6 rfl rfl)
theorem dX2_aLead_80 : decode cX2_aLead 80 = .ok (.invokevirtual 107, 3) := dk_182 0 107 (dk_at dksX2_aLead_3 9 rfl rfl)
theorem dX2_aLead_83 : decode cX2_aLead 83 = .ok (.putfield 127, 3) := dk_181 0 127 (dk_at dksX2_aLead_3 12 rfl rfl)
theorem dX2_aLead_86 : decode cX2_aLead 86 = .ok (.aload_n 0, 1) := dk_42 (dk_at dksX2_aLead_3 15 rfl rfl)
theorem dX2_aLead_87 : decode cX2_aLead 87 = .ok (.bipush 7, 2) := dk_16 7 (dk_at dksX2_aLead_3 16 rfl rfl)
theorem dX2_aLead_89 : decode cX2_aLead 89 = .ok (.invokevirtual 114, 3) := dk_182 0 114 (dk_at dksX2_aLead_3 18 rfl rfl)
theorem dX2_aLead_92 : decode cX2_aLead 92 = .ok (.ifCond .eq 14, 3) := dk_153 0 14 (dk_at dksX2_aLead_3 21 rfl rfl)
theorem dX2_aLead_95 : decode cX2_aLead 95 = .ok (.aload_n 1, 1) := dk_43 (dk_at dksX2_aLead_4 0 rfl rfl)
theorem dX2_aLead_96 : decode cX2_aLead 96 = .ok (.aload_n 0, 1) := dk_42 (dk_at dksX2_aLead_4 1 rfl rfl)
theorem dX2_aLead_97 : decode cX2_aLead 97 = .ok (.iconst 0, 1) := dk_3 (dk_at dksX2_aLead_4 2 rfl rfl)
theorem dX2_aLead_98 : decode cX2_aLead 98 = .ok (.bipush 16, 2) := dk_16 16 (dk_at dksX2_aLead_4 3 rfl rfl)
theorem dX2_aLead_100 : decode cX2_aLead 100 = .ok (.invokevirtual 107, 3) := dk_182 0 107 (dk_at dksX2_aLead_4 5 rfl rfl)
theorem dX2_aLead_103 : decode cX2_aLead 103 = .ok (.putfield 130, 3) := dk_181 0 130 (dk_at dksX2_aLead_4 8 rfl rfl)
theorem dX2_aLead_106 : decode cX2_aLead 106 = .ok (.aload_n 1, 1) := dk_43 (dk_at dksX2_aLead_4 11 rfl rfl)
theorem dX2_aLead_107 : decode cX2_aLead 107 = .ok (.aload_n 0, 1) := dk_42 (dk_at dksX2_aLead_4 12 rfl rfl)
theorem dX2_aLead_108 : decode cX2_aLead 108 = .ok (.bipush 17, 2) := dk_16 17 (dk_at dksX2_aLead_4 13 rfl rfl)
theorem dX2_aLead_110 : decode cX2_aLead 110 = .ok (.invokevirtual 114, 3) := dk_182 0 114 (dk_at dksX2_aLead_4 15 rfl rfl)
theorem dX2_aLead_113 : decode cX2_aLead 113 = .ok (.putfield 133, 3) := dk_181 0 133 (dk_at dksX2_aLead_4 18 rfl rfl)
theorem dX2_aLead_116 : decode cX2_aLead 116 = .ok (.aload_n 0, 1) := dk_42 (dk_at dksX2_aLead_4 21 rfl rfl)
theorem dX2_aLead_117 : decode cX2_aLead 117 = .ok (.getfield 35, 3) := dk_180 0 35 (dk_at dksX2_aLead_5 0 rfl rfl)
theorem dX2_aLead_120 : decode cX2_aLead 120 = .ok (.getfield 137, 3) := dk_180 0 137 (dk_at dksX2_aLead_5 3 rfl rfl)
theorem dX2_aLead_123 : decode cX2_aLead 123 = .ok (.aload_n 0, 1) := dk_42 (dk_at dksX2_aLead_5 6 rfl rfl)
theorem dX2_aLead_124 : decode cX2_aLead 124 = .ok (.getfield 35, 3) := dk_180 0 35 (dk_at dksX2_aLead_5 7 rfl rfl)
theorem dX2_aLead_127 : decode cX2_aLead 127 = .ok (.getfield 70, 3) := dk_180 0 70 (dk_at dksX2_aLead_5 10 rfl rfl)
theorem dX2_aLead_130 : decode cX2_aLead 130 = .ok (.aload_n 1, 1) := dk_43 (dk_at dksX2_aLead_5 13 rfl rfl)
theorem dX2_aLead_131 : decode cX2_aLead 131 = .ok (.aastore, 1) := dk_83 (dk_at dksX2_aLead_5 14 rfl rfl)
theorem dX2_aLead_132 : decode cX2_aLead 132 = .ok (.aload_n 0, 1) := dk_42 (dk_at dksX2_aLead_5 15 rfl rfl)
theorem dX2_aLead_133 : decode cX2_aLead 133 = .ok (.getfield 35, 3) := dk_180 0 35 (dk_at dksX2_aLead_5 16 rfl rfl)
theorem dX2_aLead_136 : decode cX2_aLead 136 = .ok (.dup, 1) := dk_89 (dk_at dksX2_aLead_5 19 rfl rfl)
theorem dX2_aLead_137 : decode cX2_aLead 137 = .ok (.getfield 70, 3) := dk_180 0 70 (dk_at dksX2_aLead_5 20 rfl rfl)
theorem dX2_aLead_140 : decode cX2_aLead 140 = .ok (.iconst 1, 1) := dk_4 (dk_at dksX2_aLead_5 23 rfl rfl)
theorem dX2_aLead_141 : decode cX2_aLead 141 = .ok (.iadd, 1) := dk_96 (dk_at dksX2_aLead_6 0 rfl rfl)
theorem dX2_aLead_142 : decode cX2_aLead 142 = .ok (.putfield 70, 3) := dk_181 0 70 (dk_at dksX2_aLead_6 1 rfl rfl)
theorem dX2_aLead_145 : decode cX2_aLead 145 = .ok (.return_, 1) := dk_177 (dk_at dksX2_aLead_6 4 rfl rfl)
abbrev cX2_word : ByteArray := prog_8_method_2_code
def yX2_word : MethodName := ⟨RX2, "word", "(I)V"⟩
def dkwX2_word_0 : List UInt8 := [42, 42, 182, 0, 23, 27, 160, 0, 7, 4, 167, 0, 4, 3, 182, 0, 27, 42, 182, 0, 31, 177]
abbrev dktX2_word_0 : List UInt8 := dkwX2_word_0 ++ []
theorem dksX2_word_0 : cX2_word.data.toList.drop 0 = dktX2_word_0 := by decide +kernel
theorem dX2_word_0 : decode cX2_word 0 = .ok (.aload_n 0, 1) := dk_42 (dk_at dksX2_word_0 0 rfl rfl)
theorem dX2_word_1 : decode cX2_word 1 = .ok (.aload_n 0, 1) := dk_42 (dk_at dksX2_word_0 1 rfl rfl)
theorem dX2_word_2 : decode cX2_word 2 = .ok (.invokevirtual 23, 3) := dk_182 0 23 (dk_at dksX2_word_0 2 rfl rfl)
theorem dX2_word_5 : decode cX2_word 5 = .ok (.iload_n 1, 1) := dk_27 (dk_at dksX2_word_0 5 rfl rfl)
theorem dX2_word_6 : decode cX2_word 6 = .ok (.if_icmp .ne 7, 3) := dk_160 0 7 (dk_at dksX2_word_0 6 rfl rfl)
theorem dX2_word_9 : decode cX2_word 9 = .ok (.iconst 1, 1) := dk_4 (dk_at dksX2_word_0 9 rfl rfl)
theorem dX2_word_10 : decode cX2_word 10 = .ok (.goto 4, 3) := dk_167 0 4 (dk_at dksX2_word_0 10 rfl rfl)
theorem dX2_word_13 : decode cX2_word 13 = .ok (.iconst 0, 1) := dk_3 (dk_at dksX2_word_0 13 rfl rfl)
theorem dX2_word_14 : decode cX2_word 14 = .ok (.invokevirtual 27, 3) := dk_182 0 27 (dk_at dksX2_word_0 14 rfl rfl)
theorem dX2_word_17 : decode cX2_word 17 = .ok (.aload_n 0, 1) := dk_42 (dk_at dksX2_word_0 17 rfl rfl)
theorem dX2_word_18 : decode cX2_word 18 = .ok (.invokevirtual 31, 3) := dk_182 0 31 (dk_at dksX2_word_0 18 rfl rfl)
theorem dX2_word_21 : decode cX2_word 21 = .ok (.return_, 1) := dk_177 (dk_at dksX2_word_0 21 rfl rfl)
abbrev cX2_isNext : ByteArray := prog_8_method_4_code
def yX2_isNext : MethodName := ⟨RX2, "isNext", "(I)Z"⟩
def dkwX2_isNext_0 : List UInt8 := [42, 182, 0, 23, 27, 159, 0, 5, 3, 172, 42, 182, 0, 31, 4, 172]
abbrev dktX2_isNext_0 : List UInt8 := dkwX2_isNext_0 ++ []
theorem dksX2_isNext_0 : cX2_isNext.data.toList.drop 0 = dktX2_isNext_0 := by decide +kernel
theorem dX2_isNext_0 : decode cX2_isNext 0 = .ok (.aload_n 0, 1) := dk_42 (dk_at dksX2_isNext_0 0 rfl rfl)
theorem dX2_isNext_1 : decode cX2_isNext 1 = .ok (.invokevirtual 23, 3) := dk_182 0 23 (dk_at dksX2_isNext_0 1 rfl rfl)
theorem dX2_isNext_4 : decode cX2_isNext 4 = .ok (.iload_n 1, 1) := dk_27 (dk_at dksX2_isNext_0 4 rfl rfl)
theorem dX2_isNext_5 : decode cX2_isNext 5 = .ok (.if_icmp .eq 5, 3) := dk_159 0 5 (dk_at dksX2_isNext_0 5 rfl rfl)
theorem dX2_isNext_8 : decode cX2_isNext 8 = .ok (.iconst 0, 1) := dk_3 (dk_at dksX2_isNext_0 8 rfl rfl)
theorem dX2_isNext_9 : decode cX2_isNext 9 = .ok (.ireturn, 1) := dk_172 (dk_at dksX2_isNext_0 9 rfl rfl)
theorem dX2_isNext_10 : decode cX2_isNext 10 = .ok (.aload_n 0, 1) := dk_42 (dk_at dksX2_isNext_0 10 rfl rfl)
theorem dX2_isNext_11 : decode cX2_isNext 11 = .ok (.invokevirtual 31, 3) := dk_182 0 31 (dk_at dksX2_isNext_0 11 rfl rfl)
theorem dX2_isNext_14 : decode cX2_isNext 14 = .ok (.iconst 1, 1) := dk_4 (dk_at dksX2_isNext_0 14 rfl rfl)
theorem dX2_isNext_15 : decode cX2_isNext 15 = .ok (.ireturn, 1) := dk_172 (dk_at dksX2_isNext_0 15 rfl rfl)
abbrev cX2_aCrossing : ByteArray := prog_8_method_10_code
def yX2_aCrossing : MethodName := ⟨RX2, "aCrossing", "()V"⟩
def dkwX2_aCrossing_2 : List UInt8 := [180, 0, 35, 27, 28, 21, 4, 153, 0, 12, 29, 16, 8, 100, 4, 96, 167, 0, 4, 3, 182, 0, 148, 177]
abbrev dktX2_aCrossing_2 : List UInt8 := dkwX2_aCrossing_2 ++ []
def dkwX2_aCrossing_1 : List UInt8 := [16, 10, 163, 0, 7, 4, 167, 0, 4, 3, 54, 4, 21, 4, 153, 0, 7, 42, 182, 0, 31, 42]
abbrev dktX2_aCrossing_1 : List UInt8 := dkwX2_aCrossing_1 ++ dktX2_aCrossing_2
def dkwX2_aCrossing_0 : List UInt8 := [42, 2, 182, 0, 144, 60, 42, 27, 182, 0, 144, 61, 42, 182, 0, 23, 62, 29, 16, 8, 161, 0, 13, 29]
abbrev dktX2_aCrossing_0 : List UInt8 := dkwX2_aCrossing_0 ++ dktX2_aCrossing_1
theorem dksX2_aCrossing_0 : cX2_aCrossing.data.toList.drop 0 = dktX2_aCrossing_0 := by decide +kernel
theorem dksX2_aCrossing_1 : cX2_aCrossing.data.toList.drop 24 = dktX2_aCrossing_1 := dk_seg dksX2_aCrossing_0 24 rfl rfl
theorem dksX2_aCrossing_2 : cX2_aCrossing.data.toList.drop 46 = dktX2_aCrossing_2 := dk_seg dksX2_aCrossing_1 22 rfl rfl
theorem dX2_aCrossing_0 : decode cX2_aCrossing 0 = .ok (.aload_n 0, 1) := dk_42 (dk_at dksX2_aCrossing_0 0 rfl rfl)
theorem dX2_aCrossing_1 : decode cX2_aCrossing 1 = .ok (.iconst (-1), 1) := dk_2 (dk_at dksX2_aCrossing_0 1 rfl rfl)
theorem dX2_aCrossing_2 : decode cX2_aCrossing 2 = .ok (.invokevirtual 144, 3) := dk_182 0 144 (dk_at dksX2_aCrossing_0 2 rfl rfl)
theorem dX2_aCrossing_5 : decode cX2_aCrossing 5 = .ok (.istore_n 1, 1) := dk_60 (dk_at dksX2_aCrossing_0 5 rfl rfl)
theorem dX2_aCrossing_6 : decode cX2_aCrossing 6 = .ok (.aload_n 0, 1) := dk_42 (dk_at dksX2_aCrossing_0 6 rfl rfl)
theorem dX2_aCrossing_7 : decode cX2_aCrossing 7 = .ok (.iload_n 1, 1) := dk_27 (dk_at dksX2_aCrossing_0 7 rfl rfl)
theorem dX2_aCrossing_8 : decode cX2_aCrossing 8 = .ok (.invokevirtual 144, 3) := dk_182 0 144 (dk_at dksX2_aCrossing_0 8 rfl rfl)
theorem dX2_aCrossing_11 : decode cX2_aCrossing 11 = .ok (.istore_n 2, 1) := dk_61 (dk_at dksX2_aCrossing_0 11 rfl rfl)
theorem dX2_aCrossing_12 : decode cX2_aCrossing 12 = .ok (.aload_n 0, 1) := dk_42 (dk_at dksX2_aCrossing_0 12 rfl rfl)
theorem dX2_aCrossing_13 : decode cX2_aCrossing 13 = .ok (.invokevirtual 23, 3) := dk_182 0 23 (dk_at dksX2_aCrossing_0 13 rfl rfl)
theorem dX2_aCrossing_16 : decode cX2_aCrossing 16 = .ok (.istore_n 3, 1) := dk_62 (dk_at dksX2_aCrossing_0 16 rfl rfl)
theorem dX2_aCrossing_17 : decode cX2_aCrossing 17 = .ok (.iload_n 3, 1) := dk_29 (dk_at dksX2_aCrossing_0 17 rfl rfl)
theorem dX2_aCrossing_18 : decode cX2_aCrossing 18 = .ok (.bipush 8, 2) := dk_16 8 (dk_at dksX2_aCrossing_0 18 rfl rfl)
theorem dX2_aCrossing_20 : decode cX2_aCrossing 20 = .ok (.if_icmp .lt 13, 3) := dk_161 0 13 (dk_at dksX2_aCrossing_0 20 rfl rfl)
theorem dX2_aCrossing_23 : decode cX2_aCrossing 23 = .ok (.iload_n 3, 1) := dk_29 (dk_at dksX2_aCrossing_0 23 rfl rfl)
theorem dX2_aCrossing_24 : decode cX2_aCrossing 24 = .ok (.bipush 10, 2) := dk_16 10 (dk_at dksX2_aCrossing_1 0 rfl rfl)
theorem dX2_aCrossing_26 : decode cX2_aCrossing 26 = .ok (.if_icmp .gt 7, 3) := dk_163 0 7 (dk_at dksX2_aCrossing_1 2 rfl rfl)
theorem dX2_aCrossing_29 : decode cX2_aCrossing 29 = .ok (.iconst 1, 1) := dk_4 (dk_at dksX2_aCrossing_1 5 rfl rfl)
theorem dX2_aCrossing_30 : decode cX2_aCrossing 30 = .ok (.goto 4, 3) := dk_167 0 4 (dk_at dksX2_aCrossing_1 6 rfl rfl)
theorem dX2_aCrossing_33 : decode cX2_aCrossing 33 = .ok (.iconst 0, 1) := dk_3 (dk_at dksX2_aCrossing_1 9 rfl rfl)
theorem dX2_aCrossing_34 : decode cX2_aCrossing 34 = .ok (.istore 4, 2) := dk_54 4 (dk_at dksX2_aCrossing_1 10 rfl rfl)
theorem dX2_aCrossing_36 : decode cX2_aCrossing 36 = .ok (.iload 4, 2) := dk_21 4 (dk_at dksX2_aCrossing_1 12 rfl rfl)
theorem dX2_aCrossing_38 : decode cX2_aCrossing 38 = .ok (.ifCond .eq 7, 3) := dk_153 0 7 (dk_at dksX2_aCrossing_1 14 rfl rfl)
theorem dX2_aCrossing_41 : decode cX2_aCrossing 41 = .ok (.aload_n 0, 1) := dk_42 (dk_at dksX2_aCrossing_1 17 rfl rfl)
theorem dX2_aCrossing_42 : decode cX2_aCrossing 42 = .ok (.invokevirtual 31, 3) := dk_182 0 31 (dk_at dksX2_aCrossing_1 18 rfl rfl)
theorem dX2_aCrossing_45 : decode cX2_aCrossing 45 = .ok (.aload_n 0, 1) := dk_42 (dk_at dksX2_aCrossing_1 21 rfl rfl)
theorem dX2_aCrossing_46 : decode cX2_aCrossing 46 = .ok (.getfield 35, 3) := dk_180 0 35 (dk_at dksX2_aCrossing_2 0 rfl rfl)
theorem dX2_aCrossing_49 : decode cX2_aCrossing 49 = .ok (.iload_n 1, 1) := dk_27 (dk_at dksX2_aCrossing_2 3 rfl rfl)
theorem dX2_aCrossing_50 : decode cX2_aCrossing 50 = .ok (.iload_n 2, 1) := dk_28 (dk_at dksX2_aCrossing_2 4 rfl rfl)
theorem dX2_aCrossing_51 : decode cX2_aCrossing 51 = .ok (.iload 4, 2) := dk_21 4 (dk_at dksX2_aCrossing_2 5 rfl rfl)
theorem dX2_aCrossing_53 : decode cX2_aCrossing 53 = .ok (.ifCond .eq 12, 3) := dk_153 0 12 (dk_at dksX2_aCrossing_2 7 rfl rfl)
theorem dX2_aCrossing_56 : decode cX2_aCrossing 56 = .ok (.iload_n 3, 1) := dk_29 (dk_at dksX2_aCrossing_2 10 rfl rfl)
theorem dX2_aCrossing_57 : decode cX2_aCrossing 57 = .ok (.bipush 8, 2) := dk_16 8 (dk_at dksX2_aCrossing_2 11 rfl rfl)
theorem dX2_aCrossing_59 : decode cX2_aCrossing 59 = .ok (.isub, 1) := dk_100 (dk_at dksX2_aCrossing_2 13 rfl rfl)
theorem dX2_aCrossing_60 : decode cX2_aCrossing 60 = .ok (.iconst 1, 1) := dk_4 (dk_at dksX2_aCrossing_2 14 rfl rfl)
theorem dX2_aCrossing_61 : decode cX2_aCrossing 61 = .ok (.iadd, 1) := dk_96 (dk_at dksX2_aCrossing_2 15 rfl rfl)
theorem dX2_aCrossing_62 : decode cX2_aCrossing 62 = .ok (.goto 4, 3) := dk_167 0 4 (dk_at dksX2_aCrossing_2 16 rfl rfl)
theorem dX2_aCrossing_65 : decode cX2_aCrossing 65 = .ok (.iconst 0, 1) := dk_3 (dk_at dksX2_aCrossing_2 19 rfl rfl)
theorem dX2_aCrossing_66 : decode cX2_aCrossing 66 = .ok (.invokevirtual 148, 3) := dk_182 0 148 (dk_at dksX2_aCrossing_2 20 rfl rfl)
theorem dX2_aCrossing_69 : decode cX2_aCrossing 69 = .ok (.return_, 1) := dk_177 (dk_at dksX2_aCrossing_2 23 rfl rfl)
abbrev cX2_crosses : ByteArray := prog_8_method_9_code
def yX2_crosses : MethodName := ⟨RX2, "crosses", "(I)I"⟩
def dkwX2_crosses_1 : List UInt8 := [28, 50, 180, 0, 133, 154, 0, 8, 28, 27, 160, 0, 9, 42, 8, 182, 0, 49, 191, 42, 182, 0, 141, 172]
abbrev dktX2_crosses_1 : List UInt8 := dkwX2_crosses_1 ++ []
def dkwX2_crosses_0 : List UInt8 := [42, 180, 0, 35, 42, 182, 0, 39, 182, 0, 43, 61, 28, 2, 159, 0, 29, 42, 180, 0, 35, 180, 0, 137]
abbrev dktX2_crosses_0 : List UInt8 := dkwX2_crosses_0 ++ dktX2_crosses_1
theorem dksX2_crosses_0 : cX2_crosses.data.toList.drop 0 = dktX2_crosses_0 := by decide +kernel
theorem dksX2_crosses_1 : cX2_crosses.data.toList.drop 24 = dktX2_crosses_1 := dk_seg dksX2_crosses_0 24 rfl rfl
theorem dX2_crosses_0 : decode cX2_crosses 0 = .ok (.aload_n 0, 1) := dk_42 (dk_at dksX2_crosses_0 0 rfl rfl)
theorem dX2_crosses_1 : decode cX2_crosses 1 = .ok (.getfield 35, 3) := dk_180 0 35 (dk_at dksX2_crosses_0 1 rfl rfl)
theorem dX2_crosses_4 : decode cX2_crosses 4 = .ok (.aload_n 0, 1) := dk_42 (dk_at dksX2_crosses_0 4 rfl rfl)
theorem dX2_crosses_5 : decode cX2_crosses 5 = .ok (.invokevirtual 39, 3) := dk_182 0 39 (dk_at dksX2_crosses_0 5 rfl rfl)
theorem dX2_crosses_8 : decode cX2_crosses 8 = .ok (.invokevirtual 43, 3) := dk_182 0 43 (dk_at dksX2_crosses_0 8 rfl rfl)
theorem dX2_crosses_11 : decode cX2_crosses 11 = .ok (.istore_n 2, 1) := dk_61 (dk_at dksX2_crosses_0 11 rfl rfl)
theorem dX2_crosses_12 : decode cX2_crosses 12 = .ok (.iload_n 2, 1) := dk_28 (dk_at dksX2_crosses_0 12 rfl rfl)
theorem dX2_crosses_13 : decode cX2_crosses 13 = .ok (.iconst (-1), 1) := dk_2 (dk_at dksX2_crosses_0 13 rfl rfl)
theorem dX2_crosses_14 : decode cX2_crosses 14 = .ok (.if_icmp .eq 29, 3) := dk_159 0 29 (dk_at dksX2_crosses_0 14 rfl rfl)
theorem dX2_crosses_17 : decode cX2_crosses 17 = .ok (.aload_n 0, 1) := dk_42 (dk_at dksX2_crosses_0 17 rfl rfl)
theorem dX2_crosses_18 : decode cX2_crosses 18 = .ok (.getfield 35, 3) := dk_180 0 35 (dk_at dksX2_crosses_0 18 rfl rfl)
theorem dX2_crosses_21 : decode cX2_crosses 21 = .ok (.getfield 137, 3) := dk_180 0 137 (dk_at dksX2_crosses_0 21 rfl rfl)
theorem dX2_crosses_24 : decode cX2_crosses 24 = .ok (.iload_n 2, 1) := dk_28 (dk_at dksX2_crosses_1 0 rfl rfl)
theorem dX2_crosses_25 : decode cX2_crosses 25 = .ok (.aaload, 1) := dk_50 (dk_at dksX2_crosses_1 1 rfl rfl)
theorem dX2_crosses_26 : decode cX2_crosses 26 = .ok (.getfield 133, 3) := dk_180 0 133 (dk_at dksX2_crosses_1 2 rfl rfl)
theorem dX2_crosses_29 : decode cX2_crosses 29 = .ok (.ifCond .ne 8, 3) := dk_154 0 8 (dk_at dksX2_crosses_1 5 rfl rfl)
theorem dX2_crosses_32 : decode cX2_crosses 32 = .ok (.iload_n 2, 1) := dk_28 (dk_at dksX2_crosses_1 8 rfl rfl)
theorem dX2_crosses_33 : decode cX2_crosses 33 = .ok (.iload_n 1, 1) := dk_27 (dk_at dksX2_crosses_1 9 rfl rfl)
theorem dX2_crosses_34 : decode cX2_crosses 34 = .ok (.if_icmp .ne 9, 3) := dk_160 0 9 (dk_at dksX2_crosses_1 10 rfl rfl)
theorem dX2_crosses_37 : decode cX2_crosses 37 = .ok (.aload_n 0, 1) := dk_42 (dk_at dksX2_crosses_1 13 rfl rfl)
theorem dX2_crosses_38 : decode cX2_crosses 38 = .ok (.iconst 5, 1) := dk_8 (dk_at dksX2_crosses_1 14 rfl rfl)
theorem dX2_crosses_39 : decode cX2_crosses 39 = .ok (.invokevirtual 49, 3) := dk_182 0 49 (dk_at dksX2_crosses_1 15 rfl rfl)
theorem dX2_crosses_42 : decode cX2_crosses 42 = .ok (.athrow, 1) := dk_191 (dk_at dksX2_crosses_1 18 rfl rfl)
theorem dX2_crosses_43 : decode cX2_crosses 43 = .ok (.aload_n 0, 1) := dk_42 (dk_at dksX2_crosses_1 19 rfl rfl)
theorem dX2_crosses_44 : decode cX2_crosses 44 = .ok (.invokevirtual 141, 3) := dk_182 0 141 (dk_at dksX2_crosses_1 20 rfl rfl)
theorem dX2_crosses_47 : decode cX2_crosses 47 = .ok (.ireturn, 1) := dk_172 (dk_at dksX2_crosses_1 23 rfl rfl)
abbrev cX2_known : ByteArray := prog_8_method_3_code
def yX2_known : MethodName := ⟨RX2, "known", "()I"⟩
def dkwX2_known_1 : List UInt8 := [182, 0, 31, 27, 172]
abbrev dktX2_known_1 : List UInt8 := dkwX2_known_1 ++ []
def dkwX2_known_0 : List UInt8 := [42, 180, 0, 35, 42, 182, 0, 39, 182, 0, 43, 60, 27, 2, 160, 0, 9, 42, 6, 182, 0, 49, 191, 42]
abbrev dktX2_known_0 : List UInt8 := dkwX2_known_0 ++ dktX2_known_1
theorem dksX2_known_0 : cX2_known.data.toList.drop 0 = dktX2_known_0 := by decide +kernel
theorem dksX2_known_1 : cX2_known.data.toList.drop 24 = dktX2_known_1 := dk_seg dksX2_known_0 24 rfl rfl
theorem dX2_known_0 : decode cX2_known 0 = .ok (.aload_n 0, 1) := dk_42 (dk_at dksX2_known_0 0 rfl rfl)
theorem dX2_known_1 : decode cX2_known 1 = .ok (.getfield 35, 3) := dk_180 0 35 (dk_at dksX2_known_0 1 rfl rfl)
theorem dX2_known_4 : decode cX2_known 4 = .ok (.aload_n 0, 1) := dk_42 (dk_at dksX2_known_0 4 rfl rfl)
theorem dX2_known_5 : decode cX2_known 5 = .ok (.invokevirtual 39, 3) := dk_182 0 39 (dk_at dksX2_known_0 5 rfl rfl)
theorem dX2_known_8 : decode cX2_known 8 = .ok (.invokevirtual 43, 3) := dk_182 0 43 (dk_at dksX2_known_0 8 rfl rfl)
theorem dX2_known_11 : decode cX2_known 11 = .ok (.istore_n 1, 1) := dk_60 (dk_at dksX2_known_0 11 rfl rfl)
theorem dX2_known_12 : decode cX2_known 12 = .ok (.iload_n 1, 1) := dk_27 (dk_at dksX2_known_0 12 rfl rfl)
theorem dX2_known_13 : decode cX2_known 13 = .ok (.iconst (-1), 1) := dk_2 (dk_at dksX2_known_0 13 rfl rfl)
theorem dX2_known_14 : decode cX2_known 14 = .ok (.if_icmp .ne 9, 3) := dk_160 0 9 (dk_at dksX2_known_0 14 rfl rfl)
theorem dX2_known_17 : decode cX2_known 17 = .ok (.aload_n 0, 1) := dk_42 (dk_at dksX2_known_0 17 rfl rfl)
theorem dX2_known_18 : decode cX2_known 18 = .ok (.iconst 3, 1) := dk_6 (dk_at dksX2_known_0 18 rfl rfl)
theorem dX2_known_19 : decode cX2_known 19 = .ok (.invokevirtual 49, 3) := dk_182 0 49 (dk_at dksX2_known_0 19 rfl rfl)
theorem dX2_known_22 : decode cX2_known 22 = .ok (.athrow, 1) := dk_191 (dk_at dksX2_known_0 22 rfl rfl)
theorem dX2_known_23 : decode cX2_known 23 = .ok (.aload_n 0, 1) := dk_42 (dk_at dksX2_known_0 23 rfl rfl)
theorem dX2_known_24 : decode cX2_known 24 = .ok (.invokevirtual 31, 3) := dk_182 0 31 (dk_at dksX2_known_1 0 rfl rfl)
theorem dX2_known_27 : decode cX2_known 27 = .ok (.iload_n 1, 1) := dk_27 (dk_at dksX2_known_1 3 rfl rfl)
theorem dX2_known_28 : decode cX2_known 28 = .ok (.ireturn, 1) := dk_172 (dk_at dksX2_known_1 4 rfl rfl)
abbrev cX2_aLook : ByteArray := prog_8_method_11_code
def yX2_aLook : MethodName := ⟨RX2, "aLook", "()V"⟩
def dkwX2_aLook_3 : List UInt8 := [180, 0, 76, 27, 79, 42, 180, 0, 35, 89, 180, 0, 76, 4, 96, 181, 0, 76, 177]
abbrev dktX2_aLook_3 : List UInt8 := dkwX2_aLook_3 ++ []
def dkwX2_aLook_2 : List UInt8 := [182, 0, 152, 153, 0, 6, 167, 0, 6, 167, 255, 203, 42, 180, 0, 35, 180, 0, 155, 42, 180, 0, 35]
abbrev dktX2_aLook_2 : List UInt8 := dkwX2_aLook_2 ++ dktX2_aLook_3
def dkwX2_aLook_1 : List UInt8 := [4, 160, 0, 9, 42, 8, 182, 0, 49, 191, 27, 4, 42, 182, 0, 141, 120, 128, 60, 42, 16, 59]
abbrev dktX2_aLook_1 : List UInt8 := dkwX2_aLook_1 ++ dktX2_aLook_2
def dkwX2_aLook_0 : List UInt8 := [3, 60, 42, 180, 0, 35, 42, 182, 0, 39, 182, 0, 43, 61, 28, 2, 159, 0, 18, 27, 28, 122, 4, 126]
abbrev dktX2_aLook_0 : List UInt8 := dkwX2_aLook_0 ++ dktX2_aLook_1
theorem dksX2_aLook_0 : cX2_aLook.data.toList.drop 0 = dktX2_aLook_0 := by decide +kernel
theorem dksX2_aLook_1 : cX2_aLook.data.toList.drop 24 = dktX2_aLook_1 := dk_seg dksX2_aLook_0 24 rfl rfl
theorem dksX2_aLook_2 : cX2_aLook.data.toList.drop 46 = dktX2_aLook_2 := dk_seg dksX2_aLook_1 22 rfl rfl
theorem dksX2_aLook_3 : cX2_aLook.data.toList.drop 69 = dktX2_aLook_3 := dk_seg dksX2_aLook_2 23 rfl rfl
theorem dX2_aLook_0 : decode cX2_aLook 0 = .ok (.iconst 0, 1) := dk_3 (dk_at dksX2_aLook_0 0 rfl rfl)
theorem dX2_aLook_1 : decode cX2_aLook 1 = .ok (.istore_n 1, 1) := dk_60 (dk_at dksX2_aLook_0 1 rfl rfl)
theorem dX2_aLook_2 : decode cX2_aLook 2 = .ok (.aload_n 0, 1) := dk_42 (dk_at dksX2_aLook_0 2 rfl rfl)
theorem dX2_aLook_3 : decode cX2_aLook 3 = .ok (.getfield 35, 3) := dk_180 0 35 (dk_at dksX2_aLook_0 3 rfl rfl)
theorem dX2_aLook_6 : decode cX2_aLook 6 = .ok (.aload_n 0, 1) := dk_42 (dk_at dksX2_aLook_0 6 rfl rfl)
theorem dX2_aLook_7 : decode cX2_aLook 7 = .ok (.invokevirtual 39, 3) := dk_182 0 39 (dk_at dksX2_aLook_0 7 rfl rfl)
theorem dX2_aLook_10 : decode cX2_aLook 10 = .ok (.invokevirtual 43, 3) := dk_182 0 43 (dk_at dksX2_aLook_0 10 rfl rfl)
theorem dX2_aLook_13 : decode cX2_aLook 13 = .ok (.istore_n 2, 1) := dk_61 (dk_at dksX2_aLook_0 13 rfl rfl)
theorem dX2_aLook_14 : decode cX2_aLook 14 = .ok (.iload_n 2, 1) := dk_28 (dk_at dksX2_aLook_0 14 rfl rfl)
theorem dX2_aLook_15 : decode cX2_aLook 15 = .ok (.iconst (-1), 1) := dk_2 (dk_at dksX2_aLook_0 15 rfl rfl)
theorem dX2_aLook_16 : decode cX2_aLook 16 = .ok (.if_icmp .eq 18, 3) := dk_159 0 18 (dk_at dksX2_aLook_0 16 rfl rfl)
theorem dX2_aLook_19 : decode cX2_aLook 19 = .ok (.iload_n 1, 1) := dk_27 (dk_at dksX2_aLook_0 19 rfl rfl)
theorem dX2_aLook_20 : decode cX2_aLook 20 = .ok (.iload_n 2, 1) := dk_28 (dk_at dksX2_aLook_0 20 rfl rfl)
theorem dX2_aLook_21 : decode cX2_aLook 21 = .ok (.ishr, 1) := dk_122 (dk_at dksX2_aLook_0 21 rfl rfl)
theorem dX2_aLook_22 : decode cX2_aLook 22 = .ok (.iconst 1, 1) := dk_4 (dk_at dksX2_aLook_0 22 rfl rfl)
theorem dX2_aLook_23 : decode cX2_aLook 23 = .ok (.iand, 1) := dk_126 (dk_at dksX2_aLook_0 23 rfl rfl)
theorem dX2_aLook_24 : decode cX2_aLook 24 = .ok (.iconst 1, 1) := dk_4 (dk_at dksX2_aLook_1 0 rfl rfl)
theorem dX2_aLook_25 : decode cX2_aLook 25 = .ok (.if_icmp .ne 9, 3) := dk_160 0 9 (dk_at dksX2_aLook_1 1 rfl rfl)
theorem dX2_aLook_28 : decode cX2_aLook 28 = .ok (.aload_n 0, 1) := dk_42 (dk_at dksX2_aLook_1 4 rfl rfl)
theorem dX2_aLook_29 : decode cX2_aLook 29 = .ok (.iconst 5, 1) := dk_8 (dk_at dksX2_aLook_1 5 rfl rfl)
theorem dX2_aLook_30 : decode cX2_aLook 30 = .ok (.invokevirtual 49, 3) := dk_182 0 49 (dk_at dksX2_aLook_1 6 rfl rfl)
theorem dX2_aLook_33 : decode cX2_aLook 33 = .ok (.athrow, 1) := dk_191 (dk_at dksX2_aLook_1 9 rfl rfl)
theorem dX2_aLook_34 : decode cX2_aLook 34 = .ok (.iload_n 1, 1) := dk_27 (dk_at dksX2_aLook_1 10 rfl rfl)
theorem dX2_aLook_35 : decode cX2_aLook 35 = .ok (.iconst 1, 1) := dk_4 (dk_at dksX2_aLook_1 11 rfl rfl)
theorem dX2_aLook_36 : decode cX2_aLook 36 = .ok (.aload_n 0, 1) := dk_42 (dk_at dksX2_aLook_1 12 rfl rfl)
theorem dX2_aLook_37 : decode cX2_aLook 37 = .ok (.invokevirtual 141, 3) := dk_182 0 141 (dk_at dksX2_aLook_1 13 rfl rfl)
theorem dX2_aLook_40 : decode cX2_aLook 40 = .ok (.ishl, 1) := dk_120 (dk_at dksX2_aLook_1 16 rfl rfl)
theorem dX2_aLook_41 : decode cX2_aLook 41 = .ok (.ior, 1) := dk_128 (dk_at dksX2_aLook_1 17 rfl rfl)
theorem dX2_aLook_42 : decode cX2_aLook 42 = .ok (.istore_n 1, 1) := dk_60 (dk_at dksX2_aLook_1 18 rfl rfl)
theorem dX2_aLook_43 : decode cX2_aLook 43 = .ok (.aload_n 0, 1) := dk_42 (dk_at dksX2_aLook_1 19 rfl rfl)
theorem dX2_aLook_44 : decode cX2_aLook 44 = .ok (.bipush 59, 2) := dk_16 59 (dk_at dksX2_aLook_1 20 rfl rfl)
theorem dX2_aLook_46 : decode cX2_aLook 46 = .ok (.invokevirtual 152, 3) := dk_182 0 152 (dk_at dksX2_aLook_2 0 rfl rfl)
theorem dX2_aLook_49 : decode cX2_aLook 49 = .ok (.ifCond .eq 6, 3) := dk_153 0 6 (dk_at dksX2_aLook_2 3 rfl rfl)
theorem dX2_aLook_52 : decode cX2_aLook 52 = .ok (.goto 6, 3) := dk_167 0 6 (dk_at dksX2_aLook_2 6 rfl rfl)
theorem dX2_aLook_55 : decode cX2_aLook 55 = .ok (.goto (-53), 3) := dk_167 255 203 (dk_at dksX2_aLook_2 9 rfl rfl)
theorem dX2_aLook_58 : decode cX2_aLook 58 = .ok (.aload_n 0, 1) := dk_42 (dk_at dksX2_aLook_2 12 rfl rfl)
theorem dX2_aLook_59 : decode cX2_aLook 59 = .ok (.getfield 35, 3) := dk_180 0 35 (dk_at dksX2_aLook_2 13 rfl rfl)
theorem dX2_aLook_62 : decode cX2_aLook 62 = .ok (.getfield 155, 3) := dk_180 0 155 (dk_at dksX2_aLook_2 16 rfl rfl)
theorem dX2_aLook_65 : decode cX2_aLook 65 = .ok (.aload_n 0, 1) := dk_42 (dk_at dksX2_aLook_2 19 rfl rfl)
theorem dX2_aLook_66 : decode cX2_aLook 66 = .ok (.getfield 35, 3) := dk_180 0 35 (dk_at dksX2_aLook_2 20 rfl rfl)
theorem dX2_aLook_69 : decode cX2_aLook 69 = .ok (.getfield 76, 3) := dk_180 0 76 (dk_at dksX2_aLook_3 0 rfl rfl)
theorem dX2_aLook_72 : decode cX2_aLook 72 = .ok (.iload_n 1, 1) := dk_27 (dk_at dksX2_aLook_3 3 rfl rfl)
theorem dX2_aLook_73 : decode cX2_aLook 73 = .ok (.iastore, 1) := dk_79 (dk_at dksX2_aLook_3 4 rfl rfl)
theorem dX2_aLook_74 : decode cX2_aLook 74 = .ok (.aload_n 0, 1) := dk_42 (dk_at dksX2_aLook_3 5 rfl rfl)
theorem dX2_aLook_75 : decode cX2_aLook 75 = .ok (.getfield 35, 3) := dk_180 0 35 (dk_at dksX2_aLook_3 6 rfl rfl)
theorem dX2_aLook_78 : decode cX2_aLook 78 = .ok (.dup, 1) := dk_89 (dk_at dksX2_aLook_3 9 rfl rfl)
theorem dX2_aLook_79 : decode cX2_aLook 79 = .ok (.getfield 76, 3) := dk_180 0 76 (dk_at dksX2_aLook_3 10 rfl rfl)
theorem dX2_aLook_82 : decode cX2_aLook 82 = .ok (.iconst 1, 1) := dk_4 (dk_at dksX2_aLook_3 13 rfl rfl)
theorem dX2_aLook_83 : decode cX2_aLook 83 = .ok (.iadd, 1) := dk_96 (dk_at dksX2_aLook_3 14 rfl rfl)
theorem dX2_aLook_84 : decode cX2_aLook 84 = .ok (.putfield 76, 3) := dk_181 0 76 (dk_at dksX2_aLook_3 15 rfl rfl)
theorem dX2_aLook_87 : decode cX2_aLook 87 = .ok (.return_, 1) := dk_177 (dk_at dksX2_aLook_3 18 rfl rfl)
abbrev cX2_years : ByteArray := prog_8_method_12_code
def yX2_years : MethodName := ⟨RX2, "years", "(ILCableDrawer$Drawer;)[LCableDrawer$Step;"⟩
def dkwX2_years_2 : List UInt8 := [42, 42, 180, 0, 170, 154, 0, 7, 4, 167, 0, 4, 3, 182, 0, 27, 42, 180, 0, 160, 176]
abbrev dktX2_years_2 : List UInt8 := dkwX2_years_2 ++ []
def dkwX2_years_1 : List UInt8 := [42, 3, 181, 0, 170, 42, 27, 182, 0, 56, 42, 180, 0, 60, 153, 0, 10, 42, 182, 0, 173, 167, 255, 245]
abbrev dktX2_years_1 : List UInt8 := dkwX2_years_1 ++ dktX2_years_2
def dkwX2_years_0 : List UInt8 := [42, 44, 181, 0, 35, 42, 16, 60, 189, 0, 158, 181, 0, 160, 42, 3, 181, 0, 164, 42, 3, 181, 0, 167]
abbrev dktX2_years_0 : List UInt8 := dkwX2_years_0 ++ dktX2_years_1
theorem dksX2_years_0 : cX2_years.data.toList.drop 0 = dktX2_years_0 := by decide +kernel
theorem dksX2_years_1 : cX2_years.data.toList.drop 24 = dktX2_years_1 := dk_seg dksX2_years_0 24 rfl rfl
theorem dksX2_years_2 : cX2_years.data.toList.drop 48 = dktX2_years_2 := dk_seg dksX2_years_1 24 rfl rfl
theorem dX2_years_0 : decode cX2_years 0 = .ok (.aload_n 0, 1) := dk_42 (dk_at dksX2_years_0 0 rfl rfl)
theorem dX2_years_1 : decode cX2_years 1 = .ok (.aload_n 2, 1) := dk_44 (dk_at dksX2_years_0 1 rfl rfl)
theorem dX2_years_2 : decode cX2_years 2 = .ok (.putfield 35, 3) := dk_181 0 35 (dk_at dksX2_years_0 2 rfl rfl)
theorem dX2_years_5 : decode cX2_years 5 = .ok (.aload_n 0, 1) := dk_42 (dk_at dksX2_years_0 5 rfl rfl)
theorem dX2_years_6 : decode cX2_years 6 = .ok (.bipush 60, 2) := dk_16 60 (dk_at dksX2_years_0 6 rfl rfl)
theorem dX2_years_8 : decode cX2_years 8 = .ok (.anewarray 158, 3) := dk_189 0 158 (dk_at dksX2_years_0 8 rfl rfl)
theorem dX2_years_11 : decode cX2_years 11 = .ok (.putfield 160, 3) := dk_181 0 160 (dk_at dksX2_years_0 11 rfl rfl)
theorem dX2_years_14 : decode cX2_years 14 = .ok (.aload_n 0, 1) := dk_42 (dk_at dksX2_years_0 14 rfl rfl)
theorem dX2_years_15 : decode cX2_years 15 = .ok (.iconst 0, 1) := dk_3 (dk_at dksX2_years_0 15 rfl rfl)
theorem dX2_years_16 : decode cX2_years 16 = .ok (.putfield 164, 3) := dk_181 0 164 (dk_at dksX2_years_0 16 rfl rfl)
theorem dX2_years_19 : decode cX2_years 19 = .ok (.aload_n 0, 1) := dk_42 (dk_at dksX2_years_0 19 rfl rfl)
theorem dX2_years_20 : decode cX2_years 20 = .ok (.iconst 0, 1) := dk_3 (dk_at dksX2_years_0 20 rfl rfl)
theorem dX2_years_21 : decode cX2_years 21 = .ok (.putfield 167, 3) := dk_181 0 167 (dk_at dksX2_years_0 21 rfl rfl)
theorem dX2_years_24 : decode cX2_years 24 = .ok (.aload_n 0, 1) := dk_42 (dk_at dksX2_years_1 0 rfl rfl)
theorem dX2_years_25 : decode cX2_years 25 = .ok (.iconst 0, 1) := dk_3 (dk_at dksX2_years_1 1 rfl rfl)
theorem dX2_years_26 : decode cX2_years 26 = .ok (.putfield 170, 3) := dk_181 0 170 (dk_at dksX2_years_1 2 rfl rfl)
theorem dX2_years_29 : decode cX2_years 29 = .ok (.aload_n 0, 1) := dk_42 (dk_at dksX2_years_1 5 rfl rfl)
theorem dX2_years_30 : decode cX2_years 30 = .ok (.iload_n 1, 1) := dk_27 (dk_at dksX2_years_1 6 rfl rfl)
theorem dX2_years_31 : decode cX2_years 31 = .ok (.invokevirtual 56, 3) := dk_182 0 56 (dk_at dksX2_years_1 7 rfl rfl)
theorem dX2_years_34 : decode cX2_years 34 = .ok (.aload_n 0, 1) := dk_42 (dk_at dksX2_years_1 10 rfl rfl)
theorem dX2_years_35 : decode cX2_years 35 = .ok (.getfield 60, 3) := dk_180 0 60 (dk_at dksX2_years_1 11 rfl rfl)
theorem dX2_years_38 : decode cX2_years 38 = .ok (.ifCond .eq 10, 3) := dk_153 0 10 (dk_at dksX2_years_1 14 rfl rfl)
theorem dX2_years_41 : decode cX2_years 41 = .ok (.aload_n 0, 1) := dk_42 (dk_at dksX2_years_1 17 rfl rfl)
theorem dX2_years_42 : decode cX2_years 42 = .ok (.invokevirtual 173, 3) := dk_182 0 173 (dk_at dksX2_years_1 18 rfl rfl)
theorem dX2_years_45 : decode cX2_years 45 = .ok (.goto (-11), 3) := dk_167 255 245 (dk_at dksX2_years_1 21 rfl rfl)
theorem dX2_years_48 : decode cX2_years 48 = .ok (.aload_n 0, 1) := dk_42 (dk_at dksX2_years_2 0 rfl rfl)
theorem dX2_years_49 : decode cX2_years 49 = .ok (.aload_n 0, 1) := dk_42 (dk_at dksX2_years_2 1 rfl rfl)
theorem dX2_years_50 : decode cX2_years 50 = .ok (.getfield 170, 3) := dk_180 0 170 (dk_at dksX2_years_2 2 rfl rfl)
theorem dX2_years_53 : decode cX2_years 53 = .ok (.ifCond .ne 7, 3) := dk_154 0 7 (dk_at dksX2_years_2 5 rfl rfl)
theorem dX2_years_56 : decode cX2_years 56 = .ok (.iconst 1, 1) := dk_4 (dk_at dksX2_years_2 8 rfl rfl)
theorem dX2_years_57 : decode cX2_years 57 = .ok (.goto 4, 3) := dk_167 0 4 (dk_at dksX2_years_2 9 rfl rfl)
theorem dX2_years_60 : decode cX2_years 60 = .ok (.iconst 0, 1) := dk_3 (dk_at dksX2_years_2 12 rfl rfl)
theorem dX2_years_61 : decode cX2_years 61 = .ok (.invokevirtual 27, 3) := dk_182 0 27 (dk_at dksX2_years_2 13 rfl rfl)
theorem dX2_years_64 : decode cX2_years 64 = .ok (.aload_n 0, 1) := dk_42 (dk_at dksX2_years_2 16 rfl rfl)
theorem dX2_years_65 : decode cX2_years 65 = .ok (.getfield 160, 3) := dk_180 0 160 (dk_at dksX2_years_2 17 rfl rfl)
theorem dX2_years_68 : decode cX2_years 68 = .ok (.areturn, 1) := dk_176 (dk_at dksX2_years_2 20 rfl rfl)
abbrev cX2_step : ByteArray := prog_8_method_14_code
def yX2_step : MethodName := ⟨RX2, "step", "()V"⟩
def dkwX2_step_12 : List UInt8 := [180, 0, 164, 4, 96, 181, 0, 164, 177]
abbrev dktX2_step_12 : List UInt8 := dkwX2_step_12 ++ []
def dkwX2_step_11 : List UInt8 := [160, 0, 7, 3, 167, 0, 4, 4, 96, 181, 0, 167, 42, 180, 0, 160, 42, 180, 0, 164, 45, 83, 42, 89]
abbrev dktX2_step_11 : List UInt8 := dkwX2_step_11 ++ dktX2_step_12
def dkwX2_step_10 : List UInt8 := [180, 0, 164, 79, 42, 89, 180, 0, 170, 4, 96, 181, 0, 170, 42, 89, 180, 0, 167, 27, 16, 21]
abbrev dktX2_step_10 : List UInt8 := dkwX2_step_10 ++ dktX2_step_11
def dkwX2_step_9 : List UInt8 := [181, 0, 192, 167, 0, 3, 42, 182, 0, 67, 28, 153, 0, 26, 42, 180, 0, 13, 42, 180, 0, 170, 42]
abbrev dktX2_step_9 : List UInt8 := dkwX2_step_9 ++ dktX2_step_10
def dkwX2_step_8 : List UInt8 := [180, 0, 13, 42, 180, 0, 170, 46, 181, 0, 192, 42, 180, 0, 160, 45, 180, 0, 192, 50, 42, 180, 0, 164]
abbrev dktX2_step_8 : List UInt8 := dkwX2_step_8 ++ dktX2_step_9
def dkwX2_step_7 : List UInt8 := [167, 0, 53, 42, 45, 182, 0, 189, 167, 0, 45, 42, 89, 180, 0, 170, 4, 100, 181, 0, 170, 45, 42]
abbrev dktX2_step_7 : List UInt8 := dkwX2_step_7 ++ dktX2_step_8
def dkwX2_step_6 : List UInt8 := [45, 42, 4, 16, 99, 182, 0, 107, 181, 0, 179, 167, 0, 64, 45, 42, 182, 0, 141, 181, 0, 179]
abbrev dktX2_step_6 : List UInt8 := dkwX2_step_6 ++ dktX2_step_7
def dkwX2_step_5 : List UInt8 := [170, 0, 0, 0, 0, 0, 0, 131, 0, 0, 0, 12, 0, 0, 0, 21, 0, 0, 0, 56, 0, 0, 0, 70, 0, 0, 0, 131, 0, 0, 0, 70, 0, 0, 0, 70, 0, 0, 0, 70, 0, 0, 0, 81, 0, 0, 0, 56, 0, 0, 0, 131, 0, 0, 0, 89]
abbrev dktX2_step_5 : List UInt8 := dkwX2_step_5 ++ dktX2_step_6
def dkwX2_step_4 : List UInt8 := [16, 7, 182, 0, 49, 191, 187, 0, 158, 89, 27, 183, 0, 187, 78, 42, 182, 0, 31, 27]
abbrev dktX2_step_4 : List UInt8 := dkwX2_step_4 ++ dktX2_step_5
def dkwX2_step_3 : List UInt8 := [160, 0, 10, 42, 16, 6, 182, 0, 49, 191, 28, 153, 0, 18, 42, 180, 0, 170, 6, 160, 0, 10, 42]
abbrev dktX2_step_3 : List UInt8 := dkwX2_step_3 ++ dktX2_step_4
def dkwX2_step_2 : List UInt8 := [158, 0, 7, 4, 167, 0, 4, 3, 182, 0, 27, 27, 16, 21, 159, 0, 19, 42, 180, 0, 167, 16, 30]
abbrev dktX2_step_2 : List UInt8 := dkwX2_step_2 ++ dktX2_step_3
def dkwX2_step_1 : List UInt8 := [27, 16, 12, 161, 0, 9, 27, 16, 20, 164, 0, 16, 27, 16, 21, 160, 0, 14, 42, 180, 0, 170]
abbrev dktX2_step_1 : List UInt8 := dkwX2_step_1 ++ dktX2_step_2
def dkwX2_step_0 : List UInt8 := [42, 182, 0, 23, 60, 27, 16, 18, 159, 0, 9, 27, 16, 19, 160, 0, 7, 4, 167, 0, 4, 3, 61, 42]
abbrev dktX2_step_0 : List UInt8 := dkwX2_step_0 ++ dktX2_step_1
theorem dksX2_step_0 : cX2_step.data.toList.drop 0 = dktX2_step_0 := by decide +kernel
theorem dksX2_step_1 : cX2_step.data.toList.drop 24 = dktX2_step_1 := dk_seg dksX2_step_0 24 rfl rfl
theorem dksX2_step_2 : cX2_step.data.toList.drop 46 = dktX2_step_2 := dk_seg dksX2_step_1 22 rfl rfl
theorem dksX2_step_3 : cX2_step.data.toList.drop 69 = dktX2_step_3 := dk_seg dksX2_step_2 23 rfl rfl
theorem dksX2_step_4 : cX2_step.data.toList.drop 92 = dktX2_step_4 := dk_seg dksX2_step_3 23 rfl rfl
theorem dksX2_step_5 : cX2_step.data.toList.drop 112 = dktX2_step_5 := dk_seg dksX2_step_4 20 rfl rfl
theorem dksX2_step_6 : cX2_step.data.toList.drop 168 = dktX2_step_6 := dk_seg dksX2_step_5 56 rfl rfl
theorem dksX2_step_7 : cX2_step.data.toList.drop 190 = dktX2_step_7 := dk_seg dksX2_step_6 22 rfl rfl
theorem dksX2_step_8 : cX2_step.data.toList.drop 213 = dktX2_step_8 := dk_seg dksX2_step_7 23 rfl rfl
theorem dksX2_step_9 : cX2_step.data.toList.drop 237 = dktX2_step_9 := dk_seg dksX2_step_8 24 rfl rfl
theorem dksX2_step_10 : cX2_step.data.toList.drop 260 = dktX2_step_10 := dk_seg dksX2_step_9 23 rfl rfl
theorem dksX2_step_11 : cX2_step.data.toList.drop 282 = dktX2_step_11 := dk_seg dksX2_step_10 22 rfl rfl
theorem dksX2_step_12 : cX2_step.data.toList.drop 306 = dktX2_step_12 := dk_seg dksX2_step_11 24 rfl rfl
theorem dX2_step_0 : decode cX2_step 0 = .ok (.aload_n 0, 1) := dk_42 (dk_at dksX2_step_0 0 rfl rfl)
theorem dX2_step_1 : decode cX2_step 1 = .ok (.invokevirtual 23, 3) := dk_182 0 23 (dk_at dksX2_step_0 1 rfl rfl)
theorem dX2_step_4 : decode cX2_step 4 = .ok (.istore_n 1, 1) := dk_60 (dk_at dksX2_step_0 4 rfl rfl)
theorem dX2_step_5 : decode cX2_step 5 = .ok (.iload_n 1, 1) := dk_27 (dk_at dksX2_step_0 5 rfl rfl)
theorem dX2_step_6 : decode cX2_step 6 = .ok (.bipush 18, 2) := dk_16 18 (dk_at dksX2_step_0 6 rfl rfl)
theorem dX2_step_8 : decode cX2_step 8 = .ok (.if_icmp .eq 9, 3) := dk_159 0 9 (dk_at dksX2_step_0 8 rfl rfl)
theorem dX2_step_11 : decode cX2_step 11 = .ok (.iload_n 1, 1) := dk_27 (dk_at dksX2_step_0 11 rfl rfl)
theorem dX2_step_12 : decode cX2_step 12 = .ok (.bipush 19, 2) := dk_16 19 (dk_at dksX2_step_0 12 rfl rfl)
theorem dX2_step_14 : decode cX2_step 14 = .ok (.if_icmp .ne 7, 3) := dk_160 0 7 (dk_at dksX2_step_0 14 rfl rfl)
theorem dX2_step_17 : decode cX2_step 17 = .ok (.iconst 1, 1) := dk_4 (dk_at dksX2_step_0 17 rfl rfl)
theorem dX2_step_18 : decode cX2_step 18 = .ok (.goto 4, 3) := dk_167 0 4 (dk_at dksX2_step_0 18 rfl rfl)
theorem dX2_step_21 : decode cX2_step 21 = .ok (.iconst 0, 1) := dk_3 (dk_at dksX2_step_0 21 rfl rfl)
theorem dX2_step_22 : decode cX2_step 22 = .ok (.istore_n 2, 1) := dk_61 (dk_at dksX2_step_0 22 rfl rfl)
theorem dX2_step_23 : decode cX2_step 23 = .ok (.aload_n 0, 1) := dk_42 (dk_at dksX2_step_0 23 rfl rfl)
theorem dX2_step_24 : decode cX2_step 24 = .ok (.iload_n 1, 1) := dk_27 (dk_at dksX2_step_1 0 rfl rfl)
theorem dX2_step_25 : decode cX2_step 25 = .ok (.bipush 12, 2) := dk_16 12 (dk_at dksX2_step_1 1 rfl rfl)
theorem dX2_step_27 : decode cX2_step 27 = .ok (.if_icmp .lt 9, 3) := dk_161 0 9 (dk_at dksX2_step_1 3 rfl rfl)
theorem dX2_step_30 : decode cX2_step 30 = .ok (.iload_n 1, 1) := dk_27 (dk_at dksX2_step_1 6 rfl rfl)
theorem dX2_step_31 : decode cX2_step 31 = .ok (.bipush 20, 2) := dk_16 20 (dk_at dksX2_step_1 7 rfl rfl)
theorem dX2_step_33 : decode cX2_step 33 = .ok (.if_icmp .le 16, 3) := dk_164 0 16 (dk_at dksX2_step_1 9 rfl rfl)
theorem dX2_step_36 : decode cX2_step 36 = .ok (.iload_n 1, 1) := dk_27 (dk_at dksX2_step_1 12 rfl rfl)
theorem dX2_step_37 : decode cX2_step 37 = .ok (.bipush 21, 2) := dk_16 21 (dk_at dksX2_step_1 13 rfl rfl)
theorem dX2_step_39 : decode cX2_step 39 = .ok (.if_icmp .ne 14, 3) := dk_160 0 14 (dk_at dksX2_step_1 15 rfl rfl)
theorem dX2_step_42 : decode cX2_step 42 = .ok (.aload_n 0, 1) := dk_42 (dk_at dksX2_step_1 18 rfl rfl)
theorem dX2_step_43 : decode cX2_step 43 = .ok (.getfield 170, 3) := dk_180 0 170 (dk_at dksX2_step_1 19 rfl rfl)
theorem dX2_step_46 : decode cX2_step 46 = .ok (.ifCond .le 7, 3) := dk_158 0 7 (dk_at dksX2_step_2 0 rfl rfl)
theorem dX2_step_49 : decode cX2_step 49 = .ok (.iconst 1, 1) := dk_4 (dk_at dksX2_step_2 3 rfl rfl)
theorem dX2_step_50 : decode cX2_step 50 = .ok (.goto 4, 3) := dk_167 0 4 (dk_at dksX2_step_2 4 rfl rfl)
theorem dX2_step_53 : decode cX2_step 53 = .ok (.iconst 0, 1) := dk_3 (dk_at dksX2_step_2 7 rfl rfl)
theorem dX2_step_54 : decode cX2_step 54 = .ok (.invokevirtual 27, 3) := dk_182 0 27 (dk_at dksX2_step_2 8 rfl rfl)
theorem dX2_step_57 : decode cX2_step 57 = .ok (.iload_n 1, 1) := dk_27 (dk_at dksX2_step_2 11 rfl rfl)
theorem dX2_step_58 : decode cX2_step 58 = .ok (.bipush 21, 2) := dk_16 21 (dk_at dksX2_step_2 12 rfl rfl)
theorem dX2_step_60 : decode cX2_step 60 = .ok (.if_icmp .eq 19, 3) := dk_159 0 19 (dk_at dksX2_step_2 14 rfl rfl)
theorem dX2_step_63 : decode cX2_step 63 = .ok (.aload_n 0, 1) := dk_42 (dk_at dksX2_step_2 17 rfl rfl)
theorem dX2_step_64 : decode cX2_step 64 = .ok (.getfield 167, 3) := dk_180 0 167 (dk_at dksX2_step_2 18 rfl rfl)
theorem dX2_step_67 : decode cX2_step 67 = .ok (.bipush 30, 2) := dk_16 30 (dk_at dksX2_step_2 21 rfl rfl)
theorem dX2_step_69 : decode cX2_step 69 = .ok (.if_icmp .ne 10, 3) := dk_160 0 10 (dk_at dksX2_step_3 0 rfl rfl)
theorem dX2_step_72 : decode cX2_step 72 = .ok (.aload_n 0, 1) := dk_42 (dk_at dksX2_step_3 3 rfl rfl)
theorem dX2_step_73 : decode cX2_step 73 = .ok (.bipush 6, 2) := dk_16 6 (dk_at dksX2_step_3 4 rfl rfl)
theorem dX2_step_75 : decode cX2_step 75 = .ok (.invokevirtual 49, 3) := dk_182 0 49 (dk_at dksX2_step_3 6 rfl rfl)
theorem dX2_step_78 : decode cX2_step 78 = .ok (.athrow, 1) := dk_191 (dk_at dksX2_step_3 9 rfl rfl)
theorem dX2_step_79 : decode cX2_step 79 = .ok (.iload_n 2, 1) := dk_28 (dk_at dksX2_step_3 10 rfl rfl)
theorem dX2_step_80 : decode cX2_step 80 = .ok (.ifCond .eq 18, 3) := dk_153 0 18 (dk_at dksX2_step_3 11 rfl rfl)
theorem dX2_step_83 : decode cX2_step 83 = .ok (.aload_n 0, 1) := dk_42 (dk_at dksX2_step_3 14 rfl rfl)
theorem dX2_step_84 : decode cX2_step 84 = .ok (.getfield 170, 3) := dk_180 0 170 (dk_at dksX2_step_3 15 rfl rfl)
theorem dX2_step_87 : decode cX2_step 87 = .ok (.iconst 3, 1) := dk_6 (dk_at dksX2_step_3 18 rfl rfl)
theorem dX2_step_88 : decode cX2_step 88 = .ok (.if_icmp .ne 10, 3) := dk_160 0 10 (dk_at dksX2_step_3 19 rfl rfl)
theorem dX2_step_91 : decode cX2_step 91 = .ok (.aload_n 0, 1) := dk_42 (dk_at dksX2_step_3 22 rfl rfl)
theorem dX2_step_92 : decode cX2_step 92 = .ok (.bipush 7, 2) := dk_16 7 (dk_at dksX2_step_4 0 rfl rfl)
theorem dX2_step_94 : decode cX2_step 94 = .ok (.invokevirtual 49, 3) := dk_182 0 49 (dk_at dksX2_step_4 2 rfl rfl)
theorem dX2_step_97 : decode cX2_step 97 = .ok (.athrow, 1) := dk_191 (dk_at dksX2_step_4 5 rfl rfl)
theorem dX2_step_98 : decode cX2_step 98 = .ok (.new 158, 3) := dk_187 0 158 (dk_at dksX2_step_4 6 rfl rfl)
theorem dX2_step_101 : decode cX2_step 101 = .ok (.dup, 1) := dk_89 (dk_at dksX2_step_4 9 rfl rfl)
theorem dX2_step_102 : decode cX2_step 102 = .ok (.iload_n 1, 1) := dk_27 (dk_at dksX2_step_4 10 rfl rfl)
theorem dX2_step_103 : decode cX2_step 103 = .ok (.invokespecial 187, 3) := dk_183 0 187 (dk_at dksX2_step_4 11 rfl rfl)
theorem dX2_step_106 : decode cX2_step 106 = .ok (.astore_n 3, 1) := dk_78 (dk_at dksX2_step_4 14 rfl rfl)
theorem dX2_step_107 : decode cX2_step 107 = .ok (.aload_n 0, 1) := dk_42 (dk_at dksX2_step_4 15 rfl rfl)
theorem dX2_step_108 : decode cX2_step 108 = .ok (.invokevirtual 31, 3) := dk_182 0 31 (dk_at dksX2_step_4 16 rfl rfl)
theorem dX2_step_111 : decode cX2_step 111 = .ok (.iload_n 1, 1) := dk_27 (dk_at dksX2_step_4 19 rfl rfl)
theorem dX2_step_112 : decode cX2_step 112 = .ok (.tableswitch 131 12 21 #[56, 70, 131, 70, 70, 70, 81, 56, 131, 89], 56) := by decide +kernel
theorem dX2_step_168 : decode cX2_step 168 = .ok (.aload_n 3, 1) := dk_45 (dk_at dksX2_step_6 0 rfl rfl)
theorem dX2_step_169 : decode cX2_step 169 = .ok (.aload_n 0, 1) := dk_42 (dk_at dksX2_step_6 1 rfl rfl)
theorem dX2_step_170 : decode cX2_step 170 = .ok (.iconst 1, 1) := dk_4 (dk_at dksX2_step_6 2 rfl rfl)
theorem dX2_step_171 : decode cX2_step 171 = .ok (.bipush 99, 2) := dk_16 99 (dk_at dksX2_step_6 3 rfl rfl)
theorem dX2_step_173 : decode cX2_step 173 = .ok (.invokevirtual 107, 3) := dk_182 0 107 (dk_at dksX2_step_6 5 rfl rfl)
theorem dX2_step_176 : decode cX2_step 176 = .ok (.putfield 179, 3) := dk_181 0 179 (dk_at dksX2_step_6 8 rfl rfl)
theorem dX2_step_179 : decode cX2_step 179 = .ok (.goto 64, 3) := dk_167 0 64 (dk_at dksX2_step_6 11 rfl rfl)
theorem dX2_step_182 : decode cX2_step 182 = .ok (.aload_n 3, 1) := dk_45 (dk_at dksX2_step_6 14 rfl rfl)
theorem dX2_step_183 : decode cX2_step 183 = .ok (.aload_n 0, 1) := dk_42 (dk_at dksX2_step_6 15 rfl rfl)
theorem dX2_step_184 : decode cX2_step 184 = .ok (.invokevirtual 141, 3) := dk_182 0 141 (dk_at dksX2_step_6 16 rfl rfl)
theorem dX2_step_187 : decode cX2_step 187 = .ok (.putfield 179, 3) := dk_181 0 179 (dk_at dksX2_step_6 19 rfl rfl)
theorem dX2_step_190 : decode cX2_step 190 = .ok (.goto 53, 3) := dk_167 0 53 (dk_at dksX2_step_7 0 rfl rfl)
theorem dX2_step_193 : decode cX2_step 193 = .ok (.aload_n 0, 1) := dk_42 (dk_at dksX2_step_7 3 rfl rfl)
theorem dX2_step_194 : decode cX2_step 194 = .ok (.aload_n 3, 1) := dk_45 (dk_at dksX2_step_7 4 rfl rfl)
theorem dX2_step_195 : decode cX2_step 195 = .ok (.invokevirtual 189, 3) := dk_182 0 189 (dk_at dksX2_step_7 5 rfl rfl)
theorem dX2_step_198 : decode cX2_step 198 = .ok (.goto 45, 3) := dk_167 0 45 (dk_at dksX2_step_7 8 rfl rfl)
theorem dX2_step_201 : decode cX2_step 201 = .ok (.aload_n 0, 1) := dk_42 (dk_at dksX2_step_7 11 rfl rfl)
theorem dX2_step_202 : decode cX2_step 202 = .ok (.dup, 1) := dk_89 (dk_at dksX2_step_7 12 rfl rfl)
theorem dX2_step_203 : decode cX2_step 203 = .ok (.getfield 170, 3) := dk_180 0 170 (dk_at dksX2_step_7 13 rfl rfl)
theorem dX2_step_206 : decode cX2_step 206 = .ok (.iconst 1, 1) := dk_4 (dk_at dksX2_step_7 16 rfl rfl)
theorem dX2_step_207 : decode cX2_step 207 = .ok (.isub, 1) := dk_100 (dk_at dksX2_step_7 17 rfl rfl)
theorem dX2_step_208 : decode cX2_step 208 = .ok (.putfield 170, 3) := dk_181 0 170 (dk_at dksX2_step_7 18 rfl rfl)
theorem dX2_step_211 : decode cX2_step 211 = .ok (.aload_n 3, 1) := dk_45 (dk_at dksX2_step_7 21 rfl rfl)
theorem dX2_step_212 : decode cX2_step 212 = .ok (.aload_n 0, 1) := dk_42 (dk_at dksX2_step_7 22 rfl rfl)
theorem dX2_step_213 : decode cX2_step 213 = .ok (.getfield 13, 3) := dk_180 0 13 (dk_at dksX2_step_8 0 rfl rfl)
theorem dX2_step_216 : decode cX2_step 216 = .ok (.aload_n 0, 1) := dk_42 (dk_at dksX2_step_8 3 rfl rfl)
theorem dX2_step_217 : decode cX2_step 217 = .ok (.getfield 170, 3) := dk_180 0 170 (dk_at dksX2_step_8 4 rfl rfl)
theorem dX2_step_220 : decode cX2_step 220 = .ok (.iaload, 1) := dk_46 (dk_at dksX2_step_8 7 rfl rfl)
theorem dX2_step_221 : decode cX2_step 221 = .ok (.putfield 192, 3) := dk_181 0 192 (dk_at dksX2_step_8 8 rfl rfl)
theorem dX2_step_224 : decode cX2_step 224 = .ok (.aload_n 0, 1) := dk_42 (dk_at dksX2_step_8 11 rfl rfl)
theorem dX2_step_225 : decode cX2_step 225 = .ok (.getfield 160, 3) := dk_180 0 160 (dk_at dksX2_step_8 12 rfl rfl)
theorem dX2_step_228 : decode cX2_step 228 = .ok (.aload_n 3, 1) := dk_45 (dk_at dksX2_step_8 15 rfl rfl)
theorem dX2_step_229 : decode cX2_step 229 = .ok (.getfield 192, 3) := dk_180 0 192 (dk_at dksX2_step_8 16 rfl rfl)
theorem dX2_step_232 : decode cX2_step 232 = .ok (.aaload, 1) := dk_50 (dk_at dksX2_step_8 19 rfl rfl)
theorem dX2_step_233 : decode cX2_step 233 = .ok (.aload_n 0, 1) := dk_42 (dk_at dksX2_step_8 20 rfl rfl)
theorem dX2_step_234 : decode cX2_step 234 = .ok (.getfield 164, 3) := dk_180 0 164 (dk_at dksX2_step_8 21 rfl rfl)
theorem dX2_step_237 : decode cX2_step 237 = .ok (.putfield 192, 3) := dk_181 0 192 (dk_at dksX2_step_9 0 rfl rfl)
theorem dX2_step_240 : decode cX2_step 240 = .ok (.goto 3, 3) := dk_167 0 3 (dk_at dksX2_step_9 3 rfl rfl)
theorem dX2_step_243 : decode cX2_step 243 = .ok (.aload_n 0, 1) := dk_42 (dk_at dksX2_step_9 6 rfl rfl)
theorem dX2_step_244 : decode cX2_step 244 = .ok (.invokevirtual 67, 3) := dk_182 0 67 (dk_at dksX2_step_9 7 rfl rfl)
theorem dX2_step_247 : decode cX2_step 247 = .ok (.iload_n 2, 1) := dk_28 (dk_at dksX2_step_9 10 rfl rfl)
theorem dX2_step_248 : decode cX2_step 248 = .ok (.ifCond .eq 26, 3) := dk_153 0 26 (dk_at dksX2_step_9 11 rfl rfl)
theorem dX2_step_251 : decode cX2_step 251 = .ok (.aload_n 0, 1) := dk_42 (dk_at dksX2_step_9 14 rfl rfl)
theorem dX2_step_252 : decode cX2_step 252 = .ok (.getfield 13, 3) := dk_180 0 13 (dk_at dksX2_step_9 15 rfl rfl)
theorem dX2_step_255 : decode cX2_step 255 = .ok (.aload_n 0, 1) := dk_42 (dk_at dksX2_step_9 18 rfl rfl)
theorem dX2_step_256 : decode cX2_step 256 = .ok (.getfield 170, 3) := dk_180 0 170 (dk_at dksX2_step_9 19 rfl rfl)
theorem dX2_step_259 : decode cX2_step 259 = .ok (.aload_n 0, 1) := dk_42 (dk_at dksX2_step_9 22 rfl rfl)
theorem dX2_step_260 : decode cX2_step 260 = .ok (.getfield 164, 3) := dk_180 0 164 (dk_at dksX2_step_10 0 rfl rfl)
theorem dX2_step_263 : decode cX2_step 263 = .ok (.iastore, 1) := dk_79 (dk_at dksX2_step_10 3 rfl rfl)
theorem dX2_step_264 : decode cX2_step 264 = .ok (.aload_n 0, 1) := dk_42 (dk_at dksX2_step_10 4 rfl rfl)
theorem dX2_step_265 : decode cX2_step 265 = .ok (.dup, 1) := dk_89 (dk_at dksX2_step_10 5 rfl rfl)
theorem dX2_step_266 : decode cX2_step 266 = .ok (.getfield 170, 3) := dk_180 0 170 (dk_at dksX2_step_10 6 rfl rfl)
theorem dX2_step_269 : decode cX2_step 269 = .ok (.iconst 1, 1) := dk_4 (dk_at dksX2_step_10 9 rfl rfl)
theorem dX2_step_270 : decode cX2_step 270 = .ok (.iadd, 1) := dk_96 (dk_at dksX2_step_10 10 rfl rfl)
theorem dX2_step_271 : decode cX2_step 271 = .ok (.putfield 170, 3) := dk_181 0 170 (dk_at dksX2_step_10 11 rfl rfl)
theorem dX2_step_274 : decode cX2_step 274 = .ok (.aload_n 0, 1) := dk_42 (dk_at dksX2_step_10 14 rfl rfl)
theorem dX2_step_275 : decode cX2_step 275 = .ok (.dup, 1) := dk_89 (dk_at dksX2_step_10 15 rfl rfl)
theorem dX2_step_276 : decode cX2_step 276 = .ok (.getfield 167, 3) := dk_180 0 167 (dk_at dksX2_step_10 16 rfl rfl)
theorem dX2_step_279 : decode cX2_step 279 = .ok (.iload_n 1, 1) := dk_27 (dk_at dksX2_step_10 19 rfl rfl)
theorem dX2_step_280 : decode cX2_step 280 = .ok (.bipush 21, 2) := dk_16 21 (dk_at dksX2_step_10 20 rfl rfl)
theorem dX2_step_282 : decode cX2_step 282 = .ok (.if_icmp .ne 7, 3) := dk_160 0 7 (dk_at dksX2_step_11 0 rfl rfl)
theorem dX2_step_285 : decode cX2_step 285 = .ok (.iconst 0, 1) := dk_3 (dk_at dksX2_step_11 3 rfl rfl)
theorem dX2_step_286 : decode cX2_step 286 = .ok (.goto 4, 3) := dk_167 0 4 (dk_at dksX2_step_11 4 rfl rfl)
theorem dX2_step_289 : decode cX2_step 289 = .ok (.iconst 1, 1) := dk_4 (dk_at dksX2_step_11 7 rfl rfl)
theorem dX2_step_290 : decode cX2_step 290 = .ok (.iadd, 1) := dk_96 (dk_at dksX2_step_11 8 rfl rfl)
theorem dX2_step_291 : decode cX2_step 291 = .ok (.putfield 167, 3) := dk_181 0 167 (dk_at dksX2_step_11 9 rfl rfl)
theorem dX2_step_294 : decode cX2_step 294 = .ok (.aload_n 0, 1) := dk_42 (dk_at dksX2_step_11 12 rfl rfl)
theorem dX2_step_295 : decode cX2_step 295 = .ok (.getfield 160, 3) := dk_180 0 160 (dk_at dksX2_step_11 13 rfl rfl)
theorem dX2_step_298 : decode cX2_step 298 = .ok (.aload_n 0, 1) := dk_42 (dk_at dksX2_step_11 16 rfl rfl)
theorem dX2_step_299 : decode cX2_step 299 = .ok (.getfield 164, 3) := dk_180 0 164 (dk_at dksX2_step_11 17 rfl rfl)
theorem dX2_step_302 : decode cX2_step 302 = .ok (.aload_n 3, 1) := dk_45 (dk_at dksX2_step_11 20 rfl rfl)
theorem dX2_step_303 : decode cX2_step 303 = .ok (.aastore, 1) := dk_83 (dk_at dksX2_step_11 21 rfl rfl)
theorem dX2_step_304 : decode cX2_step 304 = .ok (.aload_n 0, 1) := dk_42 (dk_at dksX2_step_11 22 rfl rfl)
theorem dX2_step_305 : decode cX2_step 305 = .ok (.dup, 1) := dk_89 (dk_at dksX2_step_11 23 rfl rfl)
theorem dX2_step_306 : decode cX2_step 306 = .ok (.getfield 164, 3) := dk_180 0 164 (dk_at dksX2_step_12 0 rfl rfl)
theorem dX2_step_309 : decode cX2_step 309 = .ok (.iconst 1, 1) := dk_4 (dk_at dksX2_step_12 3 rfl rfl)
theorem dX2_step_310 : decode cX2_step 310 = .ok (.iadd, 1) := dk_96 (dk_at dksX2_step_12 4 rfl rfl)
theorem dX2_step_311 : decode cX2_step 311 = .ok (.putfield 164, 3) := dk_181 0 164 (dk_at dksX2_step_12 5 rfl rfl)
theorem dX2_step_314 : decode cX2_step 314 = .ok (.return_, 1) := dk_177 (dk_at dksX2_step_12 8 rfl rfl)
abbrev cX2_test : ByteArray := prog_8_method_13_code
def yX2_test : MethodName := ⟨RX2, "test", "(LCableDrawer$Step;)V"⟩
def dkwX2_test_5 : List UInt8 := [180, 0, 176, 16, 22, 160, 0, 8, 16, 8, 167, 0, 5, 16, 24, 182, 0, 107, 181, 0, 186, 177]
abbrev dktX2_test_5 : List UInt8 := dkwX2_test_5 ++ []
def dkwX2_test_4 : List UInt8 := [4, 167, 0, 4, 3, 182, 0, 27, 43, 42, 180, 0, 180, 181, 0, 183, 42, 182, 0, 31, 43, 42, 3, 43]
abbrev dktX2_test_4 : List UInt8 := dkwX2_test_4 ++ dktX2_test_5
def dkwX2_test_3 : List UInt8 := [182, 0, 152, 154, 0, 21, 42, 16, 62, 182, 0, 152, 154, 0, 12, 42, 16, 61, 182, 0, 152, 153, 0, 7]
abbrev dktX2_test_3 : List UInt8 := dkwX2_test_3 ++ dktX2_test_4
def dkwX2_test_2 : List UInt8 := [43, 180, 0, 176, 16, 23, 160, 0, 12, 43, 42, 182, 0, 141, 181, 0, 179, 177, 42, 42, 16, 60]
abbrev dktX2_test_2 : List UInt8 := dkwX2_test_2 ++ dktX2_test_3
def dkwX2_test_1 : List UInt8 := [159, 0, 12, 43, 180, 0, 176, 16, 23, 160, 0, 7, 4, 167, 0, 4, 3, 182, 0, 27, 42, 182, 0, 31]
abbrev dktX2_test_1 : List UInt8 := dkwX2_test_1 ++ dktX2_test_2
def dkwX2_test_0 : List UInt8 := [43, 42, 182, 0, 23, 181, 0, 176, 42, 43, 180, 0, 176, 16, 22, 159, 0, 20, 43, 180, 0, 176, 4]
abbrev dktX2_test_0 : List UInt8 := dkwX2_test_0 ++ dktX2_test_1
theorem dksX2_test_0 : cX2_test.data.toList.drop 0 = dktX2_test_0 := by decide +kernel
theorem dksX2_test_1 : cX2_test.data.toList.drop 23 = dktX2_test_1 := dk_seg dksX2_test_0 23 rfl rfl
theorem dksX2_test_2 : cX2_test.data.toList.drop 47 = dktX2_test_2 := dk_seg dksX2_test_1 24 rfl rfl
theorem dksX2_test_3 : cX2_test.data.toList.drop 69 = dktX2_test_3 := dk_seg dksX2_test_2 22 rfl rfl
theorem dksX2_test_4 : cX2_test.data.toList.drop 93 = dktX2_test_4 := dk_seg dksX2_test_3 24 rfl rfl
theorem dksX2_test_5 : cX2_test.data.toList.drop 117 = dktX2_test_5 := dk_seg dksX2_test_4 24 rfl rfl
theorem dX2_test_0 : decode cX2_test 0 = .ok (.aload_n 1, 1) := dk_43 (dk_at dksX2_test_0 0 rfl rfl)
theorem dX2_test_1 : decode cX2_test 1 = .ok (.aload_n 0, 1) := dk_42 (dk_at dksX2_test_0 1 rfl rfl)
theorem dX2_test_2 : decode cX2_test 2 = .ok (.invokevirtual 23, 3) := dk_182 0 23 (dk_at dksX2_test_0 2 rfl rfl)
theorem dX2_test_5 : decode cX2_test 5 = .ok (.putfield 176, 3) := dk_181 0 176 (dk_at dksX2_test_0 5 rfl rfl)
theorem dX2_test_8 : decode cX2_test 8 = .ok (.aload_n 0, 1) := dk_42 (dk_at dksX2_test_0 8 rfl rfl)
theorem dX2_test_9 : decode cX2_test 9 = .ok (.aload_n 1, 1) := dk_43 (dk_at dksX2_test_0 9 rfl rfl)
theorem dX2_test_10 : decode cX2_test 10 = .ok (.getfield 176, 3) := dk_180 0 176 (dk_at dksX2_test_0 10 rfl rfl)
theorem dX2_test_13 : decode cX2_test 13 = .ok (.bipush 22, 2) := dk_16 22 (dk_at dksX2_test_0 13 rfl rfl)
theorem dX2_test_15 : decode cX2_test 15 = .ok (.if_icmp .eq 20, 3) := dk_159 0 20 (dk_at dksX2_test_0 15 rfl rfl)
theorem dX2_test_18 : decode cX2_test 18 = .ok (.aload_n 1, 1) := dk_43 (dk_at dksX2_test_0 18 rfl rfl)
theorem dX2_test_19 : decode cX2_test 19 = .ok (.getfield 176, 3) := dk_180 0 176 (dk_at dksX2_test_0 19 rfl rfl)
theorem dX2_test_22 : decode cX2_test 22 = .ok (.iconst 1, 1) := dk_4 (dk_at dksX2_test_0 22 rfl rfl)
theorem dX2_test_23 : decode cX2_test 23 = .ok (.if_icmp .eq 12, 3) := dk_159 0 12 (dk_at dksX2_test_1 0 rfl rfl)
theorem dX2_test_26 : decode cX2_test 26 = .ok (.aload_n 1, 1) := dk_43 (dk_at dksX2_test_1 3 rfl rfl)
theorem dX2_test_27 : decode cX2_test 27 = .ok (.getfield 176, 3) := dk_180 0 176 (dk_at dksX2_test_1 4 rfl rfl)
theorem dX2_test_30 : decode cX2_test 30 = .ok (.bipush 23, 2) := dk_16 23 (dk_at dksX2_test_1 7 rfl rfl)
theorem dX2_test_32 : decode cX2_test 32 = .ok (.if_icmp .ne 7, 3) := dk_160 0 7 (dk_at dksX2_test_1 9 rfl rfl)
theorem dX2_test_35 : decode cX2_test 35 = .ok (.iconst 1, 1) := dk_4 (dk_at dksX2_test_1 12 rfl rfl)
theorem dX2_test_36 : decode cX2_test 36 = .ok (.goto 4, 3) := dk_167 0 4 (dk_at dksX2_test_1 13 rfl rfl)
theorem dX2_test_39 : decode cX2_test 39 = .ok (.iconst 0, 1) := dk_3 (dk_at dksX2_test_1 16 rfl rfl)
theorem dX2_test_40 : decode cX2_test 40 = .ok (.invokevirtual 27, 3) := dk_182 0 27 (dk_at dksX2_test_1 17 rfl rfl)
theorem dX2_test_43 : decode cX2_test 43 = .ok (.aload_n 0, 1) := dk_42 (dk_at dksX2_test_1 20 rfl rfl)
theorem dX2_test_44 : decode cX2_test 44 = .ok (.invokevirtual 31, 3) := dk_182 0 31 (dk_at dksX2_test_1 21 rfl rfl)
theorem dX2_test_47 : decode cX2_test 47 = .ok (.aload_n 1, 1) := dk_43 (dk_at dksX2_test_2 0 rfl rfl)
theorem dX2_test_48 : decode cX2_test 48 = .ok (.getfield 176, 3) := dk_180 0 176 (dk_at dksX2_test_2 1 rfl rfl)
theorem dX2_test_51 : decode cX2_test 51 = .ok (.bipush 23, 2) := dk_16 23 (dk_at dksX2_test_2 4 rfl rfl)
theorem dX2_test_53 : decode cX2_test 53 = .ok (.if_icmp .ne 12, 3) := dk_160 0 12 (dk_at dksX2_test_2 6 rfl rfl)
theorem dX2_test_56 : decode cX2_test 56 = .ok (.aload_n 1, 1) := dk_43 (dk_at dksX2_test_2 9 rfl rfl)
theorem dX2_test_57 : decode cX2_test 57 = .ok (.aload_n 0, 1) := dk_42 (dk_at dksX2_test_2 10 rfl rfl)
theorem dX2_test_58 : decode cX2_test 58 = .ok (.invokevirtual 141, 3) := dk_182 0 141 (dk_at dksX2_test_2 11 rfl rfl)
theorem dX2_test_61 : decode cX2_test 61 = .ok (.putfield 179, 3) := dk_181 0 179 (dk_at dksX2_test_2 14 rfl rfl)
theorem dX2_test_64 : decode cX2_test 64 = .ok (.return_, 1) := dk_177 (dk_at dksX2_test_2 17 rfl rfl)
theorem dX2_test_65 : decode cX2_test 65 = .ok (.aload_n 0, 1) := dk_42 (dk_at dksX2_test_2 18 rfl rfl)
theorem dX2_test_66 : decode cX2_test 66 = .ok (.aload_n 0, 1) := dk_42 (dk_at dksX2_test_2 19 rfl rfl)
theorem dX2_test_67 : decode cX2_test 67 = .ok (.bipush 60, 2) := dk_16 60 (dk_at dksX2_test_2 20 rfl rfl)
theorem dX2_test_69 : decode cX2_test 69 = .ok (.invokevirtual 152, 3) := dk_182 0 152 (dk_at dksX2_test_3 0 rfl rfl)
theorem dX2_test_72 : decode cX2_test 72 = .ok (.ifCond .ne 21, 3) := dk_154 0 21 (dk_at dksX2_test_3 3 rfl rfl)
theorem dX2_test_75 : decode cX2_test 75 = .ok (.aload_n 0, 1) := dk_42 (dk_at dksX2_test_3 6 rfl rfl)
theorem dX2_test_76 : decode cX2_test 76 = .ok (.bipush 62, 2) := dk_16 62 (dk_at dksX2_test_3 7 rfl rfl)
theorem dX2_test_78 : decode cX2_test 78 = .ok (.invokevirtual 152, 3) := dk_182 0 152 (dk_at dksX2_test_3 9 rfl rfl)
theorem dX2_test_81 : decode cX2_test 81 = .ok (.ifCond .ne 12, 3) := dk_154 0 12 (dk_at dksX2_test_3 12 rfl rfl)
theorem dX2_test_84 : decode cX2_test 84 = .ok (.aload_n 0, 1) := dk_42 (dk_at dksX2_test_3 15 rfl rfl)
theorem dX2_test_85 : decode cX2_test 85 = .ok (.bipush 61, 2) := dk_16 61 (dk_at dksX2_test_3 16 rfl rfl)
theorem dX2_test_87 : decode cX2_test 87 = .ok (.invokevirtual 152, 3) := dk_182 0 152 (dk_at dksX2_test_3 18 rfl rfl)
theorem dX2_test_90 : decode cX2_test 90 = .ok (.ifCond .eq 7, 3) := dk_153 0 7 (dk_at dksX2_test_3 21 rfl rfl)
theorem dX2_test_93 : decode cX2_test 93 = .ok (.iconst 1, 1) := dk_4 (dk_at dksX2_test_4 0 rfl rfl)
theorem dX2_test_94 : decode cX2_test 94 = .ok (.goto 4, 3) := dk_167 0 4 (dk_at dksX2_test_4 1 rfl rfl)
theorem dX2_test_97 : decode cX2_test 97 = .ok (.iconst 0, 1) := dk_3 (dk_at dksX2_test_4 4 rfl rfl)
theorem dX2_test_98 : decode cX2_test 98 = .ok (.invokevirtual 27, 3) := dk_182 0 27 (dk_at dksX2_test_4 5 rfl rfl)
theorem dX2_test_101 : decode cX2_test 101 = .ok (.aload_n 1, 1) := dk_43 (dk_at dksX2_test_4 8 rfl rfl)
theorem dX2_test_102 : decode cX2_test 102 = .ok (.aload_n 0, 1) := dk_42 (dk_at dksX2_test_4 9 rfl rfl)
theorem dX2_test_103 : decode cX2_test 103 = .ok (.getfield 180, 3) := dk_180 0 180 (dk_at dksX2_test_4 10 rfl rfl)
theorem dX2_test_106 : decode cX2_test 106 = .ok (.putfield 183, 3) := dk_181 0 183 (dk_at dksX2_test_4 13 rfl rfl)
theorem dX2_test_109 : decode cX2_test 109 = .ok (.aload_n 0, 1) := dk_42 (dk_at dksX2_test_4 16 rfl rfl)
theorem dX2_test_110 : decode cX2_test 110 = .ok (.invokevirtual 31, 3) := dk_182 0 31 (dk_at dksX2_test_4 17 rfl rfl)
theorem dX2_test_113 : decode cX2_test 113 = .ok (.aload_n 1, 1) := dk_43 (dk_at dksX2_test_4 20 rfl rfl)
theorem dX2_test_114 : decode cX2_test 114 = .ok (.aload_n 0, 1) := dk_42 (dk_at dksX2_test_4 21 rfl rfl)
theorem dX2_test_115 : decode cX2_test 115 = .ok (.iconst 0, 1) := dk_3 (dk_at dksX2_test_4 22 rfl rfl)
theorem dX2_test_116 : decode cX2_test 116 = .ok (.aload_n 1, 1) := dk_43 (dk_at dksX2_test_4 23 rfl rfl)
theorem dX2_test_117 : decode cX2_test 117 = .ok (.getfield 176, 3) := dk_180 0 176 (dk_at dksX2_test_5 0 rfl rfl)
theorem dX2_test_120 : decode cX2_test 120 = .ok (.bipush 22, 2) := dk_16 22 (dk_at dksX2_test_5 3 rfl rfl)
theorem dX2_test_122 : decode cX2_test 122 = .ok (.if_icmp .ne 8, 3) := dk_160 0 8 (dk_at dksX2_test_5 5 rfl rfl)
theorem dX2_test_125 : decode cX2_test 125 = .ok (.bipush 8, 2) := dk_16 8 (dk_at dksX2_test_5 8 rfl rfl)
theorem dX2_test_127 : decode cX2_test 127 = .ok (.goto 5, 3) := dk_167 0 5 (dk_at dksX2_test_5 10 rfl rfl)
theorem dX2_test_130 : decode cX2_test 130 = .ok (.bipush 24, 2) := dk_16 24 (dk_at dksX2_test_5 13 rfl rfl)
theorem dX2_test_132 : decode cX2_test 132 = .ok (.invokevirtual 107, 3) := dk_182 0 107 (dk_at dksX2_test_5 15 rfl rfl)
theorem dX2_test_135 : decode cX2_test 135 = .ok (.putfield 186, 3) := dk_181 0 186 (dk_at dksX2_test_5 18 rfl rfl)
theorem dX2_test_138 : decode cX2_test 138 = .ok (.return_, 1) := dk_177 (dk_at dksX2_test_5 21 rfl rfl)
theorem q136 : (Jvm.Cond.initialized "CableDrawer$Reader") ∈ lw_all := lw_g (lw_at lw_m1 3 rfl) rfl
theorem q176 : (Jvm.Cond.instantiable "CableDrawer$Reader" (17 : Nat)) ∈ lw_all := lw_g (lw_at lw_m1 43 rfl) rfl
theorem q266 : (Jvm.Cond.instanceMethod ({ cls := "CableDrawer$Reader", name := "<init>", desc := "(LCableDrawer$Wrong;[LCableDrawer$Crossing;)V" } : Jvm.MethodName)) ∈ lw_all := lw_g (lw_at lw_m1 133 rfl) rfl
theorem q267 : (Jvm.Cond.code ({ cls := "CableDrawer$Reader", name := "<init>", desc := "(LCableDrawer$Wrong;[LCableDrawer$Crossing;)V" } : Jvm.MethodName) prog_8_method_1_code (3 : Nat) (Option.none : Option Jvm.ClassFile.FieldType)) ∈ lw_all := lw_g (lw_at lw_m1 134 rfl) rfl
theorem q268 : (Jvm.Cond.stringRef "CableDrawer$Reader" (3 : Nat) " lead cross look long stiff ends costs used threaded tight knot from open take loosen pull cut clip when loop stop end lump free ") ∈ lw_tbl := lw_at lw_m1 135 rfl
theorem q269 : (Jvm.Cond.stringRef "CableDrawer$Reader" (5 : Nat) ";<>=") ∈ lw_tbl := lw_at lw_m1 136 rfl
theorem q270 : (Jvm.Cond.methodLink "CableDrawer$Reader" (7 : Nat) ({ cls := "CableDrawer$Scan", name := "<init>", desc := "([BLjava/lang/String;Ljava/lang/String;LCableDrawer$Wrong;)V" } : Jvm.MethodName)) ∈ lw_all := lw_g (lw_at lw_m1 137 rfl) rfl
theorem q275 : (Jvm.Cond.fieldLink "CableDrawer$Reader" (164 : Nat) "CableDrawer$Reader" "stepMany" "I") ∈ lw_all := lw_g (lw_at lw_m1 142 rfl) rfl
theorem q277 : (Jvm.Cond.fieldLink "CableDrawer$Reader" (167 : Nat) "CableDrawer$Reader" "counted" "I") ∈ lw_all := lw_g (lw_at lw_m1 144 rfl) rfl
theorem q279 : (Jvm.Cond.fieldLink "CableDrawer$Reader" (170 : Nat) "CableDrawer$Reader" "open" "I") ∈ lw_all := lw_g (lw_at lw_m1 146 rfl) rfl
theorem q280 : (Jvm.Cond.fieldLink "CableDrawer$Reader" (35 : Nat) "CableDrawer$Reader" "drawer" "LCableDrawer$Drawer;") ∈ lw_all := lw_g (lw_at lw_m1 147 rfl) rfl
theorem q281 : (Jvm.Cond.fieldLink "CableDrawer$Reader" (160 : Nat) "CableDrawer$Reader" "steps" "[LCableDrawer$Step;") ∈ lw_all := lw_g (lw_at lw_m1 148 rfl) rfl
theorem q282 : (Jvm.Cond.fieldLink "CableDrawer$Reader" (13 : Nat) "CableDrawer$Reader" "opened" "[I") ∈ lw_all := lw_g (lw_at lw_m1 149 rfl) rfl
theorem q283 : (Jvm.Cond.fieldLink "CableDrawer$Reader" (19 : Nat) "CableDrawer$Reader" "kinds" "[LCableDrawer$Crossing;") ∈ lw_all := lw_g (lw_at lw_m1 150 rfl) rfl
theorem q286 : (Jvm.Cond.sameField "CableDrawer$Reader" "CableDrawer$Scan" "tape" "[B") ∈ lw_all := lw_g (lw_at lw_m1 153 rfl) rfl
theorem q288 : (Jvm.Cond.fieldLink "CableDrawer$Reader" (60 : Nat) "CableDrawer$Reader" "sort" "I") ∈ lw_all := lw_g (lw_at lw_m1 155 rfl) rfl
theorem q289 : (Jvm.Cond.sameField "CableDrawer$Reader" "CableDrawer$Scan" "sort" "I") ∈ lw_all := lw_g (lw_at lw_m1 156 rfl) rfl
theorem q294 : (Jvm.Cond.fieldLink "CableDrawer$Reader" (180 : Nat) "CableDrawer$Reader" "value" "I") ∈ lw_all := lw_g (lw_at lw_m1 161 rfl) rfl
theorem q295 : (Jvm.Cond.sameField "CableDrawer$Reader" "CableDrawer$Scan" "value" "I") ∈ lw_all := lw_g (lw_at lw_m1 162 rfl) rfl
theorem q299 : (Jvm.Cond.lays "CableDrawer$Reader" "CableDrawer$Reader" "taped" "I") ∈ lw_all := lw_g (lw_at lw_m1 166 rfl) rfl
theorem q300 : (Jvm.Cond.soleField "CableDrawer$Reader" "taped") ∈ lw_all := lw_g (lw_at lw_m1 167 rfl) rfl
theorem q301 : (Jvm.Cond.lays "CableDrawer$Reader" "CableDrawer$Reader" "stepMany" "I") ∈ lw_all := lw_g (lw_at lw_m1 168 rfl) rfl
theorem q302 : (Jvm.Cond.soleField "CableDrawer$Reader" "stepMany") ∈ lw_all := lw_g (lw_at lw_m1 169 rfl) rfl
theorem q303 : (Jvm.Cond.lays "CableDrawer$Reader" "CableDrawer$Reader" "counted" "I") ∈ lw_all := lw_g (lw_at lw_m1 170 rfl) rfl
theorem q304 : (Jvm.Cond.soleField "CableDrawer$Reader" "counted") ∈ lw_all := lw_g (lw_at lw_m1 171 rfl) rfl
theorem q305 : (Jvm.Cond.lays "CableDrawer$Reader" "CableDrawer$Reader" "open" "I") ∈ lw_all := lw_g (lw_at lw_m1 172 rfl) rfl
theorem q306 : (Jvm.Cond.soleField "CableDrawer$Reader" "open") ∈ lw_all := lw_g (lw_at lw_m1 173 rfl) rfl
theorem q307 : (Jvm.Cond.lays "CableDrawer$Reader" "CableDrawer$Reader" "drawer" "LCableDrawer$Drawer;") ∈ lw_all := lw_g (lw_at lw_m1 174 rfl) rfl
theorem q308 : (Jvm.Cond.soleField "CableDrawer$Reader" "drawer") ∈ lw_all := lw_g (lw_at lw_m1 175 rfl) rfl
theorem q309 : (Jvm.Cond.lays "CableDrawer$Reader" "CableDrawer$Reader" "steps" "[LCableDrawer$Step;") ∈ lw_all := lw_g (lw_at lw_m1 176 rfl) rfl
theorem q310 : (Jvm.Cond.soleField "CableDrawer$Reader" "steps") ∈ lw_all := lw_g (lw_at lw_m1 177 rfl) rfl
theorem q311 : (Jvm.Cond.laysFinal "CableDrawer$Reader" "CableDrawer$Reader" "opened" "[I") ∈ lw_all := lw_g (lw_at lw_m1 178 rfl) rfl
theorem q312 : (Jvm.Cond.soleField "CableDrawer$Reader" "opened") ∈ lw_all := lw_g (lw_at lw_m1 179 rfl) rfl
theorem q313 : (Jvm.Cond.laysFinal "CableDrawer$Reader" "CableDrawer$Reader" "kinds" "[LCableDrawer$Crossing;") ∈ lw_all := lw_g (lw_at lw_m1 180 rfl) rfl
theorem q314 : (Jvm.Cond.soleField "CableDrawer$Reader" "kinds") ∈ lw_all := lw_g (lw_at lw_m1 181 rfl) rfl
theorem q315 : (Jvm.Cond.laysFinal "CableDrawer$Reader" "CableDrawer$Scan" "tape" "[B") ∈ lw_all := lw_g (lw_at lw_m1 182 rfl) rfl
theorem q317 : (Jvm.Cond.lays "CableDrawer$Reader" "CableDrawer$Scan" "size" "I") ∈ lw_all := lw_g (lw_at lw_m1 184 rfl) rfl
theorem q319 : (Jvm.Cond.lays "CableDrawer$Reader" "CableDrawer$Scan" "sort" "I") ∈ lw_all := lw_g (lw_at lw_m1 186 rfl) rfl
theorem q321 : (Jvm.Cond.lays "CableDrawer$Reader" "CableDrawer$Scan" "from" "I") ∈ lw_all := lw_g (lw_at lw_m1 188 rfl) rfl
theorem q323 : (Jvm.Cond.lays "CableDrawer$Reader" "CableDrawer$Scan" "end" "I") ∈ lw_all := lw_g (lw_at lw_m1 190 rfl) rfl
theorem q325 : (Jvm.Cond.lays "CableDrawer$Reader" "CableDrawer$Scan" "value" "I") ∈ lw_all := lw_g (lw_at lw_m1 192 rfl) rfl
theorem q327 : (Jvm.Cond.laysFinal "CableDrawer$Reader" "CableDrawer$Scan" "keys" "Ljava/lang/String;") ∈ lw_all := lw_g (lw_at lw_m1 194 rfl) rfl
theorem q329 : (Jvm.Cond.laysFinal "CableDrawer$Reader" "CableDrawer$Scan" "signs" "Ljava/lang/String;") ∈ lw_all := lw_g (lw_at lw_m1 196 rfl) rfl
theorem q331 : (Jvm.Cond.laysFinal "CableDrawer$Reader" "CableDrawer$Scan" "wrong" "LCableDrawer$Wrong;") ∈ lw_all := lw_g (lw_at lw_m1 198 rfl) rfl
theorem q333 : (Jvm.Cond.superclass "CableDrawer$Reader" "CableDrawer$Scan") ∈ lw_all := lw_g (lw_at lw_m1 200 rfl) rfl
theorem q347 : (Jvm.Cond.fieldLink "CableDrawer$Reader" (137 : Nat) "CableDrawer$Drawer" "leads" "[LCableDrawer$Lead;") ∈ lw_all := lw_g (lw_at lw_m1 214 rfl) rfl
theorem q352 : (Jvm.Cond.fieldLink "CableDrawer$Reader" (94 : Nat) "CableDrawer$Drawer" "lookNames" "[J") ∈ lw_all := lw_g (lw_at lw_m1 219 rfl) rfl
theorem q354 : (Jvm.Cond.fieldLink "CableDrawer$Reader" (155 : Nat) "CableDrawer$Drawer" "looks" "[I") ∈ lw_all := lw_g (lw_at lw_m1 221 rfl) rfl
theorem q357 : (Jvm.Cond.fieldLinkNest "CableDrawer$Reader" (70 : Nat) "CableDrawer$Drawer" "leadMany" "I" "CableDrawer") ∈ lw_tbl := lw_at lw_m1 224 rfl
theorem q360 : (Jvm.Cond.fieldLinkNest "CableDrawer$Reader" (73 : Nat) "CableDrawer$Drawer" "many" "I" "CableDrawer") ∈ lw_tbl := lw_at lw_m1 227 rfl
theorem q363 : (Jvm.Cond.fieldLinkNest "CableDrawer$Reader" (76 : Nat) "CableDrawer$Drawer" "lookMany" "I" "CableDrawer") ∈ lw_tbl := lw_at lw_m1 230 rfl
theorem q654 : (Jvm.Cond.instanceMethod ({ cls := "CableDrawer$Reader", name := "drawer", desc := "(I)LCableDrawer$Drawer;" } : Jvm.MethodName)) ∈ lw_all := lw_g (lw_at lw_m3 41 rfl) rfl
theorem q655 : (Jvm.Cond.selects "CableDrawer$Reader" ({ cls := "CableDrawer$Reader", name := "drawer", desc := "(I)LCableDrawer$Drawer;" } : Jvm.MethodName) ({ cls := "CableDrawer$Reader", name := "drawer", desc := "(I)LCableDrawer$Drawer;" } : Jvm.MethodName)) ∈ lw_all := lw_g (lw_at lw_m3 42 rfl) rfl
theorem q656 : (Jvm.Cond.code ({ cls := "CableDrawer$Reader", name := "drawer", desc := "(I)LCableDrawer$Drawer;" } : Jvm.MethodName) prog_8_method_5_code (2 : Nat) (Option.some (Jvm.ClassFile.FieldType.object "CableDrawer$Drawer"))) ∈ lw_all := lw_g (lw_at lw_m3 43 rfl) rfl
theorem q657 : (Jvm.Cond.classLink "CableDrawer$Reader" (44 : Nat) "CableDrawer$Drawer") ∈ lw_all := lw_g (lw_at lw_m3 44 rfl) rfl
theorem q658 : (Jvm.Cond.methodLink "CableDrawer$Reader" (53 : Nat) ({ cls := "CableDrawer$Drawer", name := "<init>", desc := "([LCableDrawer$Crossing;)V" } : Jvm.MethodName)) ∈ lw_all := lw_g (lw_at lw_m3 45 rfl) rfl
theorem q659 : (Jvm.Cond.methodLink "CableDrawer$Reader" (56 : Nat) ({ cls := "CableDrawer$Reader", name := "begin", desc := "(I)V" } : Jvm.MethodName)) ∈ lw_all := lw_g (lw_at lw_m3 46 rfl) rfl
theorem q660 : (Jvm.Cond.sameMethod "CableDrawer$Reader" "CableDrawer$Scan" "begin" "(I)V") ∈ lw_all := lw_g (lw_at lw_m3 47 rfl) rfl
theorem q662 : (Jvm.Cond.selects "CableDrawer$Reader" ({ cls := "CableDrawer$Reader", name := "begin", desc := "(I)V" } : Jvm.MethodName) ({ cls := "CableDrawer$Scan", name := "begin", desc := "(I)V" } : Jvm.MethodName)) ∈ lw_all := lw_g (lw_at lw_m3 49 rfl) rfl
theorem q668 : (Jvm.Cond.selects "CableDrawer$Reader" ({ cls := "CableDrawer$Scan", name := "next", desc := "()V" } : Jvm.MethodName) ({ cls := "CableDrawer$Scan", name := "next", desc := "()V" } : Jvm.MethodName)) ∈ lw_all := lw_g (lw_at lw_m3 55 rfl) rfl
theorem q736 : (Jvm.Cond.methodLink "CableDrawer$Reader" (64 : Nat) ({ cls := "CableDrawer$Reader", name := "part", desc := "()V" } : Jvm.MethodName)) ∈ lw_all := lw_g (lw_at lw_m3 123 rfl) rfl
theorem q737 : (Jvm.Cond.privateMethod ({ cls := "CableDrawer$Reader", name := "part", desc := "()V" } : Jvm.MethodName)) ∈ lw_tbl := lw_at lw_m3 124 rfl
theorem q738 : (Jvm.Cond.instanceMethod ({ cls := "CableDrawer$Reader", name := "part", desc := "()V" } : Jvm.MethodName)) ∈ lw_all := lw_g (lw_at lw_m3 125 rfl) rfl
theorem q739 : (Jvm.Cond.code ({ cls := "CableDrawer$Reader", name := "part", desc := "()V" } : Jvm.MethodName) prog_8_method_6_code (2 : Nat) (Option.none : Option Jvm.ClassFile.FieldType)) ∈ lw_all := lw_g (lw_at lw_m3 126 rfl) rfl
theorem q740 : (Jvm.Cond.methodLink "CableDrawer$Reader" (23 : Nat) ({ cls := "CableDrawer$Reader", name := "key", desc := "()I" } : Jvm.MethodName)) ∈ lw_all := lw_g (lw_at lw_m3 127 rfl) rfl
theorem q741 : (Jvm.Cond.sameMethod "CableDrawer$Reader" "CableDrawer$Scan" "key" "()I") ∈ lw_all := lw_g (lw_at lw_m3 128 rfl) rfl
theorem q743 : (Jvm.Cond.selects "CableDrawer$Reader" ({ cls := "CableDrawer$Reader", name := "key", desc := "()I" } : Jvm.MethodName) ({ cls := "CableDrawer$Scan", name := "key", desc := "()I" } : Jvm.MethodName)) ∈ lw_all := lw_g (lw_at lw_m3 130 rfl) rfl
theorem q749 : (Jvm.Cond.selects "CableDrawer$Reader" ({ cls := "CableDrawer$Scan", name := "in", desc := "(Ljava/lang/String;)I" } : Jvm.MethodName) ({ cls := "CableDrawer$Scan", name := "in", desc := "(Ljava/lang/String;)I" } : Jvm.MethodName)) ∈ lw_all := lw_g (lw_at lw_m3 136 rfl) rfl
theorem q755 : (Jvm.Cond.methodLink "CableDrawer$Reader" (27 : Nat) ({ cls := "CableDrawer$Reader", name := "need", desc := "(Z)V" } : Jvm.MethodName)) ∈ lw_all := lw_g (lw_at lw_m3 142 rfl) rfl
theorem q756 : (Jvm.Cond.sameMethod "CableDrawer$Reader" "CableDrawer$Scan" "need" "(Z)V") ∈ lw_all := lw_g (lw_at lw_m3 143 rfl) rfl
theorem q758 : (Jvm.Cond.selects "CableDrawer$Reader" ({ cls := "CableDrawer$Reader", name := "need", desc := "(Z)V" } : Jvm.MethodName) ({ cls := "CableDrawer$Scan", name := "need", desc := "(Z)V" } : Jvm.MethodName)) ∈ lw_all := lw_g (lw_at lw_m3 145 rfl) rfl
theorem q764 : (Jvm.Cond.selects "CableDrawer$Reader" ({ cls := "CableDrawer$Scan", name := "fail", desc := "(I)LCableDrawer$Wrong;" } : Jvm.MethodName) ({ cls := "CableDrawer$Scan", name := "fail", desc := "(I)LCableDrawer$Wrong;" } : Jvm.MethodName)) ∈ lw_all := lw_g (lw_at lw_m3 151 rfl) rfl
theorem q770 : (Jvm.Cond.methodLink "CableDrawer$Reader" (49 : Nat) ({ cls := "CableDrawer$Reader", name := "fail", desc := "(I)LCableDrawer$Wrong;" } : Jvm.MethodName)) ∈ lw_all := lw_g (lw_at lw_m3 157 rfl) rfl
theorem q771 : (Jvm.Cond.sameMethod "CableDrawer$Reader" "CableDrawer$Scan" "fail" "(I)LCableDrawer$Wrong;") ∈ lw_all := lw_g (lw_at lw_m3 158 rfl) rfl
theorem q773 : (Jvm.Cond.selects "CableDrawer$Reader" ({ cls := "CableDrawer$Reader", name := "fail", desc := "(I)LCableDrawer$Wrong;" } : Jvm.MethodName) ({ cls := "CableDrawer$Scan", name := "fail", desc := "(I)LCableDrawer$Wrong;" } : Jvm.MethodName)) ∈ lw_all := lw_g (lw_at lw_m3 160 rfl) rfl
theorem q774 : (Jvm.Cond.methodLink "CableDrawer$Reader" (31 : Nat) ({ cls := "CableDrawer$Reader", name := "next", desc := "()V" } : Jvm.MethodName)) ∈ lw_all := lw_g (lw_at lw_m3 161 rfl) rfl
theorem q775 : (Jvm.Cond.sameMethod "CableDrawer$Reader" "CableDrawer$Scan" "next" "()V") ∈ lw_all := lw_g (lw_at lw_m3 162 rfl) rfl
theorem q777 : (Jvm.Cond.selects "CableDrawer$Reader" ({ cls := "CableDrawer$Reader", name := "next", desc := "()V" } : Jvm.MethodName) ({ cls := "CableDrawer$Scan", name := "next", desc := "()V" } : Jvm.MethodName)) ∈ lw_all := lw_g (lw_at lw_m3 164 rfl) rfl
theorem q778 : (Jvm.Cond.classLink "CableDrawer$Reader" (79 : Nat) "CableDrawer$Lead") ∈ lw_all := lw_g (lw_at lw_m3 165 rfl) rfl
theorem q780 : (Jvm.Cond.methodLink "CableDrawer$Reader" (81 : Nat) ({ cls := "CableDrawer$Reader", name := "newName", desc := "()J" } : Jvm.MethodName)) ∈ lw_all := lw_g (lw_at lw_m3 167 rfl) rfl
theorem q781 : (Jvm.Cond.privateMethod ({ cls := "CableDrawer$Reader", name := "newName", desc := "()J" } : Jvm.MethodName)) ∈ lw_tbl := lw_at lw_m3 168 rfl
theorem q782 : (Jvm.Cond.instanceMethod ({ cls := "CableDrawer$Reader", name := "newName", desc := "()J" } : Jvm.MethodName)) ∈ lw_all := lw_g (lw_at lw_m3 169 rfl) rfl
theorem q783 : (Jvm.Cond.code ({ cls := "CableDrawer$Reader", name := "newName", desc := "()J" } : Jvm.MethodName) prog_8_method_7_code (3 : Nat) (Option.some Jvm.ClassFile.FieldType.long)) ∈ lw_all := lw_g (lw_at lw_m3 170 rfl) rfl
theorem q784 : (Jvm.Cond.methodLink "CableDrawer$Reader" (39 : Nat) ({ cls := "CableDrawer$Reader", name := "name", desc := "()J" } : Jvm.MethodName)) ∈ lw_all := lw_g (lw_at lw_m3 171 rfl) rfl
theorem q785 : (Jvm.Cond.sameMethod "CableDrawer$Reader" "CableDrawer$Scan" "name" "()J") ∈ lw_all := lw_g (lw_at lw_m3 172 rfl) rfl
theorem q787 : (Jvm.Cond.selects "CableDrawer$Reader" ({ cls := "CableDrawer$Reader", name := "name", desc := "()J" } : Jvm.MethodName) ({ cls := "CableDrawer$Scan", name := "name", desc := "()J" } : Jvm.MethodName)) ∈ lw_all := lw_g (lw_at lw_m3 174 rfl) rfl
theorem q792 : (Jvm.Cond.methodLink "CableDrawer$Reader" (43 : Nat) ({ cls := "CableDrawer$Drawer", name := "lead", desc := "(J)I" } : Jvm.MethodName)) ∈ lw_all := lw_g (lw_at lw_m3 179 rfl) rfl
theorem q796 : (Jvm.Cond.methodLink "CableDrawer$Reader" (101 : Nat) ({ cls := "CableDrawer$Drawer", name := "look", desc := "(J)I" } : Jvm.MethodName)) ∈ lw_all := lw_g (lw_at lw_m3 183 rfl) rfl
theorem q800 : (Jvm.Cond.methodLink "CableDrawer$Reader" (84 : Nat) ({ cls := "CableDrawer$Lead", name := "<init>", desc := "(J)V" } : Jvm.MethodName)) ∈ lw_all := lw_g (lw_at lw_m3 187 rfl) rfl
theorem q807 : (Jvm.Cond.fieldLinkNest "CableDrawer$Reader" (111 : Nat) "CableDrawer$Lead" "length" "I" "CableDrawer") ∈ lw_tbl := lw_at lw_m3 194 rfl
theorem q810 : (Jvm.Cond.fieldLinkNest "CableDrawer$Reader" (118 : Nat) "CableDrawer$Lead" "stiff" "I" "CableDrawer") ∈ lw_tbl := lw_at lw_m3 197 rfl
theorem q814 : (Jvm.Cond.fieldLinkNest "CableDrawer$Reader" (121 : Nat) "CableDrawer$Lead" "one" "I" "CableDrawer") ∈ lw_tbl := lw_at lw_m3 201 rfl
theorem q817 : (Jvm.Cond.fieldLinkNest "CableDrawer$Reader" (124 : Nat) "CableDrawer$Lead" "two" "I" "CableDrawer") ∈ lw_tbl := lw_at lw_m3 204 rfl
theorem q820 : (Jvm.Cond.fieldLinkNest "CableDrawer$Reader" (127 : Nat) "CableDrawer$Lead" "costs" "I" "CableDrawer") ∈ lw_tbl := lw_at lw_m3 207 rfl
theorem q824 : (Jvm.Cond.fieldLinkNest "CableDrawer$Reader" (130 : Nat) "CableDrawer$Lead" "used" "I" "CableDrawer") ∈ lw_tbl := lw_at lw_m3 211 rfl
theorem q827 : (Jvm.Cond.fieldLinkNest "CableDrawer$Reader" (133 : Nat) "CableDrawer$Lead" "clip" "Z" "CableDrawer") ∈ lw_tbl := lw_at lw_m3 214 rfl
theorem q852 : (Jvm.Cond.methodLink "CableDrawer$Reader" (87 : Nat) ({ cls := "CableDrawer$Reader", name := "aLead", desc := "(LCableDrawer$Lead;)V" } : Jvm.MethodName)) ∈ lw_all := lw_g (lw_at lw_m3 239 rfl) rfl
theorem q853 : (Jvm.Cond.privateMethod ({ cls := "CableDrawer$Reader", name := "aLead", desc := "(LCableDrawer$Lead;)V" } : Jvm.MethodName)) ∈ lw_tbl := lw_at lw_m4 0 rfl
theorem q854 : (Jvm.Cond.instanceMethod ({ cls := "CableDrawer$Reader", name := "aLead", desc := "(LCableDrawer$Lead;)V" } : Jvm.MethodName)) ∈ lw_all := lw_g (lw_at lw_m4 1 rfl) rfl
theorem q855 : (Jvm.Cond.code ({ cls := "CableDrawer$Reader", name := "aLead", desc := "(LCableDrawer$Lead;)V" } : Jvm.MethodName) prog_8_method_8_code (2 : Nat) (Option.none : Option Jvm.ClassFile.FieldType)) ∈ lw_all := lw_g (lw_at lw_m4 2 rfl) rfl
theorem q856 : (Jvm.Cond.methodLink "CableDrawer$Reader" (104 : Nat) ({ cls := "CableDrawer$Reader", name := "word", desc := "(I)V" } : Jvm.MethodName)) ∈ lw_all := lw_g (lw_at lw_m4 3 rfl) rfl
theorem q857 : (Jvm.Cond.privateMethod ({ cls := "CableDrawer$Reader", name := "word", desc := "(I)V" } : Jvm.MethodName)) ∈ lw_tbl := lw_at lw_m4 4 rfl
theorem q858 : (Jvm.Cond.instanceMethod ({ cls := "CableDrawer$Reader", name := "word", desc := "(I)V" } : Jvm.MethodName)) ∈ lw_all := lw_g (lw_at lw_m4 5 rfl) rfl
theorem q859 : (Jvm.Cond.code ({ cls := "CableDrawer$Reader", name := "word", desc := "(I)V" } : Jvm.MethodName) prog_8_method_2_code (2 : Nat) (Option.none : Option Jvm.ClassFile.FieldType)) ∈ lw_all := lw_g (lw_at lw_m4 6 rfl) rfl
theorem q860 : (Jvm.Cond.methodLink "CableDrawer$Reader" (107 : Nat) ({ cls := "CableDrawer$Reader", name := "passed", desc := "(II)I" } : Jvm.MethodName)) ∈ lw_all := lw_g (lw_at lw_m4 7 rfl) rfl
theorem q861 : (Jvm.Cond.sameMethod "CableDrawer$Reader" "CableDrawer$Scan" "passed" "(II)I") ∈ lw_all := lw_g (lw_at lw_m4 8 rfl) rfl
theorem q863 : (Jvm.Cond.selects "CableDrawer$Reader" ({ cls := "CableDrawer$Reader", name := "passed", desc := "(II)I" } : Jvm.MethodName) ({ cls := "CableDrawer$Scan", name := "passed", desc := "(II)I" } : Jvm.MethodName)) ∈ lw_all := lw_g (lw_at lw_m4 10 rfl) rfl
theorem q869 : (Jvm.Cond.selects "CableDrawer$Reader" ({ cls := "CableDrawer$Scan", name := "number", desc := "(II)I" } : Jvm.MethodName) ({ cls := "CableDrawer$Scan", name := "number", desc := "(II)I" } : Jvm.MethodName)) ∈ lw_all := lw_g (lw_at lw_m4 16 rfl) rfl
theorem q871 : (Jvm.Cond.methodLink "CableDrawer$Reader" (114 : Nat) ({ cls := "CableDrawer$Reader", name := "isNext", desc := "(I)Z" } : Jvm.MethodName)) ∈ lw_all := lw_g (lw_at lw_m4 18 rfl) rfl
theorem q872 : (Jvm.Cond.privateMethod ({ cls := "CableDrawer$Reader", name := "isNext", desc := "(I)Z" } : Jvm.MethodName)) ∈ lw_tbl := lw_at lw_m4 19 rfl
theorem q873 : (Jvm.Cond.instanceMethod ({ cls := "CableDrawer$Reader", name := "isNext", desc := "(I)Z" } : Jvm.MethodName)) ∈ lw_all := lw_g (lw_at lw_m4 20 rfl) rfl
theorem q874 : (Jvm.Cond.code ({ cls := "CableDrawer$Reader", name := "isNext", desc := "(I)Z" } : Jvm.MethodName) prog_8_method_4_code (2 : Nat) (Option.some Jvm.ClassFile.FieldType.boolean)) ∈ lw_all := lw_g (lw_at lw_m4 21 rfl) rfl
theorem q875 : (Jvm.Cond.methodLink "CableDrawer$Reader" (91 : Nat) ({ cls := "CableDrawer$Reader", name := "aCrossing", desc := "()V" } : Jvm.MethodName)) ∈ lw_all := lw_g (lw_at lw_m4 22 rfl) rfl
theorem q876 : (Jvm.Cond.privateMethod ({ cls := "CableDrawer$Reader", name := "aCrossing", desc := "()V" } : Jvm.MethodName)) ∈ lw_tbl := lw_at lw_m4 23 rfl
theorem q877 : (Jvm.Cond.instanceMethod ({ cls := "CableDrawer$Reader", name := "aCrossing", desc := "()V" } : Jvm.MethodName)) ∈ lw_all := lw_g (lw_at lw_m4 24 rfl) rfl
theorem q878 : (Jvm.Cond.code ({ cls := "CableDrawer$Reader", name := "aCrossing", desc := "()V" } : Jvm.MethodName) prog_8_method_10_code (5 : Nat) (Option.none : Option Jvm.ClassFile.FieldType)) ∈ lw_all := lw_g (lw_at lw_m4 25 rfl) rfl
theorem q879 : (Jvm.Cond.methodLink "CableDrawer$Reader" (144 : Nat) ({ cls := "CableDrawer$Reader", name := "crosses", desc := "(I)I" } : Jvm.MethodName)) ∈ lw_all := lw_g (lw_at lw_m4 26 rfl) rfl
theorem q880 : (Jvm.Cond.privateMethod ({ cls := "CableDrawer$Reader", name := "crosses", desc := "(I)I" } : Jvm.MethodName)) ∈ lw_tbl := lw_at lw_m4 27 rfl
theorem q881 : (Jvm.Cond.instanceMethod ({ cls := "CableDrawer$Reader", name := "crosses", desc := "(I)I" } : Jvm.MethodName)) ∈ lw_all := lw_g (lw_at lw_m4 28 rfl) rfl
theorem q882 : (Jvm.Cond.code ({ cls := "CableDrawer$Reader", name := "crosses", desc := "(I)I" } : Jvm.MethodName) prog_8_method_9_code (3 : Nat) (Option.some Jvm.ClassFile.FieldType.int)) ∈ lw_all := lw_g (lw_at lw_m4 29 rfl) rfl
theorem q883 : (Jvm.Cond.methodLink "CableDrawer$Reader" (141 : Nat) ({ cls := "CableDrawer$Reader", name := "known", desc := "()I" } : Jvm.MethodName)) ∈ lw_all := lw_g (lw_at lw_m4 30 rfl) rfl
theorem q884 : (Jvm.Cond.privateMethod ({ cls := "CableDrawer$Reader", name := "known", desc := "()I" } : Jvm.MethodName)) ∈ lw_tbl := lw_at lw_m4 31 rfl
theorem q885 : (Jvm.Cond.instanceMethod ({ cls := "CableDrawer$Reader", name := "known", desc := "()I" } : Jvm.MethodName)) ∈ lw_all := lw_g (lw_at lw_m4 32 rfl) rfl
theorem q886 : (Jvm.Cond.code ({ cls := "CableDrawer$Reader", name := "known", desc := "()I" } : Jvm.MethodName) prog_8_method_3_code (2 : Nat) (Option.some Jvm.ClassFile.FieldType.int)) ∈ lw_all := lw_g (lw_at lw_m4 33 rfl) rfl
theorem q887 : (Jvm.Cond.methodLink "CableDrawer$Reader" (148 : Nat) ({ cls := "CableDrawer$Drawer", name := "adds", desc := "(III)V" } : Jvm.MethodName)) ∈ lw_all := lw_g (lw_at lw_m4 34 rfl) rfl
theorem q941 : (Jvm.Cond.methodLink "CableDrawer$Reader" (98 : Nat) ({ cls := "CableDrawer$Reader", name := "aLook", desc := "()V" } : Jvm.MethodName)) ∈ lw_all := lw_g (lw_at lw_m4 88 rfl) rfl
theorem q942 : (Jvm.Cond.privateMethod ({ cls := "CableDrawer$Reader", name := "aLook", desc := "()V" } : Jvm.MethodName)) ∈ lw_tbl := lw_at lw_m4 89 rfl
theorem q943 : (Jvm.Cond.instanceMethod ({ cls := "CableDrawer$Reader", name := "aLook", desc := "()V" } : Jvm.MethodName)) ∈ lw_all := lw_g (lw_at lw_m4 90 rfl) rfl
theorem q944 : (Jvm.Cond.code ({ cls := "CableDrawer$Reader", name := "aLook", desc := "()V" } : Jvm.MethodName) prog_8_method_11_code (3 : Nat) (Option.none : Option Jvm.ClassFile.FieldType)) ∈ lw_all := lw_g (lw_at lw_m4 91 rfl) rfl
theorem q945 : (Jvm.Cond.methodLink "CableDrawer$Reader" (152 : Nat) ({ cls := "CableDrawer$Reader", name := "is", desc := "(I)Z" } : Jvm.MethodName)) ∈ lw_all := lw_g (lw_at lw_m4 92 rfl) rfl
theorem q946 : (Jvm.Cond.sameMethod "CableDrawer$Reader" "CableDrawer$Scan" "is" "(I)Z") ∈ lw_all := lw_g (lw_at lw_m4 93 rfl) rfl
theorem q948 : (Jvm.Cond.selects "CableDrawer$Reader" ({ cls := "CableDrawer$Reader", name := "is", desc := "(I)Z" } : Jvm.MethodName) ({ cls := "CableDrawer$Scan", name := "is", desc := "(I)Z" } : Jvm.MethodName)) ∈ lw_all := lw_g (lw_at lw_m4 95 rfl) rfl
theorem q951 : (Jvm.Cond.methodLink "CableDrawer$Reader" (67 : Nat) ({ cls := "CableDrawer$Reader", name := "closes", desc := "()V" } : Jvm.MethodName)) ∈ lw_all := lw_g (lw_at lw_m4 98 rfl) rfl
theorem q952 : (Jvm.Cond.sameMethod "CableDrawer$Reader" "CableDrawer$Scan" "closes" "()V") ∈ lw_all := lw_g (lw_at lw_m4 99 rfl) rfl
theorem q954 : (Jvm.Cond.selects "CableDrawer$Reader" ({ cls := "CableDrawer$Reader", name := "closes", desc := "()V" } : Jvm.MethodName) ({ cls := "CableDrawer$Scan", name := "closes", desc := "()V" } : Jvm.MethodName)) ∈ lw_all := lw_g (lw_at lw_m4 101 rfl) rfl
theorem q971 : (Jvm.Cond.instanceMethod ({ cls := "CableDrawer$Reader", name := "years", desc := "(ILCableDrawer$Drawer;)[LCableDrawer$Step;" } : Jvm.MethodName)) ∈ lw_all := lw_g (lw_at lw_m4 118 rfl) rfl
theorem q972 : (Jvm.Cond.selects "CableDrawer$Reader" ({ cls := "CableDrawer$Reader", name := "years", desc := "(ILCableDrawer$Drawer;)[LCableDrawer$Step;" } : Jvm.MethodName) ({ cls := "CableDrawer$Reader", name := "years", desc := "(ILCableDrawer$Drawer;)[LCableDrawer$Step;" } : Jvm.MethodName)) ∈ lw_all := lw_g (lw_at lw_m4 119 rfl) rfl
theorem q973 : (Jvm.Cond.code ({ cls := "CableDrawer$Reader", name := "years", desc := "(ILCableDrawer$Drawer;)[LCableDrawer$Step;" } : Jvm.MethodName) prog_8_method_12_code (3 : Nat) (Option.some (Jvm.ClassFile.FieldType.array (Jvm.ClassFile.FieldType.object "CableDrawer$Step")))) ∈ lw_all := lw_g (lw_at lw_m4 120 rfl) rfl
theorem q974 : (Jvm.Cond.classLink "CableDrawer$Reader" (158 : Nat) "CableDrawer$Step") ∈ lw_all := lw_g (lw_at lw_m4 121 rfl) rfl
theorem q976 : (Jvm.Cond.methodLink "CableDrawer$Reader" (173 : Nat) ({ cls := "CableDrawer$Reader", name := "step", desc := "()V" } : Jvm.MethodName)) ∈ lw_all := lw_g (lw_at lw_m4 123 rfl) rfl
theorem q977 : (Jvm.Cond.privateMethod ({ cls := "CableDrawer$Reader", name := "step", desc := "()V" } : Jvm.MethodName)) ∈ lw_tbl := lw_at lw_m4 124 rfl
theorem q978 : (Jvm.Cond.instanceMethod ({ cls := "CableDrawer$Reader", name := "step", desc := "()V" } : Jvm.MethodName)) ∈ lw_all := lw_g (lw_at lw_m4 125 rfl) rfl
theorem q979 : (Jvm.Cond.code ({ cls := "CableDrawer$Reader", name := "step", desc := "()V" } : Jvm.MethodName) prog_8_method_14_code (4 : Nat) (Option.none : Option Jvm.ClassFile.FieldType)) ∈ lw_all := lw_g (lw_at lw_m4 126 rfl) rfl
theorem q981 : (Jvm.Cond.methodLink "CableDrawer$Reader" (187 : Nat) ({ cls := "CableDrawer$Step", name := "<init>", desc := "(I)V" } : Jvm.MethodName)) ∈ lw_all := lw_g (lw_at lw_m4 128 rfl) rfl
theorem q987 : (Jvm.Cond.fieldLinkNest "CableDrawer$Reader" (179 : Nat) "CableDrawer$Step" "one" "I" "CableDrawer") ∈ lw_tbl := lw_at lw_m4 134 rfl
theorem q989 : (Jvm.Cond.fieldLinkNest "CableDrawer$Reader" (186 : Nat) "CableDrawer$Step" "two" "I" "CableDrawer") ∈ lw_tbl := lw_at lw_m4 136 rfl
theorem q991 : (Jvm.Cond.fieldLinkNest "CableDrawer$Reader" (176 : Nat) "CableDrawer$Step" "test" "I" "CableDrawer") ∈ lw_tbl := lw_at lw_m4 138 rfl
theorem q993 : (Jvm.Cond.fieldLinkNest "CableDrawer$Reader" (183 : Nat) "CableDrawer$Step" "compares" "I" "CableDrawer") ∈ lw_tbl := lw_at lw_m4 140 rfl
theorem q995 : (Jvm.Cond.fieldLinkNest "CableDrawer$Reader" (192 : Nat) "CableDrawer$Step" "to" "I" "CableDrawer") ∈ lw_tbl := lw_at lw_m4 142 rfl
theorem q1013 : (Jvm.Cond.methodLink "CableDrawer$Reader" (189 : Nat) ({ cls := "CableDrawer$Reader", name := "test", desc := "(LCableDrawer$Step;)V" } : Jvm.MethodName)) ∈ lw_all := lw_g (lw_at lw_m4 160 rfl) rfl
theorem q1014 : (Jvm.Cond.privateMethod ({ cls := "CableDrawer$Reader", name := "test", desc := "(LCableDrawer$Step;)V" } : Jvm.MethodName)) ∈ lw_tbl := lw_at lw_m4 161 rfl
theorem q1015 : (Jvm.Cond.instanceMethod ({ cls := "CableDrawer$Reader", name := "test", desc := "(LCableDrawer$Step;)V" } : Jvm.MethodName)) ∈ lw_all := lw_g (lw_at lw_m4 162 rfl) rfl
theorem q1016 : (Jvm.Cond.code ({ cls := "CableDrawer$Reader", name := "test", desc := "(LCableDrawer$Step;)V" } : Jvm.MethodName) prog_8_method_13_code (2 : Nat) (Option.none : Option Jvm.ClassFile.FieldType)) ∈ lw_all := lw_g (lw_at lw_m4 163 rfl) rfl
theorem q2311 : (Jvm.Cond.selects "CableDrawer$Reader" ({ cls := "CableDrawer$Scan", name := "need", desc := "(Z)V" } : Jvm.MethodName) ({ cls := "CableDrawer$Scan", name := "need", desc := "(Z)V" } : Jvm.MethodName)) ∈ lw_all := lw_g (lw_at lw_m10 18 rfl) rfl
theorem q2313 : (Jvm.Cond.selects "CableDrawer$Reader" ({ cls := "CableDrawer$Scan", name := "is", desc := "(I)Z" } : Jvm.MethodName) ({ cls := "CableDrawer$Scan", name := "is", desc := "(I)Z" } : Jvm.MethodName)) ∈ lw_all := lw_g (lw_at lw_m10 20 rfl) rfl
theorem in_X2 : ∀ w ∈ wsX20, w ∈ lw_all := lw_in wsX20 [315, 317, 319, 321, 323, 325, 327, 329, 331, 299, 301, 303, 305, 307, 309, 311, 313] (by decide +kernel) (by decide +kernel)

/-! CableDrawer$Wrong -/
set_option maxRecDepth 100000
def RX3 : String := "CableDrawer$Wrong"
def TX3 : u_T := fun k => match k with
  | 0 => ("java/lang/Throwable", "cause", "Ljava/lang/Throwable;", false)
  | 1 => ("java/lang/Throwable", "stackTrace", "[Ljava/lang/StackTraceElement;", false)
  | 2 => ("java/lang/Throwable", "suppressedExceptions", "Ljava/util/List;", false)
  | 3 => ("java/lang/Throwable", "detailMessage", "Ljava/lang/String;", false)
  | 4 => ("java/lang/Throwable", "backtrace", "Ljava/lang/Object;", false)
  | 5 => ("java/lang/Throwable", "depth", "I", false)
  | 6 => ("CableDrawer$Wrong", "kind", "I", false)
  | _ => ("CableDrawer$Wrong", "place", "I", false)
def tyX3 : Nat → FieldType := fun k => match k with
  | 0 => .object "java/lang/Throwable"
  | 1 => .array (.object "java/lang/StackTraceElement")
  | 2 => .object "java/util/List"
  | 3 => .object "java/lang/String"
  | 4 => .object "java/lang/Object"
  | 5 => .int
  | 6 => .int
  | _ => .int
abbrev wsX30 : List Cond := u_ws RX3 TX3 8
theorem nmX3 : ∀ a, a < 8 → ∀ b, b < 8 → a ≠ b → (TX3 a).2.1 ≠ (TX3 b).2.1 := by decide +kernel
theorem tyX3_ok : ∀ k, k < 8 → parseFieldDescriptor (TX3 k).2.2.1 = some (tyX3 k) := by decide +kernel
abbrev cX3_init : ByteArray := prog_14_method_1_code
def yX3_init : MethodName := ⟨RX3, "<init>", "()V"⟩
def dkwX3_init_0 : List UInt8 := [42, 1, 1, 3, 3, 183, 0, 1, 177]
abbrev dktX3_init_0 : List UInt8 := dkwX3_init_0 ++ []
theorem dksX3_init_0 : cX3_init.data.toList.drop 0 = dktX3_init_0 := by decide +kernel
theorem dX3_init_0 : decode cX3_init 0 = .ok (.aload_n 0, 1) := dk_42 (dk_at dksX3_init_0 0 rfl rfl)
theorem dX3_init_1 : decode cX3_init 1 = .ok (.aconst_null, 1) := dk_1 (dk_at dksX3_init_0 1 rfl rfl)
theorem dX3_init_2 : decode cX3_init 2 = .ok (.aconst_null, 1) := dk_1 (dk_at dksX3_init_0 2 rfl rfl)
theorem dX3_init_3 : decode cX3_init 3 = .ok (.iconst 0, 1) := dk_3 (dk_at dksX3_init_0 3 rfl rfl)
theorem dX3_init_4 : decode cX3_init 4 = .ok (.iconst 0, 1) := dk_3 (dk_at dksX3_init_0 4 rfl rfl)
theorem dX3_init_5 : decode cX3_init 5 = .ok (.invokespecial 1, 3) := dk_183 0 1 (dk_at dksX3_init_0 5 rfl rfl)
theorem dX3_init_8 : decode cX3_init 8 = .ok (.return_, 1) := dk_177 (dk_at dksX3_init_0 8 rfl rfl)
abbrev cX3_of : ByteArray := prog_14_method_2_code
def yX3_of : MethodName := ⟨RX3, "of", "(II)LCableDrawer$Wrong;"⟩
def dkwX3_of_0 : List UInt8 := [42, 27, 181, 0, 7, 42, 28, 181, 0, 13, 42, 176]
abbrev dktX3_of_0 : List UInt8 := dkwX3_of_0 ++ []
theorem dksX3_of_0 : cX3_of.data.toList.drop 0 = dktX3_of_0 := by decide +kernel
theorem dX3_of_0 : decode cX3_of 0 = .ok (.aload_n 0, 1) := dk_42 (dk_at dksX3_of_0 0 rfl rfl)
theorem dX3_of_1 : decode cX3_of 1 = .ok (.iload_n 1, 1) := dk_27 (dk_at dksX3_of_0 1 rfl rfl)
theorem dX3_of_2 : decode cX3_of 2 = .ok (.putfield 7, 3) := dk_181 0 7 (dk_at dksX3_of_0 2 rfl rfl)
theorem dX3_of_5 : decode cX3_of 5 = .ok (.aload_n 0, 1) := dk_42 (dk_at dksX3_of_0 5 rfl rfl)
theorem dX3_of_6 : decode cX3_of 6 = .ok (.iload_n 2, 1) := dk_28 (dk_at dksX3_of_0 6 rfl rfl)
theorem dX3_of_7 : decode cX3_of 7 = .ok (.putfield 13, 3) := dk_181 0 13 (dk_at dksX3_of_0 7 rfl rfl)
theorem dX3_of_10 : decode cX3_of 10 = .ok (.aload_n 0, 1) := dk_42 (dk_at dksX3_of_0 10 rfl rfl)
theorem dX3_of_11 : decode cX3_of 11 = .ok (.areturn, 1) := dk_176 (dk_at dksX3_of_0 11 rfl rfl)
theorem q140 : (Jvm.Cond.initialized "CableDrawer$Wrong") ∈ lw_all := lw_g (lw_at lw_m1 7 rfl) rfl
theorem q178 : (Jvm.Cond.instantiable "CableDrawer$Wrong" (8 : Nat)) ∈ lw_all := lw_g (lw_at lw_m1 45 rfl) rfl
theorem q179 : (Jvm.Cond.castable "CableDrawer$Wrong" "CableDrawer$Wrong") ∈ lw_tbl := lw_at lw_m1 46 rfl
theorem q186 : (Jvm.Cond.selects "CableDrawer$Wrong" ({ cls := "java/lang/Throwable", name := "fillInStackTrace", desc := "(I)Ljava/lang/Throwable;" } : Jvm.MethodName) ({ cls := "java/lang/Throwable", name := "fillInStackTrace", desc := "(I)Ljava/lang/Throwable;" } : Jvm.MethodName)) ∈ lw_all := lw_g (lw_at lw_m1 53 rfl) rfl
theorem q187 : (Jvm.Cond.selects "CableDrawer$Wrong" ({ cls := "java/lang/Throwable", name := "fillInStackTrace", desc := "()Ljava/lang/Throwable;" } : Jvm.MethodName) ({ cls := "java/lang/Throwable", name := "fillInStackTrace", desc := "()Ljava/lang/Throwable;" } : Jvm.MethodName)) ∈ lw_all := lw_g (lw_at lw_m1 54 rfl) rfl
theorem q188 : (Jvm.Cond.lays "CableDrawer$Wrong" "java/lang/Throwable" "cause" "Ljava/lang/Throwable;") ∈ lw_all := lw_g (lw_at lw_m1 55 rfl) rfl
theorem q190 : (Jvm.Cond.lays "CableDrawer$Wrong" "java/lang/Throwable" "stackTrace" "[Ljava/lang/StackTraceElement;") ∈ lw_all := lw_g (lw_at lw_m1 57 rfl) rfl
theorem q192 : (Jvm.Cond.lays "CableDrawer$Wrong" "java/lang/Throwable" "suppressedExceptions" "Ljava/util/List;") ∈ lw_all := lw_g (lw_at lw_m1 59 rfl) rfl
theorem q194 : (Jvm.Cond.lays "CableDrawer$Wrong" "java/lang/Throwable" "detailMessage" "Ljava/lang/String;") ∈ lw_all := lw_g (lw_at lw_m1 61 rfl) rfl
theorem q196 : (Jvm.Cond.lays "CableDrawer$Wrong" "java/lang/Throwable" "backtrace" "Ljava/lang/Object;") ∈ lw_all := lw_g (lw_at lw_m1 63 rfl) rfl
theorem q233 : (Jvm.Cond.instanceMethod ({ cls := "CableDrawer$Wrong", name := "<init>", desc := "()V" } : Jvm.MethodName)) ∈ lw_all := lw_g (lw_at lw_m1 100 rfl) rfl
theorem q234 : (Jvm.Cond.code ({ cls := "CableDrawer$Wrong", name := "<init>", desc := "()V" } : Jvm.MethodName) prog_14_method_1_code (1 : Nat) (Option.none : Option Jvm.ClassFile.FieldType)) ∈ lw_all := lw_g (lw_at lw_m1 101 rfl) rfl
theorem q235 : (Jvm.Cond.methodLink "CableDrawer$Wrong" (1 : Nat) ({ cls := "java/lang/RuntimeException", name := "<init>", desc := "(Ljava/lang/String;Ljava/lang/Throwable;ZZ)V" } : Jvm.MethodName)) ∈ lw_all := lw_g (lw_at lw_m1 102 rfl) rfl
theorem q244 : (Jvm.Cond.fieldLink "CableDrawer$Wrong" (7 : Nat) "CableDrawer$Wrong" "kind" "I") ∈ lw_all := lw_g (lw_at lw_m1 111 rfl) rfl
theorem q246 : (Jvm.Cond.fieldLink "CableDrawer$Wrong" (13 : Nat) "CableDrawer$Wrong" "place" "I") ∈ lw_all := lw_g (lw_at lw_m1 113 rfl) rfl
theorem q253 : (Jvm.Cond.lays "CableDrawer$Wrong" "CableDrawer$Wrong" "kind" "I") ∈ lw_all := lw_g (lw_at lw_m1 120 rfl) rfl
theorem q254 : (Jvm.Cond.soleField "CableDrawer$Wrong" "kind") ∈ lw_all := lw_g (lw_at lw_m1 121 rfl) rfl
theorem q255 : (Jvm.Cond.lays "CableDrawer$Wrong" "CableDrawer$Wrong" "place" "I") ∈ lw_all := lw_g (lw_at lw_m1 122 rfl) rfl
theorem q256 : (Jvm.Cond.soleField "CableDrawer$Wrong" "place") ∈ lw_all := lw_g (lw_at lw_m1 123 rfl) rfl
theorem q261 : (Jvm.Cond.lays "CableDrawer$Wrong" "java/lang/Throwable" "depth" "I") ∈ lw_all := lw_g (lw_at lw_m1 128 rfl) rfl
theorem q264 : (Jvm.Cond.superclass "CableDrawer$Wrong" "java/lang/RuntimeException") ∈ lw_all := lw_g (lw_at lw_m1 131 rfl) rfl
theorem q767 : (Jvm.Cond.instanceMethod ({ cls := "CableDrawer$Wrong", name := "of", desc := "(II)LCableDrawer$Wrong;" } : Jvm.MethodName)) ∈ lw_all := lw_g (lw_at lw_m3 154 rfl) rfl
theorem q768 : (Jvm.Cond.selects "CableDrawer$Wrong" ({ cls := "CableDrawer$Wrong", name := "of", desc := "(II)LCableDrawer$Wrong;" } : Jvm.MethodName) ({ cls := "CableDrawer$Wrong", name := "of", desc := "(II)LCableDrawer$Wrong;" } : Jvm.MethodName)) ∈ lw_all := lw_g (lw_at lw_m3 155 rfl) rfl
theorem q769 : (Jvm.Cond.code ({ cls := "CableDrawer$Wrong", name := "of", desc := "(II)LCableDrawer$Wrong;" } : Jvm.MethodName) prog_14_method_2_code (3 : Nat) (Option.some (Jvm.ClassFile.FieldType.object "CableDrawer$Wrong"))) ∈ lw_all := lw_g (lw_at lw_m3 156 rfl) rfl
theorem in_X3 : ∀ w ∈ wsX30, w ∈ lw_all := lw_in wsX30 [188, 190, 192, 194, 196, 261, 253, 255] (by decide +kernel) (by decide +kernel)

/-! CableDrawer$Drawer -/
set_option maxRecDepth 100000
def RX4 : String := "CableDrawer$Drawer"
def TX4 : u_T := fun k => match k with
  | 0 => ("CableDrawer$Drawer", "kinds", "[LCableDrawer$Crossing;", true)
  | 1 => ("CableDrawer$Drawer", "leads", "[LCableDrawer$Lead;", true)
  | 2 => ("CableDrawer$Drawer", "row", "[LCableDrawer$Crossing;", true)
  | 3 => ("CableDrawer$Drawer", "lookNames", "[J", true)
  | 4 => ("CableDrawer$Drawer", "looks", "[I", true)
  | 5 => ("CableDrawer$Drawer", "leadMany", "I", false)
  | 6 => ("CableDrawer$Drawer", "many", "I", false)
  | 7 => ("CableDrawer$Drawer", "lookMany", "I", false)
  | 8 => ("CableDrawer$Drawer", "seconds", "I", false)
  | 9 => ("CableDrawer$Drawer", "pence", "I", false)
  | _ => ("CableDrawer$Drawer", "openings", "I", false)
def tyX4 : Nat → FieldType := fun k => match k with
  | 0 => .array (.object "CableDrawer$Crossing")
  | 1 => .array (.object "CableDrawer$Lead")
  | 2 => .array (.object "CableDrawer$Crossing")
  | 3 => .array .long
  | 4 => .array .int
  | 5 => .int
  | 6 => .int
  | 7 => .int
  | 8 => .int
  | 9 => .int
  | _ => .int
abbrev wsX40 : List Cond := u_ws RX4 TX4 11
theorem nmX4 : ∀ a, a < 11 → ∀ b, b < 11 → a ≠ b → (TX4 a).2.1 ≠ (TX4 b).2.1 := by decide +kernel
theorem tyX4_ok : ∀ k, k < 11 → parseFieldDescriptor (TX4 k).2.2.1 = some (tyX4 k) := by decide +kernel
abbrev cX4_init : ByteArray := prog_3_method_1_code
def yX4_init : MethodName := ⟨RX4, "<init>", "([LCableDrawer$Crossing;)V"⟩
def dkwX4_init_1 : List UInt8 := [188, 11, 181, 0, 23, 42, 6, 188, 10, 181, 0, 27, 42, 43, 181, 0, 31, 177]
abbrev dktX4_init_1 : List UInt8 := dkwX4_init_1 ++ []
def dkwX4_init_0 : List UInt8 := [42, 183, 0, 3, 42, 16, 8, 189, 0, 9, 181, 0, 11, 42, 16, 24, 189, 0, 17, 181, 0, 19, 42, 6]
abbrev dktX4_init_0 : List UInt8 := dkwX4_init_0 ++ dktX4_init_1
theorem dksX4_init_0 : cX4_init.data.toList.drop 0 = dktX4_init_0 := by decide +kernel
theorem dksX4_init_1 : cX4_init.data.toList.drop 24 = dktX4_init_1 := dk_seg dksX4_init_0 24 rfl rfl
theorem dX4_init_0 : decode cX4_init 0 = .ok (.aload_n 0, 1) := dk_42 (dk_at dksX4_init_0 0 rfl rfl)
theorem dX4_init_1 : decode cX4_init 1 = .ok (.invokespecial 3, 3) := dk_183 0 3 (dk_at dksX4_init_0 1 rfl rfl)
theorem dX4_init_4 : decode cX4_init 4 = .ok (.aload_n 0, 1) := dk_42 (dk_at dksX4_init_0 4 rfl rfl)
theorem dX4_init_5 : decode cX4_init 5 = .ok (.bipush 8, 2) := dk_16 8 (dk_at dksX4_init_0 5 rfl rfl)
theorem dX4_init_7 : decode cX4_init 7 = .ok (.anewarray 9, 3) := dk_189 0 9 (dk_at dksX4_init_0 7 rfl rfl)
theorem dX4_init_10 : decode cX4_init 10 = .ok (.putfield 11, 3) := dk_181 0 11 (dk_at dksX4_init_0 10 rfl rfl)
theorem dX4_init_13 : decode cX4_init 13 = .ok (.aload_n 0, 1) := dk_42 (dk_at dksX4_init_0 13 rfl rfl)
theorem dX4_init_14 : decode cX4_init 14 = .ok (.bipush 24, 2) := dk_16 24 (dk_at dksX4_init_0 14 rfl rfl)
theorem dX4_init_16 : decode cX4_init 16 = .ok (.anewarray 17, 3) := dk_189 0 17 (dk_at dksX4_init_0 16 rfl rfl)
theorem dX4_init_19 : decode cX4_init 19 = .ok (.putfield 19, 3) := dk_181 0 19 (dk_at dksX4_init_0 19 rfl rfl)
theorem dX4_init_22 : decode cX4_init 22 = .ok (.aload_n 0, 1) := dk_42 (dk_at dksX4_init_0 22 rfl rfl)
theorem dX4_init_23 : decode cX4_init 23 = .ok (.iconst 3, 1) := dk_6 (dk_at dksX4_init_0 23 rfl rfl)
theorem dX4_init_24 : decode cX4_init 24 = .ok (.newarray .long, 2) := dk_188_11 (dk_at dksX4_init_1 0 rfl rfl)
theorem dX4_init_26 : decode cX4_init 26 = .ok (.putfield 23, 3) := dk_181 0 23 (dk_at dksX4_init_1 2 rfl rfl)
theorem dX4_init_29 : decode cX4_init 29 = .ok (.aload_n 0, 1) := dk_42 (dk_at dksX4_init_1 5 rfl rfl)
theorem dX4_init_30 : decode cX4_init 30 = .ok (.iconst 3, 1) := dk_6 (dk_at dksX4_init_1 6 rfl rfl)
theorem dX4_init_31 : decode cX4_init 31 = .ok (.newarray .int, 2) := dk_188_10 (dk_at dksX4_init_1 7 rfl rfl)
theorem dX4_init_33 : decode cX4_init 33 = .ok (.putfield 27, 3) := dk_181 0 27 (dk_at dksX4_init_1 9 rfl rfl)
theorem dX4_init_36 : decode cX4_init 36 = .ok (.aload_n 0, 1) := dk_42 (dk_at dksX4_init_1 12 rfl rfl)
theorem dX4_init_37 : decode cX4_init 37 = .ok (.aload_n 1, 1) := dk_43 (dk_at dksX4_init_1 13 rfl rfl)
theorem dX4_init_38 : decode cX4_init 38 = .ok (.putfield 31, 3) := dk_181 0 31 (dk_at dksX4_init_1 14 rfl rfl)
theorem dX4_init_41 : decode cX4_init 41 = .ok (.return_, 1) := dk_177 (dk_at dksX4_init_1 17 rfl rfl)
abbrev cX4_lead : ByteArray := prog_3_method_3_code
def yX4_lead : MethodName := ⟨RX4, "lead", "(J)I"⟩
def dkwX4_lead_1 : List UInt8 := [29, 172, 132, 3, 1, 167, 255, 229, 2, 172]
abbrev dktX4_lead_1 : List UInt8 := dkwX4_lead_1 ++ []
def dkwX4_lead_0 : List UInt8 := [3, 62, 29, 42, 180, 0, 37, 162, 0, 25, 42, 180, 0, 11, 29, 50, 180, 0, 66, 31, 148, 154, 0, 5]
abbrev dktX4_lead_0 : List UInt8 := dkwX4_lead_0 ++ dktX4_lead_1
theorem dksX4_lead_0 : cX4_lead.data.toList.drop 0 = dktX4_lead_0 := by decide +kernel
theorem dksX4_lead_1 : cX4_lead.data.toList.drop 24 = dktX4_lead_1 := dk_seg dksX4_lead_0 24 rfl rfl
theorem dX4_lead_0 : decode cX4_lead 0 = .ok (.iconst 0, 1) := dk_3 (dk_at dksX4_lead_0 0 rfl rfl)
theorem dX4_lead_1 : decode cX4_lead 1 = .ok (.istore_n 3, 1) := dk_62 (dk_at dksX4_lead_0 1 rfl rfl)
theorem dX4_lead_2 : decode cX4_lead 2 = .ok (.iload_n 3, 1) := dk_29 (dk_at dksX4_lead_0 2 rfl rfl)
theorem dX4_lead_3 : decode cX4_lead 3 = .ok (.aload_n 0, 1) := dk_42 (dk_at dksX4_lead_0 3 rfl rfl)
theorem dX4_lead_4 : decode cX4_lead 4 = .ok (.getfield 37, 3) := dk_180 0 37 (dk_at dksX4_lead_0 4 rfl rfl)
theorem dX4_lead_7 : decode cX4_lead 7 = .ok (.if_icmp .ge 25, 3) := dk_162 0 25 (dk_at dksX4_lead_0 7 rfl rfl)
theorem dX4_lead_10 : decode cX4_lead 10 = .ok (.aload_n 0, 1) := dk_42 (dk_at dksX4_lead_0 10 rfl rfl)
theorem dX4_lead_11 : decode cX4_lead 11 = .ok (.getfield 11, 3) := dk_180 0 11 (dk_at dksX4_lead_0 11 rfl rfl)
theorem dX4_lead_14 : decode cX4_lead 14 = .ok (.iload_n 3, 1) := dk_29 (dk_at dksX4_lead_0 14 rfl rfl)
theorem dX4_lead_15 : decode cX4_lead 15 = .ok (.aaload, 1) := dk_50 (dk_at dksX4_lead_0 15 rfl rfl)
theorem dX4_lead_16 : decode cX4_lead 16 = .ok (.getfield 66, 3) := dk_180 0 66 (dk_at dksX4_lead_0 16 rfl rfl)
theorem dX4_lead_19 : decode cX4_lead 19 = .ok (.lload_n 1, 1) := dk_31 (dk_at dksX4_lead_0 19 rfl rfl)
theorem dX4_lead_20 : decode cX4_lead 20 = .ok (.lcmp, 1) := dk_148 (dk_at dksX4_lead_0 20 rfl rfl)
theorem dX4_lead_21 : decode cX4_lead 21 = .ok (.ifCond .ne 5, 3) := dk_154 0 5 (dk_at dksX4_lead_0 21 rfl rfl)
theorem dX4_lead_24 : decode cX4_lead 24 = .ok (.iload_n 3, 1) := dk_29 (dk_at dksX4_lead_1 0 rfl rfl)
theorem dX4_lead_25 : decode cX4_lead 25 = .ok (.ireturn, 1) := dk_172 (dk_at dksX4_lead_1 1 rfl rfl)
theorem dX4_lead_26 : decode cX4_lead 26 = .ok (.iinc 3 1, 3) := dk_132 3 1 (dk_at dksX4_lead_1 2 rfl rfl)
theorem dX4_lead_29 : decode cX4_lead 29 = .ok (.goto (-27), 3) := dk_167 255 229 (dk_at dksX4_lead_1 5 rfl rfl)
theorem dX4_lead_32 : decode cX4_lead 32 = .ok (.iconst (-1), 1) := dk_2 (dk_at dksX4_lead_1 8 rfl rfl)
theorem dX4_lead_33 : decode cX4_lead 33 = .ok (.ireturn, 1) := dk_172 (dk_at dksX4_lead_1 9 rfl rfl)
abbrev cX4_look : ByteArray := prog_3_method_4_code
def yX4_look : MethodName := ⟨RX4, "look", "(J)I"⟩
def dkwX4_look_1 : List UInt8 := [132, 3, 1, 167, 255, 232, 2, 172]
abbrev dktX4_look_1 : List UInt8 := dkwX4_look_1 ++ []
def dkwX4_look_0 : List UInt8 := [3, 62, 29, 42, 180, 0, 54, 162, 0, 22, 42, 180, 0, 23, 29, 47, 31, 148, 154, 0, 5, 29, 172]
abbrev dktX4_look_0 : List UInt8 := dkwX4_look_0 ++ dktX4_look_1
theorem dksX4_look_0 : cX4_look.data.toList.drop 0 = dktX4_look_0 := by decide +kernel
theorem dksX4_look_1 : cX4_look.data.toList.drop 23 = dktX4_look_1 := dk_seg dksX4_look_0 23 rfl rfl
theorem dX4_look_0 : decode cX4_look 0 = .ok (.iconst 0, 1) := dk_3 (dk_at dksX4_look_0 0 rfl rfl)
theorem dX4_look_1 : decode cX4_look 1 = .ok (.istore_n 3, 1) := dk_62 (dk_at dksX4_look_0 1 rfl rfl)
theorem dX4_look_2 : decode cX4_look 2 = .ok (.iload_n 3, 1) := dk_29 (dk_at dksX4_look_0 2 rfl rfl)
theorem dX4_look_3 : decode cX4_look 3 = .ok (.aload_n 0, 1) := dk_42 (dk_at dksX4_look_0 3 rfl rfl)
theorem dX4_look_4 : decode cX4_look 4 = .ok (.getfield 54, 3) := dk_180 0 54 (dk_at dksX4_look_0 4 rfl rfl)
theorem dX4_look_7 : decode cX4_look 7 = .ok (.if_icmp .ge 22, 3) := dk_162 0 22 (dk_at dksX4_look_0 7 rfl rfl)
theorem dX4_look_10 : decode cX4_look 10 = .ok (.aload_n 0, 1) := dk_42 (dk_at dksX4_look_0 10 rfl rfl)
theorem dX4_look_11 : decode cX4_look 11 = .ok (.getfield 23, 3) := dk_180 0 23 (dk_at dksX4_look_0 11 rfl rfl)
theorem dX4_look_14 : decode cX4_look 14 = .ok (.iload_n 3, 1) := dk_29 (dk_at dksX4_look_0 14 rfl rfl)
theorem dX4_look_15 : decode cX4_look 15 = .ok (.laload, 1) := dk_47 (dk_at dksX4_look_0 15 rfl rfl)
theorem dX4_look_16 : decode cX4_look 16 = .ok (.lload_n 1, 1) := dk_31 (dk_at dksX4_look_0 16 rfl rfl)
theorem dX4_look_17 : decode cX4_look 17 = .ok (.lcmp, 1) := dk_148 (dk_at dksX4_look_0 17 rfl rfl)
theorem dX4_look_18 : decode cX4_look 18 = .ok (.ifCond .ne 5, 3) := dk_154 0 5 (dk_at dksX4_look_0 18 rfl rfl)
theorem dX4_look_21 : decode cX4_look 21 = .ok (.iload_n 3, 1) := dk_29 (dk_at dksX4_look_0 21 rfl rfl)
theorem dX4_look_22 : decode cX4_look 22 = .ok (.ireturn, 1) := dk_172 (dk_at dksX4_look_0 22 rfl rfl)
theorem dX4_look_23 : decode cX4_look 23 = .ok (.iinc 3 1, 3) := dk_132 3 1 (dk_at dksX4_look_1 0 rfl rfl)
theorem dX4_look_26 : decode cX4_look 26 = .ok (.goto (-24), 3) := dk_167 255 232 (dk_at dksX4_look_1 3 rfl rfl)
theorem dX4_look_29 : decode cX4_look 29 = .ok (.iconst (-1), 1) := dk_2 (dk_at dksX4_look_1 6 rfl rfl)
theorem dX4_look_30 : decode cX4_look 30 = .ok (.ireturn, 1) := dk_172 (dk_at dksX4_look_1 7 rfl rfl)
abbrev cX4_adds : ByteArray := prog_3_method_6_code
def yX4_adds : MethodName := ⟨RX4, "adds", "(III)V"⟩
def dkwX4_adds_2 : List UInt8 := [21, 4, 50, 83, 42, 89, 180, 0, 51, 4, 96, 181, 0, 51, 177]
abbrev dktX4_adds_2 : List UInt8 := dkwX4_adds_2 ++ []
def dkwX4_adds_1 : List UInt8 := [180, 0, 31, 21, 4, 27, 28, 29, 184, 0, 74, 83, 42, 180, 0, 19, 42, 180, 0, 51, 42, 180, 0, 31]
abbrev dktX4_adds_1 : List UInt8 := dkwX4_adds_1 ++ dktX4_adds_2
def dkwX4_adds_0 : List UInt8 := [7, 16, 8, 27, 104, 28, 96, 104, 29, 96, 54, 4, 42, 180, 0, 31, 21, 4, 50, 199, 0, 16, 42]
abbrev dktX4_adds_0 : List UInt8 := dkwX4_adds_0 ++ dktX4_adds_1
theorem dksX4_adds_0 : cX4_adds.data.toList.drop 0 = dktX4_adds_0 := by decide +kernel
theorem dksX4_adds_1 : cX4_adds.data.toList.drop 23 = dktX4_adds_1 := dk_seg dksX4_adds_0 23 rfl rfl
theorem dksX4_adds_2 : cX4_adds.data.toList.drop 47 = dktX4_adds_2 := dk_seg dksX4_adds_1 24 rfl rfl
theorem dX4_adds_0 : decode cX4_adds 0 = .ok (.iconst 4, 1) := dk_7 (dk_at dksX4_adds_0 0 rfl rfl)
theorem dX4_adds_1 : decode cX4_adds 1 = .ok (.bipush 8, 2) := dk_16 8 (dk_at dksX4_adds_0 1 rfl rfl)
theorem dX4_adds_3 : decode cX4_adds 3 = .ok (.iload_n 1, 1) := dk_27 (dk_at dksX4_adds_0 3 rfl rfl)
theorem dX4_adds_4 : decode cX4_adds 4 = .ok (.imul, 1) := dk_104 (dk_at dksX4_adds_0 4 rfl rfl)
theorem dX4_adds_5 : decode cX4_adds 5 = .ok (.iload_n 2, 1) := dk_28 (dk_at dksX4_adds_0 5 rfl rfl)
theorem dX4_adds_6 : decode cX4_adds 6 = .ok (.iadd, 1) := dk_96 (dk_at dksX4_adds_0 6 rfl rfl)
theorem dX4_adds_7 : decode cX4_adds 7 = .ok (.imul, 1) := dk_104 (dk_at dksX4_adds_0 7 rfl rfl)
theorem dX4_adds_8 : decode cX4_adds 8 = .ok (.iload_n 3, 1) := dk_29 (dk_at dksX4_adds_0 8 rfl rfl)
theorem dX4_adds_9 : decode cX4_adds 9 = .ok (.iadd, 1) := dk_96 (dk_at dksX4_adds_0 9 rfl rfl)
theorem dX4_adds_10 : decode cX4_adds 10 = .ok (.istore 4, 2) := dk_54 4 (dk_at dksX4_adds_0 10 rfl rfl)
theorem dX4_adds_12 : decode cX4_adds 12 = .ok (.aload_n 0, 1) := dk_42 (dk_at dksX4_adds_0 12 rfl rfl)
theorem dX4_adds_13 : decode cX4_adds 13 = .ok (.getfield 31, 3) := dk_180 0 31 (dk_at dksX4_adds_0 13 rfl rfl)
theorem dX4_adds_16 : decode cX4_adds 16 = .ok (.iload 4, 2) := dk_21 4 (dk_at dksX4_adds_0 16 rfl rfl)
theorem dX4_adds_18 : decode cX4_adds 18 = .ok (.aaload, 1) := dk_50 (dk_at dksX4_adds_0 18 rfl rfl)
theorem dX4_adds_19 : decode cX4_adds 19 = .ok (.ifnonnull 16, 3) := dk_199 0 16 (dk_at dksX4_adds_0 19 rfl rfl)
theorem dX4_adds_22 : decode cX4_adds 22 = .ok (.aload_n 0, 1) := dk_42 (dk_at dksX4_adds_0 22 rfl rfl)
theorem dX4_adds_23 : decode cX4_adds 23 = .ok (.getfield 31, 3) := dk_180 0 31 (dk_at dksX4_adds_1 0 rfl rfl)
theorem dX4_adds_26 : decode cX4_adds 26 = .ok (.iload 4, 2) := dk_21 4 (dk_at dksX4_adds_1 3 rfl rfl)
theorem dX4_adds_28 : decode cX4_adds 28 = .ok (.iload_n 1, 1) := dk_27 (dk_at dksX4_adds_1 5 rfl rfl)
theorem dX4_adds_29 : decode cX4_adds 29 = .ok (.iload_n 2, 1) := dk_28 (dk_at dksX4_adds_1 6 rfl rfl)
theorem dX4_adds_30 : decode cX4_adds 30 = .ok (.iload_n 3, 1) := dk_29 (dk_at dksX4_adds_1 7 rfl rfl)
theorem dX4_adds_31 : decode cX4_adds 31 = .ok (.invokestatic 74, 3) := dk_184 0 74 (dk_at dksX4_adds_1 8 rfl rfl)
theorem dX4_adds_34 : decode cX4_adds 34 = .ok (.aastore, 1) := dk_83 (dk_at dksX4_adds_1 11 rfl rfl)
theorem dX4_adds_35 : decode cX4_adds 35 = .ok (.aload_n 0, 1) := dk_42 (dk_at dksX4_adds_1 12 rfl rfl)
theorem dX4_adds_36 : decode cX4_adds 36 = .ok (.getfield 19, 3) := dk_180 0 19 (dk_at dksX4_adds_1 13 rfl rfl)
theorem dX4_adds_39 : decode cX4_adds 39 = .ok (.aload_n 0, 1) := dk_42 (dk_at dksX4_adds_1 16 rfl rfl)
theorem dX4_adds_40 : decode cX4_adds 40 = .ok (.getfield 51, 3) := dk_180 0 51 (dk_at dksX4_adds_1 17 rfl rfl)
theorem dX4_adds_43 : decode cX4_adds 43 = .ok (.aload_n 0, 1) := dk_42 (dk_at dksX4_adds_1 20 rfl rfl)
theorem dX4_adds_44 : decode cX4_adds 44 = .ok (.getfield 31, 3) := dk_180 0 31 (dk_at dksX4_adds_1 21 rfl rfl)
theorem dX4_adds_47 : decode cX4_adds 47 = .ok (.iload 4, 2) := dk_21 4 (dk_at dksX4_adds_2 0 rfl rfl)
theorem dX4_adds_49 : decode cX4_adds 49 = .ok (.aaload, 1) := dk_50 (dk_at dksX4_adds_2 2 rfl rfl)
theorem dX4_adds_50 : decode cX4_adds 50 = .ok (.aastore, 1) := dk_83 (dk_at dksX4_adds_2 3 rfl rfl)
theorem dX4_adds_51 : decode cX4_adds 51 = .ok (.aload_n 0, 1) := dk_42 (dk_at dksX4_adds_2 4 rfl rfl)
theorem dX4_adds_52 : decode cX4_adds 52 = .ok (.dup, 1) := dk_89 (dk_at dksX4_adds_2 5 rfl rfl)
theorem dX4_adds_53 : decode cX4_adds 53 = .ok (.getfield 51, 3) := dk_180 0 51 (dk_at dksX4_adds_2 6 rfl rfl)
theorem dX4_adds_56 : decode cX4_adds 56 = .ok (.iconst 1, 1) := dk_4 (dk_at dksX4_adds_2 9 rfl rfl)
theorem dX4_adds_57 : decode cX4_adds 57 = .ok (.iadd, 1) := dk_96 (dk_at dksX4_adds_2 10 rfl rfl)
theorem dX4_adds_58 : decode cX4_adds 58 = .ok (.putfield 51, 3) := dk_181 0 51 (dk_at dksX4_adds_2 11 rfl rfl)
theorem dX4_adds_61 : decode cX4_adds 61 = .ok (.return_, 1) := dk_177 (dk_at dksX4_adds_2 14 rfl rfl)
abbrev cX4_inSet : ByteArray := prog_3_method_5_code
def yX4_inSet : MethodName := ⟨RX4, "inSet", "()I"⟩
def dkwX4_inSet_1 : List UInt8 := [153, 0, 7, 3, 167, 0, 6, 4, 28, 120, 128, 60, 132, 2, 1, 167, 255, 223, 27, 172]
abbrev dktX4_inSet_1 : List UInt8 := dkwX4_inSet_1 ++ []
def dkwX4_inSet_0 : List UInt8 := [3, 60, 3, 61, 28, 42, 180, 0, 37, 162, 0, 31, 27, 42, 180, 0, 11, 28, 50, 180, 0, 70]
abbrev dktX4_inSet_0 : List UInt8 := dkwX4_inSet_0 ++ dktX4_inSet_1
theorem dksX4_inSet_0 : cX4_inSet.data.toList.drop 0 = dktX4_inSet_0 := by decide +kernel
theorem dksX4_inSet_1 : cX4_inSet.data.toList.drop 22 = dktX4_inSet_1 := dk_seg dksX4_inSet_0 22 rfl rfl
theorem dX4_inSet_0 : decode cX4_inSet 0 = .ok (.iconst 0, 1) := dk_3 (dk_at dksX4_inSet_0 0 rfl rfl)
theorem dX4_inSet_1 : decode cX4_inSet 1 = .ok (.istore_n 1, 1) := dk_60 (dk_at dksX4_inSet_0 1 rfl rfl)
theorem dX4_inSet_2 : decode cX4_inSet 2 = .ok (.iconst 0, 1) := dk_3 (dk_at dksX4_inSet_0 2 rfl rfl)
theorem dX4_inSet_3 : decode cX4_inSet 3 = .ok (.istore_n 2, 1) := dk_61 (dk_at dksX4_inSet_0 3 rfl rfl)
theorem dX4_inSet_4 : decode cX4_inSet 4 = .ok (.iload_n 2, 1) := dk_28 (dk_at dksX4_inSet_0 4 rfl rfl)
theorem dX4_inSet_5 : decode cX4_inSet 5 = .ok (.aload_n 0, 1) := dk_42 (dk_at dksX4_inSet_0 5 rfl rfl)
theorem dX4_inSet_6 : decode cX4_inSet 6 = .ok (.getfield 37, 3) := dk_180 0 37 (dk_at dksX4_inSet_0 6 rfl rfl)
theorem dX4_inSet_9 : decode cX4_inSet 9 = .ok (.if_icmp .ge 31, 3) := dk_162 0 31 (dk_at dksX4_inSet_0 9 rfl rfl)
theorem dX4_inSet_12 : decode cX4_inSet 12 = .ok (.iload_n 1, 1) := dk_27 (dk_at dksX4_inSet_0 12 rfl rfl)
theorem dX4_inSet_13 : decode cX4_inSet 13 = .ok (.aload_n 0, 1) := dk_42 (dk_at dksX4_inSet_0 13 rfl rfl)
theorem dX4_inSet_14 : decode cX4_inSet 14 = .ok (.getfield 11, 3) := dk_180 0 11 (dk_at dksX4_inSet_0 14 rfl rfl)
theorem dX4_inSet_17 : decode cX4_inSet 17 = .ok (.iload_n 2, 1) := dk_28 (dk_at dksX4_inSet_0 17 rfl rfl)
theorem dX4_inSet_18 : decode cX4_inSet 18 = .ok (.aaload, 1) := dk_50 (dk_at dksX4_inSet_0 18 rfl rfl)
theorem dX4_inSet_19 : decode cX4_inSet 19 = .ok (.getfield 70, 3) := dk_180 0 70 (dk_at dksX4_inSet_0 19 rfl rfl)
theorem dX4_inSet_22 : decode cX4_inSet 22 = .ok (.ifCond .eq 7, 3) := dk_153 0 7 (dk_at dksX4_inSet_1 0 rfl rfl)
theorem dX4_inSet_25 : decode cX4_inSet 25 = .ok (.iconst 0, 1) := dk_3 (dk_at dksX4_inSet_1 3 rfl rfl)
theorem dX4_inSet_26 : decode cX4_inSet 26 = .ok (.goto 6, 3) := dk_167 0 6 (dk_at dksX4_inSet_1 4 rfl rfl)
theorem dX4_inSet_29 : decode cX4_inSet 29 = .ok (.iconst 1, 1) := dk_4 (dk_at dksX4_inSet_1 7 rfl rfl)
theorem dX4_inSet_30 : decode cX4_inSet 30 = .ok (.iload_n 2, 1) := dk_28 (dk_at dksX4_inSet_1 8 rfl rfl)
theorem dX4_inSet_31 : decode cX4_inSet 31 = .ok (.ishl, 1) := dk_120 (dk_at dksX4_inSet_1 9 rfl rfl)
theorem dX4_inSet_32 : decode cX4_inSet 32 = .ok (.ior, 1) := dk_128 (dk_at dksX4_inSet_1 10 rfl rfl)
theorem dX4_inSet_33 : decode cX4_inSet 33 = .ok (.istore_n 1, 1) := dk_60 (dk_at dksX4_inSet_1 11 rfl rfl)
theorem dX4_inSet_34 : decode cX4_inSet 34 = .ok (.iinc 2 1, 3) := dk_132 2 1 (dk_at dksX4_inSet_1 12 rfl rfl)
theorem dX4_inSet_37 : decode cX4_inSet 37 = .ok (.goto (-33), 3) := dk_167 255 223 (dk_at dksX4_inSet_1 15 rfl rfl)
theorem dX4_inSet_40 : decode cX4_inSet 40 = .ok (.iload_n 1, 1) := dk_27 (dk_at dksX4_inSet_1 18 rfl rfl)
theorem dX4_inSet_41 : decode cX4_inSet 41 = .ok (.ireturn, 1) := dk_172 (dk_at dksX4_inSet_1 19 rfl rfl)
abbrev cX4_crossings : ByteArray := prog_3_method_9_code
def yX4_crossings : MethodName := ⟨RX4, "crossings", "(I)I"⟩
def dkwX4_crossings_1 : List UInt8 := [153, 0, 7, 4, 167, 0, 4, 3, 96, 61, 132, 3, 1, 167, 255, 224, 28, 172]
abbrev dktX4_crossings_1 : List UInt8 := dkwX4_crossings_1 ++ []
def dkwX4_crossings_0 : List UInt8 := [3, 61, 3, 62, 29, 42, 180, 0, 51, 162, 0, 30, 28, 42, 180, 0, 19, 29, 50, 27, 182, 0, 88]
abbrev dktX4_crossings_0 : List UInt8 := dkwX4_crossings_0 ++ dktX4_crossings_1
theorem dksX4_crossings_0 : cX4_crossings.data.toList.drop 0 = dktX4_crossings_0 := by decide +kernel
theorem dksX4_crossings_1 : cX4_crossings.data.toList.drop 23 = dktX4_crossings_1 := dk_seg dksX4_crossings_0 23 rfl rfl
theorem dX4_crossings_0 : decode cX4_crossings 0 = .ok (.iconst 0, 1) := dk_3 (dk_at dksX4_crossings_0 0 rfl rfl)
theorem dX4_crossings_1 : decode cX4_crossings 1 = .ok (.istore_n 2, 1) := dk_61 (dk_at dksX4_crossings_0 1 rfl rfl)
theorem dX4_crossings_2 : decode cX4_crossings 2 = .ok (.iconst 0, 1) := dk_3 (dk_at dksX4_crossings_0 2 rfl rfl)
theorem dX4_crossings_3 : decode cX4_crossings 3 = .ok (.istore_n 3, 1) := dk_62 (dk_at dksX4_crossings_0 3 rfl rfl)
theorem dX4_crossings_4 : decode cX4_crossings 4 = .ok (.iload_n 3, 1) := dk_29 (dk_at dksX4_crossings_0 4 rfl rfl)
theorem dX4_crossings_5 : decode cX4_crossings 5 = .ok (.aload_n 0, 1) := dk_42 (dk_at dksX4_crossings_0 5 rfl rfl)
theorem dX4_crossings_6 : decode cX4_crossings 6 = .ok (.getfield 51, 3) := dk_180 0 51 (dk_at dksX4_crossings_0 6 rfl rfl)
theorem dX4_crossings_9 : decode cX4_crossings 9 = .ok (.if_icmp .ge 30, 3) := dk_162 0 30 (dk_at dksX4_crossings_0 9 rfl rfl)
theorem dX4_crossings_12 : decode cX4_crossings 12 = .ok (.iload_n 2, 1) := dk_28 (dk_at dksX4_crossings_0 12 rfl rfl)
theorem dX4_crossings_13 : decode cX4_crossings 13 = .ok (.aload_n 0, 1) := dk_42 (dk_at dksX4_crossings_0 13 rfl rfl)
theorem dX4_crossings_14 : decode cX4_crossings 14 = .ok (.getfield 19, 3) := dk_180 0 19 (dk_at dksX4_crossings_0 14 rfl rfl)
theorem dX4_crossings_17 : decode cX4_crossings 17 = .ok (.iload_n 3, 1) := dk_29 (dk_at dksX4_crossings_0 17 rfl rfl)
theorem dX4_crossings_18 : decode cX4_crossings 18 = .ok (.aaload, 1) := dk_50 (dk_at dksX4_crossings_0 18 rfl rfl)
theorem dX4_crossings_19 : decode cX4_crossings 19 = .ok (.iload_n 1, 1) := dk_27 (dk_at dksX4_crossings_0 19 rfl rfl)
theorem dX4_crossings_20 : decode cX4_crossings 20 = .ok (.invokevirtual 88, 3) := dk_182 0 88 (dk_at dksX4_crossings_0 20 rfl rfl)
theorem dX4_crossings_23 : decode cX4_crossings 23 = .ok (.ifCond .eq 7, 3) := dk_153 0 7 (dk_at dksX4_crossings_1 0 rfl rfl)
theorem dX4_crossings_26 : decode cX4_crossings 26 = .ok (.iconst 1, 1) := dk_4 (dk_at dksX4_crossings_1 3 rfl rfl)
theorem dX4_crossings_27 : decode cX4_crossings 27 = .ok (.goto 4, 3) := dk_167 0 4 (dk_at dksX4_crossings_1 4 rfl rfl)
theorem dX4_crossings_30 : decode cX4_crossings 30 = .ok (.iconst 0, 1) := dk_3 (dk_at dksX4_crossings_1 7 rfl rfl)
theorem dX4_crossings_31 : decode cX4_crossings 31 = .ok (.iadd, 1) := dk_96 (dk_at dksX4_crossings_1 8 rfl rfl)
theorem dX4_crossings_32 : decode cX4_crossings 32 = .ok (.istore_n 2, 1) := dk_61 (dk_at dksX4_crossings_1 9 rfl rfl)
theorem dX4_crossings_33 : decode cX4_crossings 33 = .ok (.iinc 3 1, 3) := dk_132 3 1 (dk_at dksX4_crossings_1 10 rfl rfl)
theorem dX4_crossings_36 : decode cX4_crossings 36 = .ok (.goto (-32), 3) := dk_167 255 224 (dk_at dksX4_crossings_1 13 rfl rfl)
theorem dX4_crossings_39 : decode cX4_crossings 39 = .ok (.iload_n 2, 1) := dk_28 (dk_at dksX4_crossings_1 16 rfl rfl)
theorem dX4_crossings_40 : decode cX4_crossings 40 = .ok (.ireturn, 1) := dk_172 (dk_at dksX4_crossings_1 17 rfl rfl)
abbrev cX4_along : ByteArray := prog_3_method_10_code
def yX4_along : MethodName := ⟨RX4, "along", "(II)I"⟩
def dkwX4_along_2 : List UInt8 := [167, 255, 213, 2, 172]
abbrev dktX4_along_2 : List UInt8 := dkwX4_along_2 ++ []
def dkwX4_along_1 : List UInt8 := [50, 27, 182, 0, 88, 154, 0, 6, 167, 0, 13, 29, 154, 0, 6, 21, 4, 172, 132, 3, 255, 132, 4, 1]
abbrev dktX4_along_1 : List UInt8 := dkwX4_along_1 ++ dktX4_along_2
def dkwX4_along_0 : List UInt8 := [28, 62, 3, 54, 4, 21, 4, 42, 180, 0, 51, 162, 0, 40, 28, 155, 0, 36, 42, 180, 0, 19, 21, 4]
abbrev dktX4_along_0 : List UInt8 := dkwX4_along_0 ++ dktX4_along_1
theorem dksX4_along_0 : cX4_along.data.toList.drop 0 = dktX4_along_0 := by decide +kernel
theorem dksX4_along_1 : cX4_along.data.toList.drop 24 = dktX4_along_1 := dk_seg dksX4_along_0 24 rfl rfl
theorem dksX4_along_2 : cX4_along.data.toList.drop 48 = dktX4_along_2 := dk_seg dksX4_along_1 24 rfl rfl
theorem dX4_along_0 : decode cX4_along 0 = .ok (.iload_n 2, 1) := dk_28 (dk_at dksX4_along_0 0 rfl rfl)
theorem dX4_along_1 : decode cX4_along 1 = .ok (.istore_n 3, 1) := dk_62 (dk_at dksX4_along_0 1 rfl rfl)
theorem dX4_along_2 : decode cX4_along 2 = .ok (.iconst 0, 1) := dk_3 (dk_at dksX4_along_0 2 rfl rfl)
theorem dX4_along_3 : decode cX4_along 3 = .ok (.istore 4, 2) := dk_54 4 (dk_at dksX4_along_0 3 rfl rfl)
theorem dX4_along_5 : decode cX4_along 5 = .ok (.iload 4, 2) := dk_21 4 (dk_at dksX4_along_0 5 rfl rfl)
theorem dX4_along_7 : decode cX4_along 7 = .ok (.aload_n 0, 1) := dk_42 (dk_at dksX4_along_0 7 rfl rfl)
theorem dX4_along_8 : decode cX4_along 8 = .ok (.getfield 51, 3) := dk_180 0 51 (dk_at dksX4_along_0 8 rfl rfl)
theorem dX4_along_11 : decode cX4_along 11 = .ok (.if_icmp .ge 40, 3) := dk_162 0 40 (dk_at dksX4_along_0 11 rfl rfl)
theorem dX4_along_14 : decode cX4_along 14 = .ok (.iload_n 2, 1) := dk_28 (dk_at dksX4_along_0 14 rfl rfl)
theorem dX4_along_15 : decode cX4_along 15 = .ok (.ifCond .lt 36, 3) := dk_155 0 36 (dk_at dksX4_along_0 15 rfl rfl)
theorem dX4_along_18 : decode cX4_along 18 = .ok (.aload_n 0, 1) := dk_42 (dk_at dksX4_along_0 18 rfl rfl)
theorem dX4_along_19 : decode cX4_along 19 = .ok (.getfield 19, 3) := dk_180 0 19 (dk_at dksX4_along_0 19 rfl rfl)
theorem dX4_along_22 : decode cX4_along 22 = .ok (.iload 4, 2) := dk_21 4 (dk_at dksX4_along_0 22 rfl rfl)
theorem dX4_along_24 : decode cX4_along 24 = .ok (.aaload, 1) := dk_50 (dk_at dksX4_along_1 0 rfl rfl)
theorem dX4_along_25 : decode cX4_along 25 = .ok (.iload_n 1, 1) := dk_27 (dk_at dksX4_along_1 1 rfl rfl)
theorem dX4_along_26 : decode cX4_along 26 = .ok (.invokevirtual 88, 3) := dk_182 0 88 (dk_at dksX4_along_1 2 rfl rfl)
theorem dX4_along_29 : decode cX4_along 29 = .ok (.ifCond .ne 6, 3) := dk_154 0 6 (dk_at dksX4_along_1 5 rfl rfl)
theorem dX4_along_32 : decode cX4_along 32 = .ok (.goto 13, 3) := dk_167 0 13 (dk_at dksX4_along_1 8 rfl rfl)
theorem dX4_along_35 : decode cX4_along 35 = .ok (.iload_n 3, 1) := dk_29 (dk_at dksX4_along_1 11 rfl rfl)
theorem dX4_along_36 : decode cX4_along 36 = .ok (.ifCond .ne 6, 3) := dk_154 0 6 (dk_at dksX4_along_1 12 rfl rfl)
theorem dX4_along_39 : decode cX4_along 39 = .ok (.iload 4, 2) := dk_21 4 (dk_at dksX4_along_1 15 rfl rfl)
theorem dX4_along_41 : decode cX4_along 41 = .ok (.ireturn, 1) := dk_172 (dk_at dksX4_along_1 17 rfl rfl)
theorem dX4_along_42 : decode cX4_along 42 = .ok (.iinc 3 (-1), 3) := dk_132 3 255 (dk_at dksX4_along_1 18 rfl rfl)
theorem dX4_along_45 : decode cX4_along 45 = .ok (.iinc 4 1, 3) := dk_132 4 1 (dk_at dksX4_along_1 21 rfl rfl)
theorem dX4_along_48 : decode cX4_along 48 = .ok (.goto (-43), 3) := dk_167 255 213 (dk_at dksX4_along_2 0 rfl rfl)
theorem dX4_along_51 : decode cX4_along 51 = .ok (.iconst (-1), 1) := dk_2 (dk_at dksX4_along_2 3 rfl rfl)
theorem dX4_along_52 : decode cX4_along 52 = .ok (.ireturn, 1) := dk_172 (dk_at dksX4_along_2 4 rfl rfl)
abbrev cX4_follows : ByteArray := prog_3_method_12_code
def yX4_follows : MethodName := ⟨RX4, "follows", "(II)I"⟩
def dkwX4_follows_2 : List UInt8 := [181, 0, 57, 21, 4, 172]
abbrev dktX4_follows_2 : List UInt8 := dkwX4_follows_2 ++ []
def dkwX4_follows_1 : List UInt8 := [180, 0, 19, 29, 50, 27, 182, 0, 109, 54, 4, 42, 29, 182, 0, 113, 42, 89, 180, 0, 57, 21, 4, 96]
abbrev dktX4_follows_1 : List UInt8 := dkwX4_follows_1 ++ dktX4_follows_2
def dkwX4_follows_0 : List UInt8 := [42, 27, 28, 154, 0, 7, 3, 167, 0, 10, 42, 27, 182, 0, 102, 4, 100, 182, 0, 105, 62, 42, 42]
abbrev dktX4_follows_0 : List UInt8 := dkwX4_follows_0 ++ dktX4_follows_1
theorem dksX4_follows_0 : cX4_follows.data.toList.drop 0 = dktX4_follows_0 := by decide +kernel
theorem dksX4_follows_1 : cX4_follows.data.toList.drop 23 = dktX4_follows_1 := dk_seg dksX4_follows_0 23 rfl rfl
theorem dksX4_follows_2 : cX4_follows.data.toList.drop 47 = dktX4_follows_2 := dk_seg dksX4_follows_1 24 rfl rfl
theorem dX4_follows_0 : decode cX4_follows 0 = .ok (.aload_n 0, 1) := dk_42 (dk_at dksX4_follows_0 0 rfl rfl)
theorem dX4_follows_1 : decode cX4_follows 1 = .ok (.iload_n 1, 1) := dk_27 (dk_at dksX4_follows_0 1 rfl rfl)
theorem dX4_follows_2 : decode cX4_follows 2 = .ok (.iload_n 2, 1) := dk_28 (dk_at dksX4_follows_0 2 rfl rfl)
theorem dX4_follows_3 : decode cX4_follows 3 = .ok (.ifCond .ne 7, 3) := dk_154 0 7 (dk_at dksX4_follows_0 3 rfl rfl)
theorem dX4_follows_6 : decode cX4_follows 6 = .ok (.iconst 0, 1) := dk_3 (dk_at dksX4_follows_0 6 rfl rfl)
theorem dX4_follows_7 : decode cX4_follows 7 = .ok (.goto 10, 3) := dk_167 0 10 (dk_at dksX4_follows_0 7 rfl rfl)
theorem dX4_follows_10 : decode cX4_follows 10 = .ok (.aload_n 0, 1) := dk_42 (dk_at dksX4_follows_0 10 rfl rfl)
theorem dX4_follows_11 : decode cX4_follows 11 = .ok (.iload_n 1, 1) := dk_27 (dk_at dksX4_follows_0 11 rfl rfl)
theorem dX4_follows_12 : decode cX4_follows 12 = .ok (.invokevirtual 102, 3) := dk_182 0 102 (dk_at dksX4_follows_0 12 rfl rfl)
theorem dX4_follows_15 : decode cX4_follows 15 = .ok (.iconst 1, 1) := dk_4 (dk_at dksX4_follows_0 15 rfl rfl)
theorem dX4_follows_16 : decode cX4_follows 16 = .ok (.isub, 1) := dk_100 (dk_at dksX4_follows_0 16 rfl rfl)
theorem dX4_follows_17 : decode cX4_follows 17 = .ok (.invokevirtual 105, 3) := dk_182 0 105 (dk_at dksX4_follows_0 17 rfl rfl)
theorem dX4_follows_20 : decode cX4_follows 20 = .ok (.istore_n 3, 1) := dk_62 (dk_at dksX4_follows_0 20 rfl rfl)
theorem dX4_follows_21 : decode cX4_follows 21 = .ok (.aload_n 0, 1) := dk_42 (dk_at dksX4_follows_0 21 rfl rfl)
theorem dX4_follows_22 : decode cX4_follows 22 = .ok (.aload_n 0, 1) := dk_42 (dk_at dksX4_follows_0 22 rfl rfl)
theorem dX4_follows_23 : decode cX4_follows 23 = .ok (.getfield 19, 3) := dk_180 0 19 (dk_at dksX4_follows_1 0 rfl rfl)
theorem dX4_follows_26 : decode cX4_follows 26 = .ok (.iload_n 3, 1) := dk_29 (dk_at dksX4_follows_1 3 rfl rfl)
theorem dX4_follows_27 : decode cX4_follows 27 = .ok (.aaload, 1) := dk_50 (dk_at dksX4_follows_1 4 rfl rfl)
theorem dX4_follows_28 : decode cX4_follows 28 = .ok (.iload_n 1, 1) := dk_27 (dk_at dksX4_follows_1 5 rfl rfl)
theorem dX4_follows_29 : decode cX4_follows 29 = .ok (.invokevirtual 109, 3) := dk_182 0 109 (dk_at dksX4_follows_1 6 rfl rfl)
theorem dX4_follows_32 : decode cX4_follows 32 = .ok (.istore 4, 2) := dk_54 4 (dk_at dksX4_follows_1 9 rfl rfl)
theorem dX4_follows_34 : decode cX4_follows 34 = .ok (.aload_n 0, 1) := dk_42 (dk_at dksX4_follows_1 11 rfl rfl)
theorem dX4_follows_35 : decode cX4_follows 35 = .ok (.iload_n 3, 1) := dk_29 (dk_at dksX4_follows_1 12 rfl rfl)
theorem dX4_follows_36 : decode cX4_follows 36 = .ok (.invokevirtual 113, 3) := dk_182 0 113 (dk_at dksX4_follows_1 13 rfl rfl)
theorem dX4_follows_39 : decode cX4_follows 39 = .ok (.aload_n 0, 1) := dk_42 (dk_at dksX4_follows_1 16 rfl rfl)
theorem dX4_follows_40 : decode cX4_follows 40 = .ok (.dup, 1) := dk_89 (dk_at dksX4_follows_1 17 rfl rfl)
theorem dX4_follows_41 : decode cX4_follows 41 = .ok (.getfield 57, 3) := dk_180 0 57 (dk_at dksX4_follows_1 18 rfl rfl)
theorem dX4_follows_44 : decode cX4_follows 44 = .ok (.iload 4, 2) := dk_21 4 (dk_at dksX4_follows_1 21 rfl rfl)
theorem dX4_follows_46 : decode cX4_follows 46 = .ok (.iadd, 1) := dk_96 (dk_at dksX4_follows_1 23 rfl rfl)
theorem dX4_follows_47 : decode cX4_follows 47 = .ok (.putfield 57, 3) := dk_181 0 57 (dk_at dksX4_follows_2 0 rfl rfl)
theorem dX4_follows_50 : decode cX4_follows 50 = .ok (.iload 4, 2) := dk_21 4 (dk_at dksX4_follows_2 3 rfl rfl)
theorem dX4_follows_52 : decode cX4_follows 52 = .ok (.ireturn, 1) := dk_172 (dk_at dksX4_follows_2 5 rfl rfl)
abbrev cX4_secondsOf : ByteArray := prog_3_method_11_code
def yX4_secondsOf : MethodName := ⟨RX4, "secondsOf", "(LCableDrawer$Crossing;I)I"⟩
def dkwX4_secondsOf_0 : List UInt8 := [43, 182, 0, 92, 42, 180, 0, 11, 43, 28, 182, 0, 95, 50, 180, 0, 99, 96, 172]
abbrev dktX4_secondsOf_0 : List UInt8 := dkwX4_secondsOf_0 ++ []
theorem dksX4_secondsOf_0 : cX4_secondsOf.data.toList.drop 0 = dktX4_secondsOf_0 := by decide +kernel
theorem dX4_secondsOf_0 : decode cX4_secondsOf 0 = .ok (.aload_n 1, 1) := dk_43 (dk_at dksX4_secondsOf_0 0 rfl rfl)
theorem dX4_secondsOf_1 : decode cX4_secondsOf 1 = .ok (.invokevirtual 92, 3) := dk_182 0 92 (dk_at dksX4_secondsOf_0 1 rfl rfl)
theorem dX4_secondsOf_4 : decode cX4_secondsOf 4 = .ok (.aload_n 0, 1) := dk_42 (dk_at dksX4_secondsOf_0 4 rfl rfl)
theorem dX4_secondsOf_5 : decode cX4_secondsOf 5 = .ok (.getfield 11, 3) := dk_180 0 11 (dk_at dksX4_secondsOf_0 5 rfl rfl)
theorem dX4_secondsOf_8 : decode cX4_secondsOf 8 = .ok (.aload_n 1, 1) := dk_43 (dk_at dksX4_secondsOf_0 8 rfl rfl)
theorem dX4_secondsOf_9 : decode cX4_secondsOf 9 = .ok (.iload_n 2, 1) := dk_28 (dk_at dksX4_secondsOf_0 9 rfl rfl)
theorem dX4_secondsOf_10 : decode cX4_secondsOf 10 = .ok (.invokevirtual 95, 3) := dk_182 0 95 (dk_at dksX4_secondsOf_0 10 rfl rfl)
theorem dX4_secondsOf_13 : decode cX4_secondsOf 13 = .ok (.aaload, 1) := dk_50 (dk_at dksX4_secondsOf_0 13 rfl rfl)
theorem dX4_secondsOf_14 : decode cX4_secondsOf 14 = .ok (.getfield 99, 3) := dk_180 0 99 (dk_at dksX4_secondsOf_0 14 rfl rfl)
theorem dX4_secondsOf_17 : decode cX4_secondsOf 17 = .ok (.iadd, 1) := dk_96 (dk_at dksX4_secondsOf_0 17 rfl rfl)
theorem dX4_secondsOf_18 : decode cX4_secondsOf 18 = .ok (.ireturn, 1) := dk_172 (dk_at dksX4_secondsOf_0 18 rfl rfl)
abbrev cX4_drops : ByteArray := prog_3_method_8_code
def yX4_drops : MethodName := ⟨RX4, "drops", "(I)V"⟩
def dkwX4_drops_1 : List UInt8 := [28, 42, 180, 0, 19, 28, 4, 96, 50, 83, 132, 2, 1, 167, 255, 231, 177]
abbrev dktX4_drops_1 : List UInt8 := dkwX4_drops_1 ++ []
def dkwX4_drops_0 : List UInt8 := [42, 89, 180, 0, 51, 4, 100, 181, 0, 51, 27, 61, 28, 42, 180, 0, 51, 162, 0, 23, 42, 180, 0, 19]
abbrev dktX4_drops_0 : List UInt8 := dkwX4_drops_0 ++ dktX4_drops_1
theorem dksX4_drops_0 : cX4_drops.data.toList.drop 0 = dktX4_drops_0 := by decide +kernel
theorem dksX4_drops_1 : cX4_drops.data.toList.drop 24 = dktX4_drops_1 := dk_seg dksX4_drops_0 24 rfl rfl
theorem dX4_drops_0 : decode cX4_drops 0 = .ok (.aload_n 0, 1) := dk_42 (dk_at dksX4_drops_0 0 rfl rfl)
theorem dX4_drops_1 : decode cX4_drops 1 = .ok (.dup, 1) := dk_89 (dk_at dksX4_drops_0 1 rfl rfl)
theorem dX4_drops_2 : decode cX4_drops 2 = .ok (.getfield 51, 3) := dk_180 0 51 (dk_at dksX4_drops_0 2 rfl rfl)
theorem dX4_drops_5 : decode cX4_drops 5 = .ok (.iconst 1, 1) := dk_4 (dk_at dksX4_drops_0 5 rfl rfl)
theorem dX4_drops_6 : decode cX4_drops 6 = .ok (.isub, 1) := dk_100 (dk_at dksX4_drops_0 6 rfl rfl)
theorem dX4_drops_7 : decode cX4_drops 7 = .ok (.putfield 51, 3) := dk_181 0 51 (dk_at dksX4_drops_0 7 rfl rfl)
theorem dX4_drops_10 : decode cX4_drops 10 = .ok (.iload_n 1, 1) := dk_27 (dk_at dksX4_drops_0 10 rfl rfl)
theorem dX4_drops_11 : decode cX4_drops 11 = .ok (.istore_n 2, 1) := dk_61 (dk_at dksX4_drops_0 11 rfl rfl)
theorem dX4_drops_12 : decode cX4_drops 12 = .ok (.iload_n 2, 1) := dk_28 (dk_at dksX4_drops_0 12 rfl rfl)
theorem dX4_drops_13 : decode cX4_drops 13 = .ok (.aload_n 0, 1) := dk_42 (dk_at dksX4_drops_0 13 rfl rfl)
theorem dX4_drops_14 : decode cX4_drops 14 = .ok (.getfield 51, 3) := dk_180 0 51 (dk_at dksX4_drops_0 14 rfl rfl)
theorem dX4_drops_17 : decode cX4_drops 17 = .ok (.if_icmp .ge 23, 3) := dk_162 0 23 (dk_at dksX4_drops_0 17 rfl rfl)
theorem dX4_drops_20 : decode cX4_drops 20 = .ok (.aload_n 0, 1) := dk_42 (dk_at dksX4_drops_0 20 rfl rfl)
theorem dX4_drops_21 : decode cX4_drops 21 = .ok (.getfield 19, 3) := dk_180 0 19 (dk_at dksX4_drops_0 21 rfl rfl)
theorem dX4_drops_24 : decode cX4_drops 24 = .ok (.iload_n 2, 1) := dk_28 (dk_at dksX4_drops_1 0 rfl rfl)
theorem dX4_drops_25 : decode cX4_drops 25 = .ok (.aload_n 0, 1) := dk_42 (dk_at dksX4_drops_1 1 rfl rfl)
theorem dX4_drops_26 : decode cX4_drops 26 = .ok (.getfield 19, 3) := dk_180 0 19 (dk_at dksX4_drops_1 2 rfl rfl)
theorem dX4_drops_29 : decode cX4_drops 29 = .ok (.iload_n 2, 1) := dk_28 (dk_at dksX4_drops_1 5 rfl rfl)
theorem dX4_drops_30 : decode cX4_drops 30 = .ok (.iconst 1, 1) := dk_4 (dk_at dksX4_drops_1 6 rfl rfl)
theorem dX4_drops_31 : decode cX4_drops 31 = .ok (.iadd, 1) := dk_96 (dk_at dksX4_drops_1 7 rfl rfl)
theorem dX4_drops_32 : decode cX4_drops 32 = .ok (.aaload, 1) := dk_50 (dk_at dksX4_drops_1 8 rfl rfl)
theorem dX4_drops_33 : decode cX4_drops 33 = .ok (.aastore, 1) := dk_83 (dk_at dksX4_drops_1 9 rfl rfl)
theorem dX4_drops_34 : decode cX4_drops 34 = .ok (.iinc 2 1, 3) := dk_132 2 1 (dk_at dksX4_drops_1 10 rfl rfl)
theorem dX4_drops_37 : decode cX4_drops 37 = .ok (.goto (-25), 3) := dk_167 255 231 (dk_at dksX4_drops_1 13 rfl rfl)
theorem dX4_drops_40 : decode cX4_drops 40 = .ok (.return_, 1) := dk_177 (dk_at dksX4_drops_1 16 rfl rfl)
abbrev cX4_loosens : ByteArray := prog_3_method_13_code
def yX4_loosens : MethodName := ⟨RX4, "loosens", "()I"⟩
def dkwX4_loosens_2 : List UInt8 := [96, 181, 0, 57, 27, 172]
abbrev dktX4_loosens_2 : List UInt8 := dkwX4_loosens_2 ++ []
def dkwX4_loosens_1 : List UInt8 := [42, 180, 0, 19, 28, 50, 182, 0, 117, 182, 0, 120, 132, 2, 1, 167, 255, 229, 42, 89, 180, 0, 57, 27]
abbrev dktX4_loosens_1 : List UInt8 := dkwX4_loosens_1 ++ dktX4_loosens_2
def dkwX4_loosens_0 : List UInt8 := [42, 180, 0, 51, 60, 42, 3, 181, 0, 51, 3, 61, 28, 27, 162, 0, 28, 42, 42, 180, 0, 19, 28, 50]
abbrev dktX4_loosens_0 : List UInt8 := dkwX4_loosens_0 ++ dktX4_loosens_1
theorem dksX4_loosens_0 : cX4_loosens.data.toList.drop 0 = dktX4_loosens_0 := by decide +kernel
theorem dksX4_loosens_1 : cX4_loosens.data.toList.drop 24 = dktX4_loosens_1 := dk_seg dksX4_loosens_0 24 rfl rfl
theorem dksX4_loosens_2 : cX4_loosens.data.toList.drop 48 = dktX4_loosens_2 := dk_seg dksX4_loosens_1 24 rfl rfl
theorem dX4_loosens_0 : decode cX4_loosens 0 = .ok (.aload_n 0, 1) := dk_42 (dk_at dksX4_loosens_0 0 rfl rfl)
theorem dX4_loosens_1 : decode cX4_loosens 1 = .ok (.getfield 51, 3) := dk_180 0 51 (dk_at dksX4_loosens_0 1 rfl rfl)
theorem dX4_loosens_4 : decode cX4_loosens 4 = .ok (.istore_n 1, 1) := dk_60 (dk_at dksX4_loosens_0 4 rfl rfl)
theorem dX4_loosens_5 : decode cX4_loosens 5 = .ok (.aload_n 0, 1) := dk_42 (dk_at dksX4_loosens_0 5 rfl rfl)
theorem dX4_loosens_6 : decode cX4_loosens 6 = .ok (.iconst 0, 1) := dk_3 (dk_at dksX4_loosens_0 6 rfl rfl)
theorem dX4_loosens_7 : decode cX4_loosens 7 = .ok (.putfield 51, 3) := dk_181 0 51 (dk_at dksX4_loosens_0 7 rfl rfl)
theorem dX4_loosens_10 : decode cX4_loosens 10 = .ok (.iconst 0, 1) := dk_3 (dk_at dksX4_loosens_0 10 rfl rfl)
theorem dX4_loosens_11 : decode cX4_loosens 11 = .ok (.istore_n 2, 1) := dk_61 (dk_at dksX4_loosens_0 11 rfl rfl)
theorem dX4_loosens_12 : decode cX4_loosens 12 = .ok (.iload_n 2, 1) := dk_28 (dk_at dksX4_loosens_0 12 rfl rfl)
theorem dX4_loosens_13 : decode cX4_loosens 13 = .ok (.iload_n 1, 1) := dk_27 (dk_at dksX4_loosens_0 13 rfl rfl)
theorem dX4_loosens_14 : decode cX4_loosens 14 = .ok (.if_icmp .ge 28, 3) := dk_162 0 28 (dk_at dksX4_loosens_0 14 rfl rfl)
theorem dX4_loosens_17 : decode cX4_loosens 17 = .ok (.aload_n 0, 1) := dk_42 (dk_at dksX4_loosens_0 17 rfl rfl)
theorem dX4_loosens_18 : decode cX4_loosens 18 = .ok (.aload_n 0, 1) := dk_42 (dk_at dksX4_loosens_0 18 rfl rfl)
theorem dX4_loosens_19 : decode cX4_loosens 19 = .ok (.getfield 19, 3) := dk_180 0 19 (dk_at dksX4_loosens_0 19 rfl rfl)
theorem dX4_loosens_22 : decode cX4_loosens 22 = .ok (.iload_n 2, 1) := dk_28 (dk_at dksX4_loosens_0 22 rfl rfl)
theorem dX4_loosens_23 : decode cX4_loosens 23 = .ok (.aaload, 1) := dk_50 (dk_at dksX4_loosens_0 23 rfl rfl)
theorem dX4_loosens_24 : decode cX4_loosens 24 = .ok (.aload_n 0, 1) := dk_42 (dk_at dksX4_loosens_1 0 rfl rfl)
theorem dX4_loosens_25 : decode cX4_loosens 25 = .ok (.getfield 19, 3) := dk_180 0 19 (dk_at dksX4_loosens_1 1 rfl rfl)
theorem dX4_loosens_28 : decode cX4_loosens 28 = .ok (.iload_n 2, 1) := dk_28 (dk_at dksX4_loosens_1 4 rfl rfl)
theorem dX4_loosens_29 : decode cX4_loosens 29 = .ok (.aaload, 1) := dk_50 (dk_at dksX4_loosens_1 5 rfl rfl)
theorem dX4_loosens_30 : decode cX4_loosens 30 = .ok (.invokevirtual 117, 3) := dk_182 0 117 (dk_at dksX4_loosens_1 6 rfl rfl)
theorem dX4_loosens_33 : decode cX4_loosens 33 = .ok (.invokevirtual 120, 3) := dk_182 0 120 (dk_at dksX4_loosens_1 9 rfl rfl)
theorem dX4_loosens_36 : decode cX4_loosens 36 = .ok (.iinc 2 1, 3) := dk_132 2 1 (dk_at dksX4_loosens_1 12 rfl rfl)
theorem dX4_loosens_39 : decode cX4_loosens 39 = .ok (.goto (-27), 3) := dk_167 255 229 (dk_at dksX4_loosens_1 15 rfl rfl)
theorem dX4_loosens_42 : decode cX4_loosens 42 = .ok (.aload_n 0, 1) := dk_42 (dk_at dksX4_loosens_1 18 rfl rfl)
theorem dX4_loosens_43 : decode cX4_loosens 43 = .ok (.dup, 1) := dk_89 (dk_at dksX4_loosens_1 19 rfl rfl)
theorem dX4_loosens_44 : decode cX4_loosens 44 = .ok (.getfield 57, 3) := dk_180 0 57 (dk_at dksX4_loosens_1 20 rfl rfl)
theorem dX4_loosens_47 : decode cX4_loosens 47 = .ok (.iload_n 1, 1) := dk_27 (dk_at dksX4_loosens_1 23 rfl rfl)
theorem dX4_loosens_48 : decode cX4_loosens 48 = .ok (.iadd, 1) := dk_96 (dk_at dksX4_loosens_2 0 rfl rfl)
theorem dX4_loosens_49 : decode cX4_loosens 49 = .ok (.putfield 57, 3) := dk_181 0 57 (dk_at dksX4_loosens_2 1 rfl rfl)
theorem dX4_loosens_52 : decode cX4_loosens 52 = .ok (.iload_n 1, 1) := dk_27 (dk_at dksX4_loosens_2 4 rfl rfl)
theorem dX4_loosens_53 : decode cX4_loosens 53 = .ok (.ireturn, 1) := dk_172 (dk_at dksX4_loosens_2 5 rfl rfl)
abbrev cX4_stays : ByteArray := prog_3_method_7_code
def yX4_stays : MethodName := ⟨RX4, "stays", "(LCableDrawer$Crossing;I)V"⟩
def dkwX4_stays_0 : List UInt8 := [28, 2, 159, 0, 16, 42, 43, 180, 0, 78, 43, 180, 0, 81, 28, 182, 0, 84, 177]
abbrev dktX4_stays_0 : List UInt8 := dkwX4_stays_0 ++ []
theorem dksX4_stays_0 : cX4_stays.data.toList.drop 0 = dktX4_stays_0 := by decide +kernel
theorem dX4_stays_0 : decode cX4_stays 0 = .ok (.iload_n 2, 1) := dk_28 (dk_at dksX4_stays_0 0 rfl rfl)
theorem dX4_stays_1 : decode cX4_stays 1 = .ok (.iconst (-1), 1) := dk_2 (dk_at dksX4_stays_0 1 rfl rfl)
theorem dX4_stays_2 : decode cX4_stays 2 = .ok (.if_icmp .eq 16, 3) := dk_159 0 16 (dk_at dksX4_stays_0 2 rfl rfl)
theorem dX4_stays_5 : decode cX4_stays 5 = .ok (.aload_n 0, 1) := dk_42 (dk_at dksX4_stays_0 5 rfl rfl)
theorem dX4_stays_6 : decode cX4_stays 6 = .ok (.aload_n 1, 1) := dk_43 (dk_at dksX4_stays_0 6 rfl rfl)
theorem dX4_stays_7 : decode cX4_stays 7 = .ok (.getfield 78, 3) := dk_180 0 78 (dk_at dksX4_stays_0 7 rfl rfl)
theorem dX4_stays_10 : decode cX4_stays 10 = .ok (.aload_n 1, 1) := dk_43 (dk_at dksX4_stays_0 10 rfl rfl)
theorem dX4_stays_11 : decode cX4_stays 11 = .ok (.getfield 81, 3) := dk_180 0 81 (dk_at dksX4_stays_0 11 rfl rfl)
theorem dX4_stays_14 : decode cX4_stays 14 = .ok (.iload_n 2, 1) := dk_28 (dk_at dksX4_stays_0 14 rfl rfl)
theorem dX4_stays_15 : decode cX4_stays 15 = .ok (.invokevirtual 84, 3) := dk_182 0 84 (dk_at dksX4_stays_0 15 rfl rfl)
theorem dX4_stays_18 : decode cX4_stays 18 = .ok (.return_, 1) := dk_177 (dk_at dksX4_stays_0 18 rfl rfl)
abbrev cX4_pulls : ByteArray := prog_3_method_17_code
def yX4_pulls : MethodName := ⟨RX4, "pulls", "(I)I"⟩
def dkwX4_pulls_3 : List UInt8 := [180, 0, 19, 21, 4, 50, 182, 0, 134, 182, 0, 120, 132, 4, 1, 167, 255, 199, 28, 184, 0, 137, 172]
abbrev dktX4_pulls_3 : List UInt8 := dkwX4_pulls_3 ++ []
def dkwX4_pulls_2 : List UInt8 := [21, 4, 50, 27, 182, 0, 88, 153, 0, 16, 42, 180, 0, 19, 21, 4, 50, 182, 0, 131, 167, 0, 13, 42]
abbrev dktX4_pulls_2 : List UInt8 := dkwX4_pulls_2 ++ dktX4_pulls_3
def dkwX4_pulls_1 : List UInt8 := [181, 0, 51, 3, 54, 4, 21, 4, 29, 162, 0, 57, 42, 42, 180, 0, 19, 21, 4, 50, 42, 180, 0, 19]
abbrev dktX4_pulls_1 : List UInt8 := dkwX4_pulls_1 ++ dktX4_pulls_2
def dkwX4_pulls_0 : List UInt8 := [42, 27, 182, 0, 128, 61, 42, 180, 0, 51, 62, 42, 89, 180, 0, 57, 5, 96, 181, 0, 57, 42, 3]
abbrev dktX4_pulls_0 : List UInt8 := dkwX4_pulls_0 ++ dktX4_pulls_1
theorem dksX4_pulls_0 : cX4_pulls.data.toList.drop 0 = dktX4_pulls_0 := by decide +kernel
theorem dksX4_pulls_1 : cX4_pulls.data.toList.drop 23 = dktX4_pulls_1 := dk_seg dksX4_pulls_0 23 rfl rfl
theorem dksX4_pulls_2 : cX4_pulls.data.toList.drop 47 = dktX4_pulls_2 := dk_seg dksX4_pulls_1 24 rfl rfl
theorem dksX4_pulls_3 : cX4_pulls.data.toList.drop 71 = dktX4_pulls_3 := dk_seg dksX4_pulls_2 24 rfl rfl
theorem dX4_pulls_0 : decode cX4_pulls 0 = .ok (.aload_n 0, 1) := dk_42 (dk_at dksX4_pulls_0 0 rfl rfl)
theorem dX4_pulls_1 : decode cX4_pulls 1 = .ok (.iload_n 1, 1) := dk_27 (dk_at dksX4_pulls_0 1 rfl rfl)
theorem dX4_pulls_2 : decode cX4_pulls 2 = .ok (.invokevirtual 128, 3) := dk_182 0 128 (dk_at dksX4_pulls_0 2 rfl rfl)
theorem dX4_pulls_5 : decode cX4_pulls 5 = .ok (.istore_n 2, 1) := dk_61 (dk_at dksX4_pulls_0 5 rfl rfl)
theorem dX4_pulls_6 : decode cX4_pulls 6 = .ok (.aload_n 0, 1) := dk_42 (dk_at dksX4_pulls_0 6 rfl rfl)
theorem dX4_pulls_7 : decode cX4_pulls 7 = .ok (.getfield 51, 3) := dk_180 0 51 (dk_at dksX4_pulls_0 7 rfl rfl)
theorem dX4_pulls_10 : decode cX4_pulls 10 = .ok (.istore_n 3, 1) := dk_62 (dk_at dksX4_pulls_0 10 rfl rfl)
theorem dX4_pulls_11 : decode cX4_pulls 11 = .ok (.aload_n 0, 1) := dk_42 (dk_at dksX4_pulls_0 11 rfl rfl)
theorem dX4_pulls_12 : decode cX4_pulls 12 = .ok (.dup, 1) := dk_89 (dk_at dksX4_pulls_0 12 rfl rfl)
theorem dX4_pulls_13 : decode cX4_pulls 13 = .ok (.getfield 57, 3) := dk_180 0 57 (dk_at dksX4_pulls_0 13 rfl rfl)
theorem dX4_pulls_16 : decode cX4_pulls 16 = .ok (.iconst 2, 1) := dk_5 (dk_at dksX4_pulls_0 16 rfl rfl)
theorem dX4_pulls_17 : decode cX4_pulls 17 = .ok (.iadd, 1) := dk_96 (dk_at dksX4_pulls_0 17 rfl rfl)
theorem dX4_pulls_18 : decode cX4_pulls 18 = .ok (.putfield 57, 3) := dk_181 0 57 (dk_at dksX4_pulls_0 18 rfl rfl)
theorem dX4_pulls_21 : decode cX4_pulls 21 = .ok (.aload_n 0, 1) := dk_42 (dk_at dksX4_pulls_0 21 rfl rfl)
theorem dX4_pulls_22 : decode cX4_pulls 22 = .ok (.iconst 0, 1) := dk_3 (dk_at dksX4_pulls_0 22 rfl rfl)
theorem dX4_pulls_23 : decode cX4_pulls 23 = .ok (.putfield 51, 3) := dk_181 0 51 (dk_at dksX4_pulls_1 0 rfl rfl)
theorem dX4_pulls_26 : decode cX4_pulls 26 = .ok (.iconst 0, 1) := dk_3 (dk_at dksX4_pulls_1 3 rfl rfl)
theorem dX4_pulls_27 : decode cX4_pulls 27 = .ok (.istore 4, 2) := dk_54 4 (dk_at dksX4_pulls_1 4 rfl rfl)
theorem dX4_pulls_29 : decode cX4_pulls 29 = .ok (.iload 4, 2) := dk_21 4 (dk_at dksX4_pulls_1 6 rfl rfl)
theorem dX4_pulls_31 : decode cX4_pulls 31 = .ok (.iload_n 3, 1) := dk_29 (dk_at dksX4_pulls_1 8 rfl rfl)
theorem dX4_pulls_32 : decode cX4_pulls 32 = .ok (.if_icmp .ge 57, 3) := dk_162 0 57 (dk_at dksX4_pulls_1 9 rfl rfl)
theorem dX4_pulls_35 : decode cX4_pulls 35 = .ok (.aload_n 0, 1) := dk_42 (dk_at dksX4_pulls_1 12 rfl rfl)
theorem dX4_pulls_36 : decode cX4_pulls 36 = .ok (.aload_n 0, 1) := dk_42 (dk_at dksX4_pulls_1 13 rfl rfl)
theorem dX4_pulls_37 : decode cX4_pulls 37 = .ok (.getfield 19, 3) := dk_180 0 19 (dk_at dksX4_pulls_1 14 rfl rfl)
theorem dX4_pulls_40 : decode cX4_pulls 40 = .ok (.iload 4, 2) := dk_21 4 (dk_at dksX4_pulls_1 17 rfl rfl)
theorem dX4_pulls_42 : decode cX4_pulls 42 = .ok (.aaload, 1) := dk_50 (dk_at dksX4_pulls_1 19 rfl rfl)
theorem dX4_pulls_43 : decode cX4_pulls 43 = .ok (.aload_n 0, 1) := dk_42 (dk_at dksX4_pulls_1 20 rfl rfl)
theorem dX4_pulls_44 : decode cX4_pulls 44 = .ok (.getfield 19, 3) := dk_180 0 19 (dk_at dksX4_pulls_1 21 rfl rfl)
theorem dX4_pulls_47 : decode cX4_pulls 47 = .ok (.iload 4, 2) := dk_21 4 (dk_at dksX4_pulls_2 0 rfl rfl)
theorem dX4_pulls_49 : decode cX4_pulls 49 = .ok (.aaload, 1) := dk_50 (dk_at dksX4_pulls_2 2 rfl rfl)
theorem dX4_pulls_50 : decode cX4_pulls 50 = .ok (.iload_n 1, 1) := dk_27 (dk_at dksX4_pulls_2 3 rfl rfl)
theorem dX4_pulls_51 : decode cX4_pulls 51 = .ok (.invokevirtual 88, 3) := dk_182 0 88 (dk_at dksX4_pulls_2 4 rfl rfl)
theorem dX4_pulls_54 : decode cX4_pulls 54 = .ok (.ifCond .eq 16, 3) := dk_153 0 16 (dk_at dksX4_pulls_2 7 rfl rfl)
theorem dX4_pulls_57 : decode cX4_pulls 57 = .ok (.aload_n 0, 1) := dk_42 (dk_at dksX4_pulls_2 10 rfl rfl)
theorem dX4_pulls_58 : decode cX4_pulls 58 = .ok (.getfield 19, 3) := dk_180 0 19 (dk_at dksX4_pulls_2 11 rfl rfl)
theorem dX4_pulls_61 : decode cX4_pulls 61 = .ok (.iload 4, 2) := dk_21 4 (dk_at dksX4_pulls_2 14 rfl rfl)
theorem dX4_pulls_63 : decode cX4_pulls 63 = .ok (.aaload, 1) := dk_50 (dk_at dksX4_pulls_2 16 rfl rfl)
theorem dX4_pulls_64 : decode cX4_pulls 64 = .ok (.invokevirtual 131, 3) := dk_182 0 131 (dk_at dksX4_pulls_2 17 rfl rfl)
theorem dX4_pulls_67 : decode cX4_pulls 67 = .ok (.goto 13, 3) := dk_167 0 13 (dk_at dksX4_pulls_2 20 rfl rfl)
theorem dX4_pulls_70 : decode cX4_pulls 70 = .ok (.aload_n 0, 1) := dk_42 (dk_at dksX4_pulls_2 23 rfl rfl)
theorem dX4_pulls_71 : decode cX4_pulls 71 = .ok (.getfield 19, 3) := dk_180 0 19 (dk_at dksX4_pulls_3 0 rfl rfl)
theorem dX4_pulls_74 : decode cX4_pulls 74 = .ok (.iload 4, 2) := dk_21 4 (dk_at dksX4_pulls_3 3 rfl rfl)
theorem dX4_pulls_76 : decode cX4_pulls 76 = .ok (.aaload, 1) := dk_50 (dk_at dksX4_pulls_3 5 rfl rfl)
theorem dX4_pulls_77 : decode cX4_pulls 77 = .ok (.invokevirtual 134, 3) := dk_182 0 134 (dk_at dksX4_pulls_3 6 rfl rfl)
theorem dX4_pulls_80 : decode cX4_pulls 80 = .ok (.invokevirtual 120, 3) := dk_182 0 120 (dk_at dksX4_pulls_3 9 rfl rfl)
theorem dX4_pulls_83 : decode cX4_pulls 83 = .ok (.iinc 4 1, 3) := dk_132 4 1 (dk_at dksX4_pulls_3 12 rfl rfl)
theorem dX4_pulls_86 : decode cX4_pulls 86 = .ok (.goto (-57), 3) := dk_167 255 199 (dk_at dksX4_pulls_3 15 rfl rfl)
theorem dX4_pulls_89 : decode cX4_pulls 89 = .ok (.iload_n 2, 1) := dk_28 (dk_at dksX4_pulls_3 18 rfl rfl)
theorem dX4_pulls_90 : decode cX4_pulls 90 = .ok (.invokestatic 137, 3) := dk_184 0 137 (dk_at dksX4_pulls_3 19 rfl rfl)
theorem dX4_pulls_93 : decode cX4_pulls 93 = .ok (.ireturn, 1) := dk_172 (dk_at dksX4_pulls_3 22 rfl rfl)
abbrev cX4_lump : ByteArray := prog_3_method_14_code
def yX4_lump : MethodName := ⟨RX4, "lump", "(I)I"⟩
def dkwX4_lump_4 : List UInt8 := [61, 132, 4, 1, 167, 255, 172, 132, 3, 1, 167, 255, 157, 28, 172]
abbrev dktX4_lump_4 : List UInt8 := dkwX4_lump_4 ++ []
def dkwX4_lump_3 : List UInt8 := [180, 0, 19, 21, 4, 50, 180, 0, 78, 120, 4, 42, 180, 0, 19, 21, 4, 50, 180, 0, 81, 120, 128, 128]
abbrev dktX4_lump_3 : List UInt8 := dkwX4_lump_3 ++ dktX4_lump_4
def dkwX4_lump_2 : List UInt8 := [122, 28, 42, 180, 0, 19, 21, 4, 50, 180, 0, 81, 122, 128, 4, 126, 4, 160, 0, 31, 28, 4, 42]
abbrev dktX4_lump_2 : List UInt8 := dkwX4_lump_2 ++ dktX4_lump_3
def dkwX4_lump_1 : List UInt8 := [42, 180, 0, 19, 21, 4, 50, 182, 0, 124, 153, 0, 62, 28, 42, 180, 0, 19, 21, 4, 50, 180, 0, 78]
abbrev dktX4_lump_1 : List UInt8 := dkwX4_lump_1 ++ dktX4_lump_2
def dkwX4_lump_0 : List UInt8 := [4, 27, 120, 61, 3, 62, 29, 16, 8, 162, 0, 99, 3, 54, 4, 21, 4, 42, 180, 0, 51, 162, 0, 81]
abbrev dktX4_lump_0 : List UInt8 := dkwX4_lump_0 ++ dktX4_lump_1
theorem dksX4_lump_0 : cX4_lump.data.toList.drop 0 = dktX4_lump_0 := by decide +kernel
theorem dksX4_lump_1 : cX4_lump.data.toList.drop 24 = dktX4_lump_1 := dk_seg dksX4_lump_0 24 rfl rfl
theorem dksX4_lump_2 : cX4_lump.data.toList.drop 48 = dktX4_lump_2 := dk_seg dksX4_lump_1 24 rfl rfl
theorem dksX4_lump_3 : cX4_lump.data.toList.drop 71 = dktX4_lump_3 := dk_seg dksX4_lump_2 23 rfl rfl
theorem dksX4_lump_4 : cX4_lump.data.toList.drop 95 = dktX4_lump_4 := dk_seg dksX4_lump_3 24 rfl rfl
theorem dX4_lump_0 : decode cX4_lump 0 = .ok (.iconst 1, 1) := dk_4 (dk_at dksX4_lump_0 0 rfl rfl)
theorem dX4_lump_1 : decode cX4_lump 1 = .ok (.iload_n 1, 1) := dk_27 (dk_at dksX4_lump_0 1 rfl rfl)
theorem dX4_lump_2 : decode cX4_lump 2 = .ok (.ishl, 1) := dk_120 (dk_at dksX4_lump_0 2 rfl rfl)
theorem dX4_lump_3 : decode cX4_lump 3 = .ok (.istore_n 2, 1) := dk_61 (dk_at dksX4_lump_0 3 rfl rfl)
theorem dX4_lump_4 : decode cX4_lump 4 = .ok (.iconst 0, 1) := dk_3 (dk_at dksX4_lump_0 4 rfl rfl)
theorem dX4_lump_5 : decode cX4_lump 5 = .ok (.istore_n 3, 1) := dk_62 (dk_at dksX4_lump_0 5 rfl rfl)
theorem dX4_lump_6 : decode cX4_lump 6 = .ok (.iload_n 3, 1) := dk_29 (dk_at dksX4_lump_0 6 rfl rfl)
theorem dX4_lump_7 : decode cX4_lump 7 = .ok (.bipush 8, 2) := dk_16 8 (dk_at dksX4_lump_0 7 rfl rfl)
theorem dX4_lump_9 : decode cX4_lump 9 = .ok (.if_icmp .ge 99, 3) := dk_162 0 99 (dk_at dksX4_lump_0 9 rfl rfl)
theorem dX4_lump_12 : decode cX4_lump 12 = .ok (.iconst 0, 1) := dk_3 (dk_at dksX4_lump_0 12 rfl rfl)
theorem dX4_lump_13 : decode cX4_lump 13 = .ok (.istore 4, 2) := dk_54 4 (dk_at dksX4_lump_0 13 rfl rfl)
theorem dX4_lump_15 : decode cX4_lump 15 = .ok (.iload 4, 2) := dk_21 4 (dk_at dksX4_lump_0 15 rfl rfl)
theorem dX4_lump_17 : decode cX4_lump 17 = .ok (.aload_n 0, 1) := dk_42 (dk_at dksX4_lump_0 17 rfl rfl)
theorem dX4_lump_18 : decode cX4_lump 18 = .ok (.getfield 51, 3) := dk_180 0 51 (dk_at dksX4_lump_0 18 rfl rfl)
theorem dX4_lump_21 : decode cX4_lump 21 = .ok (.if_icmp .ge 81, 3) := dk_162 0 81 (dk_at dksX4_lump_0 21 rfl rfl)
theorem dX4_lump_24 : decode cX4_lump 24 = .ok (.aload_n 0, 1) := dk_42 (dk_at dksX4_lump_1 0 rfl rfl)
theorem dX4_lump_25 : decode cX4_lump 25 = .ok (.getfield 19, 3) := dk_180 0 19 (dk_at dksX4_lump_1 1 rfl rfl)
theorem dX4_lump_28 : decode cX4_lump 28 = .ok (.iload 4, 2) := dk_21 4 (dk_at dksX4_lump_1 4 rfl rfl)
theorem dX4_lump_30 : decode cX4_lump 30 = .ok (.aaload, 1) := dk_50 (dk_at dksX4_lump_1 6 rfl rfl)
theorem dX4_lump_31 : decode cX4_lump 31 = .ok (.invokevirtual 124, 3) := dk_182 0 124 (dk_at dksX4_lump_1 7 rfl rfl)
theorem dX4_lump_34 : decode cX4_lump 34 = .ok (.ifCond .eq 62, 3) := dk_153 0 62 (dk_at dksX4_lump_1 10 rfl rfl)
theorem dX4_lump_37 : decode cX4_lump 37 = .ok (.iload_n 2, 1) := dk_28 (dk_at dksX4_lump_1 13 rfl rfl)
theorem dX4_lump_38 : decode cX4_lump 38 = .ok (.aload_n 0, 1) := dk_42 (dk_at dksX4_lump_1 14 rfl rfl)
theorem dX4_lump_39 : decode cX4_lump 39 = .ok (.getfield 19, 3) := dk_180 0 19 (dk_at dksX4_lump_1 15 rfl rfl)
theorem dX4_lump_42 : decode cX4_lump 42 = .ok (.iload 4, 2) := dk_21 4 (dk_at dksX4_lump_1 18 rfl rfl)
theorem dX4_lump_44 : decode cX4_lump 44 = .ok (.aaload, 1) := dk_50 (dk_at dksX4_lump_1 20 rfl rfl)
theorem dX4_lump_45 : decode cX4_lump 45 = .ok (.getfield 78, 3) := dk_180 0 78 (dk_at dksX4_lump_1 21 rfl rfl)
theorem dX4_lump_48 : decode cX4_lump 48 = .ok (.ishr, 1) := dk_122 (dk_at dksX4_lump_2 0 rfl rfl)
theorem dX4_lump_49 : decode cX4_lump 49 = .ok (.iload_n 2, 1) := dk_28 (dk_at dksX4_lump_2 1 rfl rfl)
theorem dX4_lump_50 : decode cX4_lump 50 = .ok (.aload_n 0, 1) := dk_42 (dk_at dksX4_lump_2 2 rfl rfl)
theorem dX4_lump_51 : decode cX4_lump 51 = .ok (.getfield 19, 3) := dk_180 0 19 (dk_at dksX4_lump_2 3 rfl rfl)
theorem dX4_lump_54 : decode cX4_lump 54 = .ok (.iload 4, 2) := dk_21 4 (dk_at dksX4_lump_2 6 rfl rfl)
theorem dX4_lump_56 : decode cX4_lump 56 = .ok (.aaload, 1) := dk_50 (dk_at dksX4_lump_2 8 rfl rfl)
theorem dX4_lump_57 : decode cX4_lump 57 = .ok (.getfield 81, 3) := dk_180 0 81 (dk_at dksX4_lump_2 9 rfl rfl)
theorem dX4_lump_60 : decode cX4_lump 60 = .ok (.ishr, 1) := dk_122 (dk_at dksX4_lump_2 12 rfl rfl)
theorem dX4_lump_61 : decode cX4_lump 61 = .ok (.ior, 1) := dk_128 (dk_at dksX4_lump_2 13 rfl rfl)
theorem dX4_lump_62 : decode cX4_lump 62 = .ok (.iconst 1, 1) := dk_4 (dk_at dksX4_lump_2 14 rfl rfl)
theorem dX4_lump_63 : decode cX4_lump 63 = .ok (.iand, 1) := dk_126 (dk_at dksX4_lump_2 15 rfl rfl)
theorem dX4_lump_64 : decode cX4_lump 64 = .ok (.iconst 1, 1) := dk_4 (dk_at dksX4_lump_2 16 rfl rfl)
theorem dX4_lump_65 : decode cX4_lump 65 = .ok (.if_icmp .ne 31, 3) := dk_160 0 31 (dk_at dksX4_lump_2 17 rfl rfl)
theorem dX4_lump_68 : decode cX4_lump 68 = .ok (.iload_n 2, 1) := dk_28 (dk_at dksX4_lump_2 20 rfl rfl)
theorem dX4_lump_69 : decode cX4_lump 69 = .ok (.iconst 1, 1) := dk_4 (dk_at dksX4_lump_2 21 rfl rfl)
theorem dX4_lump_70 : decode cX4_lump 70 = .ok (.aload_n 0, 1) := dk_42 (dk_at dksX4_lump_2 22 rfl rfl)
theorem dX4_lump_71 : decode cX4_lump 71 = .ok (.getfield 19, 3) := dk_180 0 19 (dk_at dksX4_lump_3 0 rfl rfl)
theorem dX4_lump_74 : decode cX4_lump 74 = .ok (.iload 4, 2) := dk_21 4 (dk_at dksX4_lump_3 3 rfl rfl)
theorem dX4_lump_76 : decode cX4_lump 76 = .ok (.aaload, 1) := dk_50 (dk_at dksX4_lump_3 5 rfl rfl)
theorem dX4_lump_77 : decode cX4_lump 77 = .ok (.getfield 78, 3) := dk_180 0 78 (dk_at dksX4_lump_3 6 rfl rfl)
theorem dX4_lump_80 : decode cX4_lump 80 = .ok (.ishl, 1) := dk_120 (dk_at dksX4_lump_3 9 rfl rfl)
theorem dX4_lump_81 : decode cX4_lump 81 = .ok (.iconst 1, 1) := dk_4 (dk_at dksX4_lump_3 10 rfl rfl)
theorem dX4_lump_82 : decode cX4_lump 82 = .ok (.aload_n 0, 1) := dk_42 (dk_at dksX4_lump_3 11 rfl rfl)
theorem dX4_lump_83 : decode cX4_lump 83 = .ok (.getfield 19, 3) := dk_180 0 19 (dk_at dksX4_lump_3 12 rfl rfl)
theorem dX4_lump_86 : decode cX4_lump 86 = .ok (.iload 4, 2) := dk_21 4 (dk_at dksX4_lump_3 15 rfl rfl)
theorem dX4_lump_88 : decode cX4_lump 88 = .ok (.aaload, 1) := dk_50 (dk_at dksX4_lump_3 17 rfl rfl)
theorem dX4_lump_89 : decode cX4_lump 89 = .ok (.getfield 81, 3) := dk_180 0 81 (dk_at dksX4_lump_3 18 rfl rfl)
theorem dX4_lump_92 : decode cX4_lump 92 = .ok (.ishl, 1) := dk_120 (dk_at dksX4_lump_3 21 rfl rfl)
theorem dX4_lump_93 : decode cX4_lump 93 = .ok (.ior, 1) := dk_128 (dk_at dksX4_lump_3 22 rfl rfl)
theorem dX4_lump_94 : decode cX4_lump 94 = .ok (.ior, 1) := dk_128 (dk_at dksX4_lump_3 23 rfl rfl)
theorem dX4_lump_95 : decode cX4_lump 95 = .ok (.istore_n 2, 1) := dk_61 (dk_at dksX4_lump_4 0 rfl rfl)
theorem dX4_lump_96 : decode cX4_lump 96 = .ok (.iinc 4 1, 3) := dk_132 4 1 (dk_at dksX4_lump_4 1 rfl rfl)
theorem dX4_lump_99 : decode cX4_lump 99 = .ok (.goto (-84), 3) := dk_167 255 172 (dk_at dksX4_lump_4 4 rfl rfl)
theorem dX4_lump_102 : decode cX4_lump 102 = .ok (.iinc 3 1, 3) := dk_132 3 1 (dk_at dksX4_lump_4 7 rfl rfl)
theorem dX4_lump_105 : decode cX4_lump 105 = .ok (.goto (-99), 3) := dk_167 255 157 (dk_at dksX4_lump_4 10 rfl rfl)
theorem dX4_lump_108 : decode cX4_lump 108 = .ok (.iload_n 2, 1) := dk_28 (dk_at dksX4_lump_4 13 rfl rfl)
theorem dX4_lump_109 : decode cX4_lump 109 = .ok (.ireturn, 1) := dk_172 (dk_at dksX4_lump_4 14 rfl rfl)
abbrev cX4_cuts : ByteArray := prog_3_method_18_code
def yX4_cuts : MethodName := ⟨RX4, "cuts", "(I)I"⟩
def dkwX4_cuts_1 : List UInt8 := [180, 0, 60, 42, 180, 0, 11, 27, 50, 180, 0, 145, 96, 181, 0, 60, 28, 172]
abbrev dktX4_cuts_1 : List UInt8 := dkwX4_cuts_1 ++ []
def dkwX4_cuts_0 : List UInt8 := [42, 27, 182, 0, 102, 61, 42, 27, 182, 0, 142, 42, 180, 0, 11, 27, 50, 4, 181, 0, 70, 42, 89]
abbrev dktX4_cuts_0 : List UInt8 := dkwX4_cuts_0 ++ dktX4_cuts_1
theorem dksX4_cuts_0 : cX4_cuts.data.toList.drop 0 = dktX4_cuts_0 := by decide +kernel
theorem dksX4_cuts_1 : cX4_cuts.data.toList.drop 23 = dktX4_cuts_1 := dk_seg dksX4_cuts_0 23 rfl rfl
theorem dX4_cuts_0 : decode cX4_cuts 0 = .ok (.aload_n 0, 1) := dk_42 (dk_at dksX4_cuts_0 0 rfl rfl)
theorem dX4_cuts_1 : decode cX4_cuts 1 = .ok (.iload_n 1, 1) := dk_27 (dk_at dksX4_cuts_0 1 rfl rfl)
theorem dX4_cuts_2 : decode cX4_cuts 2 = .ok (.invokevirtual 102, 3) := dk_182 0 102 (dk_at dksX4_cuts_0 2 rfl rfl)
theorem dX4_cuts_5 : decode cX4_cuts 5 = .ok (.istore_n 2, 1) := dk_61 (dk_at dksX4_cuts_0 5 rfl rfl)
theorem dX4_cuts_6 : decode cX4_cuts 6 = .ok (.aload_n 0, 1) := dk_42 (dk_at dksX4_cuts_0 6 rfl rfl)
theorem dX4_cuts_7 : decode cX4_cuts 7 = .ok (.iload_n 1, 1) := dk_27 (dk_at dksX4_cuts_0 7 rfl rfl)
theorem dX4_cuts_8 : decode cX4_cuts 8 = .ok (.invokevirtual 142, 3) := dk_182 0 142 (dk_at dksX4_cuts_0 8 rfl rfl)
theorem dX4_cuts_11 : decode cX4_cuts 11 = .ok (.aload_n 0, 1) := dk_42 (dk_at dksX4_cuts_0 11 rfl rfl)
theorem dX4_cuts_12 : decode cX4_cuts 12 = .ok (.getfield 11, 3) := dk_180 0 11 (dk_at dksX4_cuts_0 12 rfl rfl)
theorem dX4_cuts_15 : decode cX4_cuts 15 = .ok (.iload_n 1, 1) := dk_27 (dk_at dksX4_cuts_0 15 rfl rfl)
theorem dX4_cuts_16 : decode cX4_cuts 16 = .ok (.aaload, 1) := dk_50 (dk_at dksX4_cuts_0 16 rfl rfl)
theorem dX4_cuts_17 : decode cX4_cuts 17 = .ok (.iconst 1, 1) := dk_4 (dk_at dksX4_cuts_0 17 rfl rfl)
theorem dX4_cuts_18 : decode cX4_cuts 18 = .ok (.putfield 70, 3) := dk_181 0 70 (dk_at dksX4_cuts_0 18 rfl rfl)
theorem dX4_cuts_21 : decode cX4_cuts 21 = .ok (.aload_n 0, 1) := dk_42 (dk_at dksX4_cuts_0 21 rfl rfl)
theorem dX4_cuts_22 : decode cX4_cuts 22 = .ok (.dup, 1) := dk_89 (dk_at dksX4_cuts_0 22 rfl rfl)
theorem dX4_cuts_23 : decode cX4_cuts 23 = .ok (.getfield 60, 3) := dk_180 0 60 (dk_at dksX4_cuts_1 0 rfl rfl)
theorem dX4_cuts_26 : decode cX4_cuts 26 = .ok (.aload_n 0, 1) := dk_42 (dk_at dksX4_cuts_1 3 rfl rfl)
theorem dX4_cuts_27 : decode cX4_cuts 27 = .ok (.getfield 11, 3) := dk_180 0 11 (dk_at dksX4_cuts_1 4 rfl rfl)
theorem dX4_cuts_30 : decode cX4_cuts 30 = .ok (.iload_n 1, 1) := dk_27 (dk_at dksX4_cuts_1 7 rfl rfl)
theorem dX4_cuts_31 : decode cX4_cuts 31 = .ok (.aaload, 1) := dk_50 (dk_at dksX4_cuts_1 8 rfl rfl)
theorem dX4_cuts_32 : decode cX4_cuts 32 = .ok (.getfield 145, 3) := dk_180 0 145 (dk_at dksX4_cuts_1 9 rfl rfl)
theorem dX4_cuts_35 : decode cX4_cuts 35 = .ok (.iadd, 1) := dk_96 (dk_at dksX4_cuts_1 12 rfl rfl)
theorem dX4_cuts_36 : decode cX4_cuts 36 = .ok (.putfield 60, 3) := dk_181 0 60 (dk_at dksX4_cuts_1 13 rfl rfl)
theorem dX4_cuts_39 : decode cX4_cuts 39 = .ok (.iload_n 2, 1) := dk_28 (dk_at dksX4_cuts_1 16 rfl rfl)
theorem dX4_cuts_40 : decode cX4_cuts 40 = .ok (.ireturn, 1) := dk_172 (dk_at dksX4_cuts_1 17 rfl rfl)
abbrev cX4_leaves : ByteArray := prog_3_method_16_code
def yX4_leaves : MethodName := ⟨RX4, "leaves", "(I)V"⟩
def dkwX4_leaves_1 : List UInt8 := [42, 28, 182, 0, 113, 132, 2, 255, 167, 255, 231, 177]
abbrev dktX4_leaves_1 : List UInt8 := dkwX4_leaves_1 ++ []
def dkwX4_leaves_0 : List UInt8 := [42, 180, 0, 51, 4, 100, 61, 28, 155, 0, 27, 42, 180, 0, 19, 28, 50, 27, 182, 0, 88, 153, 0, 8]
abbrev dktX4_leaves_0 : List UInt8 := dkwX4_leaves_0 ++ dktX4_leaves_1
theorem dksX4_leaves_0 : cX4_leaves.data.toList.drop 0 = dktX4_leaves_0 := by decide +kernel
theorem dksX4_leaves_1 : cX4_leaves.data.toList.drop 24 = dktX4_leaves_1 := dk_seg dksX4_leaves_0 24 rfl rfl
theorem dX4_leaves_0 : decode cX4_leaves 0 = .ok (.aload_n 0, 1) := dk_42 (dk_at dksX4_leaves_0 0 rfl rfl)
theorem dX4_leaves_1 : decode cX4_leaves 1 = .ok (.getfield 51, 3) := dk_180 0 51 (dk_at dksX4_leaves_0 1 rfl rfl)
theorem dX4_leaves_4 : decode cX4_leaves 4 = .ok (.iconst 1, 1) := dk_4 (dk_at dksX4_leaves_0 4 rfl rfl)
theorem dX4_leaves_5 : decode cX4_leaves 5 = .ok (.isub, 1) := dk_100 (dk_at dksX4_leaves_0 5 rfl rfl)
theorem dX4_leaves_6 : decode cX4_leaves 6 = .ok (.istore_n 2, 1) := dk_61 (dk_at dksX4_leaves_0 6 rfl rfl)
theorem dX4_leaves_7 : decode cX4_leaves 7 = .ok (.iload_n 2, 1) := dk_28 (dk_at dksX4_leaves_0 7 rfl rfl)
theorem dX4_leaves_8 : decode cX4_leaves 8 = .ok (.ifCond .lt 27, 3) := dk_155 0 27 (dk_at dksX4_leaves_0 8 rfl rfl)
theorem dX4_leaves_11 : decode cX4_leaves 11 = .ok (.aload_n 0, 1) := dk_42 (dk_at dksX4_leaves_0 11 rfl rfl)
theorem dX4_leaves_12 : decode cX4_leaves 12 = .ok (.getfield 19, 3) := dk_180 0 19 (dk_at dksX4_leaves_0 12 rfl rfl)
theorem dX4_leaves_15 : decode cX4_leaves 15 = .ok (.iload_n 2, 1) := dk_28 (dk_at dksX4_leaves_0 15 rfl rfl)
theorem dX4_leaves_16 : decode cX4_leaves 16 = .ok (.aaload, 1) := dk_50 (dk_at dksX4_leaves_0 16 rfl rfl)
theorem dX4_leaves_17 : decode cX4_leaves 17 = .ok (.iload_n 1, 1) := dk_27 (dk_at dksX4_leaves_0 17 rfl rfl)
theorem dX4_leaves_18 : decode cX4_leaves 18 = .ok (.invokevirtual 88, 3) := dk_182 0 88 (dk_at dksX4_leaves_0 18 rfl rfl)
theorem dX4_leaves_21 : decode cX4_leaves 21 = .ok (.ifCond .eq 8, 3) := dk_153 0 8 (dk_at dksX4_leaves_0 21 rfl rfl)
theorem dX4_leaves_24 : decode cX4_leaves 24 = .ok (.aload_n 0, 1) := dk_42 (dk_at dksX4_leaves_1 0 rfl rfl)
theorem dX4_leaves_25 : decode cX4_leaves 25 = .ok (.iload_n 2, 1) := dk_28 (dk_at dksX4_leaves_1 1 rfl rfl)
theorem dX4_leaves_26 : decode cX4_leaves 26 = .ok (.invokevirtual 113, 3) := dk_182 0 113 (dk_at dksX4_leaves_1 2 rfl rfl)
theorem dX4_leaves_29 : decode cX4_leaves 29 = .ok (.iinc 2 (-1), 3) := dk_132 2 255 (dk_at dksX4_leaves_1 5 rfl rfl)
theorem dX4_leaves_32 : decode cX4_leaves 32 = .ok (.goto (-25), 3) := dk_167 255 231 (dk_at dksX4_leaves_1 8 rfl rfl)
theorem dX4_leaves_35 : decode cX4_leaves 35 = .ok (.return_, 1) := dk_177 (dk_at dksX4_leaves_1 11 rfl rfl)
abbrev cX4_clips : ByteArray := prog_3_method_19_code
def yX4_clips : MethodName := ⟨RX4, "clips", "(I)Z"⟩
def dkwX4_clips_1 : List UInt8 := [180, 0, 11, 27, 50, 4, 181, 0, 151, 42, 89, 180, 0, 57, 16, 12, 96, 181, 0, 57, 4, 172]
abbrev dktX4_clips_1 : List UInt8 := dkwX4_clips_1 ++ []
def dkwX4_clips_0 : List UInt8 := [42, 180, 0, 11, 27, 50, 182, 0, 148, 153, 0, 11, 42, 27, 182, 0, 102, 158, 0, 5, 3, 172, 42]
abbrev dktX4_clips_0 : List UInt8 := dkwX4_clips_0 ++ dktX4_clips_1
theorem dksX4_clips_0 : cX4_clips.data.toList.drop 0 = dktX4_clips_0 := by decide +kernel
theorem dksX4_clips_1 : cX4_clips.data.toList.drop 23 = dktX4_clips_1 := dk_seg dksX4_clips_0 23 rfl rfl
theorem dX4_clips_0 : decode cX4_clips 0 = .ok (.aload_n 0, 1) := dk_42 (dk_at dksX4_clips_0 0 rfl rfl)
theorem dX4_clips_1 : decode cX4_clips 1 = .ok (.getfield 11, 3) := dk_180 0 11 (dk_at dksX4_clips_0 1 rfl rfl)
theorem dX4_clips_4 : decode cX4_clips 4 = .ok (.iload_n 1, 1) := dk_27 (dk_at dksX4_clips_0 4 rfl rfl)
theorem dX4_clips_5 : decode cX4_clips 5 = .ok (.aaload, 1) := dk_50 (dk_at dksX4_clips_0 5 rfl rfl)
theorem dX4_clips_6 : decode cX4_clips 6 = .ok (.invokevirtual 148, 3) := dk_182 0 148 (dk_at dksX4_clips_0 6 rfl rfl)
theorem dX4_clips_9 : decode cX4_clips 9 = .ok (.ifCond .eq 11, 3) := dk_153 0 11 (dk_at dksX4_clips_0 9 rfl rfl)
theorem dX4_clips_12 : decode cX4_clips 12 = .ok (.aload_n 0, 1) := dk_42 (dk_at dksX4_clips_0 12 rfl rfl)
theorem dX4_clips_13 : decode cX4_clips 13 = .ok (.iload_n 1, 1) := dk_27 (dk_at dksX4_clips_0 13 rfl rfl)
theorem dX4_clips_14 : decode cX4_clips 14 = .ok (.invokevirtual 102, 3) := dk_182 0 102 (dk_at dksX4_clips_0 14 rfl rfl)
theorem dX4_clips_17 : decode cX4_clips 17 = .ok (.ifCond .le 5, 3) := dk_158 0 5 (dk_at dksX4_clips_0 17 rfl rfl)
theorem dX4_clips_20 : decode cX4_clips 20 = .ok (.iconst 0, 1) := dk_3 (dk_at dksX4_clips_0 20 rfl rfl)
theorem dX4_clips_21 : decode cX4_clips 21 = .ok (.ireturn, 1) := dk_172 (dk_at dksX4_clips_0 21 rfl rfl)
theorem dX4_clips_22 : decode cX4_clips 22 = .ok (.aload_n 0, 1) := dk_42 (dk_at dksX4_clips_0 22 rfl rfl)
theorem dX4_clips_23 : decode cX4_clips 23 = .ok (.getfield 11, 3) := dk_180 0 11 (dk_at dksX4_clips_1 0 rfl rfl)
theorem dX4_clips_26 : decode cX4_clips 26 = .ok (.iload_n 1, 1) := dk_27 (dk_at dksX4_clips_1 3 rfl rfl)
theorem dX4_clips_27 : decode cX4_clips 27 = .ok (.aaload, 1) := dk_50 (dk_at dksX4_clips_1 4 rfl rfl)
theorem dX4_clips_28 : decode cX4_clips 28 = .ok (.iconst 1, 1) := dk_4 (dk_at dksX4_clips_1 5 rfl rfl)
theorem dX4_clips_29 : decode cX4_clips 29 = .ok (.putfield 151, 3) := dk_181 0 151 (dk_at dksX4_clips_1 6 rfl rfl)
theorem dX4_clips_32 : decode cX4_clips 32 = .ok (.aload_n 0, 1) := dk_42 (dk_at dksX4_clips_1 9 rfl rfl)
theorem dX4_clips_33 : decode cX4_clips 33 = .ok (.dup, 1) := dk_89 (dk_at dksX4_clips_1 10 rfl rfl)
theorem dX4_clips_34 : decode cX4_clips 34 = .ok (.getfield 57, 3) := dk_180 0 57 (dk_at dksX4_clips_1 11 rfl rfl)
theorem dX4_clips_37 : decode cX4_clips 37 = .ok (.bipush 12, 2) := dk_16 12 (dk_at dksX4_clips_1 14 rfl rfl)
theorem dX4_clips_39 : decode cX4_clips 39 = .ok (.iadd, 1) := dk_96 (dk_at dksX4_clips_1 16 rfl rfl)
theorem dX4_clips_40 : decode cX4_clips 40 = .ok (.putfield 57, 3) := dk_181 0 57 (dk_at dksX4_clips_1 17 rfl rfl)
theorem dX4_clips_43 : decode cX4_clips 43 = .ok (.iconst 1, 1) := dk_4 (dk_at dksX4_clips_1 20 rfl rfl)
theorem dX4_clips_44 : decode cX4_clips 44 = .ok (.ireturn, 1) := dk_172 (dk_at dksX4_clips_1 21 rfl rfl)
abbrev cX4_largest : ByteArray := prog_3_method_20_code
def yX4_largest : MethodName := ⟨RX4, "largest", "()I"⟩
def dkwX4_largest_1 : List UInt8 := [27, 42, 28, 182, 0, 128, 184, 0, 137, 184, 0, 154, 60, 132, 2, 1, 167, 255, 220, 27, 172]
abbrev dktX4_largest_1 : List UInt8 := dkwX4_largest_1 ++ []
def dkwX4_largest_0 : List UInt8 := [3, 60, 3, 61, 28, 42, 180, 0, 37, 162, 0, 34, 42, 180, 0, 11, 28, 50, 180, 0, 70, 154, 0, 16]
abbrev dktX4_largest_0 : List UInt8 := dkwX4_largest_0 ++ dktX4_largest_1
theorem dksX4_largest_0 : cX4_largest.data.toList.drop 0 = dktX4_largest_0 := by decide +kernel
theorem dksX4_largest_1 : cX4_largest.data.toList.drop 24 = dktX4_largest_1 := dk_seg dksX4_largest_0 24 rfl rfl
theorem dX4_largest_0 : decode cX4_largest 0 = .ok (.iconst 0, 1) := dk_3 (dk_at dksX4_largest_0 0 rfl rfl)
theorem dX4_largest_1 : decode cX4_largest 1 = .ok (.istore_n 1, 1) := dk_60 (dk_at dksX4_largest_0 1 rfl rfl)
theorem dX4_largest_2 : decode cX4_largest 2 = .ok (.iconst 0, 1) := dk_3 (dk_at dksX4_largest_0 2 rfl rfl)
theorem dX4_largest_3 : decode cX4_largest 3 = .ok (.istore_n 2, 1) := dk_61 (dk_at dksX4_largest_0 3 rfl rfl)
theorem dX4_largest_4 : decode cX4_largest 4 = .ok (.iload_n 2, 1) := dk_28 (dk_at dksX4_largest_0 4 rfl rfl)
theorem dX4_largest_5 : decode cX4_largest 5 = .ok (.aload_n 0, 1) := dk_42 (dk_at dksX4_largest_0 5 rfl rfl)
theorem dX4_largest_6 : decode cX4_largest 6 = .ok (.getfield 37, 3) := dk_180 0 37 (dk_at dksX4_largest_0 6 rfl rfl)
theorem dX4_largest_9 : decode cX4_largest 9 = .ok (.if_icmp .ge 34, 3) := dk_162 0 34 (dk_at dksX4_largest_0 9 rfl rfl)
theorem dX4_largest_12 : decode cX4_largest 12 = .ok (.aload_n 0, 1) := dk_42 (dk_at dksX4_largest_0 12 rfl rfl)
theorem dX4_largest_13 : decode cX4_largest 13 = .ok (.getfield 11, 3) := dk_180 0 11 (dk_at dksX4_largest_0 13 rfl rfl)
theorem dX4_largest_16 : decode cX4_largest 16 = .ok (.iload_n 2, 1) := dk_28 (dk_at dksX4_largest_0 16 rfl rfl)
theorem dX4_largest_17 : decode cX4_largest 17 = .ok (.aaload, 1) := dk_50 (dk_at dksX4_largest_0 17 rfl rfl)
theorem dX4_largest_18 : decode cX4_largest 18 = .ok (.getfield 70, 3) := dk_180 0 70 (dk_at dksX4_largest_0 18 rfl rfl)
theorem dX4_largest_21 : decode cX4_largest 21 = .ok (.ifCond .ne 16, 3) := dk_154 0 16 (dk_at dksX4_largest_0 21 rfl rfl)
theorem dX4_largest_24 : decode cX4_largest 24 = .ok (.iload_n 1, 1) := dk_27 (dk_at dksX4_largest_1 0 rfl rfl)
theorem dX4_largest_25 : decode cX4_largest 25 = .ok (.aload_n 0, 1) := dk_42 (dk_at dksX4_largest_1 1 rfl rfl)
theorem dX4_largest_26 : decode cX4_largest 26 = .ok (.iload_n 2, 1) := dk_28 (dk_at dksX4_largest_1 2 rfl rfl)
theorem dX4_largest_27 : decode cX4_largest 27 = .ok (.invokevirtual 128, 3) := dk_182 0 128 (dk_at dksX4_largest_1 3 rfl rfl)
theorem dX4_largest_30 : decode cX4_largest 30 = .ok (.invokestatic 137, 3) := dk_184 0 137 (dk_at dksX4_largest_1 6 rfl rfl)
theorem dX4_largest_33 : decode cX4_largest 33 = .ok (.invokestatic 154, 3) := dk_184 0 154 (dk_at dksX4_largest_1 9 rfl rfl)
theorem dX4_largest_36 : decode cX4_largest 36 = .ok (.istore_n 1, 1) := dk_60 (dk_at dksX4_largest_1 12 rfl rfl)
theorem dX4_largest_37 : decode cX4_largest 37 = .ok (.iinc 2 1, 3) := dk_132 2 1 (dk_at dksX4_largest_1 13 rfl rfl)
theorem dX4_largest_40 : decode cX4_largest 40 = .ok (.goto (-36), 3) := dk_167 255 220 (dk_at dksX4_largest_1 16 rfl rfl)
theorem dX4_largest_43 : decode cX4_largest 43 = .ok (.iload_n 1, 1) := dk_27 (dk_at dksX4_largest_1 19 rfl rfl)
theorem dX4_largest_44 : decode cX4_largest 44 = .ok (.ireturn, 1) := dk_172 (dk_at dksX4_largest_1 20 rfl rfl)
abbrev cX4_comes : ByteArray := prog_3_method_15_code
def yX4_comes : MethodName := ⟨RX4, "comes", "(I)Z"⟩
def dkwX4_comes_0 : List UInt8 := [42, 27, 182, 0, 128, 4, 27, 120, 160, 0, 7, 4, 167, 0, 4, 3, 172]
abbrev dktX4_comes_0 : List UInt8 := dkwX4_comes_0 ++ []
theorem dksX4_comes_0 : cX4_comes.data.toList.drop 0 = dktX4_comes_0 := by decide +kernel
theorem dX4_comes_0 : decode cX4_comes 0 = .ok (.aload_n 0, 1) := dk_42 (dk_at dksX4_comes_0 0 rfl rfl)
theorem dX4_comes_1 : decode cX4_comes 1 = .ok (.iload_n 1, 1) := dk_27 (dk_at dksX4_comes_0 1 rfl rfl)
theorem dX4_comes_2 : decode cX4_comes 2 = .ok (.invokevirtual 128, 3) := dk_182 0 128 (dk_at dksX4_comes_0 2 rfl rfl)
theorem dX4_comes_5 : decode cX4_comes 5 = .ok (.iconst 1, 1) := dk_4 (dk_at dksX4_comes_0 5 rfl rfl)
theorem dX4_comes_6 : decode cX4_comes 6 = .ok (.iload_n 1, 1) := dk_27 (dk_at dksX4_comes_0 6 rfl rfl)
theorem dX4_comes_7 : decode cX4_comes 7 = .ok (.ishl, 1) := dk_120 (dk_at dksX4_comes_0 7 rfl rfl)
theorem dX4_comes_8 : decode cX4_comes 8 = .ok (.if_icmp .ne 7, 3) := dk_160 0 7 (dk_at dksX4_comes_0 8 rfl rfl)
theorem dX4_comes_11 : decode cX4_comes 11 = .ok (.iconst 1, 1) := dk_4 (dk_at dksX4_comes_0 11 rfl rfl)
theorem dX4_comes_12 : decode cX4_comes 12 = .ok (.goto 4, 3) := dk_167 0 4 (dk_at dksX4_comes_0 12 rfl rfl)
theorem dX4_comes_15 : decode cX4_comes 15 = .ok (.iconst 0, 1) := dk_3 (dk_at dksX4_comes_0 15 rfl rfl)
theorem dX4_comes_16 : decode cX4_comes 16 = .ok (.ireturn, 1) := dk_172 (dk_at dksX4_comes_0 16 rfl rfl)
abbrev cX4_isFree : ByteArray := prog_3_method_21_code
def yX4_isFree : MethodName := ⟨RX4, "isFree", "(I)Z"⟩
def dkwX4_isFree_1 : List UInt8 := [3, 172]
abbrev dktX4_isFree_1 : List UInt8 := dkwX4_isFree_1 ++ []
def dkwX4_isFree_0 : List UInt8 := [42, 180, 0, 11, 27, 50, 180, 0, 70, 154, 0, 15, 42, 27, 182, 0, 102, 154, 0, 7, 4, 167, 0, 4]
abbrev dktX4_isFree_0 : List UInt8 := dkwX4_isFree_0 ++ dktX4_isFree_1
theorem dksX4_isFree_0 : cX4_isFree.data.toList.drop 0 = dktX4_isFree_0 := by decide +kernel
theorem dksX4_isFree_1 : cX4_isFree.data.toList.drop 24 = dktX4_isFree_1 := dk_seg dksX4_isFree_0 24 rfl rfl
theorem dX4_isFree_0 : decode cX4_isFree 0 = .ok (.aload_n 0, 1) := dk_42 (dk_at dksX4_isFree_0 0 rfl rfl)
theorem dX4_isFree_1 : decode cX4_isFree 1 = .ok (.getfield 11, 3) := dk_180 0 11 (dk_at dksX4_isFree_0 1 rfl rfl)
theorem dX4_isFree_4 : decode cX4_isFree 4 = .ok (.iload_n 1, 1) := dk_27 (dk_at dksX4_isFree_0 4 rfl rfl)
theorem dX4_isFree_5 : decode cX4_isFree 5 = .ok (.aaload, 1) := dk_50 (dk_at dksX4_isFree_0 5 rfl rfl)
theorem dX4_isFree_6 : decode cX4_isFree 6 = .ok (.getfield 70, 3) := dk_180 0 70 (dk_at dksX4_isFree_0 6 rfl rfl)
theorem dX4_isFree_9 : decode cX4_isFree 9 = .ok (.ifCond .ne 15, 3) := dk_154 0 15 (dk_at dksX4_isFree_0 9 rfl rfl)
theorem dX4_isFree_12 : decode cX4_isFree 12 = .ok (.aload_n 0, 1) := dk_42 (dk_at dksX4_isFree_0 12 rfl rfl)
theorem dX4_isFree_13 : decode cX4_isFree 13 = .ok (.iload_n 1, 1) := dk_27 (dk_at dksX4_isFree_0 13 rfl rfl)
theorem dX4_isFree_14 : decode cX4_isFree 14 = .ok (.invokevirtual 102, 3) := dk_182 0 102 (dk_at dksX4_isFree_0 14 rfl rfl)
theorem dX4_isFree_17 : decode cX4_isFree 17 = .ok (.ifCond .ne 7, 3) := dk_154 0 7 (dk_at dksX4_isFree_0 17 rfl rfl)
theorem dX4_isFree_20 : decode cX4_isFree 20 = .ok (.iconst 1, 1) := dk_4 (dk_at dksX4_isFree_0 20 rfl rfl)
theorem dX4_isFree_21 : decode cX4_isFree 21 = .ok (.goto 4, 3) := dk_167 0 4 (dk_at dksX4_isFree_0 21 rfl rfl)
theorem dX4_isFree_24 : decode cX4_isFree 24 = .ok (.iconst 0, 1) := dk_3 (dk_at dksX4_isFree_1 0 rfl rfl)
theorem dX4_isFree_25 : decode cX4_isFree 25 = .ok (.ireturn, 1) := dk_172 (dk_at dksX4_isFree_1 1 rfl rfl)
abbrev cX4_twin : ByteArray := prog_3_method_2_code
def yX4_twin : MethodName := ⟨RX4, "twin", "()LCableDrawer$Drawer;"⟩
def dkwX4_twin_5 : List UInt8 := [181, 0, 57, 43, 42, 180, 0, 60, 181, 0, 60, 43, 42, 180, 0, 63, 181, 0, 63, 43, 176]
abbrev dktX4_twin_5 : List UInt8 := dkwX4_twin_5 ++ []
def dkwX4_twin_4 : List UInt8 := [181, 0, 37, 43, 42, 180, 0, 51, 181, 0, 51, 43, 42, 180, 0, 54, 181, 0, 54, 43, 42, 180, 0, 57]
abbrev dktX4_twin_4 : List UInt8 := dkwX4_twin_4 ++ dktX4_twin_5
def dkwX4_twin_3 : List UInt8 := [184, 0, 45, 42, 180, 0, 27, 3, 43, 180, 0, 27, 3, 6, 184, 0, 45, 43, 42, 180, 0, 37]
abbrev dktX4_twin_3 : List UInt8 := dkwX4_twin_3 ++ dktX4_twin_4
def dkwX4_twin_2 : List UInt8 := [3, 43, 180, 0, 19, 3, 16, 24, 184, 0, 45, 42, 180, 0, 23, 3, 43, 180, 0, 23, 3, 6]
abbrev dktX4_twin_2 : List UInt8 := dkwX4_twin_2 ++ dktX4_twin_3
def dkwX4_twin_1 : List UInt8 := [180, 0, 11, 28, 42, 180, 0, 11, 28, 50, 182, 0, 41, 83, 132, 2, 1, 167, 255, 230, 42, 180, 0, 19]
abbrev dktX4_twin_1 : List UInt8 := dkwX4_twin_1 ++ dktX4_twin_2
def dkwX4_twin_0 : List UInt8 := [187, 0, 12, 89, 42, 180, 0, 31, 183, 0, 34, 76, 3, 61, 28, 42, 180, 0, 37, 162, 0, 24, 43]
abbrev dktX4_twin_0 : List UInt8 := dkwX4_twin_0 ++ dktX4_twin_1
theorem dksX4_twin_0 : cX4_twin.data.toList.drop 0 = dktX4_twin_0 := by decide +kernel
theorem dksX4_twin_1 : cX4_twin.data.toList.drop 23 = dktX4_twin_1 := dk_seg dksX4_twin_0 23 rfl rfl
theorem dksX4_twin_2 : cX4_twin.data.toList.drop 47 = dktX4_twin_2 := dk_seg dksX4_twin_1 24 rfl rfl
theorem dksX4_twin_3 : cX4_twin.data.toList.drop 69 = dktX4_twin_3 := dk_seg dksX4_twin_2 22 rfl rfl
theorem dksX4_twin_4 : cX4_twin.data.toList.drop 91 = dktX4_twin_4 := dk_seg dksX4_twin_3 22 rfl rfl
theorem dksX4_twin_5 : cX4_twin.data.toList.drop 115 = dktX4_twin_5 := dk_seg dksX4_twin_4 24 rfl rfl
theorem dX4_twin_0 : decode cX4_twin 0 = .ok (.new 12, 3) := dk_187 0 12 (dk_at dksX4_twin_0 0 rfl rfl)
theorem dX4_twin_3 : decode cX4_twin 3 = .ok (.dup, 1) := dk_89 (dk_at dksX4_twin_0 3 rfl rfl)
theorem dX4_twin_4 : decode cX4_twin 4 = .ok (.aload_n 0, 1) := dk_42 (dk_at dksX4_twin_0 4 rfl rfl)
theorem dX4_twin_5 : decode cX4_twin 5 = .ok (.getfield 31, 3) := dk_180 0 31 (dk_at dksX4_twin_0 5 rfl rfl)
theorem dX4_twin_8 : decode cX4_twin 8 = .ok (.invokespecial 34, 3) := dk_183 0 34 (dk_at dksX4_twin_0 8 rfl rfl)
theorem dX4_twin_11 : decode cX4_twin 11 = .ok (.astore_n 1, 1) := dk_76 (dk_at dksX4_twin_0 11 rfl rfl)
theorem dX4_twin_12 : decode cX4_twin 12 = .ok (.iconst 0, 1) := dk_3 (dk_at dksX4_twin_0 12 rfl rfl)
theorem dX4_twin_13 : decode cX4_twin 13 = .ok (.istore_n 2, 1) := dk_61 (dk_at dksX4_twin_0 13 rfl rfl)
theorem dX4_twin_14 : decode cX4_twin 14 = .ok (.iload_n 2, 1) := dk_28 (dk_at dksX4_twin_0 14 rfl rfl)
theorem dX4_twin_15 : decode cX4_twin 15 = .ok (.aload_n 0, 1) := dk_42 (dk_at dksX4_twin_0 15 rfl rfl)
theorem dX4_twin_16 : decode cX4_twin 16 = .ok (.getfield 37, 3) := dk_180 0 37 (dk_at dksX4_twin_0 16 rfl rfl)
theorem dX4_twin_19 : decode cX4_twin 19 = .ok (.if_icmp .ge 24, 3) := dk_162 0 24 (dk_at dksX4_twin_0 19 rfl rfl)
theorem dX4_twin_22 : decode cX4_twin 22 = .ok (.aload_n 1, 1) := dk_43 (dk_at dksX4_twin_0 22 rfl rfl)
theorem dX4_twin_23 : decode cX4_twin 23 = .ok (.getfield 11, 3) := dk_180 0 11 (dk_at dksX4_twin_1 0 rfl rfl)
theorem dX4_twin_26 : decode cX4_twin 26 = .ok (.iload_n 2, 1) := dk_28 (dk_at dksX4_twin_1 3 rfl rfl)
theorem dX4_twin_27 : decode cX4_twin 27 = .ok (.aload_n 0, 1) := dk_42 (dk_at dksX4_twin_1 4 rfl rfl)
theorem dX4_twin_28 : decode cX4_twin 28 = .ok (.getfield 11, 3) := dk_180 0 11 (dk_at dksX4_twin_1 5 rfl rfl)
theorem dX4_twin_31 : decode cX4_twin 31 = .ok (.iload_n 2, 1) := dk_28 (dk_at dksX4_twin_1 8 rfl rfl)
theorem dX4_twin_32 : decode cX4_twin 32 = .ok (.aaload, 1) := dk_50 (dk_at dksX4_twin_1 9 rfl rfl)
theorem dX4_twin_33 : decode cX4_twin 33 = .ok (.invokevirtual 41, 3) := dk_182 0 41 (dk_at dksX4_twin_1 10 rfl rfl)
theorem dX4_twin_36 : decode cX4_twin 36 = .ok (.aastore, 1) := dk_83 (dk_at dksX4_twin_1 13 rfl rfl)
theorem dX4_twin_37 : decode cX4_twin 37 = .ok (.iinc 2 1, 3) := dk_132 2 1 (dk_at dksX4_twin_1 14 rfl rfl)
theorem dX4_twin_40 : decode cX4_twin 40 = .ok (.goto (-26), 3) := dk_167 255 230 (dk_at dksX4_twin_1 17 rfl rfl)
theorem dX4_twin_43 : decode cX4_twin 43 = .ok (.aload_n 0, 1) := dk_42 (dk_at dksX4_twin_1 20 rfl rfl)
theorem dX4_twin_44 : decode cX4_twin 44 = .ok (.getfield 19, 3) := dk_180 0 19 (dk_at dksX4_twin_1 21 rfl rfl)
theorem dX4_twin_47 : decode cX4_twin 47 = .ok (.iconst 0, 1) := dk_3 (dk_at dksX4_twin_2 0 rfl rfl)
theorem dX4_twin_48 : decode cX4_twin 48 = .ok (.aload_n 1, 1) := dk_43 (dk_at dksX4_twin_2 1 rfl rfl)
theorem dX4_twin_49 : decode cX4_twin 49 = .ok (.getfield 19, 3) := dk_180 0 19 (dk_at dksX4_twin_2 2 rfl rfl)
theorem dX4_twin_52 : decode cX4_twin 52 = .ok (.iconst 0, 1) := dk_3 (dk_at dksX4_twin_2 5 rfl rfl)
theorem dX4_twin_53 : decode cX4_twin 53 = .ok (.bipush 24, 2) := dk_16 24 (dk_at dksX4_twin_2 6 rfl rfl)
theorem dX4_twin_55 : decode cX4_twin 55 = .ok (.invokestatic 45, 3) := dk_184 0 45 (dk_at dksX4_twin_2 8 rfl rfl)
theorem dX4_twin_58 : decode cX4_twin 58 = .ok (.aload_n 0, 1) := dk_42 (dk_at dksX4_twin_2 11 rfl rfl)
theorem dX4_twin_59 : decode cX4_twin 59 = .ok (.getfield 23, 3) := dk_180 0 23 (dk_at dksX4_twin_2 12 rfl rfl)
theorem dX4_twin_62 : decode cX4_twin 62 = .ok (.iconst 0, 1) := dk_3 (dk_at dksX4_twin_2 15 rfl rfl)
theorem dX4_twin_63 : decode cX4_twin 63 = .ok (.aload_n 1, 1) := dk_43 (dk_at dksX4_twin_2 16 rfl rfl)
theorem dX4_twin_64 : decode cX4_twin 64 = .ok (.getfield 23, 3) := dk_180 0 23 (dk_at dksX4_twin_2 17 rfl rfl)
theorem dX4_twin_67 : decode cX4_twin 67 = .ok (.iconst 0, 1) := dk_3 (dk_at dksX4_twin_2 20 rfl rfl)
theorem dX4_twin_68 : decode cX4_twin 68 = .ok (.iconst 3, 1) := dk_6 (dk_at dksX4_twin_2 21 rfl rfl)
theorem dX4_twin_69 : decode cX4_twin 69 = .ok (.invokestatic 45, 3) := dk_184 0 45 (dk_at dksX4_twin_3 0 rfl rfl)
theorem dX4_twin_72 : decode cX4_twin 72 = .ok (.aload_n 0, 1) := dk_42 (dk_at dksX4_twin_3 3 rfl rfl)
theorem dX4_twin_73 : decode cX4_twin 73 = .ok (.getfield 27, 3) := dk_180 0 27 (dk_at dksX4_twin_3 4 rfl rfl)
theorem dX4_twin_76 : decode cX4_twin 76 = .ok (.iconst 0, 1) := dk_3 (dk_at dksX4_twin_3 7 rfl rfl)
theorem dX4_twin_77 : decode cX4_twin 77 = .ok (.aload_n 1, 1) := dk_43 (dk_at dksX4_twin_3 8 rfl rfl)
theorem dX4_twin_78 : decode cX4_twin 78 = .ok (.getfield 27, 3) := dk_180 0 27 (dk_at dksX4_twin_3 9 rfl rfl)
theorem dX4_twin_81 : decode cX4_twin 81 = .ok (.iconst 0, 1) := dk_3 (dk_at dksX4_twin_3 12 rfl rfl)
theorem dX4_twin_82 : decode cX4_twin 82 = .ok (.iconst 3, 1) := dk_6 (dk_at dksX4_twin_3 13 rfl rfl)
theorem dX4_twin_83 : decode cX4_twin 83 = .ok (.invokestatic 45, 3) := dk_184 0 45 (dk_at dksX4_twin_3 14 rfl rfl)
theorem dX4_twin_86 : decode cX4_twin 86 = .ok (.aload_n 1, 1) := dk_43 (dk_at dksX4_twin_3 17 rfl rfl)
theorem dX4_twin_87 : decode cX4_twin 87 = .ok (.aload_n 0, 1) := dk_42 (dk_at dksX4_twin_3 18 rfl rfl)
theorem dX4_twin_88 : decode cX4_twin 88 = .ok (.getfield 37, 3) := dk_180 0 37 (dk_at dksX4_twin_3 19 rfl rfl)
theorem dX4_twin_91 : decode cX4_twin 91 = .ok (.putfield 37, 3) := dk_181 0 37 (dk_at dksX4_twin_4 0 rfl rfl)
theorem dX4_twin_94 : decode cX4_twin 94 = .ok (.aload_n 1, 1) := dk_43 (dk_at dksX4_twin_4 3 rfl rfl)
theorem dX4_twin_95 : decode cX4_twin 95 = .ok (.aload_n 0, 1) := dk_42 (dk_at dksX4_twin_4 4 rfl rfl)
theorem dX4_twin_96 : decode cX4_twin 96 = .ok (.getfield 51, 3) := dk_180 0 51 (dk_at dksX4_twin_4 5 rfl rfl)
theorem dX4_twin_99 : decode cX4_twin 99 = .ok (.putfield 51, 3) := dk_181 0 51 (dk_at dksX4_twin_4 8 rfl rfl)
theorem dX4_twin_102 : decode cX4_twin 102 = .ok (.aload_n 1, 1) := dk_43 (dk_at dksX4_twin_4 11 rfl rfl)
theorem dX4_twin_103 : decode cX4_twin 103 = .ok (.aload_n 0, 1) := dk_42 (dk_at dksX4_twin_4 12 rfl rfl)
theorem dX4_twin_104 : decode cX4_twin 104 = .ok (.getfield 54, 3) := dk_180 0 54 (dk_at dksX4_twin_4 13 rfl rfl)
theorem dX4_twin_107 : decode cX4_twin 107 = .ok (.putfield 54, 3) := dk_181 0 54 (dk_at dksX4_twin_4 16 rfl rfl)
theorem dX4_twin_110 : decode cX4_twin 110 = .ok (.aload_n 1, 1) := dk_43 (dk_at dksX4_twin_4 19 rfl rfl)
theorem dX4_twin_111 : decode cX4_twin 111 = .ok (.aload_n 0, 1) := dk_42 (dk_at dksX4_twin_4 20 rfl rfl)
theorem dX4_twin_112 : decode cX4_twin 112 = .ok (.getfield 57, 3) := dk_180 0 57 (dk_at dksX4_twin_4 21 rfl rfl)
theorem dX4_twin_115 : decode cX4_twin 115 = .ok (.putfield 57, 3) := dk_181 0 57 (dk_at dksX4_twin_5 0 rfl rfl)
theorem dX4_twin_118 : decode cX4_twin 118 = .ok (.aload_n 1, 1) := dk_43 (dk_at dksX4_twin_5 3 rfl rfl)
theorem dX4_twin_119 : decode cX4_twin 119 = .ok (.aload_n 0, 1) := dk_42 (dk_at dksX4_twin_5 4 rfl rfl)
theorem dX4_twin_120 : decode cX4_twin 120 = .ok (.getfield 60, 3) := dk_180 0 60 (dk_at dksX4_twin_5 5 rfl rfl)
theorem dX4_twin_123 : decode cX4_twin 123 = .ok (.putfield 60, 3) := dk_181 0 60 (dk_at dksX4_twin_5 8 rfl rfl)
theorem dX4_twin_126 : decode cX4_twin 126 = .ok (.aload_n 1, 1) := dk_43 (dk_at dksX4_twin_5 11 rfl rfl)
theorem dX4_twin_127 : decode cX4_twin 127 = .ok (.aload_n 0, 1) := dk_42 (dk_at dksX4_twin_5 12 rfl rfl)
theorem dX4_twin_128 : decode cX4_twin 128 = .ok (.getfield 63, 3) := dk_180 0 63 (dk_at dksX4_twin_5 13 rfl rfl)
theorem dX4_twin_131 : decode cX4_twin 131 = .ok (.putfield 63, 3) := dk_181 0 63 (dk_at dksX4_twin_5 16 rfl rfl)
theorem dX4_twin_134 : decode cX4_twin 134 = .ok (.aload_n 1, 1) := dk_43 (dk_at dksX4_twin_5 19 rfl rfl)
theorem dX4_twin_135 : decode cX4_twin 135 = .ok (.areturn, 1) := dk_176 (dk_at dksX4_twin_5 20 rfl rfl)
theorem q141 : (Jvm.Cond.initialized "CableDrawer$Drawer") ∈ lw_all := lw_g (lw_at lw_m1 8 rfl) rfl
theorem q337 : (Jvm.Cond.instantiable "CableDrawer$Drawer" (11 : Nat)) ∈ lw_all := lw_g (lw_at lw_m1 204 rfl) rfl
theorem q339 : (Jvm.Cond.instanceMethod ({ cls := "CableDrawer$Drawer", name := "<init>", desc := "([LCableDrawer$Crossing;)V" } : Jvm.MethodName)) ∈ lw_all := lw_g (lw_at lw_m1 206 rfl) rfl
theorem q340 : (Jvm.Cond.code ({ cls := "CableDrawer$Drawer", name := "<init>", desc := "([LCableDrawer$Crossing;)V" } : Jvm.MethodName) prog_3_method_1_code (2 : Nat) (Option.none : Option Jvm.ClassFile.FieldType)) ∈ lw_all := lw_g (lw_at lw_m1 207 rfl) rfl
theorem q341 : (Jvm.Cond.methodLink "CableDrawer$Drawer" (3 : Nat) ({ cls := "java/lang/Object", name := "<init>", desc := "()V" } : Jvm.MethodName)) ∈ lw_all := lw_g (lw_at lw_m1 208 rfl) rfl
theorem q342 : (Jvm.Cond.classLink "CableDrawer$Drawer" (9 : Nat) "CableDrawer$Lead") ∈ lw_all := lw_g (lw_at lw_m1 209 rfl) rfl
theorem q344 : (Jvm.Cond.classLink "CableDrawer$Drawer" (17 : Nat) "CableDrawer$Crossing") ∈ lw_all := lw_g (lw_at lw_m1 211 rfl) rfl
theorem q345 : (Jvm.Cond.fieldLink "CableDrawer$Drawer" (31 : Nat) "CableDrawer$Drawer" "kinds" "[LCableDrawer$Crossing;") ∈ lw_all := lw_g (lw_at lw_m1 212 rfl) rfl
theorem q346 : (Jvm.Cond.fieldLink "CableDrawer$Drawer" (11 : Nat) "CableDrawer$Drawer" "leads" "[LCableDrawer$Lead;") ∈ lw_all := lw_g (lw_at lw_m1 213 rfl) rfl
theorem q349 : (Jvm.Cond.fieldLink "CableDrawer$Drawer" (19 : Nat) "CableDrawer$Drawer" "row" "[LCableDrawer$Crossing;") ∈ lw_all := lw_g (lw_at lw_m1 216 rfl) rfl
theorem q351 : (Jvm.Cond.fieldLink "CableDrawer$Drawer" (23 : Nat) "CableDrawer$Drawer" "lookNames" "[J") ∈ lw_all := lw_g (lw_at lw_m1 218 rfl) rfl
theorem q353 : (Jvm.Cond.fieldLink "CableDrawer$Drawer" (27 : Nat) "CableDrawer$Drawer" "looks" "[I") ∈ lw_all := lw_g (lw_at lw_m1 220 rfl) rfl
theorem q356 : (Jvm.Cond.fieldLink "CableDrawer$Drawer" (37 : Nat) "CableDrawer$Drawer" "leadMany" "I") ∈ lw_all := lw_g (lw_at lw_m1 223 rfl) rfl
theorem q359 : (Jvm.Cond.fieldLink "CableDrawer$Drawer" (51 : Nat) "CableDrawer$Drawer" "many" "I") ∈ lw_all := lw_g (lw_at lw_m1 226 rfl) rfl
theorem q362 : (Jvm.Cond.fieldLink "CableDrawer$Drawer" (54 : Nat) "CableDrawer$Drawer" "lookMany" "I") ∈ lw_all := lw_g (lw_at lw_m1 229 rfl) rfl
theorem q365 : (Jvm.Cond.fieldLink "CableDrawer$Drawer" (57 : Nat) "CableDrawer$Drawer" "seconds" "I") ∈ lw_all := lw_g (lw_at lw_m1 232 rfl) rfl
theorem q367 : (Jvm.Cond.fieldLink "CableDrawer$Drawer" (60 : Nat) "CableDrawer$Drawer" "pence" "I") ∈ lw_all := lw_g (lw_at lw_m1 234 rfl) rfl
theorem q369 : (Jvm.Cond.fieldLink "CableDrawer$Drawer" (63 : Nat) "CableDrawer$Drawer" "openings" "I") ∈ lw_all := lw_g (lw_at lw_m1 236 rfl) rfl
theorem q371 : (Jvm.Cond.laysFinal "CableDrawer$Drawer" "CableDrawer$Drawer" "kinds" "[LCableDrawer$Crossing;") ∈ lw_all := lw_g (lw_at lw_m1 238 rfl) rfl
theorem q372 : (Jvm.Cond.soleField "CableDrawer$Drawer" "kinds") ∈ lw_all := lw_g (lw_at lw_m1 239 rfl) rfl
theorem q373 : (Jvm.Cond.laysFinal "CableDrawer$Drawer" "CableDrawer$Drawer" "leads" "[LCableDrawer$Lead;") ∈ lw_all := lw_g (lw_at lw_m2 0 rfl) rfl
theorem q374 : (Jvm.Cond.soleField "CableDrawer$Drawer" "leads") ∈ lw_all := lw_g (lw_at lw_m2 1 rfl) rfl
theorem q375 : (Jvm.Cond.laysFinal "CableDrawer$Drawer" "CableDrawer$Drawer" "row" "[LCableDrawer$Crossing;") ∈ lw_all := lw_g (lw_at lw_m2 2 rfl) rfl
theorem q376 : (Jvm.Cond.soleField "CableDrawer$Drawer" "row") ∈ lw_all := lw_g (lw_at lw_m2 3 rfl) rfl
theorem q377 : (Jvm.Cond.laysFinal "CableDrawer$Drawer" "CableDrawer$Drawer" "lookNames" "[J") ∈ lw_all := lw_g (lw_at lw_m2 4 rfl) rfl
theorem q378 : (Jvm.Cond.soleField "CableDrawer$Drawer" "lookNames") ∈ lw_all := lw_g (lw_at lw_m2 5 rfl) rfl
theorem q379 : (Jvm.Cond.laysFinal "CableDrawer$Drawer" "CableDrawer$Drawer" "looks" "[I") ∈ lw_all := lw_g (lw_at lw_m2 6 rfl) rfl
theorem q380 : (Jvm.Cond.soleField "CableDrawer$Drawer" "looks") ∈ lw_all := lw_g (lw_at lw_m2 7 rfl) rfl
theorem q381 : (Jvm.Cond.lays "CableDrawer$Drawer" "CableDrawer$Drawer" "leadMany" "I") ∈ lw_all := lw_g (lw_at lw_m2 8 rfl) rfl
theorem q382 : (Jvm.Cond.soleField "CableDrawer$Drawer" "leadMany") ∈ lw_all := lw_g (lw_at lw_m2 9 rfl) rfl
theorem q383 : (Jvm.Cond.lays "CableDrawer$Drawer" "CableDrawer$Drawer" "many" "I") ∈ lw_all := lw_g (lw_at lw_m2 10 rfl) rfl
theorem q384 : (Jvm.Cond.soleField "CableDrawer$Drawer" "many") ∈ lw_all := lw_g (lw_at lw_m2 11 rfl) rfl
theorem q385 : (Jvm.Cond.lays "CableDrawer$Drawer" "CableDrawer$Drawer" "lookMany" "I") ∈ lw_all := lw_g (lw_at lw_m2 12 rfl) rfl
theorem q386 : (Jvm.Cond.soleField "CableDrawer$Drawer" "lookMany") ∈ lw_all := lw_g (lw_at lw_m2 13 rfl) rfl
theorem q387 : (Jvm.Cond.lays "CableDrawer$Drawer" "CableDrawer$Drawer" "seconds" "I") ∈ lw_all := lw_g (lw_at lw_m2 14 rfl) rfl
theorem q388 : (Jvm.Cond.soleField "CableDrawer$Drawer" "seconds") ∈ lw_all := lw_g (lw_at lw_m2 15 rfl) rfl
theorem q389 : (Jvm.Cond.lays "CableDrawer$Drawer" "CableDrawer$Drawer" "pence" "I") ∈ lw_all := lw_g (lw_at lw_m2 16 rfl) rfl
theorem q390 : (Jvm.Cond.soleField "CableDrawer$Drawer" "pence") ∈ lw_all := lw_g (lw_at lw_m2 17 rfl) rfl
theorem q391 : (Jvm.Cond.lays "CableDrawer$Drawer" "CableDrawer$Drawer" "openings" "I") ∈ lw_all := lw_g (lw_at lw_m2 18 rfl) rfl
theorem q392 : (Jvm.Cond.soleField "CableDrawer$Drawer" "openings") ∈ lw_all := lw_g (lw_at lw_m2 19 rfl) rfl
theorem q393 : (Jvm.Cond.superclass "CableDrawer$Drawer" "java/lang/Object") ∈ lw_all := lw_g (lw_at lw_m2 20 rfl) rfl
theorem q793 : (Jvm.Cond.instanceMethod ({ cls := "CableDrawer$Drawer", name := "lead", desc := "(J)I" } : Jvm.MethodName)) ∈ lw_all := lw_g (lw_at lw_m3 180 rfl) rfl
theorem q794 : (Jvm.Cond.selects "CableDrawer$Drawer" ({ cls := "CableDrawer$Drawer", name := "lead", desc := "(J)I" } : Jvm.MethodName) ({ cls := "CableDrawer$Drawer", name := "lead", desc := "(J)I" } : Jvm.MethodName)) ∈ lw_all := lw_g (lw_at lw_m3 181 rfl) rfl
theorem q795 : (Jvm.Cond.code ({ cls := "CableDrawer$Drawer", name := "lead", desc := "(J)I" } : Jvm.MethodName) prog_3_method_3_code (4 : Nat) (Option.some Jvm.ClassFile.FieldType.int)) ∈ lw_all := lw_g (lw_at lw_m3 182 rfl) rfl
theorem q797 : (Jvm.Cond.instanceMethod ({ cls := "CableDrawer$Drawer", name := "look", desc := "(J)I" } : Jvm.MethodName)) ∈ lw_all := lw_g (lw_at lw_m3 184 rfl) rfl
theorem q798 : (Jvm.Cond.selects "CableDrawer$Drawer" ({ cls := "CableDrawer$Drawer", name := "look", desc := "(J)I" } : Jvm.MethodName) ({ cls := "CableDrawer$Drawer", name := "look", desc := "(J)I" } : Jvm.MethodName)) ∈ lw_all := lw_g (lw_at lw_m3 185 rfl) rfl
theorem q799 : (Jvm.Cond.code ({ cls := "CableDrawer$Drawer", name := "look", desc := "(J)I" } : Jvm.MethodName) prog_3_method_4_code (4 : Nat) (Option.some Jvm.ClassFile.FieldType.int)) ∈ lw_all := lw_g (lw_at lw_m3 186 rfl) rfl
theorem q805 : (Jvm.Cond.fieldLink "CableDrawer$Drawer" (66 : Nat) "CableDrawer$Lead" "name" "J") ∈ lw_all := lw_g (lw_at lw_m3 192 rfl) rfl
theorem q811 : (Jvm.Cond.fieldLinkNest "CableDrawer$Drawer" (99 : Nat) "CableDrawer$Lead" "stiff" "I" "CableDrawer") ∈ lw_tbl := lw_at lw_m3 198 rfl
theorem q821 : (Jvm.Cond.fieldLinkNest "CableDrawer$Drawer" (145 : Nat) "CableDrawer$Lead" "costs" "I" "CableDrawer") ∈ lw_tbl := lw_at lw_m3 208 rfl
theorem q828 : (Jvm.Cond.fieldLinkNest "CableDrawer$Drawer" (151 : Nat) "CableDrawer$Lead" "clip" "Z" "CableDrawer") ∈ lw_tbl := lw_at lw_m3 215 rfl
theorem q831 : (Jvm.Cond.fieldLinkNest "CableDrawer$Drawer" (70 : Nat) "CableDrawer$Lead" "gone" "Z" "CableDrawer") ∈ lw_tbl := lw_at lw_m3 218 rfl
theorem q888 : (Jvm.Cond.instanceMethod ({ cls := "CableDrawer$Drawer", name := "adds", desc := "(III)V" } : Jvm.MethodName)) ∈ lw_all := lw_g (lw_at lw_m4 35 rfl) rfl
theorem q889 : (Jvm.Cond.selects "CableDrawer$Drawer" ({ cls := "CableDrawer$Drawer", name := "adds", desc := "(III)V" } : Jvm.MethodName) ({ cls := "CableDrawer$Drawer", name := "adds", desc := "(III)V" } : Jvm.MethodName)) ∈ lw_all := lw_g (lw_at lw_m4 36 rfl) rfl
theorem q890 : (Jvm.Cond.code ({ cls := "CableDrawer$Drawer", name := "adds", desc := "(III)V" } : Jvm.MethodName) prog_3_method_6_code (5 : Nat) (Option.none : Option Jvm.ClassFile.FieldType)) ∈ lw_all := lw_g (lw_at lw_m4 37 rfl) rfl
theorem q891 : (Jvm.Cond.methodLink "CableDrawer$Drawer" (74 : Nat) ({ cls := "CableDrawer$Crossing", name := "of", desc := "(III)LCableDrawer$Crossing;" } : Jvm.MethodName)) ∈ lw_all := lw_g (lw_at lw_m4 38 rfl) rfl
theorem q904 : (Jvm.Cond.fieldLink "CableDrawer$Drawer" (78 : Nat) "CableDrawer$Crossing" "over" "I") ∈ lw_all := lw_g (lw_at lw_m4 51 rfl) rfl
theorem q907 : (Jvm.Cond.fieldLink "CableDrawer$Drawer" (81 : Nat) "CableDrawer$Crossing" "under" "I") ∈ lw_all := lw_g (lw_at lw_m4 54 rfl) rfl
theorem q1026 : (Jvm.Cond.instanceMethod ({ cls := "CableDrawer$Drawer", name := "inSet", desc := "()I" } : Jvm.MethodName)) ∈ lw_all := lw_g (lw_at lw_m4 173 rfl) rfl
theorem q1027 : (Jvm.Cond.selects "CableDrawer$Drawer" ({ cls := "CableDrawer$Drawer", name := "inSet", desc := "()I" } : Jvm.MethodName) ({ cls := "CableDrawer$Drawer", name := "inSet", desc := "()I" } : Jvm.MethodName)) ∈ lw_all := lw_g (lw_at lw_m4 174 rfl) rfl
theorem q1028 : (Jvm.Cond.code ({ cls := "CableDrawer$Drawer", name := "inSet", desc := "()I" } : Jvm.MethodName) prog_3_method_5_code (3 : Nat) (Option.some Jvm.ClassFile.FieldType.int)) ∈ lw_all := lw_g (lw_at lw_m4 175 rfl) rfl
theorem q1042 : (Jvm.Cond.instanceMethod ({ cls := "CableDrawer$Drawer", name := "crossings", desc := "(I)I" } : Jvm.MethodName)) ∈ lw_all := lw_g (lw_at lw_m4 189 rfl) rfl
theorem q1043 : (Jvm.Cond.selects "CableDrawer$Drawer" ({ cls := "CableDrawer$Drawer", name := "crossings", desc := "(I)I" } : Jvm.MethodName) ({ cls := "CableDrawer$Drawer", name := "crossings", desc := "(I)I" } : Jvm.MethodName)) ∈ lw_all := lw_g (lw_at lw_m4 190 rfl) rfl
theorem q1044 : (Jvm.Cond.code ({ cls := "CableDrawer$Drawer", name := "crossings", desc := "(I)I" } : Jvm.MethodName) prog_3_method_9_code (4 : Nat) (Option.some Jvm.ClassFile.FieldType.int)) ∈ lw_all := lw_g (lw_at lw_m4 191 rfl) rfl
theorem q1045 : (Jvm.Cond.methodLink "CableDrawer$Drawer" (88 : Nat) ({ cls := "CableDrawer$Crossing", name := "isOf", desc := "(I)Z" } : Jvm.MethodName)) ∈ lw_all := lw_g (lw_at lw_m4 192 rfl) rfl
theorem q1087 : (Jvm.Cond.instanceMethod ({ cls := "CableDrawer$Drawer", name := "along", desc := "(II)I" } : Jvm.MethodName)) ∈ lw_all := lw_g (lw_at lw_m4 234 rfl) rfl
theorem q1088 : (Jvm.Cond.selects "CableDrawer$Drawer" ({ cls := "CableDrawer$Drawer", name := "along", desc := "(II)I" } : Jvm.MethodName) ({ cls := "CableDrawer$Drawer", name := "along", desc := "(II)I" } : Jvm.MethodName)) ∈ lw_all := lw_g (lw_at lw_m4 235 rfl) rfl
theorem q1089 : (Jvm.Cond.code ({ cls := "CableDrawer$Drawer", name := "along", desc := "(II)I" } : Jvm.MethodName) prog_3_method_10_code (5 : Nat) (Option.some Jvm.ClassFile.FieldType.int)) ∈ lw_all := lw_g (lw_at lw_m4 236 rfl) rfl
theorem q1123 : (Jvm.Cond.instanceMethod ({ cls := "CableDrawer$Drawer", name := "follows", desc := "(II)I" } : Jvm.MethodName)) ∈ lw_all := lw_g (lw_at lw_m5 30 rfl) rfl
theorem q1124 : (Jvm.Cond.selects "CableDrawer$Drawer" ({ cls := "CableDrawer$Drawer", name := "follows", desc := "(II)I" } : Jvm.MethodName) ({ cls := "CableDrawer$Drawer", name := "follows", desc := "(II)I" } : Jvm.MethodName)) ∈ lw_all := lw_g (lw_at lw_m5 31 rfl) rfl
theorem q1125 : (Jvm.Cond.code ({ cls := "CableDrawer$Drawer", name := "follows", desc := "(II)I" } : Jvm.MethodName) prog_3_method_12_code (5 : Nat) (Option.some Jvm.ClassFile.FieldType.int)) ∈ lw_all := lw_g (lw_at lw_m5 32 rfl) rfl
theorem q1126 : (Jvm.Cond.methodLink "CableDrawer$Drawer" (102 : Nat) ({ cls := "CableDrawer$Drawer", name := "crossings", desc := "(I)I" } : Jvm.MethodName)) ∈ lw_all := lw_g (lw_at lw_m5 33 rfl) rfl
theorem q1127 : (Jvm.Cond.methodLink "CableDrawer$Drawer" (105 : Nat) ({ cls := "CableDrawer$Drawer", name := "along", desc := "(II)I" } : Jvm.MethodName)) ∈ lw_all := lw_g (lw_at lw_m5 34 rfl) rfl
theorem q1128 : (Jvm.Cond.methodLink "CableDrawer$Drawer" (109 : Nat) ({ cls := "CableDrawer$Drawer", name := "secondsOf", desc := "(LCableDrawer$Crossing;I)I" } : Jvm.MethodName)) ∈ lw_all := lw_g (lw_at lw_m5 35 rfl) rfl
theorem q1129 : (Jvm.Cond.instanceMethod ({ cls := "CableDrawer$Drawer", name := "secondsOf", desc := "(LCableDrawer$Crossing;I)I" } : Jvm.MethodName)) ∈ lw_all := lw_g (lw_at lw_m5 36 rfl) rfl
theorem q1130 : (Jvm.Cond.selects "CableDrawer$Drawer" ({ cls := "CableDrawer$Drawer", name := "secondsOf", desc := "(LCableDrawer$Crossing;I)I" } : Jvm.MethodName) ({ cls := "CableDrawer$Drawer", name := "secondsOf", desc := "(LCableDrawer$Crossing;I)I" } : Jvm.MethodName)) ∈ lw_all := lw_g (lw_at lw_m5 37 rfl) rfl
theorem q1131 : (Jvm.Cond.code ({ cls := "CableDrawer$Drawer", name := "secondsOf", desc := "(LCableDrawer$Crossing;I)I" } : Jvm.MethodName) prog_3_method_11_code (3 : Nat) (Option.some Jvm.ClassFile.FieldType.int)) ∈ lw_all := lw_g (lw_at lw_m5 38 rfl) rfl
theorem q1132 : (Jvm.Cond.methodLink "CableDrawer$Drawer" (92 : Nat) ({ cls := "CableDrawer$Crossing", name := "seconds", desc := "()I" } : Jvm.MethodName)) ∈ lw_all := lw_g (lw_at lw_m5 39 rfl) rfl
theorem q1149 : (Jvm.Cond.methodLink "CableDrawer$Drawer" (95 : Nat) ({ cls := "CableDrawer$Crossing", name := "other", desc := "(I)I" } : Jvm.MethodName)) ∈ lw_all := lw_g (lw_at lw_m5 56 rfl) rfl
theorem q1157 : (Jvm.Cond.methodLink "CableDrawer$Drawer" (113 : Nat) ({ cls := "CableDrawer$Drawer", name := "drops", desc := "(I)V" } : Jvm.MethodName)) ∈ lw_all := lw_g (lw_at lw_m5 64 rfl) rfl
theorem q1158 : (Jvm.Cond.instanceMethod ({ cls := "CableDrawer$Drawer", name := "drops", desc := "(I)V" } : Jvm.MethodName)) ∈ lw_all := lw_g (lw_at lw_m5 65 rfl) rfl
theorem q1159 : (Jvm.Cond.selects "CableDrawer$Drawer" ({ cls := "CableDrawer$Drawer", name := "drops", desc := "(I)V" } : Jvm.MethodName) ({ cls := "CableDrawer$Drawer", name := "drops", desc := "(I)V" } : Jvm.MethodName)) ∈ lw_all := lw_g (lw_at lw_m5 66 rfl) rfl
theorem q1160 : (Jvm.Cond.code ({ cls := "CableDrawer$Drawer", name := "drops", desc := "(I)V" } : Jvm.MethodName) prog_3_method_8_code (3 : Nat) (Option.none : Option Jvm.ClassFile.FieldType)) ∈ lw_all := lw_g (lw_at lw_m5 67 rfl) rfl
theorem q1166 : (Jvm.Cond.instanceMethod ({ cls := "CableDrawer$Drawer", name := "loosens", desc := "()I" } : Jvm.MethodName)) ∈ lw_all := lw_g (lw_at lw_m5 73 rfl) rfl
theorem q1167 : (Jvm.Cond.selects "CableDrawer$Drawer" ({ cls := "CableDrawer$Drawer", name := "loosens", desc := "()I" } : Jvm.MethodName) ({ cls := "CableDrawer$Drawer", name := "loosens", desc := "()I" } : Jvm.MethodName)) ∈ lw_all := lw_g (lw_at lw_m5 74 rfl) rfl
theorem q1168 : (Jvm.Cond.code ({ cls := "CableDrawer$Drawer", name := "loosens", desc := "()I" } : Jvm.MethodName) prog_3_method_13_code (3 : Nat) (Option.some Jvm.ClassFile.FieldType.int)) ∈ lw_all := lw_g (lw_at lw_m5 75 rfl) rfl
theorem q1169 : (Jvm.Cond.methodLink "CableDrawer$Drawer" (117 : Nat) ({ cls := "CableDrawer$Crossing", name := "loosened", desc := "()I" } : Jvm.MethodName)) ∈ lw_all := lw_g (lw_at lw_m5 76 rfl) rfl
theorem q1184 : (Jvm.Cond.methodLink "CableDrawer$Drawer" (120 : Nat) ({ cls := "CableDrawer$Drawer", name := "stays", desc := "(LCableDrawer$Crossing;I)V" } : Jvm.MethodName)) ∈ lw_all := lw_g (lw_at lw_m5 91 rfl) rfl
theorem q1185 : (Jvm.Cond.privateMethod ({ cls := "CableDrawer$Drawer", name := "stays", desc := "(LCableDrawer$Crossing;I)V" } : Jvm.MethodName)) ∈ lw_tbl := lw_at lw_m5 92 rfl
theorem q1186 : (Jvm.Cond.instanceMethod ({ cls := "CableDrawer$Drawer", name := "stays", desc := "(LCableDrawer$Crossing;I)V" } : Jvm.MethodName)) ∈ lw_all := lw_g (lw_at lw_m5 93 rfl) rfl
theorem q1187 : (Jvm.Cond.code ({ cls := "CableDrawer$Drawer", name := "stays", desc := "(LCableDrawer$Crossing;I)V" } : Jvm.MethodName) prog_3_method_7_code (3 : Nat) (Option.none : Option Jvm.ClassFile.FieldType)) ∈ lw_all := lw_g (lw_at lw_m5 94 rfl) rfl
theorem q1188 : (Jvm.Cond.methodLink "CableDrawer$Drawer" (84 : Nat) ({ cls := "CableDrawer$Drawer", name := "adds", desc := "(III)V" } : Jvm.MethodName)) ∈ lw_all := lw_g (lw_at lw_m5 95 rfl) rfl
theorem q1198 : (Jvm.Cond.instanceMethod ({ cls := "CableDrawer$Drawer", name := "pulls", desc := "(I)I" } : Jvm.MethodName)) ∈ lw_all := lw_g (lw_at lw_m5 105 rfl) rfl
theorem q1199 : (Jvm.Cond.selects "CableDrawer$Drawer" ({ cls := "CableDrawer$Drawer", name := "pulls", desc := "(I)I" } : Jvm.MethodName) ({ cls := "CableDrawer$Drawer", name := "pulls", desc := "(I)I" } : Jvm.MethodName)) ∈ lw_all := lw_g (lw_at lw_m5 106 rfl) rfl
theorem q1200 : (Jvm.Cond.code ({ cls := "CableDrawer$Drawer", name := "pulls", desc := "(I)I" } : Jvm.MethodName) prog_3_method_17_code (5 : Nat) (Option.some Jvm.ClassFile.FieldType.int)) ∈ lw_all := lw_g (lw_at lw_m5 107 rfl) rfl
theorem q1201 : (Jvm.Cond.methodLink "CableDrawer$Drawer" (128 : Nat) ({ cls := "CableDrawer$Drawer", name := "lump", desc := "(I)I" } : Jvm.MethodName)) ∈ lw_all := lw_g (lw_at lw_m5 108 rfl) rfl
theorem q1202 : (Jvm.Cond.instanceMethod ({ cls := "CableDrawer$Drawer", name := "lump", desc := "(I)I" } : Jvm.MethodName)) ∈ lw_all := lw_g (lw_at lw_m5 109 rfl) rfl
theorem q1203 : (Jvm.Cond.selects "CableDrawer$Drawer" ({ cls := "CableDrawer$Drawer", name := "lump", desc := "(I)I" } : Jvm.MethodName) ({ cls := "CableDrawer$Drawer", name := "lump", desc := "(I)I" } : Jvm.MethodName)) ∈ lw_all := lw_g (lw_at lw_m5 110 rfl) rfl
theorem q1204 : (Jvm.Cond.code ({ cls := "CableDrawer$Drawer", name := "lump", desc := "(I)I" } : Jvm.MethodName) prog_3_method_14_code (5 : Nat) (Option.some Jvm.ClassFile.FieldType.int)) ∈ lw_all := lw_g (lw_at lw_m5 111 rfl) rfl
theorem q1205 : (Jvm.Cond.methodLink "CableDrawer$Drawer" (124 : Nat) ({ cls := "CableDrawer$Crossing", name := "holds", desc := "()Z" } : Jvm.MethodName)) ∈ lw_all := lw_g (lw_at lw_m5 112 rfl) rfl
theorem q1215 : (Jvm.Cond.methodLink "CableDrawer$Drawer" (131 : Nat) ({ cls := "CableDrawer$Crossing", name := "pulled", desc := "()I" } : Jvm.MethodName)) ∈ lw_all := lw_g (lw_at lw_m5 122 rfl) rfl
theorem q1228 : (Jvm.Cond.methodLink "CableDrawer$Drawer" (134 : Nat) ({ cls := "CableDrawer$Crossing", name := "state", desc := "()I" } : Jvm.MethodName)) ∈ lw_all := lw_g (lw_at lw_m5 135 rfl) rfl
theorem q1229 : (Jvm.Cond.methodLink "CableDrawer$Drawer" (137 : Nat) ({ cls := "java/lang/Integer", name := "bitCount", desc := "(I)I" } : Jvm.MethodName)) ∈ lw_all := lw_g (lw_at lw_m5 136 rfl) rfl
theorem q1240 : (Jvm.Cond.instanceMethod ({ cls := "CableDrawer$Drawer", name := "cuts", desc := "(I)I" } : Jvm.MethodName)) ∈ lw_all := lw_g (lw_at lw_m5 147 rfl) rfl
theorem q1241 : (Jvm.Cond.selects "CableDrawer$Drawer" ({ cls := "CableDrawer$Drawer", name := "cuts", desc := "(I)I" } : Jvm.MethodName) ({ cls := "CableDrawer$Drawer", name := "cuts", desc := "(I)I" } : Jvm.MethodName)) ∈ lw_all := lw_g (lw_at lw_m5 148 rfl) rfl
theorem q1242 : (Jvm.Cond.code ({ cls := "CableDrawer$Drawer", name := "cuts", desc := "(I)I" } : Jvm.MethodName) prog_3_method_18_code (3 : Nat) (Option.some Jvm.ClassFile.FieldType.int)) ∈ lw_all := lw_g (lw_at lw_m5 149 rfl) rfl
theorem q1243 : (Jvm.Cond.methodLink "CableDrawer$Drawer" (142 : Nat) ({ cls := "CableDrawer$Drawer", name := "leaves", desc := "(I)V" } : Jvm.MethodName)) ∈ lw_all := lw_g (lw_at lw_m5 150 rfl) rfl
theorem q1244 : (Jvm.Cond.instanceMethod ({ cls := "CableDrawer$Drawer", name := "leaves", desc := "(I)V" } : Jvm.MethodName)) ∈ lw_all := lw_g (lw_at lw_m5 151 rfl) rfl
theorem q1245 : (Jvm.Cond.selects "CableDrawer$Drawer" ({ cls := "CableDrawer$Drawer", name := "leaves", desc := "(I)V" } : Jvm.MethodName) ({ cls := "CableDrawer$Drawer", name := "leaves", desc := "(I)V" } : Jvm.MethodName)) ∈ lw_all := lw_g (lw_at lw_m5 152 rfl) rfl
theorem q1246 : (Jvm.Cond.code ({ cls := "CableDrawer$Drawer", name := "leaves", desc := "(I)V" } : Jvm.MethodName) prog_3_method_16_code (3 : Nat) (Option.none : Option Jvm.ClassFile.FieldType)) ∈ lw_all := lw_g (lw_at lw_m5 153 rfl) rfl
theorem q1252 : (Jvm.Cond.instanceMethod ({ cls := "CableDrawer$Drawer", name := "clips", desc := "(I)Z" } : Jvm.MethodName)) ∈ lw_all := lw_g (lw_at lw_m5 159 rfl) rfl
theorem q1253 : (Jvm.Cond.selects "CableDrawer$Drawer" ({ cls := "CableDrawer$Drawer", name := "clips", desc := "(I)Z" } : Jvm.MethodName) ({ cls := "CableDrawer$Drawer", name := "clips", desc := "(I)Z" } : Jvm.MethodName)) ∈ lw_all := lw_g (lw_at lw_m5 160 rfl) rfl
theorem q1254 : (Jvm.Cond.code ({ cls := "CableDrawer$Drawer", name := "clips", desc := "(I)Z" } : Jvm.MethodName) prog_3_method_19_code (2 : Nat) (Option.some Jvm.ClassFile.FieldType.boolean)) ∈ lw_all := lw_g (lw_at lw_m5 161 rfl) rfl
theorem q1255 : (Jvm.Cond.methodLink "CableDrawer$Drawer" (148 : Nat) ({ cls := "CableDrawer$Lead", name := "mayTangle", desc := "()Z" } : Jvm.MethodName)) ∈ lw_all := lw_g (lw_at lw_m5 162 rfl) rfl
theorem q1303 : (Jvm.Cond.instanceMethod ({ cls := "CableDrawer$Drawer", name := "largest", desc := "()I" } : Jvm.MethodName)) ∈ lw_all := lw_g (lw_at lw_m5 210 rfl) rfl
theorem q1304 : (Jvm.Cond.selects "CableDrawer$Drawer" ({ cls := "CableDrawer$Drawer", name := "largest", desc := "()I" } : Jvm.MethodName) ({ cls := "CableDrawer$Drawer", name := "largest", desc := "()I" } : Jvm.MethodName)) ∈ lw_all := lw_g (lw_at lw_m5 211 rfl) rfl
theorem q1305 : (Jvm.Cond.code ({ cls := "CableDrawer$Drawer", name := "largest", desc := "()I" } : Jvm.MethodName) prog_3_method_20_code (3 : Nat) (Option.some Jvm.ClassFile.FieldType.int)) ∈ lw_all := lw_g (lw_at lw_m5 212 rfl) rfl
theorem q1306 : (Jvm.Cond.methodLink "CableDrawer$Drawer" (154 : Nat) ({ cls := "java/lang/Math", name := "max", desc := "(II)I" } : Jvm.MethodName)) ∈ lw_all := lw_g (lw_at lw_m5 213 rfl) rfl
theorem q1308 : (Jvm.Cond.instanceMethod ({ cls := "CableDrawer$Drawer", name := "comes", desc := "(I)Z" } : Jvm.MethodName)) ∈ lw_all := lw_g (lw_at lw_m5 215 rfl) rfl
theorem q1309 : (Jvm.Cond.selects "CableDrawer$Drawer" ({ cls := "CableDrawer$Drawer", name := "comes", desc := "(I)Z" } : Jvm.MethodName) ({ cls := "CableDrawer$Drawer", name := "comes", desc := "(I)Z" } : Jvm.MethodName)) ∈ lw_all := lw_g (lw_at lw_m5 216 rfl) rfl
theorem q1310 : (Jvm.Cond.code ({ cls := "CableDrawer$Drawer", name := "comes", desc := "(I)Z" } : Jvm.MethodName) prog_3_method_15_code (2 : Nat) (Option.some Jvm.ClassFile.FieldType.boolean)) ∈ lw_all := lw_g (lw_at lw_m5 217 rfl) rfl
theorem q1324 : (Jvm.Cond.instanceMethod ({ cls := "CableDrawer$Drawer", name := "isFree", desc := "(I)Z" } : Jvm.MethodName)) ∈ lw_all := lw_g (lw_at lw_m5 231 rfl) rfl
theorem q1325 : (Jvm.Cond.selects "CableDrawer$Drawer" ({ cls := "CableDrawer$Drawer", name := "isFree", desc := "(I)Z" } : Jvm.MethodName) ({ cls := "CableDrawer$Drawer", name := "isFree", desc := "(I)Z" } : Jvm.MethodName)) ∈ lw_all := lw_g (lw_at lw_m5 232 rfl) rfl
theorem q1326 : (Jvm.Cond.code ({ cls := "CableDrawer$Drawer", name := "isFree", desc := "(I)Z" } : Jvm.MethodName) prog_3_method_21_code (2 : Nat) (Option.some Jvm.ClassFile.FieldType.boolean)) ∈ lw_all := lw_g (lw_at lw_m5 233 rfl) rfl
theorem q1340 : (Jvm.Cond.instanceMethod ({ cls := "CableDrawer$Drawer", name := "twin", desc := "()LCableDrawer$Drawer;" } : Jvm.MethodName)) ∈ lw_all := lw_g (lw_at lw_m6 7 rfl) rfl
theorem q1341 : (Jvm.Cond.selects "CableDrawer$Drawer" ({ cls := "CableDrawer$Drawer", name := "twin", desc := "()LCableDrawer$Drawer;" } : Jvm.MethodName) ({ cls := "CableDrawer$Drawer", name := "twin", desc := "()LCableDrawer$Drawer;" } : Jvm.MethodName)) ∈ lw_all := lw_g (lw_at lw_m6 8 rfl) rfl
theorem q1342 : (Jvm.Cond.code ({ cls := "CableDrawer$Drawer", name := "twin", desc := "()LCableDrawer$Drawer;" } : Jvm.MethodName) prog_3_method_2_code (3 : Nat) (Option.some (Jvm.ClassFile.FieldType.object "CableDrawer$Drawer"))) ∈ lw_all := lw_g (lw_at lw_m6 9 rfl) rfl
theorem q1343 : (Jvm.Cond.classLink "CableDrawer$Drawer" (12 : Nat) "CableDrawer$Drawer") ∈ lw_all := lw_g (lw_at lw_m6 10 rfl) rfl
theorem q1344 : (Jvm.Cond.methodLink "CableDrawer$Drawer" (34 : Nat) ({ cls := "CableDrawer$Drawer", name := "<init>", desc := "([LCableDrawer$Crossing;)V" } : Jvm.MethodName)) ∈ lw_all := lw_g (lw_at lw_m6 11 rfl) rfl
theorem q1345 : (Jvm.Cond.methodLink "CableDrawer$Drawer" (41 : Nat) ({ cls := "CableDrawer$Lead", name := "twin", desc := "()LCableDrawer$Lead;" } : Jvm.MethodName)) ∈ lw_all := lw_g (lw_at lw_m6 12 rfl) rfl
theorem q1351 : (Jvm.Cond.methodLink "CableDrawer$Drawer" (45 : Nat) ({ cls := "java/lang/System", name := "arraycopy", desc := "(Ljava/lang/Object;ILjava/lang/Object;II)V" } : Jvm.MethodName)) ∈ lw_all := lw_g (lw_at lw_m6 18 rfl) rfl
theorem in_X4 : ∀ w ∈ wsX40, w ∈ lw_all := lw_in wsX40 [371, 373, 375, 377, 379, 381, 383, 385, 387, 389, 391] (by decide +kernel) (by decide +kernel)

/-! CableDrawer$Tray -/
set_option maxRecDepth 100000
def RX5 : String := "CableDrawer$Tray"
def TX5 : u_T := fun k => match k with
  | 0 => ("CableDrawer$Tray", "row", "Ljava/lang/Object;", false)
  | _ => ("CableDrawer$Tray", "sort", "I", false)
def tyX5 : Nat → FieldType := fun k => match k with
  | 0 => .object "java/lang/Object"
  | _ => .int
abbrev wsX50 : List Cond := u_ws RX5 TX5 2
theorem nmX5 : ∀ a, a < 2 → ∀ b, b < 2 → a ≠ b → (TX5 a).2.1 ≠ (TX5 b).2.1 := by decide +kernel
theorem tyX5_ok : ∀ k, k < 2 → parseFieldDescriptor (TX5 k).2.2.1 = some (tyX5 k) := by decide +kernel
abbrev cX5_init : ByteArray := prog_13_method_1_code
def yX5_init : MethodName := ⟨RX5, "<init>", "()V"⟩
theorem dX5_init_0 : decode cX5_init 0 = .ok (.aload_n 0, 1) := by decide +kernel
theorem dX5_init_1 : decode cX5_init 1 = .ok (.invokespecial 1, 3) := by decide +kernel
theorem dX5_init_4 : decode cX5_init 4 = .ok (.return_, 1) := by decide +kernel
abbrev cX5_make : ByteArray := prog_13_method_2_code
def yX5_make : MethodName := ⟨RX5, "make", "(II)V"⟩
def dkwX5_make_1 : List UInt8 := [160, 0, 9, 28, 188, 10, 167, 0, 6, 28, 188, 11, 78, 42, 45, 181, 0, 7, 42, 27, 181, 0, 13, 177]
abbrev dktX5_make_1 : List UInt8 := dkwX5_make_1 ++ []
def dkwX5_make_0 : List UInt8 := [27, 154, 0, 9, 28, 188, 8, 167, 0, 28, 27, 4, 160, 0, 9, 28, 188, 9, 167, 0, 17, 27, 5]
abbrev dktX5_make_0 : List UInt8 := dkwX5_make_0 ++ dktX5_make_1
theorem dksX5_make_0 : cX5_make.data.toList.drop 0 = dktX5_make_0 := by decide +kernel
theorem dksX5_make_1 : cX5_make.data.toList.drop 23 = dktX5_make_1 := dk_seg dksX5_make_0 23 rfl rfl
theorem dX5_make_0 : decode cX5_make 0 = .ok (.iload_n 1, 1) := dk_27 (dk_at dksX5_make_0 0 rfl rfl)
theorem dX5_make_1 : decode cX5_make 1 = .ok (.ifCond .ne 9, 3) := dk_154 0 9 (dk_at dksX5_make_0 1 rfl rfl)
theorem dX5_make_4 : decode cX5_make 4 = .ok (.iload_n 2, 1) := dk_28 (dk_at dksX5_make_0 4 rfl rfl)
theorem dX5_make_5 : decode cX5_make 5 = .ok (.newarray .byte, 2) := dk_188_8 (dk_at dksX5_make_0 5 rfl rfl)
theorem dX5_make_7 : decode cX5_make 7 = .ok (.goto 28, 3) := dk_167 0 28 (dk_at dksX5_make_0 7 rfl rfl)
theorem dX5_make_10 : decode cX5_make 10 = .ok (.iload_n 1, 1) := dk_27 (dk_at dksX5_make_0 10 rfl rfl)
theorem dX5_make_11 : decode cX5_make 11 = .ok (.iconst 1, 1) := dk_4 (dk_at dksX5_make_0 11 rfl rfl)
theorem dX5_make_12 : decode cX5_make 12 = .ok (.if_icmp .ne 9, 3) := dk_160 0 9 (dk_at dksX5_make_0 12 rfl rfl)
theorem dX5_make_15 : decode cX5_make 15 = .ok (.iload_n 2, 1) := dk_28 (dk_at dksX5_make_0 15 rfl rfl)
theorem dX5_make_16 : decode cX5_make 16 = .ok (.newarray .short, 2) := dk_188_9 (dk_at dksX5_make_0 16 rfl rfl)
theorem dX5_make_18 : decode cX5_make 18 = .ok (.goto 17, 3) := dk_167 0 17 (dk_at dksX5_make_0 18 rfl rfl)
theorem dX5_make_21 : decode cX5_make 21 = .ok (.iload_n 1, 1) := dk_27 (dk_at dksX5_make_0 21 rfl rfl)
theorem dX5_make_22 : decode cX5_make 22 = .ok (.iconst 2, 1) := dk_5 (dk_at dksX5_make_0 22 rfl rfl)
theorem dX5_make_23 : decode cX5_make 23 = .ok (.if_icmp .ne 9, 3) := dk_160 0 9 (dk_at dksX5_make_1 0 rfl rfl)
theorem dX5_make_26 : decode cX5_make 26 = .ok (.iload_n 2, 1) := dk_28 (dk_at dksX5_make_1 3 rfl rfl)
theorem dX5_make_27 : decode cX5_make 27 = .ok (.newarray .int, 2) := dk_188_10 (dk_at dksX5_make_1 4 rfl rfl)
theorem dX5_make_29 : decode cX5_make 29 = .ok (.goto 6, 3) := dk_167 0 6 (dk_at dksX5_make_1 6 rfl rfl)
theorem dX5_make_32 : decode cX5_make 32 = .ok (.iload_n 2, 1) := dk_28 (dk_at dksX5_make_1 9 rfl rfl)
theorem dX5_make_33 : decode cX5_make 33 = .ok (.newarray .long, 2) := dk_188_11 (dk_at dksX5_make_1 10 rfl rfl)
theorem dX5_make_35 : decode cX5_make 35 = .ok (.astore_n 3, 1) := dk_78 (dk_at dksX5_make_1 12 rfl rfl)
theorem dX5_make_36 : decode cX5_make 36 = .ok (.aload_n 0, 1) := dk_42 (dk_at dksX5_make_1 13 rfl rfl)
theorem dX5_make_37 : decode cX5_make 37 = .ok (.aload_n 3, 1) := dk_45 (dk_at dksX5_make_1 14 rfl rfl)
theorem dX5_make_38 : decode cX5_make 38 = .ok (.putfield 7, 3) := dk_181 0 7 (dk_at dksX5_make_1 15 rfl rfl)
theorem dX5_make_41 : decode cX5_make 41 = .ok (.aload_n 0, 1) := dk_42 (dk_at dksX5_make_1 18 rfl rfl)
theorem dX5_make_42 : decode cX5_make 42 = .ok (.iload_n 1, 1) := dk_27 (dk_at dksX5_make_1 19 rfl rfl)
theorem dX5_make_43 : decode cX5_make 43 = .ok (.putfield 13, 3) := dk_181 0 13 (dk_at dksX5_make_1 20 rfl rfl)
theorem dX5_make_46 : decode cX5_make 46 = .ok (.return_, 1) := dk_177 (dk_at dksX5_make_1 23 rfl rfl)
abbrev cX5_set : ByteArray := prog_13_method_5_code
def yX5_set : MethodName := ⟨RX5, "set", "(IJ)V"⟩
def dkwX5_set_3 : List UInt8 := [180, 0, 7, 192, 0, 23, 27, 32, 80, 177]
abbrev dktX5_set_3 : List UInt8 := dkwX5_set_3 ++ []
def dkwX5_set_2 : List UInt8 := [180, 0, 13, 5, 160, 0, 17, 42, 180, 0, 7, 192, 0, 21, 27, 32, 136, 79, 167, 0, 13, 42]
abbrev dktX5_set_2 : List UInt8 := dkwX5_set_2 ++ dktX5_set_3
def dkwX5_set_1 : List UInt8 := [180, 0, 13, 4, 160, 0, 18, 42, 180, 0, 7, 192, 0, 19, 27, 32, 136, 147, 86, 167, 0, 35, 42]
abbrev dktX5_set_1 : List UInt8 := dkwX5_set_1 ++ dktX5_set_2
def dkwX5_set_0 : List UInt8 := [42, 180, 0, 13, 154, 0, 18, 42, 180, 0, 7, 192, 0, 17, 27, 32, 136, 145, 84, 167, 0, 58, 42]
abbrev dktX5_set_0 : List UInt8 := dkwX5_set_0 ++ dktX5_set_1
theorem dksX5_set_0 : cX5_set.data.toList.drop 0 = dktX5_set_0 := by decide +kernel
theorem dksX5_set_1 : cX5_set.data.toList.drop 23 = dktX5_set_1 := dk_seg dksX5_set_0 23 rfl rfl
theorem dksX5_set_2 : cX5_set.data.toList.drop 46 = dktX5_set_2 := dk_seg dksX5_set_1 23 rfl rfl
theorem dksX5_set_3 : cX5_set.data.toList.drop 68 = dktX5_set_3 := dk_seg dksX5_set_2 22 rfl rfl
theorem dX5_set_0 : decode cX5_set 0 = .ok (.aload_n 0, 1) := dk_42 (dk_at dksX5_set_0 0 rfl rfl)
theorem dX5_set_1 : decode cX5_set 1 = .ok (.getfield 13, 3) := dk_180 0 13 (dk_at dksX5_set_0 1 rfl rfl)
theorem dX5_set_4 : decode cX5_set 4 = .ok (.ifCond .ne 18, 3) := dk_154 0 18 (dk_at dksX5_set_0 4 rfl rfl)
theorem dX5_set_7 : decode cX5_set 7 = .ok (.aload_n 0, 1) := dk_42 (dk_at dksX5_set_0 7 rfl rfl)
theorem dX5_set_8 : decode cX5_set 8 = .ok (.getfield 7, 3) := dk_180 0 7 (dk_at dksX5_set_0 8 rfl rfl)
theorem dX5_set_11 : decode cX5_set 11 = .ok (.checkcast 17, 3) := dk_192 0 17 (dk_at dksX5_set_0 11 rfl rfl)
theorem dX5_set_14 : decode cX5_set 14 = .ok (.iload_n 1, 1) := dk_27 (dk_at dksX5_set_0 14 rfl rfl)
theorem dX5_set_15 : decode cX5_set 15 = .ok (.lload_n 2, 1) := dk_32 (dk_at dksX5_set_0 15 rfl rfl)
theorem dX5_set_16 : decode cX5_set 16 = .ok (.l2i, 1) := dk_136 (dk_at dksX5_set_0 16 rfl rfl)
theorem dX5_set_17 : decode cX5_set 17 = .ok (.i2b, 1) := dk_145 (dk_at dksX5_set_0 17 rfl rfl)
theorem dX5_set_18 : decode cX5_set 18 = .ok (.bastore, 1) := dk_84 (dk_at dksX5_set_0 18 rfl rfl)
theorem dX5_set_19 : decode cX5_set 19 = .ok (.goto 58, 3) := dk_167 0 58 (dk_at dksX5_set_0 19 rfl rfl)
theorem dX5_set_22 : decode cX5_set 22 = .ok (.aload_n 0, 1) := dk_42 (dk_at dksX5_set_0 22 rfl rfl)
theorem dX5_set_23 : decode cX5_set 23 = .ok (.getfield 13, 3) := dk_180 0 13 (dk_at dksX5_set_1 0 rfl rfl)
theorem dX5_set_26 : decode cX5_set 26 = .ok (.iconst 1, 1) := dk_4 (dk_at dksX5_set_1 3 rfl rfl)
theorem dX5_set_27 : decode cX5_set 27 = .ok (.if_icmp .ne 18, 3) := dk_160 0 18 (dk_at dksX5_set_1 4 rfl rfl)
theorem dX5_set_30 : decode cX5_set 30 = .ok (.aload_n 0, 1) := dk_42 (dk_at dksX5_set_1 7 rfl rfl)
theorem dX5_set_31 : decode cX5_set 31 = .ok (.getfield 7, 3) := dk_180 0 7 (dk_at dksX5_set_1 8 rfl rfl)
theorem dX5_set_34 : decode cX5_set 34 = .ok (.checkcast 19, 3) := dk_192 0 19 (dk_at dksX5_set_1 11 rfl rfl)
theorem dX5_set_37 : decode cX5_set 37 = .ok (.iload_n 1, 1) := dk_27 (dk_at dksX5_set_1 14 rfl rfl)
theorem dX5_set_38 : decode cX5_set 38 = .ok (.lload_n 2, 1) := dk_32 (dk_at dksX5_set_1 15 rfl rfl)
theorem dX5_set_39 : decode cX5_set 39 = .ok (.l2i, 1) := dk_136 (dk_at dksX5_set_1 16 rfl rfl)
theorem dX5_set_40 : decode cX5_set 40 = .ok (.i2s, 1) := dk_147 (dk_at dksX5_set_1 17 rfl rfl)
theorem dX5_set_41 : decode cX5_set 41 = .ok (.sastore, 1) := dk_86 (dk_at dksX5_set_1 18 rfl rfl)
theorem dX5_set_42 : decode cX5_set 42 = .ok (.goto 35, 3) := dk_167 0 35 (dk_at dksX5_set_1 19 rfl rfl)
theorem dX5_set_45 : decode cX5_set 45 = .ok (.aload_n 0, 1) := dk_42 (dk_at dksX5_set_1 22 rfl rfl)
theorem dX5_set_46 : decode cX5_set 46 = .ok (.getfield 13, 3) := dk_180 0 13 (dk_at dksX5_set_2 0 rfl rfl)
theorem dX5_set_49 : decode cX5_set 49 = .ok (.iconst 2, 1) := dk_5 (dk_at dksX5_set_2 3 rfl rfl)
theorem dX5_set_50 : decode cX5_set 50 = .ok (.if_icmp .ne 17, 3) := dk_160 0 17 (dk_at dksX5_set_2 4 rfl rfl)
theorem dX5_set_53 : decode cX5_set 53 = .ok (.aload_n 0, 1) := dk_42 (dk_at dksX5_set_2 7 rfl rfl)
theorem dX5_set_54 : decode cX5_set 54 = .ok (.getfield 7, 3) := dk_180 0 7 (dk_at dksX5_set_2 8 rfl rfl)
theorem dX5_set_57 : decode cX5_set 57 = .ok (.checkcast 21, 3) := dk_192 0 21 (dk_at dksX5_set_2 11 rfl rfl)
theorem dX5_set_60 : decode cX5_set 60 = .ok (.iload_n 1, 1) := dk_27 (dk_at dksX5_set_2 14 rfl rfl)
theorem dX5_set_61 : decode cX5_set 61 = .ok (.lload_n 2, 1) := dk_32 (dk_at dksX5_set_2 15 rfl rfl)
theorem dX5_set_62 : decode cX5_set 62 = .ok (.l2i, 1) := dk_136 (dk_at dksX5_set_2 16 rfl rfl)
theorem dX5_set_63 : decode cX5_set 63 = .ok (.iastore, 1) := dk_79 (dk_at dksX5_set_2 17 rfl rfl)
theorem dX5_set_64 : decode cX5_set 64 = .ok (.goto 13, 3) := dk_167 0 13 (dk_at dksX5_set_2 18 rfl rfl)
theorem dX5_set_67 : decode cX5_set 67 = .ok (.aload_n 0, 1) := dk_42 (dk_at dksX5_set_2 21 rfl rfl)
theorem dX5_set_68 : decode cX5_set 68 = .ok (.getfield 7, 3) := dk_180 0 7 (dk_at dksX5_set_3 0 rfl rfl)
theorem dX5_set_71 : decode cX5_set 71 = .ok (.checkcast 23, 3) := dk_192 0 23 (dk_at dksX5_set_3 3 rfl rfl)
theorem dX5_set_74 : decode cX5_set 74 = .ok (.iload_n 1, 1) := dk_27 (dk_at dksX5_set_3 6 rfl rfl)
theorem dX5_set_75 : decode cX5_set 75 = .ok (.lload_n 2, 1) := dk_32 (dk_at dksX5_set_3 7 rfl rfl)
theorem dX5_set_76 : decode cX5_set 76 = .ok (.lastore, 1) := dk_80 (dk_at dksX5_set_3 8 rfl rfl)
theorem dX5_set_77 : decode cX5_set 77 = .ok (.return_, 1) := dk_177 (dk_at dksX5_set_3 9 rfl rfl)
abbrev cX5_get : ByteArray := prog_13_method_4_code
def yX5_get : MethodName := ⟨RX5, "get", "(I)J"⟩
def dkwX5_get_3 : List UInt8 := [47, 173]
abbrev dktX5_get_3 : List UInt8 := dkwX5_get_3 ++ []
def dkwX5_get_2 : List UInt8 := [160, 0, 16, 42, 180, 0, 7, 192, 0, 21, 27, 46, 133, 167, 0, 12, 42, 180, 0, 7, 192, 0, 23, 27]
abbrev dktX5_get_2 : List UInt8 := dkwX5_get_2 ++ dktX5_get_3
def dkwX5_get_1 : List UInt8 := [4, 160, 0, 16, 42, 180, 0, 7, 192, 0, 19, 27, 53, 133, 167, 0, 33, 42, 180, 0, 13, 5]
abbrev dktX5_get_1 : List UInt8 := dkwX5_get_1 ++ dktX5_get_2
def dkwX5_get_0 : List UInt8 := [42, 180, 0, 13, 154, 0, 16, 42, 180, 0, 7, 192, 0, 17, 27, 51, 133, 167, 0, 54, 42, 180, 0, 13]
abbrev dktX5_get_0 : List UInt8 := dkwX5_get_0 ++ dktX5_get_1
theorem dksX5_get_0 : cX5_get.data.toList.drop 0 = dktX5_get_0 := by decide +kernel
theorem dksX5_get_1 : cX5_get.data.toList.drop 24 = dktX5_get_1 := dk_seg dksX5_get_0 24 rfl rfl
theorem dksX5_get_2 : cX5_get.data.toList.drop 46 = dktX5_get_2 := dk_seg dksX5_get_1 22 rfl rfl
theorem dksX5_get_3 : cX5_get.data.toList.drop 70 = dktX5_get_3 := dk_seg dksX5_get_2 24 rfl rfl
theorem dX5_get_0 : decode cX5_get 0 = .ok (.aload_n 0, 1) := dk_42 (dk_at dksX5_get_0 0 rfl rfl)
theorem dX5_get_1 : decode cX5_get 1 = .ok (.getfield 13, 3) := dk_180 0 13 (dk_at dksX5_get_0 1 rfl rfl)
theorem dX5_get_4 : decode cX5_get 4 = .ok (.ifCond .ne 16, 3) := dk_154 0 16 (dk_at dksX5_get_0 4 rfl rfl)
theorem dX5_get_7 : decode cX5_get 7 = .ok (.aload_n 0, 1) := dk_42 (dk_at dksX5_get_0 7 rfl rfl)
theorem dX5_get_8 : decode cX5_get 8 = .ok (.getfield 7, 3) := dk_180 0 7 (dk_at dksX5_get_0 8 rfl rfl)
theorem dX5_get_11 : decode cX5_get 11 = .ok (.checkcast 17, 3) := dk_192 0 17 (dk_at dksX5_get_0 11 rfl rfl)
theorem dX5_get_14 : decode cX5_get 14 = .ok (.iload_n 1, 1) := dk_27 (dk_at dksX5_get_0 14 rfl rfl)
theorem dX5_get_15 : decode cX5_get 15 = .ok (.baload, 1) := dk_51 (dk_at dksX5_get_0 15 rfl rfl)
theorem dX5_get_16 : decode cX5_get 16 = .ok (.i2l, 1) := dk_133 (dk_at dksX5_get_0 16 rfl rfl)
theorem dX5_get_17 : decode cX5_get 17 = .ok (.goto 54, 3) := dk_167 0 54 (dk_at dksX5_get_0 17 rfl rfl)
theorem dX5_get_20 : decode cX5_get 20 = .ok (.aload_n 0, 1) := dk_42 (dk_at dksX5_get_0 20 rfl rfl)
theorem dX5_get_21 : decode cX5_get 21 = .ok (.getfield 13, 3) := dk_180 0 13 (dk_at dksX5_get_0 21 rfl rfl)
theorem dX5_get_24 : decode cX5_get 24 = .ok (.iconst 1, 1) := dk_4 (dk_at dksX5_get_1 0 rfl rfl)
theorem dX5_get_25 : decode cX5_get 25 = .ok (.if_icmp .ne 16, 3) := dk_160 0 16 (dk_at dksX5_get_1 1 rfl rfl)
theorem dX5_get_28 : decode cX5_get 28 = .ok (.aload_n 0, 1) := dk_42 (dk_at dksX5_get_1 4 rfl rfl)
theorem dX5_get_29 : decode cX5_get 29 = .ok (.getfield 7, 3) := dk_180 0 7 (dk_at dksX5_get_1 5 rfl rfl)
theorem dX5_get_32 : decode cX5_get 32 = .ok (.checkcast 19, 3) := dk_192 0 19 (dk_at dksX5_get_1 8 rfl rfl)
theorem dX5_get_35 : decode cX5_get 35 = .ok (.iload_n 1, 1) := dk_27 (dk_at dksX5_get_1 11 rfl rfl)
theorem dX5_get_36 : decode cX5_get 36 = .ok (.saload, 1) := dk_53 (dk_at dksX5_get_1 12 rfl rfl)
theorem dX5_get_37 : decode cX5_get 37 = .ok (.i2l, 1) := dk_133 (dk_at dksX5_get_1 13 rfl rfl)
theorem dX5_get_38 : decode cX5_get 38 = .ok (.goto 33, 3) := dk_167 0 33 (dk_at dksX5_get_1 14 rfl rfl)
theorem dX5_get_41 : decode cX5_get 41 = .ok (.aload_n 0, 1) := dk_42 (dk_at dksX5_get_1 17 rfl rfl)
theorem dX5_get_42 : decode cX5_get 42 = .ok (.getfield 13, 3) := dk_180 0 13 (dk_at dksX5_get_1 18 rfl rfl)
theorem dX5_get_45 : decode cX5_get 45 = .ok (.iconst 2, 1) := dk_5 (dk_at dksX5_get_1 21 rfl rfl)
theorem dX5_get_46 : decode cX5_get 46 = .ok (.if_icmp .ne 16, 3) := dk_160 0 16 (dk_at dksX5_get_2 0 rfl rfl)
theorem dX5_get_49 : decode cX5_get 49 = .ok (.aload_n 0, 1) := dk_42 (dk_at dksX5_get_2 3 rfl rfl)
theorem dX5_get_50 : decode cX5_get 50 = .ok (.getfield 7, 3) := dk_180 0 7 (dk_at dksX5_get_2 4 rfl rfl)
theorem dX5_get_53 : decode cX5_get 53 = .ok (.checkcast 21, 3) := dk_192 0 21 (dk_at dksX5_get_2 7 rfl rfl)
theorem dX5_get_56 : decode cX5_get 56 = .ok (.iload_n 1, 1) := dk_27 (dk_at dksX5_get_2 10 rfl rfl)
theorem dX5_get_57 : decode cX5_get 57 = .ok (.iaload, 1) := dk_46 (dk_at dksX5_get_2 11 rfl rfl)
theorem dX5_get_58 : decode cX5_get 58 = .ok (.i2l, 1) := dk_133 (dk_at dksX5_get_2 12 rfl rfl)
theorem dX5_get_59 : decode cX5_get 59 = .ok (.goto 12, 3) := dk_167 0 12 (dk_at dksX5_get_2 13 rfl rfl)
theorem dX5_get_62 : decode cX5_get 62 = .ok (.aload_n 0, 1) := dk_42 (dk_at dksX5_get_2 16 rfl rfl)
theorem dX5_get_63 : decode cX5_get 63 = .ok (.getfield 7, 3) := dk_180 0 7 (dk_at dksX5_get_2 17 rfl rfl)
theorem dX5_get_66 : decode cX5_get 66 = .ok (.checkcast 23, 3) := dk_192 0 23 (dk_at dksX5_get_2 20 rfl rfl)
theorem dX5_get_69 : decode cX5_get 69 = .ok (.iload_n 1, 1) := dk_27 (dk_at dksX5_get_2 23 rfl rfl)
theorem dX5_get_70 : decode cX5_get 70 = .ok (.laload, 1) := dk_47 (dk_at dksX5_get_3 0 rfl rfl)
theorem dX5_get_71 : decode cX5_get 71 = .ok (.lreturn, 1) := dk_173 (dk_at dksX5_get_3 1 rfl rfl)
abbrev cX5_many : ByteArray := prog_13_method_3_code
def yX5_many : MethodName := ⟨RX5, "many", "()I"⟩
def dkwX5_many_2 : List UInt8 := [180, 0, 7, 192, 0, 21, 190, 167, 0, 11, 42, 180, 0, 7, 192, 0, 23, 190, 172]
abbrev dktX5_many_2 : List UInt8 := dkwX5_many_2 ++ []
def dkwX5_many_1 : List UInt8 := [160, 0, 14, 42, 180, 0, 7, 192, 0, 19, 190, 167, 0, 30, 42, 180, 0, 13, 5, 160, 0, 14, 42]
abbrev dktX5_many_1 : List UInt8 := dkwX5_many_1 ++ dktX5_many_2
def dkwX5_many_0 : List UInt8 := [42, 180, 0, 13, 154, 0, 14, 42, 180, 0, 7, 192, 0, 17, 190, 167, 0, 49, 42, 180, 0, 13, 4]
abbrev dktX5_many_0 : List UInt8 := dkwX5_many_0 ++ dktX5_many_1
theorem dksX5_many_0 : cX5_many.data.toList.drop 0 = dktX5_many_0 := by decide +kernel
theorem dksX5_many_1 : cX5_many.data.toList.drop 23 = dktX5_many_1 := dk_seg dksX5_many_0 23 rfl rfl
theorem dksX5_many_2 : cX5_many.data.toList.drop 46 = dktX5_many_2 := dk_seg dksX5_many_1 23 rfl rfl
theorem dX5_many_0 : decode cX5_many 0 = .ok (.aload_n 0, 1) := dk_42 (dk_at dksX5_many_0 0 rfl rfl)
theorem dX5_many_1 : decode cX5_many 1 = .ok (.getfield 13, 3) := dk_180 0 13 (dk_at dksX5_many_0 1 rfl rfl)
theorem dX5_many_4 : decode cX5_many 4 = .ok (.ifCond .ne 14, 3) := dk_154 0 14 (dk_at dksX5_many_0 4 rfl rfl)
theorem dX5_many_7 : decode cX5_many 7 = .ok (.aload_n 0, 1) := dk_42 (dk_at dksX5_many_0 7 rfl rfl)
theorem dX5_many_8 : decode cX5_many 8 = .ok (.getfield 7, 3) := dk_180 0 7 (dk_at dksX5_many_0 8 rfl rfl)
theorem dX5_many_11 : decode cX5_many 11 = .ok (.checkcast 17, 3) := dk_192 0 17 (dk_at dksX5_many_0 11 rfl rfl)
theorem dX5_many_14 : decode cX5_many 14 = .ok (.arraylength, 1) := dk_190 (dk_at dksX5_many_0 14 rfl rfl)
theorem dX5_many_15 : decode cX5_many 15 = .ok (.goto 49, 3) := dk_167 0 49 (dk_at dksX5_many_0 15 rfl rfl)
theorem dX5_many_18 : decode cX5_many 18 = .ok (.aload_n 0, 1) := dk_42 (dk_at dksX5_many_0 18 rfl rfl)
theorem dX5_many_19 : decode cX5_many 19 = .ok (.getfield 13, 3) := dk_180 0 13 (dk_at dksX5_many_0 19 rfl rfl)
theorem dX5_many_22 : decode cX5_many 22 = .ok (.iconst 1, 1) := dk_4 (dk_at dksX5_many_0 22 rfl rfl)
theorem dX5_many_23 : decode cX5_many 23 = .ok (.if_icmp .ne 14, 3) := dk_160 0 14 (dk_at dksX5_many_1 0 rfl rfl)
theorem dX5_many_26 : decode cX5_many 26 = .ok (.aload_n 0, 1) := dk_42 (dk_at dksX5_many_1 3 rfl rfl)
theorem dX5_many_27 : decode cX5_many 27 = .ok (.getfield 7, 3) := dk_180 0 7 (dk_at dksX5_many_1 4 rfl rfl)
theorem dX5_many_30 : decode cX5_many 30 = .ok (.checkcast 19, 3) := dk_192 0 19 (dk_at dksX5_many_1 7 rfl rfl)
theorem dX5_many_33 : decode cX5_many 33 = .ok (.arraylength, 1) := dk_190 (dk_at dksX5_many_1 10 rfl rfl)
theorem dX5_many_34 : decode cX5_many 34 = .ok (.goto 30, 3) := dk_167 0 30 (dk_at dksX5_many_1 11 rfl rfl)
theorem dX5_many_37 : decode cX5_many 37 = .ok (.aload_n 0, 1) := dk_42 (dk_at dksX5_many_1 14 rfl rfl)
theorem dX5_many_38 : decode cX5_many 38 = .ok (.getfield 13, 3) := dk_180 0 13 (dk_at dksX5_many_1 15 rfl rfl)
theorem dX5_many_41 : decode cX5_many 41 = .ok (.iconst 2, 1) := dk_5 (dk_at dksX5_many_1 18 rfl rfl)
theorem dX5_many_42 : decode cX5_many 42 = .ok (.if_icmp .ne 14, 3) := dk_160 0 14 (dk_at dksX5_many_1 19 rfl rfl)
theorem dX5_many_45 : decode cX5_many 45 = .ok (.aload_n 0, 1) := dk_42 (dk_at dksX5_many_1 22 rfl rfl)
theorem dX5_many_46 : decode cX5_many 46 = .ok (.getfield 7, 3) := dk_180 0 7 (dk_at dksX5_many_2 0 rfl rfl)
theorem dX5_many_49 : decode cX5_many 49 = .ok (.checkcast 21, 3) := dk_192 0 21 (dk_at dksX5_many_2 3 rfl rfl)
theorem dX5_many_52 : decode cX5_many 52 = .ok (.arraylength, 1) := dk_190 (dk_at dksX5_many_2 6 rfl rfl)
theorem dX5_many_53 : decode cX5_many 53 = .ok (.goto 11, 3) := dk_167 0 11 (dk_at dksX5_many_2 7 rfl rfl)
theorem dX5_many_56 : decode cX5_many 56 = .ok (.aload_n 0, 1) := dk_42 (dk_at dksX5_many_2 10 rfl rfl)
theorem dX5_many_57 : decode cX5_many 57 = .ok (.getfield 7, 3) := dk_180 0 7 (dk_at dksX5_many_2 11 rfl rfl)
theorem dX5_many_60 : decode cX5_many 60 = .ok (.checkcast 23, 3) := dk_192 0 23 (dk_at dksX5_many_2 14 rfl rfl)
theorem dX5_many_63 : decode cX5_many 63 = .ok (.arraylength, 1) := dk_190 (dk_at dksX5_many_2 17 rfl rfl)
theorem dX5_many_64 : decode cX5_many 64 = .ok (.ireturn, 1) := dk_172 (dk_at dksX5_many_2 18 rfl rfl)
theorem q142 : (Jvm.Cond.initialized "CableDrawer$Tray") ∈ lw_all := lw_g (lw_at lw_m1 9 rfl) rfl
theorem q397 : (Jvm.Cond.instantiable "CableDrawer$Tray" (2 : Nat)) ∈ lw_all := lw_g (lw_at lw_m2 24 rfl) rfl
theorem q399 : (Jvm.Cond.instanceMethod ({ cls := "CableDrawer$Tray", name := "<init>", desc := "()V" } : Jvm.MethodName)) ∈ lw_all := lw_g (lw_at lw_m2 26 rfl) rfl
theorem q400 : (Jvm.Cond.code ({ cls := "CableDrawer$Tray", name := "<init>", desc := "()V" } : Jvm.MethodName) prog_13_method_1_code (1 : Nat) (Option.none : Option Jvm.ClassFile.FieldType)) ∈ lw_all := lw_g (lw_at lw_m2 27 rfl) rfl
theorem q401 : (Jvm.Cond.methodLink "CableDrawer$Tray" (1 : Nat) ({ cls := "java/lang/Object", name := "<init>", desc := "()V" } : Jvm.MethodName)) ∈ lw_all := lw_g (lw_at lw_m2 28 rfl) rfl
theorem q402 : (Jvm.Cond.fieldLink "CableDrawer$Tray" (7 : Nat) "CableDrawer$Tray" "row" "Ljava/lang/Object;") ∈ lw_all := lw_g (lw_at lw_m2 29 rfl) rfl
theorem q404 : (Jvm.Cond.fieldLink "CableDrawer$Tray" (13 : Nat) "CableDrawer$Tray" "sort" "I") ∈ lw_all := lw_g (lw_at lw_m2 31 rfl) rfl
theorem q406 : (Jvm.Cond.lays "CableDrawer$Tray" "CableDrawer$Tray" "row" "Ljava/lang/Object;") ∈ lw_all := lw_g (lw_at lw_m2 33 rfl) rfl
theorem q407 : (Jvm.Cond.soleField "CableDrawer$Tray" "row") ∈ lw_all := lw_g (lw_at lw_m2 34 rfl) rfl
theorem q408 : (Jvm.Cond.lays "CableDrawer$Tray" "CableDrawer$Tray" "sort" "I") ∈ lw_all := lw_g (lw_at lw_m2 35 rfl) rfl
theorem q409 : (Jvm.Cond.soleField "CableDrawer$Tray" "sort") ∈ lw_all := lw_g (lw_at lw_m2 36 rfl) rfl
theorem q410 : (Jvm.Cond.superclass "CableDrawer$Tray" "java/lang/Object") ∈ lw_all := lw_g (lw_at lw_m2 37 rfl) rfl
theorem q556 : (Jvm.Cond.instanceMethod ({ cls := "CableDrawer$Tray", name := "make", desc := "(II)V" } : Jvm.MethodName)) ∈ lw_all := lw_g (lw_at lw_m2 183 rfl) rfl
theorem q557 : (Jvm.Cond.selects "CableDrawer$Tray" ({ cls := "CableDrawer$Tray", name := "make", desc := "(II)V" } : Jvm.MethodName) ({ cls := "CableDrawer$Tray", name := "make", desc := "(II)V" } : Jvm.MethodName)) ∈ lw_all := lw_g (lw_at lw_m2 184 rfl) rfl
theorem q558 : (Jvm.Cond.code ({ cls := "CableDrawer$Tray", name := "make", desc := "(II)V" } : Jvm.MethodName) prog_13_method_2_code (4 : Nat) (Option.none : Option Jvm.ClassFile.FieldType)) ∈ lw_all := lw_g (lw_at lw_m2 185 rfl) rfl
theorem q609 : (Jvm.Cond.instanceMethod ({ cls := "CableDrawer$Tray", name := "set", desc := "(IJ)V" } : Jvm.MethodName)) ∈ lw_all := lw_g (lw_at lw_m2 236 rfl) rfl
theorem q610 : (Jvm.Cond.selects "CableDrawer$Tray" ({ cls := "CableDrawer$Tray", name := "set", desc := "(IJ)V" } : Jvm.MethodName) ({ cls := "CableDrawer$Tray", name := "set", desc := "(IJ)V" } : Jvm.MethodName)) ∈ lw_all := lw_g (lw_at lw_m2 237 rfl) rfl
theorem q611 : (Jvm.Cond.code ({ cls := "CableDrawer$Tray", name := "set", desc := "(IJ)V" } : Jvm.MethodName) prog_13_method_5_code (4 : Nat) (Option.none : Option Jvm.ClassFile.FieldType)) ∈ lw_all := lw_g (lw_at lw_m2 238 rfl) rfl
theorem q612 : (Jvm.Cond.classLink "CableDrawer$Tray" (17 : Nat) "[B") ∈ lw_all := lw_g (lw_at lw_m2 239 rfl) rfl
theorem q613 : (Jvm.Cond.classLink "CableDrawer$Tray" (19 : Nat) "[S") ∈ lw_all := lw_g (lw_at lw_m3 0 rfl) rfl
theorem q614 : (Jvm.Cond.classLink "CableDrawer$Tray" (21 : Nat) "[I") ∈ lw_all := lw_g (lw_at lw_m3 1 rfl) rfl
theorem q615 : (Jvm.Cond.classLink "CableDrawer$Tray" (23 : Nat) "[J") ∈ lw_all := lw_g (lw_at lw_m3 2 rfl) rfl
theorem q625 : (Jvm.Cond.instanceMethod ({ cls := "CableDrawer$Tray", name := "get", desc := "(I)J" } : Jvm.MethodName)) ∈ lw_all := lw_g (lw_at lw_m3 12 rfl) rfl
theorem q626 : (Jvm.Cond.selects "CableDrawer$Tray" ({ cls := "CableDrawer$Tray", name := "get", desc := "(I)J" } : Jvm.MethodName) ({ cls := "CableDrawer$Tray", name := "get", desc := "(I)J" } : Jvm.MethodName)) ∈ lw_all := lw_g (lw_at lw_m3 13 rfl) rfl
theorem q627 : (Jvm.Cond.code ({ cls := "CableDrawer$Tray", name := "get", desc := "(I)J" } : Jvm.MethodName) prog_13_method_4_code (2 : Nat) (Option.some Jvm.ClassFile.FieldType.long)) ∈ lw_all := lw_g (lw_at lw_m3 14 rfl) rfl
theorem q1112 : (Jvm.Cond.instanceMethod ({ cls := "CableDrawer$Tray", name := "many", desc := "()I" } : Jvm.MethodName)) ∈ lw_all := lw_g (lw_at lw_m5 19 rfl) rfl
theorem q1113 : (Jvm.Cond.selects "CableDrawer$Tray" ({ cls := "CableDrawer$Tray", name := "many", desc := "()I" } : Jvm.MethodName) ({ cls := "CableDrawer$Tray", name := "many", desc := "()I" } : Jvm.MethodName)) ∈ lw_all := lw_g (lw_at lw_m5 20 rfl) rfl
theorem q1114 : (Jvm.Cond.code ({ cls := "CableDrawer$Tray", name := "many", desc := "()I" } : Jvm.MethodName) prog_13_method_3_code (1 : Nat) (Option.some Jvm.ClassFile.FieldType.int)) ∈ lw_all := lw_g (lw_at lw_m5 21 rfl) rfl
theorem in_X5 : ∀ w ∈ wsX50, w ∈ lw_all := lw_in wsX50 [406, 408] (by decide +kernel) (by decide +kernel)

/-! CableDrawer$Lead -/
set_option maxRecDepth 100000
def RX7 : String := "CableDrawer$Lead"
def TX7 : u_T := fun k => match k with
  | 0 => ("CableDrawer$Lead", "name", "J", true)
  | 1 => ("CableDrawer$Lead", "length", "I", false)
  | 2 => ("CableDrawer$Lead", "stiff", "I", false)
  | 3 => ("CableDrawer$Lead", "one", "I", false)
  | 4 => ("CableDrawer$Lead", "two", "I", false)
  | 5 => ("CableDrawer$Lead", "costs", "I", false)
  | 6 => ("CableDrawer$Lead", "used", "I", false)
  | 7 => ("CableDrawer$Lead", "clip", "Z", false)
  | _ => ("CableDrawer$Lead", "gone", "Z", false)
def tyX7 : Nat → FieldType := fun k => match k with
  | 0 => .long
  | 1 => .int
  | 2 => .int
  | 3 => .int
  | 4 => .int
  | 5 => .int
  | 6 => .int
  | 7 => .boolean
  | _ => .boolean
abbrev wsX70 : List Cond := u_ws RX7 TX7 9
theorem nmX7 : ∀ a, a < 9 → ∀ b, b < 9 → a ≠ b → (TX7 a).2.1 ≠ (TX7 b).2.1 := by decide +kernel
theorem tyX7_ok : ∀ k, k < 9 → parseFieldDescriptor (TX7 k).2.2.1 = some (tyX7 k) := by decide +kernel
abbrev cX7_init : ByteArray := prog_6_method_1_code
def yX7_init : MethodName := ⟨RX7, "<init>", "(J)V"⟩
def dkwX7_init_0 : List UInt8 := [42, 183, 0, 3, 42, 6, 181, 0, 9, 42, 6, 181, 0, 15, 42, 31, 181, 0, 18, 177]
abbrev dktX7_init_0 : List UInt8 := dkwX7_init_0 ++ []
theorem dksX7_init_0 : cX7_init.data.toList.drop 0 = dktX7_init_0 := by decide +kernel
theorem dX7_init_0 : decode cX7_init 0 = .ok (.aload_n 0, 1) := dk_42 (dk_at dksX7_init_0 0 rfl rfl)
theorem dX7_init_1 : decode cX7_init 1 = .ok (.invokespecial 3, 3) := dk_183 0 3 (dk_at dksX7_init_0 1 rfl rfl)
theorem dX7_init_4 : decode cX7_init 4 = .ok (.aload_n 0, 1) := dk_42 (dk_at dksX7_init_0 4 rfl rfl)
theorem dX7_init_5 : decode cX7_init 5 = .ok (.iconst 3, 1) := dk_6 (dk_at dksX7_init_0 5 rfl rfl)
theorem dX7_init_6 : decode cX7_init 6 = .ok (.putfield 9, 3) := dk_181 0 9 (dk_at dksX7_init_0 6 rfl rfl)
theorem dX7_init_9 : decode cX7_init 9 = .ok (.aload_n 0, 1) := dk_42 (dk_at dksX7_init_0 9 rfl rfl)
theorem dX7_init_10 : decode cX7_init 10 = .ok (.iconst 3, 1) := dk_6 (dk_at dksX7_init_0 10 rfl rfl)
theorem dX7_init_11 : decode cX7_init 11 = .ok (.putfield 15, 3) := dk_181 0 15 (dk_at dksX7_init_0 11 rfl rfl)
theorem dX7_init_14 : decode cX7_init 14 = .ok (.aload_n 0, 1) := dk_42 (dk_at dksX7_init_0 14 rfl rfl)
theorem dX7_init_15 : decode cX7_init 15 = .ok (.lload_n 1, 1) := dk_31 (dk_at dksX7_init_0 15 rfl rfl)
theorem dX7_init_16 : decode cX7_init 16 = .ok (.putfield 18, 3) := dk_181 0 18 (dk_at dksX7_init_0 16 rfl rfl)
theorem dX7_init_19 : decode cX7_init 19 = .ok (.return_, 1) := dk_177 (dk_at dksX7_init_0 19 rfl rfl)
abbrev cX7_risk : ByteArray := prog_6_method_3_code
def yX7_risk : MethodName := ⟨RX7, "risk", "()I"⟩
def dkwX7_risk_0 : List UInt8 := [3, 16, 15, 42, 180, 0, 25, 5, 108, 42, 180, 0, 28, 100, 184, 0, 44, 184, 0, 50, 172]
abbrev dktX7_risk_0 : List UInt8 := dkwX7_risk_0 ++ []
theorem dksX7_risk_0 : cX7_risk.data.toList.drop 0 = dktX7_risk_0 := by decide +kernel
theorem dX7_risk_0 : decode cX7_risk 0 = .ok (.iconst 0, 1) := dk_3 (dk_at dksX7_risk_0 0 rfl rfl)
theorem dX7_risk_1 : decode cX7_risk 1 = .ok (.bipush 15, 2) := dk_16 15 (dk_at dksX7_risk_0 1 rfl rfl)
theorem dX7_risk_3 : decode cX7_risk 3 = .ok (.aload_n 0, 1) := dk_42 (dk_at dksX7_risk_0 3 rfl rfl)
theorem dX7_risk_4 : decode cX7_risk 4 = .ok (.getfield 25, 3) := dk_180 0 25 (dk_at dksX7_risk_0 4 rfl rfl)
theorem dX7_risk_7 : decode cX7_risk 7 = .ok (.iconst 2, 1) := dk_5 (dk_at dksX7_risk_0 7 rfl rfl)
theorem dX7_risk_8 : decode cX7_risk 8 = .ok (.idiv, 1) := dk_108 (dk_at dksX7_risk_0 8 rfl rfl)
theorem dX7_risk_9 : decode cX7_risk 9 = .ok (.aload_n 0, 1) := dk_42 (dk_at dksX7_risk_0 9 rfl rfl)
theorem dX7_risk_10 : decode cX7_risk 10 = .ok (.getfield 28, 3) := dk_180 0 28 (dk_at dksX7_risk_0 10 rfl rfl)
theorem dX7_risk_13 : decode cX7_risk 13 = .ok (.isub, 1) := dk_100 (dk_at dksX7_risk_0 13 rfl rfl)
theorem dX7_risk_14 : decode cX7_risk 14 = .ok (.invokestatic 44, 3) := dk_184 0 44 (dk_at dksX7_risk_0 14 rfl rfl)
theorem dX7_risk_17 : decode cX7_risk 17 = .ok (.invokestatic 50, 3) := dk_184 0 50 (dk_at dksX7_risk_0 17 rfl rfl)
theorem dX7_risk_20 : decode cX7_risk 20 = .ok (.ireturn, 1) := dk_172 (dk_at dksX7_risk_0 20 rfl rfl)
abbrev cX7_mayTangle : ByteArray := prog_6_method_4_code
def yX7_mayTangle : MethodName := ⟨RX7, "mayTangle", "()Z"⟩
def dkwX7_mayTangle_0 : List UInt8 := [42, 180, 0, 41, 154, 0, 14, 42, 180, 0, 37, 154, 0, 7, 4, 167, 0, 4, 3, 172]
abbrev dktX7_mayTangle_0 : List UInt8 := dkwX7_mayTangle_0 ++ []
theorem dksX7_mayTangle_0 : cX7_mayTangle.data.toList.drop 0 = dktX7_mayTangle_0 := by decide +kernel
theorem dX7_mayTangle_0 : decode cX7_mayTangle 0 = .ok (.aload_n 0, 1) := dk_42 (dk_at dksX7_mayTangle_0 0 rfl rfl)
theorem dX7_mayTangle_1 : decode cX7_mayTangle 1 = .ok (.getfield 41, 3) := dk_180 0 41 (dk_at dksX7_mayTangle_0 1 rfl rfl)
theorem dX7_mayTangle_4 : decode cX7_mayTangle 4 = .ok (.ifCond .ne 14, 3) := dk_154 0 14 (dk_at dksX7_mayTangle_0 4 rfl rfl)
theorem dX7_mayTangle_7 : decode cX7_mayTangle 7 = .ok (.aload_n 0, 1) := dk_42 (dk_at dksX7_mayTangle_0 7 rfl rfl)
theorem dX7_mayTangle_8 : decode cX7_mayTangle 8 = .ok (.getfield 37, 3) := dk_180 0 37 (dk_at dksX7_mayTangle_0 8 rfl rfl)
theorem dX7_mayTangle_11 : decode cX7_mayTangle 11 = .ok (.ifCond .ne 7, 3) := dk_154 0 7 (dk_at dksX7_mayTangle_0 11 rfl rfl)
theorem dX7_mayTangle_14 : decode cX7_mayTangle 14 = .ok (.iconst 1, 1) := dk_4 (dk_at dksX7_mayTangle_0 14 rfl rfl)
theorem dX7_mayTangle_15 : decode cX7_mayTangle 15 = .ok (.goto 4, 3) := dk_167 0 4 (dk_at dksX7_mayTangle_0 15 rfl rfl)
theorem dX7_mayTangle_18 : decode cX7_mayTangle 18 = .ok (.iconst 0, 1) := dk_3 (dk_at dksX7_mayTangle_0 18 rfl rfl)
theorem dX7_mayTangle_19 : decode cX7_mayTangle 19 = .ok (.ireturn, 1) := dk_172 (dk_at dksX7_mayTangle_0 19 rfl rfl)
abbrev cX7_twin : ByteArray := prog_6_method_2_code
def yX7_twin : MethodName := ⟨RX7, "twin", "()LCableDrawer$Lead;"⟩
def dkwX7_twin_3 : List UInt8 := [180, 0, 41, 181, 0, 41, 43, 176]
abbrev dktX7_twin_3 : List UInt8 := dkwX7_twin_3 ++ []
def dkwX7_twin_2 : List UInt8 := [180, 0, 31, 181, 0, 31, 43, 42, 180, 0, 34, 181, 0, 34, 43, 42, 180, 0, 37, 181, 0, 37, 43, 42]
abbrev dktX7_twin_2 : List UInt8 := dkwX7_twin_2 ++ dktX7_twin_3
def dkwX7_twin_1 : List UInt8 := [180, 0, 28, 181, 0, 28, 43, 42, 180, 0, 9, 181, 0, 9, 43, 42, 180, 0, 15, 181, 0, 15, 43, 42]
abbrev dktX7_twin_1 : List UInt8 := dkwX7_twin_1 ++ dktX7_twin_2
def dkwX7_twin_0 : List UInt8 := [187, 0, 10, 89, 42, 180, 0, 18, 183, 0, 22, 76, 43, 42, 180, 0, 25, 181, 0, 25, 43, 42]
abbrev dktX7_twin_0 : List UInt8 := dkwX7_twin_0 ++ dktX7_twin_1
theorem dksX7_twin_0 : cX7_twin.data.toList.drop 0 = dktX7_twin_0 := by decide +kernel
theorem dksX7_twin_1 : cX7_twin.data.toList.drop 22 = dktX7_twin_1 := dk_seg dksX7_twin_0 22 rfl rfl
theorem dksX7_twin_2 : cX7_twin.data.toList.drop 46 = dktX7_twin_2 := dk_seg dksX7_twin_1 24 rfl rfl
theorem dksX7_twin_3 : cX7_twin.data.toList.drop 70 = dktX7_twin_3 := dk_seg dksX7_twin_2 24 rfl rfl
theorem dX7_twin_0 : decode cX7_twin 0 = .ok (.new 10, 3) := dk_187 0 10 (dk_at dksX7_twin_0 0 rfl rfl)
theorem dX7_twin_3 : decode cX7_twin 3 = .ok (.dup, 1) := dk_89 (dk_at dksX7_twin_0 3 rfl rfl)
theorem dX7_twin_4 : decode cX7_twin 4 = .ok (.aload_n 0, 1) := dk_42 (dk_at dksX7_twin_0 4 rfl rfl)
theorem dX7_twin_5 : decode cX7_twin 5 = .ok (.getfield 18, 3) := dk_180 0 18 (dk_at dksX7_twin_0 5 rfl rfl)
theorem dX7_twin_8 : decode cX7_twin 8 = .ok (.invokespecial 22, 3) := dk_183 0 22 (dk_at dksX7_twin_0 8 rfl rfl)
theorem dX7_twin_11 : decode cX7_twin 11 = .ok (.astore_n 1, 1) := dk_76 (dk_at dksX7_twin_0 11 rfl rfl)
theorem dX7_twin_12 : decode cX7_twin 12 = .ok (.aload_n 1, 1) := dk_43 (dk_at dksX7_twin_0 12 rfl rfl)
theorem dX7_twin_13 : decode cX7_twin 13 = .ok (.aload_n 0, 1) := dk_42 (dk_at dksX7_twin_0 13 rfl rfl)
theorem dX7_twin_14 : decode cX7_twin 14 = .ok (.getfield 25, 3) := dk_180 0 25 (dk_at dksX7_twin_0 14 rfl rfl)
theorem dX7_twin_17 : decode cX7_twin 17 = .ok (.putfield 25, 3) := dk_181 0 25 (dk_at dksX7_twin_0 17 rfl rfl)
theorem dX7_twin_20 : decode cX7_twin 20 = .ok (.aload_n 1, 1) := dk_43 (dk_at dksX7_twin_0 20 rfl rfl)
theorem dX7_twin_21 : decode cX7_twin 21 = .ok (.aload_n 0, 1) := dk_42 (dk_at dksX7_twin_0 21 rfl rfl)
theorem dX7_twin_22 : decode cX7_twin 22 = .ok (.getfield 28, 3) := dk_180 0 28 (dk_at dksX7_twin_1 0 rfl rfl)
theorem dX7_twin_25 : decode cX7_twin 25 = .ok (.putfield 28, 3) := dk_181 0 28 (dk_at dksX7_twin_1 3 rfl rfl)
theorem dX7_twin_28 : decode cX7_twin 28 = .ok (.aload_n 1, 1) := dk_43 (dk_at dksX7_twin_1 6 rfl rfl)
theorem dX7_twin_29 : decode cX7_twin 29 = .ok (.aload_n 0, 1) := dk_42 (dk_at dksX7_twin_1 7 rfl rfl)
theorem dX7_twin_30 : decode cX7_twin 30 = .ok (.getfield 9, 3) := dk_180 0 9 (dk_at dksX7_twin_1 8 rfl rfl)
theorem dX7_twin_33 : decode cX7_twin 33 = .ok (.putfield 9, 3) := dk_181 0 9 (dk_at dksX7_twin_1 11 rfl rfl)
theorem dX7_twin_36 : decode cX7_twin 36 = .ok (.aload_n 1, 1) := dk_43 (dk_at dksX7_twin_1 14 rfl rfl)
theorem dX7_twin_37 : decode cX7_twin 37 = .ok (.aload_n 0, 1) := dk_42 (dk_at dksX7_twin_1 15 rfl rfl)
theorem dX7_twin_38 : decode cX7_twin 38 = .ok (.getfield 15, 3) := dk_180 0 15 (dk_at dksX7_twin_1 16 rfl rfl)
theorem dX7_twin_41 : decode cX7_twin 41 = .ok (.putfield 15, 3) := dk_181 0 15 (dk_at dksX7_twin_1 19 rfl rfl)
theorem dX7_twin_44 : decode cX7_twin 44 = .ok (.aload_n 1, 1) := dk_43 (dk_at dksX7_twin_1 22 rfl rfl)
theorem dX7_twin_45 : decode cX7_twin 45 = .ok (.aload_n 0, 1) := dk_42 (dk_at dksX7_twin_1 23 rfl rfl)
theorem dX7_twin_46 : decode cX7_twin 46 = .ok (.getfield 31, 3) := dk_180 0 31 (dk_at dksX7_twin_2 0 rfl rfl)
theorem dX7_twin_49 : decode cX7_twin 49 = .ok (.putfield 31, 3) := dk_181 0 31 (dk_at dksX7_twin_2 3 rfl rfl)
theorem dX7_twin_52 : decode cX7_twin 52 = .ok (.aload_n 1, 1) := dk_43 (dk_at dksX7_twin_2 6 rfl rfl)
theorem dX7_twin_53 : decode cX7_twin 53 = .ok (.aload_n 0, 1) := dk_42 (dk_at dksX7_twin_2 7 rfl rfl)
theorem dX7_twin_54 : decode cX7_twin 54 = .ok (.getfield 34, 3) := dk_180 0 34 (dk_at dksX7_twin_2 8 rfl rfl)
theorem dX7_twin_57 : decode cX7_twin 57 = .ok (.putfield 34, 3) := dk_181 0 34 (dk_at dksX7_twin_2 11 rfl rfl)
theorem dX7_twin_60 : decode cX7_twin 60 = .ok (.aload_n 1, 1) := dk_43 (dk_at dksX7_twin_2 14 rfl rfl)
theorem dX7_twin_61 : decode cX7_twin 61 = .ok (.aload_n 0, 1) := dk_42 (dk_at dksX7_twin_2 15 rfl rfl)
theorem dX7_twin_62 : decode cX7_twin 62 = .ok (.getfield 37, 3) := dk_180 0 37 (dk_at dksX7_twin_2 16 rfl rfl)
theorem dX7_twin_65 : decode cX7_twin 65 = .ok (.putfield 37, 3) := dk_181 0 37 (dk_at dksX7_twin_2 19 rfl rfl)
theorem dX7_twin_68 : decode cX7_twin 68 = .ok (.aload_n 1, 1) := dk_43 (dk_at dksX7_twin_2 22 rfl rfl)
theorem dX7_twin_69 : decode cX7_twin 69 = .ok (.aload_n 0, 1) := dk_42 (dk_at dksX7_twin_2 23 rfl rfl)
theorem dX7_twin_70 : decode cX7_twin 70 = .ok (.getfield 41, 3) := dk_180 0 41 (dk_at dksX7_twin_3 0 rfl rfl)
theorem dX7_twin_73 : decode cX7_twin 73 = .ok (.putfield 41, 3) := dk_181 0 41 (dk_at dksX7_twin_3 3 rfl rfl)
theorem dX7_twin_76 : decode cX7_twin 76 = .ok (.aload_n 1, 1) := dk_43 (dk_at dksX7_twin_3 6 rfl rfl)
theorem dX7_twin_77 : decode cX7_twin 77 = .ok (.areturn, 1) := dk_176 (dk_at dksX7_twin_3 7 rfl rfl)
theorem q154 : (Jvm.Cond.initialized "CableDrawer$Lead") ∈ lw_all := lw_g (lw_at lw_m1 21 rfl) rfl
theorem q779 : (Jvm.Cond.instantiable "CableDrawer$Lead" (9 : Nat)) ∈ lw_all := lw_g (lw_at lw_m3 166 rfl) rfl
theorem q801 : (Jvm.Cond.instanceMethod ({ cls := "CableDrawer$Lead", name := "<init>", desc := "(J)V" } : Jvm.MethodName)) ∈ lw_all := lw_g (lw_at lw_m3 188 rfl) rfl
theorem q802 : (Jvm.Cond.code ({ cls := "CableDrawer$Lead", name := "<init>", desc := "(J)V" } : Jvm.MethodName) prog_6_method_1_code (3 : Nat) (Option.none : Option Jvm.ClassFile.FieldType)) ∈ lw_all := lw_g (lw_at lw_m3 189 rfl) rfl
theorem q803 : (Jvm.Cond.methodLink "CableDrawer$Lead" (3 : Nat) ({ cls := "java/lang/Object", name := "<init>", desc := "()V" } : Jvm.MethodName)) ∈ lw_all := lw_g (lw_at lw_m3 190 rfl) rfl
theorem q804 : (Jvm.Cond.fieldLink "CableDrawer$Lead" (18 : Nat) "CableDrawer$Lead" "name" "J") ∈ lw_all := lw_g (lw_at lw_m3 191 rfl) rfl
theorem q806 : (Jvm.Cond.fieldLink "CableDrawer$Lead" (25 : Nat) "CableDrawer$Lead" "length" "I") ∈ lw_all := lw_g (lw_at lw_m3 193 rfl) rfl
theorem q809 : (Jvm.Cond.fieldLink "CableDrawer$Lead" (28 : Nat) "CableDrawer$Lead" "stiff" "I") ∈ lw_all := lw_g (lw_at lw_m3 196 rfl) rfl
theorem q813 : (Jvm.Cond.fieldLink "CableDrawer$Lead" (9 : Nat) "CableDrawer$Lead" "one" "I") ∈ lw_all := lw_g (lw_at lw_m3 200 rfl) rfl
theorem q816 : (Jvm.Cond.fieldLink "CableDrawer$Lead" (15 : Nat) "CableDrawer$Lead" "two" "I") ∈ lw_all := lw_g (lw_at lw_m3 203 rfl) rfl
theorem q819 : (Jvm.Cond.fieldLink "CableDrawer$Lead" (31 : Nat) "CableDrawer$Lead" "costs" "I") ∈ lw_all := lw_g (lw_at lw_m3 206 rfl) rfl
theorem q823 : (Jvm.Cond.fieldLink "CableDrawer$Lead" (34 : Nat) "CableDrawer$Lead" "used" "I") ∈ lw_all := lw_g (lw_at lw_m3 210 rfl) rfl
theorem q826 : (Jvm.Cond.fieldLink "CableDrawer$Lead" (37 : Nat) "CableDrawer$Lead" "clip" "Z") ∈ lw_all := lw_g (lw_at lw_m3 213 rfl) rfl
theorem q830 : (Jvm.Cond.fieldLink "CableDrawer$Lead" (41 : Nat) "CableDrawer$Lead" "gone" "Z") ∈ lw_all := lw_g (lw_at lw_m3 217 rfl) rfl
theorem q833 : (Jvm.Cond.laysFinal "CableDrawer$Lead" "CableDrawer$Lead" "name" "J") ∈ lw_all := lw_g (lw_at lw_m3 220 rfl) rfl
theorem q834 : (Jvm.Cond.soleField "CableDrawer$Lead" "name") ∈ lw_all := lw_g (lw_at lw_m3 221 rfl) rfl
theorem q835 : (Jvm.Cond.lays "CableDrawer$Lead" "CableDrawer$Lead" "length" "I") ∈ lw_all := lw_g (lw_at lw_m3 222 rfl) rfl
theorem q836 : (Jvm.Cond.soleField "CableDrawer$Lead" "length") ∈ lw_all := lw_g (lw_at lw_m3 223 rfl) rfl
theorem q837 : (Jvm.Cond.lays "CableDrawer$Lead" "CableDrawer$Lead" "stiff" "I") ∈ lw_all := lw_g (lw_at lw_m3 224 rfl) rfl
theorem q838 : (Jvm.Cond.soleField "CableDrawer$Lead" "stiff") ∈ lw_all := lw_g (lw_at lw_m3 225 rfl) rfl
theorem q839 : (Jvm.Cond.lays "CableDrawer$Lead" "CableDrawer$Lead" "one" "I") ∈ lw_all := lw_g (lw_at lw_m3 226 rfl) rfl
theorem q840 : (Jvm.Cond.soleField "CableDrawer$Lead" "one") ∈ lw_all := lw_g (lw_at lw_m3 227 rfl) rfl
theorem q841 : (Jvm.Cond.lays "CableDrawer$Lead" "CableDrawer$Lead" "two" "I") ∈ lw_all := lw_g (lw_at lw_m3 228 rfl) rfl
theorem q842 : (Jvm.Cond.soleField "CableDrawer$Lead" "two") ∈ lw_all := lw_g (lw_at lw_m3 229 rfl) rfl
theorem q843 : (Jvm.Cond.lays "CableDrawer$Lead" "CableDrawer$Lead" "costs" "I") ∈ lw_all := lw_g (lw_at lw_m3 230 rfl) rfl
theorem q844 : (Jvm.Cond.soleField "CableDrawer$Lead" "costs") ∈ lw_all := lw_g (lw_at lw_m3 231 rfl) rfl
theorem q845 : (Jvm.Cond.lays "CableDrawer$Lead" "CableDrawer$Lead" "used" "I") ∈ lw_all := lw_g (lw_at lw_m3 232 rfl) rfl
theorem q846 : (Jvm.Cond.soleField "CableDrawer$Lead" "used") ∈ lw_all := lw_g (lw_at lw_m3 233 rfl) rfl
theorem q847 : (Jvm.Cond.lays "CableDrawer$Lead" "CableDrawer$Lead" "clip" "Z") ∈ lw_all := lw_g (lw_at lw_m3 234 rfl) rfl
theorem q848 : (Jvm.Cond.soleField "CableDrawer$Lead" "clip") ∈ lw_all := lw_g (lw_at lw_m3 235 rfl) rfl
theorem q849 : (Jvm.Cond.lays "CableDrawer$Lead" "CableDrawer$Lead" "gone" "Z") ∈ lw_all := lw_g (lw_at lw_m3 236 rfl) rfl
theorem q850 : (Jvm.Cond.soleField "CableDrawer$Lead" "gone") ∈ lw_all := lw_g (lw_at lw_m3 237 rfl) rfl
theorem q851 : (Jvm.Cond.superclass "CableDrawer$Lead" "java/lang/Object") ∈ lw_all := lw_g (lw_at lw_m3 238 rfl) rfl
theorem q1054 : (Jvm.Cond.instanceMethod ({ cls := "CableDrawer$Lead", name := "risk", desc := "()I" } : Jvm.MethodName)) ∈ lw_all := lw_g (lw_at lw_m4 201 rfl) rfl
theorem q1055 : (Jvm.Cond.selects "CableDrawer$Lead" ({ cls := "CableDrawer$Lead", name := "risk", desc := "()I" } : Jvm.MethodName) ({ cls := "CableDrawer$Lead", name := "risk", desc := "()I" } : Jvm.MethodName)) ∈ lw_all := lw_g (lw_at lw_m4 202 rfl) rfl
theorem q1056 : (Jvm.Cond.code ({ cls := "CableDrawer$Lead", name := "risk", desc := "()I" } : Jvm.MethodName) prog_6_method_3_code (1 : Nat) (Option.some Jvm.ClassFile.FieldType.int)) ∈ lw_all := lw_g (lw_at lw_m4 203 rfl) rfl
theorem q1057 : (Jvm.Cond.methodLink "CableDrawer$Lead" (44 : Nat) ({ cls := "java/lang/Math", name := "min", desc := "(II)I" } : Jvm.MethodName)) ∈ lw_all := lw_g (lw_at lw_m4 204 rfl) rfl
theorem q1058 : (Jvm.Cond.methodLink "CableDrawer$Lead" (50 : Nat) ({ cls := "java/lang/Math", name := "max", desc := "(II)I" } : Jvm.MethodName)) ∈ lw_all := lw_g (lw_at lw_m4 205 rfl) rfl
theorem q1256 : (Jvm.Cond.instanceMethod ({ cls := "CableDrawer$Lead", name := "mayTangle", desc := "()Z" } : Jvm.MethodName)) ∈ lw_all := lw_g (lw_at lw_m5 163 rfl) rfl
theorem q1257 : (Jvm.Cond.selects "CableDrawer$Lead" ({ cls := "CableDrawer$Lead", name := "mayTangle", desc := "()Z" } : Jvm.MethodName) ({ cls := "CableDrawer$Lead", name := "mayTangle", desc := "()Z" } : Jvm.MethodName)) ∈ lw_all := lw_g (lw_at lw_m5 164 rfl) rfl
theorem q1258 : (Jvm.Cond.code ({ cls := "CableDrawer$Lead", name := "mayTangle", desc := "()Z" } : Jvm.MethodName) prog_6_method_4_code (1 : Nat) (Option.some Jvm.ClassFile.FieldType.boolean)) ∈ lw_all := lw_g (lw_at lw_m5 165 rfl) rfl
theorem q1346 : (Jvm.Cond.instanceMethod ({ cls := "CableDrawer$Lead", name := "twin", desc := "()LCableDrawer$Lead;" } : Jvm.MethodName)) ∈ lw_all := lw_g (lw_at lw_m6 13 rfl) rfl
theorem q1347 : (Jvm.Cond.selects "CableDrawer$Lead" ({ cls := "CableDrawer$Lead", name := "twin", desc := "()LCableDrawer$Lead;" } : Jvm.MethodName) ({ cls := "CableDrawer$Lead", name := "twin", desc := "()LCableDrawer$Lead;" } : Jvm.MethodName)) ∈ lw_all := lw_g (lw_at lw_m6 14 rfl) rfl
theorem q1348 : (Jvm.Cond.code ({ cls := "CableDrawer$Lead", name := "twin", desc := "()LCableDrawer$Lead;" } : Jvm.MethodName) prog_6_method_2_code (2 : Nat) (Option.some (Jvm.ClassFile.FieldType.object "CableDrawer$Lead"))) ∈ lw_all := lw_g (lw_at lw_m6 15 rfl) rfl
theorem q1349 : (Jvm.Cond.classLink "CableDrawer$Lead" (10 : Nat) "CableDrawer$Lead") ∈ lw_all := lw_g (lw_at lw_m6 16 rfl) rfl
theorem q1350 : (Jvm.Cond.methodLink "CableDrawer$Lead" (22 : Nat) ({ cls := "CableDrawer$Lead", name := "<init>", desc := "(J)V" } : Jvm.MethodName)) ∈ lw_all := lw_g (lw_at lw_m6 17 rfl) rfl
theorem in_X7 : ∀ w ∈ wsX70, w ∈ lw_all := lw_in wsX70 [833, 835, 837, 839, 841, 843, 845, 847, 849] (by decide +kernel) (by decide +kernel)

/-! CableDrawer$Crossing -/
set_option maxRecDepth 100000
def RX8 : String := "CableDrawer$Crossing"
abbrev cX8_of : ByteArray := prog_2_method_9_code
def yX8_of : MethodName := ⟨RX8, "of", "(III)LCableDrawer$Crossing;"⟩
def dkwX8_of_2 : List UInt8 := [167, 0, 12, 187, 0, 27, 89, 26, 27, 183, 0, 29, 176]
abbrev dktX8_of_2 : List UInt8 := dkwX8_of_2 ++ []
def dkwX8_of_1 : List UInt8 := [89, 26, 27, 183, 0, 23, 167, 0, 29, 28, 5, 160, 0, 15, 187, 0, 24, 89, 26, 27, 183, 0, 26]
abbrev dktX8_of_1 : List UInt8 := dkwX8_of_1 ++ dktX8_of_2
def dkwX8_of_0 : List UInt8 := [28, 154, 0, 15, 187, 0, 16, 89, 26, 27, 183, 0, 18, 167, 0, 46, 28, 4, 160, 0, 15, 187, 0, 21]
abbrev dktX8_of_0 : List UInt8 := dkwX8_of_0 ++ dktX8_of_1
theorem dksX8_of_0 : cX8_of.data.toList.drop 0 = dktX8_of_0 := by decide +kernel
theorem dksX8_of_1 : cX8_of.data.toList.drop 24 = dktX8_of_1 := dk_seg dksX8_of_0 24 rfl rfl
theorem dksX8_of_2 : cX8_of.data.toList.drop 47 = dktX8_of_2 := dk_seg dksX8_of_1 23 rfl rfl
theorem dX8_of_0 : decode cX8_of 0 = .ok (.iload_n 2, 1) := dk_28 (dk_at dksX8_of_0 0 rfl rfl)
theorem dX8_of_1 : decode cX8_of 1 = .ok (.ifCond .ne 15, 3) := dk_154 0 15 (dk_at dksX8_of_0 1 rfl rfl)
theorem dX8_of_4 : decode cX8_of 4 = .ok (.new 16, 3) := dk_187 0 16 (dk_at dksX8_of_0 4 rfl rfl)
theorem dX8_of_7 : decode cX8_of 7 = .ok (.dup, 1) := dk_89 (dk_at dksX8_of_0 7 rfl rfl)
theorem dX8_of_8 : decode cX8_of 8 = .ok (.iload_n 0, 1) := dk_26 (dk_at dksX8_of_0 8 rfl rfl)
theorem dX8_of_9 : decode cX8_of 9 = .ok (.iload_n 1, 1) := dk_27 (dk_at dksX8_of_0 9 rfl rfl)
theorem dX8_of_10 : decode cX8_of 10 = .ok (.invokespecial 18, 3) := dk_183 0 18 (dk_at dksX8_of_0 10 rfl rfl)
theorem dX8_of_13 : decode cX8_of 13 = .ok (.goto 46, 3) := dk_167 0 46 (dk_at dksX8_of_0 13 rfl rfl)
theorem dX8_of_16 : decode cX8_of 16 = .ok (.iload_n 2, 1) := dk_28 (dk_at dksX8_of_0 16 rfl rfl)
theorem dX8_of_17 : decode cX8_of 17 = .ok (.iconst 1, 1) := dk_4 (dk_at dksX8_of_0 17 rfl rfl)
theorem dX8_of_18 : decode cX8_of 18 = .ok (.if_icmp .ne 15, 3) := dk_160 0 15 (dk_at dksX8_of_0 18 rfl rfl)
theorem dX8_of_21 : decode cX8_of 21 = .ok (.new 21, 3) := dk_187 0 21 (dk_at dksX8_of_0 21 rfl rfl)
theorem dX8_of_24 : decode cX8_of 24 = .ok (.dup, 1) := dk_89 (dk_at dksX8_of_1 0 rfl rfl)
theorem dX8_of_25 : decode cX8_of 25 = .ok (.iload_n 0, 1) := dk_26 (dk_at dksX8_of_1 1 rfl rfl)
theorem dX8_of_26 : decode cX8_of 26 = .ok (.iload_n 1, 1) := dk_27 (dk_at dksX8_of_1 2 rfl rfl)
theorem dX8_of_27 : decode cX8_of 27 = .ok (.invokespecial 23, 3) := dk_183 0 23 (dk_at dksX8_of_1 3 rfl rfl)
theorem dX8_of_30 : decode cX8_of 30 = .ok (.goto 29, 3) := dk_167 0 29 (dk_at dksX8_of_1 6 rfl rfl)
theorem dX8_of_33 : decode cX8_of 33 = .ok (.iload_n 2, 1) := dk_28 (dk_at dksX8_of_1 9 rfl rfl)
theorem dX8_of_34 : decode cX8_of 34 = .ok (.iconst 2, 1) := dk_5 (dk_at dksX8_of_1 10 rfl rfl)
theorem dX8_of_35 : decode cX8_of 35 = .ok (.if_icmp .ne 15, 3) := dk_160 0 15 (dk_at dksX8_of_1 11 rfl rfl)
theorem dX8_of_38 : decode cX8_of 38 = .ok (.new 24, 3) := dk_187 0 24 (dk_at dksX8_of_1 14 rfl rfl)
theorem dX8_of_41 : decode cX8_of 41 = .ok (.dup, 1) := dk_89 (dk_at dksX8_of_1 17 rfl rfl)
theorem dX8_of_42 : decode cX8_of 42 = .ok (.iload_n 0, 1) := dk_26 (dk_at dksX8_of_1 18 rfl rfl)
theorem dX8_of_43 : decode cX8_of 43 = .ok (.iload_n 1, 1) := dk_27 (dk_at dksX8_of_1 19 rfl rfl)
theorem dX8_of_44 : decode cX8_of 44 = .ok (.invokespecial 26, 3) := dk_183 0 26 (dk_at dksX8_of_1 20 rfl rfl)
theorem dX8_of_47 : decode cX8_of 47 = .ok (.goto 12, 3) := dk_167 0 12 (dk_at dksX8_of_2 0 rfl rfl)
theorem dX8_of_50 : decode cX8_of 50 = .ok (.new 27, 3) := dk_187 0 27 (dk_at dksX8_of_2 3 rfl rfl)
theorem dX8_of_53 : decode cX8_of 53 = .ok (.dup, 1) := dk_89 (dk_at dksX8_of_2 6 rfl rfl)
theorem dX8_of_54 : decode cX8_of 54 = .ok (.iload_n 0, 1) := dk_26 (dk_at dksX8_of_2 7 rfl rfl)
theorem dX8_of_55 : decode cX8_of 55 = .ok (.iload_n 1, 1) := dk_27 (dk_at dksX8_of_2 8 rfl rfl)
theorem dX8_of_56 : decode cX8_of 56 = .ok (.invokespecial 29, 3) := dk_183 0 29 (dk_at dksX8_of_2 9 rfl rfl)
theorem dX8_of_59 : decode cX8_of 59 = .ok (.areturn, 1) := dk_176 (dk_at dksX8_of_2 12 rfl rfl)
abbrev cX8_init : ByteArray := prog_2_method_1_code
def yX8_init : MethodName := ⟨RX8, "<init>", "(II)V"⟩
def dkwX8_init_0 : List UInt8 := [42, 183, 0, 1, 42, 27, 181, 0, 7, 42, 28, 181, 0, 13, 177]
abbrev dktX8_init_0 : List UInt8 := dkwX8_init_0 ++ []
theorem dksX8_init_0 : cX8_init.data.toList.drop 0 = dktX8_init_0 := by decide +kernel
theorem dX8_init_0 : decode cX8_init 0 = .ok (.aload_n 0, 1) := dk_42 (dk_at dksX8_init_0 0 rfl rfl)
theorem dX8_init_1 : decode cX8_init 1 = .ok (.invokespecial 1, 3) := dk_183 0 1 (dk_at dksX8_init_0 1 rfl rfl)
theorem dX8_init_4 : decode cX8_init 4 = .ok (.aload_n 0, 1) := dk_42 (dk_at dksX8_init_0 4 rfl rfl)
theorem dX8_init_5 : decode cX8_init 5 = .ok (.iload_n 1, 1) := dk_27 (dk_at dksX8_init_0 5 rfl rfl)
theorem dX8_init_6 : decode cX8_init 6 = .ok (.putfield 7, 3) := dk_181 0 7 (dk_at dksX8_init_0 6 rfl rfl)
theorem dX8_init_9 : decode cX8_init 9 = .ok (.aload_n 0, 1) := dk_42 (dk_at dksX8_init_0 9 rfl rfl)
theorem dX8_init_10 : decode cX8_init 10 = .ok (.iload_n 2, 1) := dk_28 (dk_at dksX8_init_0 10 rfl rfl)
theorem dX8_init_11 : decode cX8_init 11 = .ok (.putfield 13, 3) := dk_181 0 13 (dk_at dksX8_init_0 11 rfl rfl)
theorem dX8_init_14 : decode cX8_init 14 = .ok (.return_, 1) := dk_177 (dk_at dksX8_init_0 14 rfl rfl)
abbrev cX8_isOf : ByteArray := prog_2_method_7_code
def yX8_isOf : MethodName := ⟨RX8, "isOf", "(I)Z"⟩
def dkwX8_isOf_0 : List UInt8 := [42, 180, 0, 7, 27, 159, 0, 11, 42, 180, 0, 13, 27, 160, 0, 7, 4, 167, 0, 4, 3, 172]
abbrev dktX8_isOf_0 : List UInt8 := dkwX8_isOf_0 ++ []
theorem dksX8_isOf_0 : cX8_isOf.data.toList.drop 0 = dktX8_isOf_0 := by decide +kernel
theorem dX8_isOf_0 : decode cX8_isOf 0 = .ok (.aload_n 0, 1) := dk_42 (dk_at dksX8_isOf_0 0 rfl rfl)
theorem dX8_isOf_1 : decode cX8_isOf 1 = .ok (.getfield 7, 3) := dk_180 0 7 (dk_at dksX8_isOf_0 1 rfl rfl)
theorem dX8_isOf_4 : decode cX8_isOf 4 = .ok (.iload_n 1, 1) := dk_27 (dk_at dksX8_isOf_0 4 rfl rfl)
theorem dX8_isOf_5 : decode cX8_isOf 5 = .ok (.if_icmp .eq 11, 3) := dk_159 0 11 (dk_at dksX8_isOf_0 5 rfl rfl)
theorem dX8_isOf_8 : decode cX8_isOf 8 = .ok (.aload_n 0, 1) := dk_42 (dk_at dksX8_isOf_0 8 rfl rfl)
theorem dX8_isOf_9 : decode cX8_isOf 9 = .ok (.getfield 13, 3) := dk_180 0 13 (dk_at dksX8_isOf_0 9 rfl rfl)
theorem dX8_isOf_12 : decode cX8_isOf 12 = .ok (.iload_n 1, 1) := dk_27 (dk_at dksX8_isOf_0 12 rfl rfl)
theorem dX8_isOf_13 : decode cX8_isOf 13 = .ok (.if_icmp .ne 7, 3) := dk_160 0 7 (dk_at dksX8_isOf_0 13 rfl rfl)
theorem dX8_isOf_16 : decode cX8_isOf 16 = .ok (.iconst 1, 1) := dk_4 (dk_at dksX8_isOf_0 16 rfl rfl)
theorem dX8_isOf_17 : decode cX8_isOf 17 = .ok (.goto 4, 3) := dk_167 0 4 (dk_at dksX8_isOf_0 17 rfl rfl)
theorem dX8_isOf_20 : decode cX8_isOf 20 = .ok (.iconst 0, 1) := dk_3 (dk_at dksX8_isOf_0 20 rfl rfl)
theorem dX8_isOf_21 : decode cX8_isOf 21 = .ok (.ireturn, 1) := dk_172 (dk_at dksX8_isOf_0 21 rfl rfl)
abbrev cX8_other : ByteArray := prog_2_method_8_code
def yX8_other : MethodName := ⟨RX8, "other", "(I)I"⟩
def dkwX8_other_0 : List UInt8 := [42, 180, 0, 7, 27, 160, 0, 10, 42, 180, 0, 13, 167, 0, 7, 42, 180, 0, 7, 172]
abbrev dktX8_other_0 : List UInt8 := dkwX8_other_0 ++ []
theorem dksX8_other_0 : cX8_other.data.toList.drop 0 = dktX8_other_0 := by decide +kernel
theorem dX8_other_0 : decode cX8_other 0 = .ok (.aload_n 0, 1) := dk_42 (dk_at dksX8_other_0 0 rfl rfl)
theorem dX8_other_1 : decode cX8_other 1 = .ok (.getfield 7, 3) := dk_180 0 7 (dk_at dksX8_other_0 1 rfl rfl)
theorem dX8_other_4 : decode cX8_other 4 = .ok (.iload_n 1, 1) := dk_27 (dk_at dksX8_other_0 4 rfl rfl)
theorem dX8_other_5 : decode cX8_other 5 = .ok (.if_icmp .ne 10, 3) := dk_160 0 10 (dk_at dksX8_other_0 5 rfl rfl)
theorem dX8_other_8 : decode cX8_other 8 = .ok (.aload_n 0, 1) := dk_42 (dk_at dksX8_other_0 8 rfl rfl)
theorem dX8_other_9 : decode cX8_other 9 = .ok (.getfield 13, 3) := dk_180 0 13 (dk_at dksX8_other_0 9 rfl rfl)
theorem dX8_other_12 : decode cX8_other 12 = .ok (.goto 7, 3) := dk_167 0 7 (dk_at dksX8_other_0 12 rfl rfl)
theorem dX8_other_15 : decode cX8_other 15 = .ok (.aload_n 0, 1) := dk_42 (dk_at dksX8_other_0 15 rfl rfl)
theorem dX8_other_16 : decode cX8_other 16 = .ok (.getfield 7, 3) := dk_180 0 7 (dk_at dksX8_other_0 16 rfl rfl)
theorem dX8_other_19 : decode cX8_other 19 = .ok (.ireturn, 1) := dk_172 (dk_at dksX8_other_0 19 rfl rfl)
abbrev cX8_holds : ByteArray := prog_2_method_6_code
def yX8_holds : MethodName := ⟨RX8, "holds", "()Z"⟩
theorem dX8_holds_0 : decode cX8_holds 0 = .ok (.iconst 1, 1) := by decide +kernel
theorem dX8_holds_1 : decode cX8_holds 1 = .ok (.ireturn, 1) := by decide +kernel
theorem q155 : (Jvm.Cond.initialized "CableDrawer$Crossing") ∈ lw_all := lw_g (lw_at lw_m1 22 rfl) rfl
theorem q892 : (Jvm.Cond.static ({ cls := "CableDrawer$Crossing", name := "of", desc := "(III)LCableDrawer$Crossing;" } : Jvm.MethodName)) ∈ lw_all := lw_g (lw_at lw_m4 39 rfl) rfl
theorem q893 : (Jvm.Cond.code ({ cls := "CableDrawer$Crossing", name := "of", desc := "(III)LCableDrawer$Crossing;" } : Jvm.MethodName) prog_2_method_9_code (3 : Nat) (Option.some (Jvm.ClassFile.FieldType.object "CableDrawer$Crossing"))) ∈ lw_all := lw_g (lw_at lw_m4 40 rfl) rfl
theorem q894 : (Jvm.Cond.classLink "CableDrawer$Crossing" (16 : Nat) "CableDrawer$Loose") ∈ lw_all := lw_g (lw_at lw_m4 41 rfl) rfl
theorem q896 : (Jvm.Cond.methodLink "CableDrawer$Crossing" (18 : Nat) ({ cls := "CableDrawer$Loose", name := "<init>", desc := "(II)V" } : Jvm.MethodName)) ∈ lw_all := lw_g (lw_at lw_m4 43 rfl) rfl
theorem q900 : (Jvm.Cond.instanceMethod ({ cls := "CableDrawer$Crossing", name := "<init>", desc := "(II)V" } : Jvm.MethodName)) ∈ lw_all := lw_g (lw_at lw_m4 47 rfl) rfl
theorem q901 : (Jvm.Cond.code ({ cls := "CableDrawer$Crossing", name := "<init>", desc := "(II)V" } : Jvm.MethodName) prog_2_method_1_code (3 : Nat) (Option.none : Option Jvm.ClassFile.FieldType)) ∈ lw_all := lw_g (lw_at lw_m4 48 rfl) rfl
theorem q902 : (Jvm.Cond.methodLink "CableDrawer$Crossing" (1 : Nat) ({ cls := "java/lang/Object", name := "<init>", desc := "()V" } : Jvm.MethodName)) ∈ lw_all := lw_g (lw_at lw_m4 49 rfl) rfl
theorem q903 : (Jvm.Cond.fieldLink "CableDrawer$Crossing" (7 : Nat) "CableDrawer$Crossing" "over" "I") ∈ lw_all := lw_g (lw_at lw_m4 50 rfl) rfl
theorem q906 : (Jvm.Cond.fieldLink "CableDrawer$Crossing" (13 : Nat) "CableDrawer$Crossing" "under" "I") ∈ lw_all := lw_g (lw_at lw_m4 53 rfl) rfl
theorem q910 : (Jvm.Cond.soleField "CableDrawer$Crossing" "over") ∈ lw_all := lw_g (lw_at lw_m4 57 rfl) rfl
theorem q912 : (Jvm.Cond.soleField "CableDrawer$Crossing" "under") ∈ lw_all := lw_g (lw_at lw_m4 59 rfl) rfl
theorem q914 : (Jvm.Cond.classLink "CableDrawer$Crossing" (21 : Nat) "CableDrawer$Threaded") ∈ lw_all := lw_g (lw_at lw_m4 61 rfl) rfl
theorem q916 : (Jvm.Cond.methodLink "CableDrawer$Crossing" (23 : Nat) ({ cls := "CableDrawer$Threaded", name := "<init>", desc := "(II)V" } : Jvm.MethodName)) ∈ lw_all := lw_g (lw_at lw_m4 63 rfl) rfl
theorem q923 : (Jvm.Cond.classLink "CableDrawer$Crossing" (24 : Nat) "CableDrawer$Tight") ∈ lw_all := lw_g (lw_at lw_m4 70 rfl) rfl
theorem q925 : (Jvm.Cond.methodLink "CableDrawer$Crossing" (26 : Nat) ({ cls := "CableDrawer$Tight", name := "<init>", desc := "(II)V" } : Jvm.MethodName)) ∈ lw_all := lw_g (lw_at lw_m4 72 rfl) rfl
theorem q932 : (Jvm.Cond.classLink "CableDrawer$Crossing" (27 : Nat) "CableDrawer$Knotted") ∈ lw_all := lw_g (lw_at lw_m4 79 rfl) rfl
theorem q934 : (Jvm.Cond.methodLink "CableDrawer$Crossing" (29 : Nat) ({ cls := "CableDrawer$Knotted", name := "<init>", desc := "(II)V" } : Jvm.MethodName)) ∈ lw_all := lw_g (lw_at lw_m4 81 rfl) rfl
theorem q1046 : (Jvm.Cond.instanceMethod ({ cls := "CableDrawer$Crossing", name := "isOf", desc := "(I)Z" } : Jvm.MethodName)) ∈ lw_all := lw_g (lw_at lw_m4 193 rfl) rfl
theorem q1047 : (Jvm.Cond.sameMethod "CableDrawer$Crossing" "CableDrawer$Crossing" "isOf" "(I)Z") ∈ lw_all := lw_g (lw_at lw_m4 194 rfl) rfl
theorem q1052 : (Jvm.Cond.code ({ cls := "CableDrawer$Crossing", name := "isOf", desc := "(I)Z" } : Jvm.MethodName) prog_2_method_7_code (2 : Nat) (Option.some Jvm.ClassFile.FieldType.boolean)) ∈ lw_all := lw_g (lw_at lw_m4 199 rfl) rfl
theorem q1066 : (Jvm.Cond.declares ({ cls := "CableDrawer$Crossing", name := "state", desc := "()I" } : Jvm.MethodName)) ∈ lw_tbl := lw_at lw_m4 213 rfl
theorem q1067 : (Jvm.Cond.sameMethod "CableDrawer$Crossing" "CableDrawer$Crossing" "state" "()I") ∈ lw_all := lw_g (lw_at lw_m4 214 rfl) rfl
theorem q1133 : (Jvm.Cond.declares ({ cls := "CableDrawer$Crossing", name := "seconds", desc := "()I" } : Jvm.MethodName)) ∈ lw_tbl := lw_at lw_m5 40 rfl
theorem q1134 : (Jvm.Cond.sameMethod "CableDrawer$Crossing" "CableDrawer$Crossing" "seconds" "()I") ∈ lw_all := lw_g (lw_at lw_m5 41 rfl) rfl
theorem q1150 : (Jvm.Cond.instanceMethod ({ cls := "CableDrawer$Crossing", name := "other", desc := "(I)I" } : Jvm.MethodName)) ∈ lw_all := lw_g (lw_at lw_m5 57 rfl) rfl
theorem q1151 : (Jvm.Cond.sameMethod "CableDrawer$Crossing" "CableDrawer$Crossing" "other" "(I)I") ∈ lw_all := lw_g (lw_at lw_m5 58 rfl) rfl
theorem q1156 : (Jvm.Cond.code ({ cls := "CableDrawer$Crossing", name := "other", desc := "(I)I" } : Jvm.MethodName) prog_2_method_8_code (2 : Nat) (Option.some Jvm.ClassFile.FieldType.int)) ∈ lw_all := lw_g (lw_at lw_m5 63 rfl) rfl
theorem q1170 : (Jvm.Cond.declares ({ cls := "CableDrawer$Crossing", name := "loosened", desc := "()I" } : Jvm.MethodName)) ∈ lw_tbl := lw_at lw_m5 77 rfl
theorem q1171 : (Jvm.Cond.sameMethod "CableDrawer$Crossing" "CableDrawer$Crossing" "loosened" "()I") ∈ lw_all := lw_g (lw_at lw_m5 78 rfl) rfl
theorem q1206 : (Jvm.Cond.instanceMethod ({ cls := "CableDrawer$Crossing", name := "holds", desc := "()Z" } : Jvm.MethodName)) ∈ lw_all := lw_g (lw_at lw_m5 113 rfl) rfl
theorem q1207 : (Jvm.Cond.sameMethod "CableDrawer$Crossing" "CableDrawer$Crossing" "holds" "()Z") ∈ lw_all := lw_g (lw_at lw_m5 114 rfl) rfl
theorem q1214 : (Jvm.Cond.code ({ cls := "CableDrawer$Crossing", name := "holds", desc := "()Z" } : Jvm.MethodName) prog_2_method_6_code (1 : Nat) (Option.some Jvm.ClassFile.FieldType.boolean)) ∈ lw_all := lw_g (lw_at lw_m5 121 rfl) rfl
theorem q1216 : (Jvm.Cond.declares ({ cls := "CableDrawer$Crossing", name := "pulled", desc := "()I" } : Jvm.MethodName)) ∈ lw_tbl := lw_at lw_m5 123 rfl
theorem q1217 : (Jvm.Cond.sameMethod "CableDrawer$Crossing" "CableDrawer$Crossing" "pulled" "()I") ∈ lw_all := lw_g (lw_at lw_m5 124 rfl) rfl

/-! CableDrawer$Loose -/
set_option maxRecDepth 100000
def RX9 : String := "CableDrawer$Loose"
def TX9 : u_T := fun k => match k with
  | 0 => ("CableDrawer$Crossing", "over", "I", true)
  | _ => ("CableDrawer$Crossing", "under", "I", true)
def tyX9 : Nat → FieldType := fun k => match k with
  | 0 => .int
  | _ => .int
abbrev wsX90 : List Cond := u_ws RX9 TX9 2
theorem nmX9 : ∀ a, a < 2 → ∀ b, b < 2 → a ≠ b → (TX9 a).2.1 ≠ (TX9 b).2.1 := by decide +kernel
theorem tyX9_ok : ∀ k, k < 2 → parseFieldDescriptor (TX9 k).2.2.1 = some (tyX9 k) := by decide +kernel
abbrev cX9_init : ByteArray := prog_7_method_1_code
def yX9_init : MethodName := ⟨RX9, "<init>", "(II)V"⟩
def dkwX9_init_0 : List UInt8 := [42, 27, 28, 183, 0, 3, 177]
abbrev dktX9_init_0 : List UInt8 := dkwX9_init_0 ++ []
theorem dksX9_init_0 : cX9_init.data.toList.drop 0 = dktX9_init_0 := by decide +kernel
theorem dX9_init_0 : decode cX9_init 0 = .ok (.aload_n 0, 1) := dk_42 (dk_at dksX9_init_0 0 rfl rfl)
theorem dX9_init_1 : decode cX9_init 1 = .ok (.iload_n 1, 1) := dk_27 (dk_at dksX9_init_0 1 rfl rfl)
theorem dX9_init_2 : decode cX9_init 2 = .ok (.iload_n 2, 1) := dk_28 (dk_at dksX9_init_0 2 rfl rfl)
theorem dX9_init_3 : decode cX9_init 3 = .ok (.invokespecial 3, 3) := dk_183 0 3 (dk_at dksX9_init_0 3 rfl rfl)
theorem dX9_init_6 : decode cX9_init 6 = .ok (.return_, 1) := dk_177 (dk_at dksX9_init_0 6 rfl rfl)
abbrev cX9_state : ByteArray := prog_7_method_2_code
def yX9_state : MethodName := ⟨RX9, "state", "()I"⟩
theorem dX9_state_0 : decode cX9_state 0 = .ok (.iconst 0, 1) := by decide +kernel
theorem dX9_state_1 : decode cX9_state 1 = .ok (.ireturn, 1) := by decide +kernel
abbrev cX9_seconds : ByteArray := prog_7_method_3_code
def yX9_seconds : MethodName := ⟨RX9, "seconds", "()I"⟩
theorem dX9_seconds_0 : decode cX9_seconds 0 = .ok (.iconst 1, 1) := by decide +kernel
theorem dX9_seconds_1 : decode cX9_seconds 1 = .ok (.ireturn, 1) := by decide +kernel
abbrev cX9_loosened : ByteArray := prog_7_method_4_code
def yX9_loosened : MethodName := ⟨RX9, "loosened", "()I"⟩
theorem dX9_loosened_0 : decode cX9_loosened 0 = .ok (.iconst (-1), 1) := by decide +kernel
theorem dX9_loosened_1 : decode cX9_loosened 1 = .ok (.ireturn, 1) := by decide +kernel
abbrev cX9_holds : ByteArray := prog_7_method_6_code
def yX9_holds : MethodName := ⟨RX9, "holds", "()Z"⟩
theorem dX9_holds_0 : decode cX9_holds 0 = .ok (.iconst 0, 1) := by decide +kernel
theorem dX9_holds_1 : decode cX9_holds 1 = .ok (.ireturn, 1) := by decide +kernel
abbrev cX9_pulled : ByteArray := prog_7_method_5_code
def yX9_pulled : MethodName := ⟨RX9, "pulled", "()I"⟩
theorem dX9_pulled_0 : decode cX9_pulled 0 = .ok (.iconst (-1), 1) := by decide +kernel
theorem dX9_pulled_1 : decode cX9_pulled 1 = .ok (.ireturn, 1) := by decide +kernel
theorem q156 : (Jvm.Cond.initialized "CableDrawer$Loose") ∈ lw_all := lw_g (lw_at lw_m1 23 rfl) rfl
theorem q895 : (Jvm.Cond.instantiable "CableDrawer$Loose" (2 : Nat)) ∈ lw_all := lw_g (lw_at lw_m4 42 rfl) rfl
theorem q897 : (Jvm.Cond.instanceMethod ({ cls := "CableDrawer$Loose", name := "<init>", desc := "(II)V" } : Jvm.MethodName)) ∈ lw_all := lw_g (lw_at lw_m4 44 rfl) rfl
theorem q898 : (Jvm.Cond.code ({ cls := "CableDrawer$Loose", name := "<init>", desc := "(II)V" } : Jvm.MethodName) prog_7_method_1_code (3 : Nat) (Option.none : Option Jvm.ClassFile.FieldType)) ∈ lw_all := lw_g (lw_at lw_m4 45 rfl) rfl
theorem q899 : (Jvm.Cond.methodLink "CableDrawer$Loose" (3 : Nat) ({ cls := "CableDrawer$Crossing", name := "<init>", desc := "(II)V" } : Jvm.MethodName)) ∈ lw_all := lw_g (lw_at lw_m4 46 rfl) rfl
theorem q909 : (Jvm.Cond.laysFinal "CableDrawer$Loose" "CableDrawer$Crossing" "over" "I") ∈ lw_all := lw_g (lw_at lw_m4 56 rfl) rfl
theorem q911 : (Jvm.Cond.laysFinal "CableDrawer$Loose" "CableDrawer$Crossing" "under" "I") ∈ lw_all := lw_g (lw_at lw_m4 58 rfl) rfl
theorem q913 : (Jvm.Cond.superclass "CableDrawer$Loose" "CableDrawer$Crossing") ∈ lw_all := lw_g (lw_at lw_m4 60 rfl) rfl
theorem q1049 : (Jvm.Cond.selects "CableDrawer$Loose" ({ cls := "CableDrawer$Crossing", name := "isOf", desc := "(I)Z" } : Jvm.MethodName) ({ cls := "CableDrawer$Crossing", name := "isOf", desc := "(I)Z" } : Jvm.MethodName)) ∈ lw_all := lw_g (lw_at lw_m4 196 rfl) rfl
theorem q1077 : (Jvm.Cond.selects "CableDrawer$Loose" ({ cls := "CableDrawer$Crossing", name := "state", desc := "()I" } : Jvm.MethodName) ({ cls := "CableDrawer$Loose", name := "state", desc := "()I" } : Jvm.MethodName)) ∈ lw_all := lw_g (lw_at lw_m4 224 rfl) rfl
theorem q1078 : (Jvm.Cond.instanceMethod ({ cls := "CableDrawer$Loose", name := "state", desc := "()I" } : Jvm.MethodName)) ∈ lw_all := lw_g (lw_at lw_m4 225 rfl) rfl
theorem q1079 : (Jvm.Cond.code ({ cls := "CableDrawer$Loose", name := "state", desc := "()I" } : Jvm.MethodName) prog_7_method_2_code (1 : Nat) (Option.some Jvm.ClassFile.FieldType.int)) ∈ lw_all := lw_g (lw_at lw_m4 226 rfl) rfl
theorem q1144 : (Jvm.Cond.selects "CableDrawer$Loose" ({ cls := "CableDrawer$Crossing", name := "seconds", desc := "()I" } : Jvm.MethodName) ({ cls := "CableDrawer$Loose", name := "seconds", desc := "()I" } : Jvm.MethodName)) ∈ lw_all := lw_g (lw_at lw_m5 51 rfl) rfl
theorem q1145 : (Jvm.Cond.instanceMethod ({ cls := "CableDrawer$Loose", name := "seconds", desc := "()I" } : Jvm.MethodName)) ∈ lw_all := lw_g (lw_at lw_m5 52 rfl) rfl
theorem q1146 : (Jvm.Cond.code ({ cls := "CableDrawer$Loose", name := "seconds", desc := "()I" } : Jvm.MethodName) prog_7_method_3_code (1 : Nat) (Option.some Jvm.ClassFile.FieldType.int)) ∈ lw_all := lw_g (lw_at lw_m5 53 rfl) rfl
theorem q1153 : (Jvm.Cond.selects "CableDrawer$Loose" ({ cls := "CableDrawer$Crossing", name := "other", desc := "(I)I" } : Jvm.MethodName) ({ cls := "CableDrawer$Crossing", name := "other", desc := "(I)I" } : Jvm.MethodName)) ∈ lw_all := lw_g (lw_at lw_m5 60 rfl) rfl
theorem q1176 : (Jvm.Cond.selects "CableDrawer$Loose" ({ cls := "CableDrawer$Crossing", name := "loosened", desc := "()I" } : Jvm.MethodName) ({ cls := "CableDrawer$Loose", name := "loosened", desc := "()I" } : Jvm.MethodName)) ∈ lw_all := lw_g (lw_at lw_m5 83 rfl) rfl
theorem q1177 : (Jvm.Cond.instanceMethod ({ cls := "CableDrawer$Loose", name := "loosened", desc := "()I" } : Jvm.MethodName)) ∈ lw_all := lw_g (lw_at lw_m5 84 rfl) rfl
theorem q1178 : (Jvm.Cond.code ({ cls := "CableDrawer$Loose", name := "loosened", desc := "()I" } : Jvm.MethodName) prog_7_method_4_code (1 : Nat) (Option.some Jvm.ClassFile.FieldType.int)) ∈ lw_all := lw_g (lw_at lw_m5 85 rfl) rfl
theorem q1209 : (Jvm.Cond.selects "CableDrawer$Loose" ({ cls := "CableDrawer$Crossing", name := "holds", desc := "()Z" } : Jvm.MethodName) ({ cls := "CableDrawer$Loose", name := "holds", desc := "()Z" } : Jvm.MethodName)) ∈ lw_all := lw_g (lw_at lw_m5 116 rfl) rfl
theorem q1210 : (Jvm.Cond.instanceMethod ({ cls := "CableDrawer$Loose", name := "holds", desc := "()Z" } : Jvm.MethodName)) ∈ lw_all := lw_g (lw_at lw_m5 117 rfl) rfl
theorem q1211 : (Jvm.Cond.code ({ cls := "CableDrawer$Loose", name := "holds", desc := "()Z" } : Jvm.MethodName) prog_7_method_6_code (1 : Nat) (Option.some Jvm.ClassFile.FieldType.boolean)) ∈ lw_all := lw_g (lw_at lw_m5 118 rfl) rfl
theorem q1221 : (Jvm.Cond.selects "CableDrawer$Loose" ({ cls := "CableDrawer$Crossing", name := "pulled", desc := "()I" } : Jvm.MethodName) ({ cls := "CableDrawer$Loose", name := "pulled", desc := "()I" } : Jvm.MethodName)) ∈ lw_all := lw_g (lw_at lw_m5 128 rfl) rfl
theorem q1222 : (Jvm.Cond.instanceMethod ({ cls := "CableDrawer$Loose", name := "pulled", desc := "()I" } : Jvm.MethodName)) ∈ lw_all := lw_g (lw_at lw_m5 129 rfl) rfl
theorem q1223 : (Jvm.Cond.code ({ cls := "CableDrawer$Loose", name := "pulled", desc := "()I" } : Jvm.MethodName) prog_7_method_5_code (1 : Nat) (Option.some Jvm.ClassFile.FieldType.int)) ∈ lw_all := lw_g (lw_at lw_m5 130 rfl) rfl
theorem q2323 : (Jvm.Cond.castable "CableDrawer$Loose" "CableDrawer$Crossing") ∈ lw_tbl := lw_at lw_m10 30 rfl
theorem in_X9 : ∀ w ∈ wsX90, w ∈ lw_all := lw_in wsX90 [909, 911] (by decide +kernel) (by decide +kernel)

theorem q133 : (Jvm.Cond.initialized "CableDrawerLaw") ∈ lw_all := lw_g (lw_at lw_m1 0 rfl) rfl
set_option maxRecDepth 100000
theorem q163 : (Jvm.Cond.classLink "CableDrawerLaw" (7 : Nat) "CableDrawer") ∈ lw_all := lw_g (lw_at lw_m1 30 rfl) rfl
theorem q165 : (Jvm.Cond.methodLink "CableDrawerLaw" (9 : Nat) ({ cls := "CableDrawer", name := "<init>", desc := "()V" } : Jvm.MethodName)) ∈ lw_all := lw_g (lw_at lw_m1 32 rfl) rfl
theorem q505 : (Jvm.Cond.methodLink "CableDrawerLaw" (13 : Nat) ({ cls := "CableDrawer", name := "status", desc := "()I" } : Jvm.MethodName)) ∈ lw_all := lw_g (lw_at lw_m2 132 rfl) rfl
theorem q509 : (Jvm.Cond.methodLink "CableDrawerLaw" (18 : Nat) ({ cls := "CableDrawer", name := "top", desc := "()J" } : Jvm.MethodName)) ∈ lw_all := lw_g (lw_at lw_m2 136 rfl) rfl
theorem q513 : (Jvm.Cond.methodLink "CableDrawerLaw" (23 : Nat) ({ cls := "CableDrawer", name := "bottom", desc := "()J" } : Jvm.MethodName)) ∈ lw_all := lw_g (lw_at lw_m2 140 rfl) rfl
theorem q517 : (Jvm.Cond.methodLink "CableDrawerLaw" (27 : Nat) ({ cls := "CableDrawer", name := "tray", desc := "(III)Z" } : Jvm.MethodName)) ∈ lw_all := lw_g (lw_at lw_m2 144 rfl) rfl
theorem q560 : (Jvm.Cond.methodLink "CableDrawerLaw" (34 : Nat) ({ cls := "CableDrawer", name := "write", desc := "(IIJ)Z" } : Jvm.MethodName)) ∈ lw_all := lw_g (lw_at lw_m2 187 rfl) rfl
theorem q616 : (Jvm.Cond.methodLink "CableDrawerLaw" (39 : Nat) ({ cls := "CableDrawer", name := "read", desc := "(II)J" } : Jvm.MethodName)) ∈ lw_all := lw_g (lw_at lw_m3 3 rfl) rfl
theorem q629 : (Jvm.Cond.methodLink "CableDrawerLaw" (44 : Nat) ({ cls := "CableDrawer", name := "pour", desc := "(IIIII)Z" } : Jvm.MethodName)) ∈ lw_all := lw_g (lw_at lw_m3 16 rfl) rfl
theorem q637 : (Jvm.Cond.methodLink "CableDrawerLaw" (49 : Nat) ({ cls := "CableDrawer", name := "feed", desc := "(IIIII)I" } : Jvm.MethodName)) ∈ lw_all := lw_g (lw_at lw_m3 24 rfl) rfl
theorem q645 : (Jvm.Cond.methodLink "CableDrawerLaw" (54 : Nat) ({ cls := "CableDrawer", name := "drawer", desc := "(I)I" } : Jvm.MethodName)) ∈ lw_all := lw_g (lw_at lw_m3 32 rfl) rfl
theorem q966 : (Jvm.Cond.methodLink "CableDrawerLaw" (59 : Nat) ({ cls := "CableDrawer", name := "years", desc := "(I)I" } : Jvm.MethodName)) ∈ lw_all := lw_g (lw_at lw_m4 113 rfl) rfl
theorem q1017 : (Jvm.Cond.methodLink "CableDrawerLaw" (63 : Nat) ({ cls := "CableDrawer", name := "fault", desc := "(I)I" } : Jvm.MethodName)) ∈ lw_all := lw_g (lw_at lw_m4 164 rfl) rfl
theorem q1021 : (Jvm.Cond.methodLink "CableDrawerLaw" (67 : Nat) ({ cls := "CableDrawer", name := "many", desc := "(I)I" } : Jvm.MethodName)) ∈ lw_all := lw_g (lw_at lw_m4 168 rfl) rfl
theorem q1033 : (Jvm.Cond.methodLink "CableDrawerLaw" (71 : Nat) ({ cls := "CableDrawer", name := "lead", desc := "(II)I" } : Jvm.MethodName)) ∈ lw_all := lw_g (lw_at lw_m4 180 rfl) rfl
theorem q1061 : (Jvm.Cond.methodLink "CableDrawerLaw" (76 : Nat) ({ cls := "CableDrawer", name := "crossing", desc := "(II)I" } : Jvm.MethodName)) ∈ lw_all := lw_g (lw_at lw_m4 208 rfl) rfl
theorem q1082 : (Jvm.Cond.methodLink "CableDrawerLaw" (80 : Nat) ({ cls := "CableDrawer", name := "along", desc := "(II)I" } : Jvm.MethodName)) ∈ lw_all := lw_g (lw_at lw_m4 229 rfl) rfl
theorem q1094 : (Jvm.Cond.methodLink "CableDrawerLaw" (84 : Nat) ({ cls := "CableDrawer", name := "look", desc := "(I)I" } : Jvm.MethodName)) ∈ lw_all := lw_g (lw_at lw_m5 1 rfl) rfl
theorem q1102 : (Jvm.Cond.methodLink "CableDrawerLaw" (88 : Nat) ({ cls := "CableDrawer", name := "between", desc := "(II)I" } : Jvm.MethodName)) ∈ lw_all := lw_g (lw_at lw_m5 9 rfl) rfl
theorem q1107 : (Jvm.Cond.methodLink "CableDrawerLaw" (92 : Nat) ({ cls := "CableDrawer", name := "copyStates", desc := "(I)I" } : Jvm.MethodName)) ∈ lw_all := lw_g (lw_at lw_m5 14 rfl) rfl
theorem q1115 : (Jvm.Cond.methodLink "CableDrawerLaw" (96 : Nat) ({ cls := "CableDrawer", name := "follow", desc := "(II)I" } : Jvm.MethodName)) ∈ lw_all := lw_g (lw_at lw_m5 22 rfl) rfl
theorem q1161 : (Jvm.Cond.methodLink "CableDrawerLaw" (100 : Nat) ({ cls := "CableDrawer", name := "loosen", desc := "()I" } : Jvm.MethodName)) ∈ lw_all := lw_g (lw_at lw_m5 68 rfl) rfl
theorem q1189 : (Jvm.Cond.methodLink "CableDrawerLaw" (104 : Nat) ({ cls := "CableDrawer", name := "pull", desc := "(I)I" } : Jvm.MethodName)) ∈ lw_all := lw_g (lw_at lw_m5 96 rfl) rfl
theorem q1235 : (Jvm.Cond.methodLink "CableDrawerLaw" (108 : Nat) ({ cls := "CableDrawer", name := "cut", desc := "(I)I" } : Jvm.MethodName)) ∈ lw_all := lw_g (lw_at lw_m5 142 rfl) rfl
theorem q1247 : (Jvm.Cond.methodLink "CableDrawerLaw" (112 : Nat) ({ cls := "CableDrawer", name := "clip", desc := "(I)Z" } : Jvm.MethodName)) ∈ lw_all := lw_g (lw_at lw_m5 154 rfl) rfl
theorem q1259 : (Jvm.Cond.methodLink "CableDrawerLaw" (117 : Nat) ({ cls := "CableDrawer", name := "unclip", desc := "(I)Z" } : Jvm.MethodName)) ∈ lw_all := lw_g (lw_at lw_m5 166 rfl) rfl
theorem q1263 : (Jvm.Cond.methodLink "CableDrawerLaw" (121 : Nat) ({ cls := "CableDrawer", name := "cross", desc := "(III)I" } : Jvm.MethodName)) ∈ lw_all := lw_g (lw_at lw_m5 170 rfl) rfl
theorem q1270 : (Jvm.Cond.methodLink "CableDrawerLaw" (126 : Nat) ({ cls := "CableDrawer", name := "open", desc := "(I)I" } : Jvm.MethodName)) ∈ lw_all := lw_g (lw_at lw_m5 177 rfl) rfl
theorem q1293 : (Jvm.Cond.methodLink "CableDrawerLaw" (130 : Nat) ({ cls := "CableDrawer", name := "lump", desc := "(I)I" } : Jvm.MethodName)) ∈ lw_all := lw_g (lw_at lw_m5 200 rfl) rfl
theorem q1298 : (Jvm.Cond.methodLink "CableDrawerLaw" (134 : Nat) ({ cls := "CableDrawer", name := "lumps", desc := "(I)I" } : Jvm.MethodName)) ∈ lw_all := lw_g (lw_at lw_m5 205 rfl) rfl
theorem q1311 : (Jvm.Cond.methodLink "CableDrawerLaw" (138 : Nat) ({ cls := "CableDrawer", name := "comes", desc := "(I)I" } : Jvm.MethodName)) ∈ lw_all := lw_g (lw_at lw_m5 218 rfl) rfl
theorem q1315 : (Jvm.Cond.methodLink "CableDrawerLaw" (142 : Nat) ({ cls := "CableDrawer", name := "easy", desc := "()I" } : Jvm.MethodName)) ∈ lw_all := lw_g (lw_at lw_m5 222 rfl) rfl
theorem q1319 : (Jvm.Cond.methodLink "CableDrawerLaw" (146 : Nat) ({ cls := "CableDrawer", name := "free", desc := "(I)I" } : Jvm.MethodName)) ∈ lw_all := lw_g (lw_at lw_m5 226 rfl) rfl
theorem q1327 : (Jvm.Cond.methodLink "CableDrawerLaw" (150 : Nat) ({ cls := "CableDrawer", name := "inState", desc := "(I)I" } : Jvm.MethodName)) ∈ lw_all := lw_g (lw_at lw_m5 234 rfl) rfl
theorem q1335 : (Jvm.Cond.methodLink "CableDrawerLaw" (154 : Nat) ({ cls := "CableDrawer", name := "worse", desc := "(II)I" } : Jvm.MethodName)) ∈ lw_all := lw_g (lw_at lw_m6 2 rfl) rfl
theorem q1352 : (Jvm.Cond.methodLink "CableDrawerLaw" (158 : Nat) ({ cls := "CableDrawer", name := "worst", desc := "()I" } : Jvm.MethodName)) ∈ lw_all := lw_g (lw_at lw_m6 19 rfl) rfl
theorem q1356 : (Jvm.Cond.methodLink "CableDrawerLaw" (162 : Nat) ({ cls := "CableDrawer", name := "key", desc := "()I" } : Jvm.MethodName)) ∈ lw_all := lw_g (lw_at lw_m6 23 rfl) rfl
theorem q1360 : (Jvm.Cond.methodLink "CableDrawerLaw" (166 : Nat) ({ cls := "CableDrawer", name := "alone", desc := "(I)I" } : Jvm.MethodName)) ∈ lw_all := lw_g (lw_at lw_m6 27 rfl) rfl
theorem q1394 : (Jvm.Cond.methodLink "CableDrawerLaw" (170 : Nat) ({ cls := "CableDrawer", name := "way", desc := "(I)I" } : Jvm.MethodName)) ∈ lw_all := lw_g (lw_at lw_m6 61 rfl) rfl
theorem q1398 : (Jvm.Cond.methodLink "CableDrawerLaw" (174 : Nat) ({ cls := "CableDrawer", name := "follows", desc := "(III)I" } : Jvm.MethodName)) ∈ lw_all := lw_g (lw_at lw_m6 65 rfl) rfl
theorem q1402 : (Jvm.Cond.methodLink "CableDrawerLaw" (178 : Nat) ({ cls := "CableDrawer", name := "all", desc := "()I" } : Jvm.MethodName)) ∈ lw_all := lw_g (lw_at lw_m6 69 rfl) rfl
theorem q1414 : (Jvm.Cond.methodLink "CableDrawerLaw" (182 : Nat) ({ cls := "CableDrawer", name := "order", desc := "(I)I" } : Jvm.MethodName)) ∈ lw_all := lw_g (lw_at lw_m6 81 rfl) rfl
theorem q1418 : (Jvm.Cond.methodLink "CableDrawerLaw" (186 : Nat) ({ cls := "CableDrawer", name := "loosens", desc := "()I" } : Jvm.MethodName)) ∈ lw_all := lw_g (lw_at lw_m6 85 rfl) rfl
theorem q1422 : (Jvm.Cond.methodLink "CableDrawerLaw" (190 : Nat) ({ cls := "CableDrawer", name := "soonest", desc := "()I" } : Jvm.MethodName)) ∈ lw_all := lw_g (lw_at lw_m6 89 rfl) rfl
theorem q1426 : (Jvm.Cond.methodLink "CableDrawerLaw" (194 : Nat) ({ cls := "CableDrawer", name := "fresh", desc := "(II)Z" } : Jvm.MethodName)) ∈ lw_all := lw_g (lw_at lw_m6 93 rfl) rfl
theorem q1439 : (Jvm.Cond.methodLink "CableDrawerLaw" (199 : Nat) ({ cls := "CableDrawer", name := "grows", desc := "()Z" } : Jvm.MethodName)) ∈ lw_all := lw_g (lw_at lw_m6 106 rfl) rfl
theorem q1448 : (Jvm.Cond.methodLink "CableDrawerLaw" (204 : Nat) ({ cls := "CableDrawer", name := "clips", desc := "()I" } : Jvm.MethodName)) ∈ lw_all := lw_g (lw_at lw_m6 115 rfl) rfl
theorem q1453 : (Jvm.Cond.methodLink "CableDrawerLaw" (208 : Nat) ({ cls := "CableDrawer", name := "tries", desc := "(I)Z" } : Jvm.MethodName)) ∈ lw_all := lw_g (lw_at lw_m6 120 rfl) rfl
theorem q1461 : (Jvm.Cond.methodLink "CableDrawerLaw" (212 : Nat) ({ cls := "CableDrawer", name := "nextTry", desc := "(II)I" } : Jvm.MethodName)) ∈ lw_all := lw_g (lw_at lw_m6 128 rfl) rfl
theorem q1465 : (Jvm.Cond.methodLink "CableDrawerLaw" (216 : Nat) ({ cls := "CableDrawer", name := "boxes", desc := "(I)I" } : Jvm.MethodName)) ∈ lw_all := lw_g (lw_at lw_m6 132 rfl) rfl
theorem q1470 : (Jvm.Cond.methodLink "CableDrawerLaw" (220 : Nat) ({ cls := "CableDrawer", name := "waste", desc := "(I)I" } : Jvm.MethodName)) ∈ lw_all := lw_g (lw_at lw_m6 137 rfl) rfl
theorem q1474 : (Jvm.Cond.methodLink "CableDrawerLaw" (224 : Nat) ({ cls := "CableDrawer", name := "live", desc := "(I)I" } : Jvm.MethodName)) ∈ lw_all := lw_g (lw_at lw_m6 141 rfl) rfl
theorem q1498 : (Jvm.Cond.methodLink "CableDrawerLaw" (228 : Nat) ({ cls := "CableDrawer", name := "lived", desc := "(I)I" } : Jvm.MethodName)) ∈ lw_all := lw_g (lw_at lw_m6 165 rfl) rfl
theorem q1502 : (Jvm.Cond.methodLink "CableDrawerLaw" (232 : Nat) ({ cls := "CableDrawer", name := "mean", desc := "(II)Z" } : Jvm.MethodName)) ∈ lw_all := lw_g (lw_at lw_m6 169 rfl) rfl
theorem q1515 : (Jvm.Cond.methodLink "CableDrawerLaw" (236 : Nat) ({ cls := "CableDrawer", name := "odds", desc := "(III)Z" } : Jvm.MethodName)) ∈ lw_all := lw_g (lw_at lw_m6 182 rfl) rfl
theorem q1519 : (Jvm.Cond.methodLink "CableDrawerLaw" (240 : Nat) ({ cls := "CableDrawer", name := "mark", desc := "()I" } : Jvm.MethodName)) ∈ lw_all := lw_g (lw_at lw_m6 186 rfl) rfl
theorem q1541 : (Jvm.Cond.methodLink "CableDrawerLaw" (244 : Nat) ({ cls := "CableDrawer", name := "back", desc := "()I" } : Jvm.MethodName)) ∈ lw_all := lw_g (lw_at lw_m6 208 rfl) rfl
theorem q1545 : (Jvm.Cond.classLink "CableDrawerLaw" (10 : Nat) "CableDrawerModel") ∈ lw_all := lw_g (lw_at lw_m6 212 rfl) rfl
theorem q1547 : (Jvm.Cond.methodLink "CableDrawerLaw" (12 : Nat) ({ cls := "CableDrawerModel", name := "<init>", desc := "()V" } : Jvm.MethodName)) ∈ lw_all := lw_g (lw_at lw_m6 214 rfl) rfl
theorem q1702 : (Jvm.Cond.methodLink "CableDrawerLaw" (17 : Nat) ({ cls := "CableDrawerModel", name := "status", desc := "()I" } : Jvm.MethodName)) ∈ lw_all := lw_g (lw_at lw_m7 129 rfl) rfl
theorem q1706 : (Jvm.Cond.methodLink "CableDrawerLaw" (22 : Nat) ({ cls := "CableDrawerModel", name := "top", desc := "()J" } : Jvm.MethodName)) ∈ lw_all := lw_g (lw_at lw_m7 133 rfl) rfl
theorem q1710 : (Jvm.Cond.methodLink "CableDrawerLaw" (26 : Nat) ({ cls := "CableDrawerModel", name := "bottom", desc := "()J" } : Jvm.MethodName)) ∈ lw_all := lw_g (lw_at lw_m7 137 rfl) rfl
theorem q1714 : (Jvm.Cond.methodLink "CableDrawerLaw" (31 : Nat) ({ cls := "CableDrawerModel", name := "tray", desc := "(III)Z" } : Jvm.MethodName)) ∈ lw_all := lw_g (lw_at lw_m7 141 rfl) rfl
theorem q1722 : (Jvm.Cond.methodLink "CableDrawerLaw" (38 : Nat) ({ cls := "CableDrawerModel", name := "write", desc := "(IIJ)Z" } : Jvm.MethodName)) ∈ lw_all := lw_g (lw_at lw_m7 149 rfl) rfl
theorem q1737 : (Jvm.Cond.methodLink "CableDrawerLaw" (43 : Nat) ({ cls := "CableDrawerModel", name := "read", desc := "(II)J" } : Jvm.MethodName)) ∈ lw_all := lw_g (lw_at lw_m7 164 rfl) rfl
theorem q1742 : (Jvm.Cond.methodLink "CableDrawerLaw" (48 : Nat) ({ cls := "CableDrawerModel", name := "pour", desc := "(IIIII)Z" } : Jvm.MethodName)) ∈ lw_all := lw_g (lw_at lw_m7 169 rfl) rfl
theorem q1746 : (Jvm.Cond.methodLink "CableDrawerLaw" (53 : Nat) ({ cls := "CableDrawerModel", name := "feed", desc := "(IIIII)I" } : Jvm.MethodName)) ∈ lw_all := lw_g (lw_at lw_m7 173 rfl) rfl
theorem q1754 : (Jvm.Cond.methodLink "CableDrawerLaw" (66 : Nat) ({ cls := "CableDrawerModel", name := "fault", desc := "(I)I" } : Jvm.MethodName)) ∈ lw_all := lw_g (lw_at lw_m7 181 rfl) rfl
theorem q1758 : (Jvm.Cond.methodLink "CableDrawerLaw" (58 : Nat) ({ cls := "CableDrawerModel", name := "drawer", desc := "(I)I" } : Jvm.MethodName)) ∈ lw_all := lw_g (lw_at lw_m7 185 rfl) rfl
theorem q1922 : (Jvm.Cond.methodLink "CableDrawerLaw" (62 : Nat) ({ cls := "CableDrawerModel", name := "years", desc := "(I)I" } : Jvm.MethodName)) ∈ lw_all := lw_g (lw_at lw_m8 109 rfl) rfl
theorem q1942 : (Jvm.Cond.methodLink "CableDrawerLaw" (70 : Nat) ({ cls := "CableDrawerModel", name := "many", desc := "(I)I" } : Jvm.MethodName)) ∈ lw_all := lw_g (lw_at lw_m8 129 rfl) rfl
theorem q1951 : (Jvm.Cond.methodLink "CableDrawerLaw" (75 : Nat) ({ cls := "CableDrawerModel", name := "lead", desc := "(II)I" } : Jvm.MethodName)) ∈ lw_all := lw_g (lw_at lw_m8 138 rfl) rfl
theorem q1972 : (Jvm.Cond.methodLink "CableDrawerLaw" (79 : Nat) ({ cls := "CableDrawerModel", name := "crossing", desc := "(II)I" } : Jvm.MethodName)) ∈ lw_all := lw_g (lw_at lw_m8 159 rfl) rfl
theorem q1977 : (Jvm.Cond.methodLink "CableDrawerLaw" (83 : Nat) ({ cls := "CableDrawerModel", name := "along", desc := "(II)I" } : Jvm.MethodName)) ∈ lw_all := lw_g (lw_at lw_m8 164 rfl) rfl
theorem q1981 : (Jvm.Cond.methodLink "CableDrawerLaw" (87 : Nat) ({ cls := "CableDrawerModel", name := "look", desc := "(I)I" } : Jvm.MethodName)) ∈ lw_all := lw_g (lw_at lw_m8 168 rfl) rfl
theorem q1985 : (Jvm.Cond.methodLink "CableDrawerLaw" (91 : Nat) ({ cls := "CableDrawerModel", name := "between", desc := "(II)I" } : Jvm.MethodName)) ∈ lw_all := lw_g (lw_at lw_m8 172 rfl) rfl
theorem q1989 : (Jvm.Cond.methodLink "CableDrawerLaw" (95 : Nat) ({ cls := "CableDrawerModel", name := "copyStates", desc := "(I)I" } : Jvm.MethodName)) ∈ lw_all := lw_g (lw_at lw_m8 176 rfl) rfl
theorem q1998 : (Jvm.Cond.methodLink "CableDrawerLaw" (99 : Nat) ({ cls := "CableDrawerModel", name := "follow", desc := "(II)I" } : Jvm.MethodName)) ∈ lw_all := lw_g (lw_at lw_m8 185 rfl) rfl
theorem q2025 : (Jvm.Cond.methodLink "CableDrawerLaw" (103 : Nat) ({ cls := "CableDrawerModel", name := "loosen", desc := "()I" } : Jvm.MethodName)) ∈ lw_all := lw_g (lw_at lw_m8 212 rfl) rfl
theorem q2033 : (Jvm.Cond.methodLink "CableDrawerLaw" (107 : Nat) ({ cls := "CableDrawerModel", name := "pull", desc := "(I)I" } : Jvm.MethodName)) ∈ lw_all := lw_g (lw_at lw_m8 220 rfl) rfl
theorem q2052 : (Jvm.Cond.methodLink "CableDrawerLaw" (111 : Nat) ({ cls := "CableDrawerModel", name := "cut", desc := "(I)I" } : Jvm.MethodName)) ∈ lw_all := lw_g (lw_at lw_m8 239 rfl) rfl
theorem q2060 : (Jvm.Cond.methodLink "CableDrawerLaw" (116 : Nat) ({ cls := "CableDrawerModel", name := "clip", desc := "(I)Z" } : Jvm.MethodName)) ∈ lw_all := lw_g (lw_at lw_m9 7 rfl) rfl
theorem q2068 : (Jvm.Cond.methodLink "CableDrawerLaw" (120 : Nat) ({ cls := "CableDrawerModel", name := "unclip", desc := "(I)Z" } : Jvm.MethodName)) ∈ lw_all := lw_g (lw_at lw_m9 15 rfl) rfl
theorem q2072 : (Jvm.Cond.methodLink "CableDrawerLaw" (125 : Nat) ({ cls := "CableDrawerModel", name := "cross", desc := "(III)I" } : Jvm.MethodName)) ∈ lw_all := lw_g (lw_at lw_m9 19 rfl) rfl
theorem q2084 : (Jvm.Cond.methodLink "CableDrawerLaw" (129 : Nat) ({ cls := "CableDrawerModel", name := "open", desc := "(I)I" } : Jvm.MethodName)) ∈ lw_all := lw_g (lw_at lw_m9 31 rfl) rfl
theorem q2098 : (Jvm.Cond.methodLink "CableDrawerLaw" (133 : Nat) ({ cls := "CableDrawerModel", name := "lump", desc := "(I)I" } : Jvm.MethodName)) ∈ lw_all := lw_g (lw_at lw_m9 45 rfl) rfl
theorem q2102 : (Jvm.Cond.methodLink "CableDrawerLaw" (137 : Nat) ({ cls := "CableDrawerModel", name := "lumps", desc := "(I)I" } : Jvm.MethodName)) ∈ lw_all := lw_g (lw_at lw_m9 49 rfl) rfl
theorem q2110 : (Jvm.Cond.methodLink "CableDrawerLaw" (141 : Nat) ({ cls := "CableDrawerModel", name := "comes", desc := "(I)I" } : Jvm.MethodName)) ∈ lw_all := lw_g (lw_at lw_m9 57 rfl) rfl
theorem q2114 : (Jvm.Cond.methodLink "CableDrawerLaw" (145 : Nat) ({ cls := "CableDrawerModel", name := "easy", desc := "()I" } : Jvm.MethodName)) ∈ lw_all := lw_g (lw_at lw_m9 61 rfl) rfl
theorem q2118 : (Jvm.Cond.methodLink "CableDrawerLaw" (149 : Nat) ({ cls := "CableDrawerModel", name := "free", desc := "(I)I" } : Jvm.MethodName)) ∈ lw_all := lw_g (lw_at lw_m9 65 rfl) rfl
theorem q2126 : (Jvm.Cond.methodLink "CableDrawerLaw" (153 : Nat) ({ cls := "CableDrawerModel", name := "inState", desc := "(I)I" } : Jvm.MethodName)) ∈ lw_all := lw_g (lw_at lw_m9 73 rfl) rfl
theorem q2134 : (Jvm.Cond.methodLink "CableDrawerLaw" (157 : Nat) ({ cls := "CableDrawerModel", name := "worse", desc := "(II)I" } : Jvm.MethodName)) ∈ lw_all := lw_g (lw_at lw_m9 81 rfl) rfl
theorem q2146 : (Jvm.Cond.methodLink "CableDrawerLaw" (161 : Nat) ({ cls := "CableDrawerModel", name := "worst", desc := "()I" } : Jvm.MethodName)) ∈ lw_all := lw_g (lw_at lw_m9 93 rfl) rfl
theorem q2150 : (Jvm.Cond.methodLink "CableDrawerLaw" (165 : Nat) ({ cls := "CableDrawerModel", name := "key", desc := "()I" } : Jvm.MethodName)) ∈ lw_all := lw_g (lw_at lw_m9 97 rfl) rfl
theorem q2154 : (Jvm.Cond.methodLink "CableDrawerLaw" (169 : Nat) ({ cls := "CableDrawerModel", name := "alone", desc := "(I)I" } : Jvm.MethodName)) ∈ lw_all := lw_g (lw_at lw_m9 101 rfl) rfl
theorem q2170 : (Jvm.Cond.methodLink "CableDrawerLaw" (173 : Nat) ({ cls := "CableDrawerModel", name := "way", desc := "(I)I" } : Jvm.MethodName)) ∈ lw_all := lw_g (lw_at lw_m9 117 rfl) rfl
theorem q2174 : (Jvm.Cond.methodLink "CableDrawerLaw" (177 : Nat) ({ cls := "CableDrawerModel", name := "follows", desc := "(III)I" } : Jvm.MethodName)) ∈ lw_all := lw_g (lw_at lw_m9 121 rfl) rfl
theorem q2178 : (Jvm.Cond.methodLink "CableDrawerLaw" (181 : Nat) ({ cls := "CableDrawerModel", name := "all", desc := "()I" } : Jvm.MethodName)) ∈ lw_all := lw_g (lw_at lw_m9 125 rfl) rfl
theorem q2191 : (Jvm.Cond.methodLink "CableDrawerLaw" (185 : Nat) ({ cls := "CableDrawerModel", name := "order", desc := "(I)I" } : Jvm.MethodName)) ∈ lw_all := lw_g (lw_at lw_m9 138 rfl) rfl
theorem q2195 : (Jvm.Cond.methodLink "CableDrawerLaw" (189 : Nat) ({ cls := "CableDrawerModel", name := "loosens", desc := "()I" } : Jvm.MethodName)) ∈ lw_all := lw_g (lw_at lw_m9 142 rfl) rfl
theorem q2199 : (Jvm.Cond.methodLink "CableDrawerLaw" (193 : Nat) ({ cls := "CableDrawerModel", name := "soonest", desc := "()I" } : Jvm.MethodName)) ∈ lw_all := lw_g (lw_at lw_m9 146 rfl) rfl
theorem q2203 : (Jvm.Cond.methodLink "CableDrawerLaw" (198 : Nat) ({ cls := "CableDrawerModel", name := "fresh", desc := "(II)Z" } : Jvm.MethodName)) ∈ lw_all := lw_g (lw_at lw_m9 150 rfl) rfl
theorem q2214 : (Jvm.Cond.methodLink "CableDrawerLaw" (203 : Nat) ({ cls := "CableDrawerModel", name := "grows", desc := "()Z" } : Jvm.MethodName)) ∈ lw_all := lw_g (lw_at lw_m9 161 rfl) rfl
theorem q2223 : (Jvm.Cond.methodLink "CableDrawerLaw" (207 : Nat) ({ cls := "CableDrawerModel", name := "clips", desc := "()I" } : Jvm.MethodName)) ∈ lw_all := lw_g (lw_at lw_m9 170 rfl) rfl
theorem q2227 : (Jvm.Cond.methodLink "CableDrawerLaw" (211 : Nat) ({ cls := "CableDrawerModel", name := "tries", desc := "(I)Z" } : Jvm.MethodName)) ∈ lw_all := lw_g (lw_at lw_m9 174 rfl) rfl
theorem q2235 : (Jvm.Cond.methodLink "CableDrawerLaw" (215 : Nat) ({ cls := "CableDrawerModel", name := "nextTry", desc := "(II)I" } : Jvm.MethodName)) ∈ lw_all := lw_g (lw_at lw_m9 182 rfl) rfl
theorem q2239 : (Jvm.Cond.methodLink "CableDrawerLaw" (219 : Nat) ({ cls := "CableDrawerModel", name := "boxes", desc := "(I)I" } : Jvm.MethodName)) ∈ lw_all := lw_g (lw_at lw_m9 186 rfl) rfl
theorem q2248 : (Jvm.Cond.methodLink "CableDrawerLaw" (223 : Nat) ({ cls := "CableDrawerModel", name := "waste", desc := "(I)I" } : Jvm.MethodName)) ∈ lw_all := lw_g (lw_at lw_m9 195 rfl) rfl
theorem q2252 : (Jvm.Cond.methodLink "CableDrawerLaw" (227 : Nat) ({ cls := "CableDrawerModel", name := "live", desc := "(I)I" } : Jvm.MethodName)) ∈ lw_all := lw_g (lw_at lw_m9 199 rfl) rfl
theorem q2280 : (Jvm.Cond.methodLink "CableDrawerLaw" (231 : Nat) ({ cls := "CableDrawerModel", name := "lived", desc := "(I)I" } : Jvm.MethodName)) ∈ lw_all := lw_g (lw_at lw_m9 227 rfl) rfl
theorem q2284 : (Jvm.Cond.methodLink "CableDrawerLaw" (235 : Nat) ({ cls := "CableDrawerModel", name := "mean", desc := "(II)Z" } : Jvm.MethodName)) ∈ lw_all := lw_g (lw_at lw_m9 231 rfl) rfl
theorem q2293 : (Jvm.Cond.methodLink "CableDrawerLaw" (239 : Nat) ({ cls := "CableDrawerModel", name := "odds", desc := "(III)Z" } : Jvm.MethodName)) ∈ lw_all := lw_g (lw_at lw_m10 0 rfl) rfl
theorem q2297 : (Jvm.Cond.methodLink "CableDrawerLaw" (243 : Nat) ({ cls := "CableDrawerModel", name := "mark", desc := "()I" } : Jvm.MethodName)) ∈ lw_all := lw_g (lw_at lw_m10 4 rfl) rfl
theorem q2301 : (Jvm.Cond.methodLink "CableDrawerLaw" (247 : Nat) ({ cls := "CableDrawerModel", name := "back", desc := "()I" } : Jvm.MethodName)) ∈ lw_all := lw_g (lw_at lw_m10 8 rfl) rfl
theorem q2305 : (Jvm.Cond.constantLong "CableDrawerLaw" (32 : Nat) (4294967295 : Int64)) ∈ lw_all := lw_g (lw_at lw_m10 12 rfl) rfl

theorem q149 : (Jvm.Cond.initialized "java/lang/System") ∈ lw_all := lw_g (lw_at lw_m1 16 rfl) rfl
set_option maxRecDepth 100000
theorem q635 : (Jvm.Cond.static ({ cls := "java/lang/System", name := "arraycopy", desc := "(Ljava/lang/Object;ILjava/lang/Object;II)V" } : Jvm.MethodName)) ∈ lw_all := lw_g (lw_at lw_m3 22 rfl) rfl
theorem q636 : (Jvm.Cond.native ({ cls := "java/lang/System", name := "arraycopy", desc := "(Ljava/lang/Object;ILjava/lang/Object;II)V" } : Jvm.MethodName)) ∈ lw_all := lw_g (lw_at lw_m3 23 rfl) rfl

theorem q172 : (Jvm.Cond.arrayOver (Jvm.ClassFile.FieldType.object "CableDrawer$Tray")) ∈ lw_tbl := lw_at lw_m1 39 rfl
set_option maxRecDepth 100000
theorem q174 : (Jvm.Cond.arrayOver (Jvm.ClassFile.FieldType.object "CableDrawer$Crossing")) ∈ lw_tbl := lw_at lw_m1 41 rfl
theorem q334 : (Jvm.Cond.arrayClass Jvm.ClassFile.FieldType.byte) ∈ lw_all := lw_g (lw_at lw_m1 201 rfl) rfl
theorem q335 : (Jvm.Cond.arrayClass Jvm.ClassFile.FieldType.int) ∈ lw_all := lw_g (lw_at lw_m1 202 rfl) rfl
theorem q343 : (Jvm.Cond.arrayOver (Jvm.ClassFile.FieldType.object "CableDrawer$Lead")) ∈ lw_tbl := lw_at lw_m1 210 rfl
theorem q394 : (Jvm.Cond.arrayClass Jvm.ClassFile.FieldType.long) ∈ lw_all := lw_g (lw_at lw_m2 21 rfl) rfl
theorem q396 : (Jvm.Cond.arrayOver (Jvm.ClassFile.FieldType.object "CableDrawer$Kept")) ∈ lw_tbl := lw_at lw_m2 23 rfl
theorem q559 : (Jvm.Cond.arrayClass Jvm.ClassFile.FieldType.short) ∈ lw_all := lw_g (lw_at lw_m2 186 rfl) rfl
theorem q975 : (Jvm.Cond.arrayOver (Jvm.ClassFile.FieldType.object "CableDrawer$Step")) ∈ lw_tbl := lw_at lw_m4 122 rfl
