/-! java/lang/Throwable -/
set_option maxRecDepth 100000
def RJ0 : String := "java/lang/Throwable"
def TJ0 : u_T := fun k => match k with
  | 0 => ("java/lang/Throwable", "cause", "Ljava/lang/Throwable;", false)
  | 1 => ("java/lang/Throwable", "stackTrace", "[Ljava/lang/StackTraceElement;", false)
  | 2 => ("java/lang/Throwable", "suppressedExceptions", "Ljava/util/List;", false)
  | 3 => ("java/lang/Throwable", "detailMessage", "Ljava/lang/String;", false)
  | _ => ("java/lang/Throwable", "backtrace", "Ljava/lang/Object;", false)
def tyJ0 : Nat → FieldType := fun k => match k with
  | 0 => .object "java/lang/Throwable"
  | 1 => .array (.object "java/lang/StackTraceElement")
  | 2 => .object "java/util/List"
  | 3 => .object "java/lang/String"
  | _ => .object "java/lang/Object"
abbrev wsJ00 : List Cond := u_ws RJ0 TJ0 5
theorem nmJ0 : ∀ a, a < 5 → ∀ b, b < 5 → a ≠ b → (TJ0 a).2.1 ≠ (TJ0 b).2.1 := by decide +kernel
theorem tyJ0_ok : ∀ k, k < 5 → parseFieldDescriptor (TJ0 k).2.2.1 = some (tyJ0 k) := by decide +kernel
abbrev cJ0_init : ByteArray := prog_50_method_1_code
def yJ0_init : MethodName := ⟨RJ0, "<init>", "()V"⟩
def dkwJ0_init_1 : List UInt8 := [182, 0, 27, 87, 177]
abbrev dktJ0_init_1 : List UInt8 := dkwJ0_init_1 ++ []
def dkwJ0_init_0 : List UInt8 := [42, 183, 0, 1, 42, 42, 181, 0, 7, 42, 178, 0, 13, 181, 0, 17, 42, 178, 0, 20, 181, 0, 24, 42]
abbrev dktJ0_init_0 : List UInt8 := dkwJ0_init_0 ++ dktJ0_init_1
theorem dksJ0_init_0 : cJ0_init.data.toList.drop 0 = dktJ0_init_0 := by decide +kernel
theorem dksJ0_init_1 : cJ0_init.data.toList.drop 24 = dktJ0_init_1 := dk_seg dksJ0_init_0 24 rfl rfl
theorem dJ0_init_0 : decode cJ0_init 0 = .ok (.aload_n 0, 1) := dk_42 (dk_at dksJ0_init_0 0 rfl rfl)
theorem dJ0_init_1 : decode cJ0_init 1 = .ok (.invokespecial 1, 3) := dk_183 0 1 (dk_at dksJ0_init_0 1 rfl rfl)
theorem dJ0_init_4 : decode cJ0_init 4 = .ok (.aload_n 0, 1) := dk_42 (dk_at dksJ0_init_0 4 rfl rfl)
theorem dJ0_init_5 : decode cJ0_init 5 = .ok (.aload_n 0, 1) := dk_42 (dk_at dksJ0_init_0 5 rfl rfl)
theorem dJ0_init_6 : decode cJ0_init 6 = .ok (.putfield 7, 3) := dk_181 0 7 (dk_at dksJ0_init_0 6 rfl rfl)
theorem dJ0_init_9 : decode cJ0_init 9 = .ok (.aload_n 0, 1) := dk_42 (dk_at dksJ0_init_0 9 rfl rfl)
theorem dJ0_init_10 : decode cJ0_init 10 = .ok (.getstatic 13, 3) := dk_178 0 13 (dk_at dksJ0_init_0 10 rfl rfl)
theorem dJ0_init_13 : decode cJ0_init 13 = .ok (.putfield 17, 3) := dk_181 0 17 (dk_at dksJ0_init_0 13 rfl rfl)
theorem dJ0_init_16 : decode cJ0_init 16 = .ok (.aload_n 0, 1) := dk_42 (dk_at dksJ0_init_0 16 rfl rfl)
theorem dJ0_init_17 : decode cJ0_init 17 = .ok (.getstatic 20, 3) := dk_178 0 20 (dk_at dksJ0_init_0 17 rfl rfl)
theorem dJ0_init_20 : decode cJ0_init 20 = .ok (.putfield 24, 3) := dk_181 0 24 (dk_at dksJ0_init_0 20 rfl rfl)
theorem dJ0_init_23 : decode cJ0_init 23 = .ok (.aload_n 0, 1) := dk_42 (dk_at dksJ0_init_0 23 rfl rfl)
theorem dJ0_init_24 : decode cJ0_init 24 = .ok (.invokevirtual 27, 3) := dk_182 0 27 (dk_at dksJ0_init_1 0 rfl rfl)
theorem dJ0_init_27 : decode cJ0_init 27 = .ok (.pop, 1) := dk_87 (dk_at dksJ0_init_1 3 rfl rfl)
theorem dJ0_init_28 : decode cJ0_init 28 = .ok (.return_, 1) := dk_177 (dk_at dksJ0_init_1 4 rfl rfl)
abbrev cJ0_init_2 : ByteArray := prog_50_method_2_code
def yJ0_init_2 : MethodName := ⟨RJ0, "<init>", "(Ljava/lang/String;)V"⟩
def dkwJ0_init_2_1 : List UInt8 := [182, 0, 27, 87, 42, 43, 181, 0, 31, 177]
abbrev dktJ0_init_2_1 : List UInt8 := dkwJ0_init_2_1 ++ []
def dkwJ0_init_2_0 : List UInt8 := [42, 183, 0, 1, 42, 42, 181, 0, 7, 42, 178, 0, 13, 181, 0, 17, 42, 178, 0, 20, 181, 0, 24, 42]
abbrev dktJ0_init_2_0 : List UInt8 := dkwJ0_init_2_0 ++ dktJ0_init_2_1
theorem dksJ0_init_2_0 : cJ0_init_2.data.toList.drop 0 = dktJ0_init_2_0 := by decide +kernel
theorem dksJ0_init_2_1 : cJ0_init_2.data.toList.drop 24 = dktJ0_init_2_1 := dk_seg dksJ0_init_2_0 24 rfl rfl
theorem dJ0_init_2_0 : decode cJ0_init_2 0 = .ok (.aload_n 0, 1) := dk_42 (dk_at dksJ0_init_2_0 0 rfl rfl)
theorem dJ0_init_2_1 : decode cJ0_init_2 1 = .ok (.invokespecial 1, 3) := dk_183 0 1 (dk_at dksJ0_init_2_0 1 rfl rfl)
theorem dJ0_init_2_4 : decode cJ0_init_2 4 = .ok (.aload_n 0, 1) := dk_42 (dk_at dksJ0_init_2_0 4 rfl rfl)
theorem dJ0_init_2_5 : decode cJ0_init_2 5 = .ok (.aload_n 0, 1) := dk_42 (dk_at dksJ0_init_2_0 5 rfl rfl)
theorem dJ0_init_2_6 : decode cJ0_init_2 6 = .ok (.putfield 7, 3) := dk_181 0 7 (dk_at dksJ0_init_2_0 6 rfl rfl)
theorem dJ0_init_2_9 : decode cJ0_init_2 9 = .ok (.aload_n 0, 1) := dk_42 (dk_at dksJ0_init_2_0 9 rfl rfl)
theorem dJ0_init_2_10 : decode cJ0_init_2 10 = .ok (.getstatic 13, 3) := dk_178 0 13 (dk_at dksJ0_init_2_0 10 rfl rfl)
theorem dJ0_init_2_13 : decode cJ0_init_2 13 = .ok (.putfield 17, 3) := dk_181 0 17 (dk_at dksJ0_init_2_0 13 rfl rfl)
theorem dJ0_init_2_16 : decode cJ0_init_2 16 = .ok (.aload_n 0, 1) := dk_42 (dk_at dksJ0_init_2_0 16 rfl rfl)
theorem dJ0_init_2_17 : decode cJ0_init_2 17 = .ok (.getstatic 20, 3) := dk_178 0 20 (dk_at dksJ0_init_2_0 17 rfl rfl)
theorem dJ0_init_2_20 : decode cJ0_init_2 20 = .ok (.putfield 24, 3) := dk_181 0 24 (dk_at dksJ0_init_2_0 20 rfl rfl)
theorem dJ0_init_2_23 : decode cJ0_init_2 23 = .ok (.aload_n 0, 1) := dk_42 (dk_at dksJ0_init_2_0 23 rfl rfl)
theorem dJ0_init_2_24 : decode cJ0_init_2 24 = .ok (.invokevirtual 27, 3) := dk_182 0 27 (dk_at dksJ0_init_2_1 0 rfl rfl)
theorem dJ0_init_2_27 : decode cJ0_init_2 27 = .ok (.pop, 1) := dk_87 (dk_at dksJ0_init_2_1 3 rfl rfl)
theorem dJ0_init_2_28 : decode cJ0_init_2 28 = .ok (.aload_n 0, 1) := dk_42 (dk_at dksJ0_init_2_1 4 rfl rfl)
theorem dJ0_init_2_29 : decode cJ0_init_2 29 = .ok (.aload_n 1, 1) := dk_43 (dk_at dksJ0_init_2_1 5 rfl rfl)
theorem dJ0_init_2_30 : decode cJ0_init_2 30 = .ok (.putfield 31, 3) := dk_181 0 31 (dk_at dksJ0_init_2_1 6 rfl rfl)
theorem dJ0_init_2_33 : decode cJ0_init_2 33 = .ok (.return_, 1) := dk_177 (dk_at dksJ0_init_2_1 9 rfl rfl)
abbrev cJ0_init_3 : ByteArray := prog_50_method_5_code
def yJ0_init_3 : MethodName := ⟨RJ0, "<init>", "(Ljava/lang/String;Ljava/lang/Throwable;ZZ)V"⟩
def dkwJ0_init_3_2 : List UInt8 := [44, 181, 0, 7, 29, 154, 0, 8, 42, 1, 181, 0, 24, 177]
abbrev dktJ0_init_3_2 : List UInt8 := dkwJ0_init_3_2 ++ []
def dkwJ0_init_3_1 : List UInt8 := [21, 4, 153, 0, 11, 42, 182, 0, 27, 87, 167, 0, 8, 42, 1, 181, 0, 17, 42, 43, 181, 0, 31, 42]
abbrev dktJ0_init_3_1 : List UInt8 := dkwJ0_init_3_1 ++ dktJ0_init_3_2
def dkwJ0_init_3_0 : List UInt8 := [42, 183, 0, 1, 42, 42, 181, 0, 7, 42, 178, 0, 13, 181, 0, 17, 42, 178, 0, 20, 181, 0, 24]
abbrev dktJ0_init_3_0 : List UInt8 := dkwJ0_init_3_0 ++ dktJ0_init_3_1
theorem dksJ0_init_3_0 : cJ0_init_3.data.toList.drop 0 = dktJ0_init_3_0 := by decide +kernel
theorem dksJ0_init_3_1 : cJ0_init_3.data.toList.drop 23 = dktJ0_init_3_1 := dk_seg dksJ0_init_3_0 23 rfl rfl
theorem dksJ0_init_3_2 : cJ0_init_3.data.toList.drop 47 = dktJ0_init_3_2 := dk_seg dksJ0_init_3_1 24 rfl rfl
theorem dJ0_init_3_0 : decode cJ0_init_3 0 = .ok (.aload_n 0, 1) := dk_42 (dk_at dksJ0_init_3_0 0 rfl rfl)
theorem dJ0_init_3_1 : decode cJ0_init_3 1 = .ok (.invokespecial 1, 3) := dk_183 0 1 (dk_at dksJ0_init_3_0 1 rfl rfl)
theorem dJ0_init_3_4 : decode cJ0_init_3 4 = .ok (.aload_n 0, 1) := dk_42 (dk_at dksJ0_init_3_0 4 rfl rfl)
theorem dJ0_init_3_5 : decode cJ0_init_3 5 = .ok (.aload_n 0, 1) := dk_42 (dk_at dksJ0_init_3_0 5 rfl rfl)
theorem dJ0_init_3_6 : decode cJ0_init_3 6 = .ok (.putfield 7, 3) := dk_181 0 7 (dk_at dksJ0_init_3_0 6 rfl rfl)
theorem dJ0_init_3_9 : decode cJ0_init_3 9 = .ok (.aload_n 0, 1) := dk_42 (dk_at dksJ0_init_3_0 9 rfl rfl)
theorem dJ0_init_3_10 : decode cJ0_init_3 10 = .ok (.getstatic 13, 3) := dk_178 0 13 (dk_at dksJ0_init_3_0 10 rfl rfl)
theorem dJ0_init_3_13 : decode cJ0_init_3 13 = .ok (.putfield 17, 3) := dk_181 0 17 (dk_at dksJ0_init_3_0 13 rfl rfl)
theorem dJ0_init_3_16 : decode cJ0_init_3 16 = .ok (.aload_n 0, 1) := dk_42 (dk_at dksJ0_init_3_0 16 rfl rfl)
theorem dJ0_init_3_17 : decode cJ0_init_3 17 = .ok (.getstatic 20, 3) := dk_178 0 20 (dk_at dksJ0_init_3_0 17 rfl rfl)
theorem dJ0_init_3_20 : decode cJ0_init_3 20 = .ok (.putfield 24, 3) := dk_181 0 24 (dk_at dksJ0_init_3_0 20 rfl rfl)
theorem dJ0_init_3_23 : decode cJ0_init_3 23 = .ok (.iload 4, 2) := dk_21 4 (dk_at dksJ0_init_3_1 0 rfl rfl)
theorem dJ0_init_3_25 : decode cJ0_init_3 25 = .ok (.ifCond .eq 11, 3) := dk_153 0 11 (dk_at dksJ0_init_3_1 2 rfl rfl)
theorem dJ0_init_3_28 : decode cJ0_init_3 28 = .ok (.aload_n 0, 1) := dk_42 (dk_at dksJ0_init_3_1 5 rfl rfl)
theorem dJ0_init_3_29 : decode cJ0_init_3 29 = .ok (.invokevirtual 27, 3) := dk_182 0 27 (dk_at dksJ0_init_3_1 6 rfl rfl)
theorem dJ0_init_3_32 : decode cJ0_init_3 32 = .ok (.pop, 1) := dk_87 (dk_at dksJ0_init_3_1 9 rfl rfl)
theorem dJ0_init_3_33 : decode cJ0_init_3 33 = .ok (.goto 8, 3) := dk_167 0 8 (dk_at dksJ0_init_3_1 10 rfl rfl)
theorem dJ0_init_3_36 : decode cJ0_init_3 36 = .ok (.aload_n 0, 1) := dk_42 (dk_at dksJ0_init_3_1 13 rfl rfl)
theorem dJ0_init_3_37 : decode cJ0_init_3 37 = .ok (.aconst_null, 1) := dk_1 (dk_at dksJ0_init_3_1 14 rfl rfl)
theorem dJ0_init_3_38 : decode cJ0_init_3 38 = .ok (.putfield 17, 3) := dk_181 0 17 (dk_at dksJ0_init_3_1 15 rfl rfl)
theorem dJ0_init_3_41 : decode cJ0_init_3 41 = .ok (.aload_n 0, 1) := dk_42 (dk_at dksJ0_init_3_1 18 rfl rfl)
theorem dJ0_init_3_42 : decode cJ0_init_3 42 = .ok (.aload_n 1, 1) := dk_43 (dk_at dksJ0_init_3_1 19 rfl rfl)
theorem dJ0_init_3_43 : decode cJ0_init_3 43 = .ok (.putfield 31, 3) := dk_181 0 31 (dk_at dksJ0_init_3_1 20 rfl rfl)
theorem dJ0_init_3_46 : decode cJ0_init_3 46 = .ok (.aload_n 0, 1) := dk_42 (dk_at dksJ0_init_3_1 23 rfl rfl)
theorem dJ0_init_3_47 : decode cJ0_init_3 47 = .ok (.aload_n 2, 1) := dk_44 (dk_at dksJ0_init_3_2 0 rfl rfl)
theorem dJ0_init_3_48 : decode cJ0_init_3 48 = .ok (.putfield 7, 3) := dk_181 0 7 (dk_at dksJ0_init_3_2 1 rfl rfl)
theorem dJ0_init_3_51 : decode cJ0_init_3 51 = .ok (.iload_n 3, 1) := dk_29 (dk_at dksJ0_init_3_2 4 rfl rfl)
theorem dJ0_init_3_52 : decode cJ0_init_3 52 = .ok (.ifCond .ne 8, 3) := dk_154 0 8 (dk_at dksJ0_init_3_2 5 rfl rfl)
theorem dJ0_init_3_55 : decode cJ0_init_3 55 = .ok (.aload_n 0, 1) := dk_42 (dk_at dksJ0_init_3_2 8 rfl rfl)
theorem dJ0_init_3_56 : decode cJ0_init_3 56 = .ok (.aconst_null, 1) := dk_1 (dk_at dksJ0_init_3_2 9 rfl rfl)
theorem dJ0_init_3_57 : decode cJ0_init_3 57 = .ok (.putfield 24, 3) := dk_181 0 24 (dk_at dksJ0_init_3_2 10 rfl rfl)
theorem dJ0_init_3_60 : decode cJ0_init_3 60 = .ok (.return_, 1) := dk_177 (dk_at dksJ0_init_3_2 13 rfl rfl)
theorem q110 : (Jvm.Cond.initialized "java/lang/Throwable") ∈ lw_all := lw_g (lw_at lw_m1 2 rfl) rfl
theorem q181 : (Jvm.Cond.declares ({ cls := "java/lang/Throwable", name := "<init>", desc := "()V" } : Jvm.MethodName)) ∈ lw_tbl := lw_at lw_m1 73 rfl
theorem q182 : (Jvm.Cond.declares ({ cls := "java/lang/Throwable", name := "<init>", desc := "(Ljava/lang/String;)V" } : Jvm.MethodName)) ∈ lw_tbl := lw_at lw_m1 74 rfl
theorem q186 : (Jvm.Cond.lays "java/lang/Throwable" "java/lang/Throwable" "cause" "Ljava/lang/Throwable;") ∈ lw_all := lw_g (lw_at lw_m1 78 rfl) rfl
theorem q188 : (Jvm.Cond.lays "java/lang/Throwable" "java/lang/Throwable" "stackTrace" "[Ljava/lang/StackTraceElement;") ∈ lw_all := lw_g (lw_at lw_m1 80 rfl) rfl
theorem q190 : (Jvm.Cond.lays "java/lang/Throwable" "java/lang/Throwable" "suppressedExceptions" "Ljava/util/List;") ∈ lw_all := lw_g (lw_at lw_m1 82 rfl) rfl
theorem q192 : (Jvm.Cond.lays "java/lang/Throwable" "java/lang/Throwable" "detailMessage" "Ljava/lang/String;") ∈ lw_all := lw_g (lw_at lw_m1 84 rfl) rfl
theorem q194 : (Jvm.Cond.lays "java/lang/Throwable" "java/lang/Throwable" "backtrace" "Ljava/lang/Object;") ∈ lw_all := lw_g (lw_at lw_m1 86 rfl) rfl
theorem q195 : (Jvm.Cond.fieldLink "java/lang/Throwable" (198 : Nat) "java/lang/Throwable" "backtrace" "Ljava/lang/Object;") ∈ lw_all := lw_g (lw_at lw_m1 87 rfl) rfl
theorem q196 : (Jvm.Cond.superclass "java/lang/Throwable" "java/lang/Object") ∈ lw_all := lw_g (lw_at lw_m1 88 rfl) rfl
theorem q197 : (Jvm.Cond.instanceMethod ({ cls := "java/lang/Throwable", name := "<init>", desc := "()V" } : Jvm.MethodName)) ∈ lw_all := lw_g (lw_at lw_m1 89 rfl) rfl
theorem q198 : (Jvm.Cond.code ({ cls := "java/lang/Throwable", name := "<init>", desc := "()V" } : Jvm.MethodName) prog_50_method_1_code (1 : Nat) (Option.none : Option Jvm.ClassFile.FieldType)) ∈ lw_all := lw_g (lw_at lw_m1 90 rfl) rfl
theorem q199 : (Jvm.Cond.methodLink "java/lang/Throwable" (1 : Nat) ({ cls := "java/lang/Object", name := "<init>", desc := "()V" } : Jvm.MethodName)) ∈ lw_all := lw_g (lw_at lw_m1 91 rfl) rfl
theorem q200 : (Jvm.Cond.fieldLink "java/lang/Throwable" (13 : Nat) "java/lang/Throwable" "UNASSIGNED_STACK" "[Ljava/lang/StackTraceElement;") ∈ lw_all := lw_g (lw_at lw_m1 92 rfl) rfl
theorem q201 : (Jvm.Cond.laysStatic "java/lang/Throwable" "UNASSIGNED_STACK" "[Ljava/lang/StackTraceElement;") ∈ lw_tbl := lw_at lw_m1 93 rfl
theorem q202 : (Jvm.Cond.fieldLink "java/lang/Throwable" (20 : Nat) "java/lang/Throwable" "SUPPRESSED_SENTINEL" "Ljava/util/List;") ∈ lw_all := lw_g (lw_at lw_m1 94 rfl) rfl
theorem q203 : (Jvm.Cond.laysStatic "java/lang/Throwable" "SUPPRESSED_SENTINEL" "Ljava/util/List;") ∈ lw_tbl := lw_at lw_m1 95 rfl
theorem q204 : (Jvm.Cond.methodLink "java/lang/Throwable" (27 : Nat) ({ cls := "java/lang/Throwable", name := "fillInStackTrace", desc := "()Ljava/lang/Throwable;" } : Jvm.MethodName)) ∈ lw_all := lw_g (lw_at lw_m1 96 rfl) rfl
theorem q205 : (Jvm.Cond.instanceMethod ({ cls := "java/lang/Throwable", name := "fillInStackTrace", desc := "()Ljava/lang/Throwable;" } : Jvm.MethodName)) ∈ lw_all := lw_g (lw_at lw_m1 97 rfl) rfl
theorem q206 : (Jvm.Cond.sameMethod "java/lang/Throwable" "java/lang/Throwable" "fillInStackTrace" "()Ljava/lang/Throwable;") ∈ lw_all := lw_g (lw_at lw_m1 98 rfl) rfl
theorem q211 : (Jvm.Cond.codeSync ({ cls := "java/lang/Throwable", name := "fillInStackTrace", desc := "()Ljava/lang/Throwable;" } : Jvm.MethodName) prog_50_method_18_code (1 : Nat) (Option.some (Jvm.ClassFile.FieldType.object "java/lang/Throwable"))) ∈ lw_all := lw_g (lw_at lw_m1 103 rfl) rfl
theorem q212 : (Jvm.Cond.methodLink "java/lang/Throwable" (202 : Nat) ({ cls := "java/lang/Throwable", name := "fillInStackTrace", desc := "(I)Ljava/lang/Throwable;" } : Jvm.MethodName)) ∈ lw_all := lw_g (lw_at lw_m1 104 rfl) rfl
theorem q213 : (Jvm.Cond.privateMethod ({ cls := "java/lang/Throwable", name := "fillInStackTrace", desc := "(I)Ljava/lang/Throwable;" } : Jvm.MethodName)) ∈ lw_tbl := lw_at lw_m1 105 rfl
theorem q214 : (Jvm.Cond.instanceMethod ({ cls := "java/lang/Throwable", name := "fillInStackTrace", desc := "(I)Ljava/lang/Throwable;" } : Jvm.MethodName)) ∈ lw_all := lw_g (lw_at lw_m1 106 rfl) rfl
theorem q215 : (Jvm.Cond.instantiable "java/lang/Throwable" (6 : Nat)) ∈ lw_all := lw_g (lw_at lw_m1 107 rfl) rfl
theorem q216 : (Jvm.Cond.native ({ cls := "java/lang/Throwable", name := "fillInStackTrace", desc := "(I)Ljava/lang/Throwable;" } : Jvm.MethodName)) ∈ lw_all := lw_g (lw_at lw_m1 108 rfl) rfl
theorem q231 : (Jvm.Cond.fieldLink "java/lang/Throwable" (198 : Nat) "java/lang/Throwable" "backtrace" "Ljava/lang/Object;") ∈ lw_all := lw_g (lw_at lw_m1 123 rfl) rfl
theorem q232 : (Jvm.Cond.fieldLink "java/lang/Throwable" (31 : Nat) "java/lang/Throwable" "detailMessage" "Ljava/lang/String;") ∈ lw_all := lw_g (lw_at lw_m1 124 rfl) rfl
theorem q233 : (Jvm.Cond.fieldLink "java/lang/Throwable" (7 : Nat) "java/lang/Throwable" "cause" "Ljava/lang/Throwable;") ∈ lw_all := lw_g (lw_at lw_m1 125 rfl) rfl
theorem q234 : (Jvm.Cond.fieldLink "java/lang/Throwable" (17 : Nat) "java/lang/Throwable" "stackTrace" "[Ljava/lang/StackTraceElement;") ∈ lw_all := lw_g (lw_at lw_m1 126 rfl) rfl
theorem q235 : (Jvm.Cond.fieldLink "java/lang/Throwable" (24 : Nat) "java/lang/Throwable" "suppressedExceptions" "Ljava/util/List;") ∈ lw_all := lw_g (lw_at lw_m1 127 rfl) rfl
theorem q240 : (Jvm.Cond.soleField "java/lang/Throwable" "backtrace") ∈ lw_all := lw_g (lw_at lw_m1 132 rfl) rfl
theorem q241 : (Jvm.Cond.soleField "java/lang/Throwable" "detailMessage") ∈ lw_all := lw_g (lw_at lw_m1 133 rfl) rfl
theorem q242 : (Jvm.Cond.soleField "java/lang/Throwable" "cause") ∈ lw_all := lw_g (lw_at lw_m1 134 rfl) rfl
theorem q243 : (Jvm.Cond.soleField "java/lang/Throwable" "stackTrace") ∈ lw_all := lw_g (lw_at lw_m1 135 rfl) rfl
theorem q245 : (Jvm.Cond.soleField "java/lang/Throwable" "depth") ∈ lw_all := lw_g (lw_at lw_m1 137 rfl) rfl
theorem q246 : (Jvm.Cond.soleField "java/lang/Throwable" "suppressedExceptions") ∈ lw_all := lw_g (lw_at lw_m1 138 rfl) rfl
theorem q806 : (Jvm.Cond.instanceMethod ({ cls := "java/lang/Throwable", name := "<init>", desc := "(Ljava/lang/String;)V" } : Jvm.MethodName)) ∈ lw_all := lw_g (lw_at lw_m3 218 rfl) rfl
theorem q807 : (Jvm.Cond.code ({ cls := "java/lang/Throwable", name := "<init>", desc := "(Ljava/lang/String;)V" } : Jvm.MethodName) prog_50_method_2_code (2 : Nat) (Option.none : Option Jvm.ClassFile.FieldType)) ∈ lw_all := lw_g (lw_at lw_m3 219 rfl) rfl
theorem q2918 : (Jvm.Cond.instanceMethod ({ cls := "java/lang/Throwable", name := "<init>", desc := "(Ljava/lang/String;Ljava/lang/Throwable;ZZ)V" } : Jvm.MethodName)) ∈ lw_all := lw_g (lw_at lw_m12 170 rfl) rfl
theorem q2919 : (Jvm.Cond.code ({ cls := "java/lang/Throwable", name := "<init>", desc := "(Ljava/lang/String;Ljava/lang/Throwable;ZZ)V" } : Jvm.MethodName) prog_50_method_5_code (5 : Nat) (Option.none : Option Jvm.ClassFile.FieldType)) ∈ lw_all := lw_g (lw_at lw_m12 171 rfl) rfl
theorem q3214 : (Jvm.Cond.sameMethod "java/lang/Throwable" "java/lang/Throwable" "fillInStackTrace" "(I)Ljava/lang/Throwable;") ∈ lw_all := lw_g (lw_at lw_m13 226 rfl) rfl
theorem q3279 : (Jvm.Cond.castable "java/lang/Throwable" "java/lang/Object") ∈ lw_tbl := lw_at lw_m14 51 rfl
theorem in_J0 : ∀ w ∈ wsJ00, w ∈ lw_all := lw_in wsJ00 [186, 188, 190, 192, 194] (by decide +kernel) (by decide +kernel)
/-! java/lang/Exception -/
set_option maxRecDepth 100000
def RJ1 : String := "java/lang/Exception"
abbrev cJ1_init : ByteArray := prog_35_method_1_code
def yJ1_init : MethodName := ⟨RJ1, "<init>", "()V"⟩
theorem dJ1_init_0 : decode cJ1_init 0 = .ok (.aload_n 0, 1) := by decide +kernel
theorem dJ1_init_1 : decode cJ1_init 1 = .ok (.invokespecial 1, 3) := by decide +kernel
theorem dJ1_init_4 : decode cJ1_init 4 = .ok (.return_, 1) := by decide +kernel
abbrev cJ1_init_2 : ByteArray := prog_35_method_2_code
def yJ1_init_2 : MethodName := ⟨RJ1, "<init>", "(Ljava/lang/String;)V"⟩
def dkwJ1_init_2_0 : List UInt8 := [42, 43, 183, 0, 7, 177]
abbrev dktJ1_init_2_0 : List UInt8 := dkwJ1_init_2_0 ++ []
theorem dksJ1_init_2_0 : cJ1_init_2.data.toList.drop 0 = dktJ1_init_2_0 := by decide +kernel
theorem dJ1_init_2_0 : decode cJ1_init_2 0 = .ok (.aload_n 0, 1) := dk_42 (dk_at dksJ1_init_2_0 0 rfl rfl)
theorem dJ1_init_2_1 : decode cJ1_init_2 1 = .ok (.aload_n 1, 1) := dk_43 (dk_at dksJ1_init_2_0 1 rfl rfl)
theorem dJ1_init_2_2 : decode cJ1_init_2 2 = .ok (.invokespecial 7, 3) := dk_183 0 7 (dk_at dksJ1_init_2_0 2 rfl rfl)
theorem dJ1_init_2_5 : decode cJ1_init_2 5 = .ok (.return_, 1) := dk_177 (dk_at dksJ1_init_2_0 5 rfl rfl)
abbrev cJ1_init_3 : ByteArray := prog_35_method_5_code
def yJ1_init_3 : MethodName := ⟨RJ1, "<init>", "(Ljava/lang/String;Ljava/lang/Throwable;ZZ)V"⟩
def dkwJ1_init_3_0 : List UInt8 := [42, 43, 44, 29, 21, 4, 183, 0, 16, 177]
abbrev dktJ1_init_3_0 : List UInt8 := dkwJ1_init_3_0 ++ []
theorem dksJ1_init_3_0 : cJ1_init_3.data.toList.drop 0 = dktJ1_init_3_0 := by decide +kernel
theorem dJ1_init_3_0 : decode cJ1_init_3 0 = .ok (.aload_n 0, 1) := dk_42 (dk_at dksJ1_init_3_0 0 rfl rfl)
theorem dJ1_init_3_1 : decode cJ1_init_3 1 = .ok (.aload_n 1, 1) := dk_43 (dk_at dksJ1_init_3_0 1 rfl rfl)
theorem dJ1_init_3_2 : decode cJ1_init_3 2 = .ok (.aload_n 2, 1) := dk_44 (dk_at dksJ1_init_3_0 2 rfl rfl)
theorem dJ1_init_3_3 : decode cJ1_init_3 3 = .ok (.iload_n 3, 1) := dk_29 (dk_at dksJ1_init_3_0 3 rfl rfl)
theorem dJ1_init_3_4 : decode cJ1_init_3 4 = .ok (.iload 4, 2) := dk_21 4 (dk_at dksJ1_init_3_0 4 rfl rfl)
theorem dJ1_init_3_6 : decode cJ1_init_3 6 = .ok (.invokespecial 16, 3) := dk_183 0 16 (dk_at dksJ1_init_3_0 6 rfl rfl)
theorem dJ1_init_3_9 : decode cJ1_init_3 9 = .ok (.return_, 1) := dk_177 (dk_at dksJ1_init_3_0 9 rfl rfl)
theorem q111 : (Jvm.Cond.initialized "java/lang/Exception") ∈ lw_all := lw_g (lw_at lw_m1 3 rfl) rfl
theorem q179 : (Jvm.Cond.declares ({ cls := "java/lang/Exception", name := "<init>", desc := "()V" } : Jvm.MethodName)) ∈ lw_tbl := lw_at lw_m1 71 rfl
theorem q180 : (Jvm.Cond.declares ({ cls := "java/lang/Exception", name := "<init>", desc := "(Ljava/lang/String;)V" } : Jvm.MethodName)) ∈ lw_tbl := lw_at lw_m1 72 rfl
theorem q224 : (Jvm.Cond.instanceMethod ({ cls := "java/lang/Exception", name := "<init>", desc := "()V" } : Jvm.MethodName)) ∈ lw_all := lw_g (lw_at lw_m1 116 rfl) rfl
theorem q225 : (Jvm.Cond.code ({ cls := "java/lang/Exception", name := "<init>", desc := "()V" } : Jvm.MethodName) prog_35_method_1_code (1 : Nat) (Option.none : Option Jvm.ClassFile.FieldType)) ∈ lw_all := lw_g (lw_at lw_m1 117 rfl) rfl
theorem q226 : (Jvm.Cond.methodLink "java/lang/Exception" (1 : Nat) ({ cls := "java/lang/Throwable", name := "<init>", desc := "()V" } : Jvm.MethodName)) ∈ lw_all := lw_g (lw_at lw_m1 118 rfl) rfl
theorem q803 : (Jvm.Cond.instanceMethod ({ cls := "java/lang/Exception", name := "<init>", desc := "(Ljava/lang/String;)V" } : Jvm.MethodName)) ∈ lw_all := lw_g (lw_at lw_m3 215 rfl) rfl
theorem q804 : (Jvm.Cond.code ({ cls := "java/lang/Exception", name := "<init>", desc := "(Ljava/lang/String;)V" } : Jvm.MethodName) prog_35_method_2_code (2 : Nat) (Option.none : Option Jvm.ClassFile.FieldType)) ∈ lw_all := lw_g (lw_at lw_m3 216 rfl) rfl
theorem q805 : (Jvm.Cond.methodLink "java/lang/Exception" (7 : Nat) ({ cls := "java/lang/Throwable", name := "<init>", desc := "(Ljava/lang/String;)V" } : Jvm.MethodName)) ∈ lw_all := lw_g (lw_at lw_m3 217 rfl) rfl
theorem q2915 : (Jvm.Cond.instanceMethod ({ cls := "java/lang/Exception", name := "<init>", desc := "(Ljava/lang/String;Ljava/lang/Throwable;ZZ)V" } : Jvm.MethodName)) ∈ lw_all := lw_g (lw_at lw_m12 167 rfl) rfl
theorem q2916 : (Jvm.Cond.code ({ cls := "java/lang/Exception", name := "<init>", desc := "(Ljava/lang/String;Ljava/lang/Throwable;ZZ)V" } : Jvm.MethodName) prog_35_method_5_code (5 : Nat) (Option.none : Option Jvm.ClassFile.FieldType)) ∈ lw_all := lw_g (lw_at lw_m12 168 rfl) rfl
theorem q2917 : (Jvm.Cond.methodLink "java/lang/Exception" (16 : Nat) ({ cls := "java/lang/Throwable", name := "<init>", desc := "(Ljava/lang/String;Ljava/lang/Throwable;ZZ)V" } : Jvm.MethodName)) ∈ lw_all := lw_g (lw_at lw_m12 169 rfl) rfl
/-! java/lang/RuntimeException -/
set_option maxRecDepth 100000
def RJ2 : String := "java/lang/RuntimeException"
abbrev cJ2_init : ByteArray := prog_43_method_1_code
def yJ2_init : MethodName := ⟨RJ2, "<init>", "()V"⟩
theorem dJ2_init_0 : decode cJ2_init 0 = .ok (.aload_n 0, 1) := by decide +kernel
theorem dJ2_init_1 : decode cJ2_init 1 = .ok (.invokespecial 1, 3) := by decide +kernel
theorem dJ2_init_4 : decode cJ2_init 4 = .ok (.return_, 1) := by decide +kernel
abbrev cJ2_init_2 : ByteArray := prog_43_method_2_code
def yJ2_init_2 : MethodName := ⟨RJ2, "<init>", "(Ljava/lang/String;)V"⟩
def dkwJ2_init_2_0 : List UInt8 := [42, 43, 183, 0, 7, 177]
abbrev dktJ2_init_2_0 : List UInt8 := dkwJ2_init_2_0 ++ []
theorem dksJ2_init_2_0 : cJ2_init_2.data.toList.drop 0 = dktJ2_init_2_0 := by decide +kernel
theorem dJ2_init_2_0 : decode cJ2_init_2 0 = .ok (.aload_n 0, 1) := dk_42 (dk_at dksJ2_init_2_0 0 rfl rfl)
theorem dJ2_init_2_1 : decode cJ2_init_2 1 = .ok (.aload_n 1, 1) := dk_43 (dk_at dksJ2_init_2_0 1 rfl rfl)
theorem dJ2_init_2_2 : decode cJ2_init_2 2 = .ok (.invokespecial 7, 3) := dk_183 0 7 (dk_at dksJ2_init_2_0 2 rfl rfl)
theorem dJ2_init_2_5 : decode cJ2_init_2 5 = .ok (.return_, 1) := dk_177 (dk_at dksJ2_init_2_0 5 rfl rfl)
abbrev cJ2_init_3 : ByteArray := prog_43_method_5_code
def yJ2_init_3 : MethodName := ⟨RJ2, "<init>", "(Ljava/lang/String;Ljava/lang/Throwable;ZZ)V"⟩
def dkwJ2_init_3_0 : List UInt8 := [42, 43, 44, 29, 21, 4, 183, 0, 16, 177]
abbrev dktJ2_init_3_0 : List UInt8 := dkwJ2_init_3_0 ++ []
theorem dksJ2_init_3_0 : cJ2_init_3.data.toList.drop 0 = dktJ2_init_3_0 := by decide +kernel
theorem dJ2_init_3_0 : decode cJ2_init_3 0 = .ok (.aload_n 0, 1) := dk_42 (dk_at dksJ2_init_3_0 0 rfl rfl)
theorem dJ2_init_3_1 : decode cJ2_init_3 1 = .ok (.aload_n 1, 1) := dk_43 (dk_at dksJ2_init_3_0 1 rfl rfl)
theorem dJ2_init_3_2 : decode cJ2_init_3 2 = .ok (.aload_n 2, 1) := dk_44 (dk_at dksJ2_init_3_0 2 rfl rfl)
theorem dJ2_init_3_3 : decode cJ2_init_3 3 = .ok (.iload_n 3, 1) := dk_29 (dk_at dksJ2_init_3_0 3 rfl rfl)
theorem dJ2_init_3_4 : decode cJ2_init_3 4 = .ok (.iload 4, 2) := dk_21 4 (dk_at dksJ2_init_3_0 4 rfl rfl)
theorem dJ2_init_3_6 : decode cJ2_init_3 6 = .ok (.invokespecial 16, 3) := dk_183 0 16 (dk_at dksJ2_init_3_0 6 rfl rfl)
theorem dJ2_init_3_9 : decode cJ2_init_3 9 = .ok (.return_, 1) := dk_177 (dk_at dksJ2_init_3_0 9 rfl rfl)
theorem q112 : (Jvm.Cond.initialized "java/lang/RuntimeException") ∈ lw_all := lw_g (lw_at lw_m1 4 rfl) rfl
theorem q177 : (Jvm.Cond.declares ({ cls := "java/lang/RuntimeException", name := "<init>", desc := "()V" } : Jvm.MethodName)) ∈ lw_tbl := lw_at lw_m1 69 rfl
theorem q178 : (Jvm.Cond.declares ({ cls := "java/lang/RuntimeException", name := "<init>", desc := "(Ljava/lang/String;)V" } : Jvm.MethodName)) ∈ lw_tbl := lw_at lw_m1 70 rfl
theorem q221 : (Jvm.Cond.instanceMethod ({ cls := "java/lang/RuntimeException", name := "<init>", desc := "()V" } : Jvm.MethodName)) ∈ lw_all := lw_g (lw_at lw_m1 113 rfl) rfl
theorem q222 : (Jvm.Cond.code ({ cls := "java/lang/RuntimeException", name := "<init>", desc := "()V" } : Jvm.MethodName) prog_43_method_1_code (1 : Nat) (Option.none : Option Jvm.ClassFile.FieldType)) ∈ lw_all := lw_g (lw_at lw_m1 114 rfl) rfl
theorem q223 : (Jvm.Cond.methodLink "java/lang/RuntimeException" (1 : Nat) ({ cls := "java/lang/Exception", name := "<init>", desc := "()V" } : Jvm.MethodName)) ∈ lw_all := lw_g (lw_at lw_m1 115 rfl) rfl
theorem q800 : (Jvm.Cond.instanceMethod ({ cls := "java/lang/RuntimeException", name := "<init>", desc := "(Ljava/lang/String;)V" } : Jvm.MethodName)) ∈ lw_all := lw_g (lw_at lw_m3 212 rfl) rfl
theorem q801 : (Jvm.Cond.code ({ cls := "java/lang/RuntimeException", name := "<init>", desc := "(Ljava/lang/String;)V" } : Jvm.MethodName) prog_43_method_2_code (2 : Nat) (Option.none : Option Jvm.ClassFile.FieldType)) ∈ lw_all := lw_g (lw_at lw_m3 213 rfl) rfl
theorem q802 : (Jvm.Cond.methodLink "java/lang/RuntimeException" (7 : Nat) ({ cls := "java/lang/Exception", name := "<init>", desc := "(Ljava/lang/String;)V" } : Jvm.MethodName)) ∈ lw_all := lw_g (lw_at lw_m3 214 rfl) rfl
theorem q2912 : (Jvm.Cond.instanceMethod ({ cls := "java/lang/RuntimeException", name := "<init>", desc := "(Ljava/lang/String;Ljava/lang/Throwable;ZZ)V" } : Jvm.MethodName)) ∈ lw_all := lw_g (lw_at lw_m12 164 rfl) rfl
theorem q2913 : (Jvm.Cond.code ({ cls := "java/lang/RuntimeException", name := "<init>", desc := "(Ljava/lang/String;Ljava/lang/Throwable;ZZ)V" } : Jvm.MethodName) prog_43_method_5_code (5 : Nat) (Option.none : Option Jvm.ClassFile.FieldType)) ∈ lw_all := lw_g (lw_at lw_m12 165 rfl) rfl
theorem q2914 : (Jvm.Cond.methodLink "java/lang/RuntimeException" (16 : Nat) ({ cls := "java/lang/Exception", name := "<init>", desc := "(Ljava/lang/String;Ljava/lang/Throwable;ZZ)V" } : Jvm.MethodName)) ∈ lw_all := lw_g (lw_at lw_m12 166 rfl) rfl
/-! java/util/AbstractCollection -/
set_option maxRecDepth 100000
def RJ3 : String := "java/util/AbstractCollection"
abbrev cJ3_init : ByteArray := prog_53_method_1_code
def yJ3_init : MethodName := ⟨RJ3, "<init>", "()V"⟩
theorem dJ3_init_0 : decode cJ3_init 0 = .ok (.aload_n 0, 1) := by decide +kernel
theorem dJ3_init_1 : decode cJ3_init 1 = .ok (.invokespecial 1, 3) := by decide +kernel
theorem dJ3_init_4 : decode cJ3_init 4 = .ok (.return_, 1) := by decide +kernel
theorem q115 : (Jvm.Cond.initialized "java/util/AbstractCollection") ∈ lw_all := lw_g (lw_at lw_m1 7 rfl) rfl
theorem q264 : (Jvm.Cond.instanceMethod ({ cls := "java/util/AbstractCollection", name := "<init>", desc := "()V" } : Jvm.MethodName)) ∈ lw_all := lw_g (lw_at lw_m1 156 rfl) rfl
theorem q265 : (Jvm.Cond.code ({ cls := "java/util/AbstractCollection", name := "<init>", desc := "()V" } : Jvm.MethodName) prog_53_method_1_code (1 : Nat) (Option.none : Option Jvm.ClassFile.FieldType)) ∈ lw_all := lw_g (lw_at lw_m1 157 rfl) rfl
theorem q266 : (Jvm.Cond.methodLink "java/util/AbstractCollection" (1 : Nat) ({ cls := "java/lang/Object", name := "<init>", desc := "()V" } : Jvm.MethodName)) ∈ lw_all := lw_g (lw_at lw_m1 158 rfl) rfl
/-! java/util/AbstractList -/
set_option maxRecDepth 100000
def RJ4 : String := "java/util/AbstractList"
abbrev cJ4_init : ByteArray := prog_54_method_1_code
def yJ4_init : MethodName := ⟨RJ4, "<init>", "()V"⟩
def dkwJ4_init_0 : List UInt8 := [42, 183, 0, 1, 42, 3, 181, 0, 7, 177]
abbrev dktJ4_init_0 : List UInt8 := dkwJ4_init_0 ++ []
theorem dksJ4_init_0 : cJ4_init.data.toList.drop 0 = dktJ4_init_0 := by decide +kernel
theorem dJ4_init_0 : decode cJ4_init 0 = .ok (.aload_n 0, 1) := dk_42 (dk_at dksJ4_init_0 0 rfl rfl)
theorem dJ4_init_1 : decode cJ4_init 1 = .ok (.invokespecial 1, 3) := dk_183 0 1 (dk_at dksJ4_init_0 1 rfl rfl)
theorem dJ4_init_4 : decode cJ4_init 4 = .ok (.aload_n 0, 1) := dk_42 (dk_at dksJ4_init_0 4 rfl rfl)
theorem dJ4_init_5 : decode cJ4_init 5 = .ok (.iconst 0, 1) := dk_3 (dk_at dksJ4_init_0 5 rfl rfl)
theorem dJ4_init_6 : decode cJ4_init 6 = .ok (.putfield 7, 3) := dk_181 0 7 (dk_at dksJ4_init_0 6 rfl rfl)
theorem dJ4_init_9 : decode cJ4_init 9 = .ok (.return_, 1) := dk_177 (dk_at dksJ4_init_0 9 rfl rfl)
theorem q116 : (Jvm.Cond.initialized "java/util/AbstractList") ∈ lw_all := lw_g (lw_at lw_m1 8 rfl) rfl
theorem q261 : (Jvm.Cond.instanceMethod ({ cls := "java/util/AbstractList", name := "<init>", desc := "()V" } : Jvm.MethodName)) ∈ lw_all := lw_g (lw_at lw_m1 153 rfl) rfl
theorem q262 : (Jvm.Cond.code ({ cls := "java/util/AbstractList", name := "<init>", desc := "()V" } : Jvm.MethodName) prog_54_method_1_code (1 : Nat) (Option.none : Option Jvm.ClassFile.FieldType)) ∈ lw_all := lw_g (lw_at lw_m1 154 rfl) rfl
theorem q263 : (Jvm.Cond.methodLink "java/util/AbstractList" (1 : Nat) ({ cls := "java/util/AbstractCollection", name := "<init>", desc := "()V" } : Jvm.MethodName)) ∈ lw_all := lw_g (lw_at lw_m1 155 rfl) rfl
theorem q271 : (Jvm.Cond.fieldLink "java/util/AbstractList" (7 : Nat) "java/util/AbstractList" "modCount" "I") ∈ lw_all := lw_g (lw_at lw_m1 163 rfl) rfl
theorem q279 : (Jvm.Cond.soleField "java/util/AbstractList" "modCount") ∈ lw_all := lw_g (lw_at lw_m1 171 rfl) rfl
/-! java/util/ArrayList -/
set_option maxRecDepth 100000
def RJ5 : String := "java/util/ArrayList"
def TJ5 : u_T := fun k => match k with
  | 0 => ("java/util/AbstractList", "modCount", "I", false)
  | 1 => ("java/util/ArrayList", "elementData", "[Ljava/lang/Object;", false)
  | _ => ("java/util/ArrayList", "size", "I", false)
def tyJ5 : Nat → FieldType := fun k => match k with
  | 0 => .int
  | 1 => .array (.object "java/lang/Object")
  | _ => .int
abbrev wsJ50 : List Cond := u_ws RJ5 TJ5 3
theorem nmJ5 : ∀ a, a < 3 → ∀ b, b < 3 → a ≠ b → (TJ5 a).2.1 ≠ (TJ5 b).2.1 := by decide +kernel
theorem tyJ5_ok : ∀ k, k < 3 → parseFieldDescriptor (TJ5 k).2.2.1 = some (tyJ5 k) := by decide +kernel
abbrev cJ5_init : ByteArray := prog_56_method_2_code
def yJ5_init : MethodName := ⟨RJ5, "<init>", "()V"⟩
def dkwJ5_init_0 : List UInt8 := [42, 183, 0, 1, 42, 178, 0, 39, 181, 0, 9, 177]
abbrev dktJ5_init_0 : List UInt8 := dkwJ5_init_0 ++ []
theorem dksJ5_init_0 : cJ5_init.data.toList.drop 0 = dktJ5_init_0 := by decide +kernel
theorem dJ5_init_0 : decode cJ5_init 0 = .ok (.aload_n 0, 1) := dk_42 (dk_at dksJ5_init_0 0 rfl rfl)
theorem dJ5_init_1 : decode cJ5_init 1 = .ok (.invokespecial 1, 3) := dk_183 0 1 (dk_at dksJ5_init_0 1 rfl rfl)
theorem dJ5_init_4 : decode cJ5_init 4 = .ok (.aload_n 0, 1) := dk_42 (dk_at dksJ5_init_0 4 rfl rfl)
theorem dJ5_init_5 : decode cJ5_init 5 = .ok (.getstatic 39, 3) := dk_178 0 39 (dk_at dksJ5_init_0 5 rfl rfl)
theorem dJ5_init_8 : decode cJ5_init 8 = .ok (.putfield 9, 3) := dk_181 0 9 (dk_at dksJ5_init_0 8 rfl rfl)
theorem dJ5_init_11 : decode cJ5_init 11 = .ok (.return_, 1) := dk_177 (dk_at dksJ5_init_0 11 rfl rfl)
abbrev cJ5_clear : ByteArray := prog_56_method_40_code
def yJ5_clear : MethodName := ⟨RJ5, "clear", "()V"⟩
def dkwJ5_clear_1 : List UInt8 := [181, 0, 48, 62, 29, 28, 162, 0, 13, 43, 29, 1, 83, 132, 3, 1, 167, 255, 244, 177]
abbrev dktJ5_clear_1 : List UInt8 := dkwJ5_clear_1 ++ []
def dkwJ5_clear_0 : List UInt8 := [42, 89, 180, 0, 63, 4, 96, 181, 0, 63, 42, 180, 0, 9, 76, 42, 180, 0, 48, 61, 42, 3, 90]
abbrev dktJ5_clear_0 : List UInt8 := dkwJ5_clear_0 ++ dktJ5_clear_1
theorem dksJ5_clear_0 : cJ5_clear.data.toList.drop 0 = dktJ5_clear_0 := by decide +kernel
theorem dksJ5_clear_1 : cJ5_clear.data.toList.drop 23 = dktJ5_clear_1 := dk_seg dksJ5_clear_0 23 rfl rfl
theorem dJ5_clear_0 : decode cJ5_clear 0 = .ok (.aload_n 0, 1) := dk_42 (dk_at dksJ5_clear_0 0 rfl rfl)
theorem dJ5_clear_1 : decode cJ5_clear 1 = .ok (.dup, 1) := dk_89 (dk_at dksJ5_clear_0 1 rfl rfl)
theorem dJ5_clear_2 : decode cJ5_clear 2 = .ok (.getfield 63, 3) := dk_180 0 63 (dk_at dksJ5_clear_0 2 rfl rfl)
theorem dJ5_clear_5 : decode cJ5_clear 5 = .ok (.iconst 1, 1) := dk_4 (dk_at dksJ5_clear_0 5 rfl rfl)
theorem dJ5_clear_6 : decode cJ5_clear 6 = .ok (.iadd, 1) := dk_96 (dk_at dksJ5_clear_0 6 rfl rfl)
theorem dJ5_clear_7 : decode cJ5_clear 7 = .ok (.putfield 63, 3) := dk_181 0 63 (dk_at dksJ5_clear_0 7 rfl rfl)
theorem dJ5_clear_10 : decode cJ5_clear 10 = .ok (.aload_n 0, 1) := dk_42 (dk_at dksJ5_clear_0 10 rfl rfl)
theorem dJ5_clear_11 : decode cJ5_clear 11 = .ok (.getfield 9, 3) := dk_180 0 9 (dk_at dksJ5_clear_0 11 rfl rfl)
theorem dJ5_clear_14 : decode cJ5_clear 14 = .ok (.astore_n 1, 1) := dk_76 (dk_at dksJ5_clear_0 14 rfl rfl)
theorem dJ5_clear_15 : decode cJ5_clear 15 = .ok (.aload_n 0, 1) := dk_42 (dk_at dksJ5_clear_0 15 rfl rfl)
theorem dJ5_clear_16 : decode cJ5_clear 16 = .ok (.getfield 48, 3) := dk_180 0 48 (dk_at dksJ5_clear_0 16 rfl rfl)
theorem dJ5_clear_19 : decode cJ5_clear 19 = .ok (.istore_n 2, 1) := dk_61 (dk_at dksJ5_clear_0 19 rfl rfl)
theorem dJ5_clear_20 : decode cJ5_clear 20 = .ok (.aload_n 0, 1) := dk_42 (dk_at dksJ5_clear_0 20 rfl rfl)
theorem dJ5_clear_21 : decode cJ5_clear 21 = .ok (.iconst 0, 1) := dk_3 (dk_at dksJ5_clear_0 21 rfl rfl)
theorem dJ5_clear_22 : decode cJ5_clear 22 = .ok (.dup_x1, 1) := dk_90 (dk_at dksJ5_clear_0 22 rfl rfl)
theorem dJ5_clear_23 : decode cJ5_clear 23 = .ok (.putfield 48, 3) := dk_181 0 48 (dk_at dksJ5_clear_1 0 rfl rfl)
theorem dJ5_clear_26 : decode cJ5_clear 26 = .ok (.istore_n 3, 1) := dk_62 (dk_at dksJ5_clear_1 3 rfl rfl)
theorem dJ5_clear_27 : decode cJ5_clear 27 = .ok (.iload_n 3, 1) := dk_29 (dk_at dksJ5_clear_1 4 rfl rfl)
theorem dJ5_clear_28 : decode cJ5_clear 28 = .ok (.iload_n 2, 1) := dk_28 (dk_at dksJ5_clear_1 5 rfl rfl)
theorem dJ5_clear_29 : decode cJ5_clear 29 = .ok (.if_icmp .ge 13, 3) := dk_162 0 13 (dk_at dksJ5_clear_1 6 rfl rfl)
theorem dJ5_clear_32 : decode cJ5_clear 32 = .ok (.aload_n 1, 1) := dk_43 (dk_at dksJ5_clear_1 9 rfl rfl)
theorem dJ5_clear_33 : decode cJ5_clear 33 = .ok (.iload_n 3, 1) := dk_29 (dk_at dksJ5_clear_1 10 rfl rfl)
theorem dJ5_clear_34 : decode cJ5_clear 34 = .ok (.aconst_null, 1) := dk_1 (dk_at dksJ5_clear_1 11 rfl rfl)
theorem dJ5_clear_35 : decode cJ5_clear 35 = .ok (.aastore, 1) := dk_83 (dk_at dksJ5_clear_1 12 rfl rfl)
theorem dJ5_clear_36 : decode cJ5_clear 36 = .ok (.iinc 3 1, 3) := dk_132 3 1 (dk_at dksJ5_clear_1 13 rfl rfl)
theorem dJ5_clear_39 : decode cJ5_clear 39 = .ok (.goto (-12), 3) := dk_167 255 244 (dk_at dksJ5_clear_1 16 rfl rfl)
theorem dJ5_clear_42 : decode cJ5_clear 42 = .ok (.return_, 1) := dk_177 (dk_at dksJ5_clear_1 19 rfl rfl)
abbrev cJ5_size : ByteArray := prog_56_method_8_code
def yJ5_size : MethodName := ⟨RJ5, "size", "()I"⟩
theorem dJ5_size_0 : decode cJ5_size 0 = .ok (.aload_n 0, 1) := by decide +kernel
theorem dJ5_size_1 : decode cJ5_size 1 = .ok (.getfield 48, 3) := by decide +kernel
theorem dJ5_size_4 : decode cJ5_size 4 = .ok (.ireturn, 1) := by decide +kernel
abbrev cJ5_get : ByteArray := prog_56_method_20_code
def yJ5_get : MethodName := ⟨RJ5, "get", "(I)Ljava/lang/Object;"⟩
def dkwJ5_get_0 : List UInt8 := [27, 42, 180, 0, 48, 184, 0, 118, 87, 42, 27, 182, 0, 123, 176]
abbrev dktJ5_get_0 : List UInt8 := dkwJ5_get_0 ++ []
theorem dksJ5_get_0 : cJ5_get.data.toList.drop 0 = dktJ5_get_0 := by decide +kernel
theorem dJ5_get_0 : decode cJ5_get 0 = .ok (.iload_n 1, 1) := dk_27 (dk_at dksJ5_get_0 0 rfl rfl)
theorem dJ5_get_1 : decode cJ5_get 1 = .ok (.aload_n 0, 1) := dk_42 (dk_at dksJ5_get_0 1 rfl rfl)
theorem dJ5_get_2 : decode cJ5_get 2 = .ok (.getfield 48, 3) := dk_180 0 48 (dk_at dksJ5_get_0 2 rfl rfl)
theorem dJ5_get_5 : decode cJ5_get 5 = .ok (.invokestatic 118, 3) := dk_184 0 118 (dk_at dksJ5_get_0 5 rfl rfl)
theorem dJ5_get_8 : decode cJ5_get 8 = .ok (.pop, 1) := dk_87 (dk_at dksJ5_get_0 8 rfl rfl)
theorem dJ5_get_9 : decode cJ5_get 9 = .ok (.aload_n 0, 1) := dk_42 (dk_at dksJ5_get_0 9 rfl rfl)
theorem dJ5_get_10 : decode cJ5_get 10 = .ok (.iload_n 1, 1) := dk_27 (dk_at dksJ5_get_0 10 rfl rfl)
theorem dJ5_get_11 : decode cJ5_get 11 = .ok (.invokevirtual 123, 3) := dk_182 0 123 (dk_at dksJ5_get_0 11 rfl rfl)
theorem dJ5_get_14 : decode cJ5_get 14 = .ok (.areturn, 1) := dk_176 (dk_at dksJ5_get_0 14 rfl rfl)
abbrev cJ5_elementData : ByteArray := prog_56_method_18_code
def yJ5_elementData : MethodName := ⟨RJ5, "elementData", "(I)Ljava/lang/Object;"⟩
def dkwJ5_elementData_0 : List UInt8 := [42, 180, 0, 9, 27, 50, 176]
abbrev dktJ5_elementData_0 : List UInt8 := dkwJ5_elementData_0 ++ []
theorem dksJ5_elementData_0 : cJ5_elementData.data.toList.drop 0 = dktJ5_elementData_0 := by decide +kernel
theorem dJ5_elementData_0 : decode cJ5_elementData 0 = .ok (.aload_n 0, 1) := dk_42 (dk_at dksJ5_elementData_0 0 rfl rfl)
theorem dJ5_elementData_1 : decode cJ5_elementData 1 = .ok (.getfield 9, 3) := dk_180 0 9 (dk_at dksJ5_elementData_0 1 rfl rfl)
theorem dJ5_elementData_4 : decode cJ5_elementData 4 = .ok (.iload_n 1, 1) := dk_27 (dk_at dksJ5_elementData_0 4 rfl rfl)
theorem dJ5_elementData_5 : decode cJ5_elementData 5 = .ok (.aaload, 1) := dk_50 (dk_at dksJ5_elementData_0 5 rfl rfl)
theorem dJ5_elementData_6 : decode cJ5_elementData 6 = .ok (.areturn, 1) := dk_176 (dk_at dksJ5_elementData_0 6 rfl rfl)
abbrev cJ5_add : ByteArray := prog_56_method_25_code
def yJ5_add : MethodName := ⟨RJ5, "add", "(Ljava/lang/Object;)Z"⟩
def dkwJ5_add_1 : List UInt8 := [172]
abbrev dktJ5_add_1 : List UInt8 := dkwJ5_add_1 ++ []
def dkwJ5_add_0 : List UInt8 := [42, 89, 180, 0, 63, 4, 96, 181, 0, 63, 42, 43, 42, 180, 0, 9, 42, 180, 0, 48, 182, 0, 131, 4]
abbrev dktJ5_add_0 : List UInt8 := dkwJ5_add_0 ++ dktJ5_add_1
theorem dksJ5_add_0 : cJ5_add.data.toList.drop 0 = dktJ5_add_0 := by decide +kernel
theorem dksJ5_add_1 : cJ5_add.data.toList.drop 24 = dktJ5_add_1 := dk_seg dksJ5_add_0 24 rfl rfl
theorem dJ5_add_0 : decode cJ5_add 0 = .ok (.aload_n 0, 1) := dk_42 (dk_at dksJ5_add_0 0 rfl rfl)
theorem dJ5_add_1 : decode cJ5_add 1 = .ok (.dup, 1) := dk_89 (dk_at dksJ5_add_0 1 rfl rfl)
theorem dJ5_add_2 : decode cJ5_add 2 = .ok (.getfield 63, 3) := dk_180 0 63 (dk_at dksJ5_add_0 2 rfl rfl)
theorem dJ5_add_5 : decode cJ5_add 5 = .ok (.iconst 1, 1) := dk_4 (dk_at dksJ5_add_0 5 rfl rfl)
theorem dJ5_add_6 : decode cJ5_add 6 = .ok (.iadd, 1) := dk_96 (dk_at dksJ5_add_0 6 rfl rfl)
theorem dJ5_add_7 : decode cJ5_add 7 = .ok (.putfield 63, 3) := dk_181 0 63 (dk_at dksJ5_add_0 7 rfl rfl)
theorem dJ5_add_10 : decode cJ5_add 10 = .ok (.aload_n 0, 1) := dk_42 (dk_at dksJ5_add_0 10 rfl rfl)
theorem dJ5_add_11 : decode cJ5_add 11 = .ok (.aload_n 1, 1) := dk_43 (dk_at dksJ5_add_0 11 rfl rfl)
theorem dJ5_add_12 : decode cJ5_add 12 = .ok (.aload_n 0, 1) := dk_42 (dk_at dksJ5_add_0 12 rfl rfl)
theorem dJ5_add_13 : decode cJ5_add 13 = .ok (.getfield 9, 3) := dk_180 0 9 (dk_at dksJ5_add_0 13 rfl rfl)
theorem dJ5_add_16 : decode cJ5_add 16 = .ok (.aload_n 0, 1) := dk_42 (dk_at dksJ5_add_0 16 rfl rfl)
theorem dJ5_add_17 : decode cJ5_add 17 = .ok (.getfield 48, 3) := dk_180 0 48 (dk_at dksJ5_add_0 17 rfl rfl)
theorem dJ5_add_20 : decode cJ5_add 20 = .ok (.invokevirtual 131, 3) := dk_182 0 131 (dk_at dksJ5_add_0 20 rfl rfl)
theorem dJ5_add_23 : decode cJ5_add 23 = .ok (.iconst 1, 1) := dk_4 (dk_at dksJ5_add_0 23 rfl rfl)
theorem dJ5_add_24 : decode cJ5_add 24 = .ok (.ireturn, 1) := dk_172 (dk_at dksJ5_add_1 0 rfl rfl)
abbrev cJ5_add_2 : ByteArray := prog_56_method_24_code
def yJ5_add_2 : MethodName := ⟨RJ5, "add", "(Ljava/lang/Object;[Ljava/lang/Object;I)V"⟩
def dkwJ5_add_2_0 : List UInt8 := [29, 44, 190, 160, 0, 8, 42, 182, 0, 129, 77, 44, 29, 43, 83, 42, 29, 4, 96, 181, 0, 48, 177]
abbrev dktJ5_add_2_0 : List UInt8 := dkwJ5_add_2_0 ++ []
theorem dksJ5_add_2_0 : cJ5_add_2.data.toList.drop 0 = dktJ5_add_2_0 := by decide +kernel
theorem dJ5_add_2_0 : decode cJ5_add_2 0 = .ok (.iload_n 3, 1) := dk_29 (dk_at dksJ5_add_2_0 0 rfl rfl)
theorem dJ5_add_2_1 : decode cJ5_add_2 1 = .ok (.aload_n 2, 1) := dk_44 (dk_at dksJ5_add_2_0 1 rfl rfl)
theorem dJ5_add_2_2 : decode cJ5_add_2 2 = .ok (.arraylength, 1) := dk_190 (dk_at dksJ5_add_2_0 2 rfl rfl)
theorem dJ5_add_2_3 : decode cJ5_add_2 3 = .ok (.if_icmp .ne 8, 3) := dk_160 0 8 (dk_at dksJ5_add_2_0 3 rfl rfl)
theorem dJ5_add_2_6 : decode cJ5_add_2 6 = .ok (.aload_n 0, 1) := dk_42 (dk_at dksJ5_add_2_0 6 rfl rfl)
theorem dJ5_add_2_7 : decode cJ5_add_2 7 = .ok (.invokevirtual 129, 3) := dk_182 0 129 (dk_at dksJ5_add_2_0 7 rfl rfl)
theorem dJ5_add_2_10 : decode cJ5_add_2 10 = .ok (.astore_n 2, 1) := dk_77 (dk_at dksJ5_add_2_0 10 rfl rfl)
theorem dJ5_add_2_11 : decode cJ5_add_2 11 = .ok (.aload_n 2, 1) := dk_44 (dk_at dksJ5_add_2_0 11 rfl rfl)
theorem dJ5_add_2_12 : decode cJ5_add_2 12 = .ok (.iload_n 3, 1) := dk_29 (dk_at dksJ5_add_2_0 12 rfl rfl)
theorem dJ5_add_2_13 : decode cJ5_add_2 13 = .ok (.aload_n 1, 1) := dk_43 (dk_at dksJ5_add_2_0 13 rfl rfl)
theorem dJ5_add_2_14 : decode cJ5_add_2 14 = .ok (.aastore, 1) := dk_83 (dk_at dksJ5_add_2_0 14 rfl rfl)
theorem dJ5_add_2_15 : decode cJ5_add_2 15 = .ok (.aload_n 0, 1) := dk_42 (dk_at dksJ5_add_2_0 15 rfl rfl)
theorem dJ5_add_2_16 : decode cJ5_add_2 16 = .ok (.iload_n 3, 1) := dk_29 (dk_at dksJ5_add_2_0 16 rfl rfl)
theorem dJ5_add_2_17 : decode cJ5_add_2 17 = .ok (.iconst 1, 1) := dk_4 (dk_at dksJ5_add_2_0 17 rfl rfl)
theorem dJ5_add_2_18 : decode cJ5_add_2 18 = .ok (.iadd, 1) := dk_96 (dk_at dksJ5_add_2_0 18 rfl rfl)
theorem dJ5_add_2_19 : decode cJ5_add_2 19 = .ok (.putfield 48, 3) := dk_181 0 48 (dk_at dksJ5_add_2_0 19 rfl rfl)
theorem dJ5_add_2_22 : decode cJ5_add_2 22 = .ok (.return_, 1) := dk_177 (dk_at dksJ5_add_2_0 22 rfl rfl)
abbrev cJ5_grow : ByteArray := prog_56_method_7_code
def yJ5_grow : MethodName := ⟨RJ5, "grow", "()[Ljava/lang/Object;"⟩
def dkwJ5_grow_0 : List UInt8 := [42, 42, 180, 0, 48, 4, 96, 182, 0, 69, 176]
abbrev dktJ5_grow_0 : List UInt8 := dkwJ5_grow_0 ++ []
theorem dksJ5_grow_0 : cJ5_grow.data.toList.drop 0 = dktJ5_grow_0 := by decide +kernel
theorem dJ5_grow_0 : decode cJ5_grow 0 = .ok (.aload_n 0, 1) := dk_42 (dk_at dksJ5_grow_0 0 rfl rfl)
theorem dJ5_grow_1 : decode cJ5_grow 1 = .ok (.aload_n 0, 1) := dk_42 (dk_at dksJ5_grow_0 1 rfl rfl)
theorem dJ5_grow_2 : decode cJ5_grow 2 = .ok (.getfield 48, 3) := dk_180 0 48 (dk_at dksJ5_grow_0 2 rfl rfl)
theorem dJ5_grow_5 : decode cJ5_grow 5 = .ok (.iconst 1, 1) := dk_4 (dk_at dksJ5_grow_0 5 rfl rfl)
theorem dJ5_grow_6 : decode cJ5_grow 6 = .ok (.iadd, 1) := dk_96 (dk_at dksJ5_grow_0 6 rfl rfl)
theorem dJ5_grow_7 : decode cJ5_grow 7 = .ok (.invokevirtual 69, 3) := dk_182 0 69 (dk_at dksJ5_grow_0 7 rfl rfl)
theorem dJ5_grow_10 : decode cJ5_grow 10 = .ok (.areturn, 1) := dk_176 (dk_at dksJ5_grow_0 10 rfl rfl)
abbrev cJ5_grow_2 : ByteArray := prog_56_method_6_code
def yJ5_grow_2 : MethodName := ⟨RJ5, "grow", "(I)[Ljava/lang/Object;"⟩
def dkwJ5_grow_2_2 : List UInt8 := [27, 184, 0, 79, 189, 0, 7, 90, 181, 0, 9, 176]
abbrev dktJ5_grow_2_2 : List UInt8 := dkwJ5_grow_2_2 ++ []
def dkwJ5_grow_2_1 : List UInt8 := [28, 4, 122, 184, 0, 73, 62, 42, 42, 180, 0, 9, 29, 184, 0, 66, 90, 181, 0, 9, 176, 42, 16, 10]
abbrev dktJ5_grow_2_1 : List UInt8 := dkwJ5_grow_2_1 ++ dktJ5_grow_2_2
def dkwJ5_grow_2_0 : List UInt8 := [42, 180, 0, 9, 190, 61, 28, 157, 0, 13, 42, 180, 0, 9, 178, 0, 39, 165, 0, 28, 28, 27, 28, 100]
abbrev dktJ5_grow_2_0 : List UInt8 := dkwJ5_grow_2_0 ++ dktJ5_grow_2_1
theorem dksJ5_grow_2_0 : cJ5_grow_2.data.toList.drop 0 = dktJ5_grow_2_0 := by decide +kernel
theorem dksJ5_grow_2_1 : cJ5_grow_2.data.toList.drop 24 = dktJ5_grow_2_1 := dk_seg dksJ5_grow_2_0 24 rfl rfl
theorem dksJ5_grow_2_2 : cJ5_grow_2.data.toList.drop 48 = dktJ5_grow_2_2 := dk_seg dksJ5_grow_2_1 24 rfl rfl
theorem dJ5_grow_2_0 : decode cJ5_grow_2 0 = .ok (.aload_n 0, 1) := dk_42 (dk_at dksJ5_grow_2_0 0 rfl rfl)
theorem dJ5_grow_2_1 : decode cJ5_grow_2 1 = .ok (.getfield 9, 3) := dk_180 0 9 (dk_at dksJ5_grow_2_0 1 rfl rfl)
theorem dJ5_grow_2_4 : decode cJ5_grow_2 4 = .ok (.arraylength, 1) := dk_190 (dk_at dksJ5_grow_2_0 4 rfl rfl)
theorem dJ5_grow_2_5 : decode cJ5_grow_2 5 = .ok (.istore_n 2, 1) := dk_61 (dk_at dksJ5_grow_2_0 5 rfl rfl)
theorem dJ5_grow_2_6 : decode cJ5_grow_2 6 = .ok (.iload_n 2, 1) := dk_28 (dk_at dksJ5_grow_2_0 6 rfl rfl)
theorem dJ5_grow_2_7 : decode cJ5_grow_2 7 = .ok (.ifCond .gt 13, 3) := dk_157 0 13 (dk_at dksJ5_grow_2_0 7 rfl rfl)
theorem dJ5_grow_2_10 : decode cJ5_grow_2 10 = .ok (.aload_n 0, 1) := dk_42 (dk_at dksJ5_grow_2_0 10 rfl rfl)
theorem dJ5_grow_2_11 : decode cJ5_grow_2 11 = .ok (.getfield 9, 3) := dk_180 0 9 (dk_at dksJ5_grow_2_0 11 rfl rfl)
theorem dJ5_grow_2_14 : decode cJ5_grow_2 14 = .ok (.getstatic 39, 3) := dk_178 0 39 (dk_at dksJ5_grow_2_0 14 rfl rfl)
theorem dJ5_grow_2_17 : decode cJ5_grow_2 17 = .ok (.if_acmp .eq 28, 3) := dk_165 0 28 (dk_at dksJ5_grow_2_0 17 rfl rfl)
theorem dJ5_grow_2_20 : decode cJ5_grow_2 20 = .ok (.iload_n 2, 1) := dk_28 (dk_at dksJ5_grow_2_0 20 rfl rfl)
theorem dJ5_grow_2_21 : decode cJ5_grow_2 21 = .ok (.iload_n 1, 1) := dk_27 (dk_at dksJ5_grow_2_0 21 rfl rfl)
theorem dJ5_grow_2_22 : decode cJ5_grow_2 22 = .ok (.iload_n 2, 1) := dk_28 (dk_at dksJ5_grow_2_0 22 rfl rfl)
theorem dJ5_grow_2_23 : decode cJ5_grow_2 23 = .ok (.isub, 1) := dk_100 (dk_at dksJ5_grow_2_0 23 rfl rfl)
theorem dJ5_grow_2_24 : decode cJ5_grow_2 24 = .ok (.iload_n 2, 1) := dk_28 (dk_at dksJ5_grow_2_1 0 rfl rfl)
theorem dJ5_grow_2_25 : decode cJ5_grow_2 25 = .ok (.iconst 1, 1) := dk_4 (dk_at dksJ5_grow_2_1 1 rfl rfl)
theorem dJ5_grow_2_26 : decode cJ5_grow_2 26 = .ok (.ishr, 1) := dk_122 (dk_at dksJ5_grow_2_1 2 rfl rfl)
theorem dJ5_grow_2_27 : decode cJ5_grow_2 27 = .ok (.invokestatic 73, 3) := dk_184 0 73 (dk_at dksJ5_grow_2_1 3 rfl rfl)
theorem dJ5_grow_2_30 : decode cJ5_grow_2 30 = .ok (.istore_n 3, 1) := dk_62 (dk_at dksJ5_grow_2_1 6 rfl rfl)
theorem dJ5_grow_2_31 : decode cJ5_grow_2 31 = .ok (.aload_n 0, 1) := dk_42 (dk_at dksJ5_grow_2_1 7 rfl rfl)
theorem dJ5_grow_2_32 : decode cJ5_grow_2 32 = .ok (.aload_n 0, 1) := dk_42 (dk_at dksJ5_grow_2_1 8 rfl rfl)
theorem dJ5_grow_2_33 : decode cJ5_grow_2 33 = .ok (.getfield 9, 3) := dk_180 0 9 (dk_at dksJ5_grow_2_1 9 rfl rfl)
theorem dJ5_grow_2_36 : decode cJ5_grow_2 36 = .ok (.iload_n 3, 1) := dk_29 (dk_at dksJ5_grow_2_1 12 rfl rfl)
theorem dJ5_grow_2_37 : decode cJ5_grow_2 37 = .ok (.invokestatic 66, 3) := dk_184 0 66 (dk_at dksJ5_grow_2_1 13 rfl rfl)
theorem dJ5_grow_2_40 : decode cJ5_grow_2 40 = .ok (.dup_x1, 1) := dk_90 (dk_at dksJ5_grow_2_1 16 rfl rfl)
theorem dJ5_grow_2_41 : decode cJ5_grow_2 41 = .ok (.putfield 9, 3) := dk_181 0 9 (dk_at dksJ5_grow_2_1 17 rfl rfl)
theorem dJ5_grow_2_44 : decode cJ5_grow_2 44 = .ok (.areturn, 1) := dk_176 (dk_at dksJ5_grow_2_1 20 rfl rfl)
theorem dJ5_grow_2_45 : decode cJ5_grow_2 45 = .ok (.aload_n 0, 1) := dk_42 (dk_at dksJ5_grow_2_1 21 rfl rfl)
theorem dJ5_grow_2_46 : decode cJ5_grow_2 46 = .ok (.bipush 10, 2) := dk_16 10 (dk_at dksJ5_grow_2_1 22 rfl rfl)
theorem dJ5_grow_2_48 : decode cJ5_grow_2 48 = .ok (.iload_n 1, 1) := dk_27 (dk_at dksJ5_grow_2_2 0 rfl rfl)
theorem dJ5_grow_2_49 : decode cJ5_grow_2 49 = .ok (.invokestatic 79, 3) := dk_184 0 79 (dk_at dksJ5_grow_2_2 1 rfl rfl)
theorem dJ5_grow_2_52 : decode cJ5_grow_2 52 = .ok (.anewarray 7, 3) := dk_189 0 7 (dk_at dksJ5_grow_2_2 4 rfl rfl)
theorem dJ5_grow_2_55 : decode cJ5_grow_2 55 = .ok (.dup_x1, 1) := dk_90 (dk_at dksJ5_grow_2_2 7 rfl rfl)
theorem dJ5_grow_2_56 : decode cJ5_grow_2 56 = .ok (.putfield 9, 3) := dk_181 0 9 (dk_at dksJ5_grow_2_2 8 rfl rfl)
theorem dJ5_grow_2_59 : decode cJ5_grow_2 59 = .ok (.areturn, 1) := dk_176 (dk_at dksJ5_grow_2_2 11 rfl rfl)
theorem q117 : (Jvm.Cond.initialized "java/util/ArrayList") ∈ lw_all := lw_g (lw_at lw_m1 9 rfl) rfl
theorem q256 : (Jvm.Cond.instantiable "java/util/ArrayList" (3 : Nat)) ∈ lw_all := lw_g (lw_at lw_m1 148 rfl) rfl
theorem q258 : (Jvm.Cond.instanceMethod ({ cls := "java/util/ArrayList", name := "<init>", desc := "()V" } : Jvm.MethodName)) ∈ lw_all := lw_g (lw_at lw_m1 150 rfl) rfl
theorem q259 : (Jvm.Cond.code ({ cls := "java/util/ArrayList", name := "<init>", desc := "()V" } : Jvm.MethodName) prog_56_method_2_code (1 : Nat) (Option.none : Option Jvm.ClassFile.FieldType)) ∈ lw_all := lw_g (lw_at lw_m1 151 rfl) rfl
theorem q260 : (Jvm.Cond.methodLink "java/util/ArrayList" (1 : Nat) ({ cls := "java/util/AbstractList", name := "<init>", desc := "()V" } : Jvm.MethodName)) ∈ lw_all := lw_g (lw_at lw_m1 152 rfl) rfl
theorem q267 : (Jvm.Cond.fieldLink "java/util/ArrayList" (39 : Nat) "java/util/ArrayList" "DEFAULTCAPACITY_EMPTY_ELEMENTDATA" "[Ljava/lang/Object;") ∈ lw_all := lw_g (lw_at lw_m1 159 rfl) rfl
theorem q268 : (Jvm.Cond.laysStatic "java/util/ArrayList" "DEFAULTCAPACITY_EMPTY_ELEMENTDATA" "[Ljava/lang/Object;") ∈ lw_tbl := lw_at lw_m1 160 rfl
theorem q269 : (Jvm.Cond.fieldLink "java/util/ArrayList" (9 : Nat) "java/util/ArrayList" "elementData" "[Ljava/lang/Object;") ∈ lw_all := lw_g (lw_at lw_m1 161 rfl) rfl
theorem q270 : (Jvm.Cond.fieldLink "java/util/ArrayList" (48 : Nat) "java/util/ArrayList" "size" "I") ∈ lw_all := lw_g (lw_at lw_m1 162 rfl) rfl
theorem q272 : (Jvm.Cond.fieldLink "java/util/ArrayList" (63 : Nat) "java/util/ArrayList" "modCount" "I") ∈ lw_all := lw_g (lw_at lw_m1 164 rfl) rfl
theorem q273 : (Jvm.Cond.sameField "java/util/ArrayList" "java/util/AbstractList" "modCount" "I") ∈ lw_all := lw_g (lw_at lw_m1 165 rfl) rfl
theorem q274 : (Jvm.Cond.lays "java/util/ArrayList" "java/util/ArrayList" "elementData" "[Ljava/lang/Object;") ∈ lw_all := lw_g (lw_at lw_m1 166 rfl) rfl
theorem q275 : (Jvm.Cond.soleField "java/util/ArrayList" "elementData") ∈ lw_all := lw_g (lw_at lw_m1 167 rfl) rfl
theorem q276 : (Jvm.Cond.lays "java/util/ArrayList" "java/util/ArrayList" "size" "I") ∈ lw_all := lw_g (lw_at lw_m1 168 rfl) rfl
theorem q277 : (Jvm.Cond.soleField "java/util/ArrayList" "size") ∈ lw_all := lw_g (lw_at lw_m1 169 rfl) rfl
theorem q278 : (Jvm.Cond.lays "java/util/ArrayList" "java/util/AbstractList" "modCount" "I") ∈ lw_all := lw_g (lw_at lw_m1 170 rfl) rfl
theorem q280 : (Jvm.Cond.superclass "java/util/ArrayList" "java/util/AbstractList") ∈ lw_all := lw_g (lw_at lw_m1 172 rfl) rfl
theorem q514 : (Jvm.Cond.instanceMethod ({ cls := "java/util/ArrayList", name := "clear", desc := "()V" } : Jvm.MethodName)) ∈ lw_all := lw_g (lw_at lw_m2 166 rfl) rfl
theorem q515 : (Jvm.Cond.selects "java/util/ArrayList" ({ cls := "java/util/ArrayList", name := "clear", desc := "()V" } : Jvm.MethodName) ({ cls := "java/util/ArrayList", name := "clear", desc := "()V" } : Jvm.MethodName)) ∈ lw_all := lw_g (lw_at lw_m2 167 rfl) rfl
theorem q516 : (Jvm.Cond.code ({ cls := "java/util/ArrayList", name := "clear", desc := "()V" } : Jvm.MethodName) prog_56_method_40_code (4 : Nat) (Option.none : Option Jvm.ClassFile.FieldType)) ∈ lw_all := lw_g (lw_at lw_m2 168 rfl) rfl
theorem q904 : (Jvm.Cond.instanceMethod ({ cls := "java/util/ArrayList", name := "size", desc := "()I" } : Jvm.MethodName)) ∈ lw_all := lw_g (lw_at lw_m4 76 rfl) rfl
theorem q905 : (Jvm.Cond.selects "java/util/ArrayList" ({ cls := "java/util/ArrayList", name := "size", desc := "()I" } : Jvm.MethodName) ({ cls := "java/util/ArrayList", name := "size", desc := "()I" } : Jvm.MethodName)) ∈ lw_all := lw_g (lw_at lw_m4 77 rfl) rfl
theorem q906 : (Jvm.Cond.code ({ cls := "java/util/ArrayList", name := "size", desc := "()I" } : Jvm.MethodName) prog_56_method_8_code (1 : Nat) (Option.some Jvm.ClassFile.FieldType.int)) ∈ lw_all := lw_g (lw_at lw_m4 78 rfl) rfl
theorem q1131 : (Jvm.Cond.selects "java/util/ArrayList" ({ cls := "java/lang/Object", name := "getClass", desc := "()Ljava/lang/Class;" } : Jvm.MethodName) ({ cls := "java/lang/Object", name := "getClass", desc := "()Ljava/lang/Class;" } : Jvm.MethodName)) ∈ lw_all := lw_g (lw_at lw_m5 63 rfl) rfl
theorem q1434 : (Jvm.Cond.instanceMethod ({ cls := "java/util/ArrayList", name := "get", desc := "(I)Ljava/lang/Object;" } : Jvm.MethodName)) ∈ lw_all := lw_g (lw_at lw_m6 126 rfl) rfl
theorem q1435 : (Jvm.Cond.selects "java/util/ArrayList" ({ cls := "java/util/ArrayList", name := "get", desc := "(I)Ljava/lang/Object;" } : Jvm.MethodName) ({ cls := "java/util/ArrayList", name := "get", desc := "(I)Ljava/lang/Object;" } : Jvm.MethodName)) ∈ lw_all := lw_g (lw_at lw_m6 127 rfl) rfl
theorem q1436 : (Jvm.Cond.code ({ cls := "java/util/ArrayList", name := "get", desc := "(I)Ljava/lang/Object;" } : Jvm.MethodName) prog_56_method_20_code (2 : Nat) (Option.some (Jvm.ClassFile.FieldType.object "java/lang/Object"))) ∈ lw_all := lw_g (lw_at lw_m6 128 rfl) rfl
theorem q1437 : (Jvm.Cond.methodLink "java/util/ArrayList" (118 : Nat) ({ cls := "java/util/Objects", name := "checkIndex", desc := "(II)I" } : Jvm.MethodName)) ∈ lw_all := lw_g (lw_at lw_m6 129 rfl) rfl
theorem q1441 : (Jvm.Cond.methodLink "java/util/ArrayList" (123 : Nat) ({ cls := "java/util/ArrayList", name := "elementData", desc := "(I)Ljava/lang/Object;" } : Jvm.MethodName)) ∈ lw_all := lw_g (lw_at lw_m6 133 rfl) rfl
theorem q1442 : (Jvm.Cond.instanceMethod ({ cls := "java/util/ArrayList", name := "elementData", desc := "(I)Ljava/lang/Object;" } : Jvm.MethodName)) ∈ lw_all := lw_g (lw_at lw_m6 134 rfl) rfl
theorem q1443 : (Jvm.Cond.selects "java/util/ArrayList" ({ cls := "java/util/ArrayList", name := "elementData", desc := "(I)Ljava/lang/Object;" } : Jvm.MethodName) ({ cls := "java/util/ArrayList", name := "elementData", desc := "(I)Ljava/lang/Object;" } : Jvm.MethodName)) ∈ lw_all := lw_g (lw_at lw_m6 135 rfl) rfl
theorem q1444 : (Jvm.Cond.code ({ cls := "java/util/ArrayList", name := "elementData", desc := "(I)Ljava/lang/Object;" } : Jvm.MethodName) prog_56_method_18_code (2 : Nat) (Option.some (Jvm.ClassFile.FieldType.object "java/lang/Object"))) ∈ lw_all := lw_g (lw_at lw_m6 136 rfl) rfl
theorem q1447 : (Jvm.Cond.instanceMethod ({ cls := "java/util/ArrayList", name := "add", desc := "(Ljava/lang/Object;)Z" } : Jvm.MethodName)) ∈ lw_all := lw_g (lw_at lw_m6 139 rfl) rfl
theorem q1448 : (Jvm.Cond.selects "java/util/ArrayList" ({ cls := "java/util/ArrayList", name := "add", desc := "(Ljava/lang/Object;)Z" } : Jvm.MethodName) ({ cls := "java/util/ArrayList", name := "add", desc := "(Ljava/lang/Object;)Z" } : Jvm.MethodName)) ∈ lw_all := lw_g (lw_at lw_m6 140 rfl) rfl
theorem q1449 : (Jvm.Cond.code ({ cls := "java/util/ArrayList", name := "add", desc := "(Ljava/lang/Object;)Z" } : Jvm.MethodName) prog_56_method_25_code (2 : Nat) (Option.some Jvm.ClassFile.FieldType.boolean)) ∈ lw_all := lw_g (lw_at lw_m6 141 rfl) rfl
theorem q1450 : (Jvm.Cond.methodLink "java/util/ArrayList" (131 : Nat) ({ cls := "java/util/ArrayList", name := "add", desc := "(Ljava/lang/Object;[Ljava/lang/Object;I)V" } : Jvm.MethodName)) ∈ lw_all := lw_g (lw_at lw_m6 142 rfl) rfl
theorem q1451 : (Jvm.Cond.privateMethod ({ cls := "java/util/ArrayList", name := "add", desc := "(Ljava/lang/Object;[Ljava/lang/Object;I)V" } : Jvm.MethodName)) ∈ lw_tbl := lw_at lw_m6 143 rfl
theorem q1452 : (Jvm.Cond.instanceMethod ({ cls := "java/util/ArrayList", name := "add", desc := "(Ljava/lang/Object;[Ljava/lang/Object;I)V" } : Jvm.MethodName)) ∈ lw_all := lw_g (lw_at lw_m6 144 rfl) rfl
theorem q1453 : (Jvm.Cond.code ({ cls := "java/util/ArrayList", name := "add", desc := "(Ljava/lang/Object;[Ljava/lang/Object;I)V" } : Jvm.MethodName) prog_56_method_24_code (4 : Nat) (Option.none : Option Jvm.ClassFile.FieldType)) ∈ lw_all := lw_g (lw_at lw_m6 145 rfl) rfl
theorem q1454 : (Jvm.Cond.methodLink "java/util/ArrayList" (129 : Nat) ({ cls := "java/util/ArrayList", name := "grow", desc := "()[Ljava/lang/Object;" } : Jvm.MethodName)) ∈ lw_all := lw_g (lw_at lw_m6 146 rfl) rfl
theorem q1455 : (Jvm.Cond.privateMethod ({ cls := "java/util/ArrayList", name := "grow", desc := "()[Ljava/lang/Object;" } : Jvm.MethodName)) ∈ lw_tbl := lw_at lw_m6 147 rfl
theorem q1456 : (Jvm.Cond.instanceMethod ({ cls := "java/util/ArrayList", name := "grow", desc := "()[Ljava/lang/Object;" } : Jvm.MethodName)) ∈ lw_all := lw_g (lw_at lw_m6 148 rfl) rfl
theorem q1457 : (Jvm.Cond.code ({ cls := "java/util/ArrayList", name := "grow", desc := "()[Ljava/lang/Object;" } : Jvm.MethodName) prog_56_method_7_code (1 : Nat) (Option.some (Jvm.ClassFile.FieldType.array (Jvm.ClassFile.FieldType.object "java/lang/Object")))) ∈ lw_all := lw_g (lw_at lw_m6 149 rfl) rfl
theorem q1458 : (Jvm.Cond.methodLink "java/util/ArrayList" (69 : Nat) ({ cls := "java/util/ArrayList", name := "grow", desc := "(I)[Ljava/lang/Object;" } : Jvm.MethodName)) ∈ lw_all := lw_g (lw_at lw_m6 150 rfl) rfl
theorem q1459 : (Jvm.Cond.privateMethod ({ cls := "java/util/ArrayList", name := "grow", desc := "(I)[Ljava/lang/Object;" } : Jvm.MethodName)) ∈ lw_tbl := lw_at lw_m6 151 rfl
theorem q1460 : (Jvm.Cond.instanceMethod ({ cls := "java/util/ArrayList", name := "grow", desc := "(I)[Ljava/lang/Object;" } : Jvm.MethodName)) ∈ lw_all := lw_g (lw_at lw_m6 152 rfl) rfl
theorem q1461 : (Jvm.Cond.code ({ cls := "java/util/ArrayList", name := "grow", desc := "(I)[Ljava/lang/Object;" } : Jvm.MethodName) prog_56_method_6_code (4 : Nat) (Option.some (Jvm.ClassFile.FieldType.array (Jvm.ClassFile.FieldType.object "java/lang/Object")))) ∈ lw_all := lw_g (lw_at lw_m6 153 rfl) rfl
theorem q1462 : (Jvm.Cond.methodLink "java/util/ArrayList" (73 : Nat) ({ cls := "jdk/internal/util/ArraysSupport", name := "newLength", desc := "(III)I" } : Jvm.MethodName)) ∈ lw_all := lw_g (lw_at lw_m6 154 rfl) rfl
theorem q1463 : (Jvm.Cond.methodLink "java/util/ArrayList" (66 : Nat) ({ cls := "java/util/Arrays", name := "copyOf", desc := "([Ljava/lang/Object;I)[Ljava/lang/Object;" } : Jvm.MethodName)) ∈ lw_all := lw_g (lw_at lw_m6 155 rfl) rfl
theorem q1473 : (Jvm.Cond.methodLink "java/util/ArrayList" (79 : Nat) ({ cls := "java/lang/Math", name := "max", desc := "(II)I" } : Jvm.MethodName)) ∈ lw_all := lw_g (lw_at lw_m6 165 rfl) rfl
theorem q1474 : (Jvm.Cond.classLink "java/util/ArrayList" (7 : Nat) "java/lang/Object") ∈ lw_all := lw_g (lw_at lw_m6 166 rfl) rfl
theorem q3250 : (Jvm.Cond.castable "java/util/ArrayList" "java/lang/Object") ∈ lw_tbl := lw_at lw_m14 22 rfl
theorem in_J5 : ∀ w ∈ wsJ50, w ∈ lw_all := lw_in wsJ50 [278, 274, 276] (by decide +kernel) (by decide +kernel)
/-! java/util/AbstractMap -/
set_option maxRecDepth 100000
def RJ6 : String := "java/util/AbstractMap"
abbrev cJ6_init : ByteArray := prog_55_method_1_code
def yJ6_init : MethodName := ⟨RJ6, "<init>", "()V"⟩
theorem dJ6_init_0 : decode cJ6_init 0 = .ok (.aload_n 0, 1) := by decide +kernel
theorem dJ6_init_1 : decode cJ6_init 1 = .ok (.invokespecial 1, 3) := by decide +kernel
theorem dJ6_init_4 : decode cJ6_init 4 = .ok (.return_, 1) := by decide +kernel
theorem q118 : (Jvm.Cond.initialized "java/util/AbstractMap") ∈ lw_all := lw_g (lw_at lw_m1 10 rfl) rfl
theorem q287 : (Jvm.Cond.instanceMethod ({ cls := "java/util/AbstractMap", name := "<init>", desc := "()V" } : Jvm.MethodName)) ∈ lw_all := lw_g (lw_at lw_m1 179 rfl) rfl
theorem q288 : (Jvm.Cond.code ({ cls := "java/util/AbstractMap", name := "<init>", desc := "()V" } : Jvm.MethodName) prog_55_method_1_code (1 : Nat) (Option.none : Option Jvm.ClassFile.FieldType)) ∈ lw_all := lw_g (lw_at lw_m1 180 rfl) rfl
theorem q289 : (Jvm.Cond.methodLink "java/util/AbstractMap" (1 : Nat) ({ cls := "java/lang/Object", name := "<init>", desc := "()V" } : Jvm.MethodName)) ∈ lw_all := lw_g (lw_at lw_m1 181 rfl) rfl
theorem q309 : (Jvm.Cond.soleField "java/util/AbstractMap" "keySet") ∈ lw_all := lw_g (lw_at lw_m1 201 rfl) rfl
theorem q311 : (Jvm.Cond.soleField "java/util/AbstractMap" "values") ∈ lw_all := lw_g (lw_at lw_m1 203 rfl) rfl
/-! java/util/HashMap -/
set_option maxRecDepth 100000
def RJ7 : String := "java/util/HashMap"
def TJ7 : u_T := fun k => match k with
  | 0 => ("java/util/AbstractMap", "keySet", "Ljava/util/Set;", false)
  | 1 => ("java/util/AbstractMap", "values", "Ljava/util/Collection;", false)
  | 2 => ("java/util/HashMap", "table", "[Ljava/util/HashMap$Node;", false)
  | 3 => ("java/util/HashMap", "entrySet", "Ljava/util/Set;", false)
  | 4 => ("java/util/HashMap", "size", "I", false)
  | 5 => ("java/util/HashMap", "modCount", "I", false)
  | 6 => ("java/util/HashMap", "threshold", "I", false)
  | _ => ("java/util/HashMap", "loadFactor", "F", true)
def tyJ7 : Nat → FieldType := fun k => match k with
  | 0 => .object "java/util/Set"
  | 1 => .object "java/util/Collection"
  | 2 => .array (.object "java/util/HashMap$Node")
  | 3 => .object "java/util/Set"
  | 4 => .int
  | 5 => .int
  | 6 => .int
  | _ => .float
abbrev wsJ70 : List Cond := u_ws RJ7 TJ7 8
theorem nmJ7 : ∀ a, a < 8 → ∀ b, b < 8 → a ≠ b → (TJ7 a).2.1 ≠ (TJ7 b).2.1 := by decide +kernel
theorem tyJ7_ok : ∀ k, k < 8 → parseFieldDescriptor (TJ7 k).2.2.1 = some (tyJ7 k) := by decide +kernel
abbrev cJ7_init : ByteArray := prog_59_method_7_code
def yJ7_init : MethodName := ⟨RJ7, "<init>", "()V"⟩
def dkwJ7_init_0 : List UInt8 := [42, 183, 0, 43, 42, 18, 92, 181, 0, 81, 177]
abbrev dktJ7_init_0 : List UInt8 := dkwJ7_init_0 ++ []
theorem dksJ7_init_0 : cJ7_init.data.toList.drop 0 = dktJ7_init_0 := by decide +kernel
theorem dJ7_init_0 : decode cJ7_init 0 = .ok (.aload_n 0, 1) := dk_42 (dk_at dksJ7_init_0 0 rfl rfl)
theorem dJ7_init_1 : decode cJ7_init 1 = .ok (.invokespecial 43, 3) := dk_183 0 43 (dk_at dksJ7_init_0 1 rfl rfl)
theorem dJ7_init_4 : decode cJ7_init 4 = .ok (.aload_n 0, 1) := dk_42 (dk_at dksJ7_init_0 4 rfl rfl)
theorem dJ7_init_5 : decode cJ7_init 5 = .ok (.ldc 92, 2) := dk_18 92 (dk_at dksJ7_init_0 5 rfl rfl)
theorem dJ7_init_7 : decode cJ7_init 7 = .ok (.putfield 81, 3) := dk_181 0 81 (dk_at dksJ7_init_0 7 rfl rfl)
theorem dJ7_init_10 : decode cJ7_init 10 = .ok (.return_, 1) := dk_177 (dk_at dksJ7_init_0 10 rfl rfl)
abbrev cJ7_clear : ByteArray := prog_59_method_22_code
def yJ7_clear : MethodName := ⟨RJ7, "clear", "()V"⟩
def dkwJ7_clear_2 : List UInt8 := [167, 255, 243, 177]
abbrev dktJ7_clear_2 : List UInt8 := dkwJ7_clear_2 ++ []
def dkwJ7_clear_1 : List UInt8 := [158, 0, 26, 42, 3, 181, 0, 156, 3, 61, 28, 43, 190, 162, 0, 13, 43, 28, 1, 83, 132, 2, 1]
abbrev dktJ7_clear_1 : List UInt8 := dkwJ7_clear_1 ++ dktJ7_clear_2
def dkwJ7_clear_0 : List UInt8 := [42, 89, 180, 0, 202, 4, 96, 181, 0, 202, 42, 180, 0, 105, 89, 76, 198, 0, 33, 42, 180, 0, 156]
abbrev dktJ7_clear_0 : List UInt8 := dkwJ7_clear_0 ++ dktJ7_clear_1
theorem dksJ7_clear_0 : cJ7_clear.data.toList.drop 0 = dktJ7_clear_0 := by decide +kernel
theorem dksJ7_clear_1 : cJ7_clear.data.toList.drop 23 = dktJ7_clear_1 := dk_seg dksJ7_clear_0 23 rfl rfl
theorem dksJ7_clear_2 : cJ7_clear.data.toList.drop 46 = dktJ7_clear_2 := dk_seg dksJ7_clear_1 23 rfl rfl
theorem dJ7_clear_0 : decode cJ7_clear 0 = .ok (.aload_n 0, 1) := dk_42 (dk_at dksJ7_clear_0 0 rfl rfl)
theorem dJ7_clear_1 : decode cJ7_clear 1 = .ok (.dup, 1) := dk_89 (dk_at dksJ7_clear_0 1 rfl rfl)
theorem dJ7_clear_2 : decode cJ7_clear 2 = .ok (.getfield 202, 3) := dk_180 0 202 (dk_at dksJ7_clear_0 2 rfl rfl)
theorem dJ7_clear_5 : decode cJ7_clear 5 = .ok (.iconst 1, 1) := dk_4 (dk_at dksJ7_clear_0 5 rfl rfl)
theorem dJ7_clear_6 : decode cJ7_clear 6 = .ok (.iadd, 1) := dk_96 (dk_at dksJ7_clear_0 6 rfl rfl)
theorem dJ7_clear_7 : decode cJ7_clear 7 = .ok (.putfield 202, 3) := dk_181 0 202 (dk_at dksJ7_clear_0 7 rfl rfl)
theorem dJ7_clear_10 : decode cJ7_clear 10 = .ok (.aload_n 0, 1) := dk_42 (dk_at dksJ7_clear_0 10 rfl rfl)
theorem dJ7_clear_11 : decode cJ7_clear 11 = .ok (.getfield 105, 3) := dk_180 0 105 (dk_at dksJ7_clear_0 11 rfl rfl)
theorem dJ7_clear_14 : decode cJ7_clear 14 = .ok (.dup, 1) := dk_89 (dk_at dksJ7_clear_0 14 rfl rfl)
theorem dJ7_clear_15 : decode cJ7_clear 15 = .ok (.astore_n 1, 1) := dk_76 (dk_at dksJ7_clear_0 15 rfl rfl)
theorem dJ7_clear_16 : decode cJ7_clear 16 = .ok (.ifnull 33, 3) := dk_198 0 33 (dk_at dksJ7_clear_0 16 rfl rfl)
theorem dJ7_clear_19 : decode cJ7_clear 19 = .ok (.aload_n 0, 1) := dk_42 (dk_at dksJ7_clear_0 19 rfl rfl)
theorem dJ7_clear_20 : decode cJ7_clear 20 = .ok (.getfield 156, 3) := dk_180 0 156 (dk_at dksJ7_clear_0 20 rfl rfl)
theorem dJ7_clear_23 : decode cJ7_clear 23 = .ok (.ifCond .le 26, 3) := dk_158 0 26 (dk_at dksJ7_clear_1 0 rfl rfl)
theorem dJ7_clear_26 : decode cJ7_clear 26 = .ok (.aload_n 0, 1) := dk_42 (dk_at dksJ7_clear_1 3 rfl rfl)
theorem dJ7_clear_27 : decode cJ7_clear 27 = .ok (.iconst 0, 1) := dk_3 (dk_at dksJ7_clear_1 4 rfl rfl)
theorem dJ7_clear_28 : decode cJ7_clear 28 = .ok (.putfield 156, 3) := dk_181 0 156 (dk_at dksJ7_clear_1 5 rfl rfl)
theorem dJ7_clear_31 : decode cJ7_clear 31 = .ok (.iconst 0, 1) := dk_3 (dk_at dksJ7_clear_1 8 rfl rfl)
theorem dJ7_clear_32 : decode cJ7_clear 32 = .ok (.istore_n 2, 1) := dk_61 (dk_at dksJ7_clear_1 9 rfl rfl)
theorem dJ7_clear_33 : decode cJ7_clear 33 = .ok (.iload_n 2, 1) := dk_28 (dk_at dksJ7_clear_1 10 rfl rfl)
theorem dJ7_clear_34 : decode cJ7_clear 34 = .ok (.aload_n 1, 1) := dk_43 (dk_at dksJ7_clear_1 11 rfl rfl)
theorem dJ7_clear_35 : decode cJ7_clear 35 = .ok (.arraylength, 1) := dk_190 (dk_at dksJ7_clear_1 12 rfl rfl)
theorem dJ7_clear_36 : decode cJ7_clear 36 = .ok (.if_icmp .ge 13, 3) := dk_162 0 13 (dk_at dksJ7_clear_1 13 rfl rfl)
theorem dJ7_clear_39 : decode cJ7_clear 39 = .ok (.aload_n 1, 1) := dk_43 (dk_at dksJ7_clear_1 16 rfl rfl)
theorem dJ7_clear_40 : decode cJ7_clear 40 = .ok (.iload_n 2, 1) := dk_28 (dk_at dksJ7_clear_1 17 rfl rfl)
theorem dJ7_clear_41 : decode cJ7_clear 41 = .ok (.aconst_null, 1) := dk_1 (dk_at dksJ7_clear_1 18 rfl rfl)
theorem dJ7_clear_42 : decode cJ7_clear 42 = .ok (.aastore, 1) := dk_83 (dk_at dksJ7_clear_1 19 rfl rfl)
theorem dJ7_clear_43 : decode cJ7_clear 43 = .ok (.iinc 2 1, 3) := dk_132 2 1 (dk_at dksJ7_clear_1 20 rfl rfl)
theorem dJ7_clear_46 : decode cJ7_clear 46 = .ok (.goto (-13), 3) := dk_167 255 243 (dk_at dksJ7_clear_2 0 rfl rfl)
theorem dJ7_clear_49 : decode cJ7_clear 49 = .ok (.return_, 1) := dk_177 (dk_at dksJ7_clear_2 3 rfl rfl)
abbrev cJ7_get : ByteArray := prog_59_method_12_code
def yJ7_get : MethodName := ⟨RJ7, "get", "(Ljava/lang/Object;)Ljava/lang/Object;"⟩
def dkwJ7_get_0 : List UInt8 := [42, 43, 182, 0, 158, 89, 77, 199, 0, 7, 1, 167, 0, 7, 44, 180, 0, 162, 176]
abbrev dktJ7_get_0 : List UInt8 := dkwJ7_get_0 ++ []
theorem dksJ7_get_0 : cJ7_get.data.toList.drop 0 = dktJ7_get_0 := by decide +kernel
theorem dJ7_get_0 : decode cJ7_get 0 = .ok (.aload_n 0, 1) := dk_42 (dk_at dksJ7_get_0 0 rfl rfl)
theorem dJ7_get_1 : decode cJ7_get 1 = .ok (.aload_n 1, 1) := dk_43 (dk_at dksJ7_get_0 1 rfl rfl)
theorem dJ7_get_2 : decode cJ7_get 2 = .ok (.invokevirtual 158, 3) := dk_182 0 158 (dk_at dksJ7_get_0 2 rfl rfl)
theorem dJ7_get_5 : decode cJ7_get 5 = .ok (.dup, 1) := dk_89 (dk_at dksJ7_get_0 5 rfl rfl)
theorem dJ7_get_6 : decode cJ7_get 6 = .ok (.astore_n 2, 1) := dk_77 (dk_at dksJ7_get_0 6 rfl rfl)
theorem dJ7_get_7 : decode cJ7_get 7 = .ok (.ifnonnull 7, 3) := dk_199 0 7 (dk_at dksJ7_get_0 7 rfl rfl)
theorem dJ7_get_10 : decode cJ7_get 10 = .ok (.aconst_null, 1) := dk_1 (dk_at dksJ7_get_0 10 rfl rfl)
theorem dJ7_get_11 : decode cJ7_get 11 = .ok (.goto 7, 3) := dk_167 0 7 (dk_at dksJ7_get_0 11 rfl rfl)
theorem dJ7_get_14 : decode cJ7_get 14 = .ok (.aload_n 2, 1) := dk_44 (dk_at dksJ7_get_0 14 rfl rfl)
theorem dJ7_get_15 : decode cJ7_get 15 = .ok (.getfield 162, 3) := dk_180 0 162 (dk_at dksJ7_get_0 15 rfl rfl)
theorem dJ7_get_18 : decode cJ7_get 18 = .ok (.areturn, 1) := dk_176 (dk_at dksJ7_get_0 18 rfl rfl)
abbrev cJ7_getNode : ByteArray := prog_59_method_13_code
def yJ7_getNode : MethodName := ⟨RJ7, "getNode", "(Ljava/lang/Object;)Ljava/util/HashMap$Node;"⟩
def dkwJ7_getNode_6 : List UInt8 := [89, 58, 4, 199, 255, 210, 1, 176]
abbrev dktJ7_getNode_6 : List UInt8 := dkwJ7_getNode_6 ++ []
def dkwJ7_getNode_5 : List UInt8 := [165, 0, 16, 43, 198, 0, 15, 43, 25, 7, 182, 0, 173, 153, 0, 6, 25, 4, 176, 25, 4, 180, 0, 177]
abbrev dktJ7_getNode_5 : List UInt8 := dkwJ7_getNode_5 ++ dktJ7_getNode_6
def dkwJ7_getNode_4 : List UInt8 := [43, 182, 0, 182, 176, 25, 4, 180, 0, 168, 21, 6, 160, 0, 31, 25, 4, 180, 0, 170, 89, 58, 7, 43]
abbrev dktJ7_getNode_4 : List UInt8 := dkwJ7_getNode_4 ++ dktJ7_getNode_5
def dkwJ7_getNode_3 : List UInt8 := [176, 45, 180, 0, 177, 89, 58, 4, 198, 0, 70, 45, 193, 0, 180, 153, 0, 14, 45, 192, 0, 180, 21, 6]
abbrev dktJ7_getNode_3 : List UInt8 := dkwJ7_getNode_3 ++ dktJ7_getNode_4
def dkwJ7_getNode_2 : List UInt8 := [180, 0, 170, 89, 58, 7, 43, 165, 0, 16, 43, 198, 0, 14, 43, 25, 7, 182, 0, 173, 153, 0, 5, 45]
abbrev dktJ7_getNode_2 : List UInt8 := dkwJ7_getNode_2 ++ dktJ7_getNode_3
def dkwJ7_getNode_1 : List UInt8 := [184, 0, 149, 89, 54, 6, 126, 50, 89, 78, 198, 0, 115, 45, 180, 0, 168, 21, 6, 160, 0, 29, 45]
abbrev dktJ7_getNode_1 : List UInt8 := dkwJ7_getNode_1 ++ dktJ7_getNode_2
def dkwJ7_getNode_0 : List UInt8 := [42, 180, 0, 105, 89, 77, 198, 0, 142, 44, 190, 89, 54, 5, 158, 0, 134, 44, 21, 5, 4, 100, 43]
abbrev dktJ7_getNode_0 : List UInt8 := dkwJ7_getNode_0 ++ dktJ7_getNode_1
theorem dksJ7_getNode_0 : cJ7_getNode.data.toList.drop 0 = dktJ7_getNode_0 := by decide +kernel
theorem dksJ7_getNode_1 : cJ7_getNode.data.toList.drop 23 = dktJ7_getNode_1 := dk_seg dksJ7_getNode_0 23 rfl rfl
theorem dksJ7_getNode_2 : cJ7_getNode.data.toList.drop 46 = dktJ7_getNode_2 := dk_seg dksJ7_getNode_1 23 rfl rfl
theorem dksJ7_getNode_3 : cJ7_getNode.data.toList.drop 70 = dktJ7_getNode_3 := dk_seg dksJ7_getNode_2 24 rfl rfl
theorem dksJ7_getNode_4 : cJ7_getNode.data.toList.drop 94 = dktJ7_getNode_4 := dk_seg dksJ7_getNode_3 24 rfl rfl
theorem dksJ7_getNode_5 : cJ7_getNode.data.toList.drop 118 = dktJ7_getNode_5 := dk_seg dksJ7_getNode_4 24 rfl rfl
theorem dksJ7_getNode_6 : cJ7_getNode.data.toList.drop 142 = dktJ7_getNode_6 := dk_seg dksJ7_getNode_5 24 rfl rfl
theorem dJ7_getNode_0 : decode cJ7_getNode 0 = .ok (.aload_n 0, 1) := dk_42 (dk_at dksJ7_getNode_0 0 rfl rfl)
theorem dJ7_getNode_1 : decode cJ7_getNode 1 = .ok (.getfield 105, 3) := dk_180 0 105 (dk_at dksJ7_getNode_0 1 rfl rfl)
theorem dJ7_getNode_4 : decode cJ7_getNode 4 = .ok (.dup, 1) := dk_89 (dk_at dksJ7_getNode_0 4 rfl rfl)
theorem dJ7_getNode_5 : decode cJ7_getNode 5 = .ok (.astore_n 2, 1) := dk_77 (dk_at dksJ7_getNode_0 5 rfl rfl)
theorem dJ7_getNode_6 : decode cJ7_getNode 6 = .ok (.ifnull 142, 3) := dk_198 0 142 (dk_at dksJ7_getNode_0 6 rfl rfl)
theorem dJ7_getNode_9 : decode cJ7_getNode 9 = .ok (.aload_n 2, 1) := dk_44 (dk_at dksJ7_getNode_0 9 rfl rfl)
theorem dJ7_getNode_10 : decode cJ7_getNode 10 = .ok (.arraylength, 1) := dk_190 (dk_at dksJ7_getNode_0 10 rfl rfl)
theorem dJ7_getNode_11 : decode cJ7_getNode 11 = .ok (.dup, 1) := dk_89 (dk_at dksJ7_getNode_0 11 rfl rfl)
theorem dJ7_getNode_12 : decode cJ7_getNode 12 = .ok (.istore 5, 2) := dk_54 5 (dk_at dksJ7_getNode_0 12 rfl rfl)
theorem dJ7_getNode_14 : decode cJ7_getNode 14 = .ok (.ifCond .le 134, 3) := dk_158 0 134 (dk_at dksJ7_getNode_0 14 rfl rfl)
theorem dJ7_getNode_17 : decode cJ7_getNode 17 = .ok (.aload_n 2, 1) := dk_44 (dk_at dksJ7_getNode_0 17 rfl rfl)
theorem dJ7_getNode_18 : decode cJ7_getNode 18 = .ok (.iload 5, 2) := dk_21 5 (dk_at dksJ7_getNode_0 18 rfl rfl)
theorem dJ7_getNode_20 : decode cJ7_getNode 20 = .ok (.iconst 1, 1) := dk_4 (dk_at dksJ7_getNode_0 20 rfl rfl)
theorem dJ7_getNode_21 : decode cJ7_getNode 21 = .ok (.isub, 1) := dk_100 (dk_at dksJ7_getNode_0 21 rfl rfl)
theorem dJ7_getNode_22 : decode cJ7_getNode 22 = .ok (.aload_n 1, 1) := dk_43 (dk_at dksJ7_getNode_0 22 rfl rfl)
theorem dJ7_getNode_23 : decode cJ7_getNode 23 = .ok (.invokestatic 149, 3) := dk_184 0 149 (dk_at dksJ7_getNode_1 0 rfl rfl)
theorem dJ7_getNode_26 : decode cJ7_getNode 26 = .ok (.dup, 1) := dk_89 (dk_at dksJ7_getNode_1 3 rfl rfl)
theorem dJ7_getNode_27 : decode cJ7_getNode 27 = .ok (.istore 6, 2) := dk_54 6 (dk_at dksJ7_getNode_1 4 rfl rfl)
theorem dJ7_getNode_29 : decode cJ7_getNode 29 = .ok (.iand, 1) := dk_126 (dk_at dksJ7_getNode_1 6 rfl rfl)
theorem dJ7_getNode_30 : decode cJ7_getNode 30 = .ok (.aaload, 1) := dk_50 (dk_at dksJ7_getNode_1 7 rfl rfl)
theorem dJ7_getNode_31 : decode cJ7_getNode 31 = .ok (.dup, 1) := dk_89 (dk_at dksJ7_getNode_1 8 rfl rfl)
theorem dJ7_getNode_32 : decode cJ7_getNode 32 = .ok (.astore_n 3, 1) := dk_78 (dk_at dksJ7_getNode_1 9 rfl rfl)
theorem dJ7_getNode_33 : decode cJ7_getNode 33 = .ok (.ifnull 115, 3) := dk_198 0 115 (dk_at dksJ7_getNode_1 10 rfl rfl)
theorem dJ7_getNode_36 : decode cJ7_getNode 36 = .ok (.aload_n 3, 1) := dk_45 (dk_at dksJ7_getNode_1 13 rfl rfl)
theorem dJ7_getNode_37 : decode cJ7_getNode 37 = .ok (.getfield 168, 3) := dk_180 0 168 (dk_at dksJ7_getNode_1 14 rfl rfl)
theorem dJ7_getNode_40 : decode cJ7_getNode 40 = .ok (.iload 6, 2) := dk_21 6 (dk_at dksJ7_getNode_1 17 rfl rfl)
theorem dJ7_getNode_42 : decode cJ7_getNode 42 = .ok (.if_icmp .ne 29, 3) := dk_160 0 29 (dk_at dksJ7_getNode_1 19 rfl rfl)
theorem dJ7_getNode_45 : decode cJ7_getNode 45 = .ok (.aload_n 3, 1) := dk_45 (dk_at dksJ7_getNode_1 22 rfl rfl)
theorem dJ7_getNode_46 : decode cJ7_getNode 46 = .ok (.getfield 170, 3) := dk_180 0 170 (dk_at dksJ7_getNode_2 0 rfl rfl)
theorem dJ7_getNode_49 : decode cJ7_getNode 49 = .ok (.dup, 1) := dk_89 (dk_at dksJ7_getNode_2 3 rfl rfl)
theorem dJ7_getNode_50 : decode cJ7_getNode 50 = .ok (.astore 7, 2) := dk_58 7 (dk_at dksJ7_getNode_2 4 rfl rfl)
theorem dJ7_getNode_52 : decode cJ7_getNode 52 = .ok (.aload_n 1, 1) := dk_43 (dk_at dksJ7_getNode_2 6 rfl rfl)
theorem dJ7_getNode_53 : decode cJ7_getNode 53 = .ok (.if_acmp .eq 16, 3) := dk_165 0 16 (dk_at dksJ7_getNode_2 7 rfl rfl)
theorem dJ7_getNode_56 : decode cJ7_getNode 56 = .ok (.aload_n 1, 1) := dk_43 (dk_at dksJ7_getNode_2 10 rfl rfl)
theorem dJ7_getNode_57 : decode cJ7_getNode 57 = .ok (.ifnull 14, 3) := dk_198 0 14 (dk_at dksJ7_getNode_2 11 rfl rfl)
theorem dJ7_getNode_60 : decode cJ7_getNode 60 = .ok (.aload_n 1, 1) := dk_43 (dk_at dksJ7_getNode_2 14 rfl rfl)
theorem dJ7_getNode_61 : decode cJ7_getNode 61 = .ok (.aload 7, 2) := dk_25 7 (dk_at dksJ7_getNode_2 15 rfl rfl)
theorem dJ7_getNode_63 : decode cJ7_getNode 63 = .ok (.invokevirtual 173, 3) := dk_182 0 173 (dk_at dksJ7_getNode_2 17 rfl rfl)
theorem dJ7_getNode_66 : decode cJ7_getNode 66 = .ok (.ifCond .eq 5, 3) := dk_153 0 5 (dk_at dksJ7_getNode_2 20 rfl rfl)
theorem dJ7_getNode_69 : decode cJ7_getNode 69 = .ok (.aload_n 3, 1) := dk_45 (dk_at dksJ7_getNode_2 23 rfl rfl)
theorem dJ7_getNode_70 : decode cJ7_getNode 70 = .ok (.areturn, 1) := dk_176 (dk_at dksJ7_getNode_3 0 rfl rfl)
theorem dJ7_getNode_71 : decode cJ7_getNode 71 = .ok (.aload_n 3, 1) := dk_45 (dk_at dksJ7_getNode_3 1 rfl rfl)
theorem dJ7_getNode_72 : decode cJ7_getNode 72 = .ok (.getfield 177, 3) := dk_180 0 177 (dk_at dksJ7_getNode_3 2 rfl rfl)
theorem dJ7_getNode_75 : decode cJ7_getNode 75 = .ok (.dup, 1) := dk_89 (dk_at dksJ7_getNode_3 5 rfl rfl)
theorem dJ7_getNode_76 : decode cJ7_getNode 76 = .ok (.astore 4, 2) := dk_58 4 (dk_at dksJ7_getNode_3 6 rfl rfl)
theorem dJ7_getNode_78 : decode cJ7_getNode 78 = .ok (.ifnull 70, 3) := dk_198 0 70 (dk_at dksJ7_getNode_3 8 rfl rfl)
theorem dJ7_getNode_81 : decode cJ7_getNode 81 = .ok (.aload_n 3, 1) := dk_45 (dk_at dksJ7_getNode_3 11 rfl rfl)
theorem dJ7_getNode_82 : decode cJ7_getNode 82 = .ok (.instanceof 180, 3) := dk_193 0 180 (dk_at dksJ7_getNode_3 12 rfl rfl)
theorem dJ7_getNode_85 : decode cJ7_getNode 85 = .ok (.ifCond .eq 14, 3) := dk_153 0 14 (dk_at dksJ7_getNode_3 15 rfl rfl)
theorem dJ7_getNode_88 : decode cJ7_getNode 88 = .ok (.aload_n 3, 1) := dk_45 (dk_at dksJ7_getNode_3 18 rfl rfl)
theorem dJ7_getNode_89 : decode cJ7_getNode 89 = .ok (.checkcast 180, 3) := dk_192 0 180 (dk_at dksJ7_getNode_3 19 rfl rfl)
theorem dJ7_getNode_92 : decode cJ7_getNode 92 = .ok (.iload 6, 2) := dk_21 6 (dk_at dksJ7_getNode_3 22 rfl rfl)
theorem dJ7_getNode_94 : decode cJ7_getNode 94 = .ok (.aload_n 1, 1) := dk_43 (dk_at dksJ7_getNode_4 0 rfl rfl)
theorem dJ7_getNode_95 : decode cJ7_getNode 95 = .ok (.invokevirtual 182, 3) := dk_182 0 182 (dk_at dksJ7_getNode_4 1 rfl rfl)
theorem dJ7_getNode_98 : decode cJ7_getNode 98 = .ok (.areturn, 1) := dk_176 (dk_at dksJ7_getNode_4 4 rfl rfl)
theorem dJ7_getNode_99 : decode cJ7_getNode 99 = .ok (.aload 4, 2) := dk_25 4 (dk_at dksJ7_getNode_4 5 rfl rfl)
theorem dJ7_getNode_101 : decode cJ7_getNode 101 = .ok (.getfield 168, 3) := dk_180 0 168 (dk_at dksJ7_getNode_4 7 rfl rfl)
theorem dJ7_getNode_104 : decode cJ7_getNode 104 = .ok (.iload 6, 2) := dk_21 6 (dk_at dksJ7_getNode_4 10 rfl rfl)
theorem dJ7_getNode_106 : decode cJ7_getNode 106 = .ok (.if_icmp .ne 31, 3) := dk_160 0 31 (dk_at dksJ7_getNode_4 12 rfl rfl)
theorem dJ7_getNode_109 : decode cJ7_getNode 109 = .ok (.aload 4, 2) := dk_25 4 (dk_at dksJ7_getNode_4 15 rfl rfl)
theorem dJ7_getNode_111 : decode cJ7_getNode 111 = .ok (.getfield 170, 3) := dk_180 0 170 (dk_at dksJ7_getNode_4 17 rfl rfl)
theorem dJ7_getNode_114 : decode cJ7_getNode 114 = .ok (.dup, 1) := dk_89 (dk_at dksJ7_getNode_4 20 rfl rfl)
theorem dJ7_getNode_115 : decode cJ7_getNode 115 = .ok (.astore 7, 2) := dk_58 7 (dk_at dksJ7_getNode_4 21 rfl rfl)
theorem dJ7_getNode_117 : decode cJ7_getNode 117 = .ok (.aload_n 1, 1) := dk_43 (dk_at dksJ7_getNode_4 23 rfl rfl)
theorem dJ7_getNode_118 : decode cJ7_getNode 118 = .ok (.if_acmp .eq 16, 3) := dk_165 0 16 (dk_at dksJ7_getNode_5 0 rfl rfl)
theorem dJ7_getNode_121 : decode cJ7_getNode 121 = .ok (.aload_n 1, 1) := dk_43 (dk_at dksJ7_getNode_5 3 rfl rfl)
theorem dJ7_getNode_122 : decode cJ7_getNode 122 = .ok (.ifnull 15, 3) := dk_198 0 15 (dk_at dksJ7_getNode_5 4 rfl rfl)
theorem dJ7_getNode_125 : decode cJ7_getNode 125 = .ok (.aload_n 1, 1) := dk_43 (dk_at dksJ7_getNode_5 7 rfl rfl)
theorem dJ7_getNode_126 : decode cJ7_getNode 126 = .ok (.aload 7, 2) := dk_25 7 (dk_at dksJ7_getNode_5 8 rfl rfl)
theorem dJ7_getNode_128 : decode cJ7_getNode 128 = .ok (.invokevirtual 173, 3) := dk_182 0 173 (dk_at dksJ7_getNode_5 10 rfl rfl)
theorem dJ7_getNode_131 : decode cJ7_getNode 131 = .ok (.ifCond .eq 6, 3) := dk_153 0 6 (dk_at dksJ7_getNode_5 13 rfl rfl)
theorem dJ7_getNode_134 : decode cJ7_getNode 134 = .ok (.aload 4, 2) := dk_25 4 (dk_at dksJ7_getNode_5 16 rfl rfl)
theorem dJ7_getNode_136 : decode cJ7_getNode 136 = .ok (.areturn, 1) := dk_176 (dk_at dksJ7_getNode_5 18 rfl rfl)
theorem dJ7_getNode_137 : decode cJ7_getNode 137 = .ok (.aload 4, 2) := dk_25 4 (dk_at dksJ7_getNode_5 19 rfl rfl)
theorem dJ7_getNode_139 : decode cJ7_getNode 139 = .ok (.getfield 177, 3) := dk_180 0 177 (dk_at dksJ7_getNode_5 21 rfl rfl)
theorem dJ7_getNode_142 : decode cJ7_getNode 142 = .ok (.dup, 1) := dk_89 (dk_at dksJ7_getNode_6 0 rfl rfl)
theorem dJ7_getNode_143 : decode cJ7_getNode 143 = .ok (.astore 4, 2) := dk_58 4 (dk_at dksJ7_getNode_6 1 rfl rfl)
theorem dJ7_getNode_145 : decode cJ7_getNode 145 = .ok (.ifnonnull (-46), 3) := dk_199 255 210 (dk_at dksJ7_getNode_6 3 rfl rfl)
theorem dJ7_getNode_148 : decode cJ7_getNode 148 = .ok (.aconst_null, 1) := dk_1 (dk_at dksJ7_getNode_6 6 rfl rfl)
theorem dJ7_getNode_149 : decode cJ7_getNode 149 = .ok (.areturn, 1) := dk_176 (dk_at dksJ7_getNode_6 7 rfl rfl)
abbrev cJ7_hash : ByteArray := prog_59_method_1_code
def yJ7_hash : MethodName := ⟨RJ7, "hash", "(Ljava/lang/Object;)I"⟩
def dkwJ7_hash_0 : List UInt8 := [42, 199, 0, 7, 3, 167, 0, 14, 42, 182, 0, 1, 89, 60, 27, 16, 16, 124, 130, 172]
abbrev dktJ7_hash_0 : List UInt8 := dkwJ7_hash_0 ++ []
theorem dksJ7_hash_0 : cJ7_hash.data.toList.drop 0 = dktJ7_hash_0 := by decide +kernel
theorem dJ7_hash_0 : decode cJ7_hash 0 = .ok (.aload_n 0, 1) := dk_42 (dk_at dksJ7_hash_0 0 rfl rfl)
theorem dJ7_hash_1 : decode cJ7_hash 1 = .ok (.ifnonnull 7, 3) := dk_199 0 7 (dk_at dksJ7_hash_0 1 rfl rfl)
theorem dJ7_hash_4 : decode cJ7_hash 4 = .ok (.iconst 0, 1) := dk_3 (dk_at dksJ7_hash_0 4 rfl rfl)
theorem dJ7_hash_5 : decode cJ7_hash 5 = .ok (.goto 14, 3) := dk_167 0 14 (dk_at dksJ7_hash_0 5 rfl rfl)
theorem dJ7_hash_8 : decode cJ7_hash 8 = .ok (.aload_n 0, 1) := dk_42 (dk_at dksJ7_hash_0 8 rfl rfl)
theorem dJ7_hash_9 : decode cJ7_hash 9 = .ok (.invokevirtual 1, 3) := dk_182 0 1 (dk_at dksJ7_hash_0 9 rfl rfl)
theorem dJ7_hash_12 : decode cJ7_hash 12 = .ok (.dup, 1) := dk_89 (dk_at dksJ7_hash_0 12 rfl rfl)
theorem dJ7_hash_13 : decode cJ7_hash 13 = .ok (.istore_n 1, 1) := dk_60 (dk_at dksJ7_hash_0 13 rfl rfl)
theorem dJ7_hash_14 : decode cJ7_hash 14 = .ok (.iload_n 1, 1) := dk_27 (dk_at dksJ7_hash_0 14 rfl rfl)
theorem dJ7_hash_15 : decode cJ7_hash 15 = .ok (.bipush 16, 2) := dk_16 16 (dk_at dksJ7_hash_0 15 rfl rfl)
theorem dJ7_hash_17 : decode cJ7_hash 17 = .ok (.iushr, 1) := dk_124 (dk_at dksJ7_hash_0 17 rfl rfl)
theorem dJ7_hash_18 : decode cJ7_hash 18 = .ok (.ixor, 1) := dk_130 (dk_at dksJ7_hash_0 18 rfl rfl)
theorem dJ7_hash_19 : decode cJ7_hash 19 = .ok (.ireturn, 1) := dk_172 (dk_at dksJ7_hash_0 19 rfl rfl)
abbrev cJ7_comparableClassFor : ByteArray := prog_59_method_2_code
def yJ7_comparableClassFor : MethodName := ⟨RJ7, "comparableClassFor", "(Ljava/lang/Object;)Ljava/lang/Class;"⟩
def dkwJ7_comparableClassFor_4 : List UInt8 := [4, 160, 0, 12, 45, 3, 50, 43, 166, 0, 5, 43, 176, 132, 7, 1, 167, 255, 186, 1, 176]
abbrev dktJ7_comparableClassFor_4 : List UInt8 := dkwJ7_comparableClassFor_4 ++ []
def dkwJ7_comparableClassFor_3 : List UInt8 := [185, 0, 23, 1, 0, 18, 7, 166, 0, 30, 25, 4, 185, 0, 27, 1, 0, 89, 78, 198, 0, 18, 45, 190]
abbrev dktJ7_comparableClassFor_3 : List UInt8 := dkwJ7_comparableClassFor_3 ++ dktJ7_comparableClassFor_4
def dkwJ7_comparableClassFor_2 : List UInt8 := [25, 5, 21, 7, 50, 58, 8, 25, 8, 193, 0, 21, 153, 0, 48, 25, 8, 192, 0, 21, 89, 58, 4]
abbrev dktJ7_comparableClassFor_2 : List UInt8 := dkwJ7_comparableClassFor_2 ++ dktJ7_comparableClassFor_3
def dkwJ7_comparableClassFor_1 : List UInt8 := [89, 77, 198, 0, 87, 44, 58, 5, 25, 5, 190, 54, 6, 3, 54, 7, 21, 7, 21, 6, 162, 0, 69]
abbrev dktJ7_comparableClassFor_1 : List UInt8 := dkwJ7_comparableClassFor_1 ++ dktJ7_comparableClassFor_2
def dkwJ7_comparableClassFor_0 : List UInt8 := [42, 193, 0, 7, 153, 0, 109, 42, 182, 0, 9, 89, 76, 18, 13, 166, 0, 5, 43, 176, 43, 182, 0, 15]
abbrev dktJ7_comparableClassFor_0 : List UInt8 := dkwJ7_comparableClassFor_0 ++ dktJ7_comparableClassFor_1
theorem dksJ7_comparableClassFor_0 : cJ7_comparableClassFor.data.toList.drop 0 = dktJ7_comparableClassFor_0 := by decide +kernel
theorem dksJ7_comparableClassFor_1 : cJ7_comparableClassFor.data.toList.drop 24 = dktJ7_comparableClassFor_1 := dk_seg dksJ7_comparableClassFor_0 24 rfl rfl
theorem dksJ7_comparableClassFor_2 : cJ7_comparableClassFor.data.toList.drop 47 = dktJ7_comparableClassFor_2 := dk_seg dksJ7_comparableClassFor_1 23 rfl rfl
theorem dksJ7_comparableClassFor_3 : cJ7_comparableClassFor.data.toList.drop 70 = dktJ7_comparableClassFor_3 := dk_seg dksJ7_comparableClassFor_2 23 rfl rfl
theorem dksJ7_comparableClassFor_4 : cJ7_comparableClassFor.data.toList.drop 94 = dktJ7_comparableClassFor_4 := dk_seg dksJ7_comparableClassFor_3 24 rfl rfl
theorem dJ7_comparableClassFor_0 : decode cJ7_comparableClassFor 0 = .ok (.aload_n 0, 1) := dk_42 (dk_at dksJ7_comparableClassFor_0 0 rfl rfl)
theorem dJ7_comparableClassFor_1 : decode cJ7_comparableClassFor 1 = .ok (.instanceof 7, 3) := dk_193 0 7 (dk_at dksJ7_comparableClassFor_0 1 rfl rfl)
theorem dJ7_comparableClassFor_4 : decode cJ7_comparableClassFor 4 = .ok (.ifCond .eq 109, 3) := dk_153 0 109 (dk_at dksJ7_comparableClassFor_0 4 rfl rfl)
theorem dJ7_comparableClassFor_7 : decode cJ7_comparableClassFor 7 = .ok (.aload_n 0, 1) := dk_42 (dk_at dksJ7_comparableClassFor_0 7 rfl rfl)
theorem dJ7_comparableClassFor_8 : decode cJ7_comparableClassFor 8 = .ok (.invokevirtual 9, 3) := dk_182 0 9 (dk_at dksJ7_comparableClassFor_0 8 rfl rfl)
theorem dJ7_comparableClassFor_11 : decode cJ7_comparableClassFor 11 = .ok (.dup, 1) := dk_89 (dk_at dksJ7_comparableClassFor_0 11 rfl rfl)
theorem dJ7_comparableClassFor_12 : decode cJ7_comparableClassFor 12 = .ok (.astore_n 1, 1) := dk_76 (dk_at dksJ7_comparableClassFor_0 12 rfl rfl)
theorem dJ7_comparableClassFor_13 : decode cJ7_comparableClassFor 13 = .ok (.ldc 13, 2) := dk_18 13 (dk_at dksJ7_comparableClassFor_0 13 rfl rfl)
theorem dJ7_comparableClassFor_15 : decode cJ7_comparableClassFor 15 = .ok (.if_acmp .ne 5, 3) := dk_166 0 5 (dk_at dksJ7_comparableClassFor_0 15 rfl rfl)
theorem dJ7_comparableClassFor_18 : decode cJ7_comparableClassFor 18 = .ok (.aload_n 1, 1) := dk_43 (dk_at dksJ7_comparableClassFor_0 18 rfl rfl)
theorem dJ7_comparableClassFor_19 : decode cJ7_comparableClassFor 19 = .ok (.areturn, 1) := dk_176 (dk_at dksJ7_comparableClassFor_0 19 rfl rfl)
theorem dJ7_comparableClassFor_20 : decode cJ7_comparableClassFor 20 = .ok (.aload_n 1, 1) := dk_43 (dk_at dksJ7_comparableClassFor_0 20 rfl rfl)
theorem dJ7_comparableClassFor_21 : decode cJ7_comparableClassFor 21 = .ok (.invokevirtual 15, 3) := dk_182 0 15 (dk_at dksJ7_comparableClassFor_0 21 rfl rfl)
theorem dJ7_comparableClassFor_24 : decode cJ7_comparableClassFor 24 = .ok (.dup, 1) := dk_89 (dk_at dksJ7_comparableClassFor_1 0 rfl rfl)
theorem dJ7_comparableClassFor_25 : decode cJ7_comparableClassFor 25 = .ok (.astore_n 2, 1) := dk_77 (dk_at dksJ7_comparableClassFor_1 1 rfl rfl)
theorem dJ7_comparableClassFor_26 : decode cJ7_comparableClassFor 26 = .ok (.ifnull 87, 3) := dk_198 0 87 (dk_at dksJ7_comparableClassFor_1 2 rfl rfl)
theorem dJ7_comparableClassFor_29 : decode cJ7_comparableClassFor 29 = .ok (.aload_n 2, 1) := dk_44 (dk_at dksJ7_comparableClassFor_1 5 rfl rfl)
theorem dJ7_comparableClassFor_30 : decode cJ7_comparableClassFor 30 = .ok (.astore 5, 2) := dk_58 5 (dk_at dksJ7_comparableClassFor_1 6 rfl rfl)
theorem dJ7_comparableClassFor_32 : decode cJ7_comparableClassFor 32 = .ok (.aload 5, 2) := dk_25 5 (dk_at dksJ7_comparableClassFor_1 8 rfl rfl)
theorem dJ7_comparableClassFor_34 : decode cJ7_comparableClassFor 34 = .ok (.arraylength, 1) := dk_190 (dk_at dksJ7_comparableClassFor_1 10 rfl rfl)
theorem dJ7_comparableClassFor_35 : decode cJ7_comparableClassFor 35 = .ok (.istore 6, 2) := dk_54 6 (dk_at dksJ7_comparableClassFor_1 11 rfl rfl)
theorem dJ7_comparableClassFor_37 : decode cJ7_comparableClassFor 37 = .ok (.iconst 0, 1) := dk_3 (dk_at dksJ7_comparableClassFor_1 13 rfl rfl)
theorem dJ7_comparableClassFor_38 : decode cJ7_comparableClassFor 38 = .ok (.istore 7, 2) := dk_54 7 (dk_at dksJ7_comparableClassFor_1 14 rfl rfl)
theorem dJ7_comparableClassFor_40 : decode cJ7_comparableClassFor 40 = .ok (.iload 7, 2) := dk_21 7 (dk_at dksJ7_comparableClassFor_1 16 rfl rfl)
theorem dJ7_comparableClassFor_42 : decode cJ7_comparableClassFor 42 = .ok (.iload 6, 2) := dk_21 6 (dk_at dksJ7_comparableClassFor_1 18 rfl rfl)
theorem dJ7_comparableClassFor_44 : decode cJ7_comparableClassFor 44 = .ok (.if_icmp .ge 69, 3) := dk_162 0 69 (dk_at dksJ7_comparableClassFor_1 20 rfl rfl)
theorem dJ7_comparableClassFor_47 : decode cJ7_comparableClassFor 47 = .ok (.aload 5, 2) := dk_25 5 (dk_at dksJ7_comparableClassFor_2 0 rfl rfl)
theorem dJ7_comparableClassFor_49 : decode cJ7_comparableClassFor 49 = .ok (.iload 7, 2) := dk_21 7 (dk_at dksJ7_comparableClassFor_2 2 rfl rfl)
theorem dJ7_comparableClassFor_51 : decode cJ7_comparableClassFor 51 = .ok (.aaload, 1) := dk_50 (dk_at dksJ7_comparableClassFor_2 4 rfl rfl)
theorem dJ7_comparableClassFor_52 : decode cJ7_comparableClassFor 52 = .ok (.astore 8, 2) := dk_58 8 (dk_at dksJ7_comparableClassFor_2 5 rfl rfl)
theorem dJ7_comparableClassFor_54 : decode cJ7_comparableClassFor 54 = .ok (.aload 8, 2) := dk_25 8 (dk_at dksJ7_comparableClassFor_2 7 rfl rfl)
theorem dJ7_comparableClassFor_56 : decode cJ7_comparableClassFor 56 = .ok (.instanceof 21, 3) := dk_193 0 21 (dk_at dksJ7_comparableClassFor_2 9 rfl rfl)
theorem dJ7_comparableClassFor_59 : decode cJ7_comparableClassFor 59 = .ok (.ifCond .eq 48, 3) := dk_153 0 48 (dk_at dksJ7_comparableClassFor_2 12 rfl rfl)
theorem dJ7_comparableClassFor_62 : decode cJ7_comparableClassFor 62 = .ok (.aload 8, 2) := dk_25 8 (dk_at dksJ7_comparableClassFor_2 15 rfl rfl)
theorem dJ7_comparableClassFor_64 : decode cJ7_comparableClassFor 64 = .ok (.checkcast 21, 3) := dk_192 0 21 (dk_at dksJ7_comparableClassFor_2 17 rfl rfl)
theorem dJ7_comparableClassFor_67 : decode cJ7_comparableClassFor 67 = .ok (.dup, 1) := dk_89 (dk_at dksJ7_comparableClassFor_2 20 rfl rfl)
theorem dJ7_comparableClassFor_68 : decode cJ7_comparableClassFor 68 = .ok (.astore 4, 2) := dk_58 4 (dk_at dksJ7_comparableClassFor_2 21 rfl rfl)
theorem dJ7_comparableClassFor_70 : decode cJ7_comparableClassFor 70 = .ok (.invokeinterface 23 1, 5) := by decide +kernel
theorem dJ7_comparableClassFor_75 : decode cJ7_comparableClassFor 75 = .ok (.ldc 7, 2) := dk_18 7 (dk_at dksJ7_comparableClassFor_3 5 rfl rfl)
theorem dJ7_comparableClassFor_77 : decode cJ7_comparableClassFor 77 = .ok (.if_acmp .ne 30, 3) := dk_166 0 30 (dk_at dksJ7_comparableClassFor_3 7 rfl rfl)
theorem dJ7_comparableClassFor_80 : decode cJ7_comparableClassFor 80 = .ok (.aload 4, 2) := dk_25 4 (dk_at dksJ7_comparableClassFor_3 10 rfl rfl)
theorem dJ7_comparableClassFor_82 : decode cJ7_comparableClassFor 82 = .ok (.invokeinterface 27 1, 5) := by decide +kernel
theorem dJ7_comparableClassFor_87 : decode cJ7_comparableClassFor 87 = .ok (.dup, 1) := dk_89 (dk_at dksJ7_comparableClassFor_3 17 rfl rfl)
theorem dJ7_comparableClassFor_88 : decode cJ7_comparableClassFor 88 = .ok (.astore_n 3, 1) := dk_78 (dk_at dksJ7_comparableClassFor_3 18 rfl rfl)
theorem dJ7_comparableClassFor_89 : decode cJ7_comparableClassFor 89 = .ok (.ifnull 18, 3) := dk_198 0 18 (dk_at dksJ7_comparableClassFor_3 19 rfl rfl)
theorem dJ7_comparableClassFor_92 : decode cJ7_comparableClassFor 92 = .ok (.aload_n 3, 1) := dk_45 (dk_at dksJ7_comparableClassFor_3 22 rfl rfl)
theorem dJ7_comparableClassFor_93 : decode cJ7_comparableClassFor 93 = .ok (.arraylength, 1) := dk_190 (dk_at dksJ7_comparableClassFor_3 23 rfl rfl)
theorem dJ7_comparableClassFor_94 : decode cJ7_comparableClassFor 94 = .ok (.iconst 1, 1) := dk_4 (dk_at dksJ7_comparableClassFor_4 0 rfl rfl)
theorem dJ7_comparableClassFor_95 : decode cJ7_comparableClassFor 95 = .ok (.if_icmp .ne 12, 3) := dk_160 0 12 (dk_at dksJ7_comparableClassFor_4 1 rfl rfl)
theorem dJ7_comparableClassFor_98 : decode cJ7_comparableClassFor 98 = .ok (.aload_n 3, 1) := dk_45 (dk_at dksJ7_comparableClassFor_4 4 rfl rfl)
theorem dJ7_comparableClassFor_99 : decode cJ7_comparableClassFor 99 = .ok (.iconst 0, 1) := dk_3 (dk_at dksJ7_comparableClassFor_4 5 rfl rfl)
theorem dJ7_comparableClassFor_100 : decode cJ7_comparableClassFor 100 = .ok (.aaload, 1) := dk_50 (dk_at dksJ7_comparableClassFor_4 6 rfl rfl)
theorem dJ7_comparableClassFor_101 : decode cJ7_comparableClassFor 101 = .ok (.aload_n 1, 1) := dk_43 (dk_at dksJ7_comparableClassFor_4 7 rfl rfl)
theorem dJ7_comparableClassFor_102 : decode cJ7_comparableClassFor 102 = .ok (.if_acmp .ne 5, 3) := dk_166 0 5 (dk_at dksJ7_comparableClassFor_4 8 rfl rfl)
theorem dJ7_comparableClassFor_105 : decode cJ7_comparableClassFor 105 = .ok (.aload_n 1, 1) := dk_43 (dk_at dksJ7_comparableClassFor_4 11 rfl rfl)
theorem dJ7_comparableClassFor_106 : decode cJ7_comparableClassFor 106 = .ok (.areturn, 1) := dk_176 (dk_at dksJ7_comparableClassFor_4 12 rfl rfl)
theorem dJ7_comparableClassFor_107 : decode cJ7_comparableClassFor 107 = .ok (.iinc 7 1, 3) := dk_132 7 1 (dk_at dksJ7_comparableClassFor_4 13 rfl rfl)
theorem dJ7_comparableClassFor_110 : decode cJ7_comparableClassFor 110 = .ok (.goto (-70), 3) := dk_167 255 186 (dk_at dksJ7_comparableClassFor_4 16 rfl rfl)
theorem dJ7_comparableClassFor_113 : decode cJ7_comparableClassFor 113 = .ok (.aconst_null, 1) := dk_1 (dk_at dksJ7_comparableClassFor_4 19 rfl rfl)
theorem dJ7_comparableClassFor_114 : decode cJ7_comparableClassFor 114 = .ok (.areturn, 1) := dk_176 (dk_at dksJ7_comparableClassFor_4 20 rfl rfl)
abbrev cJ7_compareComparables : ByteArray := prog_59_method_3_code
def yJ7_compareComparables : MethodName := ⟨RJ7, "compareComparables", "(Ljava/lang/Class;Ljava/lang/Object;Ljava/lang/Object;)I"⟩
def dkwJ7_compareComparables_1 : List UInt8 := [185, 0, 30, 2, 0, 172]
abbrev dktJ7_compareComparables_1 : List UInt8 := dkwJ7_compareComparables_1 ++ []
def dkwJ7_compareComparables_0 : List UInt8 := [44, 198, 0, 11, 44, 182, 0, 9, 42, 165, 0, 7, 3, 167, 0, 13, 43, 192, 0, 7, 44]
abbrev dktJ7_compareComparables_0 : List UInt8 := dkwJ7_compareComparables_0 ++ dktJ7_compareComparables_1
theorem dksJ7_compareComparables_0 : cJ7_compareComparables.data.toList.drop 0 = dktJ7_compareComparables_0 := by decide +kernel
theorem dksJ7_compareComparables_1 : cJ7_compareComparables.data.toList.drop 21 = dktJ7_compareComparables_1 := dk_seg dksJ7_compareComparables_0 21 rfl rfl
theorem dJ7_compareComparables_0 : decode cJ7_compareComparables 0 = .ok (.aload_n 2, 1) := dk_44 (dk_at dksJ7_compareComparables_0 0 rfl rfl)
theorem dJ7_compareComparables_1 : decode cJ7_compareComparables 1 = .ok (.ifnull 11, 3) := dk_198 0 11 (dk_at dksJ7_compareComparables_0 1 rfl rfl)
theorem dJ7_compareComparables_4 : decode cJ7_compareComparables 4 = .ok (.aload_n 2, 1) := dk_44 (dk_at dksJ7_compareComparables_0 4 rfl rfl)
theorem dJ7_compareComparables_5 : decode cJ7_compareComparables 5 = .ok (.invokevirtual 9, 3) := dk_182 0 9 (dk_at dksJ7_compareComparables_0 5 rfl rfl)
theorem dJ7_compareComparables_8 : decode cJ7_compareComparables 8 = .ok (.aload_n 0, 1) := dk_42 (dk_at dksJ7_compareComparables_0 8 rfl rfl)
theorem dJ7_compareComparables_9 : decode cJ7_compareComparables 9 = .ok (.if_acmp .eq 7, 3) := dk_165 0 7 (dk_at dksJ7_compareComparables_0 9 rfl rfl)
theorem dJ7_compareComparables_12 : decode cJ7_compareComparables 12 = .ok (.iconst 0, 1) := dk_3 (dk_at dksJ7_compareComparables_0 12 rfl rfl)
theorem dJ7_compareComparables_13 : decode cJ7_compareComparables 13 = .ok (.goto 13, 3) := dk_167 0 13 (dk_at dksJ7_compareComparables_0 13 rfl rfl)
theorem dJ7_compareComparables_16 : decode cJ7_compareComparables 16 = .ok (.aload_n 1, 1) := dk_43 (dk_at dksJ7_compareComparables_0 16 rfl rfl)
theorem dJ7_compareComparables_17 : decode cJ7_compareComparables 17 = .ok (.checkcast 7, 3) := dk_192 0 7 (dk_at dksJ7_compareComparables_0 17 rfl rfl)
theorem dJ7_compareComparables_20 : decode cJ7_compareComparables 20 = .ok (.aload_n 2, 1) := dk_44 (dk_at dksJ7_compareComparables_0 20 rfl rfl)
theorem dJ7_compareComparables_21 : decode cJ7_compareComparables 21 = .ok (.invokeinterface 30 2, 5) := by decide +kernel
theorem dJ7_compareComparables_26 : decode cJ7_compareComparables 26 = .ok (.ireturn, 1) := dk_172 (dk_at dksJ7_compareComparables_1 5 rfl rfl)
abbrev cJ7_put : ByteArray := prog_59_method_15_code
def yJ7_put : MethodName := ⟨RJ7, "put", "(Ljava/lang/Object;Ljava/lang/Object;)Ljava/lang/Object;"⟩
def dkwJ7_put_0 : List UInt8 := [42, 43, 184, 0, 149, 43, 44, 3, 4, 182, 0, 152, 176]
abbrev dktJ7_put_0 : List UInt8 := dkwJ7_put_0 ++ []
theorem dksJ7_put_0 : cJ7_put.data.toList.drop 0 = dktJ7_put_0 := by decide +kernel
theorem dJ7_put_0 : decode cJ7_put 0 = .ok (.aload_n 0, 1) := dk_42 (dk_at dksJ7_put_0 0 rfl rfl)
theorem dJ7_put_1 : decode cJ7_put 1 = .ok (.aload_n 1, 1) := dk_43 (dk_at dksJ7_put_0 1 rfl rfl)
theorem dJ7_put_2 : decode cJ7_put 2 = .ok (.invokestatic 149, 3) := dk_184 0 149 (dk_at dksJ7_put_0 2 rfl rfl)
theorem dJ7_put_5 : decode cJ7_put 5 = .ok (.aload_n 1, 1) := dk_43 (dk_at dksJ7_put_0 5 rfl rfl)
theorem dJ7_put_6 : decode cJ7_put 6 = .ok (.aload_n 2, 1) := dk_44 (dk_at dksJ7_put_0 6 rfl rfl)
theorem dJ7_put_7 : decode cJ7_put 7 = .ok (.iconst 0, 1) := dk_3 (dk_at dksJ7_put_0 7 rfl rfl)
theorem dJ7_put_8 : decode cJ7_put 8 = .ok (.iconst 1, 1) := dk_4 (dk_at dksJ7_put_0 8 rfl rfl)
theorem dJ7_put_9 : decode cJ7_put 9 = .ok (.invokevirtual 152, 3) := dk_182 0 152 (dk_at dksJ7_put_0 9 rfl rfl)
theorem dJ7_put_12 : decode cJ7_put 12 = .ok (.areturn, 1) := dk_176 (dk_at dksJ7_put_0 12 rfl rfl)
abbrev cJ7_putVal : ByteArray := prog_59_method_16_code
def yJ7_putVal : MethodName := ⟨RJ7, "putVal", "(ILjava/lang/Object;Ljava/lang/Object;ZZ)Ljava/lang/Object;"⟩
def dkwJ7_putVal_12 : List UInt8 := [181, 0, 156, 42, 180, 0, 88, 164, 0, 8, 42, 182, 0, 117, 87, 42, 21, 5, 182, 0, 205, 1, 176]
abbrev dktJ7_putVal_12 : List UInt8 := dkwJ7_putVal_12 ++ []
def dkwJ7_putVal_11 : List UInt8 := [182, 0, 198, 25, 12, 176, 42, 89, 180, 0, 202, 4, 96, 181, 0, 202, 42, 89, 180, 0, 156, 4, 96, 90]
abbrev dktJ7_putVal_11 : List UInt8 := dkwJ7_putVal_11 ++ dktJ7_putVal_12
def dkwJ7_putVal_10 : List UInt8 := [180, 0, 162, 58, 12, 21, 4, 153, 0, 8, 25, 12, 199, 0, 9, 25, 10, 45, 181, 0, 162, 42, 25, 10]
abbrev dktJ7_putVal_10 : List UInt8 := dkwJ7_putVal_10 ++ dktJ7_putVal_11
def dkwJ7_putVal_9 : List UInt8 := [153, 0, 6, 167, 0, 13, 25, 10, 58, 7, 132, 12, 1, 167, 255, 171, 25, 10, 198, 0, 35, 25, 10]
abbrev dktJ7_putVal_9 : List UInt8 := dkwJ7_putVal_9 ++ dktJ7_putVal_10
def dkwJ7_putVal_8 : List UInt8 := [25, 10, 180, 0, 170, 89, 58, 11, 44, 165, 0, 29, 44, 198, 0, 15, 44, 25, 11, 182, 0, 173]
abbrev dktJ7_putVal_8 : List UInt8 := dkwJ7_putVal_8 ++ dktJ7_putVal_9
def dkwJ7_putVal_7 : List UInt8 := [16, 7, 161, 0, 60, 42, 25, 6, 27, 182, 0, 194, 167, 0, 50, 25, 10, 180, 0, 168, 27, 160, 0, 31]
abbrev dktJ7_putVal_7 : List UInt8 := dkwJ7_putVal_7 ++ dktJ7_putVal_8
def dkwJ7_putVal_6 : List UInt8 := [180, 0, 177, 89, 58, 10, 199, 0, 33, 25, 7, 42, 27, 44, 45, 1, 182, 0, 186, 181, 0, 177, 21, 12]
abbrev dktJ7_putVal_6 : List UInt8 := dkwJ7_putVal_6 ++ dktJ7_putVal_7
def dkwJ7_putVal_5 : List UInt8 := [192, 0, 180, 42, 25, 6, 27, 44, 45, 182, 0, 190, 58, 10, 167, 0, 94, 3, 54, 12, 25, 7]
abbrev dktJ7_putVal_5 : List UInt8 := dkwJ7_putVal_5 ++ dktJ7_putVal_6
def dkwJ7_putVal_4 : List UInt8 := [182, 0, 173, 153, 0, 10, 25, 7, 58, 10, 167, 0, 121, 25, 7, 193, 0, 180, 153, 0, 22, 25, 7]
abbrev dktJ7_putVal_4 : List UInt8 := dkwJ7_putVal_4 ++ dktJ7_putVal_5
def dkwJ7_putVal_3 : List UInt8 := [160, 0, 35, 25, 7, 180, 0, 170, 89, 58, 11, 44, 165, 0, 16, 44, 198, 0, 19, 44, 25, 11]
abbrev dktJ7_putVal_3 : List UInt8 := dkwJ7_putVal_3 ++ dktJ7_putVal_4
def dkwJ7_putVal_2 : List UInt8 := [25, 6, 21, 9, 42, 27, 44, 45, 1, 182, 0, 186, 83, 167, 0, 199, 25, 7, 180, 0, 168, 27]
abbrev dktJ7_putVal_2 : List UInt8 := dkwJ7_putVal_2 ++ dktJ7_putVal_3
def dkwJ7_putVal_1 : List UInt8 := [58, 6, 190, 54, 8, 25, 6, 21, 8, 4, 100, 27, 126, 89, 54, 9, 50, 89, 58, 7, 199, 0, 19]
abbrev dktJ7_putVal_1 : List UInt8 := dkwJ7_putVal_1 ++ dktJ7_putVal_2
def dkwJ7_putVal_0 : List UInt8 := [42, 180, 0, 105, 89, 58, 6, 198, 0, 12, 25, 6, 190, 89, 54, 8, 154, 0, 13, 42, 182, 0, 117, 89]
abbrev dktJ7_putVal_0 : List UInt8 := dkwJ7_putVal_0 ++ dktJ7_putVal_1
theorem dksJ7_putVal_0 : cJ7_putVal.data.toList.drop 0 = dktJ7_putVal_0 := by decide +kernel
theorem dksJ7_putVal_1 : cJ7_putVal.data.toList.drop 24 = dktJ7_putVal_1 := dk_seg dksJ7_putVal_0 24 rfl rfl
theorem dksJ7_putVal_2 : cJ7_putVal.data.toList.drop 47 = dktJ7_putVal_2 := dk_seg dksJ7_putVal_1 23 rfl rfl
theorem dksJ7_putVal_3 : cJ7_putVal.data.toList.drop 69 = dktJ7_putVal_3 := dk_seg dksJ7_putVal_2 22 rfl rfl
theorem dksJ7_putVal_4 : cJ7_putVal.data.toList.drop 91 = dktJ7_putVal_4 := dk_seg dksJ7_putVal_3 22 rfl rfl
theorem dksJ7_putVal_5 : cJ7_putVal.data.toList.drop 114 = dktJ7_putVal_5 := dk_seg dksJ7_putVal_4 23 rfl rfl
theorem dksJ7_putVal_6 : cJ7_putVal.data.toList.drop 136 = dktJ7_putVal_6 := dk_seg dksJ7_putVal_5 22 rfl rfl
theorem dksJ7_putVal_7 : cJ7_putVal.data.toList.drop 160 = dktJ7_putVal_7 := dk_seg dksJ7_putVal_6 24 rfl rfl
theorem dksJ7_putVal_8 : cJ7_putVal.data.toList.drop 184 = dktJ7_putVal_8 := dk_seg dksJ7_putVal_7 24 rfl rfl
theorem dksJ7_putVal_9 : cJ7_putVal.data.toList.drop 206 = dktJ7_putVal_9 := dk_seg dksJ7_putVal_8 22 rfl rfl
theorem dksJ7_putVal_10 : cJ7_putVal.data.toList.drop 229 = dktJ7_putVal_10 := dk_seg dksJ7_putVal_9 23 rfl rfl
theorem dksJ7_putVal_11 : cJ7_putVal.data.toList.drop 253 = dktJ7_putVal_11 := dk_seg dksJ7_putVal_10 24 rfl rfl
theorem dksJ7_putVal_12 : cJ7_putVal.data.toList.drop 277 = dktJ7_putVal_12 := dk_seg dksJ7_putVal_11 24 rfl rfl
theorem dJ7_putVal_0 : decode cJ7_putVal 0 = .ok (.aload_n 0, 1) := dk_42 (dk_at dksJ7_putVal_0 0 rfl rfl)
theorem dJ7_putVal_1 : decode cJ7_putVal 1 = .ok (.getfield 105, 3) := dk_180 0 105 (dk_at dksJ7_putVal_0 1 rfl rfl)
theorem dJ7_putVal_4 : decode cJ7_putVal 4 = .ok (.dup, 1) := dk_89 (dk_at dksJ7_putVal_0 4 rfl rfl)
theorem dJ7_putVal_5 : decode cJ7_putVal 5 = .ok (.astore 6, 2) := dk_58 6 (dk_at dksJ7_putVal_0 5 rfl rfl)
theorem dJ7_putVal_7 : decode cJ7_putVal 7 = .ok (.ifnull 12, 3) := dk_198 0 12 (dk_at dksJ7_putVal_0 7 rfl rfl)
theorem dJ7_putVal_10 : decode cJ7_putVal 10 = .ok (.aload 6, 2) := dk_25 6 (dk_at dksJ7_putVal_0 10 rfl rfl)
theorem dJ7_putVal_12 : decode cJ7_putVal 12 = .ok (.arraylength, 1) := dk_190 (dk_at dksJ7_putVal_0 12 rfl rfl)
theorem dJ7_putVal_13 : decode cJ7_putVal 13 = .ok (.dup, 1) := dk_89 (dk_at dksJ7_putVal_0 13 rfl rfl)
theorem dJ7_putVal_14 : decode cJ7_putVal 14 = .ok (.istore 8, 2) := dk_54 8 (dk_at dksJ7_putVal_0 14 rfl rfl)
theorem dJ7_putVal_16 : decode cJ7_putVal 16 = .ok (.ifCond .ne 13, 3) := dk_154 0 13 (dk_at dksJ7_putVal_0 16 rfl rfl)
theorem dJ7_putVal_19 : decode cJ7_putVal 19 = .ok (.aload_n 0, 1) := dk_42 (dk_at dksJ7_putVal_0 19 rfl rfl)
theorem dJ7_putVal_20 : decode cJ7_putVal 20 = .ok (.invokevirtual 117, 3) := dk_182 0 117 (dk_at dksJ7_putVal_0 20 rfl rfl)
theorem dJ7_putVal_23 : decode cJ7_putVal 23 = .ok (.dup, 1) := dk_89 (dk_at dksJ7_putVal_0 23 rfl rfl)
theorem dJ7_putVal_24 : decode cJ7_putVal 24 = .ok (.astore 6, 2) := dk_58 6 (dk_at dksJ7_putVal_1 0 rfl rfl)
theorem dJ7_putVal_26 : decode cJ7_putVal 26 = .ok (.arraylength, 1) := dk_190 (dk_at dksJ7_putVal_1 2 rfl rfl)
theorem dJ7_putVal_27 : decode cJ7_putVal 27 = .ok (.istore 8, 2) := dk_54 8 (dk_at dksJ7_putVal_1 3 rfl rfl)
theorem dJ7_putVal_29 : decode cJ7_putVal 29 = .ok (.aload 6, 2) := dk_25 6 (dk_at dksJ7_putVal_1 5 rfl rfl)
theorem dJ7_putVal_31 : decode cJ7_putVal 31 = .ok (.iload 8, 2) := dk_21 8 (dk_at dksJ7_putVal_1 7 rfl rfl)
theorem dJ7_putVal_33 : decode cJ7_putVal 33 = .ok (.iconst 1, 1) := dk_4 (dk_at dksJ7_putVal_1 9 rfl rfl)
theorem dJ7_putVal_34 : decode cJ7_putVal 34 = .ok (.isub, 1) := dk_100 (dk_at dksJ7_putVal_1 10 rfl rfl)
theorem dJ7_putVal_35 : decode cJ7_putVal 35 = .ok (.iload_n 1, 1) := dk_27 (dk_at dksJ7_putVal_1 11 rfl rfl)
theorem dJ7_putVal_36 : decode cJ7_putVal 36 = .ok (.iand, 1) := dk_126 (dk_at dksJ7_putVal_1 12 rfl rfl)
theorem dJ7_putVal_37 : decode cJ7_putVal 37 = .ok (.dup, 1) := dk_89 (dk_at dksJ7_putVal_1 13 rfl rfl)
theorem dJ7_putVal_38 : decode cJ7_putVal 38 = .ok (.istore 9, 2) := dk_54 9 (dk_at dksJ7_putVal_1 14 rfl rfl)
theorem dJ7_putVal_40 : decode cJ7_putVal 40 = .ok (.aaload, 1) := dk_50 (dk_at dksJ7_putVal_1 16 rfl rfl)
theorem dJ7_putVal_41 : decode cJ7_putVal 41 = .ok (.dup, 1) := dk_89 (dk_at dksJ7_putVal_1 17 rfl rfl)
theorem dJ7_putVal_42 : decode cJ7_putVal 42 = .ok (.astore 7, 2) := dk_58 7 (dk_at dksJ7_putVal_1 18 rfl rfl)
theorem dJ7_putVal_44 : decode cJ7_putVal 44 = .ok (.ifnonnull 19, 3) := dk_199 0 19 (dk_at dksJ7_putVal_1 20 rfl rfl)
theorem dJ7_putVal_47 : decode cJ7_putVal 47 = .ok (.aload 6, 2) := dk_25 6 (dk_at dksJ7_putVal_2 0 rfl rfl)
theorem dJ7_putVal_49 : decode cJ7_putVal 49 = .ok (.iload 9, 2) := dk_21 9 (dk_at dksJ7_putVal_2 2 rfl rfl)
theorem dJ7_putVal_51 : decode cJ7_putVal 51 = .ok (.aload_n 0, 1) := dk_42 (dk_at dksJ7_putVal_2 4 rfl rfl)
theorem dJ7_putVal_52 : decode cJ7_putVal 52 = .ok (.iload_n 1, 1) := dk_27 (dk_at dksJ7_putVal_2 5 rfl rfl)
theorem dJ7_putVal_53 : decode cJ7_putVal 53 = .ok (.aload_n 2, 1) := dk_44 (dk_at dksJ7_putVal_2 6 rfl rfl)
theorem dJ7_putVal_54 : decode cJ7_putVal 54 = .ok (.aload_n 3, 1) := dk_45 (dk_at dksJ7_putVal_2 7 rfl rfl)
theorem dJ7_putVal_55 : decode cJ7_putVal 55 = .ok (.aconst_null, 1) := dk_1 (dk_at dksJ7_putVal_2 8 rfl rfl)
theorem dJ7_putVal_56 : decode cJ7_putVal 56 = .ok (.invokevirtual 186, 3) := dk_182 0 186 (dk_at dksJ7_putVal_2 9 rfl rfl)
theorem dJ7_putVal_59 : decode cJ7_putVal 59 = .ok (.aastore, 1) := dk_83 (dk_at dksJ7_putVal_2 12 rfl rfl)
theorem dJ7_putVal_60 : decode cJ7_putVal 60 = .ok (.goto 199, 3) := dk_167 0 199 (dk_at dksJ7_putVal_2 13 rfl rfl)
theorem dJ7_putVal_63 : decode cJ7_putVal 63 = .ok (.aload 7, 2) := dk_25 7 (dk_at dksJ7_putVal_2 16 rfl rfl)
theorem dJ7_putVal_65 : decode cJ7_putVal 65 = .ok (.getfield 168, 3) := dk_180 0 168 (dk_at dksJ7_putVal_2 18 rfl rfl)
theorem dJ7_putVal_68 : decode cJ7_putVal 68 = .ok (.iload_n 1, 1) := dk_27 (dk_at dksJ7_putVal_2 21 rfl rfl)
theorem dJ7_putVal_69 : decode cJ7_putVal 69 = .ok (.if_icmp .ne 35, 3) := dk_160 0 35 (dk_at dksJ7_putVal_3 0 rfl rfl)
theorem dJ7_putVal_72 : decode cJ7_putVal 72 = .ok (.aload 7, 2) := dk_25 7 (dk_at dksJ7_putVal_3 3 rfl rfl)
theorem dJ7_putVal_74 : decode cJ7_putVal 74 = .ok (.getfield 170, 3) := dk_180 0 170 (dk_at dksJ7_putVal_3 5 rfl rfl)
theorem dJ7_putVal_77 : decode cJ7_putVal 77 = .ok (.dup, 1) := dk_89 (dk_at dksJ7_putVal_3 8 rfl rfl)
theorem dJ7_putVal_78 : decode cJ7_putVal 78 = .ok (.astore 11, 2) := dk_58 11 (dk_at dksJ7_putVal_3 9 rfl rfl)
theorem dJ7_putVal_80 : decode cJ7_putVal 80 = .ok (.aload_n 2, 1) := dk_44 (dk_at dksJ7_putVal_3 11 rfl rfl)
theorem dJ7_putVal_81 : decode cJ7_putVal 81 = .ok (.if_acmp .eq 16, 3) := dk_165 0 16 (dk_at dksJ7_putVal_3 12 rfl rfl)
theorem dJ7_putVal_84 : decode cJ7_putVal 84 = .ok (.aload_n 2, 1) := dk_44 (dk_at dksJ7_putVal_3 15 rfl rfl)
theorem dJ7_putVal_85 : decode cJ7_putVal 85 = .ok (.ifnull 19, 3) := dk_198 0 19 (dk_at dksJ7_putVal_3 16 rfl rfl)
theorem dJ7_putVal_88 : decode cJ7_putVal 88 = .ok (.aload_n 2, 1) := dk_44 (dk_at dksJ7_putVal_3 19 rfl rfl)
theorem dJ7_putVal_89 : decode cJ7_putVal 89 = .ok (.aload 11, 2) := dk_25 11 (dk_at dksJ7_putVal_3 20 rfl rfl)
theorem dJ7_putVal_91 : decode cJ7_putVal 91 = .ok (.invokevirtual 173, 3) := dk_182 0 173 (dk_at dksJ7_putVal_4 0 rfl rfl)
theorem dJ7_putVal_94 : decode cJ7_putVal 94 = .ok (.ifCond .eq 10, 3) := dk_153 0 10 (dk_at dksJ7_putVal_4 3 rfl rfl)
theorem dJ7_putVal_97 : decode cJ7_putVal 97 = .ok (.aload 7, 2) := dk_25 7 (dk_at dksJ7_putVal_4 6 rfl rfl)
theorem dJ7_putVal_99 : decode cJ7_putVal 99 = .ok (.astore 10, 2) := dk_58 10 (dk_at dksJ7_putVal_4 8 rfl rfl)
theorem dJ7_putVal_101 : decode cJ7_putVal 101 = .ok (.goto 121, 3) := dk_167 0 121 (dk_at dksJ7_putVal_4 10 rfl rfl)
theorem dJ7_putVal_104 : decode cJ7_putVal 104 = .ok (.aload 7, 2) := dk_25 7 (dk_at dksJ7_putVal_4 13 rfl rfl)
theorem dJ7_putVal_106 : decode cJ7_putVal 106 = .ok (.instanceof 180, 3) := dk_193 0 180 (dk_at dksJ7_putVal_4 15 rfl rfl)
theorem dJ7_putVal_109 : decode cJ7_putVal 109 = .ok (.ifCond .eq 22, 3) := dk_153 0 22 (dk_at dksJ7_putVal_4 18 rfl rfl)
theorem dJ7_putVal_112 : decode cJ7_putVal 112 = .ok (.aload 7, 2) := dk_25 7 (dk_at dksJ7_putVal_4 21 rfl rfl)
theorem dJ7_putVal_114 : decode cJ7_putVal 114 = .ok (.checkcast 180, 3) := dk_192 0 180 (dk_at dksJ7_putVal_5 0 rfl rfl)
theorem dJ7_putVal_117 : decode cJ7_putVal 117 = .ok (.aload_n 0, 1) := dk_42 (dk_at dksJ7_putVal_5 3 rfl rfl)
theorem dJ7_putVal_118 : decode cJ7_putVal 118 = .ok (.aload 6, 2) := dk_25 6 (dk_at dksJ7_putVal_5 4 rfl rfl)
theorem dJ7_putVal_120 : decode cJ7_putVal 120 = .ok (.iload_n 1, 1) := dk_27 (dk_at dksJ7_putVal_5 6 rfl rfl)
theorem dJ7_putVal_121 : decode cJ7_putVal 121 = .ok (.aload_n 2, 1) := dk_44 (dk_at dksJ7_putVal_5 7 rfl rfl)
theorem dJ7_putVal_122 : decode cJ7_putVal 122 = .ok (.aload_n 3, 1) := dk_45 (dk_at dksJ7_putVal_5 8 rfl rfl)
theorem dJ7_putVal_123 : decode cJ7_putVal 123 = .ok (.invokevirtual 190, 3) := dk_182 0 190 (dk_at dksJ7_putVal_5 9 rfl rfl)
theorem dJ7_putVal_126 : decode cJ7_putVal 126 = .ok (.astore 10, 2) := dk_58 10 (dk_at dksJ7_putVal_5 12 rfl rfl)
theorem dJ7_putVal_128 : decode cJ7_putVal 128 = .ok (.goto 94, 3) := dk_167 0 94 (dk_at dksJ7_putVal_5 14 rfl rfl)
theorem dJ7_putVal_131 : decode cJ7_putVal 131 = .ok (.iconst 0, 1) := dk_3 (dk_at dksJ7_putVal_5 17 rfl rfl)
theorem dJ7_putVal_132 : decode cJ7_putVal 132 = .ok (.istore 12, 2) := dk_54 12 (dk_at dksJ7_putVal_5 18 rfl rfl)
theorem dJ7_putVal_134 : decode cJ7_putVal 134 = .ok (.aload 7, 2) := dk_25 7 (dk_at dksJ7_putVal_5 20 rfl rfl)
theorem dJ7_putVal_136 : decode cJ7_putVal 136 = .ok (.getfield 177, 3) := dk_180 0 177 (dk_at dksJ7_putVal_6 0 rfl rfl)
theorem dJ7_putVal_139 : decode cJ7_putVal 139 = .ok (.dup, 1) := dk_89 (dk_at dksJ7_putVal_6 3 rfl rfl)
theorem dJ7_putVal_140 : decode cJ7_putVal 140 = .ok (.astore 10, 2) := dk_58 10 (dk_at dksJ7_putVal_6 4 rfl rfl)
theorem dJ7_putVal_142 : decode cJ7_putVal 142 = .ok (.ifnonnull 33, 3) := dk_199 0 33 (dk_at dksJ7_putVal_6 6 rfl rfl)
theorem dJ7_putVal_145 : decode cJ7_putVal 145 = .ok (.aload 7, 2) := dk_25 7 (dk_at dksJ7_putVal_6 9 rfl rfl)
theorem dJ7_putVal_147 : decode cJ7_putVal 147 = .ok (.aload_n 0, 1) := dk_42 (dk_at dksJ7_putVal_6 11 rfl rfl)
theorem dJ7_putVal_148 : decode cJ7_putVal 148 = .ok (.iload_n 1, 1) := dk_27 (dk_at dksJ7_putVal_6 12 rfl rfl)
theorem dJ7_putVal_149 : decode cJ7_putVal 149 = .ok (.aload_n 2, 1) := dk_44 (dk_at dksJ7_putVal_6 13 rfl rfl)
theorem dJ7_putVal_150 : decode cJ7_putVal 150 = .ok (.aload_n 3, 1) := dk_45 (dk_at dksJ7_putVal_6 14 rfl rfl)
theorem dJ7_putVal_151 : decode cJ7_putVal 151 = .ok (.aconst_null, 1) := dk_1 (dk_at dksJ7_putVal_6 15 rfl rfl)
theorem dJ7_putVal_152 : decode cJ7_putVal 152 = .ok (.invokevirtual 186, 3) := dk_182 0 186 (dk_at dksJ7_putVal_6 16 rfl rfl)
theorem dJ7_putVal_155 : decode cJ7_putVal 155 = .ok (.putfield 177, 3) := dk_181 0 177 (dk_at dksJ7_putVal_6 19 rfl rfl)
theorem dJ7_putVal_158 : decode cJ7_putVal 158 = .ok (.iload 12, 2) := dk_21 12 (dk_at dksJ7_putVal_6 22 rfl rfl)
theorem dJ7_putVal_160 : decode cJ7_putVal 160 = .ok (.bipush 7, 2) := dk_16 7 (dk_at dksJ7_putVal_7 0 rfl rfl)
theorem dJ7_putVal_162 : decode cJ7_putVal 162 = .ok (.if_icmp .lt 60, 3) := dk_161 0 60 (dk_at dksJ7_putVal_7 2 rfl rfl)
theorem dJ7_putVal_165 : decode cJ7_putVal 165 = .ok (.aload_n 0, 1) := dk_42 (dk_at dksJ7_putVal_7 5 rfl rfl)
theorem dJ7_putVal_166 : decode cJ7_putVal 166 = .ok (.aload 6, 2) := dk_25 6 (dk_at dksJ7_putVal_7 6 rfl rfl)
theorem dJ7_putVal_168 : decode cJ7_putVal 168 = .ok (.iload_n 1, 1) := dk_27 (dk_at dksJ7_putVal_7 8 rfl rfl)
theorem dJ7_putVal_169 : decode cJ7_putVal 169 = .ok (.invokevirtual 194, 3) := dk_182 0 194 (dk_at dksJ7_putVal_7 9 rfl rfl)
theorem dJ7_putVal_172 : decode cJ7_putVal 172 = .ok (.goto 50, 3) := dk_167 0 50 (dk_at dksJ7_putVal_7 12 rfl rfl)
theorem dJ7_putVal_175 : decode cJ7_putVal 175 = .ok (.aload 10, 2) := dk_25 10 (dk_at dksJ7_putVal_7 15 rfl rfl)
theorem dJ7_putVal_177 : decode cJ7_putVal 177 = .ok (.getfield 168, 3) := dk_180 0 168 (dk_at dksJ7_putVal_7 17 rfl rfl)
theorem dJ7_putVal_180 : decode cJ7_putVal 180 = .ok (.iload_n 1, 1) := dk_27 (dk_at dksJ7_putVal_7 20 rfl rfl)
theorem dJ7_putVal_181 : decode cJ7_putVal 181 = .ok (.if_icmp .ne 31, 3) := dk_160 0 31 (dk_at dksJ7_putVal_7 21 rfl rfl)
theorem dJ7_putVal_184 : decode cJ7_putVal 184 = .ok (.aload 10, 2) := dk_25 10 (dk_at dksJ7_putVal_8 0 rfl rfl)
theorem dJ7_putVal_186 : decode cJ7_putVal 186 = .ok (.getfield 170, 3) := dk_180 0 170 (dk_at dksJ7_putVal_8 2 rfl rfl)
theorem dJ7_putVal_189 : decode cJ7_putVal 189 = .ok (.dup, 1) := dk_89 (dk_at dksJ7_putVal_8 5 rfl rfl)
theorem dJ7_putVal_190 : decode cJ7_putVal 190 = .ok (.astore 11, 2) := dk_58 11 (dk_at dksJ7_putVal_8 6 rfl rfl)
theorem dJ7_putVal_192 : decode cJ7_putVal 192 = .ok (.aload_n 2, 1) := dk_44 (dk_at dksJ7_putVal_8 8 rfl rfl)
theorem dJ7_putVal_193 : decode cJ7_putVal 193 = .ok (.if_acmp .eq 29, 3) := dk_165 0 29 (dk_at dksJ7_putVal_8 9 rfl rfl)
theorem dJ7_putVal_196 : decode cJ7_putVal 196 = .ok (.aload_n 2, 1) := dk_44 (dk_at dksJ7_putVal_8 12 rfl rfl)
theorem dJ7_putVal_197 : decode cJ7_putVal 197 = .ok (.ifnull 15, 3) := dk_198 0 15 (dk_at dksJ7_putVal_8 13 rfl rfl)
theorem dJ7_putVal_200 : decode cJ7_putVal 200 = .ok (.aload_n 2, 1) := dk_44 (dk_at dksJ7_putVal_8 16 rfl rfl)
theorem dJ7_putVal_201 : decode cJ7_putVal 201 = .ok (.aload 11, 2) := dk_25 11 (dk_at dksJ7_putVal_8 17 rfl rfl)
theorem dJ7_putVal_203 : decode cJ7_putVal 203 = .ok (.invokevirtual 173, 3) := dk_182 0 173 (dk_at dksJ7_putVal_8 19 rfl rfl)
theorem dJ7_putVal_206 : decode cJ7_putVal 206 = .ok (.ifCond .eq 6, 3) := dk_153 0 6 (dk_at dksJ7_putVal_9 0 rfl rfl)
theorem dJ7_putVal_209 : decode cJ7_putVal 209 = .ok (.goto 13, 3) := dk_167 0 13 (dk_at dksJ7_putVal_9 3 rfl rfl)
theorem dJ7_putVal_212 : decode cJ7_putVal 212 = .ok (.aload 10, 2) := dk_25 10 (dk_at dksJ7_putVal_9 6 rfl rfl)
theorem dJ7_putVal_214 : decode cJ7_putVal 214 = .ok (.astore 7, 2) := dk_58 7 (dk_at dksJ7_putVal_9 8 rfl rfl)
theorem dJ7_putVal_216 : decode cJ7_putVal 216 = .ok (.iinc 12 1, 3) := dk_132 12 1 (dk_at dksJ7_putVal_9 10 rfl rfl)
theorem dJ7_putVal_219 : decode cJ7_putVal 219 = .ok (.goto (-85), 3) := dk_167 255 171 (dk_at dksJ7_putVal_9 13 rfl rfl)
theorem dJ7_putVal_222 : decode cJ7_putVal 222 = .ok (.aload 10, 2) := dk_25 10 (dk_at dksJ7_putVal_9 16 rfl rfl)
theorem dJ7_putVal_224 : decode cJ7_putVal 224 = .ok (.ifnull 35, 3) := dk_198 0 35 (dk_at dksJ7_putVal_9 18 rfl rfl)
theorem dJ7_putVal_227 : decode cJ7_putVal 227 = .ok (.aload 10, 2) := dk_25 10 (dk_at dksJ7_putVal_9 21 rfl rfl)
theorem dJ7_putVal_229 : decode cJ7_putVal 229 = .ok (.getfield 162, 3) := dk_180 0 162 (dk_at dksJ7_putVal_10 0 rfl rfl)
theorem dJ7_putVal_232 : decode cJ7_putVal 232 = .ok (.astore 12, 2) := dk_58 12 (dk_at dksJ7_putVal_10 3 rfl rfl)
theorem dJ7_putVal_234 : decode cJ7_putVal 234 = .ok (.iload 4, 2) := dk_21 4 (dk_at dksJ7_putVal_10 5 rfl rfl)
theorem dJ7_putVal_236 : decode cJ7_putVal 236 = .ok (.ifCond .eq 8, 3) := dk_153 0 8 (dk_at dksJ7_putVal_10 7 rfl rfl)
theorem dJ7_putVal_239 : decode cJ7_putVal 239 = .ok (.aload 12, 2) := dk_25 12 (dk_at dksJ7_putVal_10 10 rfl rfl)
theorem dJ7_putVal_241 : decode cJ7_putVal 241 = .ok (.ifnonnull 9, 3) := dk_199 0 9 (dk_at dksJ7_putVal_10 12 rfl rfl)
theorem dJ7_putVal_244 : decode cJ7_putVal 244 = .ok (.aload 10, 2) := dk_25 10 (dk_at dksJ7_putVal_10 15 rfl rfl)
theorem dJ7_putVal_246 : decode cJ7_putVal 246 = .ok (.aload_n 3, 1) := dk_45 (dk_at dksJ7_putVal_10 17 rfl rfl)
theorem dJ7_putVal_247 : decode cJ7_putVal 247 = .ok (.putfield 162, 3) := dk_181 0 162 (dk_at dksJ7_putVal_10 18 rfl rfl)
theorem dJ7_putVal_250 : decode cJ7_putVal 250 = .ok (.aload_n 0, 1) := dk_42 (dk_at dksJ7_putVal_10 21 rfl rfl)
theorem dJ7_putVal_251 : decode cJ7_putVal 251 = .ok (.aload 10, 2) := dk_25 10 (dk_at dksJ7_putVal_10 22 rfl rfl)
theorem dJ7_putVal_253 : decode cJ7_putVal 253 = .ok (.invokevirtual 198, 3) := dk_182 0 198 (dk_at dksJ7_putVal_11 0 rfl rfl)
theorem dJ7_putVal_256 : decode cJ7_putVal 256 = .ok (.aload 12, 2) := dk_25 12 (dk_at dksJ7_putVal_11 3 rfl rfl)
theorem dJ7_putVal_258 : decode cJ7_putVal 258 = .ok (.areturn, 1) := dk_176 (dk_at dksJ7_putVal_11 5 rfl rfl)
theorem dJ7_putVal_259 : decode cJ7_putVal 259 = .ok (.aload_n 0, 1) := dk_42 (dk_at dksJ7_putVal_11 6 rfl rfl)
theorem dJ7_putVal_260 : decode cJ7_putVal 260 = .ok (.dup, 1) := dk_89 (dk_at dksJ7_putVal_11 7 rfl rfl)
theorem dJ7_putVal_261 : decode cJ7_putVal 261 = .ok (.getfield 202, 3) := dk_180 0 202 (dk_at dksJ7_putVal_11 8 rfl rfl)
theorem dJ7_putVal_264 : decode cJ7_putVal 264 = .ok (.iconst 1, 1) := dk_4 (dk_at dksJ7_putVal_11 11 rfl rfl)
theorem dJ7_putVal_265 : decode cJ7_putVal 265 = .ok (.iadd, 1) := dk_96 (dk_at dksJ7_putVal_11 12 rfl rfl)
theorem dJ7_putVal_266 : decode cJ7_putVal 266 = .ok (.putfield 202, 3) := dk_181 0 202 (dk_at dksJ7_putVal_11 13 rfl rfl)
theorem dJ7_putVal_269 : decode cJ7_putVal 269 = .ok (.aload_n 0, 1) := dk_42 (dk_at dksJ7_putVal_11 16 rfl rfl)
theorem dJ7_putVal_270 : decode cJ7_putVal 270 = .ok (.dup, 1) := dk_89 (dk_at dksJ7_putVal_11 17 rfl rfl)
theorem dJ7_putVal_271 : decode cJ7_putVal 271 = .ok (.getfield 156, 3) := dk_180 0 156 (dk_at dksJ7_putVal_11 18 rfl rfl)
theorem dJ7_putVal_274 : decode cJ7_putVal 274 = .ok (.iconst 1, 1) := dk_4 (dk_at dksJ7_putVal_11 21 rfl rfl)
theorem dJ7_putVal_275 : decode cJ7_putVal 275 = .ok (.iadd, 1) := dk_96 (dk_at dksJ7_putVal_11 22 rfl rfl)
theorem dJ7_putVal_276 : decode cJ7_putVal 276 = .ok (.dup_x1, 1) := dk_90 (dk_at dksJ7_putVal_11 23 rfl rfl)
theorem dJ7_putVal_277 : decode cJ7_putVal 277 = .ok (.putfield 156, 3) := dk_181 0 156 (dk_at dksJ7_putVal_12 0 rfl rfl)
theorem dJ7_putVal_280 : decode cJ7_putVal 280 = .ok (.aload_n 0, 1) := dk_42 (dk_at dksJ7_putVal_12 3 rfl rfl)
theorem dJ7_putVal_281 : decode cJ7_putVal 281 = .ok (.getfield 88, 3) := dk_180 0 88 (dk_at dksJ7_putVal_12 4 rfl rfl)
theorem dJ7_putVal_284 : decode cJ7_putVal 284 = .ok (.if_icmp .le 8, 3) := dk_164 0 8 (dk_at dksJ7_putVal_12 7 rfl rfl)
theorem dJ7_putVal_287 : decode cJ7_putVal 287 = .ok (.aload_n 0, 1) := dk_42 (dk_at dksJ7_putVal_12 10 rfl rfl)
theorem dJ7_putVal_288 : decode cJ7_putVal 288 = .ok (.invokevirtual 117, 3) := dk_182 0 117 (dk_at dksJ7_putVal_12 11 rfl rfl)
theorem dJ7_putVal_291 : decode cJ7_putVal 291 = .ok (.pop, 1) := dk_87 (dk_at dksJ7_putVal_12 14 rfl rfl)
theorem dJ7_putVal_292 : decode cJ7_putVal 292 = .ok (.aload_n 0, 1) := dk_42 (dk_at dksJ7_putVal_12 15 rfl rfl)
theorem dJ7_putVal_293 : decode cJ7_putVal 293 = .ok (.iload 5, 2) := dk_21 5 (dk_at dksJ7_putVal_12 16 rfl rfl)
theorem dJ7_putVal_295 : decode cJ7_putVal 295 = .ok (.invokevirtual 205, 3) := dk_182 0 205 (dk_at dksJ7_putVal_12 18 rfl rfl)
theorem dJ7_putVal_298 : decode cJ7_putVal 298 = .ok (.aconst_null, 1) := dk_1 (dk_at dksJ7_putVal_12 21 rfl rfl)
theorem dJ7_putVal_299 : decode cJ7_putVal 299 = .ok (.areturn, 1) := dk_176 (dk_at dksJ7_putVal_12 22 rfl rfl)
abbrev cJ7_resize : ByteArray := prog_59_method_17_code
def yJ7_resize : MethodName := ⟨RJ7, "resize", "()[Ljava/util/HashMap$Node;"⟩
def dkwJ7_resize_15 : List UInt8 := [25, 6, 176]
abbrev dktJ7_resize_15 : List UInt8 := dkwJ7_resize_15 ++ []
def dkwJ7_resize_14 : List UInt8 := [198, 0, 18, 25, 12, 1, 181, 0, 177, 25, 6, 21, 7, 28, 96, 25, 11, 83, 132, 7, 1, 167, 255, 57]
abbrev dktJ7_resize_14 : List UInt8 := dkwJ7_resize_14 ++ dktJ7_resize_15
def dkwJ7_resize_13 : List UInt8 := [199, 255, 185, 25, 10, 198, 0, 16, 25, 10, 1, 181, 0, 177, 25, 6, 21, 7, 25, 9, 83, 25, 12]
abbrev dktJ7_resize_13 : List UInt8 := dkwJ7_resize_13 ++ dktJ7_resize_14
def dkwJ7_resize_12 : List UInt8 := [25, 8, 58, 11, 167, 0, 10, 25, 12, 25, 8, 181, 0, 177, 25, 8, 58, 12, 25, 13, 89, 58, 8]
abbrev dktJ7_resize_12 : List UInt8 := dkwJ7_resize_12 ++ dktJ7_resize_13
def dkwJ7_resize_11 : List UInt8 := [58, 9, 167, 0, 10, 25, 10, 25, 8, 181, 0, 177, 25, 8, 58, 10, 167, 0, 26, 25, 12, 199, 0, 10]
abbrev dktJ7_resize_11 : List UInt8 := dkwJ7_resize_11 ++ dktJ7_resize_12
def dkwJ7_resize_10 : List UInt8 := [25, 8, 180, 0, 177, 58, 13, 25, 8, 180, 0, 168, 28, 126, 154, 0, 29, 25, 10, 199, 0, 10, 25, 8]
abbrev dktJ7_resize_10 : List UInt8 := dkwJ7_resize_10 ++ dktJ7_resize_11
def dkwJ7_resize_9 : List UInt8 := [42, 25, 6, 21, 7, 28, 182, 0, 211, 167, 0, 127, 1, 58, 9, 1, 58, 10, 1, 58, 11, 1, 58, 12]
abbrev dktJ7_resize_9 : List UInt8 := dkwJ7_resize_9 ++ dktJ7_resize_10
def dkwJ7_resize_8 : List UInt8 := [21, 4, 4, 100, 126, 25, 8, 83, 167, 0, 152, 25, 8, 193, 0, 180, 153, 0, 20, 25, 8, 192, 0, 180]
abbrev dktJ7_resize_8 : List UInt8 := dkwJ7_resize_8 ++ dktJ7_resize_9
def dkwJ7_resize_7 : List UInt8 := [198, 0, 183, 43, 21, 7, 1, 83, 25, 8, 180, 0, 177, 199, 0, 21, 25, 6, 25, 8, 180, 0, 168]
abbrev dktJ7_resize_7 : List UInt8 := dkwJ7_resize_7 ++ dktJ7_resize_8
def dkwJ7_resize_6 : List UInt8 := [181, 0, 105, 43, 198, 0, 208, 3, 54, 7, 21, 7, 28, 162, 0, 199, 43, 21, 7, 50, 89, 58, 8]
abbrev dktJ7_resize_6 : List UInt8 := dkwJ7_resize_6 ++ dktJ7_resize_7
def dkwJ7_resize_5 : List UInt8 := [167, 0, 5, 18, 209, 54, 5, 42, 21, 5, 181, 0, 88, 21, 4, 189, 0, 163, 58, 6, 42, 25, 6]
abbrev dktJ7_resize_5 : List UInt8 := dkwJ7_resize_5 ++ dktJ7_resize_6
def dkwJ7_resize_4 : List UInt8 := [180, 0, 81, 106, 56, 6, 21, 4, 18, 42, 162, 0, 17, 23, 6, 18, 210, 150, 156, 0, 9, 23, 6, 139]
abbrev dktJ7_resize_4 : List UInt8 := dkwJ7_resize_4 ++ dktJ7_resize_5
def dkwJ7_resize_3 : List UInt8 := [54, 4, 167, 0, 11, 16, 16, 54, 4, 16, 12, 54, 5, 21, 5, 154, 0, 38, 21, 4, 134, 42]
abbrev dktJ7_resize_3 : List UInt8 := dkwJ7_resize_3 ++ dktJ7_resize_4
def dkwJ7_resize_2 : List UInt8 := [18, 42, 162, 0, 35, 28, 16, 16, 161, 0, 29, 29, 4, 120, 54, 5, 167, 0, 21, 29, 158, 0, 9, 29]
abbrev dktJ7_resize_2 : List UInt8 := dkwJ7_resize_2 ++ dktJ7_resize_3
def dkwJ7_resize_1 : List UInt8 := [28, 158, 0, 42, 28, 18, 42, 161, 0, 11, 42, 18, 209, 181, 0, 88, 43, 176, 28, 4, 120, 89, 54, 4]
abbrev dktJ7_resize_1 : List UInt8 := dkwJ7_resize_1 ++ dktJ7_resize_2
def dkwJ7_resize_0 : List UInt8 := [42, 180, 0, 105, 76, 43, 199, 0, 7, 3, 167, 0, 5, 43, 190, 61, 42, 180, 0, 88, 62, 3, 54, 5]
abbrev dktJ7_resize_0 : List UInt8 := dkwJ7_resize_0 ++ dktJ7_resize_1
theorem dksJ7_resize_0 : cJ7_resize.data.toList.drop 0 = dktJ7_resize_0 := by decide +kernel
theorem dksJ7_resize_1 : cJ7_resize.data.toList.drop 24 = dktJ7_resize_1 := dk_seg dksJ7_resize_0 24 rfl rfl
theorem dksJ7_resize_2 : cJ7_resize.data.toList.drop 48 = dktJ7_resize_2 := dk_seg dksJ7_resize_1 24 rfl rfl
theorem dksJ7_resize_3 : cJ7_resize.data.toList.drop 72 = dktJ7_resize_3 := dk_seg dksJ7_resize_2 24 rfl rfl
theorem dksJ7_resize_4 : cJ7_resize.data.toList.drop 94 = dktJ7_resize_4 := dk_seg dksJ7_resize_3 22 rfl rfl
theorem dksJ7_resize_5 : cJ7_resize.data.toList.drop 118 = dktJ7_resize_5 := dk_seg dksJ7_resize_4 24 rfl rfl
theorem dksJ7_resize_6 : cJ7_resize.data.toList.drop 141 = dktJ7_resize_6 := dk_seg dksJ7_resize_5 23 rfl rfl
theorem dksJ7_resize_7 : cJ7_resize.data.toList.drop 164 = dktJ7_resize_7 := dk_seg dksJ7_resize_6 23 rfl rfl
theorem dksJ7_resize_8 : cJ7_resize.data.toList.drop 187 = dktJ7_resize_8 := dk_seg dksJ7_resize_7 23 rfl rfl
theorem dksJ7_resize_9 : cJ7_resize.data.toList.drop 211 = dktJ7_resize_9 := dk_seg dksJ7_resize_8 24 rfl rfl
theorem dksJ7_resize_10 : cJ7_resize.data.toList.drop 235 = dktJ7_resize_10 := dk_seg dksJ7_resize_9 24 rfl rfl
theorem dksJ7_resize_11 : cJ7_resize.data.toList.drop 259 = dktJ7_resize_11 := dk_seg dksJ7_resize_10 24 rfl rfl
theorem dksJ7_resize_12 : cJ7_resize.data.toList.drop 283 = dktJ7_resize_12 := dk_seg dksJ7_resize_11 24 rfl rfl
theorem dksJ7_resize_13 : cJ7_resize.data.toList.drop 306 = dktJ7_resize_13 := dk_seg dksJ7_resize_12 23 rfl rfl
theorem dksJ7_resize_14 : cJ7_resize.data.toList.drop 329 = dktJ7_resize_14 := dk_seg dksJ7_resize_13 23 rfl rfl
theorem dksJ7_resize_15 : cJ7_resize.data.toList.drop 353 = dktJ7_resize_15 := dk_seg dksJ7_resize_14 24 rfl rfl
theorem dJ7_resize_0 : decode cJ7_resize 0 = .ok (.aload_n 0, 1) := dk_42 (dk_at dksJ7_resize_0 0 rfl rfl)
theorem dJ7_resize_1 : decode cJ7_resize 1 = .ok (.getfield 105, 3) := dk_180 0 105 (dk_at dksJ7_resize_0 1 rfl rfl)
theorem dJ7_resize_4 : decode cJ7_resize 4 = .ok (.astore_n 1, 1) := dk_76 (dk_at dksJ7_resize_0 4 rfl rfl)
theorem dJ7_resize_5 : decode cJ7_resize 5 = .ok (.aload_n 1, 1) := dk_43 (dk_at dksJ7_resize_0 5 rfl rfl)
theorem dJ7_resize_6 : decode cJ7_resize 6 = .ok (.ifnonnull 7, 3) := dk_199 0 7 (dk_at dksJ7_resize_0 6 rfl rfl)
theorem dJ7_resize_9 : decode cJ7_resize 9 = .ok (.iconst 0, 1) := dk_3 (dk_at dksJ7_resize_0 9 rfl rfl)
theorem dJ7_resize_10 : decode cJ7_resize 10 = .ok (.goto 5, 3) := dk_167 0 5 (dk_at dksJ7_resize_0 10 rfl rfl)
theorem dJ7_resize_13 : decode cJ7_resize 13 = .ok (.aload_n 1, 1) := dk_43 (dk_at dksJ7_resize_0 13 rfl rfl)
theorem dJ7_resize_14 : decode cJ7_resize 14 = .ok (.arraylength, 1) := dk_190 (dk_at dksJ7_resize_0 14 rfl rfl)
theorem dJ7_resize_15 : decode cJ7_resize 15 = .ok (.istore_n 2, 1) := dk_61 (dk_at dksJ7_resize_0 15 rfl rfl)
theorem dJ7_resize_16 : decode cJ7_resize 16 = .ok (.aload_n 0, 1) := dk_42 (dk_at dksJ7_resize_0 16 rfl rfl)
theorem dJ7_resize_17 : decode cJ7_resize 17 = .ok (.getfield 88, 3) := dk_180 0 88 (dk_at dksJ7_resize_0 17 rfl rfl)
theorem dJ7_resize_20 : decode cJ7_resize 20 = .ok (.istore_n 3, 1) := dk_62 (dk_at dksJ7_resize_0 20 rfl rfl)
theorem dJ7_resize_21 : decode cJ7_resize 21 = .ok (.iconst 0, 1) := dk_3 (dk_at dksJ7_resize_0 21 rfl rfl)
theorem dJ7_resize_22 : decode cJ7_resize 22 = .ok (.istore 5, 2) := dk_54 5 (dk_at dksJ7_resize_0 22 rfl rfl)
theorem dJ7_resize_24 : decode cJ7_resize 24 = .ok (.iload_n 2, 1) := dk_28 (dk_at dksJ7_resize_1 0 rfl rfl)
theorem dJ7_resize_25 : decode cJ7_resize 25 = .ok (.ifCond .le 42, 3) := dk_158 0 42 (dk_at dksJ7_resize_1 1 rfl rfl)
theorem dJ7_resize_28 : decode cJ7_resize 28 = .ok (.iload_n 2, 1) := dk_28 (dk_at dksJ7_resize_1 4 rfl rfl)
theorem dJ7_resize_29 : decode cJ7_resize 29 = .ok (.ldc 42, 2) := dk_18 42 (dk_at dksJ7_resize_1 5 rfl rfl)
theorem dJ7_resize_31 : decode cJ7_resize 31 = .ok (.if_icmp .lt 11, 3) := dk_161 0 11 (dk_at dksJ7_resize_1 7 rfl rfl)
theorem dJ7_resize_34 : decode cJ7_resize 34 = .ok (.aload_n 0, 1) := dk_42 (dk_at dksJ7_resize_1 10 rfl rfl)
theorem dJ7_resize_35 : decode cJ7_resize 35 = .ok (.ldc 209, 2) := dk_18 209 (dk_at dksJ7_resize_1 11 rfl rfl)
theorem dJ7_resize_37 : decode cJ7_resize 37 = .ok (.putfield 88, 3) := dk_181 0 88 (dk_at dksJ7_resize_1 13 rfl rfl)
theorem dJ7_resize_40 : decode cJ7_resize 40 = .ok (.aload_n 1, 1) := dk_43 (dk_at dksJ7_resize_1 16 rfl rfl)
theorem dJ7_resize_41 : decode cJ7_resize 41 = .ok (.areturn, 1) := dk_176 (dk_at dksJ7_resize_1 17 rfl rfl)
theorem dJ7_resize_42 : decode cJ7_resize 42 = .ok (.iload_n 2, 1) := dk_28 (dk_at dksJ7_resize_1 18 rfl rfl)
theorem dJ7_resize_43 : decode cJ7_resize 43 = .ok (.iconst 1, 1) := dk_4 (dk_at dksJ7_resize_1 19 rfl rfl)
theorem dJ7_resize_44 : decode cJ7_resize 44 = .ok (.ishl, 1) := dk_120 (dk_at dksJ7_resize_1 20 rfl rfl)
theorem dJ7_resize_45 : decode cJ7_resize 45 = .ok (.dup, 1) := dk_89 (dk_at dksJ7_resize_1 21 rfl rfl)
theorem dJ7_resize_46 : decode cJ7_resize 46 = .ok (.istore 4, 2) := dk_54 4 (dk_at dksJ7_resize_1 22 rfl rfl)
theorem dJ7_resize_48 : decode cJ7_resize 48 = .ok (.ldc 42, 2) := dk_18 42 (dk_at dksJ7_resize_2 0 rfl rfl)
theorem dJ7_resize_50 : decode cJ7_resize 50 = .ok (.if_icmp .ge 35, 3) := dk_162 0 35 (dk_at dksJ7_resize_2 2 rfl rfl)
theorem dJ7_resize_53 : decode cJ7_resize 53 = .ok (.iload_n 2, 1) := dk_28 (dk_at dksJ7_resize_2 5 rfl rfl)
theorem dJ7_resize_54 : decode cJ7_resize 54 = .ok (.bipush 16, 2) := dk_16 16 (dk_at dksJ7_resize_2 6 rfl rfl)
theorem dJ7_resize_56 : decode cJ7_resize 56 = .ok (.if_icmp .lt 29, 3) := dk_161 0 29 (dk_at dksJ7_resize_2 8 rfl rfl)
theorem dJ7_resize_59 : decode cJ7_resize 59 = .ok (.iload_n 3, 1) := dk_29 (dk_at dksJ7_resize_2 11 rfl rfl)
theorem dJ7_resize_60 : decode cJ7_resize 60 = .ok (.iconst 1, 1) := dk_4 (dk_at dksJ7_resize_2 12 rfl rfl)
theorem dJ7_resize_61 : decode cJ7_resize 61 = .ok (.ishl, 1) := dk_120 (dk_at dksJ7_resize_2 13 rfl rfl)
theorem dJ7_resize_62 : decode cJ7_resize 62 = .ok (.istore 5, 2) := dk_54 5 (dk_at dksJ7_resize_2 14 rfl rfl)
theorem dJ7_resize_64 : decode cJ7_resize 64 = .ok (.goto 21, 3) := dk_167 0 21 (dk_at dksJ7_resize_2 16 rfl rfl)
theorem dJ7_resize_67 : decode cJ7_resize 67 = .ok (.iload_n 3, 1) := dk_29 (dk_at dksJ7_resize_2 19 rfl rfl)
theorem dJ7_resize_68 : decode cJ7_resize 68 = .ok (.ifCond .le 9, 3) := dk_158 0 9 (dk_at dksJ7_resize_2 20 rfl rfl)
theorem dJ7_resize_71 : decode cJ7_resize 71 = .ok (.iload_n 3, 1) := dk_29 (dk_at dksJ7_resize_2 23 rfl rfl)
theorem dJ7_resize_72 : decode cJ7_resize 72 = .ok (.istore 4, 2) := dk_54 4 (dk_at dksJ7_resize_3 0 rfl rfl)
theorem dJ7_resize_74 : decode cJ7_resize 74 = .ok (.goto 11, 3) := dk_167 0 11 (dk_at dksJ7_resize_3 2 rfl rfl)
theorem dJ7_resize_77 : decode cJ7_resize 77 = .ok (.bipush 16, 2) := dk_16 16 (dk_at dksJ7_resize_3 5 rfl rfl)
theorem dJ7_resize_79 : decode cJ7_resize 79 = .ok (.istore 4, 2) := dk_54 4 (dk_at dksJ7_resize_3 7 rfl rfl)
theorem dJ7_resize_81 : decode cJ7_resize 81 = .ok (.bipush 12, 2) := dk_16 12 (dk_at dksJ7_resize_3 9 rfl rfl)
theorem dJ7_resize_83 : decode cJ7_resize 83 = .ok (.istore 5, 2) := dk_54 5 (dk_at dksJ7_resize_3 11 rfl rfl)
theorem dJ7_resize_85 : decode cJ7_resize 85 = .ok (.iload 5, 2) := dk_21 5 (dk_at dksJ7_resize_3 13 rfl rfl)
theorem dJ7_resize_87 : decode cJ7_resize 87 = .ok (.ifCond .ne 38, 3) := dk_154 0 38 (dk_at dksJ7_resize_3 15 rfl rfl)
theorem dJ7_resize_90 : decode cJ7_resize 90 = .ok (.iload 4, 2) := dk_21 4 (dk_at dksJ7_resize_3 18 rfl rfl)
theorem dJ7_resize_92 : decode cJ7_resize 92 = .ok (.i2f, 1) := dk_134 (dk_at dksJ7_resize_3 20 rfl rfl)
theorem dJ7_resize_93 : decode cJ7_resize 93 = .ok (.aload_n 0, 1) := dk_42 (dk_at dksJ7_resize_3 21 rfl rfl)
theorem dJ7_resize_94 : decode cJ7_resize 94 = .ok (.getfield 81, 3) := dk_180 0 81 (dk_at dksJ7_resize_4 0 rfl rfl)
theorem dJ7_resize_97 : decode cJ7_resize 97 = .ok (.fmul, 1) := dk_106 (dk_at dksJ7_resize_4 3 rfl rfl)
theorem dJ7_resize_98 : decode cJ7_resize 98 = .ok (.fstore 6, 2) := dk_56 6 (dk_at dksJ7_resize_4 4 rfl rfl)
theorem dJ7_resize_100 : decode cJ7_resize 100 = .ok (.iload 4, 2) := dk_21 4 (dk_at dksJ7_resize_4 6 rfl rfl)
theorem dJ7_resize_102 : decode cJ7_resize 102 = .ok (.ldc 42, 2) := dk_18 42 (dk_at dksJ7_resize_4 8 rfl rfl)
theorem dJ7_resize_104 : decode cJ7_resize 104 = .ok (.if_icmp .ge 17, 3) := dk_162 0 17 (dk_at dksJ7_resize_4 10 rfl rfl)
theorem dJ7_resize_107 : decode cJ7_resize 107 = .ok (.fload 6, 2) := dk_23 6 (dk_at dksJ7_resize_4 13 rfl rfl)
theorem dJ7_resize_109 : decode cJ7_resize 109 = .ok (.ldc 210, 2) := dk_18 210 (dk_at dksJ7_resize_4 15 rfl rfl)
theorem dJ7_resize_111 : decode cJ7_resize 111 = .ok (.fcmp .g, 1) := dk_150 (dk_at dksJ7_resize_4 17 rfl rfl)
theorem dJ7_resize_112 : decode cJ7_resize 112 = .ok (.ifCond .ge 9, 3) := dk_156 0 9 (dk_at dksJ7_resize_4 18 rfl rfl)
theorem dJ7_resize_115 : decode cJ7_resize 115 = .ok (.fload 6, 2) := dk_23 6 (dk_at dksJ7_resize_4 21 rfl rfl)
theorem dJ7_resize_117 : decode cJ7_resize 117 = .ok (.f2i, 1) := dk_139 (dk_at dksJ7_resize_4 23 rfl rfl)
theorem dJ7_resize_118 : decode cJ7_resize 118 = .ok (.goto 5, 3) := dk_167 0 5 (dk_at dksJ7_resize_5 0 rfl rfl)
theorem dJ7_resize_121 : decode cJ7_resize 121 = .ok (.ldc 209, 2) := dk_18 209 (dk_at dksJ7_resize_5 3 rfl rfl)
theorem dJ7_resize_123 : decode cJ7_resize 123 = .ok (.istore 5, 2) := dk_54 5 (dk_at dksJ7_resize_5 5 rfl rfl)
theorem dJ7_resize_125 : decode cJ7_resize 125 = .ok (.aload_n 0, 1) := dk_42 (dk_at dksJ7_resize_5 7 rfl rfl)
theorem dJ7_resize_126 : decode cJ7_resize 126 = .ok (.iload 5, 2) := dk_21 5 (dk_at dksJ7_resize_5 8 rfl rfl)
theorem dJ7_resize_128 : decode cJ7_resize 128 = .ok (.putfield 88, 3) := dk_181 0 88 (dk_at dksJ7_resize_5 10 rfl rfl)
theorem dJ7_resize_131 : decode cJ7_resize 131 = .ok (.iload 4, 2) := dk_21 4 (dk_at dksJ7_resize_5 13 rfl rfl)
theorem dJ7_resize_133 : decode cJ7_resize 133 = .ok (.anewarray 163, 3) := dk_189 0 163 (dk_at dksJ7_resize_5 15 rfl rfl)
theorem dJ7_resize_136 : decode cJ7_resize 136 = .ok (.astore 6, 2) := dk_58 6 (dk_at dksJ7_resize_5 18 rfl rfl)
theorem dJ7_resize_138 : decode cJ7_resize 138 = .ok (.aload_n 0, 1) := dk_42 (dk_at dksJ7_resize_5 20 rfl rfl)
theorem dJ7_resize_139 : decode cJ7_resize 139 = .ok (.aload 6, 2) := dk_25 6 (dk_at dksJ7_resize_5 21 rfl rfl)
theorem dJ7_resize_141 : decode cJ7_resize 141 = .ok (.putfield 105, 3) := dk_181 0 105 (dk_at dksJ7_resize_6 0 rfl rfl)
theorem dJ7_resize_144 : decode cJ7_resize 144 = .ok (.aload_n 1, 1) := dk_43 (dk_at dksJ7_resize_6 3 rfl rfl)
theorem dJ7_resize_145 : decode cJ7_resize 145 = .ok (.ifnull 208, 3) := dk_198 0 208 (dk_at dksJ7_resize_6 4 rfl rfl)
theorem dJ7_resize_148 : decode cJ7_resize 148 = .ok (.iconst 0, 1) := dk_3 (dk_at dksJ7_resize_6 7 rfl rfl)
theorem dJ7_resize_149 : decode cJ7_resize 149 = .ok (.istore 7, 2) := dk_54 7 (dk_at dksJ7_resize_6 8 rfl rfl)
theorem dJ7_resize_151 : decode cJ7_resize 151 = .ok (.iload 7, 2) := dk_21 7 (dk_at dksJ7_resize_6 10 rfl rfl)
theorem dJ7_resize_153 : decode cJ7_resize 153 = .ok (.iload_n 2, 1) := dk_28 (dk_at dksJ7_resize_6 12 rfl rfl)
theorem dJ7_resize_154 : decode cJ7_resize 154 = .ok (.if_icmp .ge 199, 3) := dk_162 0 199 (dk_at dksJ7_resize_6 13 rfl rfl)
theorem dJ7_resize_157 : decode cJ7_resize 157 = .ok (.aload_n 1, 1) := dk_43 (dk_at dksJ7_resize_6 16 rfl rfl)
theorem dJ7_resize_158 : decode cJ7_resize 158 = .ok (.iload 7, 2) := dk_21 7 (dk_at dksJ7_resize_6 17 rfl rfl)
theorem dJ7_resize_160 : decode cJ7_resize 160 = .ok (.aaload, 1) := dk_50 (dk_at dksJ7_resize_6 19 rfl rfl)
theorem dJ7_resize_161 : decode cJ7_resize 161 = .ok (.dup, 1) := dk_89 (dk_at dksJ7_resize_6 20 rfl rfl)
theorem dJ7_resize_162 : decode cJ7_resize 162 = .ok (.astore 8, 2) := dk_58 8 (dk_at dksJ7_resize_6 21 rfl rfl)
theorem dJ7_resize_164 : decode cJ7_resize 164 = .ok (.ifnull 183, 3) := dk_198 0 183 (dk_at dksJ7_resize_7 0 rfl rfl)
theorem dJ7_resize_167 : decode cJ7_resize 167 = .ok (.aload_n 1, 1) := dk_43 (dk_at dksJ7_resize_7 3 rfl rfl)
theorem dJ7_resize_168 : decode cJ7_resize 168 = .ok (.iload 7, 2) := dk_21 7 (dk_at dksJ7_resize_7 4 rfl rfl)
theorem dJ7_resize_170 : decode cJ7_resize 170 = .ok (.aconst_null, 1) := dk_1 (dk_at dksJ7_resize_7 6 rfl rfl)
theorem dJ7_resize_171 : decode cJ7_resize 171 = .ok (.aastore, 1) := dk_83 (dk_at dksJ7_resize_7 7 rfl rfl)
theorem dJ7_resize_172 : decode cJ7_resize 172 = .ok (.aload 8, 2) := dk_25 8 (dk_at dksJ7_resize_7 8 rfl rfl)
theorem dJ7_resize_174 : decode cJ7_resize 174 = .ok (.getfield 177, 3) := dk_180 0 177 (dk_at dksJ7_resize_7 10 rfl rfl)
theorem dJ7_resize_177 : decode cJ7_resize 177 = .ok (.ifnonnull 21, 3) := dk_199 0 21 (dk_at dksJ7_resize_7 13 rfl rfl)
theorem dJ7_resize_180 : decode cJ7_resize 180 = .ok (.aload 6, 2) := dk_25 6 (dk_at dksJ7_resize_7 16 rfl rfl)
theorem dJ7_resize_182 : decode cJ7_resize 182 = .ok (.aload 8, 2) := dk_25 8 (dk_at dksJ7_resize_7 18 rfl rfl)
theorem dJ7_resize_184 : decode cJ7_resize 184 = .ok (.getfield 168, 3) := dk_180 0 168 (dk_at dksJ7_resize_7 20 rfl rfl)
theorem dJ7_resize_187 : decode cJ7_resize 187 = .ok (.iload 4, 2) := dk_21 4 (dk_at dksJ7_resize_8 0 rfl rfl)
theorem dJ7_resize_189 : decode cJ7_resize 189 = .ok (.iconst 1, 1) := dk_4 (dk_at dksJ7_resize_8 2 rfl rfl)
theorem dJ7_resize_190 : decode cJ7_resize 190 = .ok (.isub, 1) := dk_100 (dk_at dksJ7_resize_8 3 rfl rfl)
theorem dJ7_resize_191 : decode cJ7_resize 191 = .ok (.iand, 1) := dk_126 (dk_at dksJ7_resize_8 4 rfl rfl)
theorem dJ7_resize_192 : decode cJ7_resize 192 = .ok (.aload 8, 2) := dk_25 8 (dk_at dksJ7_resize_8 5 rfl rfl)
theorem dJ7_resize_194 : decode cJ7_resize 194 = .ok (.aastore, 1) := dk_83 (dk_at dksJ7_resize_8 7 rfl rfl)
theorem dJ7_resize_195 : decode cJ7_resize 195 = .ok (.goto 152, 3) := dk_167 0 152 (dk_at dksJ7_resize_8 8 rfl rfl)
theorem dJ7_resize_198 : decode cJ7_resize 198 = .ok (.aload 8, 2) := dk_25 8 (dk_at dksJ7_resize_8 11 rfl rfl)
theorem dJ7_resize_200 : decode cJ7_resize 200 = .ok (.instanceof 180, 3) := dk_193 0 180 (dk_at dksJ7_resize_8 13 rfl rfl)
theorem dJ7_resize_203 : decode cJ7_resize 203 = .ok (.ifCond .eq 20, 3) := dk_153 0 20 (dk_at dksJ7_resize_8 16 rfl rfl)
theorem dJ7_resize_206 : decode cJ7_resize 206 = .ok (.aload 8, 2) := dk_25 8 (dk_at dksJ7_resize_8 19 rfl rfl)
theorem dJ7_resize_208 : decode cJ7_resize 208 = .ok (.checkcast 180, 3) := dk_192 0 180 (dk_at dksJ7_resize_8 21 rfl rfl)
theorem dJ7_resize_211 : decode cJ7_resize 211 = .ok (.aload_n 0, 1) := dk_42 (dk_at dksJ7_resize_9 0 rfl rfl)
theorem dJ7_resize_212 : decode cJ7_resize 212 = .ok (.aload 6, 2) := dk_25 6 (dk_at dksJ7_resize_9 1 rfl rfl)
theorem dJ7_resize_214 : decode cJ7_resize 214 = .ok (.iload 7, 2) := dk_21 7 (dk_at dksJ7_resize_9 3 rfl rfl)
theorem dJ7_resize_216 : decode cJ7_resize 216 = .ok (.iload_n 2, 1) := dk_28 (dk_at dksJ7_resize_9 5 rfl rfl)
theorem dJ7_resize_217 : decode cJ7_resize 217 = .ok (.invokevirtual 211, 3) := dk_182 0 211 (dk_at dksJ7_resize_9 6 rfl rfl)
theorem dJ7_resize_220 : decode cJ7_resize 220 = .ok (.goto 127, 3) := dk_167 0 127 (dk_at dksJ7_resize_9 9 rfl rfl)
theorem dJ7_resize_223 : decode cJ7_resize 223 = .ok (.aconst_null, 1) := dk_1 (dk_at dksJ7_resize_9 12 rfl rfl)
theorem dJ7_resize_224 : decode cJ7_resize 224 = .ok (.astore 9, 2) := dk_58 9 (dk_at dksJ7_resize_9 13 rfl rfl)
theorem dJ7_resize_226 : decode cJ7_resize 226 = .ok (.aconst_null, 1) := dk_1 (dk_at dksJ7_resize_9 15 rfl rfl)
theorem dJ7_resize_227 : decode cJ7_resize 227 = .ok (.astore 10, 2) := dk_58 10 (dk_at dksJ7_resize_9 16 rfl rfl)
theorem dJ7_resize_229 : decode cJ7_resize 229 = .ok (.aconst_null, 1) := dk_1 (dk_at dksJ7_resize_9 18 rfl rfl)
theorem dJ7_resize_230 : decode cJ7_resize 230 = .ok (.astore 11, 2) := dk_58 11 (dk_at dksJ7_resize_9 19 rfl rfl)
theorem dJ7_resize_232 : decode cJ7_resize 232 = .ok (.aconst_null, 1) := dk_1 (dk_at dksJ7_resize_9 21 rfl rfl)
theorem dJ7_resize_233 : decode cJ7_resize 233 = .ok (.astore 12, 2) := dk_58 12 (dk_at dksJ7_resize_9 22 rfl rfl)
theorem dJ7_resize_235 : decode cJ7_resize 235 = .ok (.aload 8, 2) := dk_25 8 (dk_at dksJ7_resize_10 0 rfl rfl)
theorem dJ7_resize_237 : decode cJ7_resize 237 = .ok (.getfield 177, 3) := dk_180 0 177 (dk_at dksJ7_resize_10 2 rfl rfl)
theorem dJ7_resize_240 : decode cJ7_resize 240 = .ok (.astore 13, 2) := dk_58 13 (dk_at dksJ7_resize_10 5 rfl rfl)
theorem dJ7_resize_242 : decode cJ7_resize 242 = .ok (.aload 8, 2) := dk_25 8 (dk_at dksJ7_resize_10 7 rfl rfl)
theorem dJ7_resize_244 : decode cJ7_resize 244 = .ok (.getfield 168, 3) := dk_180 0 168 (dk_at dksJ7_resize_10 9 rfl rfl)
theorem dJ7_resize_247 : decode cJ7_resize 247 = .ok (.iload_n 2, 1) := dk_28 (dk_at dksJ7_resize_10 12 rfl rfl)
theorem dJ7_resize_248 : decode cJ7_resize 248 = .ok (.iand, 1) := dk_126 (dk_at dksJ7_resize_10 13 rfl rfl)
theorem dJ7_resize_249 : decode cJ7_resize 249 = .ok (.ifCond .ne 29, 3) := dk_154 0 29 (dk_at dksJ7_resize_10 14 rfl rfl)
theorem dJ7_resize_252 : decode cJ7_resize 252 = .ok (.aload 10, 2) := dk_25 10 (dk_at dksJ7_resize_10 17 rfl rfl)
theorem dJ7_resize_254 : decode cJ7_resize 254 = .ok (.ifnonnull 10, 3) := dk_199 0 10 (dk_at dksJ7_resize_10 19 rfl rfl)
theorem dJ7_resize_257 : decode cJ7_resize 257 = .ok (.aload 8, 2) := dk_25 8 (dk_at dksJ7_resize_10 22 rfl rfl)
theorem dJ7_resize_259 : decode cJ7_resize 259 = .ok (.astore 9, 2) := dk_58 9 (dk_at dksJ7_resize_11 0 rfl rfl)
theorem dJ7_resize_261 : decode cJ7_resize 261 = .ok (.goto 10, 3) := dk_167 0 10 (dk_at dksJ7_resize_11 2 rfl rfl)
theorem dJ7_resize_264 : decode cJ7_resize 264 = .ok (.aload 10, 2) := dk_25 10 (dk_at dksJ7_resize_11 5 rfl rfl)
theorem dJ7_resize_266 : decode cJ7_resize 266 = .ok (.aload 8, 2) := dk_25 8 (dk_at dksJ7_resize_11 7 rfl rfl)
theorem dJ7_resize_268 : decode cJ7_resize 268 = .ok (.putfield 177, 3) := dk_181 0 177 (dk_at dksJ7_resize_11 9 rfl rfl)
theorem dJ7_resize_271 : decode cJ7_resize 271 = .ok (.aload 8, 2) := dk_25 8 (dk_at dksJ7_resize_11 12 rfl rfl)
theorem dJ7_resize_273 : decode cJ7_resize 273 = .ok (.astore 10, 2) := dk_58 10 (dk_at dksJ7_resize_11 14 rfl rfl)
theorem dJ7_resize_275 : decode cJ7_resize 275 = .ok (.goto 26, 3) := dk_167 0 26 (dk_at dksJ7_resize_11 16 rfl rfl)
theorem dJ7_resize_278 : decode cJ7_resize 278 = .ok (.aload 12, 2) := dk_25 12 (dk_at dksJ7_resize_11 19 rfl rfl)
theorem dJ7_resize_280 : decode cJ7_resize 280 = .ok (.ifnonnull 10, 3) := dk_199 0 10 (dk_at dksJ7_resize_11 21 rfl rfl)
theorem dJ7_resize_283 : decode cJ7_resize 283 = .ok (.aload 8, 2) := dk_25 8 (dk_at dksJ7_resize_12 0 rfl rfl)
theorem dJ7_resize_285 : decode cJ7_resize 285 = .ok (.astore 11, 2) := dk_58 11 (dk_at dksJ7_resize_12 2 rfl rfl)
theorem dJ7_resize_287 : decode cJ7_resize 287 = .ok (.goto 10, 3) := dk_167 0 10 (dk_at dksJ7_resize_12 4 rfl rfl)
theorem dJ7_resize_290 : decode cJ7_resize 290 = .ok (.aload 12, 2) := dk_25 12 (dk_at dksJ7_resize_12 7 rfl rfl)
theorem dJ7_resize_292 : decode cJ7_resize 292 = .ok (.aload 8, 2) := dk_25 8 (dk_at dksJ7_resize_12 9 rfl rfl)
theorem dJ7_resize_294 : decode cJ7_resize 294 = .ok (.putfield 177, 3) := dk_181 0 177 (dk_at dksJ7_resize_12 11 rfl rfl)
theorem dJ7_resize_297 : decode cJ7_resize 297 = .ok (.aload 8, 2) := dk_25 8 (dk_at dksJ7_resize_12 14 rfl rfl)
theorem dJ7_resize_299 : decode cJ7_resize 299 = .ok (.astore 12, 2) := dk_58 12 (dk_at dksJ7_resize_12 16 rfl rfl)
theorem dJ7_resize_301 : decode cJ7_resize 301 = .ok (.aload 13, 2) := dk_25 13 (dk_at dksJ7_resize_12 18 rfl rfl)
theorem dJ7_resize_303 : decode cJ7_resize 303 = .ok (.dup, 1) := dk_89 (dk_at dksJ7_resize_12 20 rfl rfl)
theorem dJ7_resize_304 : decode cJ7_resize 304 = .ok (.astore 8, 2) := dk_58 8 (dk_at dksJ7_resize_12 21 rfl rfl)
theorem dJ7_resize_306 : decode cJ7_resize 306 = .ok (.ifnonnull (-71), 3) := dk_199 255 185 (dk_at dksJ7_resize_13 0 rfl rfl)
theorem dJ7_resize_309 : decode cJ7_resize 309 = .ok (.aload 10, 2) := dk_25 10 (dk_at dksJ7_resize_13 3 rfl rfl)
theorem dJ7_resize_311 : decode cJ7_resize 311 = .ok (.ifnull 16, 3) := dk_198 0 16 (dk_at dksJ7_resize_13 5 rfl rfl)
theorem dJ7_resize_314 : decode cJ7_resize 314 = .ok (.aload 10, 2) := dk_25 10 (dk_at dksJ7_resize_13 8 rfl rfl)
theorem dJ7_resize_316 : decode cJ7_resize 316 = .ok (.aconst_null, 1) := dk_1 (dk_at dksJ7_resize_13 10 rfl rfl)
theorem dJ7_resize_317 : decode cJ7_resize 317 = .ok (.putfield 177, 3) := dk_181 0 177 (dk_at dksJ7_resize_13 11 rfl rfl)
theorem dJ7_resize_320 : decode cJ7_resize 320 = .ok (.aload 6, 2) := dk_25 6 (dk_at dksJ7_resize_13 14 rfl rfl)
theorem dJ7_resize_322 : decode cJ7_resize 322 = .ok (.iload 7, 2) := dk_21 7 (dk_at dksJ7_resize_13 16 rfl rfl)
theorem dJ7_resize_324 : decode cJ7_resize 324 = .ok (.aload 9, 2) := dk_25 9 (dk_at dksJ7_resize_13 18 rfl rfl)
theorem dJ7_resize_326 : decode cJ7_resize 326 = .ok (.aastore, 1) := dk_83 (dk_at dksJ7_resize_13 20 rfl rfl)
theorem dJ7_resize_327 : decode cJ7_resize 327 = .ok (.aload 12, 2) := dk_25 12 (dk_at dksJ7_resize_13 21 rfl rfl)
theorem dJ7_resize_329 : decode cJ7_resize 329 = .ok (.ifnull 18, 3) := dk_198 0 18 (dk_at dksJ7_resize_14 0 rfl rfl)
theorem dJ7_resize_332 : decode cJ7_resize 332 = .ok (.aload 12, 2) := dk_25 12 (dk_at dksJ7_resize_14 3 rfl rfl)
theorem dJ7_resize_334 : decode cJ7_resize 334 = .ok (.aconst_null, 1) := dk_1 (dk_at dksJ7_resize_14 5 rfl rfl)
theorem dJ7_resize_335 : decode cJ7_resize 335 = .ok (.putfield 177, 3) := dk_181 0 177 (dk_at dksJ7_resize_14 6 rfl rfl)
theorem dJ7_resize_338 : decode cJ7_resize 338 = .ok (.aload 6, 2) := dk_25 6 (dk_at dksJ7_resize_14 9 rfl rfl)
theorem dJ7_resize_340 : decode cJ7_resize 340 = .ok (.iload 7, 2) := dk_21 7 (dk_at dksJ7_resize_14 11 rfl rfl)
theorem dJ7_resize_342 : decode cJ7_resize 342 = .ok (.iload_n 2, 1) := dk_28 (dk_at dksJ7_resize_14 13 rfl rfl)
theorem dJ7_resize_343 : decode cJ7_resize 343 = .ok (.iadd, 1) := dk_96 (dk_at dksJ7_resize_14 14 rfl rfl)
theorem dJ7_resize_344 : decode cJ7_resize 344 = .ok (.aload 11, 2) := dk_25 11 (dk_at dksJ7_resize_14 15 rfl rfl)
theorem dJ7_resize_346 : decode cJ7_resize 346 = .ok (.aastore, 1) := dk_83 (dk_at dksJ7_resize_14 17 rfl rfl)
theorem dJ7_resize_347 : decode cJ7_resize 347 = .ok (.iinc 7 1, 3) := dk_132 7 1 (dk_at dksJ7_resize_14 18 rfl rfl)
theorem dJ7_resize_350 : decode cJ7_resize 350 = .ok (.goto (-199), 3) := dk_167 255 57 (dk_at dksJ7_resize_14 21 rfl rfl)
theorem dJ7_resize_353 : decode cJ7_resize 353 = .ok (.aload 6, 2) := dk_25 6 (dk_at dksJ7_resize_15 0 rfl rfl)
theorem dJ7_resize_355 : decode cJ7_resize 355 = .ok (.areturn, 1) := dk_176 (dk_at dksJ7_resize_15 2 rfl rfl)
abbrev cJ7_replacementNode : ByteArray := prog_59_method_47_code
def yJ7_replacementNode : MethodName := ⟨RJ7, "replacementNode", "(Ljava/util/HashMap$Node;Ljava/util/HashMap$Node;)Ljava/util/HashMap$Node;"⟩
def dkwJ7_replacementNode_0 : List UInt8 := [187, 0, 163, 89, 43, 180, 0, 168, 43, 180, 0, 170, 43, 180, 0, 162, 44, 183, 1, 119, 176]
abbrev dktJ7_replacementNode_0 : List UInt8 := dkwJ7_replacementNode_0 ++ []
theorem dksJ7_replacementNode_0 : cJ7_replacementNode.data.toList.drop 0 = dktJ7_replacementNode_0 := by decide +kernel
theorem dJ7_replacementNode_0 : decode cJ7_replacementNode 0 = .ok (.new 163, 3) := dk_187 0 163 (dk_at dksJ7_replacementNode_0 0 rfl rfl)
theorem dJ7_replacementNode_3 : decode cJ7_replacementNode 3 = .ok (.dup, 1) := dk_89 (dk_at dksJ7_replacementNode_0 3 rfl rfl)
theorem dJ7_replacementNode_4 : decode cJ7_replacementNode 4 = .ok (.aload_n 1, 1) := dk_43 (dk_at dksJ7_replacementNode_0 4 rfl rfl)
theorem dJ7_replacementNode_5 : decode cJ7_replacementNode 5 = .ok (.getfield 168, 3) := dk_180 0 168 (dk_at dksJ7_replacementNode_0 5 rfl rfl)
theorem dJ7_replacementNode_8 : decode cJ7_replacementNode 8 = .ok (.aload_n 1, 1) := dk_43 (dk_at dksJ7_replacementNode_0 8 rfl rfl)
theorem dJ7_replacementNode_9 : decode cJ7_replacementNode 9 = .ok (.getfield 170, 3) := dk_180 0 170 (dk_at dksJ7_replacementNode_0 9 rfl rfl)
theorem dJ7_replacementNode_12 : decode cJ7_replacementNode 12 = .ok (.aload_n 1, 1) := dk_43 (dk_at dksJ7_replacementNode_0 12 rfl rfl)
theorem dJ7_replacementNode_13 : decode cJ7_replacementNode 13 = .ok (.getfield 162, 3) := dk_180 0 162 (dk_at dksJ7_replacementNode_0 13 rfl rfl)
theorem dJ7_replacementNode_16 : decode cJ7_replacementNode 16 = .ok (.aload_n 2, 1) := dk_44 (dk_at dksJ7_replacementNode_0 16 rfl rfl)
theorem dJ7_replacementNode_17 : decode cJ7_replacementNode 17 = .ok (.invokespecial 375, 3) := dk_183 1 119 (dk_at dksJ7_replacementNode_0 17 rfl rfl)
theorem dJ7_replacementNode_20 : decode cJ7_replacementNode 20 = .ok (.areturn, 1) := dk_176 (dk_at dksJ7_replacementNode_0 20 rfl rfl)
abbrev cJ7_newNode : ByteArray := prog_59_method_46_code
def yJ7_newNode : MethodName := ⟨RJ7, "newNode", "(ILjava/lang/Object;Ljava/lang/Object;Ljava/util/HashMap$Node;)Ljava/util/HashMap$Node;"⟩
def dkwJ7_newNode_0 : List UInt8 := [187, 0, 163, 89, 27, 44, 45, 25, 4, 183, 1, 119, 176]
abbrev dktJ7_newNode_0 : List UInt8 := dkwJ7_newNode_0 ++ []
theorem dksJ7_newNode_0 : cJ7_newNode.data.toList.drop 0 = dktJ7_newNode_0 := by decide +kernel
theorem dJ7_newNode_0 : decode cJ7_newNode 0 = .ok (.new 163, 3) := dk_187 0 163 (dk_at dksJ7_newNode_0 0 rfl rfl)
theorem dJ7_newNode_3 : decode cJ7_newNode 3 = .ok (.dup, 1) := dk_89 (dk_at dksJ7_newNode_0 3 rfl rfl)
theorem dJ7_newNode_4 : decode cJ7_newNode 4 = .ok (.iload_n 1, 1) := dk_27 (dk_at dksJ7_newNode_0 4 rfl rfl)
theorem dJ7_newNode_5 : decode cJ7_newNode 5 = .ok (.aload_n 2, 1) := dk_44 (dk_at dksJ7_newNode_0 5 rfl rfl)
theorem dJ7_newNode_6 : decode cJ7_newNode 6 = .ok (.aload_n 3, 1) := dk_45 (dk_at dksJ7_newNode_0 6 rfl rfl)
theorem dJ7_newNode_7 : decode cJ7_newNode 7 = .ok (.aload 4, 2) := dk_25 4 (dk_at dksJ7_newNode_0 7 rfl rfl)
theorem dJ7_newNode_9 : decode cJ7_newNode 9 = .ok (.invokespecial 375, 3) := dk_183 1 119 (dk_at dksJ7_newNode_0 9 rfl rfl)
theorem dJ7_newNode_12 : decode cJ7_newNode 12 = .ok (.areturn, 1) := dk_176 (dk_at dksJ7_newNode_0 12 rfl rfl)
abbrev cJ7_newTreeNode : ByteArray := prog_59_method_48_code
def yJ7_newTreeNode : MethodName := ⟨RJ7, "newTreeNode", "(ILjava/lang/Object;Ljava/lang/Object;Ljava/util/HashMap$Node;)Ljava/util/HashMap$TreeNode;"⟩
def dkwJ7_newTreeNode_0 : List UInt8 := [187, 0, 180, 89, 27, 44, 45, 25, 4, 183, 1, 122, 176]
abbrev dktJ7_newTreeNode_0 : List UInt8 := dkwJ7_newTreeNode_0 ++ []
theorem dksJ7_newTreeNode_0 : cJ7_newTreeNode.data.toList.drop 0 = dktJ7_newTreeNode_0 := by decide +kernel
theorem dJ7_newTreeNode_0 : decode cJ7_newTreeNode 0 = .ok (.new 180, 3) := dk_187 0 180 (dk_at dksJ7_newTreeNode_0 0 rfl rfl)
theorem dJ7_newTreeNode_3 : decode cJ7_newTreeNode 3 = .ok (.dup, 1) := dk_89 (dk_at dksJ7_newTreeNode_0 3 rfl rfl)
theorem dJ7_newTreeNode_4 : decode cJ7_newTreeNode 4 = .ok (.iload_n 1, 1) := dk_27 (dk_at dksJ7_newTreeNode_0 4 rfl rfl)
theorem dJ7_newTreeNode_5 : decode cJ7_newTreeNode 5 = .ok (.aload_n 2, 1) := dk_44 (dk_at dksJ7_newTreeNode_0 5 rfl rfl)
theorem dJ7_newTreeNode_6 : decode cJ7_newTreeNode 6 = .ok (.aload_n 3, 1) := dk_45 (dk_at dksJ7_newTreeNode_0 6 rfl rfl)
theorem dJ7_newTreeNode_7 : decode cJ7_newTreeNode 7 = .ok (.aload 4, 2) := dk_25 4 (dk_at dksJ7_newTreeNode_0 7 rfl rfl)
theorem dJ7_newTreeNode_9 : decode cJ7_newTreeNode 9 = .ok (.invokespecial 378, 3) := dk_183 1 122 (dk_at dksJ7_newTreeNode_0 9 rfl rfl)
theorem dJ7_newTreeNode_12 : decode cJ7_newTreeNode 12 = .ok (.areturn, 1) := dk_176 (dk_at dksJ7_newTreeNode_0 12 rfl rfl)
abbrev cJ7_treeifyBin : ByteArray := prog_59_method_18_code
def yJ7_treeifyBin : MethodName := ⟨RJ7, "treeifyBin", "([Ljava/util/HashMap$Node;I)V"⟩
def dkwJ7_treeifyBin_4 : List UInt8 := [21, 4, 25, 6, 91, 83, 198, 0, 9, 25, 6, 43, 182, 0, 224, 177]
abbrev dktJ7_treeifyBin_4 : List UInt8 := dkwJ7_treeifyBin_4 ++ []
def dkwJ7_treeifyBin_3 : List UInt8 := [25, 7, 25, 8, 181, 0, 223, 25, 8, 58, 7, 25, 5, 180, 0, 177, 89, 58, 5, 199, 255, 209, 43]
abbrev dktJ7_treeifyBin_3 : List UInt8 := dkwJ7_treeifyBin_3 ++ dktJ7_treeifyBin_4
def dkwJ7_treeifyBin_2 : List UInt8 := [182, 0, 215, 58, 8, 25, 7, 199, 0, 10, 25, 8, 58, 6, 167, 0, 17, 25, 8, 25, 7, 181, 0, 219]
abbrev dktJ7_treeifyBin_2 : List UInt8 := dkwJ7_treeifyBin_2 ++ dktJ7_treeifyBin_3
def dkwJ7_treeifyBin_1 : List UInt8 := [100, 28, 126, 89, 54, 4, 50, 89, 58, 5, 198, 0, 75, 1, 58, 6, 1, 58, 7, 42, 25, 5, 1]
abbrev dktJ7_treeifyBin_1 : List UInt8 := dkwJ7_treeifyBin_1 ++ dktJ7_treeifyBin_2
def dkwJ7_treeifyBin_0 : List UInt8 := [43, 198, 0, 12, 43, 190, 89, 62, 16, 64, 162, 0, 11, 42, 182, 0, 117, 87, 167, 0, 91, 43, 29, 4]
abbrev dktJ7_treeifyBin_0 : List UInt8 := dkwJ7_treeifyBin_0 ++ dktJ7_treeifyBin_1
theorem dksJ7_treeifyBin_0 : cJ7_treeifyBin.data.toList.drop 0 = dktJ7_treeifyBin_0 := by decide +kernel
theorem dksJ7_treeifyBin_1 : cJ7_treeifyBin.data.toList.drop 24 = dktJ7_treeifyBin_1 := dk_seg dksJ7_treeifyBin_0 24 rfl rfl
theorem dksJ7_treeifyBin_2 : cJ7_treeifyBin.data.toList.drop 47 = dktJ7_treeifyBin_2 := dk_seg dksJ7_treeifyBin_1 23 rfl rfl
theorem dksJ7_treeifyBin_3 : cJ7_treeifyBin.data.toList.drop 71 = dktJ7_treeifyBin_3 := dk_seg dksJ7_treeifyBin_2 24 rfl rfl
theorem dksJ7_treeifyBin_4 : cJ7_treeifyBin.data.toList.drop 94 = dktJ7_treeifyBin_4 := dk_seg dksJ7_treeifyBin_3 23 rfl rfl
theorem dJ7_treeifyBin_0 : decode cJ7_treeifyBin 0 = .ok (.aload_n 1, 1) := dk_43 (dk_at dksJ7_treeifyBin_0 0 rfl rfl)
theorem dJ7_treeifyBin_1 : decode cJ7_treeifyBin 1 = .ok (.ifnull 12, 3) := dk_198 0 12 (dk_at dksJ7_treeifyBin_0 1 rfl rfl)
theorem dJ7_treeifyBin_4 : decode cJ7_treeifyBin 4 = .ok (.aload_n 1, 1) := dk_43 (dk_at dksJ7_treeifyBin_0 4 rfl rfl)
theorem dJ7_treeifyBin_5 : decode cJ7_treeifyBin 5 = .ok (.arraylength, 1) := dk_190 (dk_at dksJ7_treeifyBin_0 5 rfl rfl)
theorem dJ7_treeifyBin_6 : decode cJ7_treeifyBin 6 = .ok (.dup, 1) := dk_89 (dk_at dksJ7_treeifyBin_0 6 rfl rfl)
theorem dJ7_treeifyBin_7 : decode cJ7_treeifyBin 7 = .ok (.istore_n 3, 1) := dk_62 (dk_at dksJ7_treeifyBin_0 7 rfl rfl)
theorem dJ7_treeifyBin_8 : decode cJ7_treeifyBin 8 = .ok (.bipush 64, 2) := dk_16 64 (dk_at dksJ7_treeifyBin_0 8 rfl rfl)
theorem dJ7_treeifyBin_10 : decode cJ7_treeifyBin 10 = .ok (.if_icmp .ge 11, 3) := dk_162 0 11 (dk_at dksJ7_treeifyBin_0 10 rfl rfl)
theorem dJ7_treeifyBin_13 : decode cJ7_treeifyBin 13 = .ok (.aload_n 0, 1) := dk_42 (dk_at dksJ7_treeifyBin_0 13 rfl rfl)
theorem dJ7_treeifyBin_14 : decode cJ7_treeifyBin 14 = .ok (.invokevirtual 117, 3) := dk_182 0 117 (dk_at dksJ7_treeifyBin_0 14 rfl rfl)
theorem dJ7_treeifyBin_17 : decode cJ7_treeifyBin 17 = .ok (.pop, 1) := dk_87 (dk_at dksJ7_treeifyBin_0 17 rfl rfl)
theorem dJ7_treeifyBin_18 : decode cJ7_treeifyBin 18 = .ok (.goto 91, 3) := dk_167 0 91 (dk_at dksJ7_treeifyBin_0 18 rfl rfl)
theorem dJ7_treeifyBin_21 : decode cJ7_treeifyBin 21 = .ok (.aload_n 1, 1) := dk_43 (dk_at dksJ7_treeifyBin_0 21 rfl rfl)
theorem dJ7_treeifyBin_22 : decode cJ7_treeifyBin 22 = .ok (.iload_n 3, 1) := dk_29 (dk_at dksJ7_treeifyBin_0 22 rfl rfl)
theorem dJ7_treeifyBin_23 : decode cJ7_treeifyBin 23 = .ok (.iconst 1, 1) := dk_4 (dk_at dksJ7_treeifyBin_0 23 rfl rfl)
theorem dJ7_treeifyBin_24 : decode cJ7_treeifyBin 24 = .ok (.isub, 1) := dk_100 (dk_at dksJ7_treeifyBin_1 0 rfl rfl)
theorem dJ7_treeifyBin_25 : decode cJ7_treeifyBin 25 = .ok (.iload_n 2, 1) := dk_28 (dk_at dksJ7_treeifyBin_1 1 rfl rfl)
theorem dJ7_treeifyBin_26 : decode cJ7_treeifyBin 26 = .ok (.iand, 1) := dk_126 (dk_at dksJ7_treeifyBin_1 2 rfl rfl)
theorem dJ7_treeifyBin_27 : decode cJ7_treeifyBin 27 = .ok (.dup, 1) := dk_89 (dk_at dksJ7_treeifyBin_1 3 rfl rfl)
theorem dJ7_treeifyBin_28 : decode cJ7_treeifyBin 28 = .ok (.istore 4, 2) := dk_54 4 (dk_at dksJ7_treeifyBin_1 4 rfl rfl)
theorem dJ7_treeifyBin_30 : decode cJ7_treeifyBin 30 = .ok (.aaload, 1) := dk_50 (dk_at dksJ7_treeifyBin_1 6 rfl rfl)
theorem dJ7_treeifyBin_31 : decode cJ7_treeifyBin 31 = .ok (.dup, 1) := dk_89 (dk_at dksJ7_treeifyBin_1 7 rfl rfl)
theorem dJ7_treeifyBin_32 : decode cJ7_treeifyBin 32 = .ok (.astore 5, 2) := dk_58 5 (dk_at dksJ7_treeifyBin_1 8 rfl rfl)
theorem dJ7_treeifyBin_34 : decode cJ7_treeifyBin 34 = .ok (.ifnull 75, 3) := dk_198 0 75 (dk_at dksJ7_treeifyBin_1 10 rfl rfl)
theorem dJ7_treeifyBin_37 : decode cJ7_treeifyBin 37 = .ok (.aconst_null, 1) := dk_1 (dk_at dksJ7_treeifyBin_1 13 rfl rfl)
theorem dJ7_treeifyBin_38 : decode cJ7_treeifyBin 38 = .ok (.astore 6, 2) := dk_58 6 (dk_at dksJ7_treeifyBin_1 14 rfl rfl)
theorem dJ7_treeifyBin_40 : decode cJ7_treeifyBin 40 = .ok (.aconst_null, 1) := dk_1 (dk_at dksJ7_treeifyBin_1 16 rfl rfl)
theorem dJ7_treeifyBin_41 : decode cJ7_treeifyBin 41 = .ok (.astore 7, 2) := dk_58 7 (dk_at dksJ7_treeifyBin_1 17 rfl rfl)
theorem dJ7_treeifyBin_43 : decode cJ7_treeifyBin 43 = .ok (.aload_n 0, 1) := dk_42 (dk_at dksJ7_treeifyBin_1 19 rfl rfl)
theorem dJ7_treeifyBin_44 : decode cJ7_treeifyBin 44 = .ok (.aload 5, 2) := dk_25 5 (dk_at dksJ7_treeifyBin_1 20 rfl rfl)
theorem dJ7_treeifyBin_46 : decode cJ7_treeifyBin 46 = .ok (.aconst_null, 1) := dk_1 (dk_at dksJ7_treeifyBin_1 22 rfl rfl)
theorem dJ7_treeifyBin_47 : decode cJ7_treeifyBin 47 = .ok (.invokevirtual 215, 3) := dk_182 0 215 (dk_at dksJ7_treeifyBin_2 0 rfl rfl)
theorem dJ7_treeifyBin_50 : decode cJ7_treeifyBin 50 = .ok (.astore 8, 2) := dk_58 8 (dk_at dksJ7_treeifyBin_2 3 rfl rfl)
theorem dJ7_treeifyBin_52 : decode cJ7_treeifyBin 52 = .ok (.aload 7, 2) := dk_25 7 (dk_at dksJ7_treeifyBin_2 5 rfl rfl)
theorem dJ7_treeifyBin_54 : decode cJ7_treeifyBin 54 = .ok (.ifnonnull 10, 3) := dk_199 0 10 (dk_at dksJ7_treeifyBin_2 7 rfl rfl)
theorem dJ7_treeifyBin_57 : decode cJ7_treeifyBin 57 = .ok (.aload 8, 2) := dk_25 8 (dk_at dksJ7_treeifyBin_2 10 rfl rfl)
theorem dJ7_treeifyBin_59 : decode cJ7_treeifyBin 59 = .ok (.astore 6, 2) := dk_58 6 (dk_at dksJ7_treeifyBin_2 12 rfl rfl)
theorem dJ7_treeifyBin_61 : decode cJ7_treeifyBin 61 = .ok (.goto 17, 3) := dk_167 0 17 (dk_at dksJ7_treeifyBin_2 14 rfl rfl)
theorem dJ7_treeifyBin_64 : decode cJ7_treeifyBin 64 = .ok (.aload 8, 2) := dk_25 8 (dk_at dksJ7_treeifyBin_2 17 rfl rfl)
theorem dJ7_treeifyBin_66 : decode cJ7_treeifyBin 66 = .ok (.aload 7, 2) := dk_25 7 (dk_at dksJ7_treeifyBin_2 19 rfl rfl)
theorem dJ7_treeifyBin_68 : decode cJ7_treeifyBin 68 = .ok (.putfield 219, 3) := dk_181 0 219 (dk_at dksJ7_treeifyBin_2 21 rfl rfl)
theorem dJ7_treeifyBin_71 : decode cJ7_treeifyBin 71 = .ok (.aload 7, 2) := dk_25 7 (dk_at dksJ7_treeifyBin_3 0 rfl rfl)
theorem dJ7_treeifyBin_73 : decode cJ7_treeifyBin 73 = .ok (.aload 8, 2) := dk_25 8 (dk_at dksJ7_treeifyBin_3 2 rfl rfl)
theorem dJ7_treeifyBin_75 : decode cJ7_treeifyBin 75 = .ok (.putfield 223, 3) := dk_181 0 223 (dk_at dksJ7_treeifyBin_3 4 rfl rfl)
theorem dJ7_treeifyBin_78 : decode cJ7_treeifyBin 78 = .ok (.aload 8, 2) := dk_25 8 (dk_at dksJ7_treeifyBin_3 7 rfl rfl)
theorem dJ7_treeifyBin_80 : decode cJ7_treeifyBin 80 = .ok (.astore 7, 2) := dk_58 7 (dk_at dksJ7_treeifyBin_3 9 rfl rfl)
theorem dJ7_treeifyBin_82 : decode cJ7_treeifyBin 82 = .ok (.aload 5, 2) := dk_25 5 (dk_at dksJ7_treeifyBin_3 11 rfl rfl)
theorem dJ7_treeifyBin_84 : decode cJ7_treeifyBin 84 = .ok (.getfield 177, 3) := dk_180 0 177 (dk_at dksJ7_treeifyBin_3 13 rfl rfl)
theorem dJ7_treeifyBin_87 : decode cJ7_treeifyBin 87 = .ok (.dup, 1) := dk_89 (dk_at dksJ7_treeifyBin_3 16 rfl rfl)
theorem dJ7_treeifyBin_88 : decode cJ7_treeifyBin 88 = .ok (.astore 5, 2) := dk_58 5 (dk_at dksJ7_treeifyBin_3 17 rfl rfl)
theorem dJ7_treeifyBin_90 : decode cJ7_treeifyBin 90 = .ok (.ifnonnull (-47), 3) := dk_199 255 209 (dk_at dksJ7_treeifyBin_3 19 rfl rfl)
theorem dJ7_treeifyBin_93 : decode cJ7_treeifyBin 93 = .ok (.aload_n 1, 1) := dk_43 (dk_at dksJ7_treeifyBin_3 22 rfl rfl)
theorem dJ7_treeifyBin_94 : decode cJ7_treeifyBin 94 = .ok (.iload 4, 2) := dk_21 4 (dk_at dksJ7_treeifyBin_4 0 rfl rfl)
theorem dJ7_treeifyBin_96 : decode cJ7_treeifyBin 96 = .ok (.aload 6, 2) := dk_25 6 (dk_at dksJ7_treeifyBin_4 2 rfl rfl)
theorem dJ7_treeifyBin_98 : decode cJ7_treeifyBin 98 = .ok (.dup_x2, 1) := dk_91 (dk_at dksJ7_treeifyBin_4 4 rfl rfl)
theorem dJ7_treeifyBin_99 : decode cJ7_treeifyBin 99 = .ok (.aastore, 1) := dk_83 (dk_at dksJ7_treeifyBin_4 5 rfl rfl)
theorem dJ7_treeifyBin_100 : decode cJ7_treeifyBin 100 = .ok (.ifnull 9, 3) := dk_198 0 9 (dk_at dksJ7_treeifyBin_4 6 rfl rfl)
theorem dJ7_treeifyBin_103 : decode cJ7_treeifyBin 103 = .ok (.aload 6, 2) := dk_25 6 (dk_at dksJ7_treeifyBin_4 9 rfl rfl)
theorem dJ7_treeifyBin_105 : decode cJ7_treeifyBin 105 = .ok (.aload_n 1, 1) := dk_43 (dk_at dksJ7_treeifyBin_4 11 rfl rfl)
theorem dJ7_treeifyBin_106 : decode cJ7_treeifyBin 106 = .ok (.invokevirtual 224, 3) := dk_182 0 224 (dk_at dksJ7_treeifyBin_4 12 rfl rfl)
theorem dJ7_treeifyBin_109 : decode cJ7_treeifyBin 109 = .ok (.return_, 1) := dk_177 (dk_at dksJ7_treeifyBin_4 15 rfl rfl)
abbrev cJ7_replacementTreeNode : ByteArray := prog_59_method_49_code
def yJ7_replacementTreeNode : MethodName := ⟨RJ7, "replacementTreeNode", "(Ljava/util/HashMap$Node;Ljava/util/HashMap$Node;)Ljava/util/HashMap$TreeNode;"⟩
def dkwJ7_replacementTreeNode_0 : List UInt8 := [187, 0, 180, 89, 43, 180, 0, 168, 43, 180, 0, 170, 43, 180, 0, 162, 44, 183, 1, 122, 176]
abbrev dktJ7_replacementTreeNode_0 : List UInt8 := dkwJ7_replacementTreeNode_0 ++ []
theorem dksJ7_replacementTreeNode_0 : cJ7_replacementTreeNode.data.toList.drop 0 = dktJ7_replacementTreeNode_0 := by decide +kernel
theorem dJ7_replacementTreeNode_0 : decode cJ7_replacementTreeNode 0 = .ok (.new 180, 3) := dk_187 0 180 (dk_at dksJ7_replacementTreeNode_0 0 rfl rfl)
theorem dJ7_replacementTreeNode_3 : decode cJ7_replacementTreeNode 3 = .ok (.dup, 1) := dk_89 (dk_at dksJ7_replacementTreeNode_0 3 rfl rfl)
theorem dJ7_replacementTreeNode_4 : decode cJ7_replacementTreeNode 4 = .ok (.aload_n 1, 1) := dk_43 (dk_at dksJ7_replacementTreeNode_0 4 rfl rfl)
theorem dJ7_replacementTreeNode_5 : decode cJ7_replacementTreeNode 5 = .ok (.getfield 168, 3) := dk_180 0 168 (dk_at dksJ7_replacementTreeNode_0 5 rfl rfl)
theorem dJ7_replacementTreeNode_8 : decode cJ7_replacementTreeNode 8 = .ok (.aload_n 1, 1) := dk_43 (dk_at dksJ7_replacementTreeNode_0 8 rfl rfl)
theorem dJ7_replacementTreeNode_9 : decode cJ7_replacementTreeNode 9 = .ok (.getfield 170, 3) := dk_180 0 170 (dk_at dksJ7_replacementTreeNode_0 9 rfl rfl)
theorem dJ7_replacementTreeNode_12 : decode cJ7_replacementTreeNode 12 = .ok (.aload_n 1, 1) := dk_43 (dk_at dksJ7_replacementTreeNode_0 12 rfl rfl)
theorem dJ7_replacementTreeNode_13 : decode cJ7_replacementTreeNode 13 = .ok (.getfield 162, 3) := dk_180 0 162 (dk_at dksJ7_replacementTreeNode_0 13 rfl rfl)
theorem dJ7_replacementTreeNode_16 : decode cJ7_replacementTreeNode 16 = .ok (.aload_n 2, 1) := dk_44 (dk_at dksJ7_replacementTreeNode_0 16 rfl rfl)
theorem dJ7_replacementTreeNode_17 : decode cJ7_replacementTreeNode 17 = .ok (.invokespecial 378, 3) := dk_183 1 122 (dk_at dksJ7_replacementTreeNode_0 17 rfl rfl)
theorem dJ7_replacementTreeNode_20 : decode cJ7_replacementTreeNode 20 = .ok (.areturn, 1) := dk_176 (dk_at dksJ7_replacementTreeNode_0 20 rfl rfl)
abbrev cJ7_afterNodeAccess : ByteArray := prog_59_method_51_code
def yJ7_afterNodeAccess : MethodName := ⟨RJ7, "afterNodeAccess", "(Ljava/util/HashMap$Node;)V"⟩
theorem dJ7_afterNodeAccess_0 : decode cJ7_afterNodeAccess 0 = .ok (.return_, 1) := by decide +kernel
abbrev cJ7_afterNodeInsertion : ByteArray := prog_59_method_52_code
def yJ7_afterNodeInsertion : MethodName := ⟨RJ7, "afterNodeInsertion", "(Z)V"⟩
theorem dJ7_afterNodeInsertion_0 : decode cJ7_afterNodeInsertion 0 = .ok (.return_, 1) := by decide +kernel
theorem q119 : (Jvm.Cond.initialized "java/util/HashMap") ∈ lw_all := lw_g (lw_at lw_m1 11 rfl) rfl
theorem q282 : (Jvm.Cond.instantiable "java/util/HashMap" (8 : Nat)) ∈ lw_all := lw_g (lw_at lw_m1 174 rfl) rfl
theorem q284 : (Jvm.Cond.instanceMethod ({ cls := "java/util/HashMap", name := "<init>", desc := "()V" } : Jvm.MethodName)) ∈ lw_all := lw_g (lw_at lw_m1 176 rfl) rfl
theorem q285 : (Jvm.Cond.code ({ cls := "java/util/HashMap", name := "<init>", desc := "()V" } : Jvm.MethodName) prog_59_method_7_code (1 : Nat) (Option.none : Option Jvm.ClassFile.FieldType)) ∈ lw_all := lw_g (lw_at lw_m1 177 rfl) rfl
theorem q286 : (Jvm.Cond.methodLink "java/util/HashMap" (43 : Nat) ({ cls := "java/util/AbstractMap", name := "<init>", desc := "()V" } : Jvm.MethodName)) ∈ lw_all := lw_g (lw_at lw_m1 178 rfl) rfl
theorem q290 : (Jvm.Cond.constantFloat "java/util/HashMap" (92 : Nat) (1061158912 : UInt32)) ∈ lw_all := lw_g (lw_at lw_m1 182 rfl) rfl
theorem q291 : (Jvm.Cond.fieldLink "java/util/HashMap" (105 : Nat) "java/util/HashMap" "table" "[Ljava/util/HashMap$Node;") ∈ lw_all := lw_g (lw_at lw_m1 183 rfl) rfl
theorem q292 : (Jvm.Cond.fieldLink "java/util/HashMap" (156 : Nat) "java/util/HashMap" "size" "I") ∈ lw_all := lw_g (lw_at lw_m1 184 rfl) rfl
theorem q293 : (Jvm.Cond.fieldLink "java/util/HashMap" (202 : Nat) "java/util/HashMap" "modCount" "I") ∈ lw_all := lw_g (lw_at lw_m1 185 rfl) rfl
theorem q294 : (Jvm.Cond.fieldLink "java/util/HashMap" (88 : Nat) "java/util/HashMap" "threshold" "I") ∈ lw_all := lw_g (lw_at lw_m1 186 rfl) rfl
theorem q295 : (Jvm.Cond.fieldLink "java/util/HashMap" (81 : Nat) "java/util/HashMap" "loadFactor" "F") ∈ lw_all := lw_g (lw_at lw_m1 187 rfl) rfl
theorem q296 : (Jvm.Cond.lays "java/util/HashMap" "java/util/HashMap" "table" "[Ljava/util/HashMap$Node;") ∈ lw_all := lw_g (lw_at lw_m1 188 rfl) rfl
theorem q297 : (Jvm.Cond.soleField "java/util/HashMap" "table") ∈ lw_all := lw_g (lw_at lw_m1 189 rfl) rfl
theorem q298 : (Jvm.Cond.lays "java/util/HashMap" "java/util/HashMap" "entrySet" "Ljava/util/Set;") ∈ lw_all := lw_g (lw_at lw_m1 190 rfl) rfl
theorem q299 : (Jvm.Cond.soleField "java/util/HashMap" "entrySet") ∈ lw_all := lw_g (lw_at lw_m1 191 rfl) rfl
theorem q300 : (Jvm.Cond.lays "java/util/HashMap" "java/util/HashMap" "size" "I") ∈ lw_all := lw_g (lw_at lw_m1 192 rfl) rfl
theorem q301 : (Jvm.Cond.soleField "java/util/HashMap" "size") ∈ lw_all := lw_g (lw_at lw_m1 193 rfl) rfl
theorem q302 : (Jvm.Cond.lays "java/util/HashMap" "java/util/HashMap" "modCount" "I") ∈ lw_all := lw_g (lw_at lw_m1 194 rfl) rfl
theorem q303 : (Jvm.Cond.soleField "java/util/HashMap" "modCount") ∈ lw_all := lw_g (lw_at lw_m1 195 rfl) rfl
theorem q304 : (Jvm.Cond.lays "java/util/HashMap" "java/util/HashMap" "threshold" "I") ∈ lw_all := lw_g (lw_at lw_m1 196 rfl) rfl
theorem q305 : (Jvm.Cond.soleField "java/util/HashMap" "threshold") ∈ lw_all := lw_g (lw_at lw_m1 197 rfl) rfl
theorem q306 : (Jvm.Cond.laysFinal "java/util/HashMap" "java/util/HashMap" "loadFactor" "F") ∈ lw_all := lw_g (lw_at lw_m1 198 rfl) rfl
theorem q307 : (Jvm.Cond.soleField "java/util/HashMap" "loadFactor") ∈ lw_all := lw_g (lw_at lw_m1 199 rfl) rfl
theorem q308 : (Jvm.Cond.lays "java/util/HashMap" "java/util/AbstractMap" "keySet" "Ljava/util/Set;") ∈ lw_all := lw_g (lw_at lw_m1 200 rfl) rfl
theorem q310 : (Jvm.Cond.lays "java/util/HashMap" "java/util/AbstractMap" "values" "Ljava/util/Collection;") ∈ lw_all := lw_g (lw_at lw_m1 202 rfl) rfl
theorem q312 : (Jvm.Cond.superclass "java/util/HashMap" "java/util/AbstractMap") ∈ lw_all := lw_g (lw_at lw_m1 204 rfl) rfl
theorem q518 : (Jvm.Cond.instanceMethod ({ cls := "java/util/HashMap", name := "clear", desc := "()V" } : Jvm.MethodName)) ∈ lw_all := lw_g (lw_at lw_m2 170 rfl) rfl
theorem q519 : (Jvm.Cond.selects "java/util/HashMap" ({ cls := "java/util/HashMap", name := "clear", desc := "()V" } : Jvm.MethodName) ({ cls := "java/util/HashMap", name := "clear", desc := "()V" } : Jvm.MethodName)) ∈ lw_all := lw_g (lw_at lw_m2 171 rfl) rfl
theorem q520 : (Jvm.Cond.code ({ cls := "java/util/HashMap", name := "clear", desc := "()V" } : Jvm.MethodName) prog_59_method_22_code (3 : Nat) (Option.none : Option Jvm.ClassFile.FieldType)) ∈ lw_all := lw_g (lw_at lw_m2 172 rfl) rfl
theorem q997 : (Jvm.Cond.instanceMethod ({ cls := "java/util/HashMap", name := "get", desc := "(Ljava/lang/Object;)Ljava/lang/Object;" } : Jvm.MethodName)) ∈ lw_all := lw_g (lw_at lw_m4 169 rfl) rfl
theorem q998 : (Jvm.Cond.selects "java/util/HashMap" ({ cls := "java/util/HashMap", name := "get", desc := "(Ljava/lang/Object;)Ljava/lang/Object;" } : Jvm.MethodName) ({ cls := "java/util/HashMap", name := "get", desc := "(Ljava/lang/Object;)Ljava/lang/Object;" } : Jvm.MethodName)) ∈ lw_all := lw_g (lw_at lw_m4 170 rfl) rfl
theorem q999 : (Jvm.Cond.code ({ cls := "java/util/HashMap", name := "get", desc := "(Ljava/lang/Object;)Ljava/lang/Object;" } : Jvm.MethodName) prog_59_method_12_code (3 : Nat) (Option.some (Jvm.ClassFile.FieldType.object "java/lang/Object"))) ∈ lw_all := lw_g (lw_at lw_m4 171 rfl) rfl
theorem q1000 : (Jvm.Cond.methodLink "java/util/HashMap" (158 : Nat) ({ cls := "java/util/HashMap", name := "getNode", desc := "(Ljava/lang/Object;)Ljava/util/HashMap$Node;" } : Jvm.MethodName)) ∈ lw_all := lw_g (lw_at lw_m4 172 rfl) rfl
theorem q1001 : (Jvm.Cond.instanceMethod ({ cls := "java/util/HashMap", name := "getNode", desc := "(Ljava/lang/Object;)Ljava/util/HashMap$Node;" } : Jvm.MethodName)) ∈ lw_all := lw_g (lw_at lw_m4 173 rfl) rfl
theorem q1002 : (Jvm.Cond.selects "java/util/HashMap" ({ cls := "java/util/HashMap", name := "getNode", desc := "(Ljava/lang/Object;)Ljava/util/HashMap$Node;" } : Jvm.MethodName) ({ cls := "java/util/HashMap", name := "getNode", desc := "(Ljava/lang/Object;)Ljava/util/HashMap$Node;" } : Jvm.MethodName)) ∈ lw_all := lw_g (lw_at lw_m4 174 rfl) rfl
theorem q1003 : (Jvm.Cond.code ({ cls := "java/util/HashMap", name := "getNode", desc := "(Ljava/lang/Object;)Ljava/util/HashMap$Node;" } : Jvm.MethodName) prog_59_method_13_code (8 : Nat) (Option.some (Jvm.ClassFile.FieldType.object "java/util/HashMap$Node"))) ∈ lw_all := lw_g (lw_at lw_m4 175 rfl) rfl
theorem q1004 : (Jvm.Cond.methodLink "java/util/HashMap" (149 : Nat) ({ cls := "java/util/HashMap", name := "hash", desc := "(Ljava/lang/Object;)I" } : Jvm.MethodName)) ∈ lw_all := lw_g (lw_at lw_m4 176 rfl) rfl
theorem q1005 : (Jvm.Cond.static ({ cls := "java/util/HashMap", name := "hash", desc := "(Ljava/lang/Object;)I" } : Jvm.MethodName)) ∈ lw_all := lw_g (lw_at lw_m4 177 rfl) rfl
theorem q1006 : (Jvm.Cond.code ({ cls := "java/util/HashMap", name := "hash", desc := "(Ljava/lang/Object;)I" } : Jvm.MethodName) prog_59_method_1_code (2 : Nat) (Option.some Jvm.ClassFile.FieldType.int)) ∈ lw_all := lw_g (lw_at lw_m4 178 rfl) rfl
theorem q1008 : (Jvm.Cond.methodLink "java/util/HashMap" (1 : Nat) ({ cls := "java/lang/Object", name := "hashCode", desc := "()I" } : Jvm.MethodName)) ∈ lw_all := lw_g (lw_at lw_m4 180 rfl) rfl
theorem q1047 : (Jvm.Cond.methodLink "java/util/HashMap" (173 : Nat) ({ cls := "java/lang/Object", name := "equals", desc := "(Ljava/lang/Object;)Z" } : Jvm.MethodName)) ∈ lw_all := lw_g (lw_at lw_m4 219 rfl) rfl
theorem q1082 : (Jvm.Cond.classLink "java/util/HashMap" (180 : Nat) "java/util/HashMap$TreeNode") ∈ lw_all := lw_g (lw_at lw_m5 14 rfl) rfl
theorem q1083 : (Jvm.Cond.methodLink "java/util/HashMap" (182 : Nat) ({ cls := "java/util/HashMap$TreeNode", name := "getTreeNode", desc := "(ILjava/lang/Object;)Ljava/util/HashMap$TreeNode;" } : Jvm.MethodName)) ∈ lw_all := lw_g (lw_at lw_m5 15 rfl) rfl
theorem q1097 : (Jvm.Cond.static ({ cls := "java/util/HashMap", name := "comparableClassFor", desc := "(Ljava/lang/Object;)Ljava/lang/Class;" } : Jvm.MethodName)) ∈ lw_all := lw_g (lw_at lw_m5 29 rfl) rfl
theorem q1098 : (Jvm.Cond.code ({ cls := "java/util/HashMap", name := "comparableClassFor", desc := "(Ljava/lang/Object;)Ljava/lang/Class;" } : Jvm.MethodName) prog_59_method_2_code (9 : Nat) (Option.some (Jvm.ClassFile.FieldType.object "java/lang/Class"))) ∈ lw_all := lw_g (lw_at lw_m5 30 rfl) rfl
theorem q1099 : (Jvm.Cond.classLink "java/util/HashMap" (7 : Nat) "java/lang/Comparable") ∈ lw_all := lw_g (lw_at lw_m5 31 rfl) rfl
theorem q1100 : (Jvm.Cond.methodLink "java/util/HashMap" (9 : Nat) ({ cls := "java/lang/Object", name := "getClass", desc := "()Ljava/lang/Class;" } : Jvm.MethodName)) ∈ lw_all := lw_g (lw_at lw_m5 32 rfl) rfl
theorem q1132 : (Jvm.Cond.selects "java/util/HashMap" ({ cls := "java/lang/Object", name := "getClass", desc := "()Ljava/lang/Class;" } : Jvm.MethodName) ({ cls := "java/lang/Object", name := "getClass", desc := "()Ljava/lang/Class;" } : Jvm.MethodName)) ∈ lw_all := lw_g (lw_at lw_m5 64 rfl) rfl
theorem q1138 : (Jvm.Cond.classLink "java/util/HashMap" (13 : Nat) "java/lang/String") ∈ lw_all := lw_g (lw_at lw_m5 70 rfl) rfl
theorem q1140 : (Jvm.Cond.static ({ cls := "java/util/HashMap", name := "compareComparables", desc := "(Ljava/lang/Class;Ljava/lang/Object;Ljava/lang/Object;)I" } : Jvm.MethodName)) ∈ lw_all := lw_g (lw_at lw_m5 72 rfl) rfl
theorem q1141 : (Jvm.Cond.code ({ cls := "java/util/HashMap", name := "compareComparables", desc := "(Ljava/lang/Class;Ljava/lang/Object;Ljava/lang/Object;)I" } : Jvm.MethodName) prog_59_method_3_code (3 : Nat) (Option.some Jvm.ClassFile.FieldType.int)) ∈ lw_all := lw_g (lw_at lw_m5 73 rfl) rfl
theorem q1142 : (Jvm.Cond.interfaceEntry "java/util/HashMap" (30 : Nat)) ∈ lw_tbl := lw_at lw_m5 74 rfl
theorem q1143 : (Jvm.Cond.methodLink "java/util/HashMap" (30 : Nat) ({ cls := "java/lang/Comparable", name := "compareTo", desc := "(Ljava/lang/Object;)I" } : Jvm.MethodName)) ∈ lw_all := lw_g (lw_at lw_m5 75 rfl) rfl
theorem q1562 : (Jvm.Cond.instanceMethod ({ cls := "java/util/HashMap", name := "put", desc := "(Ljava/lang/Object;Ljava/lang/Object;)Ljava/lang/Object;" } : Jvm.MethodName)) ∈ lw_all := lw_g (lw_at lw_m7 14 rfl) rfl
theorem q1563 : (Jvm.Cond.selects "java/util/HashMap" ({ cls := "java/util/HashMap", name := "put", desc := "(Ljava/lang/Object;Ljava/lang/Object;)Ljava/lang/Object;" } : Jvm.MethodName) ({ cls := "java/util/HashMap", name := "put", desc := "(Ljava/lang/Object;Ljava/lang/Object;)Ljava/lang/Object;" } : Jvm.MethodName)) ∈ lw_all := lw_g (lw_at lw_m7 15 rfl) rfl
theorem q1564 : (Jvm.Cond.code ({ cls := "java/util/HashMap", name := "put", desc := "(Ljava/lang/Object;Ljava/lang/Object;)Ljava/lang/Object;" } : Jvm.MethodName) prog_59_method_15_code (3 : Nat) (Option.some (Jvm.ClassFile.FieldType.object "java/lang/Object"))) ∈ lw_all := lw_g (lw_at lw_m7 16 rfl) rfl
theorem q1565 : (Jvm.Cond.methodLink "java/util/HashMap" (152 : Nat) ({ cls := "java/util/HashMap", name := "putVal", desc := "(ILjava/lang/Object;Ljava/lang/Object;ZZ)Ljava/lang/Object;" } : Jvm.MethodName)) ∈ lw_all := lw_g (lw_at lw_m7 17 rfl) rfl
theorem q1566 : (Jvm.Cond.instanceMethod ({ cls := "java/util/HashMap", name := "putVal", desc := "(ILjava/lang/Object;Ljava/lang/Object;ZZ)Ljava/lang/Object;" } : Jvm.MethodName)) ∈ lw_all := lw_g (lw_at lw_m7 18 rfl) rfl
theorem q1567 : (Jvm.Cond.selects "java/util/HashMap" ({ cls := "java/util/HashMap", name := "putVal", desc := "(ILjava/lang/Object;Ljava/lang/Object;ZZ)Ljava/lang/Object;" } : Jvm.MethodName) ({ cls := "java/util/HashMap", name := "putVal", desc := "(ILjava/lang/Object;Ljava/lang/Object;ZZ)Ljava/lang/Object;" } : Jvm.MethodName)) ∈ lw_all := lw_g (lw_at lw_m7 19 rfl) rfl
theorem q1568 : (Jvm.Cond.code ({ cls := "java/util/HashMap", name := "putVal", desc := "(ILjava/lang/Object;Ljava/lang/Object;ZZ)Ljava/lang/Object;" } : Jvm.MethodName) prog_59_method_16_code (13 : Nat) (Option.some (Jvm.ClassFile.FieldType.object "java/lang/Object"))) ∈ lw_all := lw_g (lw_at lw_m7 20 rfl) rfl
theorem q1569 : (Jvm.Cond.methodLink "java/util/HashMap" (117 : Nat) ({ cls := "java/util/HashMap", name := "resize", desc := "()[Ljava/util/HashMap$Node;" } : Jvm.MethodName)) ∈ lw_all := lw_g (lw_at lw_m7 21 rfl) rfl
theorem q1570 : (Jvm.Cond.instanceMethod ({ cls := "java/util/HashMap", name := "resize", desc := "()[Ljava/util/HashMap$Node;" } : Jvm.MethodName)) ∈ lw_all := lw_g (lw_at lw_m7 22 rfl) rfl
theorem q1571 : (Jvm.Cond.selects "java/util/HashMap" ({ cls := "java/util/HashMap", name := "resize", desc := "()[Ljava/util/HashMap$Node;" } : Jvm.MethodName) ({ cls := "java/util/HashMap", name := "resize", desc := "()[Ljava/util/HashMap$Node;" } : Jvm.MethodName)) ∈ lw_all := lw_g (lw_at lw_m7 23 rfl) rfl
theorem q1572 : (Jvm.Cond.code ({ cls := "java/util/HashMap", name := "resize", desc := "()[Ljava/util/HashMap$Node;" } : Jvm.MethodName) prog_59_method_17_code (14 : Nat) (Option.some (Jvm.ClassFile.FieldType.array (Jvm.ClassFile.FieldType.object "java/util/HashMap$Node")))) ∈ lw_all := lw_g (lw_at lw_m7 24 rfl) rfl
theorem q1573 : (Jvm.Cond.constant "java/util/HashMap" (42 : Nat) (1073741824 : Int32)) ∈ lw_all := lw_g (lw_at lw_m7 25 rfl) rfl
theorem q1574 : (Jvm.Cond.constant "java/util/HashMap" (209 : Nat) (2147483647 : Int32)) ∈ lw_all := lw_g (lw_at lw_m7 26 rfl) rfl
theorem q1575 : (Jvm.Cond.constantFloat "java/util/HashMap" (210 : Nat) (1317011456 : UInt32)) ∈ lw_all := lw_g (lw_at lw_m7 27 rfl) rfl
theorem q1576 : (Jvm.Cond.classLink "java/util/HashMap" (163 : Nat) "java/util/HashMap$Node") ∈ lw_all := lw_g (lw_at lw_m7 28 rfl) rfl
theorem q1578 : (Jvm.Cond.methodLink "java/util/HashMap" (211 : Nat) ({ cls := "java/util/HashMap$TreeNode", name := "split", desc := "(Ljava/util/HashMap;[Ljava/util/HashMap$Node;II)V" } : Jvm.MethodName)) ∈ lw_all := lw_g (lw_at lw_m7 30 rfl) rfl
theorem q1588 : (Jvm.Cond.instanceMethod ({ cls := "java/util/HashMap", name := "replacementNode", desc := "(Ljava/util/HashMap$Node;Ljava/util/HashMap$Node;)Ljava/util/HashMap$Node;" } : Jvm.MethodName)) ∈ lw_all := lw_g (lw_at lw_m7 40 rfl) rfl
theorem q1589 : (Jvm.Cond.selects "java/util/HashMap" ({ cls := "java/util/HashMap", name := "replacementNode", desc := "(Ljava/util/HashMap$Node;Ljava/util/HashMap$Node;)Ljava/util/HashMap$Node;" } : Jvm.MethodName) ({ cls := "java/util/HashMap", name := "replacementNode", desc := "(Ljava/util/HashMap$Node;Ljava/util/HashMap$Node;)Ljava/util/HashMap$Node;" } : Jvm.MethodName)) ∈ lw_all := lw_g (lw_at lw_m7 41 rfl) rfl
theorem q1590 : (Jvm.Cond.code ({ cls := "java/util/HashMap", name := "replacementNode", desc := "(Ljava/util/HashMap$Node;Ljava/util/HashMap$Node;)Ljava/util/HashMap$Node;" } : Jvm.MethodName) prog_59_method_47_code (3 : Nat) (Option.some (Jvm.ClassFile.FieldType.object "java/util/HashMap$Node"))) ∈ lw_all := lw_g (lw_at lw_m7 42 rfl) rfl
theorem q1592 : (Jvm.Cond.methodLink "java/util/HashMap" (375 : Nat) ({ cls := "java/util/HashMap$Node", name := "<init>", desc := "(ILjava/lang/Object;Ljava/lang/Object;Ljava/util/HashMap$Node;)V" } : Jvm.MethodName)) ∈ lw_all := lw_g (lw_at lw_m7 44 rfl) rfl
theorem q1599 : (Jvm.Cond.fieldLink "java/util/HashMap" (168 : Nat) "java/util/HashMap$Node" "hash" "I") ∈ lw_all := lw_g (lw_at lw_m7 51 rfl) rfl
theorem q1603 : (Jvm.Cond.fieldLink "java/util/HashMap" (170 : Nat) "java/util/HashMap$Node" "key" "Ljava/lang/Object;") ∈ lw_all := lw_g (lw_at lw_m7 55 rfl) rfl
theorem q1605 : (Jvm.Cond.fieldLink "java/util/HashMap" (162 : Nat) "java/util/HashMap$Node" "value" "Ljava/lang/Object;") ∈ lw_all := lw_g (lw_at lw_m7 57 rfl) rfl
theorem q1610 : (Jvm.Cond.fieldLink "java/util/HashMap" (177 : Nat) "java/util/HashMap$Node" "next" "Ljava/util/HashMap$Node;") ∈ lw_all := lw_g (lw_at lw_m7 62 rfl) rfl
theorem q1611 : (Jvm.Cond.fieldLink "java/util/HashMap" (223 : Nat) "java/util/HashMap$TreeNode" "next" "Ljava/util/HashMap$Node;") ∈ lw_all := lw_g (lw_at lw_m7 63 rfl) rfl
theorem q1639 : (Jvm.Cond.methodLink "java/util/HashMap" (186 : Nat) ({ cls := "java/util/HashMap", name := "newNode", desc := "(ILjava/lang/Object;Ljava/lang/Object;Ljava/util/HashMap$Node;)Ljava/util/HashMap$Node;" } : Jvm.MethodName)) ∈ lw_all := lw_g (lw_at lw_m7 91 rfl) rfl
theorem q1640 : (Jvm.Cond.instanceMethod ({ cls := "java/util/HashMap", name := "newNode", desc := "(ILjava/lang/Object;Ljava/lang/Object;Ljava/util/HashMap$Node;)Ljava/util/HashMap$Node;" } : Jvm.MethodName)) ∈ lw_all := lw_g (lw_at lw_m7 92 rfl) rfl
theorem q1641 : (Jvm.Cond.selects "java/util/HashMap" ({ cls := "java/util/HashMap", name := "newNode", desc := "(ILjava/lang/Object;Ljava/lang/Object;Ljava/util/HashMap$Node;)Ljava/util/HashMap$Node;" } : Jvm.MethodName) ({ cls := "java/util/HashMap", name := "newNode", desc := "(ILjava/lang/Object;Ljava/lang/Object;Ljava/util/HashMap$Node;)Ljava/util/HashMap$Node;" } : Jvm.MethodName)) ∈ lw_all := lw_g (lw_at lw_m7 93 rfl) rfl
theorem q1642 : (Jvm.Cond.code ({ cls := "java/util/HashMap", name := "newNode", desc := "(ILjava/lang/Object;Ljava/lang/Object;Ljava/util/HashMap$Node;)Ljava/util/HashMap$Node;" } : Jvm.MethodName) prog_59_method_46_code (5 : Nat) (Option.some (Jvm.ClassFile.FieldType.object "java/util/HashMap$Node"))) ∈ lw_all := lw_g (lw_at lw_m7 94 rfl) rfl
theorem q1643 : (Jvm.Cond.methodLink "java/util/HashMap" (190 : Nat) ({ cls := "java/util/HashMap$TreeNode", name := "putTreeVal", desc := "(Ljava/util/HashMap;[Ljava/util/HashMap$Node;ILjava/lang/Object;Ljava/lang/Object;)Ljava/util/HashMap$TreeNode;" } : Jvm.MethodName)) ∈ lw_all := lw_g (lw_at lw_m7 95 rfl) rfl
theorem q1648 : (Jvm.Cond.instanceMethod ({ cls := "java/util/HashMap", name := "newTreeNode", desc := "(ILjava/lang/Object;Ljava/lang/Object;Ljava/util/HashMap$Node;)Ljava/util/HashMap$TreeNode;" } : Jvm.MethodName)) ∈ lw_all := lw_g (lw_at lw_m7 100 rfl) rfl
theorem q1649 : (Jvm.Cond.selects "java/util/HashMap" ({ cls := "java/util/HashMap", name := "newTreeNode", desc := "(ILjava/lang/Object;Ljava/lang/Object;Ljava/util/HashMap$Node;)Ljava/util/HashMap$TreeNode;" } : Jvm.MethodName) ({ cls := "java/util/HashMap", name := "newTreeNode", desc := "(ILjava/lang/Object;Ljava/lang/Object;Ljava/util/HashMap$Node;)Ljava/util/HashMap$TreeNode;" } : Jvm.MethodName)) ∈ lw_all := lw_g (lw_at lw_m7 101 rfl) rfl
theorem q1650 : (Jvm.Cond.code ({ cls := "java/util/HashMap", name := "newTreeNode", desc := "(ILjava/lang/Object;Ljava/lang/Object;Ljava/util/HashMap$Node;)Ljava/util/HashMap$TreeNode;" } : Jvm.MethodName) prog_59_method_48_code (5 : Nat) (Option.some (Jvm.ClassFile.FieldType.object "java/util/HashMap$TreeNode"))) ∈ lw_all := lw_g (lw_at lw_m7 102 rfl) rfl
theorem q1652 : (Jvm.Cond.methodLink "java/util/HashMap" (378 : Nat) ({ cls := "java/util/HashMap$TreeNode", name := "<init>", desc := "(ILjava/lang/Object;Ljava/lang/Object;Ljava/util/HashMap$Node;)V" } : Jvm.MethodName)) ∈ lw_all := lw_g (lw_at lw_m7 104 rfl) rfl
theorem q1663 : (Jvm.Cond.fieldLink "java/util/HashMap" (219 : Nat) "java/util/HashMap$TreeNode" "prev" "Ljava/util/HashMap$TreeNode;") ∈ lw_all := lw_g (lw_at lw_m7 115 rfl) rfl
theorem q1684 : (Jvm.Cond.methodLink "java/util/HashMap" (194 : Nat) ({ cls := "java/util/HashMap", name := "treeifyBin", desc := "([Ljava/util/HashMap$Node;I)V" } : Jvm.MethodName)) ∈ lw_all := lw_g (lw_at lw_m7 136 rfl) rfl
theorem q1685 : (Jvm.Cond.instanceMethod ({ cls := "java/util/HashMap", name := "treeifyBin", desc := "([Ljava/util/HashMap$Node;I)V" } : Jvm.MethodName)) ∈ lw_all := lw_g (lw_at lw_m7 137 rfl) rfl
theorem q1686 : (Jvm.Cond.selects "java/util/HashMap" ({ cls := "java/util/HashMap", name := "treeifyBin", desc := "([Ljava/util/HashMap$Node;I)V" } : Jvm.MethodName) ({ cls := "java/util/HashMap", name := "treeifyBin", desc := "([Ljava/util/HashMap$Node;I)V" } : Jvm.MethodName)) ∈ lw_all := lw_g (lw_at lw_m7 138 rfl) rfl
theorem q1687 : (Jvm.Cond.code ({ cls := "java/util/HashMap", name := "treeifyBin", desc := "([Ljava/util/HashMap$Node;I)V" } : Jvm.MethodName) prog_59_method_18_code (9 : Nat) (Option.none : Option Jvm.ClassFile.FieldType)) ∈ lw_all := lw_g (lw_at lw_m7 139 rfl) rfl
theorem q1688 : (Jvm.Cond.methodLink "java/util/HashMap" (215 : Nat) ({ cls := "java/util/HashMap", name := "replacementTreeNode", desc := "(Ljava/util/HashMap$Node;Ljava/util/HashMap$Node;)Ljava/util/HashMap$TreeNode;" } : Jvm.MethodName)) ∈ lw_all := lw_g (lw_at lw_m7 140 rfl) rfl
theorem q1689 : (Jvm.Cond.instanceMethod ({ cls := "java/util/HashMap", name := "replacementTreeNode", desc := "(Ljava/util/HashMap$Node;Ljava/util/HashMap$Node;)Ljava/util/HashMap$TreeNode;" } : Jvm.MethodName)) ∈ lw_all := lw_g (lw_at lw_m7 141 rfl) rfl
theorem q1690 : (Jvm.Cond.selects "java/util/HashMap" ({ cls := "java/util/HashMap", name := "replacementTreeNode", desc := "(Ljava/util/HashMap$Node;Ljava/util/HashMap$Node;)Ljava/util/HashMap$TreeNode;" } : Jvm.MethodName) ({ cls := "java/util/HashMap", name := "replacementTreeNode", desc := "(Ljava/util/HashMap$Node;Ljava/util/HashMap$Node;)Ljava/util/HashMap$TreeNode;" } : Jvm.MethodName)) ∈ lw_all := lw_g (lw_at lw_m7 142 rfl) rfl
theorem q1691 : (Jvm.Cond.code ({ cls := "java/util/HashMap", name := "replacementTreeNode", desc := "(Ljava/util/HashMap$Node;Ljava/util/HashMap$Node;)Ljava/util/HashMap$TreeNode;" } : Jvm.MethodName) prog_59_method_49_code (3 : Nat) (Option.some (Jvm.ClassFile.FieldType.object "java/util/HashMap$TreeNode"))) ∈ lw_all := lw_g (lw_at lw_m7 143 rfl) rfl
theorem q1692 : (Jvm.Cond.methodLink "java/util/HashMap" (224 : Nat) ({ cls := "java/util/HashMap$TreeNode", name := "treeify", desc := "([Ljava/util/HashMap$Node;)V" } : Jvm.MethodName)) ∈ lw_all := lw_g (lw_at lw_m7 144 rfl) rfl
theorem q1693 : (Jvm.Cond.methodLink "java/util/HashMap" (198 : Nat) ({ cls := "java/util/HashMap", name := "afterNodeAccess", desc := "(Ljava/util/HashMap$Node;)V" } : Jvm.MethodName)) ∈ lw_all := lw_g (lw_at lw_m7 145 rfl) rfl
theorem q1694 : (Jvm.Cond.instanceMethod ({ cls := "java/util/HashMap", name := "afterNodeAccess", desc := "(Ljava/util/HashMap$Node;)V" } : Jvm.MethodName)) ∈ lw_all := lw_g (lw_at lw_m7 146 rfl) rfl
theorem q1695 : (Jvm.Cond.selects "java/util/HashMap" ({ cls := "java/util/HashMap", name := "afterNodeAccess", desc := "(Ljava/util/HashMap$Node;)V" } : Jvm.MethodName) ({ cls := "java/util/HashMap", name := "afterNodeAccess", desc := "(Ljava/util/HashMap$Node;)V" } : Jvm.MethodName)) ∈ lw_all := lw_g (lw_at lw_m7 147 rfl) rfl
theorem q1696 : (Jvm.Cond.code ({ cls := "java/util/HashMap", name := "afterNodeAccess", desc := "(Ljava/util/HashMap$Node;)V" } : Jvm.MethodName) prog_59_method_51_code (2 : Nat) (Option.none : Option Jvm.ClassFile.FieldType)) ∈ lw_all := lw_g (lw_at lw_m7 148 rfl) rfl
theorem q1697 : (Jvm.Cond.methodLink "java/util/HashMap" (205 : Nat) ({ cls := "java/util/HashMap", name := "afterNodeInsertion", desc := "(Z)V" } : Jvm.MethodName)) ∈ lw_all := lw_g (lw_at lw_m7 149 rfl) rfl
theorem q1698 : (Jvm.Cond.instanceMethod ({ cls := "java/util/HashMap", name := "afterNodeInsertion", desc := "(Z)V" } : Jvm.MethodName)) ∈ lw_all := lw_g (lw_at lw_m7 150 rfl) rfl
theorem q1699 : (Jvm.Cond.selects "java/util/HashMap" ({ cls := "java/util/HashMap", name := "afterNodeInsertion", desc := "(Z)V" } : Jvm.MethodName) ({ cls := "java/util/HashMap", name := "afterNodeInsertion", desc := "(Z)V" } : Jvm.MethodName)) ∈ lw_all := lw_g (lw_at lw_m7 151 rfl) rfl
theorem q1700 : (Jvm.Cond.code ({ cls := "java/util/HashMap", name := "afterNodeInsertion", desc := "(Z)V" } : Jvm.MethodName) prog_59_method_52_code (2 : Nat) (Option.none : Option Jvm.ClassFile.FieldType)) ∈ lw_all := lw_g (lw_at lw_m7 152 rfl) rfl
theorem q3251 : (Jvm.Cond.castable "java/util/HashMap" "java/lang/Object") ∈ lw_tbl := lw_at lw_m14 23 rfl
theorem in_J7 : ∀ w ∈ wsJ70, w ∈ lw_all := lw_in wsJ70 [308, 310, 296, 298, 300, 302, 304, 306] (by decide +kernel) (by decide +kernel)
/-! java/lang/IllegalStateException -/
set_option maxRecDepth 100000
def RJ8 : String := "java/lang/IllegalStateException"
def TJ8 : u_T := fun k => match k with
  | 0 => ("java/lang/Throwable", "cause", "Ljava/lang/Throwable;", false)
  | 1 => ("java/lang/Throwable", "stackTrace", "[Ljava/lang/StackTraceElement;", false)
  | 2 => ("java/lang/Throwable", "suppressedExceptions", "Ljava/util/List;", false)
  | 3 => ("java/lang/Throwable", "detailMessage", "Ljava/lang/String;", false)
  | 4 => ("java/lang/Throwable", "backtrace", "Ljava/lang/Object;", false)
  | _ => ("java/lang/Throwable", "depth", "I", false)
def tyJ8 : Nat → FieldType := fun k => match k with
  | 0 => .object "java/lang/Throwable"
  | 1 => .array (.object "java/lang/StackTraceElement")
  | 2 => .object "java/util/List"
  | 3 => .object "java/lang/String"
  | 4 => .object "java/lang/Object"
  | _ => .int
abbrev wsJ80 : List Cond := u_ws RJ8 TJ8 6
theorem nmJ8 : ∀ a, a < 6 → ∀ b, b < 6 → a ≠ b → (TJ8 a).2.1 ≠ (TJ8 b).2.1 := by decide +kernel
theorem tyJ8_ok : ∀ k, k < 6 → parseFieldDescriptor (TJ8 k).2.2.1 = some (tyJ8 k) := by decide +kernel
abbrev cJ8_init : ByteArray := prog_37_method_1_code
def yJ8_init : MethodName := ⟨RJ8, "<init>", "()V"⟩
theorem dJ8_init_0 : decode cJ8_init 0 = .ok (.aload_n 0, 1) := by decide +kernel
theorem dJ8_init_1 : decode cJ8_init 1 = .ok (.invokespecial 1, 3) := by decide +kernel
theorem dJ8_init_4 : decode cJ8_init 4 = .ok (.return_, 1) := by decide +kernel
theorem q123 : (Jvm.Cond.initialized "java/lang/IllegalStateException") ∈ lw_all := lw_g (lw_at lw_m1 15 rfl) rfl
theorem q209 : (Jvm.Cond.selects "java/lang/IllegalStateException" ({ cls := "java/lang/Throwable", name := "fillInStackTrace", desc := "()Ljava/lang/Throwable;" } : Jvm.MethodName) ({ cls := "java/lang/Throwable", name := "fillInStackTrace", desc := "()Ljava/lang/Throwable;" } : Jvm.MethodName)) ∈ lw_all := lw_g (lw_at lw_m1 101 rfl) rfl
theorem q1040 : (Jvm.Cond.selects "java/lang/IllegalStateException" ({ cls := "java/lang/Object", name := "hashCode", desc := "()I" } : Jvm.MethodName) ({ cls := "java/lang/Object", name := "hashCode", desc := "()I" } : Jvm.MethodName)) ∈ lw_all := lw_g (lw_at lw_m4 212 rfl) rfl
theorem q1076 : (Jvm.Cond.selects "java/lang/IllegalStateException" ({ cls := "java/lang/Object", name := "equals", desc := "(Ljava/lang/Object;)Z" } : Jvm.MethodName) ({ cls := "java/lang/Object", name := "equals", desc := "(Ljava/lang/Object;)Z" } : Jvm.MethodName)) ∈ lw_all := lw_g (lw_at lw_m5 8 rfl) rfl
theorem q1127 : (Jvm.Cond.selects "java/lang/IllegalStateException" ({ cls := "java/lang/Object", name := "getClass", desc := "()Ljava/lang/Class;" } : Jvm.MethodName) ({ cls := "java/lang/Object", name := "getClass", desc := "()Ljava/lang/Class;" } : Jvm.MethodName)) ∈ lw_all := lw_g (lw_at lw_m5 59 rfl) rfl
theorem q2372 : (Jvm.Cond.instantiable "java/lang/IllegalStateException" (6 : Nat)) ∈ lw_all := lw_g (lw_at lw_m10 104 rfl) rfl
theorem q2373 : (Jvm.Cond.castable "java/lang/IllegalStateException" "java/lang/IllegalStateException") ∈ lw_tbl := lw_at lw_m10 105 rfl
theorem q2374 : (Jvm.Cond.selects "java/lang/IllegalStateException" ({ cls := "java/lang/Throwable", name := "fillInStackTrace", desc := "(I)Ljava/lang/Throwable;" } : Jvm.MethodName) ({ cls := "java/lang/Throwable", name := "fillInStackTrace", desc := "(I)Ljava/lang/Throwable;" } : Jvm.MethodName)) ∈ lw_all := lw_g (lw_at lw_m10 106 rfl) rfl
theorem q2375 : (Jvm.Cond.lays "java/lang/IllegalStateException" "java/lang/Throwable" "cause" "Ljava/lang/Throwable;") ∈ lw_all := lw_g (lw_at lw_m10 107 rfl) rfl
theorem q2376 : (Jvm.Cond.lays "java/lang/IllegalStateException" "java/lang/Throwable" "stackTrace" "[Ljava/lang/StackTraceElement;") ∈ lw_all := lw_g (lw_at lw_m10 108 rfl) rfl
theorem q2377 : (Jvm.Cond.lays "java/lang/IllegalStateException" "java/lang/Throwable" "suppressedExceptions" "Ljava/util/List;") ∈ lw_all := lw_g (lw_at lw_m10 109 rfl) rfl
theorem q2378 : (Jvm.Cond.lays "java/lang/IllegalStateException" "java/lang/Throwable" "detailMessage" "Ljava/lang/String;") ∈ lw_all := lw_g (lw_at lw_m10 110 rfl) rfl
theorem q2379 : (Jvm.Cond.lays "java/lang/IllegalStateException" "java/lang/Throwable" "backtrace" "Ljava/lang/Object;") ∈ lw_all := lw_g (lw_at lw_m10 111 rfl) rfl
theorem q2381 : (Jvm.Cond.instanceMethod ({ cls := "java/lang/IllegalStateException", name := "<init>", desc := "()V" } : Jvm.MethodName)) ∈ lw_all := lw_g (lw_at lw_m10 113 rfl) rfl
theorem q2382 : (Jvm.Cond.code ({ cls := "java/lang/IllegalStateException", name := "<init>", desc := "()V" } : Jvm.MethodName) prog_37_method_1_code (1 : Nat) (Option.none : Option Jvm.ClassFile.FieldType)) ∈ lw_all := lw_g (lw_at lw_m10 114 rfl) rfl
theorem q2383 : (Jvm.Cond.methodLink "java/lang/IllegalStateException" (1 : Nat) ({ cls := "java/lang/RuntimeException", name := "<init>", desc := "()V" } : Jvm.MethodName)) ∈ lw_all := lw_g (lw_at lw_m10 115 rfl) rfl
theorem q2384 : (Jvm.Cond.lays "java/lang/IllegalStateException" "java/lang/Throwable" "depth" "I") ∈ lw_all := lw_g (lw_at lw_m10 116 rfl) rfl
theorem q2385 : (Jvm.Cond.superclass "java/lang/IllegalStateException" "java/lang/RuntimeException") ∈ lw_all := lw_g (lw_at lw_m10 117 rfl) rfl
theorem q3255 : (Jvm.Cond.castable "java/lang/IllegalStateException" "java/lang/Object") ∈ lw_tbl := lw_at lw_m14 27 rfl
theorem in_J8 : ∀ w ∈ wsJ80, w ∈ lw_all := lw_in wsJ80 [2375, 2376, 2377, 2378, 2379, 2384] (by decide +kernel) (by decide +kernel)
/-! java/lang/IllegalArgumentException -/
set_option maxRecDepth 100000
def RJ9 : String := "java/lang/IllegalArgumentException"
def TJ9 : u_T := fun k => match k with
  | 0 => ("java/lang/Throwable", "cause", "Ljava/lang/Throwable;", false)
  | 1 => ("java/lang/Throwable", "stackTrace", "[Ljava/lang/StackTraceElement;", false)
  | 2 => ("java/lang/Throwable", "suppressedExceptions", "Ljava/util/List;", false)
  | 3 => ("java/lang/Throwable", "detailMessage", "Ljava/lang/String;", false)
  | 4 => ("java/lang/Throwable", "backtrace", "Ljava/lang/Object;", false)
  | _ => ("java/lang/Throwable", "depth", "I", false)
def tyJ9 : Nat → FieldType := fun k => match k with
  | 0 => .object "java/lang/Throwable"
  | 1 => .array (.object "java/lang/StackTraceElement")
  | 2 => .object "java/util/List"
  | 3 => .object "java/lang/String"
  | 4 => .object "java/lang/Object"
  | _ => .int
abbrev wsJ90 : List Cond := u_ws RJ9 TJ9 6
theorem nmJ9 : ∀ a, a < 6 → ∀ b, b < 6 → a ≠ b → (TJ9 a).2.1 ≠ (TJ9 b).2.1 := by decide +kernel
theorem tyJ9_ok : ∀ k, k < 6 → parseFieldDescriptor (TJ9 k).2.2.1 = some (tyJ9 k) := by decide +kernel
abbrev cJ9_init : ByteArray := prog_36_method_2_code
def yJ9_init : MethodName := ⟨RJ9, "<init>", "(Ljava/lang/String;)V"⟩
def dkwJ9_init_0 : List UInt8 := [42, 43, 183, 0, 7, 177]
abbrev dktJ9_init_0 : List UInt8 := dkwJ9_init_0 ++ []
theorem dksJ9_init_0 : cJ9_init.data.toList.drop 0 = dktJ9_init_0 := by decide +kernel
theorem dJ9_init_0 : decode cJ9_init 0 = .ok (.aload_n 0, 1) := dk_42 (dk_at dksJ9_init_0 0 rfl rfl)
theorem dJ9_init_1 : decode cJ9_init 1 = .ok (.aload_n 1, 1) := dk_43 (dk_at dksJ9_init_0 1 rfl rfl)
theorem dJ9_init_2 : decode cJ9_init 2 = .ok (.invokespecial 7, 3) := dk_183 0 7 (dk_at dksJ9_init_0 2 rfl rfl)
theorem dJ9_init_5 : decode cJ9_init 5 = .ok (.return_, 1) := dk_177 (dk_at dksJ9_init_0 5 rfl rfl)
abbrev cJ9_init_2 : ByteArray := prog_36_method_1_code
def yJ9_init_2 : MethodName := ⟨RJ9, "<init>", "()V"⟩
theorem dJ9_init_2_0 : decode cJ9_init_2 0 = .ok (.aload_n 0, 1) := by decide +kernel
theorem dJ9_init_2_1 : decode cJ9_init_2 1 = .ok (.invokespecial 1, 3) := by decide +kernel
theorem dJ9_init_2_4 : decode cJ9_init_2 4 = .ok (.return_, 1) := by decide +kernel
theorem q124 : (Jvm.Cond.initialized "java/lang/IllegalArgumentException") ∈ lw_all := lw_g (lw_at lw_m1 16 rfl) rfl
theorem q208 : (Jvm.Cond.selects "java/lang/IllegalArgumentException" ({ cls := "java/lang/Throwable", name := "fillInStackTrace", desc := "()Ljava/lang/Throwable;" } : Jvm.MethodName) ({ cls := "java/lang/Throwable", name := "fillInStackTrace", desc := "()Ljava/lang/Throwable;" } : Jvm.MethodName)) ∈ lw_all := lw_g (lw_at lw_m1 100 rfl) rfl
theorem q712 : (Jvm.Cond.instantiable "java/lang/IllegalArgumentException" (6 : Nat)) ∈ lw_all := lw_g (lw_at lw_m3 124 rfl) rfl
theorem q713 : (Jvm.Cond.castable "java/lang/IllegalArgumentException" "java/lang/IllegalArgumentException") ∈ lw_tbl := lw_at lw_m3 125 rfl
theorem q714 : (Jvm.Cond.selects "java/lang/IllegalArgumentException" ({ cls := "java/lang/Throwable", name := "fillInStackTrace", desc := "(I)Ljava/lang/Throwable;" } : Jvm.MethodName) ({ cls := "java/lang/Throwable", name := "fillInStackTrace", desc := "(I)Ljava/lang/Throwable;" } : Jvm.MethodName)) ∈ lw_all := lw_g (lw_at lw_m3 126 rfl) rfl
theorem q715 : (Jvm.Cond.lays "java/lang/IllegalArgumentException" "java/lang/Throwable" "cause" "Ljava/lang/Throwable;") ∈ lw_all := lw_g (lw_at lw_m3 127 rfl) rfl
theorem q716 : (Jvm.Cond.lays "java/lang/IllegalArgumentException" "java/lang/Throwable" "stackTrace" "[Ljava/lang/StackTraceElement;") ∈ lw_all := lw_g (lw_at lw_m3 128 rfl) rfl
theorem q717 : (Jvm.Cond.lays "java/lang/IllegalArgumentException" "java/lang/Throwable" "suppressedExceptions" "Ljava/util/List;") ∈ lw_all := lw_g (lw_at lw_m3 129 rfl) rfl
theorem q718 : (Jvm.Cond.lays "java/lang/IllegalArgumentException" "java/lang/Throwable" "detailMessage" "Ljava/lang/String;") ∈ lw_all := lw_g (lw_at lw_m3 130 rfl) rfl
theorem q719 : (Jvm.Cond.lays "java/lang/IllegalArgumentException" "java/lang/Throwable" "backtrace" "Ljava/lang/Object;") ∈ lw_all := lw_g (lw_at lw_m3 131 rfl) rfl
theorem q797 : (Jvm.Cond.instanceMethod ({ cls := "java/lang/IllegalArgumentException", name := "<init>", desc := "(Ljava/lang/String;)V" } : Jvm.MethodName)) ∈ lw_all := lw_g (lw_at lw_m3 209 rfl) rfl
theorem q798 : (Jvm.Cond.code ({ cls := "java/lang/IllegalArgumentException", name := "<init>", desc := "(Ljava/lang/String;)V" } : Jvm.MethodName) prog_36_method_2_code (2 : Nat) (Option.none : Option Jvm.ClassFile.FieldType)) ∈ lw_all := lw_g (lw_at lw_m3 210 rfl) rfl
theorem q799 : (Jvm.Cond.methodLink "java/lang/IllegalArgumentException" (7 : Nat) ({ cls := "java/lang/RuntimeException", name := "<init>", desc := "(Ljava/lang/String;)V" } : Jvm.MethodName)) ∈ lw_all := lw_g (lw_at lw_m3 211 rfl) rfl
theorem q808 : (Jvm.Cond.lays "java/lang/IllegalArgumentException" "java/lang/Throwable" "depth" "I") ∈ lw_all := lw_g (lw_at lw_m3 220 rfl) rfl
theorem q809 : (Jvm.Cond.superclass "java/lang/IllegalArgumentException" "java/lang/RuntimeException") ∈ lw_all := lw_g (lw_at lw_m3 221 rfl) rfl
theorem q1039 : (Jvm.Cond.selects "java/lang/IllegalArgumentException" ({ cls := "java/lang/Object", name := "hashCode", desc := "()I" } : Jvm.MethodName) ({ cls := "java/lang/Object", name := "hashCode", desc := "()I" } : Jvm.MethodName)) ∈ lw_all := lw_g (lw_at lw_m4 211 rfl) rfl
theorem q1075 : (Jvm.Cond.selects "java/lang/IllegalArgumentException" ({ cls := "java/lang/Object", name := "equals", desc := "(Ljava/lang/Object;)Z" } : Jvm.MethodName) ({ cls := "java/lang/Object", name := "equals", desc := "(Ljava/lang/Object;)Z" } : Jvm.MethodName)) ∈ lw_all := lw_g (lw_at lw_m5 7 rfl) rfl
theorem q1126 : (Jvm.Cond.selects "java/lang/IllegalArgumentException" ({ cls := "java/lang/Object", name := "getClass", desc := "()Ljava/lang/Class;" } : Jvm.MethodName) ({ cls := "java/lang/Object", name := "getClass", desc := "()Ljava/lang/Class;" } : Jvm.MethodName)) ∈ lw_all := lw_g (lw_at lw_m5 58 rfl) rfl
theorem q2400 : (Jvm.Cond.instanceMethod ({ cls := "java/lang/IllegalArgumentException", name := "<init>", desc := "()V" } : Jvm.MethodName)) ∈ lw_all := lw_g (lw_at lw_m10 132 rfl) rfl
theorem q2401 : (Jvm.Cond.code ({ cls := "java/lang/IllegalArgumentException", name := "<init>", desc := "()V" } : Jvm.MethodName) prog_36_method_1_code (1 : Nat) (Option.none : Option Jvm.ClassFile.FieldType)) ∈ lw_all := lw_g (lw_at lw_m10 133 rfl) rfl
theorem q2402 : (Jvm.Cond.methodLink "java/lang/IllegalArgumentException" (1 : Nat) ({ cls := "java/lang/RuntimeException", name := "<init>", desc := "()V" } : Jvm.MethodName)) ∈ lw_all := lw_g (lw_at lw_m10 134 rfl) rfl
theorem q3256 : (Jvm.Cond.castable "java/lang/IllegalArgumentException" "java/lang/Object") ∈ lw_tbl := lw_at lw_m14 28 rfl
theorem in_J9 : ∀ w ∈ wsJ90, w ∈ lw_all := lw_in wsJ90 [715, 716, 717, 718, 719, 808] (by decide +kernel) (by decide +kernel)
/-! java/lang/AbstractStringBuilder -/
set_option maxRecDepth 100000
def RJ11 : String := "java/lang/AbstractStringBuilder"
abbrev cJ11_init : ByteArray := prog_29_method_2_code
def yJ11_init : MethodName := ⟨RJ11, "<init>", "(I)V"⟩
def dkwJ11_init_1 : List UInt8 := [167, 0, 16, 42, 27, 184, 0, 26, 181, 0, 15, 42, 4, 181, 0, 22, 177]
abbrev dktJ11_init_1 : List UInt8 := dkwJ11_init_1 ++ []
def dkwJ11_init_0 : List UInt8 := [42, 183, 0, 3, 178, 0, 18, 153, 0, 18, 42, 27, 188, 8, 181, 0, 15, 42, 3, 181, 0, 22]
abbrev dktJ11_init_0 : List UInt8 := dkwJ11_init_0 ++ dktJ11_init_1
theorem dksJ11_init_0 : cJ11_init.data.toList.drop 0 = dktJ11_init_0 := by decide +kernel
theorem dksJ11_init_1 : cJ11_init.data.toList.drop 22 = dktJ11_init_1 := dk_seg dksJ11_init_0 22 rfl rfl
theorem dJ11_init_0 : decode cJ11_init 0 = .ok (.aload_n 0, 1) := dk_42 (dk_at dksJ11_init_0 0 rfl rfl)
theorem dJ11_init_1 : decode cJ11_init 1 = .ok (.invokespecial 3, 3) := dk_183 0 3 (dk_at dksJ11_init_0 1 rfl rfl)
theorem dJ11_init_4 : decode cJ11_init 4 = .ok (.getstatic 18, 3) := dk_178 0 18 (dk_at dksJ11_init_0 4 rfl rfl)
theorem dJ11_init_7 : decode cJ11_init 7 = .ok (.ifCond .eq 18, 3) := dk_153 0 18 (dk_at dksJ11_init_0 7 rfl rfl)
theorem dJ11_init_10 : decode cJ11_init 10 = .ok (.aload_n 0, 1) := dk_42 (dk_at dksJ11_init_0 10 rfl rfl)
theorem dJ11_init_11 : decode cJ11_init 11 = .ok (.iload_n 1, 1) := dk_27 (dk_at dksJ11_init_0 11 rfl rfl)
theorem dJ11_init_12 : decode cJ11_init 12 = .ok (.newarray .byte, 2) := dk_188_8 (dk_at dksJ11_init_0 12 rfl rfl)
theorem dJ11_init_14 : decode cJ11_init 14 = .ok (.putfield 15, 3) := dk_181 0 15 (dk_at dksJ11_init_0 14 rfl rfl)
theorem dJ11_init_17 : decode cJ11_init 17 = .ok (.aload_n 0, 1) := dk_42 (dk_at dksJ11_init_0 17 rfl rfl)
theorem dJ11_init_18 : decode cJ11_init 18 = .ok (.iconst 0, 1) := dk_3 (dk_at dksJ11_init_0 18 rfl rfl)
theorem dJ11_init_19 : decode cJ11_init 19 = .ok (.putfield 22, 3) := dk_181 0 22 (dk_at dksJ11_init_0 19 rfl rfl)
theorem dJ11_init_22 : decode cJ11_init 22 = .ok (.goto 16, 3) := dk_167 0 16 (dk_at dksJ11_init_1 0 rfl rfl)
theorem dJ11_init_25 : decode cJ11_init 25 = .ok (.aload_n 0, 1) := dk_42 (dk_at dksJ11_init_1 3 rfl rfl)
theorem dJ11_init_26 : decode cJ11_init 26 = .ok (.iload_n 1, 1) := dk_27 (dk_at dksJ11_init_1 4 rfl rfl)
theorem dJ11_init_27 : decode cJ11_init 27 = .ok (.invokestatic 26, 3) := dk_184 0 26 (dk_at dksJ11_init_1 5 rfl rfl)
theorem dJ11_init_30 : decode cJ11_init 30 = .ok (.putfield 15, 3) := dk_181 0 15 (dk_at dksJ11_init_1 8 rfl rfl)
theorem dJ11_init_33 : decode cJ11_init 33 = .ok (.aload_n 0, 1) := dk_42 (dk_at dksJ11_init_1 11 rfl rfl)
theorem dJ11_init_34 : decode cJ11_init 34 = .ok (.iconst 1, 1) := dk_4 (dk_at dksJ11_init_1 12 rfl rfl)
theorem dJ11_init_35 : decode cJ11_init 35 = .ok (.putfield 22, 3) := dk_181 0 22 (dk_at dksJ11_init_1 13 rfl rfl)
theorem dJ11_init_38 : decode cJ11_init 38 = .ok (.return_, 1) := dk_177 (dk_at dksJ11_init_1 16 rfl rfl)
abbrev cJ11_append : ByteArray := prog_29_method_31_code
def yJ11_append : MethodName := ⟨RJ11, "append", "(C)Ljava/lang/AbstractStringBuilder;"⟩
def dkwJ11_append_3 : List UInt8 := [181, 0, 79, 27, 184, 0, 197, 42, 176]
abbrev dktJ11_append_3 : List UInt8 := dkwJ11_append_3 ++ []
def dkwJ11_append_2 : List UInt8 := [182, 0, 83, 153, 0, 7, 42, 182, 0, 195, 42, 180, 0, 15, 42, 89, 180, 0, 79, 90, 4, 96]
abbrev dktJ11_append_2 : List UInt8 := dkwJ11_append_2 ++ dktJ11_append_3
def dkwJ11_append_1 : List UInt8 := [42, 180, 0, 15, 42, 89, 180, 0, 79, 90, 4, 96, 181, 0, 79, 27, 145, 84, 167, 0, 33, 42]
abbrev dktJ11_append_1 : List UInt8 := dkwJ11_append_1 ++ dktJ11_append_2
def dkwJ11_append_0 : List UInt8 := [42, 42, 180, 0, 79, 4, 96, 182, 0, 100, 42, 182, 0, 83, 153, 0, 31, 27, 184, 0, 191, 153, 0, 24]
abbrev dktJ11_append_0 : List UInt8 := dkwJ11_append_0 ++ dktJ11_append_1
theorem dksJ11_append_0 : cJ11_append.data.toList.drop 0 = dktJ11_append_0 := by decide +kernel
theorem dksJ11_append_1 : cJ11_append.data.toList.drop 24 = dktJ11_append_1 := dk_seg dksJ11_append_0 24 rfl rfl
theorem dksJ11_append_2 : cJ11_append.data.toList.drop 46 = dktJ11_append_2 := dk_seg dksJ11_append_1 22 rfl rfl
theorem dksJ11_append_3 : cJ11_append.data.toList.drop 68 = dktJ11_append_3 := dk_seg dksJ11_append_2 22 rfl rfl
theorem dJ11_append_0 : decode cJ11_append 0 = .ok (.aload_n 0, 1) := dk_42 (dk_at dksJ11_append_0 0 rfl rfl)
theorem dJ11_append_1 : decode cJ11_append 1 = .ok (.aload_n 0, 1) := dk_42 (dk_at dksJ11_append_0 1 rfl rfl)
theorem dJ11_append_2 : decode cJ11_append 2 = .ok (.getfield 79, 3) := dk_180 0 79 (dk_at dksJ11_append_0 2 rfl rfl)
theorem dJ11_append_5 : decode cJ11_append 5 = .ok (.iconst 1, 1) := dk_4 (dk_at dksJ11_append_0 5 rfl rfl)
theorem dJ11_append_6 : decode cJ11_append 6 = .ok (.iadd, 1) := dk_96 (dk_at dksJ11_append_0 6 rfl rfl)
theorem dJ11_append_7 : decode cJ11_append 7 = .ok (.invokevirtual 100, 3) := dk_182 0 100 (dk_at dksJ11_append_0 7 rfl rfl)
theorem dJ11_append_10 : decode cJ11_append 10 = .ok (.aload_n 0, 1) := dk_42 (dk_at dksJ11_append_0 10 rfl rfl)
theorem dJ11_append_11 : decode cJ11_append 11 = .ok (.invokevirtual 83, 3) := dk_182 0 83 (dk_at dksJ11_append_0 11 rfl rfl)
theorem dJ11_append_14 : decode cJ11_append 14 = .ok (.ifCond .eq 31, 3) := dk_153 0 31 (dk_at dksJ11_append_0 14 rfl rfl)
theorem dJ11_append_17 : decode cJ11_append 17 = .ok (.iload_n 1, 1) := dk_27 (dk_at dksJ11_append_0 17 rfl rfl)
theorem dJ11_append_18 : decode cJ11_append 18 = .ok (.invokestatic 191, 3) := dk_184 0 191 (dk_at dksJ11_append_0 18 rfl rfl)
theorem dJ11_append_21 : decode cJ11_append 21 = .ok (.ifCond .eq 24, 3) := dk_153 0 24 (dk_at dksJ11_append_0 21 rfl rfl)
theorem dJ11_append_24 : decode cJ11_append 24 = .ok (.aload_n 0, 1) := dk_42 (dk_at dksJ11_append_1 0 rfl rfl)
theorem dJ11_append_25 : decode cJ11_append 25 = .ok (.getfield 15, 3) := dk_180 0 15 (dk_at dksJ11_append_1 1 rfl rfl)
theorem dJ11_append_28 : decode cJ11_append 28 = .ok (.aload_n 0, 1) := dk_42 (dk_at dksJ11_append_1 4 rfl rfl)
theorem dJ11_append_29 : decode cJ11_append 29 = .ok (.dup, 1) := dk_89 (dk_at dksJ11_append_1 5 rfl rfl)
theorem dJ11_append_30 : decode cJ11_append 30 = .ok (.getfield 79, 3) := dk_180 0 79 (dk_at dksJ11_append_1 6 rfl rfl)
theorem dJ11_append_33 : decode cJ11_append 33 = .ok (.dup_x1, 1) := dk_90 (dk_at dksJ11_append_1 9 rfl rfl)
theorem dJ11_append_34 : decode cJ11_append 34 = .ok (.iconst 1, 1) := dk_4 (dk_at dksJ11_append_1 10 rfl rfl)
theorem dJ11_append_35 : decode cJ11_append 35 = .ok (.iadd, 1) := dk_96 (dk_at dksJ11_append_1 11 rfl rfl)
theorem dJ11_append_36 : decode cJ11_append 36 = .ok (.putfield 79, 3) := dk_181 0 79 (dk_at dksJ11_append_1 12 rfl rfl)
theorem dJ11_append_39 : decode cJ11_append 39 = .ok (.iload_n 1, 1) := dk_27 (dk_at dksJ11_append_1 15 rfl rfl)
theorem dJ11_append_40 : decode cJ11_append 40 = .ok (.i2b, 1) := dk_145 (dk_at dksJ11_append_1 16 rfl rfl)
theorem dJ11_append_41 : decode cJ11_append 41 = .ok (.bastore, 1) := dk_84 (dk_at dksJ11_append_1 17 rfl rfl)
theorem dJ11_append_42 : decode cJ11_append 42 = .ok (.goto 33, 3) := dk_167 0 33 (dk_at dksJ11_append_1 18 rfl rfl)
theorem dJ11_append_45 : decode cJ11_append 45 = .ok (.aload_n 0, 1) := dk_42 (dk_at dksJ11_append_1 21 rfl rfl)
theorem dJ11_append_46 : decode cJ11_append 46 = .ok (.invokevirtual 83, 3) := dk_182 0 83 (dk_at dksJ11_append_2 0 rfl rfl)
theorem dJ11_append_49 : decode cJ11_append 49 = .ok (.ifCond .eq 7, 3) := dk_153 0 7 (dk_at dksJ11_append_2 3 rfl rfl)
theorem dJ11_append_52 : decode cJ11_append 52 = .ok (.aload_n 0, 1) := dk_42 (dk_at dksJ11_append_2 6 rfl rfl)
theorem dJ11_append_53 : decode cJ11_append 53 = .ok (.invokevirtual 195, 3) := dk_182 0 195 (dk_at dksJ11_append_2 7 rfl rfl)
theorem dJ11_append_56 : decode cJ11_append 56 = .ok (.aload_n 0, 1) := dk_42 (dk_at dksJ11_append_2 10 rfl rfl)
theorem dJ11_append_57 : decode cJ11_append 57 = .ok (.getfield 15, 3) := dk_180 0 15 (dk_at dksJ11_append_2 11 rfl rfl)
theorem dJ11_append_60 : decode cJ11_append 60 = .ok (.aload_n 0, 1) := dk_42 (dk_at dksJ11_append_2 14 rfl rfl)
theorem dJ11_append_61 : decode cJ11_append 61 = .ok (.dup, 1) := dk_89 (dk_at dksJ11_append_2 15 rfl rfl)
theorem dJ11_append_62 : decode cJ11_append 62 = .ok (.getfield 79, 3) := dk_180 0 79 (dk_at dksJ11_append_2 16 rfl rfl)
theorem dJ11_append_65 : decode cJ11_append 65 = .ok (.dup_x1, 1) := dk_90 (dk_at dksJ11_append_2 19 rfl rfl)
theorem dJ11_append_66 : decode cJ11_append 66 = .ok (.iconst 1, 1) := dk_4 (dk_at dksJ11_append_2 20 rfl rfl)
theorem dJ11_append_67 : decode cJ11_append 67 = .ok (.iadd, 1) := dk_96 (dk_at dksJ11_append_2 21 rfl rfl)
theorem dJ11_append_68 : decode cJ11_append 68 = .ok (.putfield 79, 3) := dk_181 0 79 (dk_at dksJ11_append_3 0 rfl rfl)
theorem dJ11_append_71 : decode cJ11_append 71 = .ok (.iload_n 1, 1) := dk_27 (dk_at dksJ11_append_3 3 rfl rfl)
theorem dJ11_append_72 : decode cJ11_append 72 = .ok (.invokestatic 197, 3) := dk_184 0 197 (dk_at dksJ11_append_3 4 rfl rfl)
theorem dJ11_append_75 : decode cJ11_append 75 = .ok (.aload_n 0, 1) := dk_42 (dk_at dksJ11_append_3 7 rfl rfl)
theorem dJ11_append_76 : decode cJ11_append 76 = .ok (.areturn, 1) := dk_176 (dk_at dksJ11_append_3 8 rfl rfl)
abbrev cJ11_ensureCapacityInternal : ByteArray := prog_29_method_9_code
def yJ11_ensureCapacityInternal : MethodName := ⟨RJ11, "ensureCapacityInternal", "(I)V"⟩
def dkwJ11_ensureCapacityInternal_1 : List UInt8 := [182, 0, 104, 42, 180, 0, 22, 120, 184, 0, 108, 181, 0, 15, 177]
abbrev dktJ11_ensureCapacityInternal_1 : List UInt8 := dkwJ11_ensureCapacityInternal_1 ++ []
def dkwJ11_ensureCapacityInternal_0 : List UInt8 := [42, 180, 0, 15, 190, 42, 180, 0, 22, 122, 61, 27, 28, 100, 158, 0, 24, 42, 42, 180, 0, 15, 42, 27]
abbrev dktJ11_ensureCapacityInternal_0 : List UInt8 := dkwJ11_ensureCapacityInternal_0 ++ dktJ11_ensureCapacityInternal_1
theorem dksJ11_ensureCapacityInternal_0 : cJ11_ensureCapacityInternal.data.toList.drop 0 = dktJ11_ensureCapacityInternal_0 := by decide +kernel
theorem dksJ11_ensureCapacityInternal_1 : cJ11_ensureCapacityInternal.data.toList.drop 24 = dktJ11_ensureCapacityInternal_1 := dk_seg dksJ11_ensureCapacityInternal_0 24 rfl rfl
theorem dJ11_ensureCapacityInternal_0 : decode cJ11_ensureCapacityInternal 0 = .ok (.aload_n 0, 1) := dk_42 (dk_at dksJ11_ensureCapacityInternal_0 0 rfl rfl)
theorem dJ11_ensureCapacityInternal_1 : decode cJ11_ensureCapacityInternal 1 = .ok (.getfield 15, 3) := dk_180 0 15 (dk_at dksJ11_ensureCapacityInternal_0 1 rfl rfl)
theorem dJ11_ensureCapacityInternal_4 : decode cJ11_ensureCapacityInternal 4 = .ok (.arraylength, 1) := dk_190 (dk_at dksJ11_ensureCapacityInternal_0 4 rfl rfl)
theorem dJ11_ensureCapacityInternal_5 : decode cJ11_ensureCapacityInternal 5 = .ok (.aload_n 0, 1) := dk_42 (dk_at dksJ11_ensureCapacityInternal_0 5 rfl rfl)
theorem dJ11_ensureCapacityInternal_6 : decode cJ11_ensureCapacityInternal 6 = .ok (.getfield 22, 3) := dk_180 0 22 (dk_at dksJ11_ensureCapacityInternal_0 6 rfl rfl)
theorem dJ11_ensureCapacityInternal_9 : decode cJ11_ensureCapacityInternal 9 = .ok (.ishr, 1) := dk_122 (dk_at dksJ11_ensureCapacityInternal_0 9 rfl rfl)
theorem dJ11_ensureCapacityInternal_10 : decode cJ11_ensureCapacityInternal 10 = .ok (.istore_n 2, 1) := dk_61 (dk_at dksJ11_ensureCapacityInternal_0 10 rfl rfl)
theorem dJ11_ensureCapacityInternal_11 : decode cJ11_ensureCapacityInternal 11 = .ok (.iload_n 1, 1) := dk_27 (dk_at dksJ11_ensureCapacityInternal_0 11 rfl rfl)
theorem dJ11_ensureCapacityInternal_12 : decode cJ11_ensureCapacityInternal 12 = .ok (.iload_n 2, 1) := dk_28 (dk_at dksJ11_ensureCapacityInternal_0 12 rfl rfl)
theorem dJ11_ensureCapacityInternal_13 : decode cJ11_ensureCapacityInternal 13 = .ok (.isub, 1) := dk_100 (dk_at dksJ11_ensureCapacityInternal_0 13 rfl rfl)
theorem dJ11_ensureCapacityInternal_14 : decode cJ11_ensureCapacityInternal 14 = .ok (.ifCond .le 24, 3) := dk_158 0 24 (dk_at dksJ11_ensureCapacityInternal_0 14 rfl rfl)
theorem dJ11_ensureCapacityInternal_17 : decode cJ11_ensureCapacityInternal 17 = .ok (.aload_n 0, 1) := dk_42 (dk_at dksJ11_ensureCapacityInternal_0 17 rfl rfl)
theorem dJ11_ensureCapacityInternal_18 : decode cJ11_ensureCapacityInternal 18 = .ok (.aload_n 0, 1) := dk_42 (dk_at dksJ11_ensureCapacityInternal_0 18 rfl rfl)
theorem dJ11_ensureCapacityInternal_19 : decode cJ11_ensureCapacityInternal 19 = .ok (.getfield 15, 3) := dk_180 0 15 (dk_at dksJ11_ensureCapacityInternal_0 19 rfl rfl)
theorem dJ11_ensureCapacityInternal_22 : decode cJ11_ensureCapacityInternal 22 = .ok (.aload_n 0, 1) := dk_42 (dk_at dksJ11_ensureCapacityInternal_0 22 rfl rfl)
theorem dJ11_ensureCapacityInternal_23 : decode cJ11_ensureCapacityInternal 23 = .ok (.iload_n 1, 1) := dk_27 (dk_at dksJ11_ensureCapacityInternal_0 23 rfl rfl)
theorem dJ11_ensureCapacityInternal_24 : decode cJ11_ensureCapacityInternal 24 = .ok (.invokevirtual 104, 3) := dk_182 0 104 (dk_at dksJ11_ensureCapacityInternal_1 0 rfl rfl)
theorem dJ11_ensureCapacityInternal_27 : decode cJ11_ensureCapacityInternal 27 = .ok (.aload_n 0, 1) := dk_42 (dk_at dksJ11_ensureCapacityInternal_1 3 rfl rfl)
theorem dJ11_ensureCapacityInternal_28 : decode cJ11_ensureCapacityInternal 28 = .ok (.getfield 22, 3) := dk_180 0 22 (dk_at dksJ11_ensureCapacityInternal_1 4 rfl rfl)
theorem dJ11_ensureCapacityInternal_31 : decode cJ11_ensureCapacityInternal 31 = .ok (.ishl, 1) := dk_120 (dk_at dksJ11_ensureCapacityInternal_1 7 rfl rfl)
theorem dJ11_ensureCapacityInternal_32 : decode cJ11_ensureCapacityInternal 32 = .ok (.invokestatic 108, 3) := dk_184 0 108 (dk_at dksJ11_ensureCapacityInternal_1 8 rfl rfl)
theorem dJ11_ensureCapacityInternal_35 : decode cJ11_ensureCapacityInternal 35 = .ok (.putfield 15, 3) := dk_181 0 15 (dk_at dksJ11_ensureCapacityInternal_1 11 rfl rfl)
theorem dJ11_ensureCapacityInternal_38 : decode cJ11_ensureCapacityInternal 38 = .ok (.return_, 1) := dk_177 (dk_at dksJ11_ensureCapacityInternal_1 14 rfl rfl)
abbrev cJ11_newCapacity : ByteArray := prog_29_method_10_code
def yJ11_newCapacity : MethodName := ⟨RJ11, "newCapacity", "(I)I"⟩
def dkwJ11_newCapacity_2 : List UInt8 := [183, 0, 124, 191, 21, 5, 42, 180, 0, 22, 122, 172]
abbrev dktJ11_newCapacity_2 : List UInt8 := dkwJ11_newCapacity_2 ++ []
def dkwJ11_newCapacity_1 : List UInt8 := [180, 0, 22, 120, 96, 184, 0, 114, 54, 5, 21, 5, 18, 39, 160, 0, 13, 187, 0, 120, 89, 18, 122]
abbrev dktJ11_newCapacity_1 : List UInt8 := dkwJ11_newCapacity_1 ++ dktJ11_newCapacity_2
def dkwJ11_newCapacity_0 : List UInt8 := [42, 180, 0, 15, 190, 61, 27, 42, 180, 0, 22, 120, 62, 29, 28, 100, 54, 4, 28, 21, 4, 28, 5, 42]
abbrev dktJ11_newCapacity_0 : List UInt8 := dkwJ11_newCapacity_0 ++ dktJ11_newCapacity_1
theorem dksJ11_newCapacity_0 : cJ11_newCapacity.data.toList.drop 0 = dktJ11_newCapacity_0 := by decide +kernel
theorem dksJ11_newCapacity_1 : cJ11_newCapacity.data.toList.drop 24 = dktJ11_newCapacity_1 := dk_seg dksJ11_newCapacity_0 24 rfl rfl
theorem dksJ11_newCapacity_2 : cJ11_newCapacity.data.toList.drop 47 = dktJ11_newCapacity_2 := dk_seg dksJ11_newCapacity_1 23 rfl rfl
theorem dJ11_newCapacity_0 : decode cJ11_newCapacity 0 = .ok (.aload_n 0, 1) := dk_42 (dk_at dksJ11_newCapacity_0 0 rfl rfl)
theorem dJ11_newCapacity_1 : decode cJ11_newCapacity 1 = .ok (.getfield 15, 3) := dk_180 0 15 (dk_at dksJ11_newCapacity_0 1 rfl rfl)
theorem dJ11_newCapacity_4 : decode cJ11_newCapacity 4 = .ok (.arraylength, 1) := dk_190 (dk_at dksJ11_newCapacity_0 4 rfl rfl)
theorem dJ11_newCapacity_5 : decode cJ11_newCapacity 5 = .ok (.istore_n 2, 1) := dk_61 (dk_at dksJ11_newCapacity_0 5 rfl rfl)
theorem dJ11_newCapacity_6 : decode cJ11_newCapacity 6 = .ok (.iload_n 1, 1) := dk_27 (dk_at dksJ11_newCapacity_0 6 rfl rfl)
theorem dJ11_newCapacity_7 : decode cJ11_newCapacity 7 = .ok (.aload_n 0, 1) := dk_42 (dk_at dksJ11_newCapacity_0 7 rfl rfl)
theorem dJ11_newCapacity_8 : decode cJ11_newCapacity 8 = .ok (.getfield 22, 3) := dk_180 0 22 (dk_at dksJ11_newCapacity_0 8 rfl rfl)
theorem dJ11_newCapacity_11 : decode cJ11_newCapacity 11 = .ok (.ishl, 1) := dk_120 (dk_at dksJ11_newCapacity_0 11 rfl rfl)
theorem dJ11_newCapacity_12 : decode cJ11_newCapacity 12 = .ok (.istore_n 3, 1) := dk_62 (dk_at dksJ11_newCapacity_0 12 rfl rfl)
theorem dJ11_newCapacity_13 : decode cJ11_newCapacity 13 = .ok (.iload_n 3, 1) := dk_29 (dk_at dksJ11_newCapacity_0 13 rfl rfl)
theorem dJ11_newCapacity_14 : decode cJ11_newCapacity 14 = .ok (.iload_n 2, 1) := dk_28 (dk_at dksJ11_newCapacity_0 14 rfl rfl)
theorem dJ11_newCapacity_15 : decode cJ11_newCapacity 15 = .ok (.isub, 1) := dk_100 (dk_at dksJ11_newCapacity_0 15 rfl rfl)
theorem dJ11_newCapacity_16 : decode cJ11_newCapacity 16 = .ok (.istore 4, 2) := dk_54 4 (dk_at dksJ11_newCapacity_0 16 rfl rfl)
theorem dJ11_newCapacity_18 : decode cJ11_newCapacity 18 = .ok (.iload_n 2, 1) := dk_28 (dk_at dksJ11_newCapacity_0 18 rfl rfl)
theorem dJ11_newCapacity_19 : decode cJ11_newCapacity 19 = .ok (.iload 4, 2) := dk_21 4 (dk_at dksJ11_newCapacity_0 19 rfl rfl)
theorem dJ11_newCapacity_21 : decode cJ11_newCapacity 21 = .ok (.iload_n 2, 1) := dk_28 (dk_at dksJ11_newCapacity_0 21 rfl rfl)
theorem dJ11_newCapacity_22 : decode cJ11_newCapacity 22 = .ok (.iconst 2, 1) := dk_5 (dk_at dksJ11_newCapacity_0 22 rfl rfl)
theorem dJ11_newCapacity_23 : decode cJ11_newCapacity 23 = .ok (.aload_n 0, 1) := dk_42 (dk_at dksJ11_newCapacity_0 23 rfl rfl)
theorem dJ11_newCapacity_24 : decode cJ11_newCapacity 24 = .ok (.getfield 22, 3) := dk_180 0 22 (dk_at dksJ11_newCapacity_1 0 rfl rfl)
theorem dJ11_newCapacity_27 : decode cJ11_newCapacity 27 = .ok (.ishl, 1) := dk_120 (dk_at dksJ11_newCapacity_1 3 rfl rfl)
theorem dJ11_newCapacity_28 : decode cJ11_newCapacity 28 = .ok (.iadd, 1) := dk_96 (dk_at dksJ11_newCapacity_1 4 rfl rfl)
theorem dJ11_newCapacity_29 : decode cJ11_newCapacity 29 = .ok (.invokestatic 114, 3) := dk_184 0 114 (dk_at dksJ11_newCapacity_1 5 rfl rfl)
theorem dJ11_newCapacity_32 : decode cJ11_newCapacity 32 = .ok (.istore 5, 2) := dk_54 5 (dk_at dksJ11_newCapacity_1 8 rfl rfl)
theorem dJ11_newCapacity_34 : decode cJ11_newCapacity 34 = .ok (.iload 5, 2) := dk_21 5 (dk_at dksJ11_newCapacity_1 10 rfl rfl)
theorem dJ11_newCapacity_36 : decode cJ11_newCapacity 36 = .ok (.ldc 39, 2) := dk_18 39 (dk_at dksJ11_newCapacity_1 12 rfl rfl)
theorem dJ11_newCapacity_38 : decode cJ11_newCapacity 38 = .ok (.if_icmp .ne 13, 3) := dk_160 0 13 (dk_at dksJ11_newCapacity_1 14 rfl rfl)
theorem dJ11_newCapacity_41 : decode cJ11_newCapacity 41 = .ok (.new 120, 3) := dk_187 0 120 (dk_at dksJ11_newCapacity_1 17 rfl rfl)
theorem dJ11_newCapacity_44 : decode cJ11_newCapacity 44 = .ok (.dup, 1) := dk_89 (dk_at dksJ11_newCapacity_1 20 rfl rfl)
theorem dJ11_newCapacity_45 : decode cJ11_newCapacity 45 = .ok (.ldc 122, 2) := dk_18 122 (dk_at dksJ11_newCapacity_1 21 rfl rfl)
theorem dJ11_newCapacity_47 : decode cJ11_newCapacity 47 = .ok (.invokespecial 124, 3) := dk_183 0 124 (dk_at dksJ11_newCapacity_2 0 rfl rfl)
theorem dJ11_newCapacity_50 : decode cJ11_newCapacity 50 = .ok (.athrow, 1) := dk_191 (dk_at dksJ11_newCapacity_2 3 rfl rfl)
theorem dJ11_newCapacity_51 : decode cJ11_newCapacity 51 = .ok (.iload 5, 2) := dk_21 5 (dk_at dksJ11_newCapacity_2 4 rfl rfl)
theorem dJ11_newCapacity_53 : decode cJ11_newCapacity 53 = .ok (.aload_n 0, 1) := dk_42 (dk_at dksJ11_newCapacity_2 6 rfl rfl)
theorem dJ11_newCapacity_54 : decode cJ11_newCapacity 54 = .ok (.getfield 22, 3) := dk_180 0 22 (dk_at dksJ11_newCapacity_2 7 rfl rfl)
theorem dJ11_newCapacity_57 : decode cJ11_newCapacity 57 = .ok (.ishr, 1) := dk_122 (dk_at dksJ11_newCapacity_2 10 rfl rfl)
theorem dJ11_newCapacity_58 : decode cJ11_newCapacity 58 = .ok (.ireturn, 1) := dk_172 (dk_at dksJ11_newCapacity_2 11 rfl rfl)
abbrev cJ11_isLatin1 : ByteArray := prog_29_method_68_code
def yJ11_isLatin1 : MethodName := ⟨RJ11, "isLatin1", "()Z"⟩
def dkwJ11_isLatin1_0 : List UInt8 := [178, 0, 18, 153, 0, 14, 42, 180, 0, 22, 154, 0, 7, 4, 167, 0, 4, 3, 172]
abbrev dktJ11_isLatin1_0 : List UInt8 := dkwJ11_isLatin1_0 ++ []
theorem dksJ11_isLatin1_0 : cJ11_isLatin1.data.toList.drop 0 = dktJ11_isLatin1_0 := by decide +kernel
theorem dJ11_isLatin1_0 : decode cJ11_isLatin1 0 = .ok (.getstatic 18, 3) := dk_178 0 18 (dk_at dksJ11_isLatin1_0 0 rfl rfl)
theorem dJ11_isLatin1_3 : decode cJ11_isLatin1 3 = .ok (.ifCond .eq 14, 3) := dk_153 0 14 (dk_at dksJ11_isLatin1_0 3 rfl rfl)
theorem dJ11_isLatin1_6 : decode cJ11_isLatin1 6 = .ok (.aload_n 0, 1) := dk_42 (dk_at dksJ11_isLatin1_0 6 rfl rfl)
theorem dJ11_isLatin1_7 : decode cJ11_isLatin1 7 = .ok (.getfield 22, 3) := dk_180 0 22 (dk_at dksJ11_isLatin1_0 7 rfl rfl)
theorem dJ11_isLatin1_10 : decode cJ11_isLatin1 10 = .ok (.ifCond .ne 7, 3) := dk_154 0 7 (dk_at dksJ11_isLatin1_0 10 rfl rfl)
theorem dJ11_isLatin1_13 : decode cJ11_isLatin1 13 = .ok (.iconst 1, 1) := dk_4 (dk_at dksJ11_isLatin1_0 13 rfl rfl)
theorem dJ11_isLatin1_14 : decode cJ11_isLatin1 14 = .ok (.goto 4, 3) := dk_167 0 4 (dk_at dksJ11_isLatin1_0 14 rfl rfl)
theorem dJ11_isLatin1_17 : decode cJ11_isLatin1 17 = .ok (.iconst 0, 1) := dk_3 (dk_at dksJ11_isLatin1_0 17 rfl rfl)
theorem dJ11_isLatin1_18 : decode cJ11_isLatin1 18 = .ok (.ireturn, 1) := dk_172 (dk_at dksJ11_isLatin1_0 18 rfl rfl)
abbrev cJ11_inflate : ByteArray := prog_29_method_11_code
def yJ11_inflate : MethodName := ⟨RJ11, "inflate", "()V"⟩
def dkwJ11_inflate_1 : List UInt8 := [42, 180, 0, 79, 184, 0, 125, 42, 43, 181, 0, 15, 42, 4, 181, 0, 22, 177]
abbrev dktJ11_inflate_1 : List UInt8 := dkwJ11_inflate_1 ++ []
def dkwJ11_inflate_0 : List UInt8 := [42, 182, 0, 83, 154, 0, 4, 177, 42, 180, 0, 15, 190, 184, 0, 26, 76, 42, 180, 0, 15, 3, 43, 3]
abbrev dktJ11_inflate_0 : List UInt8 := dkwJ11_inflate_0 ++ dktJ11_inflate_1
theorem dksJ11_inflate_0 : cJ11_inflate.data.toList.drop 0 = dktJ11_inflate_0 := by decide +kernel
theorem dksJ11_inflate_1 : cJ11_inflate.data.toList.drop 24 = dktJ11_inflate_1 := dk_seg dksJ11_inflate_0 24 rfl rfl
theorem dJ11_inflate_0 : decode cJ11_inflate 0 = .ok (.aload_n 0, 1) := dk_42 (dk_at dksJ11_inflate_0 0 rfl rfl)
theorem dJ11_inflate_1 : decode cJ11_inflate 1 = .ok (.invokevirtual 83, 3) := dk_182 0 83 (dk_at dksJ11_inflate_0 1 rfl rfl)
theorem dJ11_inflate_4 : decode cJ11_inflate 4 = .ok (.ifCond .ne 4, 3) := dk_154 0 4 (dk_at dksJ11_inflate_0 4 rfl rfl)
theorem dJ11_inflate_7 : decode cJ11_inflate 7 = .ok (.return_, 1) := dk_177 (dk_at dksJ11_inflate_0 7 rfl rfl)
theorem dJ11_inflate_8 : decode cJ11_inflate 8 = .ok (.aload_n 0, 1) := dk_42 (dk_at dksJ11_inflate_0 8 rfl rfl)
theorem dJ11_inflate_9 : decode cJ11_inflate 9 = .ok (.getfield 15, 3) := dk_180 0 15 (dk_at dksJ11_inflate_0 9 rfl rfl)
theorem dJ11_inflate_12 : decode cJ11_inflate 12 = .ok (.arraylength, 1) := dk_190 (dk_at dksJ11_inflate_0 12 rfl rfl)
theorem dJ11_inflate_13 : decode cJ11_inflate 13 = .ok (.invokestatic 26, 3) := dk_184 0 26 (dk_at dksJ11_inflate_0 13 rfl rfl)
theorem dJ11_inflate_16 : decode cJ11_inflate 16 = .ok (.astore_n 1, 1) := dk_76 (dk_at dksJ11_inflate_0 16 rfl rfl)
theorem dJ11_inflate_17 : decode cJ11_inflate 17 = .ok (.aload_n 0, 1) := dk_42 (dk_at dksJ11_inflate_0 17 rfl rfl)
theorem dJ11_inflate_18 : decode cJ11_inflate 18 = .ok (.getfield 15, 3) := dk_180 0 15 (dk_at dksJ11_inflate_0 18 rfl rfl)
theorem dJ11_inflate_21 : decode cJ11_inflate 21 = .ok (.iconst 0, 1) := dk_3 (dk_at dksJ11_inflate_0 21 rfl rfl)
theorem dJ11_inflate_22 : decode cJ11_inflate 22 = .ok (.aload_n 1, 1) := dk_43 (dk_at dksJ11_inflate_0 22 rfl rfl)
theorem dJ11_inflate_23 : decode cJ11_inflate 23 = .ok (.iconst 0, 1) := dk_3 (dk_at dksJ11_inflate_0 23 rfl rfl)
theorem dJ11_inflate_24 : decode cJ11_inflate 24 = .ok (.aload_n 0, 1) := dk_42 (dk_at dksJ11_inflate_1 0 rfl rfl)
theorem dJ11_inflate_25 : decode cJ11_inflate 25 = .ok (.getfield 79, 3) := dk_180 0 79 (dk_at dksJ11_inflate_1 1 rfl rfl)
theorem dJ11_inflate_28 : decode cJ11_inflate 28 = .ok (.invokestatic 125, 3) := dk_184 0 125 (dk_at dksJ11_inflate_1 4 rfl rfl)
theorem dJ11_inflate_31 : decode cJ11_inflate 31 = .ok (.aload_n 0, 1) := dk_42 (dk_at dksJ11_inflate_1 7 rfl rfl)
theorem dJ11_inflate_32 : decode cJ11_inflate 32 = .ok (.aload_n 1, 1) := dk_43 (dk_at dksJ11_inflate_1 8 rfl rfl)
theorem dJ11_inflate_33 : decode cJ11_inflate 33 = .ok (.putfield 15, 3) := dk_181 0 15 (dk_at dksJ11_inflate_1 9 rfl rfl)
theorem dJ11_inflate_36 : decode cJ11_inflate 36 = .ok (.aload_n 0, 1) := dk_42 (dk_at dksJ11_inflate_1 12 rfl rfl)
theorem dJ11_inflate_37 : decode cJ11_inflate 37 = .ok (.iconst 1, 1) := dk_4 (dk_at dksJ11_inflate_1 13 rfl rfl)
theorem dJ11_inflate_38 : decode cJ11_inflate 38 = .ok (.putfield 22, 3) := dk_181 0 22 (dk_at dksJ11_inflate_1 14 rfl rfl)
theorem dJ11_inflate_41 : decode cJ11_inflate 41 = .ok (.return_, 1) := dk_177 (dk_at dksJ11_inflate_1 17 rfl rfl)
abbrev cJ11_getValue : ByteArray := prog_29_method_64_code
def yJ11_getValue : MethodName := ⟨RJ11, "getValue", "()[B"⟩
theorem dJ11_getValue_0 : decode cJ11_getValue 0 = .ok (.aload_n 0, 1) := by decide +kernel
theorem dJ11_getValue_1 : decode cJ11_getValue 1 = .ok (.getfield 15, 3) := by decide +kernel
theorem dJ11_getValue_4 : decode cJ11_getValue 4 = .ok (.areturn, 1) := by decide +kernel
abbrev cJ11_length : ByteArray := prog_29_method_6_code
def yJ11_length : MethodName := ⟨RJ11, "length", "()I"⟩
theorem dJ11_length_0 : decode cJ11_length 0 = .ok (.aload_n 0, 1) := by decide +kernel
theorem dJ11_length_1 : decode cJ11_length 1 = .ok (.getfield 79, 3) := by decide +kernel
theorem dJ11_length_4 : decode cJ11_length 4 = .ok (.ireturn, 1) := by decide +kernel
abbrev cJ11_append_2 : ByteArray := prog_29_method_32_code
def yJ11_append_2 : MethodName := ⟨RJ11, "append", "(I)Ljava/lang/AbstractStringBuilder;"⟩
def dkwJ11_append_2_2 : List UInt8 := [42, 29, 181, 0, 79, 42, 176]
abbrev dktJ11_append_2_2 : List UInt8 := dkwJ11_append_2_2 ++ []
def dkwJ11_append_2_1 : List UInt8 := [27, 29, 42, 180, 0, 15, 184, 0, 248, 87, 167, 0, 14, 27, 28, 29, 42, 180, 0, 15, 184, 0, 251, 87]
abbrev dktJ11_append_2_1 : List UInt8 := dkwJ11_append_2_1 ++ dktJ11_append_2_2
def dkwJ11_append_2_0 : List UInt8 := [42, 180, 0, 79, 61, 28, 27, 184, 0, 245, 96, 62, 42, 29, 182, 0, 100, 42, 182, 0, 83, 153, 0, 16]
abbrev dktJ11_append_2_0 : List UInt8 := dkwJ11_append_2_0 ++ dktJ11_append_2_1
theorem dksJ11_append_2_0 : cJ11_append_2.data.toList.drop 0 = dktJ11_append_2_0 := by decide +kernel
theorem dksJ11_append_2_1 : cJ11_append_2.data.toList.drop 24 = dktJ11_append_2_1 := dk_seg dksJ11_append_2_0 24 rfl rfl
theorem dksJ11_append_2_2 : cJ11_append_2.data.toList.drop 48 = dktJ11_append_2_2 := dk_seg dksJ11_append_2_1 24 rfl rfl
theorem dJ11_append_2_0 : decode cJ11_append_2 0 = .ok (.aload_n 0, 1) := dk_42 (dk_at dksJ11_append_2_0 0 rfl rfl)
theorem dJ11_append_2_1 : decode cJ11_append_2 1 = .ok (.getfield 79, 3) := dk_180 0 79 (dk_at dksJ11_append_2_0 1 rfl rfl)
theorem dJ11_append_2_4 : decode cJ11_append_2 4 = .ok (.istore_n 2, 1) := dk_61 (dk_at dksJ11_append_2_0 4 rfl rfl)
theorem dJ11_append_2_5 : decode cJ11_append_2 5 = .ok (.iload_n 2, 1) := dk_28 (dk_at dksJ11_append_2_0 5 rfl rfl)
theorem dJ11_append_2_6 : decode cJ11_append_2 6 = .ok (.iload_n 1, 1) := dk_27 (dk_at dksJ11_append_2_0 6 rfl rfl)
theorem dJ11_append_2_7 : decode cJ11_append_2 7 = .ok (.invokestatic 245, 3) := dk_184 0 245 (dk_at dksJ11_append_2_0 7 rfl rfl)
theorem dJ11_append_2_10 : decode cJ11_append_2 10 = .ok (.iadd, 1) := dk_96 (dk_at dksJ11_append_2_0 10 rfl rfl)
theorem dJ11_append_2_11 : decode cJ11_append_2 11 = .ok (.istore_n 3, 1) := dk_62 (dk_at dksJ11_append_2_0 11 rfl rfl)
theorem dJ11_append_2_12 : decode cJ11_append_2 12 = .ok (.aload_n 0, 1) := dk_42 (dk_at dksJ11_append_2_0 12 rfl rfl)
theorem dJ11_append_2_13 : decode cJ11_append_2 13 = .ok (.iload_n 3, 1) := dk_29 (dk_at dksJ11_append_2_0 13 rfl rfl)
theorem dJ11_append_2_14 : decode cJ11_append_2 14 = .ok (.invokevirtual 100, 3) := dk_182 0 100 (dk_at dksJ11_append_2_0 14 rfl rfl)
theorem dJ11_append_2_17 : decode cJ11_append_2 17 = .ok (.aload_n 0, 1) := dk_42 (dk_at dksJ11_append_2_0 17 rfl rfl)
theorem dJ11_append_2_18 : decode cJ11_append_2 18 = .ok (.invokevirtual 83, 3) := dk_182 0 83 (dk_at dksJ11_append_2_0 18 rfl rfl)
theorem dJ11_append_2_21 : decode cJ11_append_2 21 = .ok (.ifCond .eq 16, 3) := dk_153 0 16 (dk_at dksJ11_append_2_0 21 rfl rfl)
theorem dJ11_append_2_24 : decode cJ11_append_2 24 = .ok (.iload_n 1, 1) := dk_27 (dk_at dksJ11_append_2_1 0 rfl rfl)
theorem dJ11_append_2_25 : decode cJ11_append_2 25 = .ok (.iload_n 3, 1) := dk_29 (dk_at dksJ11_append_2_1 1 rfl rfl)
theorem dJ11_append_2_26 : decode cJ11_append_2 26 = .ok (.aload_n 0, 1) := dk_42 (dk_at dksJ11_append_2_1 2 rfl rfl)
theorem dJ11_append_2_27 : decode cJ11_append_2 27 = .ok (.getfield 15, 3) := dk_180 0 15 (dk_at dksJ11_append_2_1 3 rfl rfl)
theorem dJ11_append_2_30 : decode cJ11_append_2 30 = .ok (.invokestatic 248, 3) := dk_184 0 248 (dk_at dksJ11_append_2_1 6 rfl rfl)
theorem dJ11_append_2_33 : decode cJ11_append_2 33 = .ok (.pop, 1) := dk_87 (dk_at dksJ11_append_2_1 9 rfl rfl)
theorem dJ11_append_2_34 : decode cJ11_append_2 34 = .ok (.goto 14, 3) := dk_167 0 14 (dk_at dksJ11_append_2_1 10 rfl rfl)
theorem dJ11_append_2_37 : decode cJ11_append_2 37 = .ok (.iload_n 1, 1) := dk_27 (dk_at dksJ11_append_2_1 13 rfl rfl)
theorem dJ11_append_2_38 : decode cJ11_append_2 38 = .ok (.iload_n 2, 1) := dk_28 (dk_at dksJ11_append_2_1 14 rfl rfl)
theorem dJ11_append_2_39 : decode cJ11_append_2 39 = .ok (.iload_n 3, 1) := dk_29 (dk_at dksJ11_append_2_1 15 rfl rfl)
theorem dJ11_append_2_40 : decode cJ11_append_2 40 = .ok (.aload_n 0, 1) := dk_42 (dk_at dksJ11_append_2_1 16 rfl rfl)
theorem dJ11_append_2_41 : decode cJ11_append_2 41 = .ok (.getfield 15, 3) := dk_180 0 15 (dk_at dksJ11_append_2_1 17 rfl rfl)
theorem dJ11_append_2_44 : decode cJ11_append_2 44 = .ok (.invokestatic 251, 3) := dk_184 0 251 (dk_at dksJ11_append_2_1 20 rfl rfl)
theorem dJ11_append_2_47 : decode cJ11_append_2 47 = .ok (.pop, 1) := dk_87 (dk_at dksJ11_append_2_1 23 rfl rfl)
theorem dJ11_append_2_48 : decode cJ11_append_2 48 = .ok (.aload_n 0, 1) := dk_42 (dk_at dksJ11_append_2_2 0 rfl rfl)
theorem dJ11_append_2_49 : decode cJ11_append_2 49 = .ok (.iload_n 3, 1) := dk_29 (dk_at dksJ11_append_2_2 1 rfl rfl)
theorem dJ11_append_2_50 : decode cJ11_append_2 50 = .ok (.putfield 79, 3) := dk_181 0 79 (dk_at dksJ11_append_2_2 2 rfl rfl)
theorem dJ11_append_2_53 : decode cJ11_append_2 53 = .ok (.aload_n 0, 1) := dk_42 (dk_at dksJ11_append_2_2 5 rfl rfl)
theorem dJ11_append_2_54 : decode cJ11_append_2 54 = .ok (.areturn, 1) := dk_176 (dk_at dksJ11_append_2_2 6 rfl rfl)
abbrev cJ11_append_3 : ByteArray := prog_29_method_22_code
def yJ11_append_3 : MethodName := ⟨RJ11, "append", "(Ljava/lang/String;)Ljava/lang/AbstractStringBuilder;"⟩
def dkwJ11_append_3_1 : List UInt8 := [42, 42, 180, 0, 79, 43, 182, 0, 208, 42, 89, 180, 0, 79, 28, 96, 181, 0, 79, 42, 176]
abbrev dktJ11_append_3_1 : List UInt8 := dkwJ11_append_3_1 ++ []
def dkwJ11_append_3_0 : List UInt8 := [43, 199, 0, 8, 42, 182, 0, 204, 176, 43, 182, 0, 32, 61, 42, 42, 180, 0, 79, 28, 96, 182, 0, 100]
abbrev dktJ11_append_3_0 : List UInt8 := dkwJ11_append_3_0 ++ dktJ11_append_3_1
theorem dksJ11_append_3_0 : cJ11_append_3.data.toList.drop 0 = dktJ11_append_3_0 := by decide +kernel
theorem dksJ11_append_3_1 : cJ11_append_3.data.toList.drop 24 = dktJ11_append_3_1 := dk_seg dksJ11_append_3_0 24 rfl rfl
theorem dJ11_append_3_0 : decode cJ11_append_3 0 = .ok (.aload_n 1, 1) := dk_43 (dk_at dksJ11_append_3_0 0 rfl rfl)
theorem dJ11_append_3_1 : decode cJ11_append_3 1 = .ok (.ifnonnull 8, 3) := dk_199 0 8 (dk_at dksJ11_append_3_0 1 rfl rfl)
theorem dJ11_append_3_4 : decode cJ11_append_3 4 = .ok (.aload_n 0, 1) := dk_42 (dk_at dksJ11_append_3_0 4 rfl rfl)
theorem dJ11_append_3_5 : decode cJ11_append_3 5 = .ok (.invokevirtual 204, 3) := dk_182 0 204 (dk_at dksJ11_append_3_0 5 rfl rfl)
theorem dJ11_append_3_8 : decode cJ11_append_3 8 = .ok (.areturn, 1) := dk_176 (dk_at dksJ11_append_3_0 8 rfl rfl)
theorem dJ11_append_3_9 : decode cJ11_append_3 9 = .ok (.aload_n 1, 1) := dk_43 (dk_at dksJ11_append_3_0 9 rfl rfl)
theorem dJ11_append_3_10 : decode cJ11_append_3 10 = .ok (.invokevirtual 32, 3) := dk_182 0 32 (dk_at dksJ11_append_3_0 10 rfl rfl)
theorem dJ11_append_3_13 : decode cJ11_append_3 13 = .ok (.istore_n 2, 1) := dk_61 (dk_at dksJ11_append_3_0 13 rfl rfl)
theorem dJ11_append_3_14 : decode cJ11_append_3 14 = .ok (.aload_n 0, 1) := dk_42 (dk_at dksJ11_append_3_0 14 rfl rfl)
theorem dJ11_append_3_15 : decode cJ11_append_3 15 = .ok (.aload_n 0, 1) := dk_42 (dk_at dksJ11_append_3_0 15 rfl rfl)
theorem dJ11_append_3_16 : decode cJ11_append_3 16 = .ok (.getfield 79, 3) := dk_180 0 79 (dk_at dksJ11_append_3_0 16 rfl rfl)
theorem dJ11_append_3_19 : decode cJ11_append_3 19 = .ok (.iload_n 2, 1) := dk_28 (dk_at dksJ11_append_3_0 19 rfl rfl)
theorem dJ11_append_3_20 : decode cJ11_append_3 20 = .ok (.iadd, 1) := dk_96 (dk_at dksJ11_append_3_0 20 rfl rfl)
theorem dJ11_append_3_21 : decode cJ11_append_3 21 = .ok (.invokevirtual 100, 3) := dk_182 0 100 (dk_at dksJ11_append_3_0 21 rfl rfl)
theorem dJ11_append_3_24 : decode cJ11_append_3 24 = .ok (.aload_n 0, 1) := dk_42 (dk_at dksJ11_append_3_1 0 rfl rfl)
theorem dJ11_append_3_25 : decode cJ11_append_3 25 = .ok (.aload_n 0, 1) := dk_42 (dk_at dksJ11_append_3_1 1 rfl rfl)
theorem dJ11_append_3_26 : decode cJ11_append_3 26 = .ok (.getfield 79, 3) := dk_180 0 79 (dk_at dksJ11_append_3_1 2 rfl rfl)
theorem dJ11_append_3_29 : decode cJ11_append_3 29 = .ok (.aload_n 1, 1) := dk_43 (dk_at dksJ11_append_3_1 5 rfl rfl)
theorem dJ11_append_3_30 : decode cJ11_append_3 30 = .ok (.invokevirtual 208, 3) := dk_182 0 208 (dk_at dksJ11_append_3_1 6 rfl rfl)
theorem dJ11_append_3_33 : decode cJ11_append_3 33 = .ok (.aload_n 0, 1) := dk_42 (dk_at dksJ11_append_3_1 9 rfl rfl)
theorem dJ11_append_3_34 : decode cJ11_append_3 34 = .ok (.dup, 1) := dk_89 (dk_at dksJ11_append_3_1 10 rfl rfl)
theorem dJ11_append_3_35 : decode cJ11_append_3 35 = .ok (.getfield 79, 3) := dk_180 0 79 (dk_at dksJ11_append_3_1 11 rfl rfl)
theorem dJ11_append_3_38 : decode cJ11_append_3 38 = .ok (.iload_n 2, 1) := dk_28 (dk_at dksJ11_append_3_1 14 rfl rfl)
theorem dJ11_append_3_39 : decode cJ11_append_3 39 = .ok (.iadd, 1) := dk_96 (dk_at dksJ11_append_3_1 15 rfl rfl)
theorem dJ11_append_3_40 : decode cJ11_append_3 40 = .ok (.putfield 79, 3) := dk_181 0 79 (dk_at dksJ11_append_3_1 16 rfl rfl)
theorem dJ11_append_3_43 : decode cJ11_append_3 43 = .ok (.aload_n 0, 1) := dk_42 (dk_at dksJ11_append_3_1 19 rfl rfl)
theorem dJ11_append_3_44 : decode cJ11_append_3 44 = .ok (.areturn, 1) := dk_176 (dk_at dksJ11_append_3_1 20 rfl rfl)
abbrev cJ11_appendNull : ByteArray := prog_29_method_26_code
def yJ11_appendNull : MethodName := ⟨RJ11, "appendNull", "()Ljava/lang/AbstractStringBuilder;"⟩
def dkwJ11_appendNull_3 : List UInt8 := [184, 0, 226, 60, 42, 27, 181, 0, 79, 42, 176]
abbrev dktJ11_appendNull_3 : List UInt8 := dkwJ11_appendNull_3 ++ []
def dkwJ11_appendNull_2 : List UInt8 := [16, 108, 84, 44, 27, 132, 1, 1, 16, 108, 84, 167, 0, 17, 44, 27, 16, 110, 16, 117, 16, 108, 16, 108]
abbrev dktJ11_appendNull_2 : List UInt8 := dkwJ11_appendNull_2 ++ dktJ11_appendNull_3
def dkwJ11_appendNull_1 : List UInt8 := [153, 0, 38, 44, 27, 132, 1, 1, 16, 110, 84, 44, 27, 132, 1, 1, 16, 117, 84, 44, 27, 132, 1, 1]
abbrev dktJ11_appendNull_1 : List UInt8 := dkwJ11_appendNull_1 ++ dktJ11_appendNull_2
def dkwJ11_appendNull_0 : List UInt8 := [42, 42, 180, 0, 79, 7, 96, 182, 0, 100, 42, 180, 0, 79, 60, 42, 180, 0, 15, 77, 42, 182, 0, 83]
abbrev dktJ11_appendNull_0 : List UInt8 := dkwJ11_appendNull_0 ++ dktJ11_appendNull_1
theorem dksJ11_appendNull_0 : cJ11_appendNull.data.toList.drop 0 = dktJ11_appendNull_0 := by decide +kernel
theorem dksJ11_appendNull_1 : cJ11_appendNull.data.toList.drop 24 = dktJ11_appendNull_1 := dk_seg dksJ11_appendNull_0 24 rfl rfl
theorem dksJ11_appendNull_2 : cJ11_appendNull.data.toList.drop 48 = dktJ11_appendNull_2 := dk_seg dksJ11_appendNull_1 24 rfl rfl
theorem dksJ11_appendNull_3 : cJ11_appendNull.data.toList.drop 72 = dktJ11_appendNull_3 := dk_seg dksJ11_appendNull_2 24 rfl rfl
theorem dJ11_appendNull_0 : decode cJ11_appendNull 0 = .ok (.aload_n 0, 1) := dk_42 (dk_at dksJ11_appendNull_0 0 rfl rfl)
theorem dJ11_appendNull_1 : decode cJ11_appendNull 1 = .ok (.aload_n 0, 1) := dk_42 (dk_at dksJ11_appendNull_0 1 rfl rfl)
theorem dJ11_appendNull_2 : decode cJ11_appendNull 2 = .ok (.getfield 79, 3) := dk_180 0 79 (dk_at dksJ11_appendNull_0 2 rfl rfl)
theorem dJ11_appendNull_5 : decode cJ11_appendNull 5 = .ok (.iconst 4, 1) := dk_7 (dk_at dksJ11_appendNull_0 5 rfl rfl)
theorem dJ11_appendNull_6 : decode cJ11_appendNull 6 = .ok (.iadd, 1) := dk_96 (dk_at dksJ11_appendNull_0 6 rfl rfl)
theorem dJ11_appendNull_7 : decode cJ11_appendNull 7 = .ok (.invokevirtual 100, 3) := dk_182 0 100 (dk_at dksJ11_appendNull_0 7 rfl rfl)
theorem dJ11_appendNull_10 : decode cJ11_appendNull 10 = .ok (.aload_n 0, 1) := dk_42 (dk_at dksJ11_appendNull_0 10 rfl rfl)
theorem dJ11_appendNull_11 : decode cJ11_appendNull 11 = .ok (.getfield 79, 3) := dk_180 0 79 (dk_at dksJ11_appendNull_0 11 rfl rfl)
theorem dJ11_appendNull_14 : decode cJ11_appendNull 14 = .ok (.istore_n 1, 1) := dk_60 (dk_at dksJ11_appendNull_0 14 rfl rfl)
theorem dJ11_appendNull_15 : decode cJ11_appendNull 15 = .ok (.aload_n 0, 1) := dk_42 (dk_at dksJ11_appendNull_0 15 rfl rfl)
theorem dJ11_appendNull_16 : decode cJ11_appendNull 16 = .ok (.getfield 15, 3) := dk_180 0 15 (dk_at dksJ11_appendNull_0 16 rfl rfl)
theorem dJ11_appendNull_19 : decode cJ11_appendNull 19 = .ok (.astore_n 2, 1) := dk_77 (dk_at dksJ11_appendNull_0 19 rfl rfl)
theorem dJ11_appendNull_20 : decode cJ11_appendNull 20 = .ok (.aload_n 0, 1) := dk_42 (dk_at dksJ11_appendNull_0 20 rfl rfl)
theorem dJ11_appendNull_21 : decode cJ11_appendNull 21 = .ok (.invokevirtual 83, 3) := dk_182 0 83 (dk_at dksJ11_appendNull_0 21 rfl rfl)
theorem dJ11_appendNull_24 : decode cJ11_appendNull 24 = .ok (.ifCond .eq 38, 3) := dk_153 0 38 (dk_at dksJ11_appendNull_1 0 rfl rfl)
theorem dJ11_appendNull_27 : decode cJ11_appendNull 27 = .ok (.aload_n 2, 1) := dk_44 (dk_at dksJ11_appendNull_1 3 rfl rfl)
theorem dJ11_appendNull_28 : decode cJ11_appendNull 28 = .ok (.iload_n 1, 1) := dk_27 (dk_at dksJ11_appendNull_1 4 rfl rfl)
theorem dJ11_appendNull_29 : decode cJ11_appendNull 29 = .ok (.iinc 1 1, 3) := dk_132 1 1 (dk_at dksJ11_appendNull_1 5 rfl rfl)
theorem dJ11_appendNull_32 : decode cJ11_appendNull 32 = .ok (.bipush 110, 2) := dk_16 110 (dk_at dksJ11_appendNull_1 8 rfl rfl)
theorem dJ11_appendNull_34 : decode cJ11_appendNull 34 = .ok (.bastore, 1) := dk_84 (dk_at dksJ11_appendNull_1 10 rfl rfl)
theorem dJ11_appendNull_35 : decode cJ11_appendNull 35 = .ok (.aload_n 2, 1) := dk_44 (dk_at dksJ11_appendNull_1 11 rfl rfl)
theorem dJ11_appendNull_36 : decode cJ11_appendNull 36 = .ok (.iload_n 1, 1) := dk_27 (dk_at dksJ11_appendNull_1 12 rfl rfl)
theorem dJ11_appendNull_37 : decode cJ11_appendNull 37 = .ok (.iinc 1 1, 3) := dk_132 1 1 (dk_at dksJ11_appendNull_1 13 rfl rfl)
theorem dJ11_appendNull_40 : decode cJ11_appendNull 40 = .ok (.bipush 117, 2) := dk_16 117 (dk_at dksJ11_appendNull_1 16 rfl rfl)
theorem dJ11_appendNull_42 : decode cJ11_appendNull 42 = .ok (.bastore, 1) := dk_84 (dk_at dksJ11_appendNull_1 18 rfl rfl)
theorem dJ11_appendNull_43 : decode cJ11_appendNull 43 = .ok (.aload_n 2, 1) := dk_44 (dk_at dksJ11_appendNull_1 19 rfl rfl)
theorem dJ11_appendNull_44 : decode cJ11_appendNull 44 = .ok (.iload_n 1, 1) := dk_27 (dk_at dksJ11_appendNull_1 20 rfl rfl)
theorem dJ11_appendNull_45 : decode cJ11_appendNull 45 = .ok (.iinc 1 1, 3) := dk_132 1 1 (dk_at dksJ11_appendNull_1 21 rfl rfl)
theorem dJ11_appendNull_48 : decode cJ11_appendNull 48 = .ok (.bipush 108, 2) := dk_16 108 (dk_at dksJ11_appendNull_2 0 rfl rfl)
theorem dJ11_appendNull_50 : decode cJ11_appendNull 50 = .ok (.bastore, 1) := dk_84 (dk_at dksJ11_appendNull_2 2 rfl rfl)
theorem dJ11_appendNull_51 : decode cJ11_appendNull 51 = .ok (.aload_n 2, 1) := dk_44 (dk_at dksJ11_appendNull_2 3 rfl rfl)
theorem dJ11_appendNull_52 : decode cJ11_appendNull 52 = .ok (.iload_n 1, 1) := dk_27 (dk_at dksJ11_appendNull_2 4 rfl rfl)
theorem dJ11_appendNull_53 : decode cJ11_appendNull 53 = .ok (.iinc 1 1, 3) := dk_132 1 1 (dk_at dksJ11_appendNull_2 5 rfl rfl)
theorem dJ11_appendNull_56 : decode cJ11_appendNull 56 = .ok (.bipush 108, 2) := dk_16 108 (dk_at dksJ11_appendNull_2 8 rfl rfl)
theorem dJ11_appendNull_58 : decode cJ11_appendNull 58 = .ok (.bastore, 1) := dk_84 (dk_at dksJ11_appendNull_2 10 rfl rfl)
theorem dJ11_appendNull_59 : decode cJ11_appendNull 59 = .ok (.goto 17, 3) := dk_167 0 17 (dk_at dksJ11_appendNull_2 11 rfl rfl)
theorem dJ11_appendNull_62 : decode cJ11_appendNull 62 = .ok (.aload_n 2, 1) := dk_44 (dk_at dksJ11_appendNull_2 14 rfl rfl)
theorem dJ11_appendNull_63 : decode cJ11_appendNull 63 = .ok (.iload_n 1, 1) := dk_27 (dk_at dksJ11_appendNull_2 15 rfl rfl)
theorem dJ11_appendNull_64 : decode cJ11_appendNull 64 = .ok (.bipush 110, 2) := dk_16 110 (dk_at dksJ11_appendNull_2 16 rfl rfl)
theorem dJ11_appendNull_66 : decode cJ11_appendNull 66 = .ok (.bipush 117, 2) := dk_16 117 (dk_at dksJ11_appendNull_2 18 rfl rfl)
theorem dJ11_appendNull_68 : decode cJ11_appendNull 68 = .ok (.bipush 108, 2) := dk_16 108 (dk_at dksJ11_appendNull_2 20 rfl rfl)
theorem dJ11_appendNull_70 : decode cJ11_appendNull 70 = .ok (.bipush 108, 2) := dk_16 108 (dk_at dksJ11_appendNull_2 22 rfl rfl)
theorem dJ11_appendNull_72 : decode cJ11_appendNull 72 = .ok (.invokestatic 226, 3) := dk_184 0 226 (dk_at dksJ11_appendNull_3 0 rfl rfl)
theorem dJ11_appendNull_75 : decode cJ11_appendNull 75 = .ok (.istore_n 1, 1) := dk_60 (dk_at dksJ11_appendNull_3 3 rfl rfl)
theorem dJ11_appendNull_76 : decode cJ11_appendNull 76 = .ok (.aload_n 0, 1) := dk_42 (dk_at dksJ11_appendNull_3 4 rfl rfl)
theorem dJ11_appendNull_77 : decode cJ11_appendNull 77 = .ok (.iload_n 1, 1) := dk_27 (dk_at dksJ11_appendNull_3 5 rfl rfl)
theorem dJ11_appendNull_78 : decode cJ11_appendNull 78 = .ok (.putfield 79, 3) := dk_181 0 79 (dk_at dksJ11_appendNull_3 6 rfl rfl)
theorem dJ11_appendNull_81 : decode cJ11_appendNull 81 = .ok (.aload_n 0, 1) := dk_42 (dk_at dksJ11_appendNull_3 9 rfl rfl)
theorem dJ11_appendNull_82 : decode cJ11_appendNull 82 = .ok (.areturn, 1) := dk_176 (dk_at dksJ11_appendNull_3 10 rfl rfl)
abbrev cJ11_putStringAt : ByteArray := prog_29_method_73_code
def yJ11_putStringAt : MethodName := ⟨RJ11, "putStringAt", "(ILjava/lang/String;)V"⟩
def dkwJ11_putStringAt_0 : List UInt8 := [42, 44, 182, 1, 141, 44, 42, 180, 0, 15, 27, 42, 180, 0, 22, 182, 1, 143, 177]
abbrev dktJ11_putStringAt_0 : List UInt8 := dkwJ11_putStringAt_0 ++ []
theorem dksJ11_putStringAt_0 : cJ11_putStringAt.data.toList.drop 0 = dktJ11_putStringAt_0 := by decide +kernel
theorem dJ11_putStringAt_0 : decode cJ11_putStringAt 0 = .ok (.aload_n 0, 1) := dk_42 (dk_at dksJ11_putStringAt_0 0 rfl rfl)
theorem dJ11_putStringAt_1 : decode cJ11_putStringAt 1 = .ok (.aload_n 2, 1) := dk_44 (dk_at dksJ11_putStringAt_0 1 rfl rfl)
theorem dJ11_putStringAt_2 : decode cJ11_putStringAt 2 = .ok (.invokevirtual 397, 3) := dk_182 1 141 (dk_at dksJ11_putStringAt_0 2 rfl rfl)
theorem dJ11_putStringAt_5 : decode cJ11_putStringAt 5 = .ok (.aload_n 2, 1) := dk_44 (dk_at dksJ11_putStringAt_0 5 rfl rfl)
theorem dJ11_putStringAt_6 : decode cJ11_putStringAt 6 = .ok (.aload_n 0, 1) := dk_42 (dk_at dksJ11_putStringAt_0 6 rfl rfl)
theorem dJ11_putStringAt_7 : decode cJ11_putStringAt 7 = .ok (.getfield 15, 3) := dk_180 0 15 (dk_at dksJ11_putStringAt_0 7 rfl rfl)
theorem dJ11_putStringAt_10 : decode cJ11_putStringAt 10 = .ok (.iload_n 1, 1) := dk_27 (dk_at dksJ11_putStringAt_0 10 rfl rfl)
theorem dJ11_putStringAt_11 : decode cJ11_putStringAt 11 = .ok (.aload_n 0, 1) := dk_42 (dk_at dksJ11_putStringAt_0 11 rfl rfl)
theorem dJ11_putStringAt_12 : decode cJ11_putStringAt 12 = .ok (.getfield 22, 3) := dk_180 0 22 (dk_at dksJ11_putStringAt_0 12 rfl rfl)
theorem dJ11_putStringAt_15 : decode cJ11_putStringAt 15 = .ok (.invokevirtual 399, 3) := dk_182 1 143 (dk_at dksJ11_putStringAt_0 15 rfl rfl)
theorem dJ11_putStringAt_18 : decode cJ11_putStringAt 18 = .ok (.return_, 1) := dk_177 (dk_at dksJ11_putStringAt_0 18 rfl rfl)
abbrev cJ11_inflateIfNeededFor : ByteArray := prog_29_method_71_code
def yJ11_inflateIfNeededFor : MethodName := ⟨RJ11, "inflateIfNeededFor", "(Ljava/lang/String;)V"⟩
def dkwJ11_inflateIfNeededFor_0 : List UInt8 := [178, 0, 18, 153, 0, 18, 42, 180, 0, 22, 43, 182, 0, 40, 159, 0, 7, 42, 182, 0, 195, 177]
abbrev dktJ11_inflateIfNeededFor_0 : List UInt8 := dkwJ11_inflateIfNeededFor_0 ++ []
theorem dksJ11_inflateIfNeededFor_0 : cJ11_inflateIfNeededFor.data.toList.drop 0 = dktJ11_inflateIfNeededFor_0 := by decide +kernel
theorem dJ11_inflateIfNeededFor_0 : decode cJ11_inflateIfNeededFor 0 = .ok (.getstatic 18, 3) := dk_178 0 18 (dk_at dksJ11_inflateIfNeededFor_0 0 rfl rfl)
theorem dJ11_inflateIfNeededFor_3 : decode cJ11_inflateIfNeededFor 3 = .ok (.ifCond .eq 18, 3) := dk_153 0 18 (dk_at dksJ11_inflateIfNeededFor_0 3 rfl rfl)
theorem dJ11_inflateIfNeededFor_6 : decode cJ11_inflateIfNeededFor 6 = .ok (.aload_n 0, 1) := dk_42 (dk_at dksJ11_inflateIfNeededFor_0 6 rfl rfl)
theorem dJ11_inflateIfNeededFor_7 : decode cJ11_inflateIfNeededFor 7 = .ok (.getfield 22, 3) := dk_180 0 22 (dk_at dksJ11_inflateIfNeededFor_0 7 rfl rfl)
theorem dJ11_inflateIfNeededFor_10 : decode cJ11_inflateIfNeededFor 10 = .ok (.aload_n 1, 1) := dk_43 (dk_at dksJ11_inflateIfNeededFor_0 10 rfl rfl)
theorem dJ11_inflateIfNeededFor_11 : decode cJ11_inflateIfNeededFor 11 = .ok (.invokevirtual 40, 3) := dk_182 0 40 (dk_at dksJ11_inflateIfNeededFor_0 11 rfl rfl)
theorem dJ11_inflateIfNeededFor_14 : decode cJ11_inflateIfNeededFor 14 = .ok (.if_icmp .eq 7, 3) := dk_159 0 7 (dk_at dksJ11_inflateIfNeededFor_0 14 rfl rfl)
theorem dJ11_inflateIfNeededFor_17 : decode cJ11_inflateIfNeededFor 17 = .ok (.aload_n 0, 1) := dk_42 (dk_at dksJ11_inflateIfNeededFor_0 17 rfl rfl)
theorem dJ11_inflateIfNeededFor_18 : decode cJ11_inflateIfNeededFor 18 = .ok (.invokevirtual 195, 3) := dk_182 0 195 (dk_at dksJ11_inflateIfNeededFor_0 18 rfl rfl)
theorem dJ11_inflateIfNeededFor_21 : decode cJ11_inflateIfNeededFor 21 = .ok (.return_, 1) := dk_177 (dk_at dksJ11_inflateIfNeededFor_0 21 rfl rfl)
abbrev cJ11_compareTo : ByteArray := prog_29_method_5_code
def yJ11_compareTo : MethodName := ⟨RJ11, "compareTo", "(Ljava/lang/AbstractStringBuilder;)I"⟩
def dkwJ11_compareTo_4 : List UInt8 := [184, 0, 97, 172]
abbrev dktJ11_compareTo_4 : List UInt8 := dkwJ11_compareTo_4 ++ []
def dkwJ11_compareTo_3 : List UInt8 := [182, 0, 83, 153, 0, 15, 44, 45, 21, 4, 21, 5, 184, 0, 94, 167, 0, 12, 44, 45, 21, 4, 21, 5]
abbrev dktJ11_compareTo_3 : List UInt8 := dkwJ11_compareTo_3 ++ dktJ11_compareTo_4
def dkwJ11_compareTo_2 : List UInt8 := [45, 21, 4, 21, 5, 184, 0, 87, 167, 0, 12, 44, 45, 21, 4, 21, 5, 184, 0, 93, 172, 42]
abbrev dktJ11_compareTo_2 : List UInt8 := dkwJ11_compareTo_2 ++ dktJ11_compareTo_3
def dkwJ11_compareTo_1 : List UInt8 := [180, 0, 79, 54, 5, 42, 180, 0, 22, 43, 180, 0, 22, 160, 0, 32, 42, 182, 0, 83, 153, 0, 15, 44]
abbrev dktJ11_compareTo_1 : List UInt8 := dkwJ11_compareTo_1 ++ dktJ11_compareTo_2
def dkwJ11_compareTo_0 : List UInt8 := [42, 43, 166, 0, 5, 3, 172, 42, 180, 0, 15, 77, 43, 180, 0, 15, 78, 42, 180, 0, 79, 54, 4, 43]
abbrev dktJ11_compareTo_0 : List UInt8 := dkwJ11_compareTo_0 ++ dktJ11_compareTo_1
theorem dksJ11_compareTo_0 : cJ11_compareTo.data.toList.drop 0 = dktJ11_compareTo_0 := by decide +kernel
theorem dksJ11_compareTo_1 : cJ11_compareTo.data.toList.drop 24 = dktJ11_compareTo_1 := dk_seg dksJ11_compareTo_0 24 rfl rfl
theorem dksJ11_compareTo_2 : cJ11_compareTo.data.toList.drop 48 = dktJ11_compareTo_2 := dk_seg dksJ11_compareTo_1 24 rfl rfl
theorem dksJ11_compareTo_3 : cJ11_compareTo.data.toList.drop 70 = dktJ11_compareTo_3 := dk_seg dksJ11_compareTo_2 22 rfl rfl
theorem dksJ11_compareTo_4 : cJ11_compareTo.data.toList.drop 94 = dktJ11_compareTo_4 := dk_seg dksJ11_compareTo_3 24 rfl rfl
theorem dJ11_compareTo_0 : decode cJ11_compareTo 0 = .ok (.aload_n 0, 1) := dk_42 (dk_at dksJ11_compareTo_0 0 rfl rfl)
theorem dJ11_compareTo_1 : decode cJ11_compareTo 1 = .ok (.aload_n 1, 1) := dk_43 (dk_at dksJ11_compareTo_0 1 rfl rfl)
theorem dJ11_compareTo_2 : decode cJ11_compareTo 2 = .ok (.if_acmp .ne 5, 3) := dk_166 0 5 (dk_at dksJ11_compareTo_0 2 rfl rfl)
theorem dJ11_compareTo_5 : decode cJ11_compareTo 5 = .ok (.iconst 0, 1) := dk_3 (dk_at dksJ11_compareTo_0 5 rfl rfl)
theorem dJ11_compareTo_6 : decode cJ11_compareTo 6 = .ok (.ireturn, 1) := dk_172 (dk_at dksJ11_compareTo_0 6 rfl rfl)
theorem dJ11_compareTo_7 : decode cJ11_compareTo 7 = .ok (.aload_n 0, 1) := dk_42 (dk_at dksJ11_compareTo_0 7 rfl rfl)
theorem dJ11_compareTo_8 : decode cJ11_compareTo 8 = .ok (.getfield 15, 3) := dk_180 0 15 (dk_at dksJ11_compareTo_0 8 rfl rfl)
theorem dJ11_compareTo_11 : decode cJ11_compareTo 11 = .ok (.astore_n 2, 1) := dk_77 (dk_at dksJ11_compareTo_0 11 rfl rfl)
theorem dJ11_compareTo_12 : decode cJ11_compareTo 12 = .ok (.aload_n 1, 1) := dk_43 (dk_at dksJ11_compareTo_0 12 rfl rfl)
theorem dJ11_compareTo_13 : decode cJ11_compareTo 13 = .ok (.getfield 15, 3) := dk_180 0 15 (dk_at dksJ11_compareTo_0 13 rfl rfl)
theorem dJ11_compareTo_16 : decode cJ11_compareTo 16 = .ok (.astore_n 3, 1) := dk_78 (dk_at dksJ11_compareTo_0 16 rfl rfl)
theorem dJ11_compareTo_17 : decode cJ11_compareTo 17 = .ok (.aload_n 0, 1) := dk_42 (dk_at dksJ11_compareTo_0 17 rfl rfl)
theorem dJ11_compareTo_18 : decode cJ11_compareTo 18 = .ok (.getfield 79, 3) := dk_180 0 79 (dk_at dksJ11_compareTo_0 18 rfl rfl)
theorem dJ11_compareTo_21 : decode cJ11_compareTo 21 = .ok (.istore 4, 2) := dk_54 4 (dk_at dksJ11_compareTo_0 21 rfl rfl)
theorem dJ11_compareTo_23 : decode cJ11_compareTo 23 = .ok (.aload_n 1, 1) := dk_43 (dk_at dksJ11_compareTo_0 23 rfl rfl)
theorem dJ11_compareTo_24 : decode cJ11_compareTo 24 = .ok (.getfield 79, 3) := dk_180 0 79 (dk_at dksJ11_compareTo_1 0 rfl rfl)
theorem dJ11_compareTo_27 : decode cJ11_compareTo 27 = .ok (.istore 5, 2) := dk_54 5 (dk_at dksJ11_compareTo_1 3 rfl rfl)
theorem dJ11_compareTo_29 : decode cJ11_compareTo 29 = .ok (.aload_n 0, 1) := dk_42 (dk_at dksJ11_compareTo_1 5 rfl rfl)
theorem dJ11_compareTo_30 : decode cJ11_compareTo 30 = .ok (.getfield 22, 3) := dk_180 0 22 (dk_at dksJ11_compareTo_1 6 rfl rfl)
theorem dJ11_compareTo_33 : decode cJ11_compareTo 33 = .ok (.aload_n 1, 1) := dk_43 (dk_at dksJ11_compareTo_1 9 rfl rfl)
theorem dJ11_compareTo_34 : decode cJ11_compareTo 34 = .ok (.getfield 22, 3) := dk_180 0 22 (dk_at dksJ11_compareTo_1 10 rfl rfl)
theorem dJ11_compareTo_37 : decode cJ11_compareTo 37 = .ok (.if_icmp .ne 32, 3) := dk_160 0 32 (dk_at dksJ11_compareTo_1 13 rfl rfl)
theorem dJ11_compareTo_40 : decode cJ11_compareTo 40 = .ok (.aload_n 0, 1) := dk_42 (dk_at dksJ11_compareTo_1 16 rfl rfl)
theorem dJ11_compareTo_41 : decode cJ11_compareTo 41 = .ok (.invokevirtual 83, 3) := dk_182 0 83 (dk_at dksJ11_compareTo_1 17 rfl rfl)
theorem dJ11_compareTo_44 : decode cJ11_compareTo 44 = .ok (.ifCond .eq 15, 3) := dk_153 0 15 (dk_at dksJ11_compareTo_1 20 rfl rfl)
theorem dJ11_compareTo_47 : decode cJ11_compareTo 47 = .ok (.aload_n 2, 1) := dk_44 (dk_at dksJ11_compareTo_1 23 rfl rfl)
theorem dJ11_compareTo_48 : decode cJ11_compareTo 48 = .ok (.aload_n 3, 1) := dk_45 (dk_at dksJ11_compareTo_2 0 rfl rfl)
theorem dJ11_compareTo_49 : decode cJ11_compareTo 49 = .ok (.iload 4, 2) := dk_21 4 (dk_at dksJ11_compareTo_2 1 rfl rfl)
theorem dJ11_compareTo_51 : decode cJ11_compareTo 51 = .ok (.iload 5, 2) := dk_21 5 (dk_at dksJ11_compareTo_2 3 rfl rfl)
theorem dJ11_compareTo_53 : decode cJ11_compareTo 53 = .ok (.invokestatic 87, 3) := dk_184 0 87 (dk_at dksJ11_compareTo_2 5 rfl rfl)
theorem dJ11_compareTo_56 : decode cJ11_compareTo 56 = .ok (.goto 12, 3) := dk_167 0 12 (dk_at dksJ11_compareTo_2 8 rfl rfl)
theorem dJ11_compareTo_59 : decode cJ11_compareTo 59 = .ok (.aload_n 2, 1) := dk_44 (dk_at dksJ11_compareTo_2 11 rfl rfl)
theorem dJ11_compareTo_60 : decode cJ11_compareTo 60 = .ok (.aload_n 3, 1) := dk_45 (dk_at dksJ11_compareTo_2 12 rfl rfl)
theorem dJ11_compareTo_61 : decode cJ11_compareTo 61 = .ok (.iload 4, 2) := dk_21 4 (dk_at dksJ11_compareTo_2 13 rfl rfl)
theorem dJ11_compareTo_63 : decode cJ11_compareTo 63 = .ok (.iload 5, 2) := dk_21 5 (dk_at dksJ11_compareTo_2 15 rfl rfl)
theorem dJ11_compareTo_65 : decode cJ11_compareTo 65 = .ok (.invokestatic 93, 3) := dk_184 0 93 (dk_at dksJ11_compareTo_2 17 rfl rfl)
theorem dJ11_compareTo_68 : decode cJ11_compareTo 68 = .ok (.ireturn, 1) := dk_172 (dk_at dksJ11_compareTo_2 20 rfl rfl)
theorem dJ11_compareTo_69 : decode cJ11_compareTo 69 = .ok (.aload_n 0, 1) := dk_42 (dk_at dksJ11_compareTo_2 21 rfl rfl)
theorem dJ11_compareTo_70 : decode cJ11_compareTo 70 = .ok (.invokevirtual 83, 3) := dk_182 0 83 (dk_at dksJ11_compareTo_3 0 rfl rfl)
theorem dJ11_compareTo_73 : decode cJ11_compareTo 73 = .ok (.ifCond .eq 15, 3) := dk_153 0 15 (dk_at dksJ11_compareTo_3 3 rfl rfl)
theorem dJ11_compareTo_76 : decode cJ11_compareTo 76 = .ok (.aload_n 2, 1) := dk_44 (dk_at dksJ11_compareTo_3 6 rfl rfl)
theorem dJ11_compareTo_77 : decode cJ11_compareTo 77 = .ok (.aload_n 3, 1) := dk_45 (dk_at dksJ11_compareTo_3 7 rfl rfl)
theorem dJ11_compareTo_78 : decode cJ11_compareTo 78 = .ok (.iload 4, 2) := dk_21 4 (dk_at dksJ11_compareTo_3 8 rfl rfl)
theorem dJ11_compareTo_80 : decode cJ11_compareTo 80 = .ok (.iload 5, 2) := dk_21 5 (dk_at dksJ11_compareTo_3 10 rfl rfl)
theorem dJ11_compareTo_82 : decode cJ11_compareTo 82 = .ok (.invokestatic 94, 3) := dk_184 0 94 (dk_at dksJ11_compareTo_3 12 rfl rfl)
theorem dJ11_compareTo_85 : decode cJ11_compareTo 85 = .ok (.goto 12, 3) := dk_167 0 12 (dk_at dksJ11_compareTo_3 15 rfl rfl)
theorem dJ11_compareTo_88 : decode cJ11_compareTo 88 = .ok (.aload_n 2, 1) := dk_44 (dk_at dksJ11_compareTo_3 18 rfl rfl)
theorem dJ11_compareTo_89 : decode cJ11_compareTo 89 = .ok (.aload_n 3, 1) := dk_45 (dk_at dksJ11_compareTo_3 19 rfl rfl)
theorem dJ11_compareTo_90 : decode cJ11_compareTo 90 = .ok (.iload 4, 2) := dk_21 4 (dk_at dksJ11_compareTo_3 20 rfl rfl)
theorem dJ11_compareTo_92 : decode cJ11_compareTo 92 = .ok (.iload 5, 2) := dk_21 5 (dk_at dksJ11_compareTo_3 22 rfl rfl)
theorem dJ11_compareTo_94 : decode cJ11_compareTo 94 = .ok (.invokestatic 97, 3) := dk_184 0 97 (dk_at dksJ11_compareTo_4 0 rfl rfl)
theorem dJ11_compareTo_97 : decode cJ11_compareTo 97 = .ok (.ireturn, 1) := dk_172 (dk_at dksJ11_compareTo_4 3 rfl rfl)
theorem q127 : (Jvm.Cond.initialized "java/lang/AbstractStringBuilder") ∈ lw_all := lw_g (lw_at lw_m1 19 rfl) rfl
theorem q548 : (Jvm.Cond.instanceMethod ({ cls := "java/lang/AbstractStringBuilder", name := "<init>", desc := "(I)V" } : Jvm.MethodName)) ∈ lw_all := lw_g (lw_at lw_m2 200 rfl) rfl
theorem q549 : (Jvm.Cond.code ({ cls := "java/lang/AbstractStringBuilder", name := "<init>", desc := "(I)V" } : Jvm.MethodName) prog_29_method_2_code (2 : Nat) (Option.none : Option Jvm.ClassFile.FieldType)) ∈ lw_all := lw_g (lw_at lw_m2 201 rfl) rfl
theorem q550 : (Jvm.Cond.methodLink "java/lang/AbstractStringBuilder" (3 : Nat) ({ cls := "java/lang/Object", name := "<init>", desc := "()V" } : Jvm.MethodName)) ∈ lw_all := lw_g (lw_at lw_m2 202 rfl) rfl
theorem q551 : (Jvm.Cond.fieldLink "java/lang/AbstractStringBuilder" (18 : Nat) "java/lang/String" "COMPACT_STRINGS" "Z") ∈ lw_all := lw_g (lw_at lw_m2 203 rfl) rfl
theorem q553 : (Jvm.Cond.methodLink "java/lang/AbstractStringBuilder" (26 : Nat) ({ cls := "java/lang/StringUTF16", name := "newBytesFor", desc := "(I)[B" } : Jvm.MethodName)) ∈ lw_all := lw_g (lw_at lw_m2 205 rfl) rfl
theorem q560 : (Jvm.Cond.fieldLink "java/lang/AbstractStringBuilder" (15 : Nat) "java/lang/AbstractStringBuilder" "value" "[B") ∈ lw_all := lw_g (lw_at lw_m2 212 rfl) rfl
theorem q561 : (Jvm.Cond.fieldLink "java/lang/AbstractStringBuilder" (22 : Nat) "java/lang/AbstractStringBuilder" "coder" "B") ∈ lw_all := lw_g (lw_at lw_m2 213 rfl) rfl
theorem q563 : (Jvm.Cond.fieldLink "java/lang/AbstractStringBuilder" (79 : Nat) "java/lang/AbstractStringBuilder" "count" "I") ∈ lw_all := lw_g (lw_at lw_m2 215 rfl) rfl
theorem q565 : (Jvm.Cond.soleField "java/lang/AbstractStringBuilder" "value") ∈ lw_all := lw_g (lw_at lw_m2 217 rfl) rfl
theorem q567 : (Jvm.Cond.soleField "java/lang/AbstractStringBuilder" "coder") ∈ lw_all := lw_g (lw_at lw_m2 219 rfl) rfl
theorem q569 : (Jvm.Cond.soleField "java/lang/AbstractStringBuilder" "maybeLatin1") ∈ lw_all := lw_g (lw_at lw_m2 221 rfl) rfl
theorem q571 : (Jvm.Cond.soleField "java/lang/AbstractStringBuilder" "count") ∈ lw_all := lw_g (lw_at lw_m2 223 rfl) rfl
theorem q581 : (Jvm.Cond.instanceMethod ({ cls := "java/lang/AbstractStringBuilder", name := "append", desc := "(C)Ljava/lang/AbstractStringBuilder;" } : Jvm.MethodName)) ∈ lw_all := lw_g (lw_at lw_m2 233 rfl) rfl
theorem q582 : (Jvm.Cond.code ({ cls := "java/lang/AbstractStringBuilder", name := "append", desc := "(C)Ljava/lang/AbstractStringBuilder;" } : Jvm.MethodName) prog_29_method_31_code (2 : Nat) (Option.some (Jvm.ClassFile.FieldType.object "java/lang/AbstractStringBuilder"))) ∈ lw_all := lw_g (lw_at lw_m2 234 rfl) rfl
theorem q583 : (Jvm.Cond.methodLink "java/lang/AbstractStringBuilder" (100 : Nat) ({ cls := "java/lang/AbstractStringBuilder", name := "ensureCapacityInternal", desc := "(I)V" } : Jvm.MethodName)) ∈ lw_all := lw_g (lw_at lw_m2 235 rfl) rfl
theorem q584 : (Jvm.Cond.privateMethod ({ cls := "java/lang/AbstractStringBuilder", name := "ensureCapacityInternal", desc := "(I)V" } : Jvm.MethodName)) ∈ lw_tbl := lw_at lw_m2 236 rfl
theorem q585 : (Jvm.Cond.instanceMethod ({ cls := "java/lang/AbstractStringBuilder", name := "ensureCapacityInternal", desc := "(I)V" } : Jvm.MethodName)) ∈ lw_all := lw_g (lw_at lw_m2 237 rfl) rfl
theorem q586 : (Jvm.Cond.code ({ cls := "java/lang/AbstractStringBuilder", name := "ensureCapacityInternal", desc := "(I)V" } : Jvm.MethodName) prog_29_method_9_code (3 : Nat) (Option.none : Option Jvm.ClassFile.FieldType)) ∈ lw_all := lw_g (lw_at lw_m2 238 rfl) rfl
theorem q587 : (Jvm.Cond.methodLink "java/lang/AbstractStringBuilder" (104 : Nat) ({ cls := "java/lang/AbstractStringBuilder", name := "newCapacity", desc := "(I)I" } : Jvm.MethodName)) ∈ lw_all := lw_g (lw_at lw_m2 239 rfl) rfl
theorem q588 : (Jvm.Cond.privateMethod ({ cls := "java/lang/AbstractStringBuilder", name := "newCapacity", desc := "(I)I" } : Jvm.MethodName)) ∈ lw_tbl := lw_at lw_m3 0 rfl
theorem q589 : (Jvm.Cond.instanceMethod ({ cls := "java/lang/AbstractStringBuilder", name := "newCapacity", desc := "(I)I" } : Jvm.MethodName)) ∈ lw_all := lw_g (lw_at lw_m3 1 rfl) rfl
theorem q590 : (Jvm.Cond.code ({ cls := "java/lang/AbstractStringBuilder", name := "newCapacity", desc := "(I)I" } : Jvm.MethodName) prog_29_method_10_code (6 : Nat) (Option.some Jvm.ClassFile.FieldType.int)) ∈ lw_all := lw_g (lw_at lw_m3 2 rfl) rfl
theorem q591 : (Jvm.Cond.methodLink "java/lang/AbstractStringBuilder" (114 : Nat) ({ cls := "jdk/internal/util/ArraysSupport", name := "newLength", desc := "(III)I" } : Jvm.MethodName)) ∈ lw_all := lw_g (lw_at lw_m3 3 rfl) rfl
theorem q601 : (Jvm.Cond.constant "java/lang/AbstractStringBuilder" (39 : Nat) (2147483647 : Int32)) ∈ lw_all := lw_g (lw_at lw_m3 13 rfl) rfl
theorem q602 : (Jvm.Cond.methodLink "java/lang/AbstractStringBuilder" (108 : Nat) ({ cls := "java/util/Arrays", name := "copyOf", desc := "([BI)[B" } : Jvm.MethodName)) ∈ lw_all := lw_g (lw_at lw_m3 14 rfl) rfl
theorem q618 : (Jvm.Cond.methodLink "java/lang/AbstractStringBuilder" (83 : Nat) ({ cls := "java/lang/AbstractStringBuilder", name := "isLatin1", desc := "()Z" } : Jvm.MethodName)) ∈ lw_all := lw_g (lw_at lw_m3 30 rfl) rfl
theorem q619 : (Jvm.Cond.instanceMethod ({ cls := "java/lang/AbstractStringBuilder", name := "isLatin1", desc := "()Z" } : Jvm.MethodName)) ∈ lw_all := lw_g (lw_at lw_m3 31 rfl) rfl
theorem q620 : (Jvm.Cond.sameMethod "java/lang/AbstractStringBuilder" "java/lang/AbstractStringBuilder" "isLatin1" "()Z") ∈ lw_all := lw_g (lw_at lw_m3 32 rfl) rfl
theorem q622 : (Jvm.Cond.code ({ cls := "java/lang/AbstractStringBuilder", name := "isLatin1", desc := "()Z" } : Jvm.MethodName) prog_29_method_68_code (1 : Nat) (Option.some Jvm.ClassFile.FieldType.boolean)) ∈ lw_all := lw_g (lw_at lw_m3 34 rfl) rfl
theorem q623 : (Jvm.Cond.methodLink "java/lang/AbstractStringBuilder" (191 : Nat) ({ cls := "java/lang/StringLatin1", name := "canEncode", desc := "(C)Z" } : Jvm.MethodName)) ∈ lw_all := lw_g (lw_at lw_m3 35 rfl) rfl
theorem q626 : (Jvm.Cond.methodLink "java/lang/AbstractStringBuilder" (195 : Nat) ({ cls := "java/lang/AbstractStringBuilder", name := "inflate", desc := "()V" } : Jvm.MethodName)) ∈ lw_all := lw_g (lw_at lw_m3 38 rfl) rfl
theorem q627 : (Jvm.Cond.privateMethod ({ cls := "java/lang/AbstractStringBuilder", name := "inflate", desc := "()V" } : Jvm.MethodName)) ∈ lw_tbl := lw_at lw_m3 39 rfl
theorem q628 : (Jvm.Cond.instanceMethod ({ cls := "java/lang/AbstractStringBuilder", name := "inflate", desc := "()V" } : Jvm.MethodName)) ∈ lw_all := lw_g (lw_at lw_m3 40 rfl) rfl
theorem q629 : (Jvm.Cond.code ({ cls := "java/lang/AbstractStringBuilder", name := "inflate", desc := "()V" } : Jvm.MethodName) prog_29_method_11_code (2 : Nat) (Option.none : Option Jvm.ClassFile.FieldType)) ∈ lw_all := lw_g (lw_at lw_m3 41 rfl) rfl
theorem q630 : (Jvm.Cond.methodLink "java/lang/AbstractStringBuilder" (125 : Nat) ({ cls := "java/lang/StringLatin1", name := "inflate", desc := "([BI[BII)V" } : Jvm.MethodName)) ∈ lw_all := lw_g (lw_at lw_m3 42 rfl) rfl
theorem q659 : (Jvm.Cond.methodLink "java/lang/AbstractStringBuilder" (197 : Nat) ({ cls := "java/lang/StringUTF16", name := "putCharSB", desc := "([BII)V" } : Jvm.MethodName)) ∈ lw_all := lw_g (lw_at lw_m3 71 rfl) rfl
theorem q689 : (Jvm.Cond.instanceMethod ({ cls := "java/lang/AbstractStringBuilder", name := "getValue", desc := "()[B" } : Jvm.MethodName)) ∈ lw_all := lw_g (lw_at lw_m3 101 rfl) rfl
theorem q690 : (Jvm.Cond.sameMethod "java/lang/AbstractStringBuilder" "java/lang/AbstractStringBuilder" "getValue" "()[B") ∈ lw_all := lw_g (lw_at lw_m3 102 rfl) rfl
theorem q692 : (Jvm.Cond.code ({ cls := "java/lang/AbstractStringBuilder", name := "getValue", desc := "()[B" } : Jvm.MethodName) prog_29_method_64_code (1 : Nat) (Option.some (Jvm.ClassFile.FieldType.array Jvm.ClassFile.FieldType.byte))) ∈ lw_all := lw_g (lw_at lw_m3 104 rfl) rfl
theorem q694 : (Jvm.Cond.instanceMethod ({ cls := "java/lang/AbstractStringBuilder", name := "length", desc := "()I" } : Jvm.MethodName)) ∈ lw_all := lw_g (lw_at lw_m3 106 rfl) rfl
theorem q695 : (Jvm.Cond.sameMethod "java/lang/AbstractStringBuilder" "java/lang/AbstractStringBuilder" "length" "()I") ∈ lw_all := lw_g (lw_at lw_m3 107 rfl) rfl
theorem q700 : (Jvm.Cond.code ({ cls := "java/lang/AbstractStringBuilder", name := "length", desc := "()I" } : Jvm.MethodName) prog_29_method_6_code (1 : Nat) (Option.some Jvm.ClassFile.FieldType.int)) ∈ lw_all := lw_g (lw_at lw_m3 112 rfl) rfl
theorem q727 : (Jvm.Cond.instanceMethod ({ cls := "java/lang/AbstractStringBuilder", name := "append", desc := "(I)Ljava/lang/AbstractStringBuilder;" } : Jvm.MethodName)) ∈ lw_all := lw_g (lw_at lw_m3 139 rfl) rfl
theorem q728 : (Jvm.Cond.code ({ cls := "java/lang/AbstractStringBuilder", name := "append", desc := "(I)Ljava/lang/AbstractStringBuilder;" } : Jvm.MethodName) prog_29_method_32_code (4 : Nat) (Option.some (Jvm.ClassFile.FieldType.object "java/lang/AbstractStringBuilder"))) ∈ lw_all := lw_g (lw_at lw_m3 140 rfl) rfl
theorem q729 : (Jvm.Cond.methodLink "java/lang/AbstractStringBuilder" (245 : Nat) ({ cls := "java/lang/Integer", name := "stringSize", desc := "(I)I" } : Jvm.MethodName)) ∈ lw_all := lw_g (lw_at lw_m3 141 rfl) rfl
theorem q732 : (Jvm.Cond.methodLink "java/lang/AbstractStringBuilder" (248 : Nat) ({ cls := "java/lang/Integer", name := "getChars", desc := "(II[B)I" } : Jvm.MethodName)) ∈ lw_all := lw_g (lw_at lw_m3 144 rfl) rfl
theorem q739 : (Jvm.Cond.methodLink "java/lang/AbstractStringBuilder" (251 : Nat) ({ cls := "java/lang/StringUTF16", name := "getChars", desc := "(III[B)I" } : Jvm.MethodName)) ∈ lw_all := lw_g (lw_at lw_m3 151 rfl) rfl
theorem q762 : (Jvm.Cond.instanceMethod ({ cls := "java/lang/AbstractStringBuilder", name := "append", desc := "(Ljava/lang/String;)Ljava/lang/AbstractStringBuilder;" } : Jvm.MethodName)) ∈ lw_all := lw_g (lw_at lw_m3 174 rfl) rfl
theorem q763 : (Jvm.Cond.code ({ cls := "java/lang/AbstractStringBuilder", name := "append", desc := "(Ljava/lang/String;)Ljava/lang/AbstractStringBuilder;" } : Jvm.MethodName) prog_29_method_22_code (3 : Nat) (Option.some (Jvm.ClassFile.FieldType.object "java/lang/AbstractStringBuilder"))) ∈ lw_all := lw_g (lw_at lw_m3 175 rfl) rfl
theorem q764 : (Jvm.Cond.methodLink "java/lang/AbstractStringBuilder" (204 : Nat) ({ cls := "java/lang/AbstractStringBuilder", name := "appendNull", desc := "()Ljava/lang/AbstractStringBuilder;" } : Jvm.MethodName)) ∈ lw_all := lw_g (lw_at lw_m3 176 rfl) rfl
theorem q765 : (Jvm.Cond.privateMethod ({ cls := "java/lang/AbstractStringBuilder", name := "appendNull", desc := "()Ljava/lang/AbstractStringBuilder;" } : Jvm.MethodName)) ∈ lw_tbl := lw_at lw_m3 177 rfl
theorem q766 : (Jvm.Cond.instanceMethod ({ cls := "java/lang/AbstractStringBuilder", name := "appendNull", desc := "()Ljava/lang/AbstractStringBuilder;" } : Jvm.MethodName)) ∈ lw_all := lw_g (lw_at lw_m3 178 rfl) rfl
theorem q767 : (Jvm.Cond.code ({ cls := "java/lang/AbstractStringBuilder", name := "appendNull", desc := "()Ljava/lang/AbstractStringBuilder;" } : Jvm.MethodName) prog_29_method_26_code (3 : Nat) (Option.some (Jvm.ClassFile.FieldType.object "java/lang/AbstractStringBuilder"))) ∈ lw_all := lw_g (lw_at lw_m3 179 rfl) rfl
theorem q768 : (Jvm.Cond.methodLink "java/lang/AbstractStringBuilder" (226 : Nat) ({ cls := "java/lang/StringUTF16", name := "putCharsAt", desc := "([BICCCC)I" } : Jvm.MethodName)) ∈ lw_all := lw_g (lw_at lw_m3 180 rfl) rfl
theorem q771 : (Jvm.Cond.methodLink "java/lang/AbstractStringBuilder" (32 : Nat) ({ cls := "java/lang/String", name := "length", desc := "()I" } : Jvm.MethodName)) ∈ lw_all := lw_g (lw_at lw_m3 183 rfl) rfl
theorem q780 : (Jvm.Cond.methodLink "java/lang/AbstractStringBuilder" (208 : Nat) ({ cls := "java/lang/AbstractStringBuilder", name := "putStringAt", desc := "(ILjava/lang/String;)V" } : Jvm.MethodName)) ∈ lw_all := lw_g (lw_at lw_m3 192 rfl) rfl
theorem q781 : (Jvm.Cond.privateMethod ({ cls := "java/lang/AbstractStringBuilder", name := "putStringAt", desc := "(ILjava/lang/String;)V" } : Jvm.MethodName)) ∈ lw_tbl := lw_at lw_m3 193 rfl
theorem q782 : (Jvm.Cond.instanceMethod ({ cls := "java/lang/AbstractStringBuilder", name := "putStringAt", desc := "(ILjava/lang/String;)V" } : Jvm.MethodName)) ∈ lw_all := lw_g (lw_at lw_m3 194 rfl) rfl
theorem q783 : (Jvm.Cond.code ({ cls := "java/lang/AbstractStringBuilder", name := "putStringAt", desc := "(ILjava/lang/String;)V" } : Jvm.MethodName) prog_29_method_73_code (3 : Nat) (Option.none : Option Jvm.ClassFile.FieldType)) ∈ lw_all := lw_g (lw_at lw_m3 195 rfl) rfl
theorem q784 : (Jvm.Cond.methodLink "java/lang/AbstractStringBuilder" (397 : Nat) ({ cls := "java/lang/AbstractStringBuilder", name := "inflateIfNeededFor", desc := "(Ljava/lang/String;)V" } : Jvm.MethodName)) ∈ lw_all := lw_g (lw_at lw_m3 196 rfl) rfl
theorem q785 : (Jvm.Cond.privateMethod ({ cls := "java/lang/AbstractStringBuilder", name := "inflateIfNeededFor", desc := "(Ljava/lang/String;)V" } : Jvm.MethodName)) ∈ lw_tbl := lw_at lw_m3 197 rfl
theorem q786 : (Jvm.Cond.instanceMethod ({ cls := "java/lang/AbstractStringBuilder", name := "inflateIfNeededFor", desc := "(Ljava/lang/String;)V" } : Jvm.MethodName)) ∈ lw_all := lw_g (lw_at lw_m3 198 rfl) rfl
theorem q787 : (Jvm.Cond.code ({ cls := "java/lang/AbstractStringBuilder", name := "inflateIfNeededFor", desc := "(Ljava/lang/String;)V" } : Jvm.MethodName) prog_29_method_71_code (2 : Nat) (Option.none : Option Jvm.ClassFile.FieldType)) ∈ lw_all := lw_g (lw_at lw_m3 199 rfl) rfl
theorem q788 : (Jvm.Cond.methodLink "java/lang/AbstractStringBuilder" (40 : Nat) ({ cls := "java/lang/String", name := "coder", desc := "()B" } : Jvm.MethodName)) ∈ lw_all := lw_g (lw_at lw_m3 200 rfl) rfl
theorem q789 : (Jvm.Cond.methodLink "java/lang/AbstractStringBuilder" (399 : Nat) ({ cls := "java/lang/String", name := "getBytes", desc := "([BIB)V" } : Jvm.MethodName)) ∈ lw_all := lw_g (lw_at lw_m3 201 rfl) rfl
theorem q1327 : (Jvm.Cond.instanceMethod ({ cls := "java/lang/AbstractStringBuilder", name := "compareTo", desc := "(Ljava/lang/AbstractStringBuilder;)I" } : Jvm.MethodName)) ∈ lw_all := lw_g (lw_at lw_m6 19 rfl) rfl
theorem q1328 : (Jvm.Cond.code ({ cls := "java/lang/AbstractStringBuilder", name := "compareTo", desc := "(Ljava/lang/AbstractStringBuilder;)I" } : Jvm.MethodName) prog_29_method_5_code (6 : Nat) (Option.some Jvm.ClassFile.FieldType.int)) ∈ lw_all := lw_g (lw_at lw_m6 20 rfl) rfl
theorem q1329 : (Jvm.Cond.methodLink "java/lang/AbstractStringBuilder" (87 : Nat) ({ cls := "java/lang/StringLatin1", name := "compareTo", desc := "([B[BII)I" } : Jvm.MethodName)) ∈ lw_all := lw_g (lw_at lw_m6 21 rfl) rfl
theorem q1330 : (Jvm.Cond.methodLink "java/lang/AbstractStringBuilder" (93 : Nat) ({ cls := "java/lang/StringUTF16", name := "compareTo", desc := "([B[BII)I" } : Jvm.MethodName)) ∈ lw_all := lw_g (lw_at lw_m6 22 rfl) rfl
theorem q1339 : (Jvm.Cond.methodLink "java/lang/AbstractStringBuilder" (94 : Nat) ({ cls := "java/lang/StringLatin1", name := "compareToUTF16", desc := "([B[BII)I" } : Jvm.MethodName)) ∈ lw_all := lw_g (lw_at lw_m6 31 rfl) rfl
theorem q1343 : (Jvm.Cond.methodLink "java/lang/AbstractStringBuilder" (97 : Nat) ({ cls := "java/lang/StringUTF16", name := "compareToLatin1", desc := "([B[BII)I" } : Jvm.MethodName)) ∈ lw_all := lw_g (lw_at lw_m6 35 rfl) rfl
theorem q3215 : (Jvm.Cond.sameMethod "java/lang/AbstractStringBuilder" "java/lang/AbstractStringBuilder" "append" "(C)Ljava/lang/AbstractStringBuilder;") ∈ lw_all := lw_g (lw_at lw_m13 227 rfl) rfl
theorem q3216 : (Jvm.Cond.sameMethod "java/lang/AbstractStringBuilder" "java/lang/AbstractStringBuilder" "ensureCapacityInternal" "(I)V") ∈ lw_all := lw_g (lw_at lw_m13 228 rfl) rfl
theorem q3217 : (Jvm.Cond.sameMethod "java/lang/AbstractStringBuilder" "java/lang/AbstractStringBuilder" "newCapacity" "(I)I") ∈ lw_all := lw_g (lw_at lw_m13 229 rfl) rfl
theorem q3218 : (Jvm.Cond.sameMethod "java/lang/AbstractStringBuilder" "java/lang/AbstractStringBuilder" "inflate" "()V") ∈ lw_all := lw_g (lw_at lw_m13 230 rfl) rfl
theorem q3219 : (Jvm.Cond.sameMethod "java/lang/AbstractStringBuilder" "java/lang/AbstractStringBuilder" "append" "(I)Ljava/lang/AbstractStringBuilder;") ∈ lw_all := lw_g (lw_at lw_m13 231 rfl) rfl
theorem q3220 : (Jvm.Cond.sameMethod "java/lang/AbstractStringBuilder" "java/lang/AbstractStringBuilder" "append" "(Ljava/lang/String;)Ljava/lang/AbstractStringBuilder;") ∈ lw_all := lw_g (lw_at lw_m13 232 rfl) rfl
theorem q3221 : (Jvm.Cond.sameMethod "java/lang/AbstractStringBuilder" "java/lang/AbstractStringBuilder" "appendNull" "()Ljava/lang/AbstractStringBuilder;") ∈ lw_all := lw_g (lw_at lw_m13 233 rfl) rfl
theorem q3222 : (Jvm.Cond.sameMethod "java/lang/AbstractStringBuilder" "java/lang/AbstractStringBuilder" "putStringAt" "(ILjava/lang/String;)V") ∈ lw_all := lw_g (lw_at lw_m13 234 rfl) rfl
theorem q3223 : (Jvm.Cond.sameMethod "java/lang/AbstractStringBuilder" "java/lang/AbstractStringBuilder" "inflateIfNeededFor" "(Ljava/lang/String;)V") ∈ lw_all := lw_g (lw_at lw_m13 235 rfl) rfl
theorem q3224 : (Jvm.Cond.sameMethod "java/lang/AbstractStringBuilder" "java/lang/AbstractStringBuilder" "compareTo" "(Ljava/lang/AbstractStringBuilder;)I") ∈ lw_all := lw_g (lw_at lw_m13 236 rfl) rfl
/-! java/lang/StringBuilder -/
set_option maxRecDepth 100000
def RJ12 : String := "java/lang/StringBuilder"
def TJ12 : u_T := fun k => match k with
  | 0 => ("java/lang/AbstractStringBuilder", "value", "[B", false)
  | 1 => ("java/lang/AbstractStringBuilder", "coder", "B", false)
  | 2 => ("java/lang/AbstractStringBuilder", "maybeLatin1", "Z", false)
  | _ => ("java/lang/AbstractStringBuilder", "count", "I", false)
def tyJ12 : Nat → FieldType := fun k => match k with
  | 0 => .array .byte
  | 1 => .byte
  | 2 => .boolean
  | _ => .int
abbrev wsJ120 : List Cond := u_ws RJ12 TJ12 4
theorem nmJ12 : ∀ a, a < 4 → ∀ b, b < 4 → a ≠ b → (TJ12 a).2.1 ≠ (TJ12 b).2.1 := by decide +kernel
theorem tyJ12_ok : ∀ k, k < 4 → parseFieldDescriptor (TJ12 k).2.2.1 = some (tyJ12 k) := by decide +kernel
abbrev cJ12_init : ByteArray := prog_45_method_1_code
def yJ12_init : MethodName := ⟨RJ12, "<init>", "()V"⟩
def dkwJ12_init_0 : List UInt8 := [42, 16, 16, 183, 0, 1, 177]
abbrev dktJ12_init_0 : List UInt8 := dkwJ12_init_0 ++ []
theorem dksJ12_init_0 : cJ12_init.data.toList.drop 0 = dktJ12_init_0 := by decide +kernel
theorem dJ12_init_0 : decode cJ12_init 0 = .ok (.aload_n 0, 1) := dk_42 (dk_at dksJ12_init_0 0 rfl rfl)
theorem dJ12_init_1 : decode cJ12_init 1 = .ok (.bipush 16, 2) := dk_16 16 (dk_at dksJ12_init_0 1 rfl rfl)
theorem dJ12_init_3 : decode cJ12_init 3 = .ok (.invokespecial 1, 3) := dk_183 0 1 (dk_at dksJ12_init_0 3 rfl rfl)
theorem dJ12_init_6 : decode cJ12_init 6 = .ok (.return_, 1) := dk_177 (dk_at dksJ12_init_0 6 rfl rfl)
abbrev cJ12_append : ByteArray := prog_45_method_14_code
def yJ12_append : MethodName := ⟨RJ12, "append", "(C)Ljava/lang/StringBuilder;"⟩
def dkwJ12_append_0 : List UInt8 := [42, 27, 183, 0, 50, 87, 42, 176]
abbrev dktJ12_append_0 : List UInt8 := dkwJ12_append_0 ++ []
theorem dksJ12_append_0 : cJ12_append.data.toList.drop 0 = dktJ12_append_0 := by decide +kernel
theorem dJ12_append_0 : decode cJ12_append 0 = .ok (.aload_n 0, 1) := dk_42 (dk_at dksJ12_append_0 0 rfl rfl)
theorem dJ12_append_1 : decode cJ12_append 1 = .ok (.iload_n 1, 1) := dk_27 (dk_at dksJ12_append_0 1 rfl rfl)
theorem dJ12_append_2 : decode cJ12_append 2 = .ok (.invokespecial 50, 3) := dk_183 0 50 (dk_at dksJ12_append_0 2 rfl rfl)
theorem dJ12_append_5 : decode cJ12_append 5 = .ok (.pop, 1) := dk_87 (dk_at dksJ12_append_0 5 rfl rfl)
theorem dJ12_append_6 : decode cJ12_append 6 = .ok (.aload_n 0, 1) := dk_42 (dk_at dksJ12_append_0 6 rfl rfl)
theorem dJ12_append_7 : decode cJ12_append 7 = .ok (.areturn, 1) := dk_176 (dk_at dksJ12_append_0 7 rfl rfl)
abbrev cJ12_toString : ByteArray := prog_45_method_42_code
def yJ12_toString : MethodName := ⟨RJ12, "toString", "()Ljava/lang/String;"⟩
def dkwJ12_toString_0 : List UInt8 := [187, 0, 18, 89, 42, 183, 0, 137, 176]
abbrev dktJ12_toString_0 : List UInt8 := dkwJ12_toString_0 ++ []
theorem dksJ12_toString_0 : cJ12_toString.data.toList.drop 0 = dktJ12_toString_0 := by decide +kernel
theorem dJ12_toString_0 : decode cJ12_toString 0 = .ok (.new 18, 3) := dk_187 0 18 (dk_at dksJ12_toString_0 0 rfl rfl)
theorem dJ12_toString_3 : decode cJ12_toString 3 = .ok (.dup, 1) := dk_89 (dk_at dksJ12_toString_0 3 rfl rfl)
theorem dJ12_toString_4 : decode cJ12_toString 4 = .ok (.aload_n 0, 1) := dk_42 (dk_at dksJ12_toString_0 4 rfl rfl)
theorem dJ12_toString_5 : decode cJ12_toString 5 = .ok (.invokespecial 137, 3) := dk_183 0 137 (dk_at dksJ12_toString_0 5 rfl rfl)
theorem dJ12_toString_8 : decode cJ12_toString 8 = .ok (.areturn, 1) := dk_176 (dk_at dksJ12_toString_0 8 rfl rfl)
abbrev cJ12_length : ByteArray := prog_45_method_93_code
def yJ12_length : MethodName := ⟨RJ12, "length", "()I"⟩
theorem dJ12_length_0 : decode cJ12_length 0 = .ok (.aload_n 0, 1) := by decide +kernel
theorem dJ12_length_1 : decode cJ12_length 1 = .ok (.invokespecial 343, 3) := by decide +kernel
theorem dJ12_length_4 : decode cJ12_length 4 = .ok (.ireturn, 1) := by decide +kernel
abbrev cJ12_append_2 : ByteArray := prog_45_method_15_code
def yJ12_append_2 : MethodName := ⟨RJ12, "append", "(I)Ljava/lang/StringBuilder;"⟩
def dkwJ12_append_2_0 : List UInt8 := [42, 27, 183, 0, 53, 87, 42, 176]
abbrev dktJ12_append_2_0 : List UInt8 := dkwJ12_append_2_0 ++ []
theorem dksJ12_append_2_0 : cJ12_append_2.data.toList.drop 0 = dktJ12_append_2_0 := by decide +kernel
theorem dJ12_append_2_0 : decode cJ12_append_2 0 = .ok (.aload_n 0, 1) := dk_42 (dk_at dksJ12_append_2_0 0 rfl rfl)
theorem dJ12_append_2_1 : decode cJ12_append_2 1 = .ok (.iload_n 1, 1) := dk_27 (dk_at dksJ12_append_2_0 1 rfl rfl)
theorem dJ12_append_2_2 : decode cJ12_append_2 2 = .ok (.invokespecial 53, 3) := dk_183 0 53 (dk_at dksJ12_append_2_0 2 rfl rfl)
theorem dJ12_append_2_5 : decode cJ12_append_2 5 = .ok (.pop, 1) := dk_87 (dk_at dksJ12_append_2_0 5 rfl rfl)
theorem dJ12_append_2_6 : decode cJ12_append_2 6 = .ok (.aload_n 0, 1) := dk_42 (dk_at dksJ12_append_2_0 6 rfl rfl)
theorem dJ12_append_2_7 : decode cJ12_append_2 7 = .ok (.areturn, 1) := dk_176 (dk_at dksJ12_append_2_0 7 rfl rfl)
abbrev cJ12_append_3 : ByteArray := prog_45_method_7_code
def yJ12_append_3 : MethodName := ⟨RJ12, "append", "(Ljava/lang/String;)Ljava/lang/StringBuilder;"⟩
def dkwJ12_append_3_0 : List UInt8 := [42, 43, 183, 0, 29, 87, 42, 176]
abbrev dktJ12_append_3_0 : List UInt8 := dkwJ12_append_3_0 ++ []
theorem dksJ12_append_3_0 : cJ12_append_3.data.toList.drop 0 = dktJ12_append_3_0 := by decide +kernel
theorem dJ12_append_3_0 : decode cJ12_append_3 0 = .ok (.aload_n 0, 1) := dk_42 (dk_at dksJ12_append_3_0 0 rfl rfl)
theorem dJ12_append_3_1 : decode cJ12_append_3 1 = .ok (.aload_n 1, 1) := dk_43 (dk_at dksJ12_append_3_0 1 rfl rfl)
theorem dJ12_append_3_2 : decode cJ12_append_3 2 = .ok (.invokespecial 29, 3) := dk_183 0 29 (dk_at dksJ12_append_3_0 2 rfl rfl)
theorem dJ12_append_3_5 : decode cJ12_append_3 5 = .ok (.pop, 1) := dk_87 (dk_at dksJ12_append_3_0 5 rfl rfl)
theorem dJ12_append_3_6 : decode cJ12_append_3 6 = .ok (.aload_n 0, 1) := dk_42 (dk_at dksJ12_append_3_0 6 rfl rfl)
theorem dJ12_append_3_7 : decode cJ12_append_3 7 = .ok (.areturn, 1) := dk_176 (dk_at dksJ12_append_3_0 7 rfl rfl)
abbrev cJ12_compareTo : ByteArray := prog_45_method_97_code
def yJ12_compareTo : MethodName := ⟨RJ12, "compareTo", "(Ljava/lang/Object;)I"⟩
def dkwJ12_compareTo_0 : List UInt8 := [42, 43, 192, 0, 24, 182, 1, 90, 172]
abbrev dktJ12_compareTo_0 : List UInt8 := dkwJ12_compareTo_0 ++ []
theorem dksJ12_compareTo_0 : cJ12_compareTo.data.toList.drop 0 = dktJ12_compareTo_0 := by decide +kernel
theorem dJ12_compareTo_0 : decode cJ12_compareTo 0 = .ok (.aload_n 0, 1) := dk_42 (dk_at dksJ12_compareTo_0 0 rfl rfl)
theorem dJ12_compareTo_1 : decode cJ12_compareTo 1 = .ok (.aload_n 1, 1) := dk_43 (dk_at dksJ12_compareTo_0 1 rfl rfl)
theorem dJ12_compareTo_2 : decode cJ12_compareTo 2 = .ok (.checkcast 24, 3) := dk_192 0 24 (dk_at dksJ12_compareTo_0 2 rfl rfl)
theorem dJ12_compareTo_5 : decode cJ12_compareTo 5 = .ok (.invokevirtual 346, 3) := dk_182 1 90 (dk_at dksJ12_compareTo_0 5 rfl rfl)
theorem dJ12_compareTo_8 : decode cJ12_compareTo 8 = .ok (.ireturn, 1) := dk_172 (dk_at dksJ12_compareTo_0 8 rfl rfl)
abbrev cJ12_compareTo_2 : ByteArray := prog_45_method_5_code
def yJ12_compareTo_2 : MethodName := ⟨RJ12, "compareTo", "(Ljava/lang/StringBuilder;)I"⟩
def dkwJ12_compareTo_2_0 : List UInt8 := [42, 43, 183, 0, 13, 172]
abbrev dktJ12_compareTo_2_0 : List UInt8 := dkwJ12_compareTo_2_0 ++ []
theorem dksJ12_compareTo_2_0 : cJ12_compareTo_2.data.toList.drop 0 = dktJ12_compareTo_2_0 := by decide +kernel
theorem dJ12_compareTo_2_0 : decode cJ12_compareTo_2 0 = .ok (.aload_n 0, 1) := dk_42 (dk_at dksJ12_compareTo_2_0 0 rfl rfl)
theorem dJ12_compareTo_2_1 : decode cJ12_compareTo_2 1 = .ok (.aload_n 1, 1) := dk_43 (dk_at dksJ12_compareTo_2_0 1 rfl rfl)
theorem dJ12_compareTo_2_2 : decode cJ12_compareTo_2 2 = .ok (.invokespecial 13, 3) := dk_183 0 13 (dk_at dksJ12_compareTo_2_0 2 rfl rfl)
theorem dJ12_compareTo_2_5 : decode cJ12_compareTo_2 5 = .ok (.ireturn, 1) := dk_172 (dk_at dksJ12_compareTo_2_0 5 rfl rfl)
theorem q128 : (Jvm.Cond.initialized "java/lang/StringBuilder") ∈ lw_all := lw_g (lw_at lw_m1 20 rfl) rfl
theorem q543 : (Jvm.Cond.instantiable "java/lang/StringBuilder" (4 : Nat)) ∈ lw_all := lw_g (lw_at lw_m2 195 rfl) rfl
theorem q545 : (Jvm.Cond.instanceMethod ({ cls := "java/lang/StringBuilder", name := "<init>", desc := "()V" } : Jvm.MethodName)) ∈ lw_all := lw_g (lw_at lw_m2 197 rfl) rfl
theorem q546 : (Jvm.Cond.code ({ cls := "java/lang/StringBuilder", name := "<init>", desc := "()V" } : Jvm.MethodName) prog_45_method_1_code (1 : Nat) (Option.none : Option Jvm.ClassFile.FieldType)) ∈ lw_all := lw_g (lw_at lw_m2 198 rfl) rfl
theorem q547 : (Jvm.Cond.methodLink "java/lang/StringBuilder" (1 : Nat) ({ cls := "java/lang/AbstractStringBuilder", name := "<init>", desc := "(I)V" } : Jvm.MethodName)) ∈ lw_all := lw_g (lw_at lw_m2 199 rfl) rfl
theorem q564 : (Jvm.Cond.lays "java/lang/StringBuilder" "java/lang/AbstractStringBuilder" "value" "[B") ∈ lw_all := lw_g (lw_at lw_m2 216 rfl) rfl
theorem q566 : (Jvm.Cond.lays "java/lang/StringBuilder" "java/lang/AbstractStringBuilder" "coder" "B") ∈ lw_all := lw_g (lw_at lw_m2 218 rfl) rfl
theorem q568 : (Jvm.Cond.lays "java/lang/StringBuilder" "java/lang/AbstractStringBuilder" "maybeLatin1" "Z") ∈ lw_all := lw_g (lw_at lw_m2 220 rfl) rfl
theorem q570 : (Jvm.Cond.lays "java/lang/StringBuilder" "java/lang/AbstractStringBuilder" "count" "I") ∈ lw_all := lw_g (lw_at lw_m2 222 rfl) rfl
theorem q572 : (Jvm.Cond.superclass "java/lang/StringBuilder" "java/lang/AbstractStringBuilder") ∈ lw_all := lw_g (lw_at lw_m2 224 rfl) rfl
theorem q577 : (Jvm.Cond.instanceMethod ({ cls := "java/lang/StringBuilder", name := "append", desc := "(C)Ljava/lang/StringBuilder;" } : Jvm.MethodName)) ∈ lw_all := lw_g (lw_at lw_m2 229 rfl) rfl
theorem q578 : (Jvm.Cond.selects "java/lang/StringBuilder" ({ cls := "java/lang/StringBuilder", name := "append", desc := "(C)Ljava/lang/StringBuilder;" } : Jvm.MethodName) ({ cls := "java/lang/StringBuilder", name := "append", desc := "(C)Ljava/lang/StringBuilder;" } : Jvm.MethodName)) ∈ lw_all := lw_g (lw_at lw_m2 230 rfl) rfl
theorem q579 : (Jvm.Cond.code ({ cls := "java/lang/StringBuilder", name := "append", desc := "(C)Ljava/lang/StringBuilder;" } : Jvm.MethodName) prog_45_method_14_code (2 : Nat) (Option.some (Jvm.ClassFile.FieldType.object "java/lang/StringBuilder"))) ∈ lw_all := lw_g (lw_at lw_m2 231 rfl) rfl
theorem q580 : (Jvm.Cond.methodLink "java/lang/StringBuilder" (50 : Nat) ({ cls := "java/lang/AbstractStringBuilder", name := "append", desc := "(C)Ljava/lang/AbstractStringBuilder;" } : Jvm.MethodName)) ∈ lw_all := lw_g (lw_at lw_m2 232 rfl) rfl
theorem q621 : (Jvm.Cond.selects "java/lang/StringBuilder" ({ cls := "java/lang/AbstractStringBuilder", name := "isLatin1", desc := "()Z" } : Jvm.MethodName) ({ cls := "java/lang/AbstractStringBuilder", name := "isLatin1", desc := "()Z" } : Jvm.MethodName)) ∈ lw_all := lw_g (lw_at lw_m3 33 rfl) rfl
theorem q676 : (Jvm.Cond.instanceMethod ({ cls := "java/lang/StringBuilder", name := "toString", desc := "()Ljava/lang/String;" } : Jvm.MethodName)) ∈ lw_all := lw_g (lw_at lw_m3 88 rfl) rfl
theorem q677 : (Jvm.Cond.selects "java/lang/StringBuilder" ({ cls := "java/lang/StringBuilder", name := "toString", desc := "()Ljava/lang/String;" } : Jvm.MethodName) ({ cls := "java/lang/StringBuilder", name := "toString", desc := "()Ljava/lang/String;" } : Jvm.MethodName)) ∈ lw_all := lw_g (lw_at lw_m3 89 rfl) rfl
theorem q678 : (Jvm.Cond.code ({ cls := "java/lang/StringBuilder", name := "toString", desc := "()Ljava/lang/String;" } : Jvm.MethodName) prog_45_method_42_code (1 : Nat) (Option.some (Jvm.ClassFile.FieldType.object "java/lang/String"))) ∈ lw_all := lw_g (lw_at lw_m3 90 rfl) rfl
theorem q679 : (Jvm.Cond.classLink "java/lang/StringBuilder" (18 : Nat) "java/lang/String") ∈ lw_all := lw_g (lw_at lw_m3 91 rfl) rfl
theorem q681 : (Jvm.Cond.methodLink "java/lang/StringBuilder" (137 : Nat) ({ cls := "java/lang/String", name := "<init>", desc := "(Ljava/lang/StringBuilder;)V" } : Jvm.MethodName)) ∈ lw_all := lw_g (lw_at lw_m3 93 rfl) rfl
theorem q691 : (Jvm.Cond.selects "java/lang/StringBuilder" ({ cls := "java/lang/AbstractStringBuilder", name := "getValue", desc := "()[B" } : Jvm.MethodName) ({ cls := "java/lang/AbstractStringBuilder", name := "getValue", desc := "()[B" } : Jvm.MethodName)) ∈ lw_all := lw_g (lw_at lw_m3 103 rfl) rfl
theorem q696 : (Jvm.Cond.selects "java/lang/StringBuilder" ({ cls := "java/lang/AbstractStringBuilder", name := "length", desc := "()I" } : Jvm.MethodName) ({ cls := "java/lang/StringBuilder", name := "length", desc := "()I" } : Jvm.MethodName)) ∈ lw_all := lw_g (lw_at lw_m3 108 rfl) rfl
theorem q697 : (Jvm.Cond.instanceMethod ({ cls := "java/lang/StringBuilder", name := "length", desc := "()I" } : Jvm.MethodName)) ∈ lw_all := lw_g (lw_at lw_m3 109 rfl) rfl
theorem q698 : (Jvm.Cond.code ({ cls := "java/lang/StringBuilder", name := "length", desc := "()I" } : Jvm.MethodName) prog_45_method_93_code (1 : Nat) (Option.some Jvm.ClassFile.FieldType.int)) ∈ lw_all := lw_g (lw_at lw_m3 110 rfl) rfl
theorem q699 : (Jvm.Cond.methodLink "java/lang/StringBuilder" (343 : Nat) ({ cls := "java/lang/AbstractStringBuilder", name := "length", desc := "()I" } : Jvm.MethodName)) ∈ lw_all := lw_g (lw_at lw_m3 111 rfl) rfl
theorem q723 : (Jvm.Cond.instanceMethod ({ cls := "java/lang/StringBuilder", name := "append", desc := "(I)Ljava/lang/StringBuilder;" } : Jvm.MethodName)) ∈ lw_all := lw_g (lw_at lw_m3 135 rfl) rfl
theorem q724 : (Jvm.Cond.selects "java/lang/StringBuilder" ({ cls := "java/lang/StringBuilder", name := "append", desc := "(I)Ljava/lang/StringBuilder;" } : Jvm.MethodName) ({ cls := "java/lang/StringBuilder", name := "append", desc := "(I)Ljava/lang/StringBuilder;" } : Jvm.MethodName)) ∈ lw_all := lw_g (lw_at lw_m3 136 rfl) rfl
theorem q725 : (Jvm.Cond.code ({ cls := "java/lang/StringBuilder", name := "append", desc := "(I)Ljava/lang/StringBuilder;" } : Jvm.MethodName) prog_45_method_15_code (2 : Nat) (Option.some (Jvm.ClassFile.FieldType.object "java/lang/StringBuilder"))) ∈ lw_all := lw_g (lw_at lw_m3 137 rfl) rfl
theorem q726 : (Jvm.Cond.methodLink "java/lang/StringBuilder" (53 : Nat) ({ cls := "java/lang/AbstractStringBuilder", name := "append", desc := "(I)Ljava/lang/AbstractStringBuilder;" } : Jvm.MethodName)) ∈ lw_all := lw_g (lw_at lw_m3 138 rfl) rfl
theorem q758 : (Jvm.Cond.instanceMethod ({ cls := "java/lang/StringBuilder", name := "append", desc := "(Ljava/lang/String;)Ljava/lang/StringBuilder;" } : Jvm.MethodName)) ∈ lw_all := lw_g (lw_at lw_m3 170 rfl) rfl
theorem q759 : (Jvm.Cond.selects "java/lang/StringBuilder" ({ cls := "java/lang/StringBuilder", name := "append", desc := "(Ljava/lang/String;)Ljava/lang/StringBuilder;" } : Jvm.MethodName) ({ cls := "java/lang/StringBuilder", name := "append", desc := "(Ljava/lang/String;)Ljava/lang/StringBuilder;" } : Jvm.MethodName)) ∈ lw_all := lw_g (lw_at lw_m3 171 rfl) rfl
theorem q760 : (Jvm.Cond.code ({ cls := "java/lang/StringBuilder", name := "append", desc := "(Ljava/lang/String;)Ljava/lang/StringBuilder;" } : Jvm.MethodName) prog_45_method_7_code (2 : Nat) (Option.some (Jvm.ClassFile.FieldType.object "java/lang/StringBuilder"))) ∈ lw_all := lw_g (lw_at lw_m3 172 rfl) rfl
theorem q761 : (Jvm.Cond.methodLink "java/lang/StringBuilder" (29 : Nat) ({ cls := "java/lang/AbstractStringBuilder", name := "append", desc := "(Ljava/lang/String;)Ljava/lang/AbstractStringBuilder;" } : Jvm.MethodName)) ∈ lw_all := lw_g (lw_at lw_m3 173 rfl) rfl
theorem q1042 : (Jvm.Cond.selects "java/lang/StringBuilder" ({ cls := "java/lang/Object", name := "hashCode", desc := "()I" } : Jvm.MethodName) ({ cls := "java/lang/Object", name := "hashCode", desc := "()I" } : Jvm.MethodName)) ∈ lw_all := lw_g (lw_at lw_m4 214 rfl) rfl
theorem q1078 : (Jvm.Cond.selects "java/lang/StringBuilder" ({ cls := "java/lang/Object", name := "equals", desc := "(Ljava/lang/Object;)Z" } : Jvm.MethodName) ({ cls := "java/lang/Object", name := "equals", desc := "(Ljava/lang/Object;)Z" } : Jvm.MethodName)) ∈ lw_all := lw_g (lw_at lw_m5 10 rfl) rfl
theorem q1129 : (Jvm.Cond.selects "java/lang/StringBuilder" ({ cls := "java/lang/Object", name := "getClass", desc := "()Ljava/lang/Class;" } : Jvm.MethodName) ({ cls := "java/lang/Object", name := "getClass", desc := "()Ljava/lang/Class;" } : Jvm.MethodName)) ∈ lw_all := lw_g (lw_at lw_m5 61 rfl) rfl
theorem q1315 : (Jvm.Cond.castable "java/lang/StringBuilder" "java/lang/Comparable") ∈ lw_tbl := lw_at lw_m6 7 rfl
theorem q1316 : (Jvm.Cond.selects "java/lang/StringBuilder" ({ cls := "java/lang/Comparable", name := "compareTo", desc := "(Ljava/lang/Object;)I" } : Jvm.MethodName) ({ cls := "java/lang/StringBuilder", name := "compareTo", desc := "(Ljava/lang/Object;)I" } : Jvm.MethodName)) ∈ lw_all := lw_g (lw_at lw_m6 8 rfl) rfl
theorem q1317 : (Jvm.Cond.unhidden "java/lang/StringBuilder" "compareTo" "(Ljava/lang/Object;)I") ∈ lw_tbl := lw_at lw_m6 9 rfl
theorem q1318 : (Jvm.Cond.instanceMethod ({ cls := "java/lang/StringBuilder", name := "compareTo", desc := "(Ljava/lang/Object;)I" } : Jvm.MethodName)) ∈ lw_all := lw_g (lw_at lw_m6 10 rfl) rfl
theorem q1319 : (Jvm.Cond.publicMethod ({ cls := "java/lang/StringBuilder", name := "compareTo", desc := "(Ljava/lang/Object;)I" } : Jvm.MethodName)) ∈ lw_tbl := lw_at lw_m6 11 rfl
theorem q1320 : (Jvm.Cond.code ({ cls := "java/lang/StringBuilder", name := "compareTo", desc := "(Ljava/lang/Object;)I" } : Jvm.MethodName) prog_45_method_97_code (2 : Nat) (Option.some Jvm.ClassFile.FieldType.int)) ∈ lw_all := lw_g (lw_at lw_m6 12 rfl) rfl
theorem q1321 : (Jvm.Cond.classLink "java/lang/StringBuilder" (24 : Nat) "java/lang/StringBuilder") ∈ lw_all := lw_g (lw_at lw_m6 13 rfl) rfl
theorem q1322 : (Jvm.Cond.methodLink "java/lang/StringBuilder" (346 : Nat) ({ cls := "java/lang/StringBuilder", name := "compareTo", desc := "(Ljava/lang/StringBuilder;)I" } : Jvm.MethodName)) ∈ lw_all := lw_g (lw_at lw_m6 14 rfl) rfl
theorem q1323 : (Jvm.Cond.instanceMethod ({ cls := "java/lang/StringBuilder", name := "compareTo", desc := "(Ljava/lang/StringBuilder;)I" } : Jvm.MethodName)) ∈ lw_all := lw_g (lw_at lw_m6 15 rfl) rfl
theorem q1324 : (Jvm.Cond.selects "java/lang/StringBuilder" ({ cls := "java/lang/StringBuilder", name := "compareTo", desc := "(Ljava/lang/StringBuilder;)I" } : Jvm.MethodName) ({ cls := "java/lang/StringBuilder", name := "compareTo", desc := "(Ljava/lang/StringBuilder;)I" } : Jvm.MethodName)) ∈ lw_all := lw_g (lw_at lw_m6 16 rfl) rfl
theorem q1325 : (Jvm.Cond.code ({ cls := "java/lang/StringBuilder", name := "compareTo", desc := "(Ljava/lang/StringBuilder;)I" } : Jvm.MethodName) prog_45_method_5_code (2 : Nat) (Option.some Jvm.ClassFile.FieldType.int)) ∈ lw_all := lw_g (lw_at lw_m6 17 rfl) rfl
theorem q1326 : (Jvm.Cond.methodLink "java/lang/StringBuilder" (13 : Nat) ({ cls := "java/lang/AbstractStringBuilder", name := "compareTo", desc := "(Ljava/lang/AbstractStringBuilder;)I" } : Jvm.MethodName)) ∈ lw_all := lw_g (lw_at lw_m6 18 rfl) rfl
theorem q3258 : (Jvm.Cond.castable "java/lang/StringBuilder" "java/lang/Object") ∈ lw_tbl := lw_at lw_m14 30 rfl
theorem in_J12 : ∀ w ∈ wsJ120, w ∈ lw_all := lw_in wsJ120 [564, 566, 568, 570] (by decide +kernel) (by decide +kernel)
/-! java/lang/String -/
set_option maxRecDepth 100000
def RJ13 : String := "java/lang/String"
def TJ13 : u_T := fun k => match k with
  | 0 => ("java/lang/String", "value", "[B", true)
  | 1 => ("java/lang/String", "coder", "B", true)
  | 2 => ("java/lang/String", "hash", "I", false)
  | _ => ("java/lang/String", "hashIsZero", "Z", false)
def tyJ13 : Nat → FieldType := fun k => match k with
  | 0 => .array .byte
  | 1 => .byte
  | 2 => .int
  | _ => .boolean
abbrev wsJ130 : List Cond := u_ws RJ13 TJ13 4
theorem nmJ13 : ∀ a, a < 4 → ∀ b, b < 4 → a ≠ b → (TJ13 a).2.1 ≠ (TJ13 b).2.1 := by decide +kernel
theorem tyJ13_ok : ∀ k, k < 4 → parseFieldDescriptor (TJ13 k).2.2.1 = some (tyJ13 k) := by decide +kernel
abbrev cJ13_checkBoundsOffCount : ByteArray := prog_44_method_157_code
def yJ13_checkBoundsOffCount : MethodName := ⟨RJ13, "checkBoundsOffCount", "(III)I"⟩
def dkwJ13_checkBoundsOffCount_0 : List UInt8 := [26, 27, 28, 178, 4, 29, 184, 4, 41, 172]
abbrev dktJ13_checkBoundsOffCount_0 : List UInt8 := dkwJ13_checkBoundsOffCount_0 ++ []
theorem dksJ13_checkBoundsOffCount_0 : cJ13_checkBoundsOffCount.data.toList.drop 0 = dktJ13_checkBoundsOffCount_0 := by decide +kernel
theorem dJ13_checkBoundsOffCount_0 : decode cJ13_checkBoundsOffCount 0 = .ok (.iload_n 0, 1) := dk_26 (dk_at dksJ13_checkBoundsOffCount_0 0 rfl rfl)
theorem dJ13_checkBoundsOffCount_1 : decode cJ13_checkBoundsOffCount 1 = .ok (.iload_n 1, 1) := dk_27 (dk_at dksJ13_checkBoundsOffCount_0 1 rfl rfl)
theorem dJ13_checkBoundsOffCount_2 : decode cJ13_checkBoundsOffCount 2 = .ok (.iload_n 2, 1) := dk_28 (dk_at dksJ13_checkBoundsOffCount_0 2 rfl rfl)
theorem dJ13_checkBoundsOffCount_3 : decode cJ13_checkBoundsOffCount 3 = .ok (.getstatic 1053, 3) := dk_178 4 29 (dk_at dksJ13_checkBoundsOffCount_0 3 rfl rfl)
theorem dJ13_checkBoundsOffCount_6 : decode cJ13_checkBoundsOffCount 6 = .ok (.invokestatic 1065, 3) := dk_184 4 41 (dk_at dksJ13_checkBoundsOffCount_0 6 rfl rfl)
theorem dJ13_checkBoundsOffCount_9 : decode cJ13_checkBoundsOffCount 9 = .ok (.ireturn, 1) := dk_172 (dk_at dksJ13_checkBoundsOffCount_0 9 rfl rfl)
abbrev cJ13_checkIndex : ByteArray := prog_44_method_155_code
def yJ13_checkIndex : MethodName := ⟨RJ13, "checkIndex", "(II)V"⟩
def dkwJ13_checkIndex_0 : List UInt8 := [26, 27, 178, 4, 29, 184, 4, 35, 87, 177]
abbrev dktJ13_checkIndex_0 : List UInt8 := dkwJ13_checkIndex_0 ++ []
theorem dksJ13_checkIndex_0 : cJ13_checkIndex.data.toList.drop 0 = dktJ13_checkIndex_0 := by decide +kernel
theorem dJ13_checkIndex_0 : decode cJ13_checkIndex 0 = .ok (.iload_n 0, 1) := dk_26 (dk_at dksJ13_checkIndex_0 0 rfl rfl)
theorem dJ13_checkIndex_1 : decode cJ13_checkIndex 1 = .ok (.iload_n 1, 1) := dk_27 (dk_at dksJ13_checkIndex_0 1 rfl rfl)
theorem dJ13_checkIndex_2 : decode cJ13_checkIndex 2 = .ok (.getstatic 1053, 3) := dk_178 4 29 (dk_at dksJ13_checkIndex_0 2 rfl rfl)
theorem dJ13_checkIndex_5 : decode cJ13_checkIndex 5 = .ok (.invokestatic 1059, 3) := dk_184 4 35 (dk_at dksJ13_checkIndex_0 5 rfl rfl)
theorem dJ13_checkIndex_8 : decode cJ13_checkIndex 8 = .ok (.pop, 1) := dk_87 (dk_at dksJ13_checkIndex_0 8 rfl rfl)
theorem dJ13_checkIndex_9 : decode cJ13_checkIndex 9 = .ok (.return_, 1) := dk_177 (dk_at dksJ13_checkIndex_0 9 rfl rfl)
abbrev cJ13_init : ByteArray := prog_44_method_53_code
def yJ13_init : MethodName := ⟨RJ13, "<init>", "(Ljava/lang/StringBuilder;)V"⟩
def dkwJ13_init_0 : List UInt8 := [42, 43, 1, 183, 1, 233, 177]
abbrev dktJ13_init_0 : List UInt8 := dkwJ13_init_0 ++ []
theorem dksJ13_init_0 : cJ13_init.data.toList.drop 0 = dktJ13_init_0 := by decide +kernel
theorem dJ13_init_0 : decode cJ13_init 0 = .ok (.aload_n 0, 1) := dk_42 (dk_at dksJ13_init_0 0 rfl rfl)
theorem dJ13_init_1 : decode cJ13_init 1 = .ok (.aload_n 1, 1) := dk_43 (dk_at dksJ13_init_0 1 rfl rfl)
theorem dJ13_init_2 : decode cJ13_init 2 = .ok (.aconst_null, 1) := dk_1 (dk_at dksJ13_init_0 2 rfl rfl)
theorem dJ13_init_3 : decode cJ13_init 3 = .ok (.invokespecial 489, 3) := dk_183 1 233 (dk_at dksJ13_init_0 3 rfl rfl)
theorem dJ13_init_6 : decode cJ13_init 6 = .ok (.return_, 1) := dk_177 (dk_at dksJ13_init_0 6 rfl rfl)
abbrev cJ13_init_2 : ByteArray := prog_44_method_150_code
def yJ13_init_2 : MethodName := ⟨RJ13, "<init>", "(Ljava/lang/AbstractStringBuilder;Ljava/lang/Void;)V"⟩
def dkwJ13_init_2_4 : List UInt8 := [181, 0, 9, 177]
abbrev dktJ13_init_2_4 : List UInt8 := dkwJ13_init_2_4 ++ []
def dkwJ13_init_2_3 : List UInt8 := [184, 0, 47, 181, 0, 15, 177, 42, 4, 181, 0, 15, 42, 45, 3, 21, 4, 4, 120, 184, 0, 54]
abbrev dktJ13_init_2_3 : List UInt8 := dkwJ13_init_2_3 ++ dktJ13_init_2_4
def dkwJ13_init_2_2 : List UInt8 := [180, 4, 24, 153, 0, 28, 42, 45, 3, 21, 4, 184, 4, 27, 181, 0, 9, 42, 42, 180, 0, 9, 21, 4]
abbrev dktJ13_init_2_2 : List UInt8 := dkwJ13_init_2_2 ++ dktJ13_init_2_3
def dkwJ13_init_2_1 : List UInt8 := [181, 0, 15, 42, 45, 3, 21, 4, 184, 0, 54, 181, 0, 9, 167, 0, 59, 178, 0, 38, 153, 0, 35, 43]
abbrev dktJ13_init_2_1 : List UInt8 := dkwJ13_init_2_1 ++ dktJ13_init_2_2
def dkwJ13_init_2_0 : List UInt8 := [42, 183, 0, 1, 43, 182, 2, 40, 78, 43, 182, 2, 37, 54, 4, 43, 182, 4, 23, 153, 0, 22, 42, 3]
abbrev dktJ13_init_2_0 : List UInt8 := dkwJ13_init_2_0 ++ dktJ13_init_2_1
theorem dksJ13_init_2_0 : cJ13_init_2.data.toList.drop 0 = dktJ13_init_2_0 := by decide +kernel
theorem dksJ13_init_2_1 : cJ13_init_2.data.toList.drop 24 = dktJ13_init_2_1 := dk_seg dksJ13_init_2_0 24 rfl rfl
theorem dksJ13_init_2_2 : cJ13_init_2.data.toList.drop 48 = dktJ13_init_2_2 := dk_seg dksJ13_init_2_1 24 rfl rfl
theorem dksJ13_init_2_3 : cJ13_init_2.data.toList.drop 72 = dktJ13_init_2_3 := dk_seg dksJ13_init_2_2 24 rfl rfl
theorem dksJ13_init_2_4 : cJ13_init_2.data.toList.drop 94 = dktJ13_init_2_4 := dk_seg dksJ13_init_2_3 22 rfl rfl
theorem dJ13_init_2_0 : decode cJ13_init_2 0 = .ok (.aload_n 0, 1) := dk_42 (dk_at dksJ13_init_2_0 0 rfl rfl)
theorem dJ13_init_2_1 : decode cJ13_init_2 1 = .ok (.invokespecial 1, 3) := dk_183 0 1 (dk_at dksJ13_init_2_0 1 rfl rfl)
theorem dJ13_init_2_4 : decode cJ13_init_2 4 = .ok (.aload_n 1, 1) := dk_43 (dk_at dksJ13_init_2_0 4 rfl rfl)
theorem dJ13_init_2_5 : decode cJ13_init_2 5 = .ok (.invokevirtual 552, 3) := dk_182 2 40 (dk_at dksJ13_init_2_0 5 rfl rfl)
theorem dJ13_init_2_8 : decode cJ13_init_2 8 = .ok (.astore_n 3, 1) := dk_78 (dk_at dksJ13_init_2_0 8 rfl rfl)
theorem dJ13_init_2_9 : decode cJ13_init_2 9 = .ok (.aload_n 1, 1) := dk_43 (dk_at dksJ13_init_2_0 9 rfl rfl)
theorem dJ13_init_2_10 : decode cJ13_init_2 10 = .ok (.invokevirtual 549, 3) := dk_182 2 37 (dk_at dksJ13_init_2_0 10 rfl rfl)
theorem dJ13_init_2_13 : decode cJ13_init_2 13 = .ok (.istore 4, 2) := dk_54 4 (dk_at dksJ13_init_2_0 13 rfl rfl)
theorem dJ13_init_2_15 : decode cJ13_init_2 15 = .ok (.aload_n 1, 1) := dk_43 (dk_at dksJ13_init_2_0 15 rfl rfl)
theorem dJ13_init_2_16 : decode cJ13_init_2 16 = .ok (.invokevirtual 1047, 3) := dk_182 4 23 (dk_at dksJ13_init_2_0 16 rfl rfl)
theorem dJ13_init_2_19 : decode cJ13_init_2 19 = .ok (.ifCond .eq 22, 3) := dk_153 0 22 (dk_at dksJ13_init_2_0 19 rfl rfl)
theorem dJ13_init_2_22 : decode cJ13_init_2 22 = .ok (.aload_n 0, 1) := dk_42 (dk_at dksJ13_init_2_0 22 rfl rfl)
theorem dJ13_init_2_23 : decode cJ13_init_2 23 = .ok (.iconst 0, 1) := dk_3 (dk_at dksJ13_init_2_0 23 rfl rfl)
theorem dJ13_init_2_24 : decode cJ13_init_2 24 = .ok (.putfield 15, 3) := dk_181 0 15 (dk_at dksJ13_init_2_1 0 rfl rfl)
theorem dJ13_init_2_27 : decode cJ13_init_2 27 = .ok (.aload_n 0, 1) := dk_42 (dk_at dksJ13_init_2_1 3 rfl rfl)
theorem dJ13_init_2_28 : decode cJ13_init_2 28 = .ok (.aload_n 3, 1) := dk_45 (dk_at dksJ13_init_2_1 4 rfl rfl)
theorem dJ13_init_2_29 : decode cJ13_init_2 29 = .ok (.iconst 0, 1) := dk_3 (dk_at dksJ13_init_2_1 5 rfl rfl)
theorem dJ13_init_2_30 : decode cJ13_init_2 30 = .ok (.iload 4, 2) := dk_21 4 (dk_at dksJ13_init_2_1 6 rfl rfl)
theorem dJ13_init_2_32 : decode cJ13_init_2 32 = .ok (.invokestatic 54, 3) := dk_184 0 54 (dk_at dksJ13_init_2_1 8 rfl rfl)
theorem dJ13_init_2_35 : decode cJ13_init_2 35 = .ok (.putfield 9, 3) := dk_181 0 9 (dk_at dksJ13_init_2_1 11 rfl rfl)
theorem dJ13_init_2_38 : decode cJ13_init_2 38 = .ok (.goto 59, 3) := dk_167 0 59 (dk_at dksJ13_init_2_1 14 rfl rfl)
theorem dJ13_init_2_41 : decode cJ13_init_2 41 = .ok (.getstatic 38, 3) := dk_178 0 38 (dk_at dksJ13_init_2_1 17 rfl rfl)
theorem dJ13_init_2_44 : decode cJ13_init_2 44 = .ok (.ifCond .eq 35, 3) := dk_153 0 35 (dk_at dksJ13_init_2_1 20 rfl rfl)
theorem dJ13_init_2_47 : decode cJ13_init_2 47 = .ok (.aload_n 1, 1) := dk_43 (dk_at dksJ13_init_2_1 23 rfl rfl)
theorem dJ13_init_2_48 : decode cJ13_init_2 48 = .ok (.getfield 1048, 3) := dk_180 4 24 (dk_at dksJ13_init_2_2 0 rfl rfl)
theorem dJ13_init_2_51 : decode cJ13_init_2 51 = .ok (.ifCond .eq 28, 3) := dk_153 0 28 (dk_at dksJ13_init_2_2 3 rfl rfl)
theorem dJ13_init_2_54 : decode cJ13_init_2 54 = .ok (.aload_n 0, 1) := dk_42 (dk_at dksJ13_init_2_2 6 rfl rfl)
theorem dJ13_init_2_55 : decode cJ13_init_2 55 = .ok (.aload_n 3, 1) := dk_45 (dk_at dksJ13_init_2_2 7 rfl rfl)
theorem dJ13_init_2_56 : decode cJ13_init_2 56 = .ok (.iconst 0, 1) := dk_3 (dk_at dksJ13_init_2_2 8 rfl rfl)
theorem dJ13_init_2_57 : decode cJ13_init_2 57 = .ok (.iload 4, 2) := dk_21 4 (dk_at dksJ13_init_2_2 9 rfl rfl)
theorem dJ13_init_2_59 : decode cJ13_init_2 59 = .ok (.invokestatic 1051, 3) := dk_184 4 27 (dk_at dksJ13_init_2_2 11 rfl rfl)
theorem dJ13_init_2_62 : decode cJ13_init_2 62 = .ok (.putfield 9, 3) := dk_181 0 9 (dk_at dksJ13_init_2_2 14 rfl rfl)
theorem dJ13_init_2_65 : decode cJ13_init_2 65 = .ok (.aload_n 0, 1) := dk_42 (dk_at dksJ13_init_2_2 17 rfl rfl)
theorem dJ13_init_2_66 : decode cJ13_init_2 66 = .ok (.aload_n 0, 1) := dk_42 (dk_at dksJ13_init_2_2 18 rfl rfl)
theorem dJ13_init_2_67 : decode cJ13_init_2 67 = .ok (.getfield 9, 3) := dk_180 0 9 (dk_at dksJ13_init_2_2 19 rfl rfl)
theorem dJ13_init_2_70 : decode cJ13_init_2 70 = .ok (.iload 4, 2) := dk_21 4 (dk_at dksJ13_init_2_2 22 rfl rfl)
theorem dJ13_init_2_72 : decode cJ13_init_2 72 = .ok (.invokestatic 47, 3) := dk_184 0 47 (dk_at dksJ13_init_2_3 0 rfl rfl)
theorem dJ13_init_2_75 : decode cJ13_init_2 75 = .ok (.putfield 15, 3) := dk_181 0 15 (dk_at dksJ13_init_2_3 3 rfl rfl)
theorem dJ13_init_2_78 : decode cJ13_init_2 78 = .ok (.return_, 1) := dk_177 (dk_at dksJ13_init_2_3 6 rfl rfl)
theorem dJ13_init_2_79 : decode cJ13_init_2 79 = .ok (.aload_n 0, 1) := dk_42 (dk_at dksJ13_init_2_3 7 rfl rfl)
theorem dJ13_init_2_80 : decode cJ13_init_2 80 = .ok (.iconst 1, 1) := dk_4 (dk_at dksJ13_init_2_3 8 rfl rfl)
theorem dJ13_init_2_81 : decode cJ13_init_2 81 = .ok (.putfield 15, 3) := dk_181 0 15 (dk_at dksJ13_init_2_3 9 rfl rfl)
theorem dJ13_init_2_84 : decode cJ13_init_2 84 = .ok (.aload_n 0, 1) := dk_42 (dk_at dksJ13_init_2_3 12 rfl rfl)
theorem dJ13_init_2_85 : decode cJ13_init_2 85 = .ok (.aload_n 3, 1) := dk_45 (dk_at dksJ13_init_2_3 13 rfl rfl)
theorem dJ13_init_2_86 : decode cJ13_init_2 86 = .ok (.iconst 0, 1) := dk_3 (dk_at dksJ13_init_2_3 14 rfl rfl)
theorem dJ13_init_2_87 : decode cJ13_init_2 87 = .ok (.iload 4, 2) := dk_21 4 (dk_at dksJ13_init_2_3 15 rfl rfl)
theorem dJ13_init_2_89 : decode cJ13_init_2 89 = .ok (.iconst 1, 1) := dk_4 (dk_at dksJ13_init_2_3 17 rfl rfl)
theorem dJ13_init_2_90 : decode cJ13_init_2 90 = .ok (.ishl, 1) := dk_120 (dk_at dksJ13_init_2_3 18 rfl rfl)
theorem dJ13_init_2_91 : decode cJ13_init_2 91 = .ok (.invokestatic 54, 3) := dk_184 0 54 (dk_at dksJ13_init_2_3 19 rfl rfl)
theorem dJ13_init_2_94 : decode cJ13_init_2 94 = .ok (.putfield 9, 3) := dk_181 0 9 (dk_at dksJ13_init_2_4 0 rfl rfl)
theorem dJ13_init_2_97 : decode cJ13_init_2 97 = .ok (.return_, 1) := dk_177 (dk_at dksJ13_init_2_4 3 rfl rfl)
abbrev cJ13_checkBoundsBeginEnd : ByteArray := prog_44_method_158_code
def yJ13_checkBoundsBeginEnd : MethodName := ⟨RJ13, "checkBoundsBeginEnd", "(III)V"⟩
def dkwJ13_checkBoundsBeginEnd_0 : List UInt8 := [26, 27, 28, 178, 4, 29, 184, 4, 38, 87, 177]
abbrev dktJ13_checkBoundsBeginEnd_0 : List UInt8 := dkwJ13_checkBoundsBeginEnd_0 ++ []
theorem dksJ13_checkBoundsBeginEnd_0 : cJ13_checkBoundsBeginEnd.data.toList.drop 0 = dktJ13_checkBoundsBeginEnd_0 := by decide +kernel
theorem dJ13_checkBoundsBeginEnd_0 : decode cJ13_checkBoundsBeginEnd 0 = .ok (.iload_n 0, 1) := dk_26 (dk_at dksJ13_checkBoundsBeginEnd_0 0 rfl rfl)
theorem dJ13_checkBoundsBeginEnd_1 : decode cJ13_checkBoundsBeginEnd 1 = .ok (.iload_n 1, 1) := dk_27 (dk_at dksJ13_checkBoundsBeginEnd_0 1 rfl rfl)
theorem dJ13_checkBoundsBeginEnd_2 : decode cJ13_checkBoundsBeginEnd 2 = .ok (.iload_n 2, 1) := dk_28 (dk_at dksJ13_checkBoundsBeginEnd_0 2 rfl rfl)
theorem dJ13_checkBoundsBeginEnd_3 : decode cJ13_checkBoundsBeginEnd 3 = .ok (.getstatic 1053, 3) := dk_178 4 29 (dk_at dksJ13_checkBoundsBeginEnd_0 3 rfl rfl)
theorem dJ13_checkBoundsBeginEnd_6 : decode cJ13_checkBoundsBeginEnd 6 = .ok (.invokestatic 1062, 3) := dk_184 4 38 (dk_at dksJ13_checkBoundsBeginEnd_0 6 rfl rfl)
theorem dJ13_checkBoundsBeginEnd_9 : decode cJ13_checkBoundsBeginEnd 9 = .ok (.pop, 1) := dk_87 (dk_at dksJ13_checkBoundsBeginEnd_0 9 rfl rfl)
theorem dJ13_checkBoundsBeginEnd_10 : decode cJ13_checkBoundsBeginEnd 10 = .ok (.return_, 1) := dk_177 (dk_at dksJ13_checkBoundsBeginEnd_0 10 rfl rfl)
abbrev cJ13_length : ByteArray := prog_44_method_54_code
def yJ13_length : MethodName := ⟨RJ13, "length", "()I"⟩
def dkwJ13_length_0 : List UInt8 := [42, 180, 0, 9, 190, 42, 182, 1, 79, 122, 172]
abbrev dktJ13_length_0 : List UInt8 := dkwJ13_length_0 ++ []
theorem dksJ13_length_0 : cJ13_length.data.toList.drop 0 = dktJ13_length_0 := by decide +kernel
theorem dJ13_length_0 : decode cJ13_length 0 = .ok (.aload_n 0, 1) := dk_42 (dk_at dksJ13_length_0 0 rfl rfl)
theorem dJ13_length_1 : decode cJ13_length 1 = .ok (.getfield 9, 3) := dk_180 0 9 (dk_at dksJ13_length_0 1 rfl rfl)
theorem dJ13_length_4 : decode cJ13_length 4 = .ok (.arraylength, 1) := dk_190 (dk_at dksJ13_length_0 4 rfl rfl)
theorem dJ13_length_5 : decode cJ13_length 5 = .ok (.aload_n 0, 1) := dk_42 (dk_at dksJ13_length_0 5 rfl rfl)
theorem dJ13_length_6 : decode cJ13_length 6 = .ok (.invokevirtual 335, 3) := dk_182 1 79 (dk_at dksJ13_length_0 6 rfl rfl)
theorem dJ13_length_9 : decode cJ13_length 9 = .ok (.ishr, 1) := dk_122 (dk_at dksJ13_length_0 9 rfl rfl)
theorem dJ13_length_10 : decode cJ13_length 10 = .ok (.ireturn, 1) := dk_172 (dk_at dksJ13_length_0 10 rfl rfl)
abbrev cJ13_coder : ByteArray := prog_44_method_152_code
def yJ13_coder : MethodName := ⟨RJ13, "coder", "()B"⟩
def dkwJ13_coder_0 : List UInt8 := [178, 0, 38, 153, 0, 10, 42, 180, 0, 15, 167, 0, 4, 4, 172]
abbrev dktJ13_coder_0 : List UInt8 := dkwJ13_coder_0 ++ []
theorem dksJ13_coder_0 : cJ13_coder.data.toList.drop 0 = dktJ13_coder_0 := by decide +kernel
theorem dJ13_coder_0 : decode cJ13_coder 0 = .ok (.getstatic 38, 3) := dk_178 0 38 (dk_at dksJ13_coder_0 0 rfl rfl)
theorem dJ13_coder_3 : decode cJ13_coder 3 = .ok (.ifCond .eq 10, 3) := dk_153 0 10 (dk_at dksJ13_coder_0 3 rfl rfl)
theorem dJ13_coder_6 : decode cJ13_coder 6 = .ok (.aload_n 0, 1) := dk_42 (dk_at dksJ13_coder_0 6 rfl rfl)
theorem dJ13_coder_7 : decode cJ13_coder 7 = .ok (.getfield 15, 3) := dk_180 0 15 (dk_at dksJ13_coder_0 7 rfl rfl)
theorem dJ13_coder_10 : decode cJ13_coder 10 = .ok (.goto 4, 3) := dk_167 0 4 (dk_at dksJ13_coder_0 10 rfl rfl)
theorem dJ13_coder_13 : decode cJ13_coder 13 = .ok (.iconst 1, 1) := dk_4 (dk_at dksJ13_coder_0 13 rfl rfl)
theorem dJ13_coder_14 : decode cJ13_coder 14 = .ok (.ireturn, 1) := dk_172 (dk_at dksJ13_coder_0 14 rfl rfl)
abbrev cJ13_getBytes : ByteArray := prog_44_method_147_code
def yJ13_getBytes : MethodName := ⟨RJ13, "getBytes", "([BIB)V"⟩
def dkwJ13_getBytes_1 : List UInt8 := [184, 0, 212, 167, 0, 18, 42, 180, 0, 9, 3, 43, 28, 42, 180, 0, 9, 190, 184, 0, 106, 177]
abbrev dktJ13_getBytes_1 : List UInt8 := dkwJ13_getBytes_1 ++ []
def dkwJ13_getBytes_0 : List UInt8 := [42, 182, 1, 79, 29, 160, 0, 23, 42, 180, 0, 9, 3, 43, 28, 29, 120, 42, 180, 0, 9, 190]
abbrev dktJ13_getBytes_0 : List UInt8 := dkwJ13_getBytes_0 ++ dktJ13_getBytes_1
theorem dksJ13_getBytes_0 : cJ13_getBytes.data.toList.drop 0 = dktJ13_getBytes_0 := by decide +kernel
theorem dksJ13_getBytes_1 : cJ13_getBytes.data.toList.drop 22 = dktJ13_getBytes_1 := dk_seg dksJ13_getBytes_0 22 rfl rfl
theorem dJ13_getBytes_0 : decode cJ13_getBytes 0 = .ok (.aload_n 0, 1) := dk_42 (dk_at dksJ13_getBytes_0 0 rfl rfl)
theorem dJ13_getBytes_1 : decode cJ13_getBytes 1 = .ok (.invokevirtual 335, 3) := dk_182 1 79 (dk_at dksJ13_getBytes_0 1 rfl rfl)
theorem dJ13_getBytes_4 : decode cJ13_getBytes 4 = .ok (.iload_n 3, 1) := dk_29 (dk_at dksJ13_getBytes_0 4 rfl rfl)
theorem dJ13_getBytes_5 : decode cJ13_getBytes 5 = .ok (.if_icmp .ne 23, 3) := dk_160 0 23 (dk_at dksJ13_getBytes_0 5 rfl rfl)
theorem dJ13_getBytes_8 : decode cJ13_getBytes 8 = .ok (.aload_n 0, 1) := dk_42 (dk_at dksJ13_getBytes_0 8 rfl rfl)
theorem dJ13_getBytes_9 : decode cJ13_getBytes 9 = .ok (.getfield 9, 3) := dk_180 0 9 (dk_at dksJ13_getBytes_0 9 rfl rfl)
theorem dJ13_getBytes_12 : decode cJ13_getBytes 12 = .ok (.iconst 0, 1) := dk_3 (dk_at dksJ13_getBytes_0 12 rfl rfl)
theorem dJ13_getBytes_13 : decode cJ13_getBytes 13 = .ok (.aload_n 1, 1) := dk_43 (dk_at dksJ13_getBytes_0 13 rfl rfl)
theorem dJ13_getBytes_14 : decode cJ13_getBytes 14 = .ok (.iload_n 2, 1) := dk_28 (dk_at dksJ13_getBytes_0 14 rfl rfl)
theorem dJ13_getBytes_15 : decode cJ13_getBytes 15 = .ok (.iload_n 3, 1) := dk_29 (dk_at dksJ13_getBytes_0 15 rfl rfl)
theorem dJ13_getBytes_16 : decode cJ13_getBytes 16 = .ok (.ishl, 1) := dk_120 (dk_at dksJ13_getBytes_0 16 rfl rfl)
theorem dJ13_getBytes_17 : decode cJ13_getBytes 17 = .ok (.aload_n 0, 1) := dk_42 (dk_at dksJ13_getBytes_0 17 rfl rfl)
theorem dJ13_getBytes_18 : decode cJ13_getBytes 18 = .ok (.getfield 9, 3) := dk_180 0 9 (dk_at dksJ13_getBytes_0 18 rfl rfl)
theorem dJ13_getBytes_21 : decode cJ13_getBytes 21 = .ok (.arraylength, 1) := dk_190 (dk_at dksJ13_getBytes_0 21 rfl rfl)
theorem dJ13_getBytes_22 : decode cJ13_getBytes 22 = .ok (.invokestatic 212, 3) := dk_184 0 212 (dk_at dksJ13_getBytes_1 0 rfl rfl)
theorem dJ13_getBytes_25 : decode cJ13_getBytes 25 = .ok (.goto 18, 3) := dk_167 0 18 (dk_at dksJ13_getBytes_1 3 rfl rfl)
theorem dJ13_getBytes_28 : decode cJ13_getBytes 28 = .ok (.aload_n 0, 1) := dk_42 (dk_at dksJ13_getBytes_1 6 rfl rfl)
theorem dJ13_getBytes_29 : decode cJ13_getBytes 29 = .ok (.getfield 9, 3) := dk_180 0 9 (dk_at dksJ13_getBytes_1 7 rfl rfl)
theorem dJ13_getBytes_32 : decode cJ13_getBytes 32 = .ok (.iconst 0, 1) := dk_3 (dk_at dksJ13_getBytes_1 10 rfl rfl)
theorem dJ13_getBytes_33 : decode cJ13_getBytes 33 = .ok (.aload_n 1, 1) := dk_43 (dk_at dksJ13_getBytes_1 11 rfl rfl)
theorem dJ13_getBytes_34 : decode cJ13_getBytes 34 = .ok (.iload_n 2, 1) := dk_28 (dk_at dksJ13_getBytes_1 12 rfl rfl)
theorem dJ13_getBytes_35 : decode cJ13_getBytes 35 = .ok (.aload_n 0, 1) := dk_42 (dk_at dksJ13_getBytes_1 13 rfl rfl)
theorem dJ13_getBytes_36 : decode cJ13_getBytes 36 = .ok (.getfield 9, 3) := dk_180 0 9 (dk_at dksJ13_getBytes_1 14 rfl rfl)
theorem dJ13_getBytes_39 : decode cJ13_getBytes 39 = .ok (.arraylength, 1) := dk_190 (dk_at dksJ13_getBytes_1 17 rfl rfl)
theorem dJ13_getBytes_40 : decode cJ13_getBytes 40 = .ok (.invokestatic 106, 3) := dk_184 0 106 (dk_at dksJ13_getBytes_1 18 rfl rfl)
theorem dJ13_getBytes_43 : decode cJ13_getBytes 43 = .ok (.return_, 1) := dk_177 (dk_at dksJ13_getBytes_1 21 rfl rfl)
abbrev cJ13_equals : ByteArray := prog_44_method_66_code
def yJ13_equals : MethodName := ⟨RJ13, "equals", "(Ljava/lang/Object;)Z"⟩
def dkwJ13_equals_2 : List UInt8 := [184, 2, 29, 153, 0, 7, 4, 167, 0, 4, 3, 172]
abbrev dktJ13_equals_2 : List UInt8 := dkwJ13_equals_2 ++ []
def dkwJ13_equals_1 : List UInt8 := [153, 0, 14, 42, 180, 0, 15, 44, 180, 0, 15, 160, 0, 21, 42, 180, 0, 9, 44, 180, 0, 9]
abbrev dktJ13_equals_1 : List UInt8 := dkwJ13_equals_1 ++ dktJ13_equals_2
def dkwJ13_equals_0 : List UInt8 := [42, 43, 166, 0, 5, 4, 172, 43, 193, 0, 10, 153, 0, 43, 43, 192, 0, 10, 77, 178, 0, 38]
abbrev dktJ13_equals_0 : List UInt8 := dkwJ13_equals_0 ++ dktJ13_equals_1
theorem dksJ13_equals_0 : cJ13_equals.data.toList.drop 0 = dktJ13_equals_0 := by decide +kernel
theorem dksJ13_equals_1 : cJ13_equals.data.toList.drop 22 = dktJ13_equals_1 := dk_seg dksJ13_equals_0 22 rfl rfl
theorem dksJ13_equals_2 : cJ13_equals.data.toList.drop 44 = dktJ13_equals_2 := dk_seg dksJ13_equals_1 22 rfl rfl
theorem dJ13_equals_0 : decode cJ13_equals 0 = .ok (.aload_n 0, 1) := dk_42 (dk_at dksJ13_equals_0 0 rfl rfl)
theorem dJ13_equals_1 : decode cJ13_equals 1 = .ok (.aload_n 1, 1) := dk_43 (dk_at dksJ13_equals_0 1 rfl rfl)
theorem dJ13_equals_2 : decode cJ13_equals 2 = .ok (.if_acmp .ne 5, 3) := dk_166 0 5 (dk_at dksJ13_equals_0 2 rfl rfl)
theorem dJ13_equals_5 : decode cJ13_equals 5 = .ok (.iconst 1, 1) := dk_4 (dk_at dksJ13_equals_0 5 rfl rfl)
theorem dJ13_equals_6 : decode cJ13_equals 6 = .ok (.ireturn, 1) := dk_172 (dk_at dksJ13_equals_0 6 rfl rfl)
theorem dJ13_equals_7 : decode cJ13_equals 7 = .ok (.aload_n 1, 1) := dk_43 (dk_at dksJ13_equals_0 7 rfl rfl)
theorem dJ13_equals_8 : decode cJ13_equals 8 = .ok (.instanceof 10, 3) := dk_193 0 10 (dk_at dksJ13_equals_0 8 rfl rfl)
theorem dJ13_equals_11 : decode cJ13_equals 11 = .ok (.ifCond .eq 43, 3) := dk_153 0 43 (dk_at dksJ13_equals_0 11 rfl rfl)
theorem dJ13_equals_14 : decode cJ13_equals 14 = .ok (.aload_n 1, 1) := dk_43 (dk_at dksJ13_equals_0 14 rfl rfl)
theorem dJ13_equals_15 : decode cJ13_equals 15 = .ok (.checkcast 10, 3) := dk_192 0 10 (dk_at dksJ13_equals_0 15 rfl rfl)
theorem dJ13_equals_18 : decode cJ13_equals 18 = .ok (.astore_n 2, 1) := dk_77 (dk_at dksJ13_equals_0 18 rfl rfl)
theorem dJ13_equals_19 : decode cJ13_equals 19 = .ok (.getstatic 38, 3) := dk_178 0 38 (dk_at dksJ13_equals_0 19 rfl rfl)
theorem dJ13_equals_22 : decode cJ13_equals 22 = .ok (.ifCond .eq 14, 3) := dk_153 0 14 (dk_at dksJ13_equals_1 0 rfl rfl)
theorem dJ13_equals_25 : decode cJ13_equals 25 = .ok (.aload_n 0, 1) := dk_42 (dk_at dksJ13_equals_1 3 rfl rfl)
theorem dJ13_equals_26 : decode cJ13_equals 26 = .ok (.getfield 15, 3) := dk_180 0 15 (dk_at dksJ13_equals_1 4 rfl rfl)
theorem dJ13_equals_29 : decode cJ13_equals 29 = .ok (.aload_n 2, 1) := dk_44 (dk_at dksJ13_equals_1 7 rfl rfl)
theorem dJ13_equals_30 : decode cJ13_equals 30 = .ok (.getfield 15, 3) := dk_180 0 15 (dk_at dksJ13_equals_1 8 rfl rfl)
theorem dJ13_equals_33 : decode cJ13_equals 33 = .ok (.if_icmp .ne 21, 3) := dk_160 0 21 (dk_at dksJ13_equals_1 11 rfl rfl)
theorem dJ13_equals_36 : decode cJ13_equals 36 = .ok (.aload_n 0, 1) := dk_42 (dk_at dksJ13_equals_1 14 rfl rfl)
theorem dJ13_equals_37 : decode cJ13_equals 37 = .ok (.getfield 9, 3) := dk_180 0 9 (dk_at dksJ13_equals_1 15 rfl rfl)
theorem dJ13_equals_40 : decode cJ13_equals 40 = .ok (.aload_n 2, 1) := dk_44 (dk_at dksJ13_equals_1 18 rfl rfl)
theorem dJ13_equals_41 : decode cJ13_equals 41 = .ok (.getfield 9, 3) := dk_180 0 9 (dk_at dksJ13_equals_1 19 rfl rfl)
theorem dJ13_equals_44 : decode cJ13_equals 44 = .ok (.invokestatic 541, 3) := dk_184 2 29 (dk_at dksJ13_equals_2 0 rfl rfl)
theorem dJ13_equals_47 : decode cJ13_equals 47 = .ok (.ifCond .eq 7, 3) := dk_153 0 7 (dk_at dksJ13_equals_2 3 rfl rfl)
theorem dJ13_equals_50 : decode cJ13_equals 50 = .ok (.iconst 1, 1) := dk_4 (dk_at dksJ13_equals_2 6 rfl rfl)
theorem dJ13_equals_51 : decode cJ13_equals 51 = .ok (.goto 4, 3) := dk_167 0 4 (dk_at dksJ13_equals_2 7 rfl rfl)
theorem dJ13_equals_54 : decode cJ13_equals 54 = .ok (.iconst 0, 1) := dk_3 (dk_at dksJ13_equals_2 10 rfl rfl)
theorem dJ13_equals_55 : decode cJ13_equals 55 = .ok (.ireturn, 1) := dk_172 (dk_at dksJ13_equals_2 11 rfl rfl)
abbrev cJ13_hashCode : ByteArray := prog_44_method_78_code
def yJ13_hashCode : MethodName := ⟨RJ13, "hashCode", "()I"⟩
def dkwJ13_hashCode_2 : List UInt8 := [181, 0, 23, 167, 0, 8, 42, 27, 181, 0, 19, 27, 172]
abbrev dktJ13_hashCode_2 : List UInt8 := dkwJ13_hashCode_2 ++ []
def dkwJ13_hashCode_1 : List UInt8 := [180, 0, 9, 184, 2, 116, 167, 0, 10, 42, 180, 0, 9, 184, 2, 120, 60, 27, 154, 0, 11, 42, 4]
abbrev dktJ13_hashCode_1 : List UInt8 := dkwJ13_hashCode_1 ++ dktJ13_hashCode_2
def dkwJ13_hashCode_0 : List UInt8 := [42, 180, 0, 19, 60, 27, 154, 0, 52, 42, 180, 0, 23, 154, 0, 45, 42, 182, 1, 236, 153, 0, 13, 42]
abbrev dktJ13_hashCode_0 : List UInt8 := dkwJ13_hashCode_0 ++ dktJ13_hashCode_1
theorem dksJ13_hashCode_0 : cJ13_hashCode.data.toList.drop 0 = dktJ13_hashCode_0 := by decide +kernel
theorem dksJ13_hashCode_1 : cJ13_hashCode.data.toList.drop 24 = dktJ13_hashCode_1 := dk_seg dksJ13_hashCode_0 24 rfl rfl
theorem dksJ13_hashCode_2 : cJ13_hashCode.data.toList.drop 47 = dktJ13_hashCode_2 := dk_seg dksJ13_hashCode_1 23 rfl rfl
theorem dJ13_hashCode_0 : decode cJ13_hashCode 0 = .ok (.aload_n 0, 1) := dk_42 (dk_at dksJ13_hashCode_0 0 rfl rfl)
theorem dJ13_hashCode_1 : decode cJ13_hashCode 1 = .ok (.getfield 19, 3) := dk_180 0 19 (dk_at dksJ13_hashCode_0 1 rfl rfl)
theorem dJ13_hashCode_4 : decode cJ13_hashCode 4 = .ok (.istore_n 1, 1) := dk_60 (dk_at dksJ13_hashCode_0 4 rfl rfl)
theorem dJ13_hashCode_5 : decode cJ13_hashCode 5 = .ok (.iload_n 1, 1) := dk_27 (dk_at dksJ13_hashCode_0 5 rfl rfl)
theorem dJ13_hashCode_6 : decode cJ13_hashCode 6 = .ok (.ifCond .ne 52, 3) := dk_154 0 52 (dk_at dksJ13_hashCode_0 6 rfl rfl)
theorem dJ13_hashCode_9 : decode cJ13_hashCode 9 = .ok (.aload_n 0, 1) := dk_42 (dk_at dksJ13_hashCode_0 9 rfl rfl)
theorem dJ13_hashCode_10 : decode cJ13_hashCode 10 = .ok (.getfield 23, 3) := dk_180 0 23 (dk_at dksJ13_hashCode_0 10 rfl rfl)
theorem dJ13_hashCode_13 : decode cJ13_hashCode 13 = .ok (.ifCond .ne 45, 3) := dk_154 0 45 (dk_at dksJ13_hashCode_0 13 rfl rfl)
theorem dJ13_hashCode_16 : decode cJ13_hashCode 16 = .ok (.aload_n 0, 1) := dk_42 (dk_at dksJ13_hashCode_0 16 rfl rfl)
theorem dJ13_hashCode_17 : decode cJ13_hashCode 17 = .ok (.invokevirtual 492, 3) := dk_182 1 236 (dk_at dksJ13_hashCode_0 17 rfl rfl)
theorem dJ13_hashCode_20 : decode cJ13_hashCode 20 = .ok (.ifCond .eq 13, 3) := dk_153 0 13 (dk_at dksJ13_hashCode_0 20 rfl rfl)
theorem dJ13_hashCode_23 : decode cJ13_hashCode 23 = .ok (.aload_n 0, 1) := dk_42 (dk_at dksJ13_hashCode_0 23 rfl rfl)
theorem dJ13_hashCode_24 : decode cJ13_hashCode 24 = .ok (.getfield 9, 3) := dk_180 0 9 (dk_at dksJ13_hashCode_1 0 rfl rfl)
theorem dJ13_hashCode_27 : decode cJ13_hashCode 27 = .ok (.invokestatic 628, 3) := dk_184 2 116 (dk_at dksJ13_hashCode_1 3 rfl rfl)
theorem dJ13_hashCode_30 : decode cJ13_hashCode 30 = .ok (.goto 10, 3) := dk_167 0 10 (dk_at dksJ13_hashCode_1 6 rfl rfl)
theorem dJ13_hashCode_33 : decode cJ13_hashCode 33 = .ok (.aload_n 0, 1) := dk_42 (dk_at dksJ13_hashCode_1 9 rfl rfl)
theorem dJ13_hashCode_34 : decode cJ13_hashCode 34 = .ok (.getfield 9, 3) := dk_180 0 9 (dk_at dksJ13_hashCode_1 10 rfl rfl)
theorem dJ13_hashCode_37 : decode cJ13_hashCode 37 = .ok (.invokestatic 632, 3) := dk_184 2 120 (dk_at dksJ13_hashCode_1 13 rfl rfl)
theorem dJ13_hashCode_40 : decode cJ13_hashCode 40 = .ok (.istore_n 1, 1) := dk_60 (dk_at dksJ13_hashCode_1 16 rfl rfl)
theorem dJ13_hashCode_41 : decode cJ13_hashCode 41 = .ok (.iload_n 1, 1) := dk_27 (dk_at dksJ13_hashCode_1 17 rfl rfl)
theorem dJ13_hashCode_42 : decode cJ13_hashCode 42 = .ok (.ifCond .ne 11, 3) := dk_154 0 11 (dk_at dksJ13_hashCode_1 18 rfl rfl)
theorem dJ13_hashCode_45 : decode cJ13_hashCode 45 = .ok (.aload_n 0, 1) := dk_42 (dk_at dksJ13_hashCode_1 21 rfl rfl)
theorem dJ13_hashCode_46 : decode cJ13_hashCode 46 = .ok (.iconst 1, 1) := dk_4 (dk_at dksJ13_hashCode_1 22 rfl rfl)
theorem dJ13_hashCode_47 : decode cJ13_hashCode 47 = .ok (.putfield 23, 3) := dk_181 0 23 (dk_at dksJ13_hashCode_2 0 rfl rfl)
theorem dJ13_hashCode_50 : decode cJ13_hashCode 50 = .ok (.goto 8, 3) := dk_167 0 8 (dk_at dksJ13_hashCode_2 3 rfl rfl)
theorem dJ13_hashCode_53 : decode cJ13_hashCode 53 = .ok (.aload_n 0, 1) := dk_42 (dk_at dksJ13_hashCode_2 6 rfl rfl)
theorem dJ13_hashCode_54 : decode cJ13_hashCode 54 = .ok (.iload_n 1, 1) := dk_27 (dk_at dksJ13_hashCode_2 7 rfl rfl)
theorem dJ13_hashCode_55 : decode cJ13_hashCode 55 = .ok (.putfield 19, 3) := dk_181 0 19 (dk_at dksJ13_hashCode_2 8 rfl rfl)
theorem dJ13_hashCode_58 : decode cJ13_hashCode 58 = .ok (.iload_n 1, 1) := dk_27 (dk_at dksJ13_hashCode_2 11 rfl rfl)
theorem dJ13_hashCode_59 : decode cJ13_hashCode 59 = .ok (.ireturn, 1) := dk_172 (dk_at dksJ13_hashCode_2 12 rfl rfl)
abbrev cJ13_isLatin1 : ByteArray := prog_44_method_154_code
def yJ13_isLatin1 : MethodName := ⟨RJ13, "isLatin1", "()Z"⟩
def dkwJ13_isLatin1_0 : List UInt8 := [178, 0, 38, 153, 0, 14, 42, 180, 0, 15, 154, 0, 7, 4, 167, 0, 4, 3, 172]
abbrev dktJ13_isLatin1_0 : List UInt8 := dkwJ13_isLatin1_0 ++ []
theorem dksJ13_isLatin1_0 : cJ13_isLatin1.data.toList.drop 0 = dktJ13_isLatin1_0 := by decide +kernel
theorem dJ13_isLatin1_0 : decode cJ13_isLatin1 0 = .ok (.getstatic 38, 3) := dk_178 0 38 (dk_at dksJ13_isLatin1_0 0 rfl rfl)
theorem dJ13_isLatin1_3 : decode cJ13_isLatin1 3 = .ok (.ifCond .eq 14, 3) := dk_153 0 14 (dk_at dksJ13_isLatin1_0 3 rfl rfl)
theorem dJ13_isLatin1_6 : decode cJ13_isLatin1 6 = .ok (.aload_n 0, 1) := dk_42 (dk_at dksJ13_isLatin1_0 6 rfl rfl)
theorem dJ13_isLatin1_7 : decode cJ13_isLatin1 7 = .ok (.getfield 15, 3) := dk_180 0 15 (dk_at dksJ13_isLatin1_0 7 rfl rfl)
theorem dJ13_isLatin1_10 : decode cJ13_isLatin1 10 = .ok (.ifCond .ne 7, 3) := dk_154 0 7 (dk_at dksJ13_isLatin1_0 10 rfl rfl)
theorem dJ13_isLatin1_13 : decode cJ13_isLatin1 13 = .ok (.iconst 1, 1) := dk_4 (dk_at dksJ13_isLatin1_0 13 rfl rfl)
theorem dJ13_isLatin1_14 : decode cJ13_isLatin1 14 = .ok (.goto 4, 3) := dk_167 0 4 (dk_at dksJ13_isLatin1_0 14 rfl rfl)
theorem dJ13_isLatin1_17 : decode cJ13_isLatin1 17 = .ok (.iconst 0, 1) := dk_3 (dk_at dksJ13_isLatin1_0 17 rfl rfl)
theorem dJ13_isLatin1_18 : decode cJ13_isLatin1 18 = .ok (.ireturn, 1) := dk_172 (dk_at dksJ13_isLatin1_0 18 rfl rfl)
abbrev cJ13_compareTo : ByteArray := prog_44_method_162_code
def yJ13_compareTo : MethodName := ⟨RJ13, "compareTo", "(Ljava/lang/Object;)I"⟩
def dkwJ13_compareTo_0 : List UInt8 := [42, 43, 192, 0, 10, 182, 4, 60, 172]
abbrev dktJ13_compareTo_0 : List UInt8 := dkwJ13_compareTo_0 ++ []
theorem dksJ13_compareTo_0 : cJ13_compareTo.data.toList.drop 0 = dktJ13_compareTo_0 := by decide +kernel
theorem dJ13_compareTo_0 : decode cJ13_compareTo 0 = .ok (.aload_n 0, 1) := dk_42 (dk_at dksJ13_compareTo_0 0 rfl rfl)
theorem dJ13_compareTo_1 : decode cJ13_compareTo 1 = .ok (.aload_n 1, 1) := dk_43 (dk_at dksJ13_compareTo_0 1 rfl rfl)
theorem dJ13_compareTo_2 : decode cJ13_compareTo 2 = .ok (.checkcast 10, 3) := dk_192 0 10 (dk_at dksJ13_compareTo_0 2 rfl rfl)
theorem dJ13_compareTo_5 : decode cJ13_compareTo 5 = .ok (.invokevirtual 1084, 3) := dk_182 4 60 (dk_at dksJ13_compareTo_0 5 rfl rfl)
theorem dJ13_compareTo_8 : decode cJ13_compareTo 8 = .ok (.ireturn, 1) := dk_172 (dk_at dksJ13_compareTo_0 8 rfl rfl)
abbrev cJ13_compareTo_2 : ByteArray := prog_44_method_71_code
def yJ13_compareTo_2 : MethodName := ⟨RJ13, "compareTo", "(Ljava/lang/String;)I"⟩
def dkwJ13_compareTo_2_2 : List UInt8 := [154, 0, 11, 44, 45, 184, 2, 79, 167, 0, 8, 44, 45, 184, 2, 82, 172]
abbrev dktJ13_compareTo_2_2 : List UInt8 := dkwJ13_compareTo_2_2 ++ []
def dkwJ13_compareTo_2_1 : List UInt8 := [160, 0, 22, 21, 4, 154, 0, 11, 44, 45, 184, 2, 74, 167, 0, 8, 44, 45, 184, 2, 78, 172, 21, 4]
abbrev dktJ13_compareTo_2_1 : List UInt8 := dkwJ13_compareTo_2_1 ++ dktJ13_compareTo_2_2
def dkwJ13_compareTo_2_0 : List UInt8 := [42, 180, 0, 9, 77, 43, 180, 0, 9, 78, 42, 182, 1, 79, 54, 4, 21, 4, 43, 182, 1, 79]
abbrev dktJ13_compareTo_2_0 : List UInt8 := dkwJ13_compareTo_2_0 ++ dktJ13_compareTo_2_1
theorem dksJ13_compareTo_2_0 : cJ13_compareTo_2.data.toList.drop 0 = dktJ13_compareTo_2_0 := by decide +kernel
theorem dksJ13_compareTo_2_1 : cJ13_compareTo_2.data.toList.drop 22 = dktJ13_compareTo_2_1 := dk_seg dksJ13_compareTo_2_0 22 rfl rfl
theorem dksJ13_compareTo_2_2 : cJ13_compareTo_2.data.toList.drop 46 = dktJ13_compareTo_2_2 := dk_seg dksJ13_compareTo_2_1 24 rfl rfl
theorem dJ13_compareTo_2_0 : decode cJ13_compareTo_2 0 = .ok (.aload_n 0, 1) := dk_42 (dk_at dksJ13_compareTo_2_0 0 rfl rfl)
theorem dJ13_compareTo_2_1 : decode cJ13_compareTo_2 1 = .ok (.getfield 9, 3) := dk_180 0 9 (dk_at dksJ13_compareTo_2_0 1 rfl rfl)
theorem dJ13_compareTo_2_4 : decode cJ13_compareTo_2 4 = .ok (.astore_n 2, 1) := dk_77 (dk_at dksJ13_compareTo_2_0 4 rfl rfl)
theorem dJ13_compareTo_2_5 : decode cJ13_compareTo_2 5 = .ok (.aload_n 1, 1) := dk_43 (dk_at dksJ13_compareTo_2_0 5 rfl rfl)
theorem dJ13_compareTo_2_6 : decode cJ13_compareTo_2 6 = .ok (.getfield 9, 3) := dk_180 0 9 (dk_at dksJ13_compareTo_2_0 6 rfl rfl)
theorem dJ13_compareTo_2_9 : decode cJ13_compareTo_2 9 = .ok (.astore_n 3, 1) := dk_78 (dk_at dksJ13_compareTo_2_0 9 rfl rfl)
theorem dJ13_compareTo_2_10 : decode cJ13_compareTo_2 10 = .ok (.aload_n 0, 1) := dk_42 (dk_at dksJ13_compareTo_2_0 10 rfl rfl)
theorem dJ13_compareTo_2_11 : decode cJ13_compareTo_2 11 = .ok (.invokevirtual 335, 3) := dk_182 1 79 (dk_at dksJ13_compareTo_2_0 11 rfl rfl)
theorem dJ13_compareTo_2_14 : decode cJ13_compareTo_2 14 = .ok (.istore 4, 2) := dk_54 4 (dk_at dksJ13_compareTo_2_0 14 rfl rfl)
theorem dJ13_compareTo_2_16 : decode cJ13_compareTo_2 16 = .ok (.iload 4, 2) := dk_21 4 (dk_at dksJ13_compareTo_2_0 16 rfl rfl)
theorem dJ13_compareTo_2_18 : decode cJ13_compareTo_2 18 = .ok (.aload_n 1, 1) := dk_43 (dk_at dksJ13_compareTo_2_0 18 rfl rfl)
theorem dJ13_compareTo_2_19 : decode cJ13_compareTo_2 19 = .ok (.invokevirtual 335, 3) := dk_182 1 79 (dk_at dksJ13_compareTo_2_0 19 rfl rfl)
theorem dJ13_compareTo_2_22 : decode cJ13_compareTo_2 22 = .ok (.if_icmp .ne 22, 3) := dk_160 0 22 (dk_at dksJ13_compareTo_2_1 0 rfl rfl)
theorem dJ13_compareTo_2_25 : decode cJ13_compareTo_2 25 = .ok (.iload 4, 2) := dk_21 4 (dk_at dksJ13_compareTo_2_1 3 rfl rfl)
theorem dJ13_compareTo_2_27 : decode cJ13_compareTo_2 27 = .ok (.ifCond .ne 11, 3) := dk_154 0 11 (dk_at dksJ13_compareTo_2_1 5 rfl rfl)
theorem dJ13_compareTo_2_30 : decode cJ13_compareTo_2 30 = .ok (.aload_n 2, 1) := dk_44 (dk_at dksJ13_compareTo_2_1 8 rfl rfl)
theorem dJ13_compareTo_2_31 : decode cJ13_compareTo_2 31 = .ok (.aload_n 3, 1) := dk_45 (dk_at dksJ13_compareTo_2_1 9 rfl rfl)
theorem dJ13_compareTo_2_32 : decode cJ13_compareTo_2 32 = .ok (.invokestatic 586, 3) := dk_184 2 74 (dk_at dksJ13_compareTo_2_1 10 rfl rfl)
theorem dJ13_compareTo_2_35 : decode cJ13_compareTo_2 35 = .ok (.goto 8, 3) := dk_167 0 8 (dk_at dksJ13_compareTo_2_1 13 rfl rfl)
theorem dJ13_compareTo_2_38 : decode cJ13_compareTo_2 38 = .ok (.aload_n 2, 1) := dk_44 (dk_at dksJ13_compareTo_2_1 16 rfl rfl)
theorem dJ13_compareTo_2_39 : decode cJ13_compareTo_2 39 = .ok (.aload_n 3, 1) := dk_45 (dk_at dksJ13_compareTo_2_1 17 rfl rfl)
theorem dJ13_compareTo_2_40 : decode cJ13_compareTo_2 40 = .ok (.invokestatic 590, 3) := dk_184 2 78 (dk_at dksJ13_compareTo_2_1 18 rfl rfl)
theorem dJ13_compareTo_2_43 : decode cJ13_compareTo_2 43 = .ok (.ireturn, 1) := dk_172 (dk_at dksJ13_compareTo_2_1 21 rfl rfl)
theorem dJ13_compareTo_2_44 : decode cJ13_compareTo_2 44 = .ok (.iload 4, 2) := dk_21 4 (dk_at dksJ13_compareTo_2_1 22 rfl rfl)
theorem dJ13_compareTo_2_46 : decode cJ13_compareTo_2 46 = .ok (.ifCond .ne 11, 3) := dk_154 0 11 (dk_at dksJ13_compareTo_2_2 0 rfl rfl)
theorem dJ13_compareTo_2_49 : decode cJ13_compareTo_2 49 = .ok (.aload_n 2, 1) := dk_44 (dk_at dksJ13_compareTo_2_2 3 rfl rfl)
theorem dJ13_compareTo_2_50 : decode cJ13_compareTo_2 50 = .ok (.aload_n 3, 1) := dk_45 (dk_at dksJ13_compareTo_2_2 4 rfl rfl)
theorem dJ13_compareTo_2_51 : decode cJ13_compareTo_2 51 = .ok (.invokestatic 591, 3) := dk_184 2 79 (dk_at dksJ13_compareTo_2_2 5 rfl rfl)
theorem dJ13_compareTo_2_54 : decode cJ13_compareTo_2 54 = .ok (.goto 8, 3) := dk_167 0 8 (dk_at dksJ13_compareTo_2_2 8 rfl rfl)
theorem dJ13_compareTo_2_57 : decode cJ13_compareTo_2 57 = .ok (.aload_n 2, 1) := dk_44 (dk_at dksJ13_compareTo_2_2 11 rfl rfl)
theorem dJ13_compareTo_2_58 : decode cJ13_compareTo_2 58 = .ok (.aload_n 3, 1) := dk_45 (dk_at dksJ13_compareTo_2_2 12 rfl rfl)
theorem dJ13_compareTo_2_59 : decode cJ13_compareTo_2 59 = .ok (.invokestatic 594, 3) := dk_184 2 82 (dk_at dksJ13_compareTo_2_2 13 rfl rfl)
theorem dJ13_compareTo_2_62 : decode cJ13_compareTo_2 62 = .ok (.ireturn, 1) := dk_172 (dk_at dksJ13_compareTo_2_2 16 rfl rfl)
abbrev cJ13_checkOffset : ByteArray := prog_44_method_156_code
def yJ13_checkOffset : MethodName := ⟨RJ13, "checkOffset", "(II)V"⟩
def dkwJ13_checkOffset_0 : List UInt8 := [26, 27, 27, 178, 4, 29, 184, 4, 38, 87, 177]
abbrev dktJ13_checkOffset_0 : List UInt8 := dkwJ13_checkOffset_0 ++ []
theorem dksJ13_checkOffset_0 : cJ13_checkOffset.data.toList.drop 0 = dktJ13_checkOffset_0 := by decide +kernel
theorem dJ13_checkOffset_0 : decode cJ13_checkOffset 0 = .ok (.iload_n 0, 1) := dk_26 (dk_at dksJ13_checkOffset_0 0 rfl rfl)
theorem dJ13_checkOffset_1 : decode cJ13_checkOffset 1 = .ok (.iload_n 1, 1) := dk_27 (dk_at dksJ13_checkOffset_0 1 rfl rfl)
theorem dJ13_checkOffset_2 : decode cJ13_checkOffset 2 = .ok (.iload_n 1, 1) := dk_27 (dk_at dksJ13_checkOffset_0 2 rfl rfl)
theorem dJ13_checkOffset_3 : decode cJ13_checkOffset 3 = .ok (.getstatic 1053, 3) := dk_178 4 29 (dk_at dksJ13_checkOffset_0 3 rfl rfl)
theorem dJ13_checkOffset_6 : decode cJ13_checkOffset 6 = .ok (.invokestatic 1062, 3) := dk_184 4 38 (dk_at dksJ13_checkOffset_0 6 rfl rfl)
theorem dJ13_checkOffset_9 : decode cJ13_checkOffset 9 = .ok (.pop, 1) := dk_87 (dk_at dksJ13_checkOffset_0 9 rfl rfl)
theorem dJ13_checkOffset_10 : decode cJ13_checkOffset 10 = .ok (.return_, 1) := dk_177 (dk_at dksJ13_checkOffset_0 10 rfl rfl)
abbrev cJ13_charAt : ByteArray := prog_44_method_56_code
def yJ13_charAt : MethodName := ⟨RJ13, "charAt", "(I)C"⟩
def dkwJ13_charAt_1 : List UInt8 := [172]
abbrev dktJ13_charAt_1 : List UInt8 := dkwJ13_charAt_1 ++ []
def dkwJ13_charAt_0 : List UInt8 := [42, 182, 1, 236, 153, 0, 12, 42, 180, 0, 9, 27, 184, 1, 239, 172, 42, 180, 0, 9, 27, 184, 1, 242]
abbrev dktJ13_charAt_0 : List UInt8 := dkwJ13_charAt_0 ++ dktJ13_charAt_1
theorem dksJ13_charAt_0 : cJ13_charAt.data.toList.drop 0 = dktJ13_charAt_0 := by decide +kernel
theorem dksJ13_charAt_1 : cJ13_charAt.data.toList.drop 24 = dktJ13_charAt_1 := dk_seg dksJ13_charAt_0 24 rfl rfl
theorem dJ13_charAt_0 : decode cJ13_charAt 0 = .ok (.aload_n 0, 1) := dk_42 (dk_at dksJ13_charAt_0 0 rfl rfl)
theorem dJ13_charAt_1 : decode cJ13_charAt 1 = .ok (.invokevirtual 492, 3) := dk_182 1 236 (dk_at dksJ13_charAt_0 1 rfl rfl)
theorem dJ13_charAt_4 : decode cJ13_charAt 4 = .ok (.ifCond .eq 12, 3) := dk_153 0 12 (dk_at dksJ13_charAt_0 4 rfl rfl)
theorem dJ13_charAt_7 : decode cJ13_charAt 7 = .ok (.aload_n 0, 1) := dk_42 (dk_at dksJ13_charAt_0 7 rfl rfl)
theorem dJ13_charAt_8 : decode cJ13_charAt 8 = .ok (.getfield 9, 3) := dk_180 0 9 (dk_at dksJ13_charAt_0 8 rfl rfl)
theorem dJ13_charAt_11 : decode cJ13_charAt 11 = .ok (.iload_n 1, 1) := dk_27 (dk_at dksJ13_charAt_0 11 rfl rfl)
theorem dJ13_charAt_12 : decode cJ13_charAt 12 = .ok (.invokestatic 495, 3) := dk_184 1 239 (dk_at dksJ13_charAt_0 12 rfl rfl)
theorem dJ13_charAt_15 : decode cJ13_charAt 15 = .ok (.ireturn, 1) := dk_172 (dk_at dksJ13_charAt_0 15 rfl rfl)
theorem dJ13_charAt_16 : decode cJ13_charAt 16 = .ok (.aload_n 0, 1) := dk_42 (dk_at dksJ13_charAt_0 16 rfl rfl)
theorem dJ13_charAt_17 : decode cJ13_charAt 17 = .ok (.getfield 9, 3) := dk_180 0 9 (dk_at dksJ13_charAt_0 17 rfl rfl)
theorem dJ13_charAt_20 : decode cJ13_charAt 20 = .ok (.iload_n 1, 1) := dk_27 (dk_at dksJ13_charAt_0 20 rfl rfl)
theorem dJ13_charAt_21 : decode cJ13_charAt 21 = .ok (.invokestatic 498, 3) := dk_184 1 242 (dk_at dksJ13_charAt_0 21 rfl rfl)
theorem dJ13_charAt_24 : decode cJ13_charAt 24 = .ok (.ireturn, 1) := dk_172 (dk_at dksJ13_charAt_1 0 rfl rfl)
theorem q129 : (Jvm.Cond.initialized "java/lang/String") ∈ lw_all := lw_g (lw_at lw_m1 21 rfl) rfl
theorem q552 : (Jvm.Cond.laysStatic "java/lang/String" "COMPACT_STRINGS" "Z") ∈ lw_tbl := lw_at lw_m2 204 rfl
theorem q562 : (Jvm.Cond.fieldLink "java/lang/String" (1048 : Nat) "java/lang/AbstractStringBuilder" "maybeLatin1" "Z") ∈ lw_all := lw_g (lw_at lw_m2 214 rfl) rfl
theorem q643 : (Jvm.Cond.static ({ cls := "java/lang/String", name := "checkBoundsOffCount", desc := "(III)I" } : Jvm.MethodName)) ∈ lw_all := lw_g (lw_at lw_m3 55 rfl) rfl
theorem q644 : (Jvm.Cond.code ({ cls := "java/lang/String", name := "checkBoundsOffCount", desc := "(III)I" } : Jvm.MethodName) prog_44_method_157_code (3 : Nat) (Option.some Jvm.ClassFile.FieldType.int)) ∈ lw_all := lw_g (lw_at lw_m3 56 rfl) rfl
theorem q645 : (Jvm.Cond.fieldLink "java/lang/String" (1053 : Nat) "jdk/internal/util/Preconditions" "SIOOBE_FORMATTER" "Ljava/util/function/BiFunction;") ∈ lw_all := lw_g (lw_at lw_m3 57 rfl) rfl
theorem q647 : (Jvm.Cond.methodLink "java/lang/String" (1065 : Nat) ({ cls := "jdk/internal/util/Preconditions", name := "checkFromIndexSize", desc := "(IIILjava/util/function/BiFunction;)I" } : Jvm.MethodName)) ∈ lw_all := lw_g (lw_at lw_m3 59 rfl) rfl
theorem q666 : (Jvm.Cond.static ({ cls := "java/lang/String", name := "checkIndex", desc := "(II)V" } : Jvm.MethodName)) ∈ lw_all := lw_g (lw_at lw_m3 78 rfl) rfl
theorem q667 : (Jvm.Cond.code ({ cls := "java/lang/String", name := "checkIndex", desc := "(II)V" } : Jvm.MethodName) prog_44_method_155_code (2 : Nat) (Option.none : Option Jvm.ClassFile.FieldType)) ∈ lw_all := lw_g (lw_at lw_m3 79 rfl) rfl
theorem q668 : (Jvm.Cond.methodLink "java/lang/String" (1059 : Nat) ({ cls := "jdk/internal/util/Preconditions", name := "checkIndex", desc := "(IILjava/util/function/BiFunction;)I" } : Jvm.MethodName)) ∈ lw_all := lw_g (lw_at lw_m3 80 rfl) rfl
theorem q680 : (Jvm.Cond.instantiable "java/lang/String" (4 : Nat)) ∈ lw_all := lw_g (lw_at lw_m3 92 rfl) rfl
theorem q682 : (Jvm.Cond.instanceMethod ({ cls := "java/lang/String", name := "<init>", desc := "(Ljava/lang/StringBuilder;)V" } : Jvm.MethodName)) ∈ lw_all := lw_g (lw_at lw_m3 94 rfl) rfl
theorem q683 : (Jvm.Cond.code ({ cls := "java/lang/String", name := "<init>", desc := "(Ljava/lang/StringBuilder;)V" } : Jvm.MethodName) prog_44_method_53_code (2 : Nat) (Option.none : Option Jvm.ClassFile.FieldType)) ∈ lw_all := lw_g (lw_at lw_m3 95 rfl) rfl
theorem q684 : (Jvm.Cond.methodLink "java/lang/String" (489 : Nat) ({ cls := "java/lang/String", name := "<init>", desc := "(Ljava/lang/AbstractStringBuilder;Ljava/lang/Void;)V" } : Jvm.MethodName)) ∈ lw_all := lw_g (lw_at lw_m3 96 rfl) rfl
theorem q685 : (Jvm.Cond.instanceMethod ({ cls := "java/lang/String", name := "<init>", desc := "(Ljava/lang/AbstractStringBuilder;Ljava/lang/Void;)V" } : Jvm.MethodName)) ∈ lw_all := lw_g (lw_at lw_m3 97 rfl) rfl
theorem q686 : (Jvm.Cond.code ({ cls := "java/lang/String", name := "<init>", desc := "(Ljava/lang/AbstractStringBuilder;Ljava/lang/Void;)V" } : Jvm.MethodName) prog_44_method_150_code (5 : Nat) (Option.none : Option Jvm.ClassFile.FieldType)) ∈ lw_all := lw_g (lw_at lw_m3 98 rfl) rfl
theorem q687 : (Jvm.Cond.methodLink "java/lang/String" (1 : Nat) ({ cls := "java/lang/Object", name := "<init>", desc := "()V" } : Jvm.MethodName)) ∈ lw_all := lw_g (lw_at lw_m3 99 rfl) rfl
theorem q688 : (Jvm.Cond.methodLink "java/lang/String" (552 : Nat) ({ cls := "java/lang/AbstractStringBuilder", name := "getValue", desc := "()[B" } : Jvm.MethodName)) ∈ lw_all := lw_g (lw_at lw_m3 100 rfl) rfl
theorem q693 : (Jvm.Cond.methodLink "java/lang/String" (549 : Nat) ({ cls := "java/lang/AbstractStringBuilder", name := "length", desc := "()I" } : Jvm.MethodName)) ∈ lw_all := lw_g (lw_at lw_m3 105 rfl) rfl
theorem q701 : (Jvm.Cond.methodLink "java/lang/String" (1047 : Nat) ({ cls := "java/lang/AbstractStringBuilder", name := "isLatin1", desc := "()Z" } : Jvm.MethodName)) ∈ lw_all := lw_g (lw_at lw_m3 113 rfl) rfl
theorem q702 : (Jvm.Cond.methodLink "java/lang/String" (54 : Nat) ({ cls := "java/util/Arrays", name := "copyOfRange", desc := "([BII)[B" } : Jvm.MethodName)) ∈ lw_all := lw_g (lw_at lw_m3 114 rfl) rfl
theorem q746 : (Jvm.Cond.static ({ cls := "java/lang/String", name := "checkBoundsBeginEnd", desc := "(III)V" } : Jvm.MethodName)) ∈ lw_all := lw_g (lw_at lw_m3 158 rfl) rfl
theorem q747 : (Jvm.Cond.code ({ cls := "java/lang/String", name := "checkBoundsBeginEnd", desc := "(III)V" } : Jvm.MethodName) prog_44_method_158_code (3 : Nat) (Option.none : Option Jvm.ClassFile.FieldType)) ∈ lw_all := lw_g (lw_at lw_m3 159 rfl) rfl
theorem q748 : (Jvm.Cond.methodLink "java/lang/String" (1062 : Nat) ({ cls := "jdk/internal/util/Preconditions", name := "checkFromToIndex", desc := "(IIILjava/util/function/BiFunction;)I" } : Jvm.MethodName)) ∈ lw_all := lw_g (lw_at lw_m3 160 rfl) rfl
theorem q772 : (Jvm.Cond.instanceMethod ({ cls := "java/lang/String", name := "length", desc := "()I" } : Jvm.MethodName)) ∈ lw_all := lw_g (lw_at lw_m3 184 rfl) rfl
theorem q773 : (Jvm.Cond.selects "java/lang/String" ({ cls := "java/lang/String", name := "length", desc := "()I" } : Jvm.MethodName) ({ cls := "java/lang/String", name := "length", desc := "()I" } : Jvm.MethodName)) ∈ lw_all := lw_g (lw_at lw_m3 185 rfl) rfl
theorem q774 : (Jvm.Cond.code ({ cls := "java/lang/String", name := "length", desc := "()I" } : Jvm.MethodName) prog_44_method_54_code (1 : Nat) (Option.some Jvm.ClassFile.FieldType.int)) ∈ lw_all := lw_g (lw_at lw_m3 186 rfl) rfl
theorem q775 : (Jvm.Cond.methodLink "java/lang/String" (335 : Nat) ({ cls := "java/lang/String", name := "coder", desc := "()B" } : Jvm.MethodName)) ∈ lw_all := lw_g (lw_at lw_m3 187 rfl) rfl
theorem q776 : (Jvm.Cond.instanceMethod ({ cls := "java/lang/String", name := "coder", desc := "()B" } : Jvm.MethodName)) ∈ lw_all := lw_g (lw_at lw_m3 188 rfl) rfl
theorem q777 : (Jvm.Cond.selects "java/lang/String" ({ cls := "java/lang/String", name := "coder", desc := "()B" } : Jvm.MethodName) ({ cls := "java/lang/String", name := "coder", desc := "()B" } : Jvm.MethodName)) ∈ lw_all := lw_g (lw_at lw_m3 189 rfl) rfl
theorem q778 : (Jvm.Cond.code ({ cls := "java/lang/String", name := "coder", desc := "()B" } : Jvm.MethodName) prog_44_method_152_code (1 : Nat) (Option.some Jvm.ClassFile.FieldType.byte)) ∈ lw_all := lw_g (lw_at lw_m3 190 rfl) rfl
theorem q779 : (Jvm.Cond.fieldLink "java/lang/String" (38 : Nat) "java/lang/String" "COMPACT_STRINGS" "Z") ∈ lw_all := lw_g (lw_at lw_m3 191 rfl) rfl
theorem q790 : (Jvm.Cond.instanceMethod ({ cls := "java/lang/String", name := "getBytes", desc := "([BIB)V" } : Jvm.MethodName)) ∈ lw_all := lw_g (lw_at lw_m3 202 rfl) rfl
theorem q791 : (Jvm.Cond.selects "java/lang/String" ({ cls := "java/lang/String", name := "getBytes", desc := "([BIB)V" } : Jvm.MethodName) ({ cls := "java/lang/String", name := "getBytes", desc := "([BIB)V" } : Jvm.MethodName)) ∈ lw_all := lw_g (lw_at lw_m3 203 rfl) rfl
theorem q792 : (Jvm.Cond.code ({ cls := "java/lang/String", name := "getBytes", desc := "([BIB)V" } : Jvm.MethodName) prog_44_method_147_code (4 : Nat) (Option.none : Option Jvm.ClassFile.FieldType)) ∈ lw_all := lw_g (lw_at lw_m3 204 rfl) rfl
theorem q793 : (Jvm.Cond.methodLink "java/lang/String" (212 : Nat) ({ cls := "java/lang/System", name := "arraycopy", desc := "(Ljava/lang/Object;ILjava/lang/Object;II)V" } : Jvm.MethodName)) ∈ lw_all := lw_g (lw_at lw_m3 205 rfl) rfl
theorem q794 : (Jvm.Cond.methodLink "java/lang/String" (106 : Nat) ({ cls := "java/lang/StringLatin1", name := "inflate", desc := "([BI[BII)V" } : Jvm.MethodName)) ∈ lw_all := lw_g (lw_at lw_m3 206 rfl) rfl
theorem q810 : (Jvm.Cond.methodLink "java/lang/String" (1051 : Nat) ({ cls := "java/lang/StringUTF16", name := "compress", desc := "([BII)[B" } : Jvm.MethodName)) ∈ lw_all := lw_g (lw_at lw_m3 222 rfl) rfl
theorem q820 : (Jvm.Cond.methodLink "java/lang/String" (47 : Nat) ({ cls := "java/lang/StringUTF16", name := "coderFromArrayLen", desc := "([BI)B" } : Jvm.MethodName)) ∈ lw_all := lw_g (lw_at lw_m3 232 rfl) rfl
theorem q823 : (Jvm.Cond.fieldLink "java/lang/String" (9 : Nat) "java/lang/String" "value" "[B") ∈ lw_all := lw_g (lw_at lw_m3 235 rfl) rfl
theorem q824 : (Jvm.Cond.fieldLink "java/lang/String" (15 : Nat) "java/lang/String" "coder" "B") ∈ lw_all := lw_g (lw_at lw_m3 236 rfl) rfl
theorem q825 : (Jvm.Cond.fieldLink "java/lang/String" (19 : Nat) "java/lang/String" "hash" "I") ∈ lw_all := lw_g (lw_at lw_m3 237 rfl) rfl
theorem q826 : (Jvm.Cond.fieldLink "java/lang/String" (23 : Nat) "java/lang/String" "hashIsZero" "Z") ∈ lw_all := lw_g (lw_at lw_m3 238 rfl) rfl
theorem q827 : (Jvm.Cond.laysFinal "java/lang/String" "java/lang/String" "value" "[B") ∈ lw_all := lw_g (lw_at lw_m3 239 rfl) rfl
theorem q828 : (Jvm.Cond.soleField "java/lang/String" "value") ∈ lw_all := lw_g (lw_at lw_m4 0 rfl) rfl
theorem q829 : (Jvm.Cond.laysFinal "java/lang/String" "java/lang/String" "coder" "B") ∈ lw_all := lw_g (lw_at lw_m4 1 rfl) rfl
theorem q830 : (Jvm.Cond.soleField "java/lang/String" "coder") ∈ lw_all := lw_g (lw_at lw_m4 2 rfl) rfl
theorem q831 : (Jvm.Cond.lays "java/lang/String" "java/lang/String" "hash" "I") ∈ lw_all := lw_g (lw_at lw_m4 3 rfl) rfl
theorem q832 : (Jvm.Cond.soleField "java/lang/String" "hash") ∈ lw_all := lw_g (lw_at lw_m4 4 rfl) rfl
theorem q833 : (Jvm.Cond.lays "java/lang/String" "java/lang/String" "hashIsZero" "Z") ∈ lw_all := lw_g (lw_at lw_m4 5 rfl) rfl
theorem q834 : (Jvm.Cond.soleField "java/lang/String" "hashIsZero") ∈ lw_all := lw_g (lw_at lw_m4 6 rfl) rfl
theorem q835 : (Jvm.Cond.superclass "java/lang/String" "java/lang/Object") ∈ lw_all := lw_g (lw_at lw_m4 7 rfl) rfl
theorem q896 : (Jvm.Cond.instanceMethod ({ cls := "java/lang/String", name := "equals", desc := "(Ljava/lang/Object;)Z" } : Jvm.MethodName)) ∈ lw_all := lw_g (lw_at lw_m4 68 rfl) rfl
theorem q897 : (Jvm.Cond.selects "java/lang/String" ({ cls := "java/lang/String", name := "equals", desc := "(Ljava/lang/Object;)Z" } : Jvm.MethodName) ({ cls := "java/lang/String", name := "equals", desc := "(Ljava/lang/Object;)Z" } : Jvm.MethodName)) ∈ lw_all := lw_g (lw_at lw_m4 69 rfl) rfl
theorem q898 : (Jvm.Cond.code ({ cls := "java/lang/String", name := "equals", desc := "(Ljava/lang/Object;)Z" } : Jvm.MethodName) prog_44_method_66_code (3 : Nat) (Option.some Jvm.ClassFile.FieldType.boolean)) ∈ lw_all := lw_g (lw_at lw_m4 70 rfl) rfl
theorem q899 : (Jvm.Cond.classLink "java/lang/String" (10 : Nat) "java/lang/String") ∈ lw_all := lw_g (lw_at lw_m4 71 rfl) rfl
theorem q900 : (Jvm.Cond.methodLink "java/lang/String" (541 : Nat) ({ cls := "java/lang/StringLatin1", name := "equals", desc := "([B[B)Z" } : Jvm.MethodName)) ∈ lw_all := lw_g (lw_at lw_m4 72 rfl) rfl
theorem q915 : (Jvm.Cond.instanceMethod ({ cls := "java/lang/String", name := "hashCode", desc := "()I" } : Jvm.MethodName)) ∈ lw_all := lw_g (lw_at lw_m4 87 rfl) rfl
theorem q916 : (Jvm.Cond.selects "java/lang/String" ({ cls := "java/lang/String", name := "hashCode", desc := "()I" } : Jvm.MethodName) ({ cls := "java/lang/String", name := "hashCode", desc := "()I" } : Jvm.MethodName)) ∈ lw_all := lw_g (lw_at lw_m4 88 rfl) rfl
theorem q917 : (Jvm.Cond.code ({ cls := "java/lang/String", name := "hashCode", desc := "()I" } : Jvm.MethodName) prog_44_method_78_code (2 : Nat) (Option.some Jvm.ClassFile.FieldType.int)) ∈ lw_all := lw_g (lw_at lw_m4 89 rfl) rfl
theorem q918 : (Jvm.Cond.methodLink "java/lang/String" (492 : Nat) ({ cls := "java/lang/String", name := "isLatin1", desc := "()Z" } : Jvm.MethodName)) ∈ lw_all := lw_g (lw_at lw_m4 90 rfl) rfl
theorem q919 : (Jvm.Cond.instanceMethod ({ cls := "java/lang/String", name := "isLatin1", desc := "()Z" } : Jvm.MethodName)) ∈ lw_all := lw_g (lw_at lw_m4 91 rfl) rfl
theorem q920 : (Jvm.Cond.selects "java/lang/String" ({ cls := "java/lang/String", name := "isLatin1", desc := "()Z" } : Jvm.MethodName) ({ cls := "java/lang/String", name := "isLatin1", desc := "()Z" } : Jvm.MethodName)) ∈ lw_all := lw_g (lw_at lw_m4 92 rfl) rfl
theorem q921 : (Jvm.Cond.code ({ cls := "java/lang/String", name := "isLatin1", desc := "()Z" } : Jvm.MethodName) prog_44_method_154_code (1 : Nat) (Option.some Jvm.ClassFile.FieldType.boolean)) ∈ lw_all := lw_g (lw_at lw_m4 93 rfl) rfl
theorem q922 : (Jvm.Cond.methodLink "java/lang/String" (628 : Nat) ({ cls := "java/lang/StringLatin1", name := "hashCode", desc := "([B)I" } : Jvm.MethodName)) ∈ lw_all := lw_g (lw_at lw_m4 94 rfl) rfl
theorem q971 : (Jvm.Cond.methodLink "java/lang/String" (632 : Nat) ({ cls := "java/lang/StringUTF16", name := "hashCode", desc := "([B)I" } : Jvm.MethodName)) ∈ lw_all := lw_g (lw_at lw_m4 143 rfl) rfl
theorem q1041 : (Jvm.Cond.selects "java/lang/String" ({ cls := "java/lang/Object", name := "hashCode", desc := "()I" } : Jvm.MethodName) ({ cls := "java/lang/String", name := "hashCode", desc := "()I" } : Jvm.MethodName)) ∈ lw_all := lw_g (lw_at lw_m4 213 rfl) rfl
theorem q1077 : (Jvm.Cond.selects "java/lang/String" ({ cls := "java/lang/Object", name := "equals", desc := "(Ljava/lang/Object;)Z" } : Jvm.MethodName) ({ cls := "java/lang/String", name := "equals", desc := "(Ljava/lang/Object;)Z" } : Jvm.MethodName)) ∈ lw_all := lw_g (lw_at lw_m5 9 rfl) rfl
theorem q1128 : (Jvm.Cond.selects "java/lang/String" ({ cls := "java/lang/Object", name := "getClass", desc := "()Ljava/lang/Class;" } : Jvm.MethodName) ({ cls := "java/lang/Object", name := "getClass", desc := "()Ljava/lang/Class;" } : Jvm.MethodName)) ∈ lw_all := lw_g (lw_at lw_m5 60 rfl) rfl
theorem q1169 : (Jvm.Cond.castable "java/lang/String" "java/lang/Comparable") ∈ lw_tbl := lw_at lw_m5 101 rfl
theorem q1170 : (Jvm.Cond.selects "java/lang/String" ({ cls := "java/lang/Comparable", name := "compareTo", desc := "(Ljava/lang/Object;)I" } : Jvm.MethodName) ({ cls := "java/lang/String", name := "compareTo", desc := "(Ljava/lang/Object;)I" } : Jvm.MethodName)) ∈ lw_all := lw_g (lw_at lw_m5 102 rfl) rfl
theorem q1171 : (Jvm.Cond.unhidden "java/lang/String" "compareTo" "(Ljava/lang/Object;)I") ∈ lw_tbl := lw_at lw_m5 103 rfl
theorem q1172 : (Jvm.Cond.instanceMethod ({ cls := "java/lang/String", name := "compareTo", desc := "(Ljava/lang/Object;)I" } : Jvm.MethodName)) ∈ lw_all := lw_g (lw_at lw_m5 104 rfl) rfl
theorem q1173 : (Jvm.Cond.publicMethod ({ cls := "java/lang/String", name := "compareTo", desc := "(Ljava/lang/Object;)I" } : Jvm.MethodName)) ∈ lw_tbl := lw_at lw_m5 105 rfl
theorem q1174 : (Jvm.Cond.code ({ cls := "java/lang/String", name := "compareTo", desc := "(Ljava/lang/Object;)I" } : Jvm.MethodName) prog_44_method_162_code (2 : Nat) (Option.some Jvm.ClassFile.FieldType.int)) ∈ lw_all := lw_g (lw_at lw_m5 106 rfl) rfl
theorem q1175 : (Jvm.Cond.methodLink "java/lang/String" (1084 : Nat) ({ cls := "java/lang/String", name := "compareTo", desc := "(Ljava/lang/String;)I" } : Jvm.MethodName)) ∈ lw_all := lw_g (lw_at lw_m5 107 rfl) rfl
theorem q1176 : (Jvm.Cond.instanceMethod ({ cls := "java/lang/String", name := "compareTo", desc := "(Ljava/lang/String;)I" } : Jvm.MethodName)) ∈ lw_all := lw_g (lw_at lw_m5 108 rfl) rfl
theorem q1177 : (Jvm.Cond.selects "java/lang/String" ({ cls := "java/lang/String", name := "compareTo", desc := "(Ljava/lang/String;)I" } : Jvm.MethodName) ({ cls := "java/lang/String", name := "compareTo", desc := "(Ljava/lang/String;)I" } : Jvm.MethodName)) ∈ lw_all := lw_g (lw_at lw_m5 109 rfl) rfl
theorem q1178 : (Jvm.Cond.code ({ cls := "java/lang/String", name := "compareTo", desc := "(Ljava/lang/String;)I" } : Jvm.MethodName) prog_44_method_71_code (5 : Nat) (Option.some Jvm.ClassFile.FieldType.int)) ∈ lw_all := lw_g (lw_at lw_m5 110 rfl) rfl
theorem q1179 : (Jvm.Cond.methodLink "java/lang/String" (586 : Nat) ({ cls := "java/lang/StringLatin1", name := "compareTo", desc := "([B[B)I" } : Jvm.MethodName)) ∈ lw_all := lw_g (lw_at lw_m5 111 rfl) rfl
theorem q1293 : (Jvm.Cond.methodLink "java/lang/String" (590 : Nat) ({ cls := "java/lang/StringUTF16", name := "compareTo", desc := "([B[B)I" } : Jvm.MethodName)) ∈ lw_all := lw_g (lw_at lw_m5 225 rfl) rfl
theorem q1300 : (Jvm.Cond.methodLink "java/lang/String" (591 : Nat) ({ cls := "java/lang/StringLatin1", name := "compareToUTF16", desc := "([B[B)I" } : Jvm.MethodName)) ∈ lw_all := lw_g (lw_at lw_m5 232 rfl) rfl
theorem q1311 : (Jvm.Cond.methodLink "java/lang/String" (594 : Nat) ({ cls := "java/lang/StringUTF16", name := "compareToLatin1", desc := "([B[B)I" } : Jvm.MethodName)) ∈ lw_all := lw_g (lw_at lw_m6 3 rfl) rfl
theorem q1337 : (Jvm.Cond.static ({ cls := "java/lang/String", name := "checkOffset", desc := "(II)V" } : Jvm.MethodName)) ∈ lw_all := lw_g (lw_at lw_m6 29 rfl) rfl
theorem q1338 : (Jvm.Cond.code ({ cls := "java/lang/String", name := "checkOffset", desc := "(II)V" } : Jvm.MethodName) prog_44_method_156_code (2 : Nat) (Option.none : Option Jvm.ClassFile.FieldType)) ∈ lw_all := lw_g (lw_at lw_m6 30 rfl) rfl
theorem q2890 : (Jvm.Cond.instanceMethod ({ cls := "java/lang/String", name := "charAt", desc := "(I)C" } : Jvm.MethodName)) ∈ lw_all := lw_g (lw_at lw_m12 142 rfl) rfl
theorem q2891 : (Jvm.Cond.selects "java/lang/String" ({ cls := "java/lang/String", name := "charAt", desc := "(I)C" } : Jvm.MethodName) ({ cls := "java/lang/String", name := "charAt", desc := "(I)C" } : Jvm.MethodName)) ∈ lw_all := lw_g (lw_at lw_m12 143 rfl) rfl
theorem q2892 : (Jvm.Cond.code ({ cls := "java/lang/String", name := "charAt", desc := "(I)C" } : Jvm.MethodName) prog_44_method_56_code (2 : Nat) (Option.some Jvm.ClassFile.FieldType.char)) ∈ lw_all := lw_g (lw_at lw_m12 144 rfl) rfl
theorem q2893 : (Jvm.Cond.methodLink "java/lang/String" (495 : Nat) ({ cls := "java/lang/StringLatin1", name := "charAt", desc := "([BI)C" } : Jvm.MethodName)) ∈ lw_all := lw_g (lw_at lw_m12 145 rfl) rfl
theorem q2897 : (Jvm.Cond.methodLink "java/lang/String" (498 : Nat) ({ cls := "java/lang/StringUTF16", name := "charAt", desc := "([BI)C" } : Jvm.MethodName)) ∈ lw_all := lw_g (lw_at lw_m12 149 rfl) rfl
theorem q3259 : (Jvm.Cond.castable "java/lang/String" "java/lang/Object") ∈ lw_tbl := lw_at lw_m14 31 rfl
theorem in_J13 : ∀ w ∈ wsJ130, w ∈ lw_all := lw_in wsJ130 [827, 829, 831, 833] (by decide +kernel) (by decide +kernel)
/-! jdk/internal/util/ArraysSupport -/
set_option maxRecDepth 100000
def RJ15 : String := "jdk/internal/util/ArraysSupport"
abbrev cJ15_newLength : ByteArray := prog_73_method_27_code
def yJ15_newLength : MethodName := ⟨RJ15, "newLength", "(III)I"⟩
def dkwJ15_newLength_1 : List UInt8 := [184, 0, 201, 172]
abbrev dktJ15_newLength_1 : List UInt8 := dkwJ15_newLength_1 ++ []
def dkwJ15_newLength_0 : List UInt8 := [26, 27, 28, 184, 0, 194, 96, 62, 3, 29, 162, 0, 11, 29, 18, 200, 163, 0, 5, 29, 172, 26, 27]
abbrev dktJ15_newLength_0 : List UInt8 := dkwJ15_newLength_0 ++ dktJ15_newLength_1
theorem dksJ15_newLength_0 : cJ15_newLength.data.toList.drop 0 = dktJ15_newLength_0 := by decide +kernel
theorem dksJ15_newLength_1 : cJ15_newLength.data.toList.drop 23 = dktJ15_newLength_1 := dk_seg dksJ15_newLength_0 23 rfl rfl
theorem dJ15_newLength_0 : decode cJ15_newLength 0 = .ok (.iload_n 0, 1) := dk_26 (dk_at dksJ15_newLength_0 0 rfl rfl)
theorem dJ15_newLength_1 : decode cJ15_newLength 1 = .ok (.iload_n 1, 1) := dk_27 (dk_at dksJ15_newLength_0 1 rfl rfl)
theorem dJ15_newLength_2 : decode cJ15_newLength 2 = .ok (.iload_n 2, 1) := dk_28 (dk_at dksJ15_newLength_0 2 rfl rfl)
theorem dJ15_newLength_3 : decode cJ15_newLength 3 = .ok (.invokestatic 194, 3) := dk_184 0 194 (dk_at dksJ15_newLength_0 3 rfl rfl)
theorem dJ15_newLength_6 : decode cJ15_newLength 6 = .ok (.iadd, 1) := dk_96 (dk_at dksJ15_newLength_0 6 rfl rfl)
theorem dJ15_newLength_7 : decode cJ15_newLength 7 = .ok (.istore_n 3, 1) := dk_62 (dk_at dksJ15_newLength_0 7 rfl rfl)
theorem dJ15_newLength_8 : decode cJ15_newLength 8 = .ok (.iconst 0, 1) := dk_3 (dk_at dksJ15_newLength_0 8 rfl rfl)
theorem dJ15_newLength_9 : decode cJ15_newLength 9 = .ok (.iload_n 3, 1) := dk_29 (dk_at dksJ15_newLength_0 9 rfl rfl)
theorem dJ15_newLength_10 : decode cJ15_newLength 10 = .ok (.if_icmp .ge 11, 3) := dk_162 0 11 (dk_at dksJ15_newLength_0 10 rfl rfl)
theorem dJ15_newLength_13 : decode cJ15_newLength 13 = .ok (.iload_n 3, 1) := dk_29 (dk_at dksJ15_newLength_0 13 rfl rfl)
theorem dJ15_newLength_14 : decode cJ15_newLength 14 = .ok (.ldc 200, 2) := dk_18 200 (dk_at dksJ15_newLength_0 14 rfl rfl)
theorem dJ15_newLength_16 : decode cJ15_newLength 16 = .ok (.if_icmp .gt 5, 3) := dk_163 0 5 (dk_at dksJ15_newLength_0 16 rfl rfl)
theorem dJ15_newLength_19 : decode cJ15_newLength 19 = .ok (.iload_n 3, 1) := dk_29 (dk_at dksJ15_newLength_0 19 rfl rfl)
theorem dJ15_newLength_20 : decode cJ15_newLength 20 = .ok (.ireturn, 1) := dk_172 (dk_at dksJ15_newLength_0 20 rfl rfl)
theorem dJ15_newLength_21 : decode cJ15_newLength 21 = .ok (.iload_n 0, 1) := dk_26 (dk_at dksJ15_newLength_0 21 rfl rfl)
theorem dJ15_newLength_22 : decode cJ15_newLength 22 = .ok (.iload_n 1, 1) := dk_27 (dk_at dksJ15_newLength_0 22 rfl rfl)
theorem dJ15_newLength_23 : decode cJ15_newLength 23 = .ok (.invokestatic 201, 3) := dk_184 0 201 (dk_at dksJ15_newLength_1 0 rfl rfl)
theorem dJ15_newLength_26 : decode cJ15_newLength 26 = .ok (.ireturn, 1) := dk_172 (dk_at dksJ15_newLength_1 3 rfl rfl)
abbrev cJ15_hugeLength : ByteArray := prog_73_method_28_code
def yJ15_hugeLength : MethodName := ⟨RJ15, "hugeLength", "(II)I"⟩
def dkwJ15_hugeLength_2 : List UInt8 := [191, 28, 18, 200, 163, 0, 6, 18, 200, 172, 28, 172]
abbrev dktJ15_hugeLength_2 : List UInt8 := dkwJ15_hugeLength_2 ++ []
def dkwJ15_hugeLength_1 : List UInt8 := [26, 182, 0, 98, 18, 208, 182, 0, 94, 27, 182, 0, 98, 18, 210, 182, 0, 94, 182, 0, 101, 183, 0, 212]
abbrev dktJ15_hugeLength_1 : List UInt8 := dkwJ15_hugeLength_1 ++ dktJ15_hugeLength_2
def dkwJ15_hugeLength_0 : List UInt8 := [26, 27, 96, 61, 28, 156, 0, 44, 187, 0, 204, 89, 187, 0, 89, 89, 183, 0, 91, 18, 206, 182, 0, 94]
abbrev dktJ15_hugeLength_0 : List UInt8 := dkwJ15_hugeLength_0 ++ dktJ15_hugeLength_1
theorem dksJ15_hugeLength_0 : cJ15_hugeLength.data.toList.drop 0 = dktJ15_hugeLength_0 := by decide +kernel
theorem dksJ15_hugeLength_1 : cJ15_hugeLength.data.toList.drop 24 = dktJ15_hugeLength_1 := dk_seg dksJ15_hugeLength_0 24 rfl rfl
theorem dksJ15_hugeLength_2 : cJ15_hugeLength.data.toList.drop 48 = dktJ15_hugeLength_2 := dk_seg dksJ15_hugeLength_1 24 rfl rfl
theorem dJ15_hugeLength_0 : decode cJ15_hugeLength 0 = .ok (.iload_n 0, 1) := dk_26 (dk_at dksJ15_hugeLength_0 0 rfl rfl)
theorem dJ15_hugeLength_1 : decode cJ15_hugeLength 1 = .ok (.iload_n 1, 1) := dk_27 (dk_at dksJ15_hugeLength_0 1 rfl rfl)
theorem dJ15_hugeLength_2 : decode cJ15_hugeLength 2 = .ok (.iadd, 1) := dk_96 (dk_at dksJ15_hugeLength_0 2 rfl rfl)
theorem dJ15_hugeLength_3 : decode cJ15_hugeLength 3 = .ok (.istore_n 2, 1) := dk_61 (dk_at dksJ15_hugeLength_0 3 rfl rfl)
theorem dJ15_hugeLength_4 : decode cJ15_hugeLength 4 = .ok (.iload_n 2, 1) := dk_28 (dk_at dksJ15_hugeLength_0 4 rfl rfl)
theorem dJ15_hugeLength_5 : decode cJ15_hugeLength 5 = .ok (.ifCond .ge 44, 3) := dk_156 0 44 (dk_at dksJ15_hugeLength_0 5 rfl rfl)
theorem dJ15_hugeLength_8 : decode cJ15_hugeLength 8 = .ok (.new 204, 3) := dk_187 0 204 (dk_at dksJ15_hugeLength_0 8 rfl rfl)
theorem dJ15_hugeLength_11 : decode cJ15_hugeLength 11 = .ok (.dup, 1) := dk_89 (dk_at dksJ15_hugeLength_0 11 rfl rfl)
theorem dJ15_hugeLength_12 : decode cJ15_hugeLength 12 = .ok (.new 89, 3) := dk_187 0 89 (dk_at dksJ15_hugeLength_0 12 rfl rfl)
theorem dJ15_hugeLength_15 : decode cJ15_hugeLength 15 = .ok (.dup, 1) := dk_89 (dk_at dksJ15_hugeLength_0 15 rfl rfl)
theorem dJ15_hugeLength_16 : decode cJ15_hugeLength 16 = .ok (.invokespecial 91, 3) := dk_183 0 91 (dk_at dksJ15_hugeLength_0 16 rfl rfl)
theorem dJ15_hugeLength_19 : decode cJ15_hugeLength 19 = .ok (.ldc 206, 2) := dk_18 206 (dk_at dksJ15_hugeLength_0 19 rfl rfl)
theorem dJ15_hugeLength_21 : decode cJ15_hugeLength 21 = .ok (.invokevirtual 94, 3) := dk_182 0 94 (dk_at dksJ15_hugeLength_0 21 rfl rfl)
theorem dJ15_hugeLength_24 : decode cJ15_hugeLength 24 = .ok (.iload_n 0, 1) := dk_26 (dk_at dksJ15_hugeLength_1 0 rfl rfl)
theorem dJ15_hugeLength_25 : decode cJ15_hugeLength 25 = .ok (.invokevirtual 98, 3) := dk_182 0 98 (dk_at dksJ15_hugeLength_1 1 rfl rfl)
theorem dJ15_hugeLength_28 : decode cJ15_hugeLength 28 = .ok (.ldc 208, 2) := dk_18 208 (dk_at dksJ15_hugeLength_1 4 rfl rfl)
theorem dJ15_hugeLength_30 : decode cJ15_hugeLength 30 = .ok (.invokevirtual 94, 3) := dk_182 0 94 (dk_at dksJ15_hugeLength_1 6 rfl rfl)
theorem dJ15_hugeLength_33 : decode cJ15_hugeLength 33 = .ok (.iload_n 1, 1) := dk_27 (dk_at dksJ15_hugeLength_1 9 rfl rfl)
theorem dJ15_hugeLength_34 : decode cJ15_hugeLength 34 = .ok (.invokevirtual 98, 3) := dk_182 0 98 (dk_at dksJ15_hugeLength_1 10 rfl rfl)
theorem dJ15_hugeLength_37 : decode cJ15_hugeLength 37 = .ok (.ldc 210, 2) := dk_18 210 (dk_at dksJ15_hugeLength_1 13 rfl rfl)
theorem dJ15_hugeLength_39 : decode cJ15_hugeLength 39 = .ok (.invokevirtual 94, 3) := dk_182 0 94 (dk_at dksJ15_hugeLength_1 15 rfl rfl)
theorem dJ15_hugeLength_42 : decode cJ15_hugeLength 42 = .ok (.invokevirtual 101, 3) := dk_182 0 101 (dk_at dksJ15_hugeLength_1 18 rfl rfl)
theorem dJ15_hugeLength_45 : decode cJ15_hugeLength 45 = .ok (.invokespecial 212, 3) := dk_183 0 212 (dk_at dksJ15_hugeLength_1 21 rfl rfl)
theorem dJ15_hugeLength_48 : decode cJ15_hugeLength 48 = .ok (.athrow, 1) := dk_191 (dk_at dksJ15_hugeLength_2 0 rfl rfl)
theorem dJ15_hugeLength_49 : decode cJ15_hugeLength 49 = .ok (.iload_n 2, 1) := dk_28 (dk_at dksJ15_hugeLength_2 1 rfl rfl)
theorem dJ15_hugeLength_50 : decode cJ15_hugeLength 50 = .ok (.ldc 200, 2) := dk_18 200 (dk_at dksJ15_hugeLength_2 2 rfl rfl)
theorem dJ15_hugeLength_52 : decode cJ15_hugeLength 52 = .ok (.if_icmp .gt 6, 3) := dk_163 0 6 (dk_at dksJ15_hugeLength_2 4 rfl rfl)
theorem dJ15_hugeLength_55 : decode cJ15_hugeLength 55 = .ok (.ldc 200, 2) := dk_18 200 (dk_at dksJ15_hugeLength_2 7 rfl rfl)
theorem dJ15_hugeLength_57 : decode cJ15_hugeLength 57 = .ok (.ireturn, 1) := dk_172 (dk_at dksJ15_hugeLength_2 9 rfl rfl)
theorem dJ15_hugeLength_58 : decode cJ15_hugeLength 58 = .ok (.iload_n 2, 1) := dk_28 (dk_at dksJ15_hugeLength_2 10 rfl rfl)
theorem dJ15_hugeLength_59 : decode cJ15_hugeLength 59 = .ok (.ireturn, 1) := dk_172 (dk_at dksJ15_hugeLength_2 11 rfl rfl)
abbrev cJ15_vectorizedHashCode : ByteArray := prog_73_method_4_code
def yJ15_vectorizedHashCode : MethodName := ⟨RJ15, "vectorizedHashCode", "(Ljava/lang/Object;IIII)I"⟩
def dkwJ15_vectorizedHashCode_6 : List UInt8 := [183, 0, 91, 18, 92, 182, 0, 94, 21, 4, 182, 0, 98, 182, 0, 101, 183, 0, 105, 191, 172]
abbrev dktJ15_vectorizedHashCode_6 : List UInt8 := dkwJ15_vectorizedHashCode_6 ++ []
def dkwJ15_vectorizedHashCode_5 : List UInt8 := [167, 0, 44, 29, 42, 192, 0, 82, 27, 28, 184, 0, 84, 167, 0, 31, 187, 0, 87, 89, 187, 0, 89, 89]
abbrev dktJ15_vectorizedHashCode_5 : List UInt8 := dkwJ15_vectorizedHashCode_5 ++ dktJ15_vectorizedHashCode_6
def dkwJ15_vectorizedHashCode_4 : List UInt8 := [29, 42, 192, 0, 60, 27, 28, 184, 0, 75, 167, 0, 57, 29, 42, 192, 0, 77, 27, 28, 184, 0, 79]
abbrev dktJ15_vectorizedHashCode_4 : List UInt8 := dkwJ15_vectorizedHashCode_4 ++ dktJ15_vectorizedHashCode_5
def dkwJ15_vectorizedHashCode_3 : List UInt8 := [192, 0, 60, 27, 28, 184, 0, 66, 167, 0, 83, 29, 42, 192, 0, 69, 27, 28, 184, 0, 71, 167, 0, 70]
abbrev dktJ15_vectorizedHashCode_3 : List UInt8 := dkwJ15_vectorizedHashCode_3 ++ dktJ15_vectorizedHashCode_4
def dkwJ15_vectorizedHashCode_2 : List UInt8 := [29, 42, 192, 0, 60, 27, 28, 184, 0, 62, 167, 0, 103, 42, 193, 0, 60, 153, 0, 16, 29, 42]
abbrev dktJ15_vectorizedHashCode_2 : List UInt8 := dkwJ15_vectorizedHashCode_2 ++ dktJ15_vectorizedHashCode_3
def dkwJ15_vectorizedHashCode_1 : List UInt8 := [170, 0, 0, 0, 0, 127, 0, 0, 0, 4, 0, 0, 0, 10, 0, 0, 0, 42, 0, 0, 0, 55, 0, 0, 0, 127, 0, 0, 0, 127, 0, 0, 0, 88, 0, 0, 0, 101, 0, 0, 0, 114]
abbrev dktJ15_vectorizedHashCode_1 : List UInt8 := dkwJ15_vectorizedHashCode_1 ++ dktJ15_vectorizedHashCode_2
def dkwJ15_vectorizedHashCode_0 : List UInt8 := [21, 4]
abbrev dktJ15_vectorizedHashCode_0 : List UInt8 := dkwJ15_vectorizedHashCode_0 ++ dktJ15_vectorizedHashCode_1
theorem dksJ15_vectorizedHashCode_0 : cJ15_vectorizedHashCode.data.toList.drop 0 = dktJ15_vectorizedHashCode_0 := by decide +kernel
theorem dksJ15_vectorizedHashCode_1 : cJ15_vectorizedHashCode.data.toList.drop 2 = dktJ15_vectorizedHashCode_1 := dk_seg dksJ15_vectorizedHashCode_0 2 rfl rfl
theorem dksJ15_vectorizedHashCode_2 : cJ15_vectorizedHashCode.data.toList.drop 44 = dktJ15_vectorizedHashCode_2 := dk_seg dksJ15_vectorizedHashCode_1 42 rfl rfl
theorem dksJ15_vectorizedHashCode_3 : cJ15_vectorizedHashCode.data.toList.drop 66 = dktJ15_vectorizedHashCode_3 := dk_seg dksJ15_vectorizedHashCode_2 22 rfl rfl
theorem dksJ15_vectorizedHashCode_4 : cJ15_vectorizedHashCode.data.toList.drop 90 = dktJ15_vectorizedHashCode_4 := dk_seg dksJ15_vectorizedHashCode_3 24 rfl rfl
theorem dksJ15_vectorizedHashCode_5 : cJ15_vectorizedHashCode.data.toList.drop 113 = dktJ15_vectorizedHashCode_5 := dk_seg dksJ15_vectorizedHashCode_4 23 rfl rfl
theorem dksJ15_vectorizedHashCode_6 : cJ15_vectorizedHashCode.data.toList.drop 137 = dktJ15_vectorizedHashCode_6 := dk_seg dksJ15_vectorizedHashCode_5 24 rfl rfl
theorem dJ15_vectorizedHashCode_0 : decode cJ15_vectorizedHashCode 0 = .ok (.iload 4, 2) := dk_21 4 (dk_at dksJ15_vectorizedHashCode_0 0 rfl rfl)
theorem dJ15_vectorizedHashCode_2 : decode cJ15_vectorizedHashCode 2 = .ok (.tableswitch 127 4 10 #[42, 55, 127, 127, 88, 101, 114], 42) := by decide +kernel
theorem dJ15_vectorizedHashCode_44 : decode cJ15_vectorizedHashCode 44 = .ok (.iload_n 3, 1) := dk_29 (dk_at dksJ15_vectorizedHashCode_2 0 rfl rfl)
theorem dJ15_vectorizedHashCode_45 : decode cJ15_vectorizedHashCode 45 = .ok (.aload_n 0, 1) := dk_42 (dk_at dksJ15_vectorizedHashCode_2 1 rfl rfl)
theorem dJ15_vectorizedHashCode_46 : decode cJ15_vectorizedHashCode 46 = .ok (.checkcast 60, 3) := dk_192 0 60 (dk_at dksJ15_vectorizedHashCode_2 2 rfl rfl)
theorem dJ15_vectorizedHashCode_49 : decode cJ15_vectorizedHashCode 49 = .ok (.iload_n 1, 1) := dk_27 (dk_at dksJ15_vectorizedHashCode_2 5 rfl rfl)
theorem dJ15_vectorizedHashCode_50 : decode cJ15_vectorizedHashCode 50 = .ok (.iload_n 2, 1) := dk_28 (dk_at dksJ15_vectorizedHashCode_2 6 rfl rfl)
theorem dJ15_vectorizedHashCode_51 : decode cJ15_vectorizedHashCode 51 = .ok (.invokestatic 62, 3) := dk_184 0 62 (dk_at dksJ15_vectorizedHashCode_2 7 rfl rfl)
theorem dJ15_vectorizedHashCode_54 : decode cJ15_vectorizedHashCode 54 = .ok (.goto 103, 3) := dk_167 0 103 (dk_at dksJ15_vectorizedHashCode_2 10 rfl rfl)
theorem dJ15_vectorizedHashCode_57 : decode cJ15_vectorizedHashCode 57 = .ok (.aload_n 0, 1) := dk_42 (dk_at dksJ15_vectorizedHashCode_2 13 rfl rfl)
theorem dJ15_vectorizedHashCode_58 : decode cJ15_vectorizedHashCode 58 = .ok (.instanceof 60, 3) := dk_193 0 60 (dk_at dksJ15_vectorizedHashCode_2 14 rfl rfl)
theorem dJ15_vectorizedHashCode_61 : decode cJ15_vectorizedHashCode 61 = .ok (.ifCond .eq 16, 3) := dk_153 0 16 (dk_at dksJ15_vectorizedHashCode_2 17 rfl rfl)
theorem dJ15_vectorizedHashCode_64 : decode cJ15_vectorizedHashCode 64 = .ok (.iload_n 3, 1) := dk_29 (dk_at dksJ15_vectorizedHashCode_2 20 rfl rfl)
theorem dJ15_vectorizedHashCode_65 : decode cJ15_vectorizedHashCode 65 = .ok (.aload_n 0, 1) := dk_42 (dk_at dksJ15_vectorizedHashCode_2 21 rfl rfl)
theorem dJ15_vectorizedHashCode_66 : decode cJ15_vectorizedHashCode 66 = .ok (.checkcast 60, 3) := dk_192 0 60 (dk_at dksJ15_vectorizedHashCode_3 0 rfl rfl)
theorem dJ15_vectorizedHashCode_69 : decode cJ15_vectorizedHashCode 69 = .ok (.iload_n 1, 1) := dk_27 (dk_at dksJ15_vectorizedHashCode_3 3 rfl rfl)
theorem dJ15_vectorizedHashCode_70 : decode cJ15_vectorizedHashCode 70 = .ok (.iload_n 2, 1) := dk_28 (dk_at dksJ15_vectorizedHashCode_3 4 rfl rfl)
theorem dJ15_vectorizedHashCode_71 : decode cJ15_vectorizedHashCode 71 = .ok (.invokestatic 66, 3) := dk_184 0 66 (dk_at dksJ15_vectorizedHashCode_3 5 rfl rfl)
theorem dJ15_vectorizedHashCode_74 : decode cJ15_vectorizedHashCode 74 = .ok (.goto 83, 3) := dk_167 0 83 (dk_at dksJ15_vectorizedHashCode_3 8 rfl rfl)
theorem dJ15_vectorizedHashCode_77 : decode cJ15_vectorizedHashCode 77 = .ok (.iload_n 3, 1) := dk_29 (dk_at dksJ15_vectorizedHashCode_3 11 rfl rfl)
theorem dJ15_vectorizedHashCode_78 : decode cJ15_vectorizedHashCode 78 = .ok (.aload_n 0, 1) := dk_42 (dk_at dksJ15_vectorizedHashCode_3 12 rfl rfl)
theorem dJ15_vectorizedHashCode_79 : decode cJ15_vectorizedHashCode 79 = .ok (.checkcast 69, 3) := dk_192 0 69 (dk_at dksJ15_vectorizedHashCode_3 13 rfl rfl)
theorem dJ15_vectorizedHashCode_82 : decode cJ15_vectorizedHashCode 82 = .ok (.iload_n 1, 1) := dk_27 (dk_at dksJ15_vectorizedHashCode_3 16 rfl rfl)
theorem dJ15_vectorizedHashCode_83 : decode cJ15_vectorizedHashCode 83 = .ok (.iload_n 2, 1) := dk_28 (dk_at dksJ15_vectorizedHashCode_3 17 rfl rfl)
theorem dJ15_vectorizedHashCode_84 : decode cJ15_vectorizedHashCode 84 = .ok (.invokestatic 71, 3) := dk_184 0 71 (dk_at dksJ15_vectorizedHashCode_3 18 rfl rfl)
theorem dJ15_vectorizedHashCode_87 : decode cJ15_vectorizedHashCode 87 = .ok (.goto 70, 3) := dk_167 0 70 (dk_at dksJ15_vectorizedHashCode_3 21 rfl rfl)
theorem dJ15_vectorizedHashCode_90 : decode cJ15_vectorizedHashCode 90 = .ok (.iload_n 3, 1) := dk_29 (dk_at dksJ15_vectorizedHashCode_4 0 rfl rfl)
theorem dJ15_vectorizedHashCode_91 : decode cJ15_vectorizedHashCode 91 = .ok (.aload_n 0, 1) := dk_42 (dk_at dksJ15_vectorizedHashCode_4 1 rfl rfl)
theorem dJ15_vectorizedHashCode_92 : decode cJ15_vectorizedHashCode 92 = .ok (.checkcast 60, 3) := dk_192 0 60 (dk_at dksJ15_vectorizedHashCode_4 2 rfl rfl)
theorem dJ15_vectorizedHashCode_95 : decode cJ15_vectorizedHashCode 95 = .ok (.iload_n 1, 1) := dk_27 (dk_at dksJ15_vectorizedHashCode_4 5 rfl rfl)
theorem dJ15_vectorizedHashCode_96 : decode cJ15_vectorizedHashCode 96 = .ok (.iload_n 2, 1) := dk_28 (dk_at dksJ15_vectorizedHashCode_4 6 rfl rfl)
theorem dJ15_vectorizedHashCode_97 : decode cJ15_vectorizedHashCode 97 = .ok (.invokestatic 75, 3) := dk_184 0 75 (dk_at dksJ15_vectorizedHashCode_4 7 rfl rfl)
theorem dJ15_vectorizedHashCode_100 : decode cJ15_vectorizedHashCode 100 = .ok (.goto 57, 3) := dk_167 0 57 (dk_at dksJ15_vectorizedHashCode_4 10 rfl rfl)
theorem dJ15_vectorizedHashCode_103 : decode cJ15_vectorizedHashCode 103 = .ok (.iload_n 3, 1) := dk_29 (dk_at dksJ15_vectorizedHashCode_4 13 rfl rfl)
theorem dJ15_vectorizedHashCode_104 : decode cJ15_vectorizedHashCode 104 = .ok (.aload_n 0, 1) := dk_42 (dk_at dksJ15_vectorizedHashCode_4 14 rfl rfl)
theorem dJ15_vectorizedHashCode_105 : decode cJ15_vectorizedHashCode 105 = .ok (.checkcast 77, 3) := dk_192 0 77 (dk_at dksJ15_vectorizedHashCode_4 15 rfl rfl)
theorem dJ15_vectorizedHashCode_108 : decode cJ15_vectorizedHashCode 108 = .ok (.iload_n 1, 1) := dk_27 (dk_at dksJ15_vectorizedHashCode_4 18 rfl rfl)
theorem dJ15_vectorizedHashCode_109 : decode cJ15_vectorizedHashCode 109 = .ok (.iload_n 2, 1) := dk_28 (dk_at dksJ15_vectorizedHashCode_4 19 rfl rfl)
theorem dJ15_vectorizedHashCode_110 : decode cJ15_vectorizedHashCode 110 = .ok (.invokestatic 79, 3) := dk_184 0 79 (dk_at dksJ15_vectorizedHashCode_4 20 rfl rfl)
theorem dJ15_vectorizedHashCode_113 : decode cJ15_vectorizedHashCode 113 = .ok (.goto 44, 3) := dk_167 0 44 (dk_at dksJ15_vectorizedHashCode_5 0 rfl rfl)
theorem dJ15_vectorizedHashCode_116 : decode cJ15_vectorizedHashCode 116 = .ok (.iload_n 3, 1) := dk_29 (dk_at dksJ15_vectorizedHashCode_5 3 rfl rfl)
theorem dJ15_vectorizedHashCode_117 : decode cJ15_vectorizedHashCode 117 = .ok (.aload_n 0, 1) := dk_42 (dk_at dksJ15_vectorizedHashCode_5 4 rfl rfl)
theorem dJ15_vectorizedHashCode_118 : decode cJ15_vectorizedHashCode 118 = .ok (.checkcast 82, 3) := dk_192 0 82 (dk_at dksJ15_vectorizedHashCode_5 5 rfl rfl)
theorem dJ15_vectorizedHashCode_121 : decode cJ15_vectorizedHashCode 121 = .ok (.iload_n 1, 1) := dk_27 (dk_at dksJ15_vectorizedHashCode_5 8 rfl rfl)
theorem dJ15_vectorizedHashCode_122 : decode cJ15_vectorizedHashCode 122 = .ok (.iload_n 2, 1) := dk_28 (dk_at dksJ15_vectorizedHashCode_5 9 rfl rfl)
theorem dJ15_vectorizedHashCode_123 : decode cJ15_vectorizedHashCode 123 = .ok (.invokestatic 84, 3) := dk_184 0 84 (dk_at dksJ15_vectorizedHashCode_5 10 rfl rfl)
theorem dJ15_vectorizedHashCode_126 : decode cJ15_vectorizedHashCode 126 = .ok (.goto 31, 3) := dk_167 0 31 (dk_at dksJ15_vectorizedHashCode_5 13 rfl rfl)
theorem dJ15_vectorizedHashCode_129 : decode cJ15_vectorizedHashCode 129 = .ok (.new 87, 3) := dk_187 0 87 (dk_at dksJ15_vectorizedHashCode_5 16 rfl rfl)
theorem dJ15_vectorizedHashCode_132 : decode cJ15_vectorizedHashCode 132 = .ok (.dup, 1) := dk_89 (dk_at dksJ15_vectorizedHashCode_5 19 rfl rfl)
theorem dJ15_vectorizedHashCode_133 : decode cJ15_vectorizedHashCode 133 = .ok (.new 89, 3) := dk_187 0 89 (dk_at dksJ15_vectorizedHashCode_5 20 rfl rfl)
theorem dJ15_vectorizedHashCode_136 : decode cJ15_vectorizedHashCode 136 = .ok (.dup, 1) := dk_89 (dk_at dksJ15_vectorizedHashCode_5 23 rfl rfl)
theorem dJ15_vectorizedHashCode_137 : decode cJ15_vectorizedHashCode 137 = .ok (.invokespecial 91, 3) := dk_183 0 91 (dk_at dksJ15_vectorizedHashCode_6 0 rfl rfl)
theorem dJ15_vectorizedHashCode_140 : decode cJ15_vectorizedHashCode 140 = .ok (.ldc 92, 2) := dk_18 92 (dk_at dksJ15_vectorizedHashCode_6 3 rfl rfl)
theorem dJ15_vectorizedHashCode_142 : decode cJ15_vectorizedHashCode 142 = .ok (.invokevirtual 94, 3) := dk_182 0 94 (dk_at dksJ15_vectorizedHashCode_6 5 rfl rfl)
theorem dJ15_vectorizedHashCode_145 : decode cJ15_vectorizedHashCode 145 = .ok (.iload 4, 2) := dk_21 4 (dk_at dksJ15_vectorizedHashCode_6 8 rfl rfl)
theorem dJ15_vectorizedHashCode_147 : decode cJ15_vectorizedHashCode 147 = .ok (.invokevirtual 98, 3) := dk_182 0 98 (dk_at dksJ15_vectorizedHashCode_6 10 rfl rfl)
theorem dJ15_vectorizedHashCode_150 : decode cJ15_vectorizedHashCode 150 = .ok (.invokevirtual 101, 3) := dk_182 0 101 (dk_at dksJ15_vectorizedHashCode_6 13 rfl rfl)
theorem dJ15_vectorizedHashCode_153 : decode cJ15_vectorizedHashCode 153 = .ok (.invokespecial 105, 3) := dk_183 0 105 (dk_at dksJ15_vectorizedHashCode_6 16 rfl rfl)
theorem dJ15_vectorizedHashCode_156 : decode cJ15_vectorizedHashCode 156 = .ok (.athrow, 1) := dk_191 (dk_at dksJ15_vectorizedHashCode_6 19 rfl rfl)
theorem dJ15_vectorizedHashCode_157 : decode cJ15_vectorizedHashCode 157 = .ok (.ireturn, 1) := dk_172 (dk_at dksJ15_vectorizedHashCode_6 20 rfl rfl)
abbrev cJ15_signedHashCode : ByteArray := prog_73_method_5_code
def yJ15_signedHashCode : MethodName := ⟨RJ15, "signedHashCode", "(I[BII)I"⟩
def dkwJ15_signedHashCode_1 : List UInt8 := [17, 0, 255, 126, 96, 59, 132, 5, 1, 167, 255, 232, 26, 172]
abbrev dktJ15_signedHashCode_1 : List UInt8 := dkwJ15_signedHashCode_1 ++ []
def dkwJ15_signedHashCode_0 : List UInt8 := [28, 29, 96, 54, 4, 28, 54, 5, 21, 5, 21, 4, 162, 0, 23, 16, 31, 26, 104, 43, 21, 5, 51]
abbrev dktJ15_signedHashCode_0 : List UInt8 := dkwJ15_signedHashCode_0 ++ dktJ15_signedHashCode_1
theorem dksJ15_signedHashCode_0 : cJ15_signedHashCode.data.toList.drop 0 = dktJ15_signedHashCode_0 := by decide +kernel
theorem dksJ15_signedHashCode_1 : cJ15_signedHashCode.data.toList.drop 23 = dktJ15_signedHashCode_1 := dk_seg dksJ15_signedHashCode_0 23 rfl rfl
theorem dJ15_signedHashCode_0 : decode cJ15_signedHashCode 0 = .ok (.iload_n 2, 1) := dk_28 (dk_at dksJ15_signedHashCode_0 0 rfl rfl)
theorem dJ15_signedHashCode_1 : decode cJ15_signedHashCode 1 = .ok (.iload_n 3, 1) := dk_29 (dk_at dksJ15_signedHashCode_0 1 rfl rfl)
theorem dJ15_signedHashCode_2 : decode cJ15_signedHashCode 2 = .ok (.iadd, 1) := dk_96 (dk_at dksJ15_signedHashCode_0 2 rfl rfl)
theorem dJ15_signedHashCode_3 : decode cJ15_signedHashCode 3 = .ok (.istore 4, 2) := dk_54 4 (dk_at dksJ15_signedHashCode_0 3 rfl rfl)
theorem dJ15_signedHashCode_5 : decode cJ15_signedHashCode 5 = .ok (.iload_n 2, 1) := dk_28 (dk_at dksJ15_signedHashCode_0 5 rfl rfl)
theorem dJ15_signedHashCode_6 : decode cJ15_signedHashCode 6 = .ok (.istore 5, 2) := dk_54 5 (dk_at dksJ15_signedHashCode_0 6 rfl rfl)
theorem dJ15_signedHashCode_8 : decode cJ15_signedHashCode 8 = .ok (.iload 5, 2) := dk_21 5 (dk_at dksJ15_signedHashCode_0 8 rfl rfl)
theorem dJ15_signedHashCode_10 : decode cJ15_signedHashCode 10 = .ok (.iload 4, 2) := dk_21 4 (dk_at dksJ15_signedHashCode_0 10 rfl rfl)
theorem dJ15_signedHashCode_12 : decode cJ15_signedHashCode 12 = .ok (.if_icmp .ge 23, 3) := dk_162 0 23 (dk_at dksJ15_signedHashCode_0 12 rfl rfl)
theorem dJ15_signedHashCode_15 : decode cJ15_signedHashCode 15 = .ok (.bipush 31, 2) := dk_16 31 (dk_at dksJ15_signedHashCode_0 15 rfl rfl)
theorem dJ15_signedHashCode_17 : decode cJ15_signedHashCode 17 = .ok (.iload_n 0, 1) := dk_26 (dk_at dksJ15_signedHashCode_0 17 rfl rfl)
theorem dJ15_signedHashCode_18 : decode cJ15_signedHashCode 18 = .ok (.imul, 1) := dk_104 (dk_at dksJ15_signedHashCode_0 18 rfl rfl)
theorem dJ15_signedHashCode_19 : decode cJ15_signedHashCode 19 = .ok (.aload_n 1, 1) := dk_43 (dk_at dksJ15_signedHashCode_0 19 rfl rfl)
theorem dJ15_signedHashCode_20 : decode cJ15_signedHashCode 20 = .ok (.iload 5, 2) := dk_21 5 (dk_at dksJ15_signedHashCode_0 20 rfl rfl)
theorem dJ15_signedHashCode_22 : decode cJ15_signedHashCode 22 = .ok (.baload, 1) := dk_51 (dk_at dksJ15_signedHashCode_0 22 rfl rfl)
theorem dJ15_signedHashCode_23 : decode cJ15_signedHashCode 23 = .ok (.sipush 255, 3) := dk_17 0 255 (dk_at dksJ15_signedHashCode_1 0 rfl rfl)
theorem dJ15_signedHashCode_26 : decode cJ15_signedHashCode 26 = .ok (.iand, 1) := dk_126 (dk_at dksJ15_signedHashCode_1 3 rfl rfl)
theorem dJ15_signedHashCode_27 : decode cJ15_signedHashCode 27 = .ok (.iadd, 1) := dk_96 (dk_at dksJ15_signedHashCode_1 4 rfl rfl)
theorem dJ15_signedHashCode_28 : decode cJ15_signedHashCode 28 = .ok (.istore_n 0, 1) := dk_59 (dk_at dksJ15_signedHashCode_1 5 rfl rfl)
theorem dJ15_signedHashCode_29 : decode cJ15_signedHashCode 29 = .ok (.iinc 5 1, 3) := dk_132 5 1 (dk_at dksJ15_signedHashCode_1 6 rfl rfl)
theorem dJ15_signedHashCode_32 : decode cJ15_signedHashCode 32 = .ok (.goto (-24), 3) := dk_167 255 232 (dk_at dksJ15_signedHashCode_1 9 rfl rfl)
theorem dJ15_signedHashCode_35 : decode cJ15_signedHashCode 35 = .ok (.iload_n 0, 1) := dk_26 (dk_at dksJ15_signedHashCode_1 12 rfl rfl)
theorem dJ15_signedHashCode_36 : decode cJ15_signedHashCode 36 = .ok (.ireturn, 1) := dk_172 (dk_at dksJ15_signedHashCode_1 13 rfl rfl)
abbrev cJ15_utf16hashCode : ByteArray := prog_73_method_10_code
def yJ15_utf16hashCode : MethodName := ⟨RJ15, "utf16hashCode", "(I[BII)I"⟩
def dkwJ15_utf16hashCode_1 : List UInt8 := [21, 5, 185, 0, 110, 3, 0, 96, 59, 132, 5, 1, 167, 255, 229, 26, 172]
abbrev dktJ15_utf16hashCode_1 : List UInt8 := dkwJ15_utf16hashCode_1 ++ []
def dkwJ15_utf16hashCode_0 : List UInt8 := [28, 29, 96, 54, 4, 28, 54, 5, 21, 5, 21, 4, 162, 0, 26, 16, 31, 26, 104, 178, 0, 106, 43]
abbrev dktJ15_utf16hashCode_0 : List UInt8 := dkwJ15_utf16hashCode_0 ++ dktJ15_utf16hashCode_1
theorem dksJ15_utf16hashCode_0 : cJ15_utf16hashCode.data.toList.drop 0 = dktJ15_utf16hashCode_0 := by decide +kernel
theorem dksJ15_utf16hashCode_1 : cJ15_utf16hashCode.data.toList.drop 23 = dktJ15_utf16hashCode_1 := dk_seg dksJ15_utf16hashCode_0 23 rfl rfl
theorem dJ15_utf16hashCode_0 : decode cJ15_utf16hashCode 0 = .ok (.iload_n 2, 1) := dk_28 (dk_at dksJ15_utf16hashCode_0 0 rfl rfl)
theorem dJ15_utf16hashCode_1 : decode cJ15_utf16hashCode 1 = .ok (.iload_n 3, 1) := dk_29 (dk_at dksJ15_utf16hashCode_0 1 rfl rfl)
theorem dJ15_utf16hashCode_2 : decode cJ15_utf16hashCode 2 = .ok (.iadd, 1) := dk_96 (dk_at dksJ15_utf16hashCode_0 2 rfl rfl)
theorem dJ15_utf16hashCode_3 : decode cJ15_utf16hashCode 3 = .ok (.istore 4, 2) := dk_54 4 (dk_at dksJ15_utf16hashCode_0 3 rfl rfl)
theorem dJ15_utf16hashCode_5 : decode cJ15_utf16hashCode 5 = .ok (.iload_n 2, 1) := dk_28 (dk_at dksJ15_utf16hashCode_0 5 rfl rfl)
theorem dJ15_utf16hashCode_6 : decode cJ15_utf16hashCode 6 = .ok (.istore 5, 2) := dk_54 5 (dk_at dksJ15_utf16hashCode_0 6 rfl rfl)
theorem dJ15_utf16hashCode_8 : decode cJ15_utf16hashCode 8 = .ok (.iload 5, 2) := dk_21 5 (dk_at dksJ15_utf16hashCode_0 8 rfl rfl)
theorem dJ15_utf16hashCode_10 : decode cJ15_utf16hashCode 10 = .ok (.iload 4, 2) := dk_21 4 (dk_at dksJ15_utf16hashCode_0 10 rfl rfl)
theorem dJ15_utf16hashCode_12 : decode cJ15_utf16hashCode 12 = .ok (.if_icmp .ge 26, 3) := dk_162 0 26 (dk_at dksJ15_utf16hashCode_0 12 rfl rfl)
theorem dJ15_utf16hashCode_15 : decode cJ15_utf16hashCode 15 = .ok (.bipush 31, 2) := dk_16 31 (dk_at dksJ15_utf16hashCode_0 15 rfl rfl)
theorem dJ15_utf16hashCode_17 : decode cJ15_utf16hashCode 17 = .ok (.iload_n 0, 1) := dk_26 (dk_at dksJ15_utf16hashCode_0 17 rfl rfl)
theorem dJ15_utf16hashCode_18 : decode cJ15_utf16hashCode 18 = .ok (.imul, 1) := dk_104 (dk_at dksJ15_utf16hashCode_0 18 rfl rfl)
theorem dJ15_utf16hashCode_19 : decode cJ15_utf16hashCode 19 = .ok (.getstatic 106, 3) := dk_178 0 106 (dk_at dksJ15_utf16hashCode_0 19 rfl rfl)
theorem dJ15_utf16hashCode_22 : decode cJ15_utf16hashCode 22 = .ok (.aload_n 1, 1) := dk_43 (dk_at dksJ15_utf16hashCode_0 22 rfl rfl)
theorem dJ15_utf16hashCode_23 : decode cJ15_utf16hashCode 23 = .ok (.iload 5, 2) := dk_21 5 (dk_at dksJ15_utf16hashCode_1 0 rfl rfl)
theorem dJ15_utf16hashCode_25 : decode cJ15_utf16hashCode 25 = .ok (.invokeinterface 110 3, 5) := by decide +kernel
theorem dJ15_utf16hashCode_30 : decode cJ15_utf16hashCode 30 = .ok (.iadd, 1) := dk_96 (dk_at dksJ15_utf16hashCode_1 7 rfl rfl)
theorem dJ15_utf16hashCode_31 : decode cJ15_utf16hashCode 31 = .ok (.istore_n 0, 1) := dk_59 (dk_at dksJ15_utf16hashCode_1 8 rfl rfl)
theorem dJ15_utf16hashCode_32 : decode cJ15_utf16hashCode 32 = .ok (.iinc 5 1, 3) := dk_132 5 1 (dk_at dksJ15_utf16hashCode_1 9 rfl rfl)
theorem dJ15_utf16hashCode_35 : decode cJ15_utf16hashCode 35 = .ok (.goto (-27), 3) := dk_167 255 229 (dk_at dksJ15_utf16hashCode_1 12 rfl rfl)
theorem dJ15_utf16hashCode_38 : decode cJ15_utf16hashCode 38 = .ok (.iload_n 0, 1) := dk_26 (dk_at dksJ15_utf16hashCode_1 15 rfl rfl)
theorem dJ15_utf16hashCode_39 : decode cJ15_utf16hashCode 39 = .ok (.ireturn, 1) := dk_172 (dk_at dksJ15_utf16hashCode_1 16 rfl rfl)
abbrev cJ15_hashCode : ByteArray := prog_73_method_7_code
def yJ15_hashCode : MethodName := ⟨RJ15, "hashCode", "(I[CII)I"⟩
def dkwJ15_hashCode_1 : List UInt8 := [59, 132, 5, 1, 167, 255, 236, 26, 172]
abbrev dktJ15_hashCode_1 : List UInt8 := dkwJ15_hashCode_1 ++ []
def dkwJ15_hashCode_0 : List UInt8 := [28, 29, 96, 54, 4, 28, 54, 5, 21, 5, 21, 4, 162, 0, 19, 16, 31, 26, 104, 43, 21, 5, 52, 96]
abbrev dktJ15_hashCode_0 : List UInt8 := dkwJ15_hashCode_0 ++ dktJ15_hashCode_1
theorem dksJ15_hashCode_0 : cJ15_hashCode.data.toList.drop 0 = dktJ15_hashCode_0 := by decide +kernel
theorem dksJ15_hashCode_1 : cJ15_hashCode.data.toList.drop 24 = dktJ15_hashCode_1 := dk_seg dksJ15_hashCode_0 24 rfl rfl
theorem dJ15_hashCode_0 : decode cJ15_hashCode 0 = .ok (.iload_n 2, 1) := dk_28 (dk_at dksJ15_hashCode_0 0 rfl rfl)
theorem dJ15_hashCode_1 : decode cJ15_hashCode 1 = .ok (.iload_n 3, 1) := dk_29 (dk_at dksJ15_hashCode_0 1 rfl rfl)
theorem dJ15_hashCode_2 : decode cJ15_hashCode 2 = .ok (.iadd, 1) := dk_96 (dk_at dksJ15_hashCode_0 2 rfl rfl)
theorem dJ15_hashCode_3 : decode cJ15_hashCode 3 = .ok (.istore 4, 2) := dk_54 4 (dk_at dksJ15_hashCode_0 3 rfl rfl)
theorem dJ15_hashCode_5 : decode cJ15_hashCode 5 = .ok (.iload_n 2, 1) := dk_28 (dk_at dksJ15_hashCode_0 5 rfl rfl)
theorem dJ15_hashCode_6 : decode cJ15_hashCode 6 = .ok (.istore 5, 2) := dk_54 5 (dk_at dksJ15_hashCode_0 6 rfl rfl)
theorem dJ15_hashCode_8 : decode cJ15_hashCode 8 = .ok (.iload 5, 2) := dk_21 5 (dk_at dksJ15_hashCode_0 8 rfl rfl)
theorem dJ15_hashCode_10 : decode cJ15_hashCode 10 = .ok (.iload 4, 2) := dk_21 4 (dk_at dksJ15_hashCode_0 10 rfl rfl)
theorem dJ15_hashCode_12 : decode cJ15_hashCode 12 = .ok (.if_icmp .ge 19, 3) := dk_162 0 19 (dk_at dksJ15_hashCode_0 12 rfl rfl)
theorem dJ15_hashCode_15 : decode cJ15_hashCode 15 = .ok (.bipush 31, 2) := dk_16 31 (dk_at dksJ15_hashCode_0 15 rfl rfl)
theorem dJ15_hashCode_17 : decode cJ15_hashCode 17 = .ok (.iload_n 0, 1) := dk_26 (dk_at dksJ15_hashCode_0 17 rfl rfl)
theorem dJ15_hashCode_18 : decode cJ15_hashCode 18 = .ok (.imul, 1) := dk_104 (dk_at dksJ15_hashCode_0 18 rfl rfl)
theorem dJ15_hashCode_19 : decode cJ15_hashCode 19 = .ok (.aload_n 1, 1) := dk_43 (dk_at dksJ15_hashCode_0 19 rfl rfl)
theorem dJ15_hashCode_20 : decode cJ15_hashCode 20 = .ok (.iload 5, 2) := dk_21 5 (dk_at dksJ15_hashCode_0 20 rfl rfl)
theorem dJ15_hashCode_22 : decode cJ15_hashCode 22 = .ok (.caload, 1) := dk_52 (dk_at dksJ15_hashCode_0 22 rfl rfl)
theorem dJ15_hashCode_23 : decode cJ15_hashCode 23 = .ok (.iadd, 1) := dk_96 (dk_at dksJ15_hashCode_0 23 rfl rfl)
theorem dJ15_hashCode_24 : decode cJ15_hashCode 24 = .ok (.istore_n 0, 1) := dk_59 (dk_at dksJ15_hashCode_1 0 rfl rfl)
theorem dJ15_hashCode_25 : decode cJ15_hashCode 25 = .ok (.iinc 5 1, 3) := dk_132 5 1 (dk_at dksJ15_hashCode_1 1 rfl rfl)
theorem dJ15_hashCode_28 : decode cJ15_hashCode 28 = .ok (.goto (-20), 3) := dk_167 255 236 (dk_at dksJ15_hashCode_1 4 rfl rfl)
theorem dJ15_hashCode_31 : decode cJ15_hashCode 31 = .ok (.iload_n 0, 1) := dk_26 (dk_at dksJ15_hashCode_1 7 rfl rfl)
theorem dJ15_hashCode_32 : decode cJ15_hashCode 32 = .ok (.ireturn, 1) := dk_172 (dk_at dksJ15_hashCode_1 8 rfl rfl)
abbrev cJ15_hashCode_2 : ByteArray := prog_73_method_6_code
def yJ15_hashCode_2 : MethodName := ⟨RJ15, "hashCode", "(I[BII)I"⟩
def dkwJ15_hashCode_2_1 : List UInt8 := [59, 132, 5, 1, 167, 255, 236, 26, 172]
abbrev dktJ15_hashCode_2_1 : List UInt8 := dkwJ15_hashCode_2_1 ++ []
def dkwJ15_hashCode_2_0 : List UInt8 := [28, 29, 96, 54, 4, 28, 54, 5, 21, 5, 21, 4, 162, 0, 19, 16, 31, 26, 104, 43, 21, 5, 51, 96]
abbrev dktJ15_hashCode_2_0 : List UInt8 := dkwJ15_hashCode_2_0 ++ dktJ15_hashCode_2_1
theorem dksJ15_hashCode_2_0 : cJ15_hashCode_2.data.toList.drop 0 = dktJ15_hashCode_2_0 := by decide +kernel
theorem dksJ15_hashCode_2_1 : cJ15_hashCode_2.data.toList.drop 24 = dktJ15_hashCode_2_1 := dk_seg dksJ15_hashCode_2_0 24 rfl rfl
theorem dJ15_hashCode_2_0 : decode cJ15_hashCode_2 0 = .ok (.iload_n 2, 1) := dk_28 (dk_at dksJ15_hashCode_2_0 0 rfl rfl)
theorem dJ15_hashCode_2_1 : decode cJ15_hashCode_2 1 = .ok (.iload_n 3, 1) := dk_29 (dk_at dksJ15_hashCode_2_0 1 rfl rfl)
theorem dJ15_hashCode_2_2 : decode cJ15_hashCode_2 2 = .ok (.iadd, 1) := dk_96 (dk_at dksJ15_hashCode_2_0 2 rfl rfl)
theorem dJ15_hashCode_2_3 : decode cJ15_hashCode_2 3 = .ok (.istore 4, 2) := dk_54 4 (dk_at dksJ15_hashCode_2_0 3 rfl rfl)
theorem dJ15_hashCode_2_5 : decode cJ15_hashCode_2 5 = .ok (.iload_n 2, 1) := dk_28 (dk_at dksJ15_hashCode_2_0 5 rfl rfl)
theorem dJ15_hashCode_2_6 : decode cJ15_hashCode_2 6 = .ok (.istore 5, 2) := dk_54 5 (dk_at dksJ15_hashCode_2_0 6 rfl rfl)
theorem dJ15_hashCode_2_8 : decode cJ15_hashCode_2 8 = .ok (.iload 5, 2) := dk_21 5 (dk_at dksJ15_hashCode_2_0 8 rfl rfl)
theorem dJ15_hashCode_2_10 : decode cJ15_hashCode_2 10 = .ok (.iload 4, 2) := dk_21 4 (dk_at dksJ15_hashCode_2_0 10 rfl rfl)
theorem dJ15_hashCode_2_12 : decode cJ15_hashCode_2 12 = .ok (.if_icmp .ge 19, 3) := dk_162 0 19 (dk_at dksJ15_hashCode_2_0 12 rfl rfl)
theorem dJ15_hashCode_2_15 : decode cJ15_hashCode_2 15 = .ok (.bipush 31, 2) := dk_16 31 (dk_at dksJ15_hashCode_2_0 15 rfl rfl)
theorem dJ15_hashCode_2_17 : decode cJ15_hashCode_2 17 = .ok (.iload_n 0, 1) := dk_26 (dk_at dksJ15_hashCode_2_0 17 rfl rfl)
theorem dJ15_hashCode_2_18 : decode cJ15_hashCode_2 18 = .ok (.imul, 1) := dk_104 (dk_at dksJ15_hashCode_2_0 18 rfl rfl)
theorem dJ15_hashCode_2_19 : decode cJ15_hashCode_2 19 = .ok (.aload_n 1, 1) := dk_43 (dk_at dksJ15_hashCode_2_0 19 rfl rfl)
theorem dJ15_hashCode_2_20 : decode cJ15_hashCode_2 20 = .ok (.iload 5, 2) := dk_21 5 (dk_at dksJ15_hashCode_2_0 20 rfl rfl)
theorem dJ15_hashCode_2_22 : decode cJ15_hashCode_2 22 = .ok (.baload, 1) := dk_51 (dk_at dksJ15_hashCode_2_0 22 rfl rfl)
theorem dJ15_hashCode_2_23 : decode cJ15_hashCode_2 23 = .ok (.iadd, 1) := dk_96 (dk_at dksJ15_hashCode_2_0 23 rfl rfl)
theorem dJ15_hashCode_2_24 : decode cJ15_hashCode_2 24 = .ok (.istore_n 0, 1) := dk_59 (dk_at dksJ15_hashCode_2_1 0 rfl rfl)
theorem dJ15_hashCode_2_25 : decode cJ15_hashCode_2 25 = .ok (.iinc 5 1, 3) := dk_132 5 1 (dk_at dksJ15_hashCode_2_1 1 rfl rfl)
theorem dJ15_hashCode_2_28 : decode cJ15_hashCode_2 28 = .ok (.goto (-20), 3) := dk_167 255 236 (dk_at dksJ15_hashCode_2_1 4 rfl rfl)
theorem dJ15_hashCode_2_31 : decode cJ15_hashCode_2 31 = .ok (.iload_n 0, 1) := dk_26 (dk_at dksJ15_hashCode_2_1 7 rfl rfl)
theorem dJ15_hashCode_2_32 : decode cJ15_hashCode_2 32 = .ok (.ireturn, 1) := dk_172 (dk_at dksJ15_hashCode_2_1 8 rfl rfl)
abbrev cJ15_hashCode_3 : ByteArray := prog_73_method_8_code
def yJ15_hashCode_3 : MethodName := ⟨RJ15, "hashCode", "(I[SII)I"⟩
def dkwJ15_hashCode_3_1 : List UInt8 := [59, 132, 5, 1, 167, 255, 236, 26, 172]
abbrev dktJ15_hashCode_3_1 : List UInt8 := dkwJ15_hashCode_3_1 ++ []
def dkwJ15_hashCode_3_0 : List UInt8 := [28, 29, 96, 54, 4, 28, 54, 5, 21, 5, 21, 4, 162, 0, 19, 16, 31, 26, 104, 43, 21, 5, 53, 96]
abbrev dktJ15_hashCode_3_0 : List UInt8 := dkwJ15_hashCode_3_0 ++ dktJ15_hashCode_3_1
theorem dksJ15_hashCode_3_0 : cJ15_hashCode_3.data.toList.drop 0 = dktJ15_hashCode_3_0 := by decide +kernel
theorem dksJ15_hashCode_3_1 : cJ15_hashCode_3.data.toList.drop 24 = dktJ15_hashCode_3_1 := dk_seg dksJ15_hashCode_3_0 24 rfl rfl
theorem dJ15_hashCode_3_0 : decode cJ15_hashCode_3 0 = .ok (.iload_n 2, 1) := dk_28 (dk_at dksJ15_hashCode_3_0 0 rfl rfl)
theorem dJ15_hashCode_3_1 : decode cJ15_hashCode_3 1 = .ok (.iload_n 3, 1) := dk_29 (dk_at dksJ15_hashCode_3_0 1 rfl rfl)
theorem dJ15_hashCode_3_2 : decode cJ15_hashCode_3 2 = .ok (.iadd, 1) := dk_96 (dk_at dksJ15_hashCode_3_0 2 rfl rfl)
theorem dJ15_hashCode_3_3 : decode cJ15_hashCode_3 3 = .ok (.istore 4, 2) := dk_54 4 (dk_at dksJ15_hashCode_3_0 3 rfl rfl)
theorem dJ15_hashCode_3_5 : decode cJ15_hashCode_3 5 = .ok (.iload_n 2, 1) := dk_28 (dk_at dksJ15_hashCode_3_0 5 rfl rfl)
theorem dJ15_hashCode_3_6 : decode cJ15_hashCode_3 6 = .ok (.istore 5, 2) := dk_54 5 (dk_at dksJ15_hashCode_3_0 6 rfl rfl)
theorem dJ15_hashCode_3_8 : decode cJ15_hashCode_3 8 = .ok (.iload 5, 2) := dk_21 5 (dk_at dksJ15_hashCode_3_0 8 rfl rfl)
theorem dJ15_hashCode_3_10 : decode cJ15_hashCode_3 10 = .ok (.iload 4, 2) := dk_21 4 (dk_at dksJ15_hashCode_3_0 10 rfl rfl)
theorem dJ15_hashCode_3_12 : decode cJ15_hashCode_3 12 = .ok (.if_icmp .ge 19, 3) := dk_162 0 19 (dk_at dksJ15_hashCode_3_0 12 rfl rfl)
theorem dJ15_hashCode_3_15 : decode cJ15_hashCode_3 15 = .ok (.bipush 31, 2) := dk_16 31 (dk_at dksJ15_hashCode_3_0 15 rfl rfl)
theorem dJ15_hashCode_3_17 : decode cJ15_hashCode_3 17 = .ok (.iload_n 0, 1) := dk_26 (dk_at dksJ15_hashCode_3_0 17 rfl rfl)
theorem dJ15_hashCode_3_18 : decode cJ15_hashCode_3 18 = .ok (.imul, 1) := dk_104 (dk_at dksJ15_hashCode_3_0 18 rfl rfl)
theorem dJ15_hashCode_3_19 : decode cJ15_hashCode_3 19 = .ok (.aload_n 1, 1) := dk_43 (dk_at dksJ15_hashCode_3_0 19 rfl rfl)
theorem dJ15_hashCode_3_20 : decode cJ15_hashCode_3 20 = .ok (.iload 5, 2) := dk_21 5 (dk_at dksJ15_hashCode_3_0 20 rfl rfl)
theorem dJ15_hashCode_3_22 : decode cJ15_hashCode_3 22 = .ok (.saload, 1) := dk_53 (dk_at dksJ15_hashCode_3_0 22 rfl rfl)
theorem dJ15_hashCode_3_23 : decode cJ15_hashCode_3 23 = .ok (.iadd, 1) := dk_96 (dk_at dksJ15_hashCode_3_0 23 rfl rfl)
theorem dJ15_hashCode_3_24 : decode cJ15_hashCode_3 24 = .ok (.istore_n 0, 1) := dk_59 (dk_at dksJ15_hashCode_3_1 0 rfl rfl)
theorem dJ15_hashCode_3_25 : decode cJ15_hashCode_3 25 = .ok (.iinc 5 1, 3) := dk_132 5 1 (dk_at dksJ15_hashCode_3_1 1 rfl rfl)
theorem dJ15_hashCode_3_28 : decode cJ15_hashCode_3 28 = .ok (.goto (-20), 3) := dk_167 255 236 (dk_at dksJ15_hashCode_3_1 4 rfl rfl)
theorem dJ15_hashCode_3_31 : decode cJ15_hashCode_3 31 = .ok (.iload_n 0, 1) := dk_26 (dk_at dksJ15_hashCode_3_1 7 rfl rfl)
theorem dJ15_hashCode_3_32 : decode cJ15_hashCode_3 32 = .ok (.ireturn, 1) := dk_172 (dk_at dksJ15_hashCode_3_1 8 rfl rfl)
abbrev cJ15_hashCode_4 : ByteArray := prog_73_method_9_code
def yJ15_hashCode_4 : MethodName := ⟨RJ15, "hashCode", "(I[III)I"⟩
def dkwJ15_hashCode_4_1 : List UInt8 := [59, 132, 5, 1, 167, 255, 236, 26, 172]
abbrev dktJ15_hashCode_4_1 : List UInt8 := dkwJ15_hashCode_4_1 ++ []
def dkwJ15_hashCode_4_0 : List UInt8 := [28, 29, 96, 54, 4, 28, 54, 5, 21, 5, 21, 4, 162, 0, 19, 16, 31, 26, 104, 43, 21, 5, 46, 96]
abbrev dktJ15_hashCode_4_0 : List UInt8 := dkwJ15_hashCode_4_0 ++ dktJ15_hashCode_4_1
theorem dksJ15_hashCode_4_0 : cJ15_hashCode_4.data.toList.drop 0 = dktJ15_hashCode_4_0 := by decide +kernel
theorem dksJ15_hashCode_4_1 : cJ15_hashCode_4.data.toList.drop 24 = dktJ15_hashCode_4_1 := dk_seg dksJ15_hashCode_4_0 24 rfl rfl
theorem dJ15_hashCode_4_0 : decode cJ15_hashCode_4 0 = .ok (.iload_n 2, 1) := dk_28 (dk_at dksJ15_hashCode_4_0 0 rfl rfl)
theorem dJ15_hashCode_4_1 : decode cJ15_hashCode_4 1 = .ok (.iload_n 3, 1) := dk_29 (dk_at dksJ15_hashCode_4_0 1 rfl rfl)
theorem dJ15_hashCode_4_2 : decode cJ15_hashCode_4 2 = .ok (.iadd, 1) := dk_96 (dk_at dksJ15_hashCode_4_0 2 rfl rfl)
theorem dJ15_hashCode_4_3 : decode cJ15_hashCode_4 3 = .ok (.istore 4, 2) := dk_54 4 (dk_at dksJ15_hashCode_4_0 3 rfl rfl)
theorem dJ15_hashCode_4_5 : decode cJ15_hashCode_4 5 = .ok (.iload_n 2, 1) := dk_28 (dk_at dksJ15_hashCode_4_0 5 rfl rfl)
theorem dJ15_hashCode_4_6 : decode cJ15_hashCode_4 6 = .ok (.istore 5, 2) := dk_54 5 (dk_at dksJ15_hashCode_4_0 6 rfl rfl)
theorem dJ15_hashCode_4_8 : decode cJ15_hashCode_4 8 = .ok (.iload 5, 2) := dk_21 5 (dk_at dksJ15_hashCode_4_0 8 rfl rfl)
theorem dJ15_hashCode_4_10 : decode cJ15_hashCode_4 10 = .ok (.iload 4, 2) := dk_21 4 (dk_at dksJ15_hashCode_4_0 10 rfl rfl)
theorem dJ15_hashCode_4_12 : decode cJ15_hashCode_4 12 = .ok (.if_icmp .ge 19, 3) := dk_162 0 19 (dk_at dksJ15_hashCode_4_0 12 rfl rfl)
theorem dJ15_hashCode_4_15 : decode cJ15_hashCode_4 15 = .ok (.bipush 31, 2) := dk_16 31 (dk_at dksJ15_hashCode_4_0 15 rfl rfl)
theorem dJ15_hashCode_4_17 : decode cJ15_hashCode_4 17 = .ok (.iload_n 0, 1) := dk_26 (dk_at dksJ15_hashCode_4_0 17 rfl rfl)
theorem dJ15_hashCode_4_18 : decode cJ15_hashCode_4 18 = .ok (.imul, 1) := dk_104 (dk_at dksJ15_hashCode_4_0 18 rfl rfl)
theorem dJ15_hashCode_4_19 : decode cJ15_hashCode_4 19 = .ok (.aload_n 1, 1) := dk_43 (dk_at dksJ15_hashCode_4_0 19 rfl rfl)
theorem dJ15_hashCode_4_20 : decode cJ15_hashCode_4 20 = .ok (.iload 5, 2) := dk_21 5 (dk_at dksJ15_hashCode_4_0 20 rfl rfl)
theorem dJ15_hashCode_4_22 : decode cJ15_hashCode_4 22 = .ok (.iaload, 1) := dk_46 (dk_at dksJ15_hashCode_4_0 22 rfl rfl)
theorem dJ15_hashCode_4_23 : decode cJ15_hashCode_4 23 = .ok (.iadd, 1) := dk_96 (dk_at dksJ15_hashCode_4_0 23 rfl rfl)
theorem dJ15_hashCode_4_24 : decode cJ15_hashCode_4 24 = .ok (.istore_n 0, 1) := dk_59 (dk_at dksJ15_hashCode_4_1 0 rfl rfl)
theorem dJ15_hashCode_4_25 : decode cJ15_hashCode_4 25 = .ok (.iinc 5 1, 3) := dk_132 5 1 (dk_at dksJ15_hashCode_4_1 1 rfl rfl)
theorem dJ15_hashCode_4_28 : decode cJ15_hashCode_4 28 = .ok (.goto (-20), 3) := dk_167 255 236 (dk_at dksJ15_hashCode_4_1 4 rfl rfl)
theorem dJ15_hashCode_4_31 : decode cJ15_hashCode_4 31 = .ok (.iload_n 0, 1) := dk_26 (dk_at dksJ15_hashCode_4_1 7 rfl rfl)
theorem dJ15_hashCode_4_32 : decode cJ15_hashCode_4 32 = .ok (.ireturn, 1) := dk_172 (dk_at dksJ15_hashCode_4_1 8 rfl rfl)
abbrev cJ15_mismatch : ByteArray := prog_73_method_13_code
def yJ15_mismatch : MethodName := ⟨RJ15, "mismatch", "([B[BI)I"⟩
def dkwJ15_mismatch_3 : List UInt8 := [172]
abbrev dktJ15_mismatch_3 : List UInt8 := dkwJ15_mismatch_3 ++ []
def dkwJ15_mismatch_2 : List UInt8 := [62, 29, 28, 162, 0, 20, 42, 29, 51, 43, 29, 51, 159, 0, 5, 29, 172, 132, 3, 1, 167, 255, 237, 2]
abbrev dktJ15_mismatch_2 : List UInt8 := dkwJ15_mismatch_2 ++ dktJ15_mismatch_3
def dkwJ15_mismatch_1 : List UInt8 := [43, 178, 0, 126, 133, 28, 178, 0, 129, 184, 0, 122, 62, 29, 155, 0, 5, 29, 172, 28, 29, 2, 130, 100]
abbrev dktJ15_mismatch_1 : List UInt8 := dkwJ15_mismatch_1 ++ dktJ15_mismatch_2
def dkwJ15_mismatch_0 : List UInt8 := [3, 62, 28, 16, 7, 164, 0, 44, 42, 3, 51, 43, 3, 51, 159, 0, 5, 3, 172, 42, 178, 0, 126, 133]
abbrev dktJ15_mismatch_0 : List UInt8 := dkwJ15_mismatch_0 ++ dktJ15_mismatch_1
theorem dksJ15_mismatch_0 : cJ15_mismatch.data.toList.drop 0 = dktJ15_mismatch_0 := by decide +kernel
theorem dksJ15_mismatch_1 : cJ15_mismatch.data.toList.drop 24 = dktJ15_mismatch_1 := dk_seg dksJ15_mismatch_0 24 rfl rfl
theorem dksJ15_mismatch_2 : cJ15_mismatch.data.toList.drop 48 = dktJ15_mismatch_2 := dk_seg dksJ15_mismatch_1 24 rfl rfl
theorem dksJ15_mismatch_3 : cJ15_mismatch.data.toList.drop 72 = dktJ15_mismatch_3 := dk_seg dksJ15_mismatch_2 24 rfl rfl
theorem dJ15_mismatch_0 : decode cJ15_mismatch 0 = .ok (.iconst 0, 1) := dk_3 (dk_at dksJ15_mismatch_0 0 rfl rfl)
theorem dJ15_mismatch_1 : decode cJ15_mismatch 1 = .ok (.istore_n 3, 1) := dk_62 (dk_at dksJ15_mismatch_0 1 rfl rfl)
theorem dJ15_mismatch_2 : decode cJ15_mismatch 2 = .ok (.iload_n 2, 1) := dk_28 (dk_at dksJ15_mismatch_0 2 rfl rfl)
theorem dJ15_mismatch_3 : decode cJ15_mismatch 3 = .ok (.bipush 7, 2) := dk_16 7 (dk_at dksJ15_mismatch_0 3 rfl rfl)
theorem dJ15_mismatch_5 : decode cJ15_mismatch 5 = .ok (.if_icmp .le 44, 3) := dk_164 0 44 (dk_at dksJ15_mismatch_0 5 rfl rfl)
theorem dJ15_mismatch_8 : decode cJ15_mismatch 8 = .ok (.aload_n 0, 1) := dk_42 (dk_at dksJ15_mismatch_0 8 rfl rfl)
theorem dJ15_mismatch_9 : decode cJ15_mismatch 9 = .ok (.iconst 0, 1) := dk_3 (dk_at dksJ15_mismatch_0 9 rfl rfl)
theorem dJ15_mismatch_10 : decode cJ15_mismatch 10 = .ok (.baload, 1) := dk_51 (dk_at dksJ15_mismatch_0 10 rfl rfl)
theorem dJ15_mismatch_11 : decode cJ15_mismatch 11 = .ok (.aload_n 1, 1) := dk_43 (dk_at dksJ15_mismatch_0 11 rfl rfl)
theorem dJ15_mismatch_12 : decode cJ15_mismatch 12 = .ok (.iconst 0, 1) := dk_3 (dk_at dksJ15_mismatch_0 12 rfl rfl)
theorem dJ15_mismatch_13 : decode cJ15_mismatch 13 = .ok (.baload, 1) := dk_51 (dk_at dksJ15_mismatch_0 13 rfl rfl)
theorem dJ15_mismatch_14 : decode cJ15_mismatch 14 = .ok (.if_icmp .eq 5, 3) := dk_159 0 5 (dk_at dksJ15_mismatch_0 14 rfl rfl)
theorem dJ15_mismatch_17 : decode cJ15_mismatch 17 = .ok (.iconst 0, 1) := dk_3 (dk_at dksJ15_mismatch_0 17 rfl rfl)
theorem dJ15_mismatch_18 : decode cJ15_mismatch 18 = .ok (.ireturn, 1) := dk_172 (dk_at dksJ15_mismatch_0 18 rfl rfl)
theorem dJ15_mismatch_19 : decode cJ15_mismatch 19 = .ok (.aload_n 0, 1) := dk_42 (dk_at dksJ15_mismatch_0 19 rfl rfl)
theorem dJ15_mismatch_20 : decode cJ15_mismatch 20 = .ok (.getstatic 126, 3) := dk_178 0 126 (dk_at dksJ15_mismatch_0 20 rfl rfl)
theorem dJ15_mismatch_23 : decode cJ15_mismatch 23 = .ok (.i2l, 1) := dk_133 (dk_at dksJ15_mismatch_0 23 rfl rfl)
theorem dJ15_mismatch_24 : decode cJ15_mismatch 24 = .ok (.aload_n 1, 1) := dk_43 (dk_at dksJ15_mismatch_1 0 rfl rfl)
theorem dJ15_mismatch_25 : decode cJ15_mismatch 25 = .ok (.getstatic 126, 3) := dk_178 0 126 (dk_at dksJ15_mismatch_1 1 rfl rfl)
theorem dJ15_mismatch_28 : decode cJ15_mismatch 28 = .ok (.i2l, 1) := dk_133 (dk_at dksJ15_mismatch_1 4 rfl rfl)
theorem dJ15_mismatch_29 : decode cJ15_mismatch 29 = .ok (.iload_n 2, 1) := dk_28 (dk_at dksJ15_mismatch_1 5 rfl rfl)
theorem dJ15_mismatch_30 : decode cJ15_mismatch 30 = .ok (.getstatic 129, 3) := dk_178 0 129 (dk_at dksJ15_mismatch_1 6 rfl rfl)
theorem dJ15_mismatch_33 : decode cJ15_mismatch 33 = .ok (.invokestatic 122, 3) := dk_184 0 122 (dk_at dksJ15_mismatch_1 9 rfl rfl)
theorem dJ15_mismatch_36 : decode cJ15_mismatch 36 = .ok (.istore_n 3, 1) := dk_62 (dk_at dksJ15_mismatch_1 12 rfl rfl)
theorem dJ15_mismatch_37 : decode cJ15_mismatch 37 = .ok (.iload_n 3, 1) := dk_29 (dk_at dksJ15_mismatch_1 13 rfl rfl)
theorem dJ15_mismatch_38 : decode cJ15_mismatch 38 = .ok (.ifCond .lt 5, 3) := dk_155 0 5 (dk_at dksJ15_mismatch_1 14 rfl rfl)
theorem dJ15_mismatch_41 : decode cJ15_mismatch 41 = .ok (.iload_n 3, 1) := dk_29 (dk_at dksJ15_mismatch_1 17 rfl rfl)
theorem dJ15_mismatch_42 : decode cJ15_mismatch 42 = .ok (.ireturn, 1) := dk_172 (dk_at dksJ15_mismatch_1 18 rfl rfl)
theorem dJ15_mismatch_43 : decode cJ15_mismatch 43 = .ok (.iload_n 2, 1) := dk_28 (dk_at dksJ15_mismatch_1 19 rfl rfl)
theorem dJ15_mismatch_44 : decode cJ15_mismatch 44 = .ok (.iload_n 3, 1) := dk_29 (dk_at dksJ15_mismatch_1 20 rfl rfl)
theorem dJ15_mismatch_45 : decode cJ15_mismatch 45 = .ok (.iconst (-1), 1) := dk_2 (dk_at dksJ15_mismatch_1 21 rfl rfl)
theorem dJ15_mismatch_46 : decode cJ15_mismatch 46 = .ok (.ixor, 1) := dk_130 (dk_at dksJ15_mismatch_1 22 rfl rfl)
theorem dJ15_mismatch_47 : decode cJ15_mismatch 47 = .ok (.isub, 1) := dk_100 (dk_at dksJ15_mismatch_1 23 rfl rfl)
theorem dJ15_mismatch_48 : decode cJ15_mismatch 48 = .ok (.istore_n 3, 1) := dk_62 (dk_at dksJ15_mismatch_2 0 rfl rfl)
theorem dJ15_mismatch_49 : decode cJ15_mismatch 49 = .ok (.iload_n 3, 1) := dk_29 (dk_at dksJ15_mismatch_2 1 rfl rfl)
theorem dJ15_mismatch_50 : decode cJ15_mismatch 50 = .ok (.iload_n 2, 1) := dk_28 (dk_at dksJ15_mismatch_2 2 rfl rfl)
theorem dJ15_mismatch_51 : decode cJ15_mismatch 51 = .ok (.if_icmp .ge 20, 3) := dk_162 0 20 (dk_at dksJ15_mismatch_2 3 rfl rfl)
theorem dJ15_mismatch_54 : decode cJ15_mismatch 54 = .ok (.aload_n 0, 1) := dk_42 (dk_at dksJ15_mismatch_2 6 rfl rfl)
theorem dJ15_mismatch_55 : decode cJ15_mismatch 55 = .ok (.iload_n 3, 1) := dk_29 (dk_at dksJ15_mismatch_2 7 rfl rfl)
theorem dJ15_mismatch_56 : decode cJ15_mismatch 56 = .ok (.baload, 1) := dk_51 (dk_at dksJ15_mismatch_2 8 rfl rfl)
theorem dJ15_mismatch_57 : decode cJ15_mismatch 57 = .ok (.aload_n 1, 1) := dk_43 (dk_at dksJ15_mismatch_2 9 rfl rfl)
theorem dJ15_mismatch_58 : decode cJ15_mismatch 58 = .ok (.iload_n 3, 1) := dk_29 (dk_at dksJ15_mismatch_2 10 rfl rfl)
theorem dJ15_mismatch_59 : decode cJ15_mismatch 59 = .ok (.baload, 1) := dk_51 (dk_at dksJ15_mismatch_2 11 rfl rfl)
theorem dJ15_mismatch_60 : decode cJ15_mismatch 60 = .ok (.if_icmp .eq 5, 3) := dk_159 0 5 (dk_at dksJ15_mismatch_2 12 rfl rfl)
theorem dJ15_mismatch_63 : decode cJ15_mismatch 63 = .ok (.iload_n 3, 1) := dk_29 (dk_at dksJ15_mismatch_2 15 rfl rfl)
theorem dJ15_mismatch_64 : decode cJ15_mismatch 64 = .ok (.ireturn, 1) := dk_172 (dk_at dksJ15_mismatch_2 16 rfl rfl)
theorem dJ15_mismatch_65 : decode cJ15_mismatch 65 = .ok (.iinc 3 1, 3) := dk_132 3 1 (dk_at dksJ15_mismatch_2 17 rfl rfl)
theorem dJ15_mismatch_68 : decode cJ15_mismatch 68 = .ok (.goto (-19), 3) := dk_167 255 237 (dk_at dksJ15_mismatch_2 20 rfl rfl)
theorem dJ15_mismatch_71 : decode cJ15_mismatch 71 = .ok (.iconst (-1), 1) := dk_2 (dk_at dksJ15_mismatch_2 23 rfl rfl)
theorem dJ15_mismatch_72 : decode cJ15_mismatch 72 = .ok (.ireturn, 1) := dk_172 (dk_at dksJ15_mismatch_3 0 rfl rfl)
abbrev cJ15_vectorizedMismatch : ByteArray := prog_73_method_3_code
def yJ15_vectorizedMismatch : MethodName := ⟨RJ15, "vectorizedMismatch", "(Ljava/lang/Object;JLjava/lang/Object;JII)I"⟩
def dkwJ15_vectorizedMismatch_11 : List UInt8 := [54, 10, 21, 10, 2, 130, 172, 21, 10, 2, 130, 172]
abbrev dktJ15_vectorizedMismatch_11 : List UInt8 := dkwJ15_vectorizedMismatch_11 ++ []
def dkwJ15_vectorizedMismatch_10 : List UInt8 := [178, 0, 46, 21, 7, 96, 122, 54, 17, 21, 9, 21, 8, 120, 21, 17, 96, 172, 21, 10, 21, 11, 100]
abbrev dktJ15_vectorizedMismatch_10 : List UInt8 := dkwJ15_vectorizedMismatch_10 ++ dktJ15_vectorizedMismatch_11
def dkwJ15_vectorizedMismatch_9 : List UInt8 := [153, 0, 18, 21, 16, 184, 0, 58, 178, 0, 46, 21, 7, 96, 122, 167, 0, 15, 21, 16, 184, 0, 11]
abbrev dktJ15_vectorizedMismatch_9 : List UInt8 := dkwJ15_vectorizedMismatch_9 ++ dktJ15_vectorizedMismatch_10
def dkwJ15_vectorizedMismatch_8 : List UInt8 := [182, 0, 54, 54, 15, 21, 14, 21, 15, 159, 0, 54, 21, 14, 21, 15, 130, 54, 16, 178, 0, 36]
abbrev dktJ15_vectorizedMismatch_8 : List UInt8 := dkwJ15_vectorizedMismatch_8 ++ dktJ15_vectorizedMismatch_9
def dkwJ15_vectorizedMismatch_7 : List UInt8 := [55, 12, 178, 0, 26, 42, 31, 22, 12, 97, 182, 0, 54, 54, 14, 178, 0, 26, 45, 22, 4, 22, 12, 97]
abbrev dktJ15_vectorizedMismatch_7 : List UInt8 := dkwJ15_vectorizedMismatch_7 ++ dktJ15_vectorizedMismatch_8
def dkwJ15_vectorizedMismatch_6 : List UInt8 := [4, 178, 0, 51, 21, 7, 100, 120, 54, 11, 21, 10, 21, 11, 161, 0, 104, 21, 9, 133, 178, 0, 20, 121]
abbrev dktJ15_vectorizedMismatch_6 : List UInt8 := dkwJ15_vectorizedMismatch_6 ++ dktJ15_vectorizedMismatch_7
def dkwJ15_vectorizedMismatch_5 : List UInt8 := [132, 9, 1, 167, 255, 148, 21, 6, 21, 9, 21, 8, 120, 100, 54, 10, 21, 7, 178, 0, 51, 162, 0, 126]
abbrev dktJ15_vectorizedMismatch_5 : List UInt8 := dkwJ15_vectorizedMismatch_5 ++ dktJ15_vectorizedMismatch_6
def dkwJ15_vectorizedMismatch_4 : List UInt8 := [22, 16, 184, 0, 49, 178, 0, 46, 21, 7, 96, 122, 54, 18, 21, 9, 21, 8, 120, 21, 18, 96, 172]
abbrev dktJ15_vectorizedMismatch_4 : List UInt8 := dkwJ15_vectorizedMismatch_4 ++ dktJ15_vectorizedMismatch_5
def dkwJ15_vectorizedMismatch_3 : List UInt8 := [55, 16, 178, 0, 36, 153, 0, 18, 22, 16, 184, 0, 40, 178, 0, 46, 21, 7, 96, 122, 167, 0, 15]
abbrev dktJ15_vectorizedMismatch_3 : List UInt8 := dkwJ15_vectorizedMismatch_3 ++ dktJ15_vectorizedMismatch_4
def dkwJ15_vectorizedMismatch_2 : List UInt8 := [22, 4, 22, 10, 97, 182, 0, 30, 55, 14, 22, 12, 22, 14, 148, 153, 0, 54, 22, 12, 22, 14, 131]
abbrev dktJ15_vectorizedMismatch_2 : List UInt8 := dkwJ15_vectorizedMismatch_2 ++ dktJ15_vectorizedMismatch_3
def dkwJ15_vectorizedMismatch_1 : List UInt8 := [178, 0, 20, 121, 55, 10, 178, 0, 26, 42, 31, 22, 10, 97, 182, 0, 30, 55, 12, 178, 0, 26, 45]
abbrev dktJ15_vectorizedMismatch_1 : List UInt8 := dkwJ15_vectorizedMismatch_1 ++ dktJ15_vectorizedMismatch_2
def dkwJ15_vectorizedMismatch_0 : List UInt8 := [178, 0, 20, 21, 7, 100, 54, 8, 3, 54, 9, 21, 9, 21, 6, 21, 8, 122, 162, 0, 104, 21, 9, 133]
abbrev dktJ15_vectorizedMismatch_0 : List UInt8 := dkwJ15_vectorizedMismatch_0 ++ dktJ15_vectorizedMismatch_1
theorem dksJ15_vectorizedMismatch_0 : cJ15_vectorizedMismatch.data.toList.drop 0 = dktJ15_vectorizedMismatch_0 := by decide +kernel
theorem dksJ15_vectorizedMismatch_1 : cJ15_vectorizedMismatch.data.toList.drop 24 = dktJ15_vectorizedMismatch_1 := dk_seg dksJ15_vectorizedMismatch_0 24 rfl rfl
theorem dksJ15_vectorizedMismatch_2 : cJ15_vectorizedMismatch.data.toList.drop 47 = dktJ15_vectorizedMismatch_2 := dk_seg dksJ15_vectorizedMismatch_1 23 rfl rfl
theorem dksJ15_vectorizedMismatch_3 : cJ15_vectorizedMismatch.data.toList.drop 70 = dktJ15_vectorizedMismatch_3 := dk_seg dksJ15_vectorizedMismatch_2 23 rfl rfl
theorem dksJ15_vectorizedMismatch_4 : cJ15_vectorizedMismatch.data.toList.drop 93 = dktJ15_vectorizedMismatch_4 := dk_seg dksJ15_vectorizedMismatch_3 23 rfl rfl
theorem dksJ15_vectorizedMismatch_5 : cJ15_vectorizedMismatch.data.toList.drop 116 = dktJ15_vectorizedMismatch_5 := dk_seg dksJ15_vectorizedMismatch_4 23 rfl rfl
theorem dksJ15_vectorizedMismatch_6 : cJ15_vectorizedMismatch.data.toList.drop 140 = dktJ15_vectorizedMismatch_6 := dk_seg dksJ15_vectorizedMismatch_5 24 rfl rfl
theorem dksJ15_vectorizedMismatch_7 : cJ15_vectorizedMismatch.data.toList.drop 164 = dktJ15_vectorizedMismatch_7 := dk_seg dksJ15_vectorizedMismatch_6 24 rfl rfl
theorem dksJ15_vectorizedMismatch_8 : cJ15_vectorizedMismatch.data.toList.drop 188 = dktJ15_vectorizedMismatch_8 := dk_seg dksJ15_vectorizedMismatch_7 24 rfl rfl
theorem dksJ15_vectorizedMismatch_9 : cJ15_vectorizedMismatch.data.toList.drop 210 = dktJ15_vectorizedMismatch_9 := dk_seg dksJ15_vectorizedMismatch_8 22 rfl rfl
theorem dksJ15_vectorizedMismatch_10 : cJ15_vectorizedMismatch.data.toList.drop 233 = dktJ15_vectorizedMismatch_10 := dk_seg dksJ15_vectorizedMismatch_9 23 rfl rfl
theorem dksJ15_vectorizedMismatch_11 : cJ15_vectorizedMismatch.data.toList.drop 256 = dktJ15_vectorizedMismatch_11 := dk_seg dksJ15_vectorizedMismatch_10 23 rfl rfl
theorem dJ15_vectorizedMismatch_0 : decode cJ15_vectorizedMismatch 0 = .ok (.getstatic 20, 3) := dk_178 0 20 (dk_at dksJ15_vectorizedMismatch_0 0 rfl rfl)
theorem dJ15_vectorizedMismatch_3 : decode cJ15_vectorizedMismatch 3 = .ok (.iload 7, 2) := dk_21 7 (dk_at dksJ15_vectorizedMismatch_0 3 rfl rfl)
theorem dJ15_vectorizedMismatch_5 : decode cJ15_vectorizedMismatch 5 = .ok (.isub, 1) := dk_100 (dk_at dksJ15_vectorizedMismatch_0 5 rfl rfl)
theorem dJ15_vectorizedMismatch_6 : decode cJ15_vectorizedMismatch 6 = .ok (.istore 8, 2) := dk_54 8 (dk_at dksJ15_vectorizedMismatch_0 6 rfl rfl)
theorem dJ15_vectorizedMismatch_8 : decode cJ15_vectorizedMismatch 8 = .ok (.iconst 0, 1) := dk_3 (dk_at dksJ15_vectorizedMismatch_0 8 rfl rfl)
theorem dJ15_vectorizedMismatch_9 : decode cJ15_vectorizedMismatch 9 = .ok (.istore 9, 2) := dk_54 9 (dk_at dksJ15_vectorizedMismatch_0 9 rfl rfl)
theorem dJ15_vectorizedMismatch_11 : decode cJ15_vectorizedMismatch 11 = .ok (.iload 9, 2) := dk_21 9 (dk_at dksJ15_vectorizedMismatch_0 11 rfl rfl)
theorem dJ15_vectorizedMismatch_13 : decode cJ15_vectorizedMismatch 13 = .ok (.iload 6, 2) := dk_21 6 (dk_at dksJ15_vectorizedMismatch_0 13 rfl rfl)
theorem dJ15_vectorizedMismatch_15 : decode cJ15_vectorizedMismatch 15 = .ok (.iload 8, 2) := dk_21 8 (dk_at dksJ15_vectorizedMismatch_0 15 rfl rfl)
theorem dJ15_vectorizedMismatch_17 : decode cJ15_vectorizedMismatch 17 = .ok (.ishr, 1) := dk_122 (dk_at dksJ15_vectorizedMismatch_0 17 rfl rfl)
theorem dJ15_vectorizedMismatch_18 : decode cJ15_vectorizedMismatch 18 = .ok (.if_icmp .ge 104, 3) := dk_162 0 104 (dk_at dksJ15_vectorizedMismatch_0 18 rfl rfl)
theorem dJ15_vectorizedMismatch_21 : decode cJ15_vectorizedMismatch 21 = .ok (.iload 9, 2) := dk_21 9 (dk_at dksJ15_vectorizedMismatch_0 21 rfl rfl)
theorem dJ15_vectorizedMismatch_23 : decode cJ15_vectorizedMismatch 23 = .ok (.i2l, 1) := dk_133 (dk_at dksJ15_vectorizedMismatch_0 23 rfl rfl)
theorem dJ15_vectorizedMismatch_24 : decode cJ15_vectorizedMismatch 24 = .ok (.getstatic 20, 3) := dk_178 0 20 (dk_at dksJ15_vectorizedMismatch_1 0 rfl rfl)
theorem dJ15_vectorizedMismatch_27 : decode cJ15_vectorizedMismatch 27 = .ok (.lshl, 1) := dk_121 (dk_at dksJ15_vectorizedMismatch_1 3 rfl rfl)
theorem dJ15_vectorizedMismatch_28 : decode cJ15_vectorizedMismatch 28 = .ok (.lstore 10, 2) := dk_55 10 (dk_at dksJ15_vectorizedMismatch_1 4 rfl rfl)
theorem dJ15_vectorizedMismatch_30 : decode cJ15_vectorizedMismatch 30 = .ok (.getstatic 26, 3) := dk_178 0 26 (dk_at dksJ15_vectorizedMismatch_1 6 rfl rfl)
theorem dJ15_vectorizedMismatch_33 : decode cJ15_vectorizedMismatch 33 = .ok (.aload_n 0, 1) := dk_42 (dk_at dksJ15_vectorizedMismatch_1 9 rfl rfl)
theorem dJ15_vectorizedMismatch_34 : decode cJ15_vectorizedMismatch 34 = .ok (.lload_n 1, 1) := dk_31 (dk_at dksJ15_vectorizedMismatch_1 10 rfl rfl)
theorem dJ15_vectorizedMismatch_35 : decode cJ15_vectorizedMismatch 35 = .ok (.lload 10, 2) := dk_22 10 (dk_at dksJ15_vectorizedMismatch_1 11 rfl rfl)
theorem dJ15_vectorizedMismatch_37 : decode cJ15_vectorizedMismatch 37 = .ok (.ladd, 1) := dk_97 (dk_at dksJ15_vectorizedMismatch_1 13 rfl rfl)
theorem dJ15_vectorizedMismatch_38 : decode cJ15_vectorizedMismatch 38 = .ok (.invokevirtual 30, 3) := dk_182 0 30 (dk_at dksJ15_vectorizedMismatch_1 14 rfl rfl)
theorem dJ15_vectorizedMismatch_41 : decode cJ15_vectorizedMismatch 41 = .ok (.lstore 12, 2) := dk_55 12 (dk_at dksJ15_vectorizedMismatch_1 17 rfl rfl)
theorem dJ15_vectorizedMismatch_43 : decode cJ15_vectorizedMismatch 43 = .ok (.getstatic 26, 3) := dk_178 0 26 (dk_at dksJ15_vectorizedMismatch_1 19 rfl rfl)
theorem dJ15_vectorizedMismatch_46 : decode cJ15_vectorizedMismatch 46 = .ok (.aload_n 3, 1) := dk_45 (dk_at dksJ15_vectorizedMismatch_1 22 rfl rfl)
theorem dJ15_vectorizedMismatch_47 : decode cJ15_vectorizedMismatch 47 = .ok (.lload 4, 2) := dk_22 4 (dk_at dksJ15_vectorizedMismatch_2 0 rfl rfl)
theorem dJ15_vectorizedMismatch_49 : decode cJ15_vectorizedMismatch 49 = .ok (.lload 10, 2) := dk_22 10 (dk_at dksJ15_vectorizedMismatch_2 2 rfl rfl)
theorem dJ15_vectorizedMismatch_51 : decode cJ15_vectorizedMismatch 51 = .ok (.ladd, 1) := dk_97 (dk_at dksJ15_vectorizedMismatch_2 4 rfl rfl)
theorem dJ15_vectorizedMismatch_52 : decode cJ15_vectorizedMismatch 52 = .ok (.invokevirtual 30, 3) := dk_182 0 30 (dk_at dksJ15_vectorizedMismatch_2 5 rfl rfl)
theorem dJ15_vectorizedMismatch_55 : decode cJ15_vectorizedMismatch 55 = .ok (.lstore 14, 2) := dk_55 14 (dk_at dksJ15_vectorizedMismatch_2 8 rfl rfl)
theorem dJ15_vectorizedMismatch_57 : decode cJ15_vectorizedMismatch 57 = .ok (.lload 12, 2) := dk_22 12 (dk_at dksJ15_vectorizedMismatch_2 10 rfl rfl)
theorem dJ15_vectorizedMismatch_59 : decode cJ15_vectorizedMismatch 59 = .ok (.lload 14, 2) := dk_22 14 (dk_at dksJ15_vectorizedMismatch_2 12 rfl rfl)
theorem dJ15_vectorizedMismatch_61 : decode cJ15_vectorizedMismatch 61 = .ok (.lcmp, 1) := dk_148 (dk_at dksJ15_vectorizedMismatch_2 14 rfl rfl)
theorem dJ15_vectorizedMismatch_62 : decode cJ15_vectorizedMismatch 62 = .ok (.ifCond .eq 54, 3) := dk_153 0 54 (dk_at dksJ15_vectorizedMismatch_2 15 rfl rfl)
theorem dJ15_vectorizedMismatch_65 : decode cJ15_vectorizedMismatch 65 = .ok (.lload 12, 2) := dk_22 12 (dk_at dksJ15_vectorizedMismatch_2 18 rfl rfl)
theorem dJ15_vectorizedMismatch_67 : decode cJ15_vectorizedMismatch 67 = .ok (.lload 14, 2) := dk_22 14 (dk_at dksJ15_vectorizedMismatch_2 20 rfl rfl)
theorem dJ15_vectorizedMismatch_69 : decode cJ15_vectorizedMismatch 69 = .ok (.lxor, 1) := dk_131 (dk_at dksJ15_vectorizedMismatch_2 22 rfl rfl)
theorem dJ15_vectorizedMismatch_70 : decode cJ15_vectorizedMismatch 70 = .ok (.lstore 16, 2) := dk_55 16 (dk_at dksJ15_vectorizedMismatch_3 0 rfl rfl)
theorem dJ15_vectorizedMismatch_72 : decode cJ15_vectorizedMismatch 72 = .ok (.getstatic 36, 3) := dk_178 0 36 (dk_at dksJ15_vectorizedMismatch_3 2 rfl rfl)
theorem dJ15_vectorizedMismatch_75 : decode cJ15_vectorizedMismatch 75 = .ok (.ifCond .eq 18, 3) := dk_153 0 18 (dk_at dksJ15_vectorizedMismatch_3 5 rfl rfl)
theorem dJ15_vectorizedMismatch_78 : decode cJ15_vectorizedMismatch 78 = .ok (.lload 16, 2) := dk_22 16 (dk_at dksJ15_vectorizedMismatch_3 8 rfl rfl)
theorem dJ15_vectorizedMismatch_80 : decode cJ15_vectorizedMismatch 80 = .ok (.invokestatic 40, 3) := dk_184 0 40 (dk_at dksJ15_vectorizedMismatch_3 10 rfl rfl)
theorem dJ15_vectorizedMismatch_83 : decode cJ15_vectorizedMismatch 83 = .ok (.getstatic 46, 3) := dk_178 0 46 (dk_at dksJ15_vectorizedMismatch_3 13 rfl rfl)
theorem dJ15_vectorizedMismatch_86 : decode cJ15_vectorizedMismatch 86 = .ok (.iload 7, 2) := dk_21 7 (dk_at dksJ15_vectorizedMismatch_3 16 rfl rfl)
theorem dJ15_vectorizedMismatch_88 : decode cJ15_vectorizedMismatch 88 = .ok (.iadd, 1) := dk_96 (dk_at dksJ15_vectorizedMismatch_3 18 rfl rfl)
theorem dJ15_vectorizedMismatch_89 : decode cJ15_vectorizedMismatch 89 = .ok (.ishr, 1) := dk_122 (dk_at dksJ15_vectorizedMismatch_3 19 rfl rfl)
theorem dJ15_vectorizedMismatch_90 : decode cJ15_vectorizedMismatch 90 = .ok (.goto 15, 3) := dk_167 0 15 (dk_at dksJ15_vectorizedMismatch_3 20 rfl rfl)
theorem dJ15_vectorizedMismatch_93 : decode cJ15_vectorizedMismatch 93 = .ok (.lload 16, 2) := dk_22 16 (dk_at dksJ15_vectorizedMismatch_4 0 rfl rfl)
theorem dJ15_vectorizedMismatch_95 : decode cJ15_vectorizedMismatch 95 = .ok (.invokestatic 49, 3) := dk_184 0 49 (dk_at dksJ15_vectorizedMismatch_4 2 rfl rfl)
theorem dJ15_vectorizedMismatch_98 : decode cJ15_vectorizedMismatch 98 = .ok (.getstatic 46, 3) := dk_178 0 46 (dk_at dksJ15_vectorizedMismatch_4 5 rfl rfl)
theorem dJ15_vectorizedMismatch_101 : decode cJ15_vectorizedMismatch 101 = .ok (.iload 7, 2) := dk_21 7 (dk_at dksJ15_vectorizedMismatch_4 8 rfl rfl)
theorem dJ15_vectorizedMismatch_103 : decode cJ15_vectorizedMismatch 103 = .ok (.iadd, 1) := dk_96 (dk_at dksJ15_vectorizedMismatch_4 10 rfl rfl)
theorem dJ15_vectorizedMismatch_104 : decode cJ15_vectorizedMismatch 104 = .ok (.ishr, 1) := dk_122 (dk_at dksJ15_vectorizedMismatch_4 11 rfl rfl)
theorem dJ15_vectorizedMismatch_105 : decode cJ15_vectorizedMismatch 105 = .ok (.istore 18, 2) := dk_54 18 (dk_at dksJ15_vectorizedMismatch_4 12 rfl rfl)
theorem dJ15_vectorizedMismatch_107 : decode cJ15_vectorizedMismatch 107 = .ok (.iload 9, 2) := dk_21 9 (dk_at dksJ15_vectorizedMismatch_4 14 rfl rfl)
theorem dJ15_vectorizedMismatch_109 : decode cJ15_vectorizedMismatch 109 = .ok (.iload 8, 2) := dk_21 8 (dk_at dksJ15_vectorizedMismatch_4 16 rfl rfl)
theorem dJ15_vectorizedMismatch_111 : decode cJ15_vectorizedMismatch 111 = .ok (.ishl, 1) := dk_120 (dk_at dksJ15_vectorizedMismatch_4 18 rfl rfl)
theorem dJ15_vectorizedMismatch_112 : decode cJ15_vectorizedMismatch 112 = .ok (.iload 18, 2) := dk_21 18 (dk_at dksJ15_vectorizedMismatch_4 19 rfl rfl)
theorem dJ15_vectorizedMismatch_114 : decode cJ15_vectorizedMismatch 114 = .ok (.iadd, 1) := dk_96 (dk_at dksJ15_vectorizedMismatch_4 21 rfl rfl)
theorem dJ15_vectorizedMismatch_115 : decode cJ15_vectorizedMismatch 115 = .ok (.ireturn, 1) := dk_172 (dk_at dksJ15_vectorizedMismatch_4 22 rfl rfl)
theorem dJ15_vectorizedMismatch_116 : decode cJ15_vectorizedMismatch 116 = .ok (.iinc 9 1, 3) := dk_132 9 1 (dk_at dksJ15_vectorizedMismatch_5 0 rfl rfl)
theorem dJ15_vectorizedMismatch_119 : decode cJ15_vectorizedMismatch 119 = .ok (.goto (-108), 3) := dk_167 255 148 (dk_at dksJ15_vectorizedMismatch_5 3 rfl rfl)
theorem dJ15_vectorizedMismatch_122 : decode cJ15_vectorizedMismatch 122 = .ok (.iload 6, 2) := dk_21 6 (dk_at dksJ15_vectorizedMismatch_5 6 rfl rfl)
theorem dJ15_vectorizedMismatch_124 : decode cJ15_vectorizedMismatch 124 = .ok (.iload 9, 2) := dk_21 9 (dk_at dksJ15_vectorizedMismatch_5 8 rfl rfl)
theorem dJ15_vectorizedMismatch_126 : decode cJ15_vectorizedMismatch 126 = .ok (.iload 8, 2) := dk_21 8 (dk_at dksJ15_vectorizedMismatch_5 10 rfl rfl)
theorem dJ15_vectorizedMismatch_128 : decode cJ15_vectorizedMismatch 128 = .ok (.ishl, 1) := dk_120 (dk_at dksJ15_vectorizedMismatch_5 12 rfl rfl)
theorem dJ15_vectorizedMismatch_129 : decode cJ15_vectorizedMismatch 129 = .ok (.isub, 1) := dk_100 (dk_at dksJ15_vectorizedMismatch_5 13 rfl rfl)
theorem dJ15_vectorizedMismatch_130 : decode cJ15_vectorizedMismatch 130 = .ok (.istore 10, 2) := dk_54 10 (dk_at dksJ15_vectorizedMismatch_5 14 rfl rfl)
theorem dJ15_vectorizedMismatch_132 : decode cJ15_vectorizedMismatch 132 = .ok (.iload 7, 2) := dk_21 7 (dk_at dksJ15_vectorizedMismatch_5 16 rfl rfl)
theorem dJ15_vectorizedMismatch_134 : decode cJ15_vectorizedMismatch 134 = .ok (.getstatic 51, 3) := dk_178 0 51 (dk_at dksJ15_vectorizedMismatch_5 18 rfl rfl)
theorem dJ15_vectorizedMismatch_137 : decode cJ15_vectorizedMismatch 137 = .ok (.if_icmp .ge 126, 3) := dk_162 0 126 (dk_at dksJ15_vectorizedMismatch_5 21 rfl rfl)
theorem dJ15_vectorizedMismatch_140 : decode cJ15_vectorizedMismatch 140 = .ok (.iconst 1, 1) := dk_4 (dk_at dksJ15_vectorizedMismatch_6 0 rfl rfl)
theorem dJ15_vectorizedMismatch_141 : decode cJ15_vectorizedMismatch 141 = .ok (.getstatic 51, 3) := dk_178 0 51 (dk_at dksJ15_vectorizedMismatch_6 1 rfl rfl)
theorem dJ15_vectorizedMismatch_144 : decode cJ15_vectorizedMismatch 144 = .ok (.iload 7, 2) := dk_21 7 (dk_at dksJ15_vectorizedMismatch_6 4 rfl rfl)
theorem dJ15_vectorizedMismatch_146 : decode cJ15_vectorizedMismatch 146 = .ok (.isub, 1) := dk_100 (dk_at dksJ15_vectorizedMismatch_6 6 rfl rfl)
theorem dJ15_vectorizedMismatch_147 : decode cJ15_vectorizedMismatch 147 = .ok (.ishl, 1) := dk_120 (dk_at dksJ15_vectorizedMismatch_6 7 rfl rfl)
theorem dJ15_vectorizedMismatch_148 : decode cJ15_vectorizedMismatch 148 = .ok (.istore 11, 2) := dk_54 11 (dk_at dksJ15_vectorizedMismatch_6 8 rfl rfl)
theorem dJ15_vectorizedMismatch_150 : decode cJ15_vectorizedMismatch 150 = .ok (.iload 10, 2) := dk_21 10 (dk_at dksJ15_vectorizedMismatch_6 10 rfl rfl)
theorem dJ15_vectorizedMismatch_152 : decode cJ15_vectorizedMismatch 152 = .ok (.iload 11, 2) := dk_21 11 (dk_at dksJ15_vectorizedMismatch_6 12 rfl rfl)
theorem dJ15_vectorizedMismatch_154 : decode cJ15_vectorizedMismatch 154 = .ok (.if_icmp .lt 104, 3) := dk_161 0 104 (dk_at dksJ15_vectorizedMismatch_6 14 rfl rfl)
theorem dJ15_vectorizedMismatch_157 : decode cJ15_vectorizedMismatch 157 = .ok (.iload 9, 2) := dk_21 9 (dk_at dksJ15_vectorizedMismatch_6 17 rfl rfl)
theorem dJ15_vectorizedMismatch_159 : decode cJ15_vectorizedMismatch 159 = .ok (.i2l, 1) := dk_133 (dk_at dksJ15_vectorizedMismatch_6 19 rfl rfl)
theorem dJ15_vectorizedMismatch_160 : decode cJ15_vectorizedMismatch 160 = .ok (.getstatic 20, 3) := dk_178 0 20 (dk_at dksJ15_vectorizedMismatch_6 20 rfl rfl)
theorem dJ15_vectorizedMismatch_163 : decode cJ15_vectorizedMismatch 163 = .ok (.lshl, 1) := dk_121 (dk_at dksJ15_vectorizedMismatch_6 23 rfl rfl)
theorem dJ15_vectorizedMismatch_164 : decode cJ15_vectorizedMismatch 164 = .ok (.lstore 12, 2) := dk_55 12 (dk_at dksJ15_vectorizedMismatch_7 0 rfl rfl)
theorem dJ15_vectorizedMismatch_166 : decode cJ15_vectorizedMismatch 166 = .ok (.getstatic 26, 3) := dk_178 0 26 (dk_at dksJ15_vectorizedMismatch_7 2 rfl rfl)
theorem dJ15_vectorizedMismatch_169 : decode cJ15_vectorizedMismatch 169 = .ok (.aload_n 0, 1) := dk_42 (dk_at dksJ15_vectorizedMismatch_7 5 rfl rfl)
theorem dJ15_vectorizedMismatch_170 : decode cJ15_vectorizedMismatch 170 = .ok (.lload_n 1, 1) := dk_31 (dk_at dksJ15_vectorizedMismatch_7 6 rfl rfl)
theorem dJ15_vectorizedMismatch_171 : decode cJ15_vectorizedMismatch 171 = .ok (.lload 12, 2) := dk_22 12 (dk_at dksJ15_vectorizedMismatch_7 7 rfl rfl)
theorem dJ15_vectorizedMismatch_173 : decode cJ15_vectorizedMismatch 173 = .ok (.ladd, 1) := dk_97 (dk_at dksJ15_vectorizedMismatch_7 9 rfl rfl)
theorem dJ15_vectorizedMismatch_174 : decode cJ15_vectorizedMismatch 174 = .ok (.invokevirtual 54, 3) := dk_182 0 54 (dk_at dksJ15_vectorizedMismatch_7 10 rfl rfl)
theorem dJ15_vectorizedMismatch_177 : decode cJ15_vectorizedMismatch 177 = .ok (.istore 14, 2) := dk_54 14 (dk_at dksJ15_vectorizedMismatch_7 13 rfl rfl)
theorem dJ15_vectorizedMismatch_179 : decode cJ15_vectorizedMismatch 179 = .ok (.getstatic 26, 3) := dk_178 0 26 (dk_at dksJ15_vectorizedMismatch_7 15 rfl rfl)
theorem dJ15_vectorizedMismatch_182 : decode cJ15_vectorizedMismatch 182 = .ok (.aload_n 3, 1) := dk_45 (dk_at dksJ15_vectorizedMismatch_7 18 rfl rfl)
theorem dJ15_vectorizedMismatch_183 : decode cJ15_vectorizedMismatch 183 = .ok (.lload 4, 2) := dk_22 4 (dk_at dksJ15_vectorizedMismatch_7 19 rfl rfl)
theorem dJ15_vectorizedMismatch_185 : decode cJ15_vectorizedMismatch 185 = .ok (.lload 12, 2) := dk_22 12 (dk_at dksJ15_vectorizedMismatch_7 21 rfl rfl)
theorem dJ15_vectorizedMismatch_187 : decode cJ15_vectorizedMismatch 187 = .ok (.ladd, 1) := dk_97 (dk_at dksJ15_vectorizedMismatch_7 23 rfl rfl)
theorem dJ15_vectorizedMismatch_188 : decode cJ15_vectorizedMismatch 188 = .ok (.invokevirtual 54, 3) := dk_182 0 54 (dk_at dksJ15_vectorizedMismatch_8 0 rfl rfl)
theorem dJ15_vectorizedMismatch_191 : decode cJ15_vectorizedMismatch 191 = .ok (.istore 15, 2) := dk_54 15 (dk_at dksJ15_vectorizedMismatch_8 3 rfl rfl)
theorem dJ15_vectorizedMismatch_193 : decode cJ15_vectorizedMismatch 193 = .ok (.iload 14, 2) := dk_21 14 (dk_at dksJ15_vectorizedMismatch_8 5 rfl rfl)
theorem dJ15_vectorizedMismatch_195 : decode cJ15_vectorizedMismatch 195 = .ok (.iload 15, 2) := dk_21 15 (dk_at dksJ15_vectorizedMismatch_8 7 rfl rfl)
theorem dJ15_vectorizedMismatch_197 : decode cJ15_vectorizedMismatch 197 = .ok (.if_icmp .eq 54, 3) := dk_159 0 54 (dk_at dksJ15_vectorizedMismatch_8 9 rfl rfl)
theorem dJ15_vectorizedMismatch_200 : decode cJ15_vectorizedMismatch 200 = .ok (.iload 14, 2) := dk_21 14 (dk_at dksJ15_vectorizedMismatch_8 12 rfl rfl)
theorem dJ15_vectorizedMismatch_202 : decode cJ15_vectorizedMismatch 202 = .ok (.iload 15, 2) := dk_21 15 (dk_at dksJ15_vectorizedMismatch_8 14 rfl rfl)
theorem dJ15_vectorizedMismatch_204 : decode cJ15_vectorizedMismatch 204 = .ok (.ixor, 1) := dk_130 (dk_at dksJ15_vectorizedMismatch_8 16 rfl rfl)
theorem dJ15_vectorizedMismatch_205 : decode cJ15_vectorizedMismatch 205 = .ok (.istore 16, 2) := dk_54 16 (dk_at dksJ15_vectorizedMismatch_8 17 rfl rfl)
theorem dJ15_vectorizedMismatch_207 : decode cJ15_vectorizedMismatch 207 = .ok (.getstatic 36, 3) := dk_178 0 36 (dk_at dksJ15_vectorizedMismatch_8 19 rfl rfl)
theorem dJ15_vectorizedMismatch_210 : decode cJ15_vectorizedMismatch 210 = .ok (.ifCond .eq 18, 3) := dk_153 0 18 (dk_at dksJ15_vectorizedMismatch_9 0 rfl rfl)
theorem dJ15_vectorizedMismatch_213 : decode cJ15_vectorizedMismatch 213 = .ok (.iload 16, 2) := dk_21 16 (dk_at dksJ15_vectorizedMismatch_9 3 rfl rfl)
theorem dJ15_vectorizedMismatch_215 : decode cJ15_vectorizedMismatch 215 = .ok (.invokestatic 58, 3) := dk_184 0 58 (dk_at dksJ15_vectorizedMismatch_9 5 rfl rfl)
theorem dJ15_vectorizedMismatch_218 : decode cJ15_vectorizedMismatch 218 = .ok (.getstatic 46, 3) := dk_178 0 46 (dk_at dksJ15_vectorizedMismatch_9 8 rfl rfl)
theorem dJ15_vectorizedMismatch_221 : decode cJ15_vectorizedMismatch 221 = .ok (.iload 7, 2) := dk_21 7 (dk_at dksJ15_vectorizedMismatch_9 11 rfl rfl)
theorem dJ15_vectorizedMismatch_223 : decode cJ15_vectorizedMismatch 223 = .ok (.iadd, 1) := dk_96 (dk_at dksJ15_vectorizedMismatch_9 13 rfl rfl)
theorem dJ15_vectorizedMismatch_224 : decode cJ15_vectorizedMismatch 224 = .ok (.ishr, 1) := dk_122 (dk_at dksJ15_vectorizedMismatch_9 14 rfl rfl)
theorem dJ15_vectorizedMismatch_225 : decode cJ15_vectorizedMismatch 225 = .ok (.goto 15, 3) := dk_167 0 15 (dk_at dksJ15_vectorizedMismatch_9 15 rfl rfl)
theorem dJ15_vectorizedMismatch_228 : decode cJ15_vectorizedMismatch 228 = .ok (.iload 16, 2) := dk_21 16 (dk_at dksJ15_vectorizedMismatch_9 18 rfl rfl)
theorem dJ15_vectorizedMismatch_230 : decode cJ15_vectorizedMismatch 230 = .ok (.invokestatic 11, 3) := dk_184 0 11 (dk_at dksJ15_vectorizedMismatch_9 20 rfl rfl)
theorem dJ15_vectorizedMismatch_233 : decode cJ15_vectorizedMismatch 233 = .ok (.getstatic 46, 3) := dk_178 0 46 (dk_at dksJ15_vectorizedMismatch_10 0 rfl rfl)
theorem dJ15_vectorizedMismatch_236 : decode cJ15_vectorizedMismatch 236 = .ok (.iload 7, 2) := dk_21 7 (dk_at dksJ15_vectorizedMismatch_10 3 rfl rfl)
theorem dJ15_vectorizedMismatch_238 : decode cJ15_vectorizedMismatch 238 = .ok (.iadd, 1) := dk_96 (dk_at dksJ15_vectorizedMismatch_10 5 rfl rfl)
theorem dJ15_vectorizedMismatch_239 : decode cJ15_vectorizedMismatch 239 = .ok (.ishr, 1) := dk_122 (dk_at dksJ15_vectorizedMismatch_10 6 rfl rfl)
theorem dJ15_vectorizedMismatch_240 : decode cJ15_vectorizedMismatch 240 = .ok (.istore 17, 2) := dk_54 17 (dk_at dksJ15_vectorizedMismatch_10 7 rfl rfl)
theorem dJ15_vectorizedMismatch_242 : decode cJ15_vectorizedMismatch 242 = .ok (.iload 9, 2) := dk_21 9 (dk_at dksJ15_vectorizedMismatch_10 9 rfl rfl)
theorem dJ15_vectorizedMismatch_244 : decode cJ15_vectorizedMismatch 244 = .ok (.iload 8, 2) := dk_21 8 (dk_at dksJ15_vectorizedMismatch_10 11 rfl rfl)
theorem dJ15_vectorizedMismatch_246 : decode cJ15_vectorizedMismatch 246 = .ok (.ishl, 1) := dk_120 (dk_at dksJ15_vectorizedMismatch_10 13 rfl rfl)
theorem dJ15_vectorizedMismatch_247 : decode cJ15_vectorizedMismatch 247 = .ok (.iload 17, 2) := dk_21 17 (dk_at dksJ15_vectorizedMismatch_10 14 rfl rfl)
theorem dJ15_vectorizedMismatch_249 : decode cJ15_vectorizedMismatch 249 = .ok (.iadd, 1) := dk_96 (dk_at dksJ15_vectorizedMismatch_10 16 rfl rfl)
theorem dJ15_vectorizedMismatch_250 : decode cJ15_vectorizedMismatch 250 = .ok (.ireturn, 1) := dk_172 (dk_at dksJ15_vectorizedMismatch_10 17 rfl rfl)
theorem dJ15_vectorizedMismatch_251 : decode cJ15_vectorizedMismatch 251 = .ok (.iload 10, 2) := dk_21 10 (dk_at dksJ15_vectorizedMismatch_10 18 rfl rfl)
theorem dJ15_vectorizedMismatch_253 : decode cJ15_vectorizedMismatch 253 = .ok (.iload 11, 2) := dk_21 11 (dk_at dksJ15_vectorizedMismatch_10 20 rfl rfl)
theorem dJ15_vectorizedMismatch_255 : decode cJ15_vectorizedMismatch 255 = .ok (.isub, 1) := dk_100 (dk_at dksJ15_vectorizedMismatch_10 22 rfl rfl)
theorem dJ15_vectorizedMismatch_256 : decode cJ15_vectorizedMismatch 256 = .ok (.istore 10, 2) := dk_54 10 (dk_at dksJ15_vectorizedMismatch_11 0 rfl rfl)
theorem dJ15_vectorizedMismatch_258 : decode cJ15_vectorizedMismatch 258 = .ok (.iload 10, 2) := dk_21 10 (dk_at dksJ15_vectorizedMismatch_11 2 rfl rfl)
theorem dJ15_vectorizedMismatch_260 : decode cJ15_vectorizedMismatch 260 = .ok (.iconst (-1), 1) := dk_2 (dk_at dksJ15_vectorizedMismatch_11 4 rfl rfl)
theorem dJ15_vectorizedMismatch_261 : decode cJ15_vectorizedMismatch 261 = .ok (.ixor, 1) := dk_130 (dk_at dksJ15_vectorizedMismatch_11 5 rfl rfl)
theorem dJ15_vectorizedMismatch_262 : decode cJ15_vectorizedMismatch 262 = .ok (.ireturn, 1) := dk_172 (dk_at dksJ15_vectorizedMismatch_11 6 rfl rfl)
theorem dJ15_vectorizedMismatch_263 : decode cJ15_vectorizedMismatch 263 = .ok (.iload 10, 2) := dk_21 10 (dk_at dksJ15_vectorizedMismatch_11 7 rfl rfl)
theorem dJ15_vectorizedMismatch_265 : decode cJ15_vectorizedMismatch 265 = .ok (.iconst (-1), 1) := dk_2 (dk_at dksJ15_vectorizedMismatch_11 9 rfl rfl)
theorem dJ15_vectorizedMismatch_266 : decode cJ15_vectorizedMismatch 266 = .ok (.ixor, 1) := dk_130 (dk_at dksJ15_vectorizedMismatch_11 10 rfl rfl)
theorem dJ15_vectorizedMismatch_267 : decode cJ15_vectorizedMismatch 267 = .ok (.ireturn, 1) := dk_172 (dk_at dksJ15_vectorizedMismatch_11 11 rfl rfl)
theorem q131 : (Jvm.Cond.initialized "jdk/internal/util/ArraysSupport") ∈ lw_all := lw_g (lw_at lw_m1 23 rfl) rfl
theorem q592 : (Jvm.Cond.static ({ cls := "jdk/internal/util/ArraysSupport", name := "newLength", desc := "(III)I" } : Jvm.MethodName)) ∈ lw_all := lw_g (lw_at lw_m3 4 rfl) rfl
theorem q593 : (Jvm.Cond.code ({ cls := "jdk/internal/util/ArraysSupport", name := "newLength", desc := "(III)I" } : Jvm.MethodName) prog_73_method_27_code (4 : Nat) (Option.some Jvm.ClassFile.FieldType.int)) ∈ lw_all := lw_g (lw_at lw_m3 5 rfl) rfl
theorem q594 : (Jvm.Cond.methodLink "jdk/internal/util/ArraysSupport" (194 : Nat) ({ cls := "java/lang/Math", name := "max", desc := "(II)I" } : Jvm.MethodName)) ∈ lw_all := lw_g (lw_at lw_m3 6 rfl) rfl
theorem q597 : (Jvm.Cond.constant "jdk/internal/util/ArraysSupport" (200 : Nat) (2147483639 : Int32)) ∈ lw_all := lw_g (lw_at lw_m3 9 rfl) rfl
theorem q598 : (Jvm.Cond.methodLink "jdk/internal/util/ArraysSupport" (201 : Nat) ({ cls := "jdk/internal/util/ArraysSupport", name := "hugeLength", desc := "(II)I" } : Jvm.MethodName)) ∈ lw_all := lw_g (lw_at lw_m3 10 rfl) rfl
theorem q599 : (Jvm.Cond.static ({ cls := "jdk/internal/util/ArraysSupport", name := "hugeLength", desc := "(II)I" } : Jvm.MethodName)) ∈ lw_all := lw_g (lw_at lw_m3 11 rfl) rfl
theorem q600 : (Jvm.Cond.code ({ cls := "jdk/internal/util/ArraysSupport", name := "hugeLength", desc := "(II)I" } : Jvm.MethodName) prog_73_method_28_code (3 : Nat) (Option.some Jvm.ClassFile.FieldType.int)) ∈ lw_all := lw_g (lw_at lw_m3 12 rfl) rfl
theorem q926 : (Jvm.Cond.static ({ cls := "jdk/internal/util/ArraysSupport", name := "vectorizedHashCode", desc := "(Ljava/lang/Object;IIII)I" } : Jvm.MethodName)) ∈ lw_all := lw_g (lw_at lw_m4 98 rfl) rfl
theorem q927 : (Jvm.Cond.code ({ cls := "jdk/internal/util/ArraysSupport", name := "vectorizedHashCode", desc := "(Ljava/lang/Object;IIII)I" } : Jvm.MethodName) prog_73_method_4_code (5 : Nat) (Option.some Jvm.ClassFile.FieldType.int)) ∈ lw_all := lw_g (lw_at lw_m4 99 rfl) rfl
theorem q928 : (Jvm.Cond.classLink "jdk/internal/util/ArraysSupport" (60 : Nat) "[B") ∈ lw_all := lw_g (lw_at lw_m4 100 rfl) rfl
theorem q929 : (Jvm.Cond.methodLink "jdk/internal/util/ArraysSupport" (62 : Nat) ({ cls := "jdk/internal/util/ArraysSupport", name := "signedHashCode", desc := "(I[BII)I" } : Jvm.MethodName)) ∈ lw_all := lw_g (lw_at lw_m4 101 rfl) rfl
theorem q930 : (Jvm.Cond.static ({ cls := "jdk/internal/util/ArraysSupport", name := "signedHashCode", desc := "(I[BII)I" } : Jvm.MethodName)) ∈ lw_all := lw_g (lw_at lw_m4 102 rfl) rfl
theorem q931 : (Jvm.Cond.code ({ cls := "jdk/internal/util/ArraysSupport", name := "signedHashCode", desc := "(I[BII)I" } : Jvm.MethodName) prog_73_method_5_code (6 : Nat) (Option.some Jvm.ClassFile.FieldType.int)) ∈ lw_all := lw_g (lw_at lw_m4 103 rfl) rfl
theorem q932 : (Jvm.Cond.methodLink "jdk/internal/util/ArraysSupport" (66 : Nat) ({ cls := "jdk/internal/util/ArraysSupport", name := "utf16hashCode", desc := "(I[BII)I" } : Jvm.MethodName)) ∈ lw_all := lw_g (lw_at lw_m4 104 rfl) rfl
theorem q933 : (Jvm.Cond.static ({ cls := "jdk/internal/util/ArraysSupport", name := "utf16hashCode", desc := "(I[BII)I" } : Jvm.MethodName)) ∈ lw_all := lw_g (lw_at lw_m4 105 rfl) rfl
theorem q934 : (Jvm.Cond.code ({ cls := "jdk/internal/util/ArraysSupport", name := "utf16hashCode", desc := "(I[BII)I" } : Jvm.MethodName) prog_73_method_10_code (6 : Nat) (Option.some Jvm.ClassFile.FieldType.int)) ∈ lw_all := lw_g (lw_at lw_m4 106 rfl) rfl
theorem q935 : (Jvm.Cond.fieldLink "jdk/internal/util/ArraysSupport" (106 : Nat) "jdk/internal/util/ArraysSupport" "JLA" "Ljdk/internal/access/JavaLangAccess;") ∈ lw_all := lw_g (lw_at lw_m4 107 rfl) rfl
theorem q936 : (Jvm.Cond.laysStatic "jdk/internal/util/ArraysSupport" "JLA" "Ljdk/internal/access/JavaLangAccess;") ∈ lw_tbl := lw_at lw_m4 108 rfl
theorem q937 : (Jvm.Cond.interfaceEntry "jdk/internal/util/ArraysSupport" (110 : Nat)) ∈ lw_tbl := lw_at lw_m4 109 rfl
theorem q938 : (Jvm.Cond.methodLink "jdk/internal/util/ArraysSupport" (110 : Nat) ({ cls := "jdk/internal/access/JavaLangAccess", name := "getUTF16Char", desc := "([BI)C" } : Jvm.MethodName)) ∈ lw_all := lw_g (lw_at lw_m4 110 rfl) rfl
theorem q948 : (Jvm.Cond.classLink "jdk/internal/util/ArraysSupport" (69 : Nat) "[C") ∈ lw_all := lw_g (lw_at lw_m4 120 rfl) rfl
theorem q949 : (Jvm.Cond.methodLink "jdk/internal/util/ArraysSupport" (71 : Nat) ({ cls := "jdk/internal/util/ArraysSupport", name := "hashCode", desc := "(I[CII)I" } : Jvm.MethodName)) ∈ lw_all := lw_g (lw_at lw_m4 121 rfl) rfl
theorem q950 : (Jvm.Cond.static ({ cls := "jdk/internal/util/ArraysSupport", name := "hashCode", desc := "(I[CII)I" } : Jvm.MethodName)) ∈ lw_all := lw_g (lw_at lw_m4 122 rfl) rfl
theorem q951 : (Jvm.Cond.code ({ cls := "jdk/internal/util/ArraysSupport", name := "hashCode", desc := "(I[CII)I" } : Jvm.MethodName) prog_73_method_7_code (6 : Nat) (Option.some Jvm.ClassFile.FieldType.int)) ∈ lw_all := lw_g (lw_at lw_m4 123 rfl) rfl
theorem q952 : (Jvm.Cond.methodLink "jdk/internal/util/ArraysSupport" (75 : Nat) ({ cls := "jdk/internal/util/ArraysSupport", name := "hashCode", desc := "(I[BII)I" } : Jvm.MethodName)) ∈ lw_all := lw_g (lw_at lw_m4 124 rfl) rfl
theorem q953 : (Jvm.Cond.static ({ cls := "jdk/internal/util/ArraysSupport", name := "hashCode", desc := "(I[BII)I" } : Jvm.MethodName)) ∈ lw_all := lw_g (lw_at lw_m4 125 rfl) rfl
theorem q954 : (Jvm.Cond.code ({ cls := "jdk/internal/util/ArraysSupport", name := "hashCode", desc := "(I[BII)I" } : Jvm.MethodName) prog_73_method_6_code (6 : Nat) (Option.some Jvm.ClassFile.FieldType.int)) ∈ lw_all := lw_g (lw_at lw_m4 126 rfl) rfl
theorem q955 : (Jvm.Cond.classLink "jdk/internal/util/ArraysSupport" (77 : Nat) "[S") ∈ lw_all := lw_g (lw_at lw_m4 127 rfl) rfl
theorem q956 : (Jvm.Cond.methodLink "jdk/internal/util/ArraysSupport" (79 : Nat) ({ cls := "jdk/internal/util/ArraysSupport", name := "hashCode", desc := "(I[SII)I" } : Jvm.MethodName)) ∈ lw_all := lw_g (lw_at lw_m4 128 rfl) rfl
theorem q957 : (Jvm.Cond.static ({ cls := "jdk/internal/util/ArraysSupport", name := "hashCode", desc := "(I[SII)I" } : Jvm.MethodName)) ∈ lw_all := lw_g (lw_at lw_m4 129 rfl) rfl
theorem q958 : (Jvm.Cond.code ({ cls := "jdk/internal/util/ArraysSupport", name := "hashCode", desc := "(I[SII)I" } : Jvm.MethodName) prog_73_method_8_code (6 : Nat) (Option.some Jvm.ClassFile.FieldType.int)) ∈ lw_all := lw_g (lw_at lw_m4 130 rfl) rfl
theorem q959 : (Jvm.Cond.classLink "jdk/internal/util/ArraysSupport" (82 : Nat) "[I") ∈ lw_all := lw_g (lw_at lw_m4 131 rfl) rfl
theorem q960 : (Jvm.Cond.methodLink "jdk/internal/util/ArraysSupport" (84 : Nat) ({ cls := "jdk/internal/util/ArraysSupport", name := "hashCode", desc := "(I[III)I" } : Jvm.MethodName)) ∈ lw_all := lw_g (lw_at lw_m4 132 rfl) rfl
theorem q961 : (Jvm.Cond.static ({ cls := "jdk/internal/util/ArraysSupport", name := "hashCode", desc := "(I[III)I" } : Jvm.MethodName)) ∈ lw_all := lw_g (lw_at lw_m4 133 rfl) rfl
theorem q962 : (Jvm.Cond.code ({ cls := "jdk/internal/util/ArraysSupport", name := "hashCode", desc := "(I[III)I" } : Jvm.MethodName) prog_73_method_9_code (6 : Nat) (Option.some Jvm.ClassFile.FieldType.int)) ∈ lw_all := lw_g (lw_at lw_m4 134 rfl) rfl
theorem q963 : (Jvm.Cond.classLink "jdk/internal/util/ArraysSupport" (87 : Nat) "java/lang/IllegalArgumentException") ∈ lw_all := lw_g (lw_at lw_m4 135 rfl) rfl
theorem q964 : (Jvm.Cond.classLink "jdk/internal/util/ArraysSupport" (89 : Nat) "java/lang/StringBuilder") ∈ lw_all := lw_g (lw_at lw_m4 136 rfl) rfl
theorem q965 : (Jvm.Cond.methodLink "jdk/internal/util/ArraysSupport" (91 : Nat) ({ cls := "java/lang/StringBuilder", name := "<init>", desc := "()V" } : Jvm.MethodName)) ∈ lw_all := lw_g (lw_at lw_m4 137 rfl) rfl
theorem q966 : (Jvm.Cond.stringRef "jdk/internal/util/ArraysSupport" (92 : Nat) "unrecognized basic type: ") ∈ lw_tbl := lw_at lw_m4 138 rfl
theorem q967 : (Jvm.Cond.methodLink "jdk/internal/util/ArraysSupport" (94 : Nat) ({ cls := "java/lang/StringBuilder", name := "append", desc := "(Ljava/lang/String;)Ljava/lang/StringBuilder;" } : Jvm.MethodName)) ∈ lw_all := lw_g (lw_at lw_m4 139 rfl) rfl
theorem q968 : (Jvm.Cond.methodLink "jdk/internal/util/ArraysSupport" (98 : Nat) ({ cls := "java/lang/StringBuilder", name := "append", desc := "(I)Ljava/lang/StringBuilder;" } : Jvm.MethodName)) ∈ lw_all := lw_g (lw_at lw_m4 140 rfl) rfl
theorem q969 : (Jvm.Cond.methodLink "jdk/internal/util/ArraysSupport" (101 : Nat) ({ cls := "java/lang/StringBuilder", name := "toString", desc := "()Ljava/lang/String;" } : Jvm.MethodName)) ∈ lw_all := lw_g (lw_at lw_m4 141 rfl) rfl
theorem q970 : (Jvm.Cond.methodLink "jdk/internal/util/ArraysSupport" (105 : Nat) ({ cls := "java/lang/IllegalArgumentException", name := "<init>", desc := "(Ljava/lang/String;)V" } : Jvm.MethodName)) ∈ lw_all := lw_g (lw_at lw_m4 142 rfl) rfl
theorem q1187 : (Jvm.Cond.static ({ cls := "jdk/internal/util/ArraysSupport", name := "mismatch", desc := "([B[BI)I" } : Jvm.MethodName)) ∈ lw_all := lw_g (lw_at lw_m5 119 rfl) rfl
theorem q1188 : (Jvm.Cond.code ({ cls := "jdk/internal/util/ArraysSupport", name := "mismatch", desc := "([B[BI)I" } : Jvm.MethodName) prog_73_method_13_code (4 : Nat) (Option.some Jvm.ClassFile.FieldType.int)) ∈ lw_all := lw_g (lw_at lw_m5 120 rfl) rfl
theorem q1189 : (Jvm.Cond.fieldLink "jdk/internal/util/ArraysSupport" (126 : Nat) "jdk/internal/misc/Unsafe" "ARRAY_BYTE_BASE_OFFSET" "I") ∈ lw_all := lw_g (lw_at lw_m5 121 rfl) rfl
theorem q1191 : (Jvm.Cond.fieldLink "jdk/internal/util/ArraysSupport" (129 : Nat) "jdk/internal/util/ArraysSupport" "LOG2_ARRAY_BYTE_INDEX_SCALE" "I") ∈ lw_all := lw_g (lw_at lw_m5 123 rfl) rfl
theorem q1192 : (Jvm.Cond.laysStatic "jdk/internal/util/ArraysSupport" "LOG2_ARRAY_BYTE_INDEX_SCALE" "I") ∈ lw_tbl := lw_at lw_m5 124 rfl
theorem q1193 : (Jvm.Cond.methodLink "jdk/internal/util/ArraysSupport" (122 : Nat) ({ cls := "jdk/internal/util/ArraysSupport", name := "vectorizedMismatch", desc := "(Ljava/lang/Object;JLjava/lang/Object;JII)I" } : Jvm.MethodName)) ∈ lw_all := lw_g (lw_at lw_m5 125 rfl) rfl
theorem q1194 : (Jvm.Cond.static ({ cls := "jdk/internal/util/ArraysSupport", name := "vectorizedMismatch", desc := "(Ljava/lang/Object;JLjava/lang/Object;JII)I" } : Jvm.MethodName)) ∈ lw_all := lw_g (lw_at lw_m5 126 rfl) rfl
theorem q1195 : (Jvm.Cond.code ({ cls := "jdk/internal/util/ArraysSupport", name := "vectorizedMismatch", desc := "(Ljava/lang/Object;JLjava/lang/Object;JII)I" } : Jvm.MethodName) prog_73_method_3_code (19 : Nat) (Option.some Jvm.ClassFile.FieldType.int)) ∈ lw_all := lw_g (lw_at lw_m5 127 rfl) rfl
theorem q1196 : (Jvm.Cond.fieldLink "jdk/internal/util/ArraysSupport" (20 : Nat) "jdk/internal/util/ArraysSupport" "LOG2_ARRAY_LONG_INDEX_SCALE" "I") ∈ lw_all := lw_g (lw_at lw_m5 128 rfl) rfl
theorem q1197 : (Jvm.Cond.laysStatic "jdk/internal/util/ArraysSupport" "LOG2_ARRAY_LONG_INDEX_SCALE" "I") ∈ lw_tbl := lw_at lw_m5 129 rfl
theorem q1198 : (Jvm.Cond.fieldLink "jdk/internal/util/ArraysSupport" (26 : Nat) "jdk/internal/util/ArraysSupport" "U" "Ljdk/internal/misc/Unsafe;") ∈ lw_all := lw_g (lw_at lw_m5 130 rfl) rfl
theorem q1199 : (Jvm.Cond.laysStatic "jdk/internal/util/ArraysSupport" "U" "Ljdk/internal/misc/Unsafe;") ∈ lw_tbl := lw_at lw_m5 131 rfl
theorem q1200 : (Jvm.Cond.methodLink "jdk/internal/util/ArraysSupport" (30 : Nat) ({ cls := "jdk/internal/misc/Unsafe", name := "getLongUnaligned", desc := "(Ljava/lang/Object;J)J" } : Jvm.MethodName)) ∈ lw_all := lw_g (lw_at lw_m5 132 rfl) rfl
theorem q1252 : (Jvm.Cond.fieldLink "jdk/internal/util/ArraysSupport" (36 : Nat) "jdk/internal/util/ArraysSupport" "BIG_ENDIAN" "Z") ∈ lw_all := lw_g (lw_at lw_m5 184 rfl) rfl
theorem q1253 : (Jvm.Cond.laysStatic "jdk/internal/util/ArraysSupport" "BIG_ENDIAN" "Z") ∈ lw_tbl := lw_at lw_m5 185 rfl
theorem q1254 : (Jvm.Cond.methodLink "jdk/internal/util/ArraysSupport" (40 : Nat) ({ cls := "java/lang/Long", name := "numberOfLeadingZeros", desc := "(J)I" } : Jvm.MethodName)) ∈ lw_all := lw_g (lw_at lw_m5 186 rfl) rfl
theorem q1261 : (Jvm.Cond.fieldLink "jdk/internal/util/ArraysSupport" (46 : Nat) "jdk/internal/util/ArraysSupport" "LOG2_BYTE_BIT_SIZE" "I") ∈ lw_all := lw_g (lw_at lw_m5 193 rfl) rfl
theorem q1262 : (Jvm.Cond.laysStatic "jdk/internal/util/ArraysSupport" "LOG2_BYTE_BIT_SIZE" "I") ∈ lw_tbl := lw_at lw_m5 194 rfl
theorem q1263 : (Jvm.Cond.methodLink "jdk/internal/util/ArraysSupport" (49 : Nat) ({ cls := "java/lang/Long", name := "numberOfTrailingZeros", desc := "(J)I" } : Jvm.MethodName)) ∈ lw_all := lw_g (lw_at lw_m5 195 rfl) rfl
theorem q1269 : (Jvm.Cond.fieldLink "jdk/internal/util/ArraysSupport" (51 : Nat) "jdk/internal/util/ArraysSupport" "LOG2_ARRAY_INT_INDEX_SCALE" "I") ∈ lw_all := lw_g (lw_at lw_m5 201 rfl) rfl
theorem q1270 : (Jvm.Cond.laysStatic "jdk/internal/util/ArraysSupport" "LOG2_ARRAY_INT_INDEX_SCALE" "I") ∈ lw_tbl := lw_at lw_m5 202 rfl
theorem q1271 : (Jvm.Cond.methodLink "jdk/internal/util/ArraysSupport" (54 : Nat) ({ cls := "jdk/internal/misc/Unsafe", name := "getIntUnaligned", desc := "(Ljava/lang/Object;J)I" } : Jvm.MethodName)) ∈ lw_all := lw_g (lw_at lw_m5 203 rfl) rfl
theorem q1288 : (Jvm.Cond.methodLink "jdk/internal/util/ArraysSupport" (58 : Nat) ({ cls := "java/lang/Integer", name := "numberOfLeadingZeros", desc := "(I)I" } : Jvm.MethodName)) ∈ lw_all := lw_g (lw_at lw_m5 220 rfl) rfl
theorem q1289 : (Jvm.Cond.methodLink "jdk/internal/util/ArraysSupport" (11 : Nat) ({ cls := "java/lang/Integer", name := "numberOfTrailingZeros", desc := "(I)I" } : Jvm.MethodName)) ∈ lw_all := lw_g (lw_at lw_m5 221 rfl) rfl
/-! java/lang/Math -/
set_option maxRecDepth 100000
def RJ16 : String := "java/lang/Math"
abbrev cJ16_max : ByteArray := prog_41_method_65_code
def yJ16_max : MethodName := ⟨RJ16, "max", "(II)I"⟩
def dkwJ16_max_0 : List UInt8 := [26, 27, 161, 0, 7, 26, 167, 0, 4, 27, 172]
abbrev dktJ16_max_0 : List UInt8 := dkwJ16_max_0 ++ []
theorem dksJ16_max_0 : cJ16_max.data.toList.drop 0 = dktJ16_max_0 := by decide +kernel
theorem dJ16_max_0 : decode cJ16_max 0 = .ok (.iload_n 0, 1) := dk_26 (dk_at dksJ16_max_0 0 rfl rfl)
theorem dJ16_max_1 : decode cJ16_max 1 = .ok (.iload_n 1, 1) := dk_27 (dk_at dksJ16_max_0 1 rfl rfl)
theorem dJ16_max_2 : decode cJ16_max 2 = .ok (.if_icmp .lt 7, 3) := dk_161 0 7 (dk_at dksJ16_max_0 2 rfl rfl)
theorem dJ16_max_5 : decode cJ16_max 5 = .ok (.iload_n 0, 1) := dk_26 (dk_at dksJ16_max_0 5 rfl rfl)
theorem dJ16_max_6 : decode cJ16_max 6 = .ok (.goto 4, 3) := dk_167 0 4 (dk_at dksJ16_max_0 6 rfl rfl)
theorem dJ16_max_9 : decode cJ16_max 9 = .ok (.iload_n 1, 1) := dk_27 (dk_at dksJ16_max_0 9 rfl rfl)
theorem dJ16_max_10 : decode cJ16_max 10 = .ok (.ireturn, 1) := dk_172 (dk_at dksJ16_max_0 10 rfl rfl)
abbrev cJ16_min : ByteArray := prog_41_method_69_code
def yJ16_min : MethodName := ⟨RJ16, "min", "(II)I"⟩
def dkwJ16_min_0 : List UInt8 := [26, 27, 163, 0, 7, 26, 167, 0, 4, 27, 172]
abbrev dktJ16_min_0 : List UInt8 := dkwJ16_min_0 ++ []
theorem dksJ16_min_0 : cJ16_min.data.toList.drop 0 = dktJ16_min_0 := by decide +kernel
theorem dJ16_min_0 : decode cJ16_min 0 = .ok (.iload_n 0, 1) := dk_26 (dk_at dksJ16_min_0 0 rfl rfl)
theorem dJ16_min_1 : decode cJ16_min 1 = .ok (.iload_n 1, 1) := dk_27 (dk_at dksJ16_min_0 1 rfl rfl)
theorem dJ16_min_2 : decode cJ16_min 2 = .ok (.if_icmp .gt 7, 3) := dk_163 0 7 (dk_at dksJ16_min_0 2 rfl rfl)
theorem dJ16_min_5 : decode cJ16_min 5 = .ok (.iload_n 0, 1) := dk_26 (dk_at dksJ16_min_0 5 rfl rfl)
theorem dJ16_min_6 : decode cJ16_min 6 = .ok (.goto 4, 3) := dk_167 0 4 (dk_at dksJ16_min_0 6 rfl rfl)
theorem dJ16_min_9 : decode cJ16_min 9 = .ok (.iload_n 1, 1) := dk_27 (dk_at dksJ16_min_0 9 rfl rfl)
theorem dJ16_min_10 : decode cJ16_min 10 = .ok (.ireturn, 1) := dk_172 (dk_at dksJ16_min_0 10 rfl rfl)
theorem q132 : (Jvm.Cond.initialized "java/lang/Math") ∈ lw_all := lw_g (lw_at lw_m1 24 rfl) rfl
theorem q595 : (Jvm.Cond.static ({ cls := "java/lang/Math", name := "max", desc := "(II)I" } : Jvm.MethodName)) ∈ lw_all := lw_g (lw_at lw_m3 7 rfl) rfl
theorem q596 : (Jvm.Cond.code ({ cls := "java/lang/Math", name := "max", desc := "(II)I" } : Jvm.MethodName) prog_41_method_65_code (2 : Nat) (Option.some Jvm.ClassFile.FieldType.int)) ∈ lw_all := lw_g (lw_at lw_m3 8 rfl) rfl
theorem q613 : (Jvm.Cond.static ({ cls := "java/lang/Math", name := "min", desc := "(II)I" } : Jvm.MethodName)) ∈ lw_all := lw_g (lw_at lw_m3 25 rfl) rfl
theorem q614 : (Jvm.Cond.code ({ cls := "java/lang/Math", name := "min", desc := "(II)I" } : Jvm.MethodName) prog_41_method_69_code (2 : Nat) (Option.some Jvm.ClassFile.FieldType.int)) ∈ lw_all := lw_g (lw_at lw_m3 26 rfl) rfl
/-! java/util/Arrays -/
set_option maxRecDepth 100000
def RJ17 : String := "java/util/Arrays"
abbrev cJ17_copyOf : ByteArray := prog_57_method_121_code
def yJ17_copyOf : MethodName := ⟨RJ17, "copyOf", "([BI)[B"⟩
def dkwJ17_copyOf_1 : List UInt8 := [27, 184, 1, 48, 184, 0, 150, 44, 176]
abbrev dktJ17_copyOf_1 : List UInt8 := dkwJ17_copyOf_1 ++ []
def dkwJ17_copyOf_0 : List UInt8 := [27, 42, 190, 160, 0, 11, 42, 182, 1, 54, 192, 1, 55, 176, 27, 188, 8, 77, 42, 3, 44, 3, 42, 190]
abbrev dktJ17_copyOf_0 : List UInt8 := dkwJ17_copyOf_0 ++ dktJ17_copyOf_1
theorem dksJ17_copyOf_0 : cJ17_copyOf.data.toList.drop 0 = dktJ17_copyOf_0 := by decide +kernel
theorem dksJ17_copyOf_1 : cJ17_copyOf.data.toList.drop 24 = dktJ17_copyOf_1 := dk_seg dksJ17_copyOf_0 24 rfl rfl
theorem dJ17_copyOf_0 : decode cJ17_copyOf 0 = .ok (.iload_n 1, 1) := dk_27 (dk_at dksJ17_copyOf_0 0 rfl rfl)
theorem dJ17_copyOf_1 : decode cJ17_copyOf 1 = .ok (.aload_n 0, 1) := dk_42 (dk_at dksJ17_copyOf_0 1 rfl rfl)
theorem dJ17_copyOf_2 : decode cJ17_copyOf 2 = .ok (.arraylength, 1) := dk_190 (dk_at dksJ17_copyOf_0 2 rfl rfl)
theorem dJ17_copyOf_3 : decode cJ17_copyOf 3 = .ok (.if_icmp .ne 11, 3) := dk_160 0 11 (dk_at dksJ17_copyOf_0 3 rfl rfl)
theorem dJ17_copyOf_6 : decode cJ17_copyOf 6 = .ok (.aload_n 0, 1) := dk_42 (dk_at dksJ17_copyOf_0 6 rfl rfl)
theorem dJ17_copyOf_7 : decode cJ17_copyOf 7 = .ok (.invokevirtual 310, 3) := dk_182 1 54 (dk_at dksJ17_copyOf_0 7 rfl rfl)
theorem dJ17_copyOf_10 : decode cJ17_copyOf 10 = .ok (.checkcast 311, 3) := dk_192 1 55 (dk_at dksJ17_copyOf_0 10 rfl rfl)
theorem dJ17_copyOf_13 : decode cJ17_copyOf 13 = .ok (.areturn, 1) := dk_176 (dk_at dksJ17_copyOf_0 13 rfl rfl)
theorem dJ17_copyOf_14 : decode cJ17_copyOf 14 = .ok (.iload_n 1, 1) := dk_27 (dk_at dksJ17_copyOf_0 14 rfl rfl)
theorem dJ17_copyOf_15 : decode cJ17_copyOf 15 = .ok (.newarray .byte, 2) := dk_188_8 (dk_at dksJ17_copyOf_0 15 rfl rfl)
theorem dJ17_copyOf_17 : decode cJ17_copyOf 17 = .ok (.astore_n 2, 1) := dk_77 (dk_at dksJ17_copyOf_0 17 rfl rfl)
theorem dJ17_copyOf_18 : decode cJ17_copyOf 18 = .ok (.aload_n 0, 1) := dk_42 (dk_at dksJ17_copyOf_0 18 rfl rfl)
theorem dJ17_copyOf_19 : decode cJ17_copyOf 19 = .ok (.iconst 0, 1) := dk_3 (dk_at dksJ17_copyOf_0 19 rfl rfl)
theorem dJ17_copyOf_20 : decode cJ17_copyOf 20 = .ok (.aload_n 2, 1) := dk_44 (dk_at dksJ17_copyOf_0 20 rfl rfl)
theorem dJ17_copyOf_21 : decode cJ17_copyOf 21 = .ok (.iconst 0, 1) := dk_3 (dk_at dksJ17_copyOf_0 21 rfl rfl)
theorem dJ17_copyOf_22 : decode cJ17_copyOf 22 = .ok (.aload_n 0, 1) := dk_42 (dk_at dksJ17_copyOf_0 22 rfl rfl)
theorem dJ17_copyOf_23 : decode cJ17_copyOf 23 = .ok (.arraylength, 1) := dk_190 (dk_at dksJ17_copyOf_0 23 rfl rfl)
theorem dJ17_copyOf_24 : decode cJ17_copyOf 24 = .ok (.iload_n 1, 1) := dk_27 (dk_at dksJ17_copyOf_1 0 rfl rfl)
theorem dJ17_copyOf_25 : decode cJ17_copyOf 25 = .ok (.invokestatic 304, 3) := dk_184 1 48 (dk_at dksJ17_copyOf_1 1 rfl rfl)
theorem dJ17_copyOf_28 : decode cJ17_copyOf 28 = .ok (.invokestatic 150, 3) := dk_184 0 150 (dk_at dksJ17_copyOf_1 4 rfl rfl)
theorem dJ17_copyOf_31 : decode cJ17_copyOf 31 = .ok (.aload_n 2, 1) := dk_44 (dk_at dksJ17_copyOf_1 7 rfl rfl)
theorem dJ17_copyOf_32 : decode cJ17_copyOf 32 = .ok (.areturn, 1) := dk_176 (dk_at dksJ17_copyOf_1 8 rfl rfl)
abbrev cJ17_copyOfRange : ByteArray := prog_57_method_132_code
def yJ17_copyOfRange : MethodName := ⟨RJ17, "copyOfRange", "([BII)[B"⟩
def dkwJ17_copyOfRange_1 : List UInt8 := [176]
abbrev dktJ17_copyOfRange_1 : List UInt8 := dkwJ17_copyOfRange_1 ++ []
def dkwJ17_copyOfRange_0 : List UInt8 := [27, 154, 0, 9, 28, 42, 190, 159, 0, 10, 42, 27, 28, 184, 1, 83, 176, 42, 182, 1, 54, 192, 1, 55]
abbrev dktJ17_copyOfRange_0 : List UInt8 := dkwJ17_copyOfRange_0 ++ dktJ17_copyOfRange_1
theorem dksJ17_copyOfRange_0 : cJ17_copyOfRange.data.toList.drop 0 = dktJ17_copyOfRange_0 := by decide +kernel
theorem dksJ17_copyOfRange_1 : cJ17_copyOfRange.data.toList.drop 24 = dktJ17_copyOfRange_1 := dk_seg dksJ17_copyOfRange_0 24 rfl rfl
theorem dJ17_copyOfRange_0 : decode cJ17_copyOfRange 0 = .ok (.iload_n 1, 1) := dk_27 (dk_at dksJ17_copyOfRange_0 0 rfl rfl)
theorem dJ17_copyOfRange_1 : decode cJ17_copyOfRange 1 = .ok (.ifCond .ne 9, 3) := dk_154 0 9 (dk_at dksJ17_copyOfRange_0 1 rfl rfl)
theorem dJ17_copyOfRange_4 : decode cJ17_copyOfRange 4 = .ok (.iload_n 2, 1) := dk_28 (dk_at dksJ17_copyOfRange_0 4 rfl rfl)
theorem dJ17_copyOfRange_5 : decode cJ17_copyOfRange 5 = .ok (.aload_n 0, 1) := dk_42 (dk_at dksJ17_copyOfRange_0 5 rfl rfl)
theorem dJ17_copyOfRange_6 : decode cJ17_copyOfRange 6 = .ok (.arraylength, 1) := dk_190 (dk_at dksJ17_copyOfRange_0 6 rfl rfl)
theorem dJ17_copyOfRange_7 : decode cJ17_copyOfRange 7 = .ok (.if_icmp .eq 10, 3) := dk_159 0 10 (dk_at dksJ17_copyOfRange_0 7 rfl rfl)
theorem dJ17_copyOfRange_10 : decode cJ17_copyOfRange 10 = .ok (.aload_n 0, 1) := dk_42 (dk_at dksJ17_copyOfRange_0 10 rfl rfl)
theorem dJ17_copyOfRange_11 : decode cJ17_copyOfRange 11 = .ok (.iload_n 1, 1) := dk_27 (dk_at dksJ17_copyOfRange_0 11 rfl rfl)
theorem dJ17_copyOfRange_12 : decode cJ17_copyOfRange 12 = .ok (.iload_n 2, 1) := dk_28 (dk_at dksJ17_copyOfRange_0 12 rfl rfl)
theorem dJ17_copyOfRange_13 : decode cJ17_copyOfRange 13 = .ok (.invokestatic 339, 3) := dk_184 1 83 (dk_at dksJ17_copyOfRange_0 13 rfl rfl)
theorem dJ17_copyOfRange_16 : decode cJ17_copyOfRange 16 = .ok (.areturn, 1) := dk_176 (dk_at dksJ17_copyOfRange_0 16 rfl rfl)
theorem dJ17_copyOfRange_17 : decode cJ17_copyOfRange 17 = .ok (.aload_n 0, 1) := dk_42 (dk_at dksJ17_copyOfRange_0 17 rfl rfl)
theorem dJ17_copyOfRange_18 : decode cJ17_copyOfRange 18 = .ok (.invokevirtual 310, 3) := dk_182 1 54 (dk_at dksJ17_copyOfRange_0 18 rfl rfl)
theorem dJ17_copyOfRange_21 : decode cJ17_copyOfRange 21 = .ok (.checkcast 311, 3) := dk_192 1 55 (dk_at dksJ17_copyOfRange_0 21 rfl rfl)
theorem dJ17_copyOfRange_24 : decode cJ17_copyOfRange 24 = .ok (.areturn, 1) := dk_176 (dk_at dksJ17_copyOfRange_1 0 rfl rfl)
abbrev cJ17_copyOfRangeByte : ByteArray := prog_57_method_133_code
def yJ17_copyOfRangeByte : MethodName := ⟨RJ17, "copyOfRangeByte", "([BII)[B"⟩
def dkwJ17_copyOfRangeByte_1 : List UInt8 := [184, 1, 48, 184, 0, 150, 25, 4, 176]
abbrev dktJ17_copyOfRangeByte_1 : List UInt8 := dkwJ17_copyOfRangeByte_1 ++ []
def dkwJ17_copyOfRangeByte_0 : List UInt8 := [27, 28, 184, 1, 87, 28, 27, 100, 62, 29, 188, 8, 58, 4, 42, 27, 25, 4, 3, 42, 190, 27, 100, 29]
abbrev dktJ17_copyOfRangeByte_0 : List UInt8 := dkwJ17_copyOfRangeByte_0 ++ dktJ17_copyOfRangeByte_1
theorem dksJ17_copyOfRangeByte_0 : cJ17_copyOfRangeByte.data.toList.drop 0 = dktJ17_copyOfRangeByte_0 := by decide +kernel
theorem dksJ17_copyOfRangeByte_1 : cJ17_copyOfRangeByte.data.toList.drop 24 = dktJ17_copyOfRangeByte_1 := dk_seg dksJ17_copyOfRangeByte_0 24 rfl rfl
theorem dJ17_copyOfRangeByte_0 : decode cJ17_copyOfRangeByte 0 = .ok (.iload_n 1, 1) := dk_27 (dk_at dksJ17_copyOfRangeByte_0 0 rfl rfl)
theorem dJ17_copyOfRangeByte_1 : decode cJ17_copyOfRangeByte 1 = .ok (.iload_n 2, 1) := dk_28 (dk_at dksJ17_copyOfRangeByte_0 1 rfl rfl)
theorem dJ17_copyOfRangeByte_2 : decode cJ17_copyOfRangeByte 2 = .ok (.invokestatic 343, 3) := dk_184 1 87 (dk_at dksJ17_copyOfRangeByte_0 2 rfl rfl)
theorem dJ17_copyOfRangeByte_5 : decode cJ17_copyOfRangeByte 5 = .ok (.iload_n 2, 1) := dk_28 (dk_at dksJ17_copyOfRangeByte_0 5 rfl rfl)
theorem dJ17_copyOfRangeByte_6 : decode cJ17_copyOfRangeByte 6 = .ok (.iload_n 1, 1) := dk_27 (dk_at dksJ17_copyOfRangeByte_0 6 rfl rfl)
theorem dJ17_copyOfRangeByte_7 : decode cJ17_copyOfRangeByte 7 = .ok (.isub, 1) := dk_100 (dk_at dksJ17_copyOfRangeByte_0 7 rfl rfl)
theorem dJ17_copyOfRangeByte_8 : decode cJ17_copyOfRangeByte 8 = .ok (.istore_n 3, 1) := dk_62 (dk_at dksJ17_copyOfRangeByte_0 8 rfl rfl)
theorem dJ17_copyOfRangeByte_9 : decode cJ17_copyOfRangeByte 9 = .ok (.iload_n 3, 1) := dk_29 (dk_at dksJ17_copyOfRangeByte_0 9 rfl rfl)
theorem dJ17_copyOfRangeByte_10 : decode cJ17_copyOfRangeByte 10 = .ok (.newarray .byte, 2) := dk_188_8 (dk_at dksJ17_copyOfRangeByte_0 10 rfl rfl)
theorem dJ17_copyOfRangeByte_12 : decode cJ17_copyOfRangeByte 12 = .ok (.astore 4, 2) := dk_58 4 (dk_at dksJ17_copyOfRangeByte_0 12 rfl rfl)
theorem dJ17_copyOfRangeByte_14 : decode cJ17_copyOfRangeByte 14 = .ok (.aload_n 0, 1) := dk_42 (dk_at dksJ17_copyOfRangeByte_0 14 rfl rfl)
theorem dJ17_copyOfRangeByte_15 : decode cJ17_copyOfRangeByte 15 = .ok (.iload_n 1, 1) := dk_27 (dk_at dksJ17_copyOfRangeByte_0 15 rfl rfl)
theorem dJ17_copyOfRangeByte_16 : decode cJ17_copyOfRangeByte 16 = .ok (.aload 4, 2) := dk_25 4 (dk_at dksJ17_copyOfRangeByte_0 16 rfl rfl)
theorem dJ17_copyOfRangeByte_18 : decode cJ17_copyOfRangeByte 18 = .ok (.iconst 0, 1) := dk_3 (dk_at dksJ17_copyOfRangeByte_0 18 rfl rfl)
theorem dJ17_copyOfRangeByte_19 : decode cJ17_copyOfRangeByte 19 = .ok (.aload_n 0, 1) := dk_42 (dk_at dksJ17_copyOfRangeByte_0 19 rfl rfl)
theorem dJ17_copyOfRangeByte_20 : decode cJ17_copyOfRangeByte 20 = .ok (.arraylength, 1) := dk_190 (dk_at dksJ17_copyOfRangeByte_0 20 rfl rfl)
theorem dJ17_copyOfRangeByte_21 : decode cJ17_copyOfRangeByte 21 = .ok (.iload_n 1, 1) := dk_27 (dk_at dksJ17_copyOfRangeByte_0 21 rfl rfl)
theorem dJ17_copyOfRangeByte_22 : decode cJ17_copyOfRangeByte 22 = .ok (.isub, 1) := dk_100 (dk_at dksJ17_copyOfRangeByte_0 22 rfl rfl)
theorem dJ17_copyOfRangeByte_23 : decode cJ17_copyOfRangeByte 23 = .ok (.iload_n 3, 1) := dk_29 (dk_at dksJ17_copyOfRangeByte_0 23 rfl rfl)
theorem dJ17_copyOfRangeByte_24 : decode cJ17_copyOfRangeByte 24 = .ok (.invokestatic 304, 3) := dk_184 1 48 (dk_at dksJ17_copyOfRangeByte_1 0 rfl rfl)
theorem dJ17_copyOfRangeByte_27 : decode cJ17_copyOfRangeByte 27 = .ok (.invokestatic 150, 3) := dk_184 0 150 (dk_at dksJ17_copyOfRangeByte_1 3 rfl rfl)
theorem dJ17_copyOfRangeByte_30 : decode cJ17_copyOfRangeByte 30 = .ok (.aload 4, 2) := dk_25 4 (dk_at dksJ17_copyOfRangeByte_1 6 rfl rfl)
theorem dJ17_copyOfRangeByte_32 : decode cJ17_copyOfRangeByte 32 = .ok (.areturn, 1) := dk_176 (dk_at dksJ17_copyOfRangeByte_1 8 rfl rfl)
abbrev cJ17_checkLength : ByteArray := prog_57_method_131_code
def yJ17_checkLength : MethodName := ⟨RJ17, "checkLength", "(II)V"⟩
def dkwJ17_checkLength_1 : List UInt8 := [182, 0, 50, 27, 182, 0, 54, 182, 0, 61, 183, 0, 65, 191, 177]
abbrev dktJ17_checkLength_1 : List UInt8 := dkwJ17_checkLength_1 ++ []
def dkwJ17_checkLength_0 : List UInt8 := [27, 26, 162, 0, 35, 187, 0, 43, 89, 187, 0, 45, 89, 183, 0, 47, 26, 182, 0, 54, 19, 1, 81]
abbrev dktJ17_checkLength_0 : List UInt8 := dkwJ17_checkLength_0 ++ dktJ17_checkLength_1
theorem dksJ17_checkLength_0 : cJ17_checkLength.data.toList.drop 0 = dktJ17_checkLength_0 := by decide +kernel
theorem dksJ17_checkLength_1 : cJ17_checkLength.data.toList.drop 23 = dktJ17_checkLength_1 := dk_seg dksJ17_checkLength_0 23 rfl rfl
theorem dJ17_checkLength_0 : decode cJ17_checkLength 0 = .ok (.iload_n 1, 1) := dk_27 (dk_at dksJ17_checkLength_0 0 rfl rfl)
theorem dJ17_checkLength_1 : decode cJ17_checkLength 1 = .ok (.iload_n 0, 1) := dk_26 (dk_at dksJ17_checkLength_0 1 rfl rfl)
theorem dJ17_checkLength_2 : decode cJ17_checkLength 2 = .ok (.if_icmp .ge 35, 3) := dk_162 0 35 (dk_at dksJ17_checkLength_0 2 rfl rfl)
theorem dJ17_checkLength_5 : decode cJ17_checkLength 5 = .ok (.new 43, 3) := dk_187 0 43 (dk_at dksJ17_checkLength_0 5 rfl rfl)
theorem dJ17_checkLength_8 : decode cJ17_checkLength 8 = .ok (.dup, 1) := dk_89 (dk_at dksJ17_checkLength_0 8 rfl rfl)
theorem dJ17_checkLength_9 : decode cJ17_checkLength 9 = .ok (.new 45, 3) := dk_187 0 45 (dk_at dksJ17_checkLength_0 9 rfl rfl)
theorem dJ17_checkLength_12 : decode cJ17_checkLength 12 = .ok (.dup, 1) := dk_89 (dk_at dksJ17_checkLength_0 12 rfl rfl)
theorem dJ17_checkLength_13 : decode cJ17_checkLength 13 = .ok (.invokespecial 47, 3) := dk_183 0 47 (dk_at dksJ17_checkLength_0 13 rfl rfl)
theorem dJ17_checkLength_16 : decode cJ17_checkLength 16 = .ok (.iload_n 0, 1) := dk_26 (dk_at dksJ17_checkLength_0 16 rfl rfl)
theorem dJ17_checkLength_17 : decode cJ17_checkLength 17 = .ok (.invokevirtual 54, 3) := dk_182 0 54 (dk_at dksJ17_checkLength_0 17 rfl rfl)
theorem dJ17_checkLength_20 : decode cJ17_checkLength 20 = .ok (.ldc_w 337, 3) := dk_19 1 81 (dk_at dksJ17_checkLength_0 20 rfl rfl)
theorem dJ17_checkLength_23 : decode cJ17_checkLength 23 = .ok (.invokevirtual 50, 3) := dk_182 0 50 (dk_at dksJ17_checkLength_1 0 rfl rfl)
theorem dJ17_checkLength_26 : decode cJ17_checkLength 26 = .ok (.iload_n 1, 1) := dk_27 (dk_at dksJ17_checkLength_1 3 rfl rfl)
theorem dJ17_checkLength_27 : decode cJ17_checkLength 27 = .ok (.invokevirtual 54, 3) := dk_182 0 54 (dk_at dksJ17_checkLength_1 4 rfl rfl)
theorem dJ17_checkLength_30 : decode cJ17_checkLength 30 = .ok (.invokevirtual 61, 3) := dk_182 0 61 (dk_at dksJ17_checkLength_1 7 rfl rfl)
theorem dJ17_checkLength_33 : decode cJ17_checkLength 33 = .ok (.invokespecial 65, 3) := dk_183 0 65 (dk_at dksJ17_checkLength_1 10 rfl rfl)
theorem dJ17_checkLength_36 : decode cJ17_checkLength 36 = .ok (.athrow, 1) := dk_191 (dk_at dksJ17_checkLength_1 13 rfl rfl)
theorem dJ17_checkLength_37 : decode cJ17_checkLength 37 = .ok (.return_, 1) := dk_177 (dk_at dksJ17_checkLength_1 14 rfl rfl)
abbrev cJ17_copyOf_2 : ByteArray := prog_57_method_119_code
def yJ17_copyOf_2 : MethodName := ⟨RJ17, "copyOf", "([Ljava/lang/Object;I)[Ljava/lang/Object;"⟩
def dkwJ17_copyOf_2_0 : List UInt8 := [42, 27, 42, 182, 0, 86, 184, 1, 44, 176]
abbrev dktJ17_copyOf_2_0 : List UInt8 := dkwJ17_copyOf_2_0 ++ []
theorem dksJ17_copyOf_2_0 : cJ17_copyOf_2.data.toList.drop 0 = dktJ17_copyOf_2_0 := by decide +kernel
theorem dJ17_copyOf_2_0 : decode cJ17_copyOf_2 0 = .ok (.aload_n 0, 1) := dk_42 (dk_at dksJ17_copyOf_2_0 0 rfl rfl)
theorem dJ17_copyOf_2_1 : decode cJ17_copyOf_2 1 = .ok (.iload_n 1, 1) := dk_27 (dk_at dksJ17_copyOf_2_0 1 rfl rfl)
theorem dJ17_copyOf_2_2 : decode cJ17_copyOf_2 2 = .ok (.aload_n 0, 1) := dk_42 (dk_at dksJ17_copyOf_2_0 2 rfl rfl)
theorem dJ17_copyOf_2_3 : decode cJ17_copyOf_2 3 = .ok (.invokevirtual 86, 3) := dk_182 0 86 (dk_at dksJ17_copyOf_2_0 3 rfl rfl)
theorem dJ17_copyOf_2_6 : decode cJ17_copyOf_2 6 = .ok (.invokestatic 300, 3) := dk_184 1 44 (dk_at dksJ17_copyOf_2_0 6 rfl rfl)
theorem dJ17_copyOf_2_9 : decode cJ17_copyOf_2 9 = .ok (.areturn, 1) := dk_176 (dk_at dksJ17_copyOf_2_0 9 rfl rfl)
abbrev cJ17_copyOf_3 : ByteArray := prog_57_method_120_code
def yJ17_copyOf_3 : MethodName := ⟨RJ17, "copyOf", "([Ljava/lang/Object;ILjava/lang/Class;)[Ljava/lang/Object;"⟩
def dkwJ17_copyOf_3_1 : List UInt8 := [78, 42, 3, 45, 3, 42, 190, 27, 184, 1, 48, 184, 0, 150, 45, 176]
abbrev dktJ17_copyOf_3_1 : List UInt8 := dkwJ17_copyOf_3_1 ++ []
def dkwJ17_copyOf_3_0 : List UInt8 := [44, 18, 110, 166, 0, 10, 27, 189, 0, 2, 167, 0, 14, 44, 182, 0, 90, 27, 184, 0, 95, 192, 0, 110]
abbrev dktJ17_copyOf_3_0 : List UInt8 := dkwJ17_copyOf_3_0 ++ dktJ17_copyOf_3_1
theorem dksJ17_copyOf_3_0 : cJ17_copyOf_3.data.toList.drop 0 = dktJ17_copyOf_3_0 := by decide +kernel
theorem dksJ17_copyOf_3_1 : cJ17_copyOf_3.data.toList.drop 24 = dktJ17_copyOf_3_1 := dk_seg dksJ17_copyOf_3_0 24 rfl rfl
theorem dJ17_copyOf_3_0 : decode cJ17_copyOf_3 0 = .ok (.aload_n 2, 1) := dk_44 (dk_at dksJ17_copyOf_3_0 0 rfl rfl)
theorem dJ17_copyOf_3_1 : decode cJ17_copyOf_3 1 = .ok (.ldc 110, 2) := dk_18 110 (dk_at dksJ17_copyOf_3_0 1 rfl rfl)
theorem dJ17_copyOf_3_3 : decode cJ17_copyOf_3 3 = .ok (.if_acmp .ne 10, 3) := dk_166 0 10 (dk_at dksJ17_copyOf_3_0 3 rfl rfl)
theorem dJ17_copyOf_3_6 : decode cJ17_copyOf_3 6 = .ok (.iload_n 1, 1) := dk_27 (dk_at dksJ17_copyOf_3_0 6 rfl rfl)
theorem dJ17_copyOf_3_7 : decode cJ17_copyOf_3 7 = .ok (.anewarray 2, 3) := dk_189 0 2 (dk_at dksJ17_copyOf_3_0 7 rfl rfl)
theorem dJ17_copyOf_3_10 : decode cJ17_copyOf_3 10 = .ok (.goto 14, 3) := dk_167 0 14 (dk_at dksJ17_copyOf_3_0 10 rfl rfl)
theorem dJ17_copyOf_3_13 : decode cJ17_copyOf_3 13 = .ok (.aload_n 2, 1) := dk_44 (dk_at dksJ17_copyOf_3_0 13 rfl rfl)
theorem dJ17_copyOf_3_14 : decode cJ17_copyOf_3 14 = .ok (.invokevirtual 90, 3) := dk_182 0 90 (dk_at dksJ17_copyOf_3_0 14 rfl rfl)
theorem dJ17_copyOf_3_17 : decode cJ17_copyOf_3 17 = .ok (.iload_n 1, 1) := dk_27 (dk_at dksJ17_copyOf_3_0 17 rfl rfl)
theorem dJ17_copyOf_3_18 : decode cJ17_copyOf_3 18 = .ok (.invokestatic 95, 3) := dk_184 0 95 (dk_at dksJ17_copyOf_3_0 18 rfl rfl)
theorem dJ17_copyOf_3_21 : decode cJ17_copyOf_3 21 = .ok (.checkcast 110, 3) := dk_192 0 110 (dk_at dksJ17_copyOf_3_0 21 rfl rfl)
theorem dJ17_copyOf_3_24 : decode cJ17_copyOf_3 24 = .ok (.astore_n 3, 1) := dk_78 (dk_at dksJ17_copyOf_3_1 0 rfl rfl)
theorem dJ17_copyOf_3_25 : decode cJ17_copyOf_3 25 = .ok (.aload_n 0, 1) := dk_42 (dk_at dksJ17_copyOf_3_1 1 rfl rfl)
theorem dJ17_copyOf_3_26 : decode cJ17_copyOf_3 26 = .ok (.iconst 0, 1) := dk_3 (dk_at dksJ17_copyOf_3_1 2 rfl rfl)
theorem dJ17_copyOf_3_27 : decode cJ17_copyOf_3 27 = .ok (.aload_n 3, 1) := dk_45 (dk_at dksJ17_copyOf_3_1 3 rfl rfl)
theorem dJ17_copyOf_3_28 : decode cJ17_copyOf_3 28 = .ok (.iconst 0, 1) := dk_3 (dk_at dksJ17_copyOf_3_1 4 rfl rfl)
theorem dJ17_copyOf_3_29 : decode cJ17_copyOf_3 29 = .ok (.aload_n 0, 1) := dk_42 (dk_at dksJ17_copyOf_3_1 5 rfl rfl)
theorem dJ17_copyOf_3_30 : decode cJ17_copyOf_3 30 = .ok (.arraylength, 1) := dk_190 (dk_at dksJ17_copyOf_3_1 6 rfl rfl)
theorem dJ17_copyOf_3_31 : decode cJ17_copyOf_3 31 = .ok (.iload_n 1, 1) := dk_27 (dk_at dksJ17_copyOf_3_1 7 rfl rfl)
theorem dJ17_copyOf_3_32 : decode cJ17_copyOf_3 32 = .ok (.invokestatic 304, 3) := dk_184 1 48 (dk_at dksJ17_copyOf_3_1 8 rfl rfl)
theorem dJ17_copyOf_3_35 : decode cJ17_copyOf_3 35 = .ok (.invokestatic 150, 3) := dk_184 0 150 (dk_at dksJ17_copyOf_3_1 11 rfl rfl)
theorem dJ17_copyOf_3_38 : decode cJ17_copyOf_3 38 = .ok (.aload_n 3, 1) := dk_45 (dk_at dksJ17_copyOf_3_1 14 rfl rfl)
theorem dJ17_copyOf_3_39 : decode cJ17_copyOf_3 39 = .ok (.areturn, 1) := dk_176 (dk_at dksJ17_copyOf_3_1 15 rfl rfl)
abbrev cJ17_fill : ByteArray := prog_57_method_103_code
def yJ17_fill : MethodName := ⟨RJ17, "fill", "([II)V"⟩
def dkwJ17_fill_0 : List UInt8 := [3, 61, 42, 190, 62, 28, 29, 162, 0, 13, 42, 28, 27, 79, 132, 2, 1, 167, 255, 244, 177]
abbrev dktJ17_fill_0 : List UInt8 := dkwJ17_fill_0 ++ []
theorem dksJ17_fill_0 : cJ17_fill.data.toList.drop 0 = dktJ17_fill_0 := by decide +kernel
theorem dJ17_fill_0 : decode cJ17_fill 0 = .ok (.iconst 0, 1) := dk_3 (dk_at dksJ17_fill_0 0 rfl rfl)
theorem dJ17_fill_1 : decode cJ17_fill 1 = .ok (.istore_n 2, 1) := dk_61 (dk_at dksJ17_fill_0 1 rfl rfl)
theorem dJ17_fill_2 : decode cJ17_fill 2 = .ok (.aload_n 0, 1) := dk_42 (dk_at dksJ17_fill_0 2 rfl rfl)
theorem dJ17_fill_3 : decode cJ17_fill 3 = .ok (.arraylength, 1) := dk_190 (dk_at dksJ17_fill_0 3 rfl rfl)
theorem dJ17_fill_4 : decode cJ17_fill 4 = .ok (.istore_n 3, 1) := dk_62 (dk_at dksJ17_fill_0 4 rfl rfl)
theorem dJ17_fill_5 : decode cJ17_fill 5 = .ok (.iload_n 2, 1) := dk_28 (dk_at dksJ17_fill_0 5 rfl rfl)
theorem dJ17_fill_6 : decode cJ17_fill 6 = .ok (.iload_n 3, 1) := dk_29 (dk_at dksJ17_fill_0 6 rfl rfl)
theorem dJ17_fill_7 : decode cJ17_fill 7 = .ok (.if_icmp .ge 13, 3) := dk_162 0 13 (dk_at dksJ17_fill_0 7 rfl rfl)
theorem dJ17_fill_10 : decode cJ17_fill 10 = .ok (.aload_n 0, 1) := dk_42 (dk_at dksJ17_fill_0 10 rfl rfl)
theorem dJ17_fill_11 : decode cJ17_fill 11 = .ok (.iload_n 2, 1) := dk_28 (dk_at dksJ17_fill_0 11 rfl rfl)
theorem dJ17_fill_12 : decode cJ17_fill 12 = .ok (.iload_n 1, 1) := dk_27 (dk_at dksJ17_fill_0 12 rfl rfl)
theorem dJ17_fill_13 : decode cJ17_fill 13 = .ok (.iastore, 1) := dk_79 (dk_at dksJ17_fill_0 13 rfl rfl)
theorem dJ17_fill_14 : decode cJ17_fill 14 = .ok (.iinc 2 1, 3) := dk_132 2 1 (dk_at dksJ17_fill_0 14 rfl rfl)
theorem dJ17_fill_17 : decode cJ17_fill 17 = .ok (.goto (-12), 3) := dk_167 255 244 (dk_at dksJ17_fill_0 17 rfl rfl)
theorem dJ17_fill_20 : decode cJ17_fill 20 = .ok (.return_, 1) := dk_177 (dk_at dksJ17_fill_0 20 rfl rfl)
theorem q133 : (Jvm.Cond.initialized "java/util/Arrays") ∈ lw_all := lw_g (lw_at lw_m1 25 rfl) rfl
theorem q603 : (Jvm.Cond.static ({ cls := "java/util/Arrays", name := "copyOf", desc := "([BI)[B" } : Jvm.MethodName)) ∈ lw_all := lw_g (lw_at lw_m3 15 rfl) rfl
theorem q604 : (Jvm.Cond.code ({ cls := "java/util/Arrays", name := "copyOf", desc := "([BI)[B" } : Jvm.MethodName) prog_57_method_121_code (3 : Nat) (Option.some (Jvm.ClassFile.FieldType.array Jvm.ClassFile.FieldType.byte))) ∈ lw_all := lw_g (lw_at lw_m3 16 rfl) rfl
theorem q605 : (Jvm.Cond.methodLink "java/util/Arrays" (310 : Nat) ({ cls := "[B", name := "clone", desc := "()Ljava/lang/Object;" } : Jvm.MethodName)) ∈ lw_all := lw_g (lw_at lw_m3 17 rfl) rfl
theorem q611 : (Jvm.Cond.classLink "java/util/Arrays" (311 : Nat) "[B") ∈ lw_all := lw_g (lw_at lw_m3 23 rfl) rfl
theorem q612 : (Jvm.Cond.methodLink "java/util/Arrays" (304 : Nat) ({ cls := "java/lang/Math", name := "min", desc := "(II)I" } : Jvm.MethodName)) ∈ lw_all := lw_g (lw_at lw_m3 24 rfl) rfl
theorem q615 : (Jvm.Cond.methodLink "java/util/Arrays" (150 : Nat) ({ cls := "java/lang/System", name := "arraycopy", desc := "(Ljava/lang/Object;ILjava/lang/Object;II)V" } : Jvm.MethodName)) ∈ lw_all := lw_g (lw_at lw_m3 27 rfl) rfl
theorem q703 : (Jvm.Cond.static ({ cls := "java/util/Arrays", name := "copyOfRange", desc := "([BII)[B" } : Jvm.MethodName)) ∈ lw_all := lw_g (lw_at lw_m3 115 rfl) rfl
theorem q704 : (Jvm.Cond.code ({ cls := "java/util/Arrays", name := "copyOfRange", desc := "([BII)[B" } : Jvm.MethodName) prog_57_method_132_code (3 : Nat) (Option.some (Jvm.ClassFile.FieldType.array Jvm.ClassFile.FieldType.byte))) ∈ lw_all := lw_g (lw_at lw_m3 116 rfl) rfl
theorem q705 : (Jvm.Cond.methodLink "java/util/Arrays" (339 : Nat) ({ cls := "java/util/Arrays", name := "copyOfRangeByte", desc := "([BII)[B" } : Jvm.MethodName)) ∈ lw_all := lw_g (lw_at lw_m3 117 rfl) rfl
theorem q706 : (Jvm.Cond.static ({ cls := "java/util/Arrays", name := "copyOfRangeByte", desc := "([BII)[B" } : Jvm.MethodName)) ∈ lw_all := lw_g (lw_at lw_m3 118 rfl) rfl
theorem q707 : (Jvm.Cond.code ({ cls := "java/util/Arrays", name := "copyOfRangeByte", desc := "([BII)[B" } : Jvm.MethodName) prog_57_method_133_code (5 : Nat) (Option.some (Jvm.ClassFile.FieldType.array Jvm.ClassFile.FieldType.byte))) ∈ lw_all := lw_g (lw_at lw_m3 119 rfl) rfl
theorem q708 : (Jvm.Cond.methodLink "java/util/Arrays" (343 : Nat) ({ cls := "java/util/Arrays", name := "checkLength", desc := "(II)V" } : Jvm.MethodName)) ∈ lw_all := lw_g (lw_at lw_m3 120 rfl) rfl
theorem q709 : (Jvm.Cond.static ({ cls := "java/util/Arrays", name := "checkLength", desc := "(II)V" } : Jvm.MethodName)) ∈ lw_all := lw_g (lw_at lw_m3 121 rfl) rfl
theorem q710 : (Jvm.Cond.code ({ cls := "java/util/Arrays", name := "checkLength", desc := "(II)V" } : Jvm.MethodName) prog_57_method_131_code (2 : Nat) (Option.none : Option Jvm.ClassFile.FieldType)) ∈ lw_all := lw_g (lw_at lw_m3 122 rfl) rfl
theorem q711 : (Jvm.Cond.classLink "java/util/Arrays" (43 : Nat) "java/lang/IllegalArgumentException") ∈ lw_all := lw_g (lw_at lw_m3 123 rfl) rfl
theorem q720 : (Jvm.Cond.classLink "java/util/Arrays" (45 : Nat) "java/lang/StringBuilder") ∈ lw_all := lw_g (lw_at lw_m3 132 rfl) rfl
theorem q721 : (Jvm.Cond.methodLink "java/util/Arrays" (47 : Nat) ({ cls := "java/lang/StringBuilder", name := "<init>", desc := "()V" } : Jvm.MethodName)) ∈ lw_all := lw_g (lw_at lw_m3 133 rfl) rfl
theorem q722 : (Jvm.Cond.methodLink "java/util/Arrays" (54 : Nat) ({ cls := "java/lang/StringBuilder", name := "append", desc := "(I)Ljava/lang/StringBuilder;" } : Jvm.MethodName)) ∈ lw_all := lw_g (lw_at lw_m3 134 rfl) rfl
theorem q756 : (Jvm.Cond.stringRef "java/util/Arrays" (337 : Nat) " > ") ∈ lw_tbl := lw_at lw_m3 168 rfl
theorem q757 : (Jvm.Cond.methodLink "java/util/Arrays" (50 : Nat) ({ cls := "java/lang/StringBuilder", name := "append", desc := "(Ljava/lang/String;)Ljava/lang/StringBuilder;" } : Jvm.MethodName)) ∈ lw_all := lw_g (lw_at lw_m3 169 rfl) rfl
theorem q795 : (Jvm.Cond.methodLink "java/util/Arrays" (61 : Nat) ({ cls := "java/lang/StringBuilder", name := "toString", desc := "()Ljava/lang/String;" } : Jvm.MethodName)) ∈ lw_all := lw_g (lw_at lw_m3 207 rfl) rfl
theorem q796 : (Jvm.Cond.methodLink "java/util/Arrays" (65 : Nat) ({ cls := "java/lang/IllegalArgumentException", name := "<init>", desc := "(Ljava/lang/String;)V" } : Jvm.MethodName)) ∈ lw_all := lw_g (lw_at lw_m3 208 rfl) rfl
theorem q1464 : (Jvm.Cond.static ({ cls := "java/util/Arrays", name := "copyOf", desc := "([Ljava/lang/Object;I)[Ljava/lang/Object;" } : Jvm.MethodName)) ∈ lw_all := lw_g (lw_at lw_m6 156 rfl) rfl
theorem q1465 : (Jvm.Cond.code ({ cls := "java/util/Arrays", name := "copyOf", desc := "([Ljava/lang/Object;I)[Ljava/lang/Object;" } : Jvm.MethodName) prog_57_method_119_code (2 : Nat) (Option.some (Jvm.ClassFile.FieldType.array (Jvm.ClassFile.FieldType.object "java/lang/Object")))) ∈ lw_all := lw_g (lw_at lw_m6 157 rfl) rfl
theorem q1466 : (Jvm.Cond.methodLink "java/util/Arrays" (86 : Nat) ({ cls := "java/lang/Object", name := "getClass", desc := "()Ljava/lang/Class;" } : Jvm.MethodName)) ∈ lw_all := lw_g (lw_at lw_m6 158 rfl) rfl
theorem q1467 : (Jvm.Cond.methodLink "java/util/Arrays" (300 : Nat) ({ cls := "java/util/Arrays", name := "copyOf", desc := "([Ljava/lang/Object;ILjava/lang/Class;)[Ljava/lang/Object;" } : Jvm.MethodName)) ∈ lw_all := lw_g (lw_at lw_m6 159 rfl) rfl
theorem q1468 : (Jvm.Cond.static ({ cls := "java/util/Arrays", name := "copyOf", desc := "([Ljava/lang/Object;ILjava/lang/Class;)[Ljava/lang/Object;" } : Jvm.MethodName)) ∈ lw_all := lw_g (lw_at lw_m6 160 rfl) rfl
theorem q1469 : (Jvm.Cond.code ({ cls := "java/util/Arrays", name := "copyOf", desc := "([Ljava/lang/Object;ILjava/lang/Class;)[Ljava/lang/Object;" } : Jvm.MethodName) prog_57_method_120_code (4 : Nat) (Option.some (Jvm.ClassFile.FieldType.array (Jvm.ClassFile.FieldType.object "java/lang/Object")))) ∈ lw_all := lw_g (lw_at lw_m6 161 rfl) rfl
theorem q1470 : (Jvm.Cond.classLink "java/util/Arrays" (110 : Nat) "[Ljava/lang/Object;") ∈ lw_all := lw_g (lw_at lw_m6 162 rfl) rfl
theorem q1472 : (Jvm.Cond.classLink "java/util/Arrays" (2 : Nat) "java/lang/Object") ∈ lw_all := lw_g (lw_at lw_m6 164 rfl) rfl
theorem q3139 : (Jvm.Cond.static ({ cls := "java/util/Arrays", name := "fill", desc := "([II)V" } : Jvm.MethodName)) ∈ lw_all := lw_g (lw_at lw_m13 151 rfl) rfl
theorem q3140 : (Jvm.Cond.code ({ cls := "java/util/Arrays", name := "fill", desc := "([II)V" } : Jvm.MethodName) prog_57_method_103_code (4 : Nat) (Option.none : Option Jvm.ClassFile.FieldType)) ∈ lw_all := lw_g (lw_at lw_m13 152 rfl) rfl
/-! java/lang/StringLatin1 -/
set_option maxRecDepth 100000
def RJ18 : String := "java/lang/StringLatin1"
abbrev cJ18_canEncode : ByteArray := prog_46_method_3_code
def yJ18_canEncode : MethodName := ⟨RJ18, "canEncode", "(C)Z"⟩
def dkwJ18_canEncode_0 : List UInt8 := [26, 17, 0, 255, 163, 0, 7, 4, 167, 0, 4, 3, 172]
abbrev dktJ18_canEncode_0 : List UInt8 := dkwJ18_canEncode_0 ++ []
theorem dksJ18_canEncode_0 : cJ18_canEncode.data.toList.drop 0 = dktJ18_canEncode_0 := by decide +kernel
theorem dJ18_canEncode_0 : decode cJ18_canEncode 0 = .ok (.iload_n 0, 1) := dk_26 (dk_at dksJ18_canEncode_0 0 rfl rfl)
theorem dJ18_canEncode_1 : decode cJ18_canEncode 1 = .ok (.sipush 255, 3) := dk_17 0 255 (dk_at dksJ18_canEncode_0 1 rfl rfl)
theorem dJ18_canEncode_4 : decode cJ18_canEncode 4 = .ok (.if_icmp .gt 7, 3) := dk_163 0 7 (dk_at dksJ18_canEncode_0 4 rfl rfl)
theorem dJ18_canEncode_7 : decode cJ18_canEncode 7 = .ok (.iconst 1, 1) := dk_4 (dk_at dksJ18_canEncode_0 7 rfl rfl)
theorem dJ18_canEncode_8 : decode cJ18_canEncode 8 = .ok (.goto 4, 3) := dk_167 0 4 (dk_at dksJ18_canEncode_0 8 rfl rfl)
theorem dJ18_canEncode_11 : decode cJ18_canEncode 11 = .ok (.iconst 0, 1) := dk_3 (dk_at dksJ18_canEncode_0 11 rfl rfl)
theorem dJ18_canEncode_12 : decode cJ18_canEncode 12 = .ok (.ireturn, 1) := dk_172 (dk_at dksJ18_canEncode_0 12 rfl rfl)
abbrev cJ18_inflate : ByteArray := prog_46_method_50_code
def yJ18_inflate : MethodName := ⟨RJ18, "inflate", "([BI[BII)V"⟩
def dkwJ18_inflate_0 : List UInt8 := [42, 27, 44, 29, 21, 4, 184, 0, 240, 177]
abbrev dktJ18_inflate_0 : List UInt8 := dkwJ18_inflate_0 ++ []
theorem dksJ18_inflate_0 : cJ18_inflate.data.toList.drop 0 = dktJ18_inflate_0 := by decide +kernel
theorem dJ18_inflate_0 : decode cJ18_inflate 0 = .ok (.aload_n 0, 1) := dk_42 (dk_at dksJ18_inflate_0 0 rfl rfl)
theorem dJ18_inflate_1 : decode cJ18_inflate 1 = .ok (.iload_n 1, 1) := dk_27 (dk_at dksJ18_inflate_0 1 rfl rfl)
theorem dJ18_inflate_2 : decode cJ18_inflate 2 = .ok (.aload_n 2, 1) := dk_44 (dk_at dksJ18_inflate_0 2 rfl rfl)
theorem dJ18_inflate_3 : decode cJ18_inflate 3 = .ok (.iload_n 3, 1) := dk_29 (dk_at dksJ18_inflate_0 3 rfl rfl)
theorem dJ18_inflate_4 : decode cJ18_inflate 4 = .ok (.iload 4, 2) := dk_21 4 (dk_at dksJ18_inflate_0 4 rfl rfl)
theorem dJ18_inflate_6 : decode cJ18_inflate 6 = .ok (.invokestatic 240, 3) := dk_184 0 240 (dk_at dksJ18_inflate_0 6 rfl rfl)
theorem dJ18_inflate_9 : decode cJ18_inflate 9 = .ok (.return_, 1) := dk_177 (dk_at dksJ18_inflate_0 9 rfl rfl)
abbrev cJ18_equals : ByteArray := prog_46_method_13_code
def yJ18_equals : MethodName := ⟨RJ18, "equals", "([B[B)Z"⟩
def dkwJ18_equals_1 : List UInt8 := [3, 172, 132, 2, 1, 167, 255, 236, 4, 172, 3, 172]
abbrev dktJ18_equals_1 : List UInt8 := dkwJ18_equals_1 ++ []
def dkwJ18_equals_0 : List UInt8 := [42, 190, 43, 190, 160, 0, 30, 3, 61, 28, 42, 190, 162, 0, 20, 42, 28, 51, 43, 28, 51, 159, 0, 5]
abbrev dktJ18_equals_0 : List UInt8 := dkwJ18_equals_0 ++ dktJ18_equals_1
theorem dksJ18_equals_0 : cJ18_equals.data.toList.drop 0 = dktJ18_equals_0 := by decide +kernel
theorem dksJ18_equals_1 : cJ18_equals.data.toList.drop 24 = dktJ18_equals_1 := dk_seg dksJ18_equals_0 24 rfl rfl
theorem dJ18_equals_0 : decode cJ18_equals 0 = .ok (.aload_n 0, 1) := dk_42 (dk_at dksJ18_equals_0 0 rfl rfl)
theorem dJ18_equals_1 : decode cJ18_equals 1 = .ok (.arraylength, 1) := dk_190 (dk_at dksJ18_equals_0 1 rfl rfl)
theorem dJ18_equals_2 : decode cJ18_equals 2 = .ok (.aload_n 1, 1) := dk_43 (dk_at dksJ18_equals_0 2 rfl rfl)
theorem dJ18_equals_3 : decode cJ18_equals 3 = .ok (.arraylength, 1) := dk_190 (dk_at dksJ18_equals_0 3 rfl rfl)
theorem dJ18_equals_4 : decode cJ18_equals 4 = .ok (.if_icmp .ne 30, 3) := dk_160 0 30 (dk_at dksJ18_equals_0 4 rfl rfl)
theorem dJ18_equals_7 : decode cJ18_equals 7 = .ok (.iconst 0, 1) := dk_3 (dk_at dksJ18_equals_0 7 rfl rfl)
theorem dJ18_equals_8 : decode cJ18_equals 8 = .ok (.istore_n 2, 1) := dk_61 (dk_at dksJ18_equals_0 8 rfl rfl)
theorem dJ18_equals_9 : decode cJ18_equals 9 = .ok (.iload_n 2, 1) := dk_28 (dk_at dksJ18_equals_0 9 rfl rfl)
theorem dJ18_equals_10 : decode cJ18_equals 10 = .ok (.aload_n 0, 1) := dk_42 (dk_at dksJ18_equals_0 10 rfl rfl)
theorem dJ18_equals_11 : decode cJ18_equals 11 = .ok (.arraylength, 1) := dk_190 (dk_at dksJ18_equals_0 11 rfl rfl)
theorem dJ18_equals_12 : decode cJ18_equals 12 = .ok (.if_icmp .ge 20, 3) := dk_162 0 20 (dk_at dksJ18_equals_0 12 rfl rfl)
theorem dJ18_equals_15 : decode cJ18_equals 15 = .ok (.aload_n 0, 1) := dk_42 (dk_at dksJ18_equals_0 15 rfl rfl)
theorem dJ18_equals_16 : decode cJ18_equals 16 = .ok (.iload_n 2, 1) := dk_28 (dk_at dksJ18_equals_0 16 rfl rfl)
theorem dJ18_equals_17 : decode cJ18_equals 17 = .ok (.baload, 1) := dk_51 (dk_at dksJ18_equals_0 17 rfl rfl)
theorem dJ18_equals_18 : decode cJ18_equals 18 = .ok (.aload_n 1, 1) := dk_43 (dk_at dksJ18_equals_0 18 rfl rfl)
theorem dJ18_equals_19 : decode cJ18_equals 19 = .ok (.iload_n 2, 1) := dk_28 (dk_at dksJ18_equals_0 19 rfl rfl)
theorem dJ18_equals_20 : decode cJ18_equals 20 = .ok (.baload, 1) := dk_51 (dk_at dksJ18_equals_0 20 rfl rfl)
theorem dJ18_equals_21 : decode cJ18_equals 21 = .ok (.if_icmp .eq 5, 3) := dk_159 0 5 (dk_at dksJ18_equals_0 21 rfl rfl)
theorem dJ18_equals_24 : decode cJ18_equals 24 = .ok (.iconst 0, 1) := dk_3 (dk_at dksJ18_equals_1 0 rfl rfl)
theorem dJ18_equals_25 : decode cJ18_equals 25 = .ok (.ireturn, 1) := dk_172 (dk_at dksJ18_equals_1 1 rfl rfl)
theorem dJ18_equals_26 : decode cJ18_equals 26 = .ok (.iinc 2 1, 3) := dk_132 2 1 (dk_at dksJ18_equals_1 2 rfl rfl)
theorem dJ18_equals_29 : decode cJ18_equals 29 = .ok (.goto (-20), 3) := dk_167 255 236 (dk_at dksJ18_equals_1 5 rfl rfl)
theorem dJ18_equals_32 : decode cJ18_equals 32 = .ok (.iconst 1, 1) := dk_4 (dk_at dksJ18_equals_1 8 rfl rfl)
theorem dJ18_equals_33 : decode cJ18_equals 33 = .ok (.ireturn, 1) := dk_172 (dk_at dksJ18_equals_1 9 rfl rfl)
theorem dJ18_equals_34 : decode cJ18_equals 34 = .ok (.iconst 0, 1) := dk_3 (dk_at dksJ18_equals_1 10 rfl rfl)
theorem dJ18_equals_35 : decode cJ18_equals 35 = .ok (.ireturn, 1) := dk_172 (dk_at dksJ18_equals_1 11 rfl rfl)
abbrev cJ18_hashCode : ByteArray := prog_46_method_21_code
def yJ18_hashCode : MethodName := ⟨RJ18, "hashCode", "([B)I"⟩
def dkwJ18_hashCode_2 : List UInt8 := [3, 167, 0, 22, 42, 3, 51, 17, 0, 255, 126, 167, 0, 12, 42, 3, 42, 190, 3, 7, 184, 0, 84, 172]
abbrev dktJ18_hashCode_2 : List UInt8 := dkwJ18_hashCode_2 ++ []
def dkwJ18_hashCode_1 : List UInt8 := [171, 0, 0, 0, 0, 40, 0, 0, 0, 2, 0, 0, 0, 0, 0, 0, 0, 26, 0, 0, 0, 1, 0, 0, 0, 30]
abbrev dktJ18_hashCode_1 : List UInt8 := dkwJ18_hashCode_1 ++ dktJ18_hashCode_2
def dkwJ18_hashCode_0 : List UInt8 := [42, 190]
abbrev dktJ18_hashCode_0 : List UInt8 := dkwJ18_hashCode_0 ++ dktJ18_hashCode_1
theorem dksJ18_hashCode_0 : cJ18_hashCode.data.toList.drop 0 = dktJ18_hashCode_0 := by decide +kernel
theorem dksJ18_hashCode_1 : cJ18_hashCode.data.toList.drop 2 = dktJ18_hashCode_1 := dk_seg dksJ18_hashCode_0 2 rfl rfl
theorem dksJ18_hashCode_2 : cJ18_hashCode.data.toList.drop 28 = dktJ18_hashCode_2 := dk_seg dksJ18_hashCode_1 26 rfl rfl
theorem dJ18_hashCode_0 : decode cJ18_hashCode 0 = .ok (.aload_n 0, 1) := dk_42 (dk_at dksJ18_hashCode_0 0 rfl rfl)
theorem dJ18_hashCode_1 : decode cJ18_hashCode 1 = .ok (.arraylength, 1) := dk_190 (dk_at dksJ18_hashCode_0 1 rfl rfl)
theorem dJ18_hashCode_2 : decode cJ18_hashCode 2 = .ok (.lookupswitch 40 #[(0, 26), (1, 30)], 26) := by decide +kernel
theorem dJ18_hashCode_28 : decode cJ18_hashCode 28 = .ok (.iconst 0, 1) := dk_3 (dk_at dksJ18_hashCode_2 0 rfl rfl)
theorem dJ18_hashCode_29 : decode cJ18_hashCode 29 = .ok (.goto 22, 3) := dk_167 0 22 (dk_at dksJ18_hashCode_2 1 rfl rfl)
theorem dJ18_hashCode_32 : decode cJ18_hashCode 32 = .ok (.aload_n 0, 1) := dk_42 (dk_at dksJ18_hashCode_2 4 rfl rfl)
theorem dJ18_hashCode_33 : decode cJ18_hashCode 33 = .ok (.iconst 0, 1) := dk_3 (dk_at dksJ18_hashCode_2 5 rfl rfl)
theorem dJ18_hashCode_34 : decode cJ18_hashCode 34 = .ok (.baload, 1) := dk_51 (dk_at dksJ18_hashCode_2 6 rfl rfl)
theorem dJ18_hashCode_35 : decode cJ18_hashCode 35 = .ok (.sipush 255, 3) := dk_17 0 255 (dk_at dksJ18_hashCode_2 7 rfl rfl)
theorem dJ18_hashCode_38 : decode cJ18_hashCode 38 = .ok (.iand, 1) := dk_126 (dk_at dksJ18_hashCode_2 10 rfl rfl)
theorem dJ18_hashCode_39 : decode cJ18_hashCode 39 = .ok (.goto 12, 3) := dk_167 0 12 (dk_at dksJ18_hashCode_2 11 rfl rfl)
theorem dJ18_hashCode_42 : decode cJ18_hashCode 42 = .ok (.aload_n 0, 1) := dk_42 (dk_at dksJ18_hashCode_2 14 rfl rfl)
theorem dJ18_hashCode_43 : decode cJ18_hashCode 43 = .ok (.iconst 0, 1) := dk_3 (dk_at dksJ18_hashCode_2 15 rfl rfl)
theorem dJ18_hashCode_44 : decode cJ18_hashCode 44 = .ok (.aload_n 0, 1) := dk_42 (dk_at dksJ18_hashCode_2 16 rfl rfl)
theorem dJ18_hashCode_45 : decode cJ18_hashCode 45 = .ok (.arraylength, 1) := dk_190 (dk_at dksJ18_hashCode_2 17 rfl rfl)
theorem dJ18_hashCode_46 : decode cJ18_hashCode 46 = .ok (.iconst 0, 1) := dk_3 (dk_at dksJ18_hashCode_2 18 rfl rfl)
theorem dJ18_hashCode_47 : decode cJ18_hashCode 47 = .ok (.iconst 4, 1) := dk_7 (dk_at dksJ18_hashCode_2 19 rfl rfl)
theorem dJ18_hashCode_48 : decode cJ18_hashCode 48 = .ok (.invokestatic 84, 3) := dk_184 0 84 (dk_at dksJ18_hashCode_2 20 rfl rfl)
theorem dJ18_hashCode_51 : decode cJ18_hashCode 51 = .ok (.ireturn, 1) := dk_172 (dk_at dksJ18_hashCode_2 23 rfl rfl)
abbrev cJ18_compareTo : ByteArray := prog_46_method_14_code
def yJ18_compareTo : MethodName := ⟨RJ18, "compareTo", "([B[B)I"⟩
def dkwJ18_compareTo_0 : List UInt8 := [42, 190, 61, 43, 190, 62, 42, 43, 28, 29, 184, 0, 34, 172]
abbrev dktJ18_compareTo_0 : List UInt8 := dkwJ18_compareTo_0 ++ []
theorem dksJ18_compareTo_0 : cJ18_compareTo.data.toList.drop 0 = dktJ18_compareTo_0 := by decide +kernel
theorem dJ18_compareTo_0 : decode cJ18_compareTo 0 = .ok (.aload_n 0, 1) := dk_42 (dk_at dksJ18_compareTo_0 0 rfl rfl)
theorem dJ18_compareTo_1 : decode cJ18_compareTo 1 = .ok (.arraylength, 1) := dk_190 (dk_at dksJ18_compareTo_0 1 rfl rfl)
theorem dJ18_compareTo_2 : decode cJ18_compareTo 2 = .ok (.istore_n 2, 1) := dk_61 (dk_at dksJ18_compareTo_0 2 rfl rfl)
theorem dJ18_compareTo_3 : decode cJ18_compareTo 3 = .ok (.aload_n 1, 1) := dk_43 (dk_at dksJ18_compareTo_0 3 rfl rfl)
theorem dJ18_compareTo_4 : decode cJ18_compareTo 4 = .ok (.arraylength, 1) := dk_190 (dk_at dksJ18_compareTo_0 4 rfl rfl)
theorem dJ18_compareTo_5 : decode cJ18_compareTo 5 = .ok (.istore_n 3, 1) := dk_62 (dk_at dksJ18_compareTo_0 5 rfl rfl)
theorem dJ18_compareTo_6 : decode cJ18_compareTo 6 = .ok (.aload_n 0, 1) := dk_42 (dk_at dksJ18_compareTo_0 6 rfl rfl)
theorem dJ18_compareTo_7 : decode cJ18_compareTo 7 = .ok (.aload_n 1, 1) := dk_43 (dk_at dksJ18_compareTo_0 7 rfl rfl)
theorem dJ18_compareTo_8 : decode cJ18_compareTo 8 = .ok (.iload_n 2, 1) := dk_28 (dk_at dksJ18_compareTo_0 8 rfl rfl)
theorem dJ18_compareTo_9 : decode cJ18_compareTo 9 = .ok (.iload_n 3, 1) := dk_29 (dk_at dksJ18_compareTo_0 9 rfl rfl)
theorem dJ18_compareTo_10 : decode cJ18_compareTo 10 = .ok (.invokestatic 34, 3) := dk_184 0 34 (dk_at dksJ18_compareTo_0 10 rfl rfl)
theorem dJ18_compareTo_13 : decode cJ18_compareTo 13 = .ok (.ireturn, 1) := dk_172 (dk_at dksJ18_compareTo_0 13 rfl rfl)
abbrev cJ18_compareTo_2 : ByteArray := prog_46_method_15_code
def yJ18_compareTo_2 : MethodName := ⟨RJ18, "compareTo", "([B[BII)I"⟩
def dkwJ18_compareTo_2_1 : List UInt8 := [167, 0, 16, 42, 21, 5, 184, 0, 50, 43, 21, 5, 184, 0, 50, 100, 172]
abbrev dktJ18_compareTo_2_1 : List UInt8 := dkwJ18_compareTo_2_1 ++ []
def dkwJ18_compareTo_2_0 : List UInt8 := [28, 29, 184, 0, 38, 54, 4, 42, 43, 21, 4, 184, 0, 44, 54, 5, 21, 5, 156, 0, 9, 28, 29, 100]
abbrev dktJ18_compareTo_2_0 : List UInt8 := dkwJ18_compareTo_2_0 ++ dktJ18_compareTo_2_1
theorem dksJ18_compareTo_2_0 : cJ18_compareTo_2.data.toList.drop 0 = dktJ18_compareTo_2_0 := by decide +kernel
theorem dksJ18_compareTo_2_1 : cJ18_compareTo_2.data.toList.drop 24 = dktJ18_compareTo_2_1 := dk_seg dksJ18_compareTo_2_0 24 rfl rfl
theorem dJ18_compareTo_2_0 : decode cJ18_compareTo_2 0 = .ok (.iload_n 2, 1) := dk_28 (dk_at dksJ18_compareTo_2_0 0 rfl rfl)
theorem dJ18_compareTo_2_1 : decode cJ18_compareTo_2 1 = .ok (.iload_n 3, 1) := dk_29 (dk_at dksJ18_compareTo_2_0 1 rfl rfl)
theorem dJ18_compareTo_2_2 : decode cJ18_compareTo_2 2 = .ok (.invokestatic 38, 3) := dk_184 0 38 (dk_at dksJ18_compareTo_2_0 2 rfl rfl)
theorem dJ18_compareTo_2_5 : decode cJ18_compareTo_2 5 = .ok (.istore 4, 2) := dk_54 4 (dk_at dksJ18_compareTo_2_0 5 rfl rfl)
theorem dJ18_compareTo_2_7 : decode cJ18_compareTo_2 7 = .ok (.aload_n 0, 1) := dk_42 (dk_at dksJ18_compareTo_2_0 7 rfl rfl)
theorem dJ18_compareTo_2_8 : decode cJ18_compareTo_2 8 = .ok (.aload_n 1, 1) := dk_43 (dk_at dksJ18_compareTo_2_0 8 rfl rfl)
theorem dJ18_compareTo_2_9 : decode cJ18_compareTo_2 9 = .ok (.iload 4, 2) := dk_21 4 (dk_at dksJ18_compareTo_2_0 9 rfl rfl)
theorem dJ18_compareTo_2_11 : decode cJ18_compareTo_2 11 = .ok (.invokestatic 44, 3) := dk_184 0 44 (dk_at dksJ18_compareTo_2_0 11 rfl rfl)
theorem dJ18_compareTo_2_14 : decode cJ18_compareTo_2 14 = .ok (.istore 5, 2) := dk_54 5 (dk_at dksJ18_compareTo_2_0 14 rfl rfl)
theorem dJ18_compareTo_2_16 : decode cJ18_compareTo_2 16 = .ok (.iload 5, 2) := dk_21 5 (dk_at dksJ18_compareTo_2_0 16 rfl rfl)
theorem dJ18_compareTo_2_18 : decode cJ18_compareTo_2 18 = .ok (.ifCond .ge 9, 3) := dk_156 0 9 (dk_at dksJ18_compareTo_2_0 18 rfl rfl)
theorem dJ18_compareTo_2_21 : decode cJ18_compareTo_2 21 = .ok (.iload_n 2, 1) := dk_28 (dk_at dksJ18_compareTo_2_0 21 rfl rfl)
theorem dJ18_compareTo_2_22 : decode cJ18_compareTo_2 22 = .ok (.iload_n 3, 1) := dk_29 (dk_at dksJ18_compareTo_2_0 22 rfl rfl)
theorem dJ18_compareTo_2_23 : decode cJ18_compareTo_2 23 = .ok (.isub, 1) := dk_100 (dk_at dksJ18_compareTo_2_0 23 rfl rfl)
theorem dJ18_compareTo_2_24 : decode cJ18_compareTo_2 24 = .ok (.goto 16, 3) := dk_167 0 16 (dk_at dksJ18_compareTo_2_1 0 rfl rfl)
theorem dJ18_compareTo_2_27 : decode cJ18_compareTo_2 27 = .ok (.aload_n 0, 1) := dk_42 (dk_at dksJ18_compareTo_2_1 3 rfl rfl)
theorem dJ18_compareTo_2_28 : decode cJ18_compareTo_2 28 = .ok (.iload 5, 2) := dk_21 5 (dk_at dksJ18_compareTo_2_1 4 rfl rfl)
theorem dJ18_compareTo_2_30 : decode cJ18_compareTo_2 30 = .ok (.invokestatic 50, 3) := dk_184 0 50 (dk_at dksJ18_compareTo_2_1 6 rfl rfl)
theorem dJ18_compareTo_2_33 : decode cJ18_compareTo_2 33 = .ok (.aload_n 1, 1) := dk_43 (dk_at dksJ18_compareTo_2_1 9 rfl rfl)
theorem dJ18_compareTo_2_34 : decode cJ18_compareTo_2 34 = .ok (.iload 5, 2) := dk_21 5 (dk_at dksJ18_compareTo_2_1 10 rfl rfl)
theorem dJ18_compareTo_2_36 : decode cJ18_compareTo_2 36 = .ok (.invokestatic 50, 3) := dk_184 0 50 (dk_at dksJ18_compareTo_2_1 12 rfl rfl)
theorem dJ18_compareTo_2_39 : decode cJ18_compareTo_2 39 = .ok (.isub, 1) := dk_100 (dk_at dksJ18_compareTo_2_1 15 rfl rfl)
theorem dJ18_compareTo_2_40 : decode cJ18_compareTo_2 40 = .ok (.ireturn, 1) := dk_172 (dk_at dksJ18_compareTo_2_1 16 rfl rfl)
abbrev cJ18_getChar : ByteArray := prog_46_method_44_code
def yJ18_getChar : MethodName := ⟨RJ18, "getChar", "([BI)C"⟩
def dkwJ18_getChar_0 : List UInt8 := [42, 27, 51, 17, 0, 255, 126, 146, 172]
abbrev dktJ18_getChar_0 : List UInt8 := dkwJ18_getChar_0 ++ []
theorem dksJ18_getChar_0 : cJ18_getChar.data.toList.drop 0 = dktJ18_getChar_0 := by decide +kernel
theorem dJ18_getChar_0 : decode cJ18_getChar 0 = .ok (.aload_n 0, 1) := dk_42 (dk_at dksJ18_getChar_0 0 rfl rfl)
theorem dJ18_getChar_1 : decode cJ18_getChar 1 = .ok (.iload_n 1, 1) := dk_27 (dk_at dksJ18_getChar_0 1 rfl rfl)
theorem dJ18_getChar_2 : decode cJ18_getChar 2 = .ok (.baload, 1) := dk_51 (dk_at dksJ18_getChar_0 2 rfl rfl)
theorem dJ18_getChar_3 : decode cJ18_getChar 3 = .ok (.sipush 255, 3) := dk_17 0 255 (dk_at dksJ18_getChar_0 3 rfl rfl)
theorem dJ18_getChar_6 : decode cJ18_getChar 6 = .ok (.iand, 1) := dk_126 (dk_at dksJ18_getChar_0 6 rfl rfl)
theorem dJ18_getChar_7 : decode cJ18_getChar 7 = .ok (.i2c, 1) := dk_146 (dk_at dksJ18_getChar_0 7 rfl rfl)
theorem dJ18_getChar_8 : decode cJ18_getChar 8 = .ok (.ireturn, 1) := dk_172 (dk_at dksJ18_getChar_0 8 rfl rfl)
abbrev cJ18_compareToUTF16 : ByteArray := prog_46_method_16_code
def yJ18_compareToUTF16 : MethodName := ⟨RJ18, "compareToUTF16", "([B[B)I"⟩
def dkwJ18_compareToUTF16_0 : List UInt8 := [42, 184, 0, 54, 61, 43, 184, 0, 58, 62, 42, 43, 28, 29, 184, 0, 59, 172]
abbrev dktJ18_compareToUTF16_0 : List UInt8 := dkwJ18_compareToUTF16_0 ++ []
theorem dksJ18_compareToUTF16_0 : cJ18_compareToUTF16.data.toList.drop 0 = dktJ18_compareToUTF16_0 := by decide +kernel
theorem dJ18_compareToUTF16_0 : decode cJ18_compareToUTF16 0 = .ok (.aload_n 0, 1) := dk_42 (dk_at dksJ18_compareToUTF16_0 0 rfl rfl)
theorem dJ18_compareToUTF16_1 : decode cJ18_compareToUTF16 1 = .ok (.invokestatic 54, 3) := dk_184 0 54 (dk_at dksJ18_compareToUTF16_0 1 rfl rfl)
theorem dJ18_compareToUTF16_4 : decode cJ18_compareToUTF16 4 = .ok (.istore_n 2, 1) := dk_61 (dk_at dksJ18_compareToUTF16_0 4 rfl rfl)
theorem dJ18_compareToUTF16_5 : decode cJ18_compareToUTF16 5 = .ok (.aload_n 1, 1) := dk_43 (dk_at dksJ18_compareToUTF16_0 5 rfl rfl)
theorem dJ18_compareToUTF16_6 : decode cJ18_compareToUTF16 6 = .ok (.invokestatic 58, 3) := dk_184 0 58 (dk_at dksJ18_compareToUTF16_0 6 rfl rfl)
theorem dJ18_compareToUTF16_9 : decode cJ18_compareToUTF16 9 = .ok (.istore_n 3, 1) := dk_62 (dk_at dksJ18_compareToUTF16_0 9 rfl rfl)
theorem dJ18_compareToUTF16_10 : decode cJ18_compareToUTF16 10 = .ok (.aload_n 0, 1) := dk_42 (dk_at dksJ18_compareToUTF16_0 10 rfl rfl)
theorem dJ18_compareToUTF16_11 : decode cJ18_compareToUTF16 11 = .ok (.aload_n 1, 1) := dk_43 (dk_at dksJ18_compareToUTF16_0 11 rfl rfl)
theorem dJ18_compareToUTF16_12 : decode cJ18_compareToUTF16 12 = .ok (.iload_n 2, 1) := dk_28 (dk_at dksJ18_compareToUTF16_0 12 rfl rfl)
theorem dJ18_compareToUTF16_13 : decode cJ18_compareToUTF16 13 = .ok (.iload_n 3, 1) := dk_29 (dk_at dksJ18_compareToUTF16_0 13 rfl rfl)
theorem dJ18_compareToUTF16_14 : decode cJ18_compareToUTF16 14 = .ok (.invokestatic 59, 3) := dk_184 0 59 (dk_at dksJ18_compareToUTF16_0 14 rfl rfl)
theorem dJ18_compareToUTF16_17 : decode cJ18_compareToUTF16 17 = .ok (.ireturn, 1) := dk_172 (dk_at dksJ18_compareToUTF16_0 17 rfl rfl)
abbrev cJ18_length : ByteArray := prog_46_method_5_code
def yJ18_length : MethodName := ⟨RJ18, "length", "([B)I"⟩
theorem dJ18_length_0 : decode cJ18_length 0 = .ok (.aload_n 0, 1) := by decide +kernel
theorem dJ18_length_1 : decode cJ18_length 1 = .ok (.arraylength, 1) := by decide +kernel
theorem dJ18_length_2 : decode cJ18_length 2 = .ok (.ireturn, 1) := by decide +kernel
abbrev cJ18_compareToUTF16Values : ByteArray := prog_46_method_18_code
def yJ18_compareToUTF16Values : MethodName := ⟨RJ18, "compareToUTF16Values", "([B[BII)I"⟩
def dkwJ18_compareToUTF16Values_2 : List UInt8 := [132, 5, 1, 167, 255, 217, 28, 29, 100, 172]
abbrev dktJ18_compareToUTF16Values_2 : List UInt8 := dkwJ18_compareToUTF16Values_2 ++ []
def dkwJ18_compareToUTF16Values_1 : List UInt8 := [54, 6, 43, 21, 5, 184, 0, 65, 54, 7, 21, 6, 21, 7, 159, 0, 9, 21, 6, 21, 7, 100, 172]
abbrev dktJ18_compareToUTF16Values_1 : List UInt8 := dkwJ18_compareToUTF16Values_1 ++ dktJ18_compareToUTF16Values_2
def dkwJ18_compareToUTF16Values_0 : List UInt8 := [28, 29, 184, 0, 38, 54, 4, 3, 54, 5, 21, 5, 21, 4, 162, 0, 38, 42, 21, 5, 184, 0, 50]
abbrev dktJ18_compareToUTF16Values_0 : List UInt8 := dkwJ18_compareToUTF16Values_0 ++ dktJ18_compareToUTF16Values_1
theorem dksJ18_compareToUTF16Values_0 : cJ18_compareToUTF16Values.data.toList.drop 0 = dktJ18_compareToUTF16Values_0 := by decide +kernel
theorem dksJ18_compareToUTF16Values_1 : cJ18_compareToUTF16Values.data.toList.drop 23 = dktJ18_compareToUTF16Values_1 := dk_seg dksJ18_compareToUTF16Values_0 23 rfl rfl
theorem dksJ18_compareToUTF16Values_2 : cJ18_compareToUTF16Values.data.toList.drop 46 = dktJ18_compareToUTF16Values_2 := dk_seg dksJ18_compareToUTF16Values_1 23 rfl rfl
theorem dJ18_compareToUTF16Values_0 : decode cJ18_compareToUTF16Values 0 = .ok (.iload_n 2, 1) := dk_28 (dk_at dksJ18_compareToUTF16Values_0 0 rfl rfl)
theorem dJ18_compareToUTF16Values_1 : decode cJ18_compareToUTF16Values 1 = .ok (.iload_n 3, 1) := dk_29 (dk_at dksJ18_compareToUTF16Values_0 1 rfl rfl)
theorem dJ18_compareToUTF16Values_2 : decode cJ18_compareToUTF16Values 2 = .ok (.invokestatic 38, 3) := dk_184 0 38 (dk_at dksJ18_compareToUTF16Values_0 2 rfl rfl)
theorem dJ18_compareToUTF16Values_5 : decode cJ18_compareToUTF16Values 5 = .ok (.istore 4, 2) := dk_54 4 (dk_at dksJ18_compareToUTF16Values_0 5 rfl rfl)
theorem dJ18_compareToUTF16Values_7 : decode cJ18_compareToUTF16Values 7 = .ok (.iconst 0, 1) := dk_3 (dk_at dksJ18_compareToUTF16Values_0 7 rfl rfl)
theorem dJ18_compareToUTF16Values_8 : decode cJ18_compareToUTF16Values 8 = .ok (.istore 5, 2) := dk_54 5 (dk_at dksJ18_compareToUTF16Values_0 8 rfl rfl)
theorem dJ18_compareToUTF16Values_10 : decode cJ18_compareToUTF16Values 10 = .ok (.iload 5, 2) := dk_21 5 (dk_at dksJ18_compareToUTF16Values_0 10 rfl rfl)
theorem dJ18_compareToUTF16Values_12 : decode cJ18_compareToUTF16Values 12 = .ok (.iload 4, 2) := dk_21 4 (dk_at dksJ18_compareToUTF16Values_0 12 rfl rfl)
theorem dJ18_compareToUTF16Values_14 : decode cJ18_compareToUTF16Values 14 = .ok (.if_icmp .ge 38, 3) := dk_162 0 38 (dk_at dksJ18_compareToUTF16Values_0 14 rfl rfl)
theorem dJ18_compareToUTF16Values_17 : decode cJ18_compareToUTF16Values 17 = .ok (.aload_n 0, 1) := dk_42 (dk_at dksJ18_compareToUTF16Values_0 17 rfl rfl)
theorem dJ18_compareToUTF16Values_18 : decode cJ18_compareToUTF16Values 18 = .ok (.iload 5, 2) := dk_21 5 (dk_at dksJ18_compareToUTF16Values_0 18 rfl rfl)
theorem dJ18_compareToUTF16Values_20 : decode cJ18_compareToUTF16Values 20 = .ok (.invokestatic 50, 3) := dk_184 0 50 (dk_at dksJ18_compareToUTF16Values_0 20 rfl rfl)
theorem dJ18_compareToUTF16Values_23 : decode cJ18_compareToUTF16Values 23 = .ok (.istore 6, 2) := dk_54 6 (dk_at dksJ18_compareToUTF16Values_1 0 rfl rfl)
theorem dJ18_compareToUTF16Values_25 : decode cJ18_compareToUTF16Values 25 = .ok (.aload_n 1, 1) := dk_43 (dk_at dksJ18_compareToUTF16Values_1 2 rfl rfl)
theorem dJ18_compareToUTF16Values_26 : decode cJ18_compareToUTF16Values 26 = .ok (.iload 5, 2) := dk_21 5 (dk_at dksJ18_compareToUTF16Values_1 3 rfl rfl)
theorem dJ18_compareToUTF16Values_28 : decode cJ18_compareToUTF16Values 28 = .ok (.invokestatic 65, 3) := dk_184 0 65 (dk_at dksJ18_compareToUTF16Values_1 5 rfl rfl)
theorem dJ18_compareToUTF16Values_31 : decode cJ18_compareToUTF16Values 31 = .ok (.istore 7, 2) := dk_54 7 (dk_at dksJ18_compareToUTF16Values_1 8 rfl rfl)
theorem dJ18_compareToUTF16Values_33 : decode cJ18_compareToUTF16Values 33 = .ok (.iload 6, 2) := dk_21 6 (dk_at dksJ18_compareToUTF16Values_1 10 rfl rfl)
theorem dJ18_compareToUTF16Values_35 : decode cJ18_compareToUTF16Values 35 = .ok (.iload 7, 2) := dk_21 7 (dk_at dksJ18_compareToUTF16Values_1 12 rfl rfl)
theorem dJ18_compareToUTF16Values_37 : decode cJ18_compareToUTF16Values 37 = .ok (.if_icmp .eq 9, 3) := dk_159 0 9 (dk_at dksJ18_compareToUTF16Values_1 14 rfl rfl)
theorem dJ18_compareToUTF16Values_40 : decode cJ18_compareToUTF16Values 40 = .ok (.iload 6, 2) := dk_21 6 (dk_at dksJ18_compareToUTF16Values_1 17 rfl rfl)
theorem dJ18_compareToUTF16Values_42 : decode cJ18_compareToUTF16Values 42 = .ok (.iload 7, 2) := dk_21 7 (dk_at dksJ18_compareToUTF16Values_1 19 rfl rfl)
theorem dJ18_compareToUTF16Values_44 : decode cJ18_compareToUTF16Values 44 = .ok (.isub, 1) := dk_100 (dk_at dksJ18_compareToUTF16Values_1 21 rfl rfl)
theorem dJ18_compareToUTF16Values_45 : decode cJ18_compareToUTF16Values 45 = .ok (.ireturn, 1) := dk_172 (dk_at dksJ18_compareToUTF16Values_1 22 rfl rfl)
theorem dJ18_compareToUTF16Values_46 : decode cJ18_compareToUTF16Values 46 = .ok (.iinc 5 1, 3) := dk_132 5 1 (dk_at dksJ18_compareToUTF16Values_2 0 rfl rfl)
theorem dJ18_compareToUTF16Values_49 : decode cJ18_compareToUTF16Values 49 = .ok (.goto (-39), 3) := dk_167 255 217 (dk_at dksJ18_compareToUTF16Values_2 3 rfl rfl)
theorem dJ18_compareToUTF16Values_52 : decode cJ18_compareToUTF16Values 52 = .ok (.iload_n 2, 1) := dk_28 (dk_at dksJ18_compareToUTF16Values_2 6 rfl rfl)
theorem dJ18_compareToUTF16Values_53 : decode cJ18_compareToUTF16Values 53 = .ok (.iload_n 3, 1) := dk_29 (dk_at dksJ18_compareToUTF16Values_2 7 rfl rfl)
theorem dJ18_compareToUTF16Values_54 : decode cJ18_compareToUTF16Values 54 = .ok (.isub, 1) := dk_100 (dk_at dksJ18_compareToUTF16Values_2 8 rfl rfl)
theorem dJ18_compareToUTF16Values_55 : decode cJ18_compareToUTF16Values 55 = .ok (.ireturn, 1) := dk_172 (dk_at dksJ18_compareToUTF16Values_2 9 rfl rfl)
abbrev cJ18_compareToUTF16_2 : ByteArray := prog_46_method_17_code
def yJ18_compareToUTF16_2 : MethodName := ⟨RJ18, "compareToUTF16", "([B[BII)I"⟩
def dkwJ18_compareToUTF16_2_0 : List UInt8 := [28, 42, 184, 0, 54, 184, 0, 62, 29, 43, 184, 0, 58, 184, 0, 62, 42, 43, 28, 29, 184, 0, 59, 172]
abbrev dktJ18_compareToUTF16_2_0 : List UInt8 := dkwJ18_compareToUTF16_2_0 ++ []
theorem dksJ18_compareToUTF16_2_0 : cJ18_compareToUTF16_2.data.toList.drop 0 = dktJ18_compareToUTF16_2_0 := by decide +kernel
theorem dJ18_compareToUTF16_2_0 : decode cJ18_compareToUTF16_2 0 = .ok (.iload_n 2, 1) := dk_28 (dk_at dksJ18_compareToUTF16_2_0 0 rfl rfl)
theorem dJ18_compareToUTF16_2_1 : decode cJ18_compareToUTF16_2 1 = .ok (.aload_n 0, 1) := dk_42 (dk_at dksJ18_compareToUTF16_2_0 1 rfl rfl)
theorem dJ18_compareToUTF16_2_2 : decode cJ18_compareToUTF16_2 2 = .ok (.invokestatic 54, 3) := dk_184 0 54 (dk_at dksJ18_compareToUTF16_2_0 2 rfl rfl)
theorem dJ18_compareToUTF16_2_5 : decode cJ18_compareToUTF16_2 5 = .ok (.invokestatic 62, 3) := dk_184 0 62 (dk_at dksJ18_compareToUTF16_2_0 5 rfl rfl)
theorem dJ18_compareToUTF16_2_8 : decode cJ18_compareToUTF16_2 8 = .ok (.iload_n 3, 1) := dk_29 (dk_at dksJ18_compareToUTF16_2_0 8 rfl rfl)
theorem dJ18_compareToUTF16_2_9 : decode cJ18_compareToUTF16_2 9 = .ok (.aload_n 1, 1) := dk_43 (dk_at dksJ18_compareToUTF16_2_0 9 rfl rfl)
theorem dJ18_compareToUTF16_2_10 : decode cJ18_compareToUTF16_2 10 = .ok (.invokestatic 58, 3) := dk_184 0 58 (dk_at dksJ18_compareToUTF16_2_0 10 rfl rfl)
theorem dJ18_compareToUTF16_2_13 : decode cJ18_compareToUTF16_2 13 = .ok (.invokestatic 62, 3) := dk_184 0 62 (dk_at dksJ18_compareToUTF16_2_0 13 rfl rfl)
theorem dJ18_compareToUTF16_2_16 : decode cJ18_compareToUTF16_2 16 = .ok (.aload_n 0, 1) := dk_42 (dk_at dksJ18_compareToUTF16_2_0 16 rfl rfl)
theorem dJ18_compareToUTF16_2_17 : decode cJ18_compareToUTF16_2 17 = .ok (.aload_n 1, 1) := dk_43 (dk_at dksJ18_compareToUTF16_2_0 17 rfl rfl)
theorem dJ18_compareToUTF16_2_18 : decode cJ18_compareToUTF16_2 18 = .ok (.iload_n 2, 1) := dk_28 (dk_at dksJ18_compareToUTF16_2_0 18 rfl rfl)
theorem dJ18_compareToUTF16_2_19 : decode cJ18_compareToUTF16_2 19 = .ok (.iload_n 3, 1) := dk_29 (dk_at dksJ18_compareToUTF16_2_0 19 rfl rfl)
theorem dJ18_compareToUTF16_2_20 : decode cJ18_compareToUTF16_2 20 = .ok (.invokestatic 59, 3) := dk_184 0 59 (dk_at dksJ18_compareToUTF16_2_0 20 rfl rfl)
theorem dJ18_compareToUTF16_2_23 : decode cJ18_compareToUTF16_2 23 = .ok (.ireturn, 1) := dk_172 (dk_at dksJ18_compareToUTF16_2_0 23 rfl rfl)
abbrev cJ18_charAt : ByteArray := prog_46_method_2_code
def yJ18_charAt : MethodName := ⟨RJ18, "charAt", "([BI)C"⟩
def dkwJ18_charAt_0 : List UInt8 := [27, 42, 190, 184, 0, 9, 42, 27, 51, 17, 0, 255, 126, 146, 172]
abbrev dktJ18_charAt_0 : List UInt8 := dkwJ18_charAt_0 ++ []
theorem dksJ18_charAt_0 : cJ18_charAt.data.toList.drop 0 = dktJ18_charAt_0 := by decide +kernel
theorem dJ18_charAt_0 : decode cJ18_charAt 0 = .ok (.iload_n 1, 1) := dk_27 (dk_at dksJ18_charAt_0 0 rfl rfl)
theorem dJ18_charAt_1 : decode cJ18_charAt 1 = .ok (.aload_n 0, 1) := dk_42 (dk_at dksJ18_charAt_0 1 rfl rfl)
theorem dJ18_charAt_2 : decode cJ18_charAt 2 = .ok (.arraylength, 1) := dk_190 (dk_at dksJ18_charAt_0 2 rfl rfl)
theorem dJ18_charAt_3 : decode cJ18_charAt 3 = .ok (.invokestatic 9, 3) := dk_184 0 9 (dk_at dksJ18_charAt_0 3 rfl rfl)
theorem dJ18_charAt_6 : decode cJ18_charAt 6 = .ok (.aload_n 0, 1) := dk_42 (dk_at dksJ18_charAt_0 6 rfl rfl)
theorem dJ18_charAt_7 : decode cJ18_charAt 7 = .ok (.iload_n 1, 1) := dk_27 (dk_at dksJ18_charAt_0 7 rfl rfl)
theorem dJ18_charAt_8 : decode cJ18_charAt 8 = .ok (.baload, 1) := dk_51 (dk_at dksJ18_charAt_0 8 rfl rfl)
theorem dJ18_charAt_9 : decode cJ18_charAt 9 = .ok (.sipush 255, 3) := dk_17 0 255 (dk_at dksJ18_charAt_0 9 rfl rfl)
theorem dJ18_charAt_12 : decode cJ18_charAt 12 = .ok (.iand, 1) := dk_126 (dk_at dksJ18_charAt_0 12 rfl rfl)
theorem dJ18_charAt_13 : decode cJ18_charAt 13 = .ok (.i2c, 1) := dk_146 (dk_at dksJ18_charAt_0 13 rfl rfl)
theorem dJ18_charAt_14 : decode cJ18_charAt 14 = .ok (.ireturn, 1) := dk_172 (dk_at dksJ18_charAt_0 14 rfl rfl)
theorem q135 : (Jvm.Cond.initialized "java/lang/StringLatin1") ∈ lw_all := lw_g (lw_at lw_m1 27 rfl) rfl
theorem q624 : (Jvm.Cond.static ({ cls := "java/lang/StringLatin1", name := "canEncode", desc := "(C)Z" } : Jvm.MethodName)) ∈ lw_all := lw_g (lw_at lw_m3 36 rfl) rfl
theorem q625 : (Jvm.Cond.code ({ cls := "java/lang/StringLatin1", name := "canEncode", desc := "(C)Z" } : Jvm.MethodName) prog_46_method_3_code (1 : Nat) (Option.some Jvm.ClassFile.FieldType.boolean)) ∈ lw_all := lw_g (lw_at lw_m3 37 rfl) rfl
theorem q631 : (Jvm.Cond.static ({ cls := "java/lang/StringLatin1", name := "inflate", desc := "([BI[BII)V" } : Jvm.MethodName)) ∈ lw_all := lw_g (lw_at lw_m3 43 rfl) rfl
theorem q632 : (Jvm.Cond.code ({ cls := "java/lang/StringLatin1", name := "inflate", desc := "([BI[BII)V" } : Jvm.MethodName) prog_46_method_50_code (5 : Nat) (Option.none : Option Jvm.ClassFile.FieldType)) ∈ lw_all := lw_g (lw_at lw_m3 44 rfl) rfl
theorem q633 : (Jvm.Cond.methodLink "java/lang/StringLatin1" (240 : Nat) ({ cls := "java/lang/StringUTF16", name := "inflate", desc := "([BI[BII)V" } : Jvm.MethodName)) ∈ lw_all := lw_g (lw_at lw_m3 45 rfl) rfl
theorem q901 : (Jvm.Cond.static ({ cls := "java/lang/StringLatin1", name := "equals", desc := "([B[B)Z" } : Jvm.MethodName)) ∈ lw_all := lw_g (lw_at lw_m4 73 rfl) rfl
theorem q902 : (Jvm.Cond.code ({ cls := "java/lang/StringLatin1", name := "equals", desc := "([B[B)Z" } : Jvm.MethodName) prog_46_method_13_code (3 : Nat) (Option.some Jvm.ClassFile.FieldType.boolean)) ∈ lw_all := lw_g (lw_at lw_m4 74 rfl) rfl
theorem q923 : (Jvm.Cond.static ({ cls := "java/lang/StringLatin1", name := "hashCode", desc := "([B)I" } : Jvm.MethodName)) ∈ lw_all := lw_g (lw_at lw_m4 95 rfl) rfl
theorem q924 : (Jvm.Cond.code ({ cls := "java/lang/StringLatin1", name := "hashCode", desc := "([B)I" } : Jvm.MethodName) prog_46_method_21_code (1 : Nat) (Option.some Jvm.ClassFile.FieldType.int)) ∈ lw_all := lw_g (lw_at lw_m4 96 rfl) rfl
theorem q925 : (Jvm.Cond.methodLink "java/lang/StringLatin1" (84 : Nat) ({ cls := "jdk/internal/util/ArraysSupport", name := "vectorizedHashCode", desc := "(Ljava/lang/Object;IIII)I" } : Jvm.MethodName)) ∈ lw_all := lw_g (lw_at lw_m4 97 rfl) rfl
theorem q1180 : (Jvm.Cond.static ({ cls := "java/lang/StringLatin1", name := "compareTo", desc := "([B[B)I" } : Jvm.MethodName)) ∈ lw_all := lw_g (lw_at lw_m5 112 rfl) rfl
theorem q1181 : (Jvm.Cond.code ({ cls := "java/lang/StringLatin1", name := "compareTo", desc := "([B[B)I" } : Jvm.MethodName) prog_46_method_14_code (4 : Nat) (Option.some Jvm.ClassFile.FieldType.int)) ∈ lw_all := lw_g (lw_at lw_m5 113 rfl) rfl
theorem q1182 : (Jvm.Cond.methodLink "java/lang/StringLatin1" (34 : Nat) ({ cls := "java/lang/StringLatin1", name := "compareTo", desc := "([B[BII)I" } : Jvm.MethodName)) ∈ lw_all := lw_g (lw_at lw_m5 114 rfl) rfl
theorem q1183 : (Jvm.Cond.static ({ cls := "java/lang/StringLatin1", name := "compareTo", desc := "([B[BII)I" } : Jvm.MethodName)) ∈ lw_all := lw_g (lw_at lw_m5 115 rfl) rfl
theorem q1184 : (Jvm.Cond.code ({ cls := "java/lang/StringLatin1", name := "compareTo", desc := "([B[BII)I" } : Jvm.MethodName) prog_46_method_15_code (6 : Nat) (Option.some Jvm.ClassFile.FieldType.int)) ∈ lw_all := lw_g (lw_at lw_m5 116 rfl) rfl
theorem q1185 : (Jvm.Cond.methodLink "java/lang/StringLatin1" (38 : Nat) ({ cls := "java/lang/Math", name := "min", desc := "(II)I" } : Jvm.MethodName)) ∈ lw_all := lw_g (lw_at lw_m5 117 rfl) rfl
theorem q1186 : (Jvm.Cond.methodLink "java/lang/StringLatin1" (44 : Nat) ({ cls := "jdk/internal/util/ArraysSupport", name := "mismatch", desc := "([B[BI)I" } : Jvm.MethodName)) ∈ lw_all := lw_g (lw_at lw_m5 118 rfl) rfl
theorem q1290 : (Jvm.Cond.methodLink "java/lang/StringLatin1" (50 : Nat) ({ cls := "java/lang/StringLatin1", name := "getChar", desc := "([BI)C" } : Jvm.MethodName)) ∈ lw_all := lw_g (lw_at lw_m5 222 rfl) rfl
theorem q1291 : (Jvm.Cond.static ({ cls := "java/lang/StringLatin1", name := "getChar", desc := "([BI)C" } : Jvm.MethodName)) ∈ lw_all := lw_g (lw_at lw_m5 223 rfl) rfl
theorem q1292 : (Jvm.Cond.code ({ cls := "java/lang/StringLatin1", name := "getChar", desc := "([BI)C" } : Jvm.MethodName) prog_46_method_44_code (2 : Nat) (Option.some Jvm.ClassFile.FieldType.char)) ∈ lw_all := lw_g (lw_at lw_m5 224 rfl) rfl
theorem q1301 : (Jvm.Cond.static ({ cls := "java/lang/StringLatin1", name := "compareToUTF16", desc := "([B[B)I" } : Jvm.MethodName)) ∈ lw_all := lw_g (lw_at lw_m5 233 rfl) rfl
theorem q1302 : (Jvm.Cond.code ({ cls := "java/lang/StringLatin1", name := "compareToUTF16", desc := "([B[B)I" } : Jvm.MethodName) prog_46_method_16_code (4 : Nat) (Option.some Jvm.ClassFile.FieldType.int)) ∈ lw_all := lw_g (lw_at lw_m5 234 rfl) rfl
theorem q1303 : (Jvm.Cond.methodLink "java/lang/StringLatin1" (54 : Nat) ({ cls := "java/lang/StringLatin1", name := "length", desc := "([B)I" } : Jvm.MethodName)) ∈ lw_all := lw_g (lw_at lw_m5 235 rfl) rfl
theorem q1304 : (Jvm.Cond.static ({ cls := "java/lang/StringLatin1", name := "length", desc := "([B)I" } : Jvm.MethodName)) ∈ lw_all := lw_g (lw_at lw_m5 236 rfl) rfl
theorem q1305 : (Jvm.Cond.code ({ cls := "java/lang/StringLatin1", name := "length", desc := "([B)I" } : Jvm.MethodName) prog_46_method_5_code (1 : Nat) (Option.some Jvm.ClassFile.FieldType.int)) ∈ lw_all := lw_g (lw_at lw_m5 237 rfl) rfl
theorem q1306 : (Jvm.Cond.methodLink "java/lang/StringLatin1" (58 : Nat) ({ cls := "java/lang/StringUTF16", name := "length", desc := "([B)I" } : Jvm.MethodName)) ∈ lw_all := lw_g (lw_at lw_m5 238 rfl) rfl
theorem q1307 : (Jvm.Cond.methodLink "java/lang/StringLatin1" (59 : Nat) ({ cls := "java/lang/StringLatin1", name := "compareToUTF16Values", desc := "([B[BII)I" } : Jvm.MethodName)) ∈ lw_all := lw_g (lw_at lw_m5 239 rfl) rfl
theorem q1308 : (Jvm.Cond.static ({ cls := "java/lang/StringLatin1", name := "compareToUTF16Values", desc := "([B[BII)I" } : Jvm.MethodName)) ∈ lw_all := lw_g (lw_at lw_m6 0 rfl) rfl
theorem q1309 : (Jvm.Cond.code ({ cls := "java/lang/StringLatin1", name := "compareToUTF16Values", desc := "([B[BII)I" } : Jvm.MethodName) prog_46_method_18_code (8 : Nat) (Option.some Jvm.ClassFile.FieldType.int)) ∈ lw_all := lw_g (lw_at lw_m6 1 rfl) rfl
theorem q1310 : (Jvm.Cond.methodLink "java/lang/StringLatin1" (65 : Nat) ({ cls := "java/lang/StringUTF16", name := "getChar", desc := "([BI)C" } : Jvm.MethodName)) ∈ lw_all := lw_g (lw_at lw_m6 2 rfl) rfl
theorem q1340 : (Jvm.Cond.static ({ cls := "java/lang/StringLatin1", name := "compareToUTF16", desc := "([B[BII)I" } : Jvm.MethodName)) ∈ lw_all := lw_g (lw_at lw_m6 32 rfl) rfl
theorem q1341 : (Jvm.Cond.code ({ cls := "java/lang/StringLatin1", name := "compareToUTF16", desc := "([B[BII)I" } : Jvm.MethodName) prog_46_method_17_code (4 : Nat) (Option.some Jvm.ClassFile.FieldType.int)) ∈ lw_all := lw_g (lw_at lw_m6 33 rfl) rfl
theorem q1342 : (Jvm.Cond.methodLink "java/lang/StringLatin1" (62 : Nat) ({ cls := "java/lang/String", name := "checkOffset", desc := "(II)V" } : Jvm.MethodName)) ∈ lw_all := lw_g (lw_at lw_m6 34 rfl) rfl
theorem q2894 : (Jvm.Cond.static ({ cls := "java/lang/StringLatin1", name := "charAt", desc := "([BI)C" } : Jvm.MethodName)) ∈ lw_all := lw_g (lw_at lw_m12 146 rfl) rfl
theorem q2895 : (Jvm.Cond.code ({ cls := "java/lang/StringLatin1", name := "charAt", desc := "([BI)C" } : Jvm.MethodName) prog_46_method_2_code (2 : Nat) (Option.some Jvm.ClassFile.FieldType.char)) ∈ lw_all := lw_g (lw_at lw_m12 147 rfl) rfl
theorem q2896 : (Jvm.Cond.methodLink "java/lang/StringLatin1" (9 : Nat) ({ cls := "java/lang/String", name := "checkIndex", desc := "(II)V" } : Jvm.MethodName)) ∈ lw_all := lw_g (lw_at lw_m12 148 rfl) rfl
/-! jdk/internal/util/Preconditions -/
set_option maxRecDepth 100000
def RJ19 : String := "jdk/internal/util/Preconditions"
abbrev cJ19_checkFromIndexSize : ByteArray := prog_74_method_13_code
def yJ19_checkFromIndexSize : MethodName := ⟨RJ19, "checkFromIndexSize", "(IIILjava/util/function/BiFunction;)I"⟩
def dkwJ19_checkFromIndexSize_1 : List UInt8 := [172]
abbrev dktJ19_checkFromIndexSize_1 : List UInt8 := dkwJ19_checkFromIndexSize_1 ++ []
def dkwJ19_checkFromIndexSize_0 : List UInt8 := [28, 26, 128, 27, 128, 155, 0, 10, 27, 28, 26, 100, 164, 0, 11, 45, 26, 27, 28, 184, 0, 103, 191, 26]
abbrev dktJ19_checkFromIndexSize_0 : List UInt8 := dkwJ19_checkFromIndexSize_0 ++ dktJ19_checkFromIndexSize_1
theorem dksJ19_checkFromIndexSize_0 : cJ19_checkFromIndexSize.data.toList.drop 0 = dktJ19_checkFromIndexSize_0 := by decide +kernel
theorem dksJ19_checkFromIndexSize_1 : cJ19_checkFromIndexSize.data.toList.drop 24 = dktJ19_checkFromIndexSize_1 := dk_seg dksJ19_checkFromIndexSize_0 24 rfl rfl
theorem dJ19_checkFromIndexSize_0 : decode cJ19_checkFromIndexSize 0 = .ok (.iload_n 2, 1) := dk_28 (dk_at dksJ19_checkFromIndexSize_0 0 rfl rfl)
theorem dJ19_checkFromIndexSize_1 : decode cJ19_checkFromIndexSize 1 = .ok (.iload_n 0, 1) := dk_26 (dk_at dksJ19_checkFromIndexSize_0 1 rfl rfl)
theorem dJ19_checkFromIndexSize_2 : decode cJ19_checkFromIndexSize 2 = .ok (.ior, 1) := dk_128 (dk_at dksJ19_checkFromIndexSize_0 2 rfl rfl)
theorem dJ19_checkFromIndexSize_3 : decode cJ19_checkFromIndexSize 3 = .ok (.iload_n 1, 1) := dk_27 (dk_at dksJ19_checkFromIndexSize_0 3 rfl rfl)
theorem dJ19_checkFromIndexSize_4 : decode cJ19_checkFromIndexSize 4 = .ok (.ior, 1) := dk_128 (dk_at dksJ19_checkFromIndexSize_0 4 rfl rfl)
theorem dJ19_checkFromIndexSize_5 : decode cJ19_checkFromIndexSize 5 = .ok (.ifCond .lt 10, 3) := dk_155 0 10 (dk_at dksJ19_checkFromIndexSize_0 5 rfl rfl)
theorem dJ19_checkFromIndexSize_8 : decode cJ19_checkFromIndexSize 8 = .ok (.iload_n 1, 1) := dk_27 (dk_at dksJ19_checkFromIndexSize_0 8 rfl rfl)
theorem dJ19_checkFromIndexSize_9 : decode cJ19_checkFromIndexSize 9 = .ok (.iload_n 2, 1) := dk_28 (dk_at dksJ19_checkFromIndexSize_0 9 rfl rfl)
theorem dJ19_checkFromIndexSize_10 : decode cJ19_checkFromIndexSize 10 = .ok (.iload_n 0, 1) := dk_26 (dk_at dksJ19_checkFromIndexSize_0 10 rfl rfl)
theorem dJ19_checkFromIndexSize_11 : decode cJ19_checkFromIndexSize 11 = .ok (.isub, 1) := dk_100 (dk_at dksJ19_checkFromIndexSize_0 11 rfl rfl)
theorem dJ19_checkFromIndexSize_12 : decode cJ19_checkFromIndexSize 12 = .ok (.if_icmp .le 11, 3) := dk_164 0 11 (dk_at dksJ19_checkFromIndexSize_0 12 rfl rfl)
theorem dJ19_checkFromIndexSize_15 : decode cJ19_checkFromIndexSize 15 = .ok (.aload_n 3, 1) := dk_45 (dk_at dksJ19_checkFromIndexSize_0 15 rfl rfl)
theorem dJ19_checkFromIndexSize_16 : decode cJ19_checkFromIndexSize 16 = .ok (.iload_n 0, 1) := dk_26 (dk_at dksJ19_checkFromIndexSize_0 16 rfl rfl)
theorem dJ19_checkFromIndexSize_17 : decode cJ19_checkFromIndexSize 17 = .ok (.iload_n 1, 1) := dk_27 (dk_at dksJ19_checkFromIndexSize_0 17 rfl rfl)
theorem dJ19_checkFromIndexSize_18 : decode cJ19_checkFromIndexSize 18 = .ok (.iload_n 2, 1) := dk_28 (dk_at dksJ19_checkFromIndexSize_0 18 rfl rfl)
theorem dJ19_checkFromIndexSize_19 : decode cJ19_checkFromIndexSize 19 = .ok (.invokestatic 103, 3) := dk_184 0 103 (dk_at dksJ19_checkFromIndexSize_0 19 rfl rfl)
theorem dJ19_checkFromIndexSize_22 : decode cJ19_checkFromIndexSize 22 = .ok (.athrow, 1) := dk_191 (dk_at dksJ19_checkFromIndexSize_0 22 rfl rfl)
theorem dJ19_checkFromIndexSize_23 : decode cJ19_checkFromIndexSize 23 = .ok (.iload_n 0, 1) := dk_26 (dk_at dksJ19_checkFromIndexSize_0 23 rfl rfl)
theorem dJ19_checkFromIndexSize_24 : decode cJ19_checkFromIndexSize 24 = .ok (.ireturn, 1) := dk_172 (dk_at dksJ19_checkFromIndexSize_1 0 rfl rfl)
abbrev cJ19_checkIndex : ByteArray := prog_74_method_11_code
def yJ19_checkIndex : MethodName := ⟨RJ19, "checkIndex", "(IILjava/util/function/BiFunction;)I"⟩
def dkwJ19_checkIndex_0 : List UInt8 := [26, 155, 0, 8, 26, 27, 161, 0, 10, 44, 26, 27, 184, 0, 95, 191, 26, 172]
abbrev dktJ19_checkIndex_0 : List UInt8 := dkwJ19_checkIndex_0 ++ []
theorem dksJ19_checkIndex_0 : cJ19_checkIndex.data.toList.drop 0 = dktJ19_checkIndex_0 := by decide +kernel
theorem dJ19_checkIndex_0 : decode cJ19_checkIndex 0 = .ok (.iload_n 0, 1) := dk_26 (dk_at dksJ19_checkIndex_0 0 rfl rfl)
theorem dJ19_checkIndex_1 : decode cJ19_checkIndex 1 = .ok (.ifCond .lt 8, 3) := dk_155 0 8 (dk_at dksJ19_checkIndex_0 1 rfl rfl)
theorem dJ19_checkIndex_4 : decode cJ19_checkIndex 4 = .ok (.iload_n 0, 1) := dk_26 (dk_at dksJ19_checkIndex_0 4 rfl rfl)
theorem dJ19_checkIndex_5 : decode cJ19_checkIndex 5 = .ok (.iload_n 1, 1) := dk_27 (dk_at dksJ19_checkIndex_0 5 rfl rfl)
theorem dJ19_checkIndex_6 : decode cJ19_checkIndex 6 = .ok (.if_icmp .lt 10, 3) := dk_161 0 10 (dk_at dksJ19_checkIndex_0 6 rfl rfl)
theorem dJ19_checkIndex_9 : decode cJ19_checkIndex 9 = .ok (.aload_n 2, 1) := dk_44 (dk_at dksJ19_checkIndex_0 9 rfl rfl)
theorem dJ19_checkIndex_10 : decode cJ19_checkIndex 10 = .ok (.iload_n 0, 1) := dk_26 (dk_at dksJ19_checkIndex_0 10 rfl rfl)
theorem dJ19_checkIndex_11 : decode cJ19_checkIndex 11 = .ok (.iload_n 1, 1) := dk_27 (dk_at dksJ19_checkIndex_0 11 rfl rfl)
theorem dJ19_checkIndex_12 : decode cJ19_checkIndex 12 = .ok (.invokestatic 95, 3) := dk_184 0 95 (dk_at dksJ19_checkIndex_0 12 rfl rfl)
theorem dJ19_checkIndex_15 : decode cJ19_checkIndex 15 = .ok (.athrow, 1) := dk_191 (dk_at dksJ19_checkIndex_0 15 rfl rfl)
theorem dJ19_checkIndex_16 : decode cJ19_checkIndex 16 = .ok (.iload_n 0, 1) := dk_26 (dk_at dksJ19_checkIndex_0 16 rfl rfl)
theorem dJ19_checkIndex_17 : decode cJ19_checkIndex 17 = .ok (.ireturn, 1) := dk_172 (dk_at dksJ19_checkIndex_0 17 rfl rfl)
abbrev cJ19_checkFromToIndex : ByteArray := prog_74_method_12_code
def yJ19_checkFromToIndex : MethodName := ⟨RJ19, "checkFromToIndex", "(IIILjava/util/function/BiFunction;)I"⟩
def dkwJ19_checkFromToIndex_0 : List UInt8 := [26, 155, 0, 13, 26, 27, 163, 0, 8, 27, 28, 164, 0, 11, 45, 26, 27, 28, 184, 0, 99, 191, 26, 172]
abbrev dktJ19_checkFromToIndex_0 : List UInt8 := dkwJ19_checkFromToIndex_0 ++ []
theorem dksJ19_checkFromToIndex_0 : cJ19_checkFromToIndex.data.toList.drop 0 = dktJ19_checkFromToIndex_0 := by decide +kernel
theorem dJ19_checkFromToIndex_0 : decode cJ19_checkFromToIndex 0 = .ok (.iload_n 0, 1) := dk_26 (dk_at dksJ19_checkFromToIndex_0 0 rfl rfl)
theorem dJ19_checkFromToIndex_1 : decode cJ19_checkFromToIndex 1 = .ok (.ifCond .lt 13, 3) := dk_155 0 13 (dk_at dksJ19_checkFromToIndex_0 1 rfl rfl)
theorem dJ19_checkFromToIndex_4 : decode cJ19_checkFromToIndex 4 = .ok (.iload_n 0, 1) := dk_26 (dk_at dksJ19_checkFromToIndex_0 4 rfl rfl)
theorem dJ19_checkFromToIndex_5 : decode cJ19_checkFromToIndex 5 = .ok (.iload_n 1, 1) := dk_27 (dk_at dksJ19_checkFromToIndex_0 5 rfl rfl)
theorem dJ19_checkFromToIndex_6 : decode cJ19_checkFromToIndex 6 = .ok (.if_icmp .gt 8, 3) := dk_163 0 8 (dk_at dksJ19_checkFromToIndex_0 6 rfl rfl)
theorem dJ19_checkFromToIndex_9 : decode cJ19_checkFromToIndex 9 = .ok (.iload_n 1, 1) := dk_27 (dk_at dksJ19_checkFromToIndex_0 9 rfl rfl)
theorem dJ19_checkFromToIndex_10 : decode cJ19_checkFromToIndex 10 = .ok (.iload_n 2, 1) := dk_28 (dk_at dksJ19_checkFromToIndex_0 10 rfl rfl)
theorem dJ19_checkFromToIndex_11 : decode cJ19_checkFromToIndex 11 = .ok (.if_icmp .le 11, 3) := dk_164 0 11 (dk_at dksJ19_checkFromToIndex_0 11 rfl rfl)
theorem dJ19_checkFromToIndex_14 : decode cJ19_checkFromToIndex 14 = .ok (.aload_n 3, 1) := dk_45 (dk_at dksJ19_checkFromToIndex_0 14 rfl rfl)
theorem dJ19_checkFromToIndex_15 : decode cJ19_checkFromToIndex 15 = .ok (.iload_n 0, 1) := dk_26 (dk_at dksJ19_checkFromToIndex_0 15 rfl rfl)
theorem dJ19_checkFromToIndex_16 : decode cJ19_checkFromToIndex 16 = .ok (.iload_n 1, 1) := dk_27 (dk_at dksJ19_checkFromToIndex_0 16 rfl rfl)
theorem dJ19_checkFromToIndex_17 : decode cJ19_checkFromToIndex 17 = .ok (.iload_n 2, 1) := dk_28 (dk_at dksJ19_checkFromToIndex_0 17 rfl rfl)
theorem dJ19_checkFromToIndex_18 : decode cJ19_checkFromToIndex 18 = .ok (.invokestatic 99, 3) := dk_184 0 99 (dk_at dksJ19_checkFromToIndex_0 18 rfl rfl)
theorem dJ19_checkFromToIndex_21 : decode cJ19_checkFromToIndex 21 = .ok (.athrow, 1) := dk_191 (dk_at dksJ19_checkFromToIndex_0 21 rfl rfl)
theorem dJ19_checkFromToIndex_22 : decode cJ19_checkFromToIndex 22 = .ok (.iload_n 0, 1) := dk_26 (dk_at dksJ19_checkFromToIndex_0 22 rfl rfl)
theorem dJ19_checkFromToIndex_23 : decode cJ19_checkFromToIndex 23 = .ok (.ireturn, 1) := dk_172 (dk_at dksJ19_checkFromToIndex_0 23 rfl rfl)
theorem q136 : (Jvm.Cond.initialized "jdk/internal/util/Preconditions") ∈ lw_all := lw_g (lw_at lw_m1 28 rfl) rfl
theorem q646 : (Jvm.Cond.laysStatic "jdk/internal/util/Preconditions" "SIOOBE_FORMATTER" "Ljava/util/function/BiFunction;") ∈ lw_tbl := lw_at lw_m3 58 rfl
theorem q648 : (Jvm.Cond.static ({ cls := "jdk/internal/util/Preconditions", name := "checkFromIndexSize", desc := "(IIILjava/util/function/BiFunction;)I" } : Jvm.MethodName)) ∈ lw_all := lw_g (lw_at lw_m3 60 rfl) rfl
theorem q649 : (Jvm.Cond.code ({ cls := "jdk/internal/util/Preconditions", name := "checkFromIndexSize", desc := "(IIILjava/util/function/BiFunction;)I" } : Jvm.MethodName) prog_74_method_13_code (4 : Nat) (Option.some Jvm.ClassFile.FieldType.int)) ∈ lw_all := lw_g (lw_at lw_m3 61 rfl) rfl
theorem q669 : (Jvm.Cond.static ({ cls := "jdk/internal/util/Preconditions", name := "checkIndex", desc := "(IILjava/util/function/BiFunction;)I" } : Jvm.MethodName)) ∈ lw_all := lw_g (lw_at lw_m3 81 rfl) rfl
theorem q670 : (Jvm.Cond.code ({ cls := "jdk/internal/util/Preconditions", name := "checkIndex", desc := "(IILjava/util/function/BiFunction;)I" } : Jvm.MethodName) prog_74_method_11_code (3 : Nat) (Option.some Jvm.ClassFile.FieldType.int)) ∈ lw_all := lw_g (lw_at lw_m3 82 rfl) rfl
theorem q749 : (Jvm.Cond.static ({ cls := "jdk/internal/util/Preconditions", name := "checkFromToIndex", desc := "(IIILjava/util/function/BiFunction;)I" } : Jvm.MethodName)) ∈ lw_all := lw_g (lw_at lw_m3 161 rfl) rfl
theorem q750 : (Jvm.Cond.code ({ cls := "jdk/internal/util/Preconditions", name := "checkFromToIndex", desc := "(IIILjava/util/function/BiFunction;)I" } : Jvm.MethodName) prog_74_method_12_code (4 : Nat) (Option.some Jvm.ClassFile.FieldType.int)) ∈ lw_all := lw_g (lw_at lw_m3 162 rfl) rfl
/-! java/util/Objects -/
set_option maxRecDepth 100000
def RJ23 : String := "java/util/Objects"
abbrev cJ23_checkIndex : ByteArray := prog_67_method_17_code
def yJ23_checkIndex : MethodName := ⟨RJ23, "checkIndex", "(II)I"⟩
def dkwJ23_checkIndex_0 : List UInt8 := [26, 27, 1, 184, 0, 105, 172]
abbrev dktJ23_checkIndex_0 : List UInt8 := dkwJ23_checkIndex_0 ++ []
theorem dksJ23_checkIndex_0 : cJ23_checkIndex.data.toList.drop 0 = dktJ23_checkIndex_0 := by decide +kernel
theorem dJ23_checkIndex_0 : decode cJ23_checkIndex 0 = .ok (.iload_n 0, 1) := dk_26 (dk_at dksJ23_checkIndex_0 0 rfl rfl)
theorem dJ23_checkIndex_1 : decode cJ23_checkIndex 1 = .ok (.iload_n 1, 1) := dk_27 (dk_at dksJ23_checkIndex_0 1 rfl rfl)
theorem dJ23_checkIndex_2 : decode cJ23_checkIndex 2 = .ok (.aconst_null, 1) := dk_1 (dk_at dksJ23_checkIndex_0 2 rfl rfl)
theorem dJ23_checkIndex_3 : decode cJ23_checkIndex 3 = .ok (.invokestatic 105, 3) := dk_184 0 105 (dk_at dksJ23_checkIndex_0 3 rfl rfl)
theorem dJ23_checkIndex_6 : decode cJ23_checkIndex 6 = .ok (.ireturn, 1) := dk_172 (dk_at dksJ23_checkIndex_0 6 rfl rfl)
theorem q143 : (Jvm.Cond.initialized "java/util/Objects") ∈ lw_all := lw_g (lw_at lw_m1 35 rfl) rfl
theorem q1438 : (Jvm.Cond.static ({ cls := "java/util/Objects", name := "checkIndex", desc := "(II)I" } : Jvm.MethodName)) ∈ lw_all := lw_g (lw_at lw_m6 130 rfl) rfl
theorem q1439 : (Jvm.Cond.code ({ cls := "java/util/Objects", name := "checkIndex", desc := "(II)I" } : Jvm.MethodName) prog_67_method_17_code (2 : Nat) (Option.some Jvm.ClassFile.FieldType.int)) ∈ lw_all := lw_g (lw_at lw_m6 131 rfl) rfl
theorem q1440 : (Jvm.Cond.methodLink "java/util/Objects" (105 : Nat) ({ cls := "jdk/internal/util/Preconditions", name := "checkIndex", desc := "(IILjava/util/function/BiFunction;)I" } : Jvm.MethodName)) ∈ lw_all := lw_g (lw_at lw_m6 132 rfl) rfl
/-! java/util/HashMap$Node -/
set_option maxRecDepth 100000
def RJ24 : String := "java/util/HashMap$Node"
def TJ24 : u_T := fun k => match k with
  | 0 => ("java/util/HashMap$Node", "hash", "I", true)
  | 1 => ("java/util/HashMap$Node", "key", "Ljava/lang/Object;", true)
  | 2 => ("java/util/HashMap$Node", "value", "Ljava/lang/Object;", false)
  | _ => ("java/util/HashMap$Node", "next", "Ljava/util/HashMap$Node;", false)
def tyJ24 : Nat → FieldType := fun k => match k with
  | 0 => .int
  | 1 => .object "java/lang/Object"
  | 2 => .object "java/lang/Object"
  | _ => .object "java/util/HashMap$Node"
abbrev wsJ240 : List Cond := u_ws RJ24 TJ24 4
theorem nmJ24 : ∀ a, a < 4 → ∀ b, b < 4 → a ≠ b → (TJ24 a).2.1 ≠ (TJ24 b).2.1 := by decide +kernel
theorem tyJ24_ok : ∀ k, k < 4 → parseFieldDescriptor (TJ24 k).2.2.1 = some (tyJ24 k) := by decide +kernel
abbrev cJ24_init : ByteArray := prog_60_method_1_code
def yJ24_init : MethodName := ⟨RJ24, "<init>", "(ILjava/lang/Object;Ljava/lang/Object;Ljava/util/HashMap$Node;)V"⟩
def dkwJ24_init_1 : List UInt8 := [181, 0, 20, 177]
abbrev dktJ24_init_1 : List UInt8 := dkwJ24_init_1 ++ []
def dkwJ24_init_0 : List UInt8 := [42, 183, 0, 1, 42, 27, 181, 0, 7, 42, 44, 181, 0, 13, 42, 45, 181, 0, 17, 42, 25, 4]
abbrev dktJ24_init_0 : List UInt8 := dkwJ24_init_0 ++ dktJ24_init_1
theorem dksJ24_init_0 : cJ24_init.data.toList.drop 0 = dktJ24_init_0 := by decide +kernel
theorem dksJ24_init_1 : cJ24_init.data.toList.drop 22 = dktJ24_init_1 := dk_seg dksJ24_init_0 22 rfl rfl
theorem dJ24_init_0 : decode cJ24_init 0 = .ok (.aload_n 0, 1) := dk_42 (dk_at dksJ24_init_0 0 rfl rfl)
theorem dJ24_init_1 : decode cJ24_init 1 = .ok (.invokespecial 1, 3) := dk_183 0 1 (dk_at dksJ24_init_0 1 rfl rfl)
theorem dJ24_init_4 : decode cJ24_init 4 = .ok (.aload_n 0, 1) := dk_42 (dk_at dksJ24_init_0 4 rfl rfl)
theorem dJ24_init_5 : decode cJ24_init 5 = .ok (.iload_n 1, 1) := dk_27 (dk_at dksJ24_init_0 5 rfl rfl)
theorem dJ24_init_6 : decode cJ24_init 6 = .ok (.putfield 7, 3) := dk_181 0 7 (dk_at dksJ24_init_0 6 rfl rfl)
theorem dJ24_init_9 : decode cJ24_init 9 = .ok (.aload_n 0, 1) := dk_42 (dk_at dksJ24_init_0 9 rfl rfl)
theorem dJ24_init_10 : decode cJ24_init 10 = .ok (.aload_n 2, 1) := dk_44 (dk_at dksJ24_init_0 10 rfl rfl)
theorem dJ24_init_11 : decode cJ24_init 11 = .ok (.putfield 13, 3) := dk_181 0 13 (dk_at dksJ24_init_0 11 rfl rfl)
theorem dJ24_init_14 : decode cJ24_init 14 = .ok (.aload_n 0, 1) := dk_42 (dk_at dksJ24_init_0 14 rfl rfl)
theorem dJ24_init_15 : decode cJ24_init 15 = .ok (.aload_n 3, 1) := dk_45 (dk_at dksJ24_init_0 15 rfl rfl)
theorem dJ24_init_16 : decode cJ24_init 16 = .ok (.putfield 17, 3) := dk_181 0 17 (dk_at dksJ24_init_0 16 rfl rfl)
theorem dJ24_init_19 : decode cJ24_init 19 = .ok (.aload_n 0, 1) := dk_42 (dk_at dksJ24_init_0 19 rfl rfl)
theorem dJ24_init_20 : decode cJ24_init 20 = .ok (.aload 4, 2) := dk_25 4 (dk_at dksJ24_init_0 20 rfl rfl)
theorem dJ24_init_22 : decode cJ24_init 22 = .ok (.putfield 20, 3) := dk_181 0 20 (dk_at dksJ24_init_1 0 rfl rfl)
theorem dJ24_init_25 : decode cJ24_init 25 = .ok (.return_, 1) := dk_177 (dk_at dksJ24_init_1 3 rfl rfl)
theorem q147 : (Jvm.Cond.initialized "java/util/HashMap$Node") ∈ lw_all := lw_g (lw_at lw_m1 39 rfl) rfl
theorem q1133 : (Jvm.Cond.selects "java/util/HashMap$Node" ({ cls := "java/lang/Object", name := "getClass", desc := "()Ljava/lang/Class;" } : Jvm.MethodName) ({ cls := "java/lang/Object", name := "getClass", desc := "()Ljava/lang/Class;" } : Jvm.MethodName)) ∈ lw_all := lw_g (lw_at lw_m5 65 rfl) rfl
theorem q1591 : (Jvm.Cond.instantiable "java/util/HashMap$Node" (4 : Nat)) ∈ lw_all := lw_g (lw_at lw_m7 43 rfl) rfl
theorem q1593 : (Jvm.Cond.instanceMethod ({ cls := "java/util/HashMap$Node", name := "<init>", desc := "(ILjava/lang/Object;Ljava/lang/Object;Ljava/util/HashMap$Node;)V" } : Jvm.MethodName)) ∈ lw_all := lw_g (lw_at lw_m7 45 rfl) rfl
theorem q1594 : (Jvm.Cond.code ({ cls := "java/util/HashMap$Node", name := "<init>", desc := "(ILjava/lang/Object;Ljava/lang/Object;Ljava/util/HashMap$Node;)V" } : Jvm.MethodName) prog_60_method_1_code (5 : Nat) (Option.none : Option Jvm.ClassFile.FieldType)) ∈ lw_all := lw_g (lw_at lw_m7 46 rfl) rfl
theorem q1595 : (Jvm.Cond.methodLink "java/util/HashMap$Node" (1 : Nat) ({ cls := "java/lang/Object", name := "<init>", desc := "()V" } : Jvm.MethodName)) ∈ lw_all := lw_g (lw_at lw_m7 47 rfl) rfl
theorem q1596 : (Jvm.Cond.fieldLink "java/util/HashMap$Node" (7 : Nat) "java/util/HashMap$Node" "hash" "I") ∈ lw_all := lw_g (lw_at lw_m7 48 rfl) rfl
theorem q1600 : (Jvm.Cond.fieldLink "java/util/HashMap$Node" (13 : Nat) "java/util/HashMap$Node" "key" "Ljava/lang/Object;") ∈ lw_all := lw_g (lw_at lw_m7 52 rfl) rfl
theorem q1604 : (Jvm.Cond.fieldLink "java/util/HashMap$Node" (17 : Nat) "java/util/HashMap$Node" "value" "Ljava/lang/Object;") ∈ lw_all := lw_g (lw_at lw_m7 56 rfl) rfl
theorem q1606 : (Jvm.Cond.fieldLink "java/util/HashMap$Node" (20 : Nat) "java/util/HashMap$Node" "next" "Ljava/util/HashMap$Node;") ∈ lw_all := lw_g (lw_at lw_m7 58 rfl) rfl
theorem q1612 : (Jvm.Cond.laysFinal "java/util/HashMap$Node" "java/util/HashMap$Node" "hash" "I") ∈ lw_all := lw_g (lw_at lw_m7 64 rfl) rfl
theorem q1613 : (Jvm.Cond.soleField "java/util/HashMap$Node" "hash") ∈ lw_all := lw_g (lw_at lw_m7 65 rfl) rfl
theorem q1614 : (Jvm.Cond.laysFinal "java/util/HashMap$Node" "java/util/HashMap$Node" "key" "Ljava/lang/Object;") ∈ lw_all := lw_g (lw_at lw_m7 66 rfl) rfl
theorem q1615 : (Jvm.Cond.soleField "java/util/HashMap$Node" "key") ∈ lw_all := lw_g (lw_at lw_m7 67 rfl) rfl
theorem q1616 : (Jvm.Cond.lays "java/util/HashMap$Node" "java/util/HashMap$Node" "value" "Ljava/lang/Object;") ∈ lw_all := lw_g (lw_at lw_m7 68 rfl) rfl
theorem q1617 : (Jvm.Cond.soleField "java/util/HashMap$Node" "value") ∈ lw_all := lw_g (lw_at lw_m7 69 rfl) rfl
theorem q1618 : (Jvm.Cond.lays "java/util/HashMap$Node" "java/util/HashMap$Node" "next" "Ljava/util/HashMap$Node;") ∈ lw_all := lw_g (lw_at lw_m7 70 rfl) rfl
theorem q1619 : (Jvm.Cond.soleField "java/util/HashMap$Node" "next") ∈ lw_all := lw_g (lw_at lw_m7 71 rfl) rfl
theorem q1620 : (Jvm.Cond.superclass "java/util/HashMap$Node" "java/lang/Object") ∈ lw_all := lw_g (lw_at lw_m7 72 rfl) rfl
theorem q3246 : (Jvm.Cond.castable "java/util/HashMap$Node" "java/lang/Object") ∈ lw_tbl := lw_at lw_m14 18 rfl
theorem in_J24 : ∀ w ∈ wsJ240, w ∈ lw_all := lw_in wsJ240 [1612, 1614, 1616, 1618] (by decide +kernel) (by decide +kernel)
/-! java/util/LinkedHashMap$Entry -/
set_option maxRecDepth 100000
def RJ25 : String := "java/util/LinkedHashMap$Entry"
abbrev cJ25_init : ByteArray := prog_62_method_1_code
def yJ25_init : MethodName := ⟨RJ25, "<init>", "(ILjava/lang/Object;Ljava/lang/Object;Ljava/util/HashMap$Node;)V"⟩
def dkwJ25_init_0 : List UInt8 := [42, 27, 44, 45, 25, 4, 183, 0, 1, 177]
abbrev dktJ25_init_0 : List UInt8 := dkwJ25_init_0 ++ []
theorem dksJ25_init_0 : cJ25_init.data.toList.drop 0 = dktJ25_init_0 := by decide +kernel
theorem dJ25_init_0 : decode cJ25_init 0 = .ok (.aload_n 0, 1) := dk_42 (dk_at dksJ25_init_0 0 rfl rfl)
theorem dJ25_init_1 : decode cJ25_init 1 = .ok (.iload_n 1, 1) := dk_27 (dk_at dksJ25_init_0 1 rfl rfl)
theorem dJ25_init_2 : decode cJ25_init 2 = .ok (.aload_n 2, 1) := dk_44 (dk_at dksJ25_init_0 2 rfl rfl)
theorem dJ25_init_3 : decode cJ25_init 3 = .ok (.aload_n 3, 1) := dk_45 (dk_at dksJ25_init_0 3 rfl rfl)
theorem dJ25_init_4 : decode cJ25_init 4 = .ok (.aload 4, 2) := dk_25 4 (dk_at dksJ25_init_0 4 rfl rfl)
theorem dJ25_init_6 : decode cJ25_init 6 = .ok (.invokespecial 1, 3) := dk_183 0 1 (dk_at dksJ25_init_0 6 rfl rfl)
theorem dJ25_init_9 : decode cJ25_init 9 = .ok (.return_, 1) := dk_177 (dk_at dksJ25_init_0 9 rfl rfl)
theorem q148 : (Jvm.Cond.initialized "java/util/LinkedHashMap$Entry") ∈ lw_all := lw_g (lw_at lw_m1 40 rfl) rfl
theorem q1656 : (Jvm.Cond.instanceMethod ({ cls := "java/util/LinkedHashMap$Entry", name := "<init>", desc := "(ILjava/lang/Object;Ljava/lang/Object;Ljava/util/HashMap$Node;)V" } : Jvm.MethodName)) ∈ lw_all := lw_g (lw_at lw_m7 108 rfl) rfl
theorem q1657 : (Jvm.Cond.code ({ cls := "java/util/LinkedHashMap$Entry", name := "<init>", desc := "(ILjava/lang/Object;Ljava/lang/Object;Ljava/util/HashMap$Node;)V" } : Jvm.MethodName) prog_62_method_1_code (5 : Nat) (Option.none : Option Jvm.ClassFile.FieldType)) ∈ lw_all := lw_g (lw_at lw_m7 109 rfl) rfl
theorem q1658 : (Jvm.Cond.methodLink "java/util/LinkedHashMap$Entry" (1 : Nat) ({ cls := "java/util/HashMap$Node", name := "<init>", desc := "(ILjava/lang/Object;Ljava/lang/Object;Ljava/util/HashMap$Node;)V" } : Jvm.MethodName)) ∈ lw_all := lw_g (lw_at lw_m7 110 rfl) rfl
theorem q1676 : (Jvm.Cond.soleField "java/util/LinkedHashMap$Entry" "before") ∈ lw_all := lw_g (lw_at lw_m7 128 rfl) rfl
theorem q1678 : (Jvm.Cond.soleField "java/util/LinkedHashMap$Entry" "after") ∈ lw_all := lw_g (lw_at lw_m7 130 rfl) rfl
/-! java/util/HashMap$TreeNode -/
set_option maxRecDepth 100000
def RJ26 : String := "java/util/HashMap$TreeNode"
def TJ26 : u_T := fun k => match k with
  | 0 => ("java/util/LinkedHashMap$Entry", "before", "Ljava/util/LinkedHashMap$Entry;", false)
  | 1 => ("java/util/LinkedHashMap$Entry", "after", "Ljava/util/LinkedHashMap$Entry;", false)
  | 2 => ("java/util/HashMap$Node", "hash", "I", true)
  | 3 => ("java/util/HashMap$Node", "key", "Ljava/lang/Object;", true)
  | 4 => ("java/util/HashMap$Node", "value", "Ljava/lang/Object;", false)
  | 5 => ("java/util/HashMap$Node", "next", "Ljava/util/HashMap$Node;", false)
  | 6 => ("java/util/HashMap$TreeNode", "parent", "Ljava/util/HashMap$TreeNode;", false)
  | 7 => ("java/util/HashMap$TreeNode", "left", "Ljava/util/HashMap$TreeNode;", false)
  | 8 => ("java/util/HashMap$TreeNode", "right", "Ljava/util/HashMap$TreeNode;", false)
  | 9 => ("java/util/HashMap$TreeNode", "prev", "Ljava/util/HashMap$TreeNode;", false)
  | _ => ("java/util/HashMap$TreeNode", "red", "Z", false)
def tyJ26 : Nat → FieldType := fun k => match k with
  | 0 => .object "java/util/LinkedHashMap$Entry"
  | 1 => .object "java/util/LinkedHashMap$Entry"
  | 2 => .int
  | 3 => .object "java/lang/Object"
  | 4 => .object "java/lang/Object"
  | 5 => .object "java/util/HashMap$Node"
  | 6 => .object "java/util/HashMap$TreeNode"
  | 7 => .object "java/util/HashMap$TreeNode"
  | 8 => .object "java/util/HashMap$TreeNode"
  | 9 => .object "java/util/HashMap$TreeNode"
  | _ => .boolean
abbrev wsJ260 : List Cond := u_ws RJ26 TJ26 11
theorem nmJ26 : ∀ a, a < 11 → ∀ b, b < 11 → a ≠ b → (TJ26 a).2.1 ≠ (TJ26 b).2.1 := by decide +kernel
theorem tyJ26_ok : ∀ k, k < 11 → parseFieldDescriptor (TJ26 k).2.2.1 = some (tyJ26 k) := by decide +kernel
abbrev cJ26_getTreeNode : ByteArray := prog_61_method_5_code
def yJ26_getTreeNode : MethodName := ⟨RJ26, "getTreeNode", "(ILjava/lang/Object;)Ljava/util/HashMap$TreeNode;"⟩
def dkwJ26_getTreeNode_0 : List UInt8 := [42, 180, 0, 9, 198, 0, 10, 42, 182, 0, 67, 167, 0, 4, 42, 27, 44, 1, 182, 0, 63, 176]
abbrev dktJ26_getTreeNode_0 : List UInt8 := dkwJ26_getTreeNode_0 ++ []
theorem dksJ26_getTreeNode_0 : cJ26_getTreeNode.data.toList.drop 0 = dktJ26_getTreeNode_0 := by decide +kernel
theorem dJ26_getTreeNode_0 : decode cJ26_getTreeNode 0 = .ok (.aload_n 0, 1) := dk_42 (dk_at dksJ26_getTreeNode_0 0 rfl rfl)
theorem dJ26_getTreeNode_1 : decode cJ26_getTreeNode 1 = .ok (.getfield 9, 3) := dk_180 0 9 (dk_at dksJ26_getTreeNode_0 1 rfl rfl)
theorem dJ26_getTreeNode_4 : decode cJ26_getTreeNode 4 = .ok (.ifnull 10, 3) := dk_198 0 10 (dk_at dksJ26_getTreeNode_0 4 rfl rfl)
theorem dJ26_getTreeNode_7 : decode cJ26_getTreeNode 7 = .ok (.aload_n 0, 1) := dk_42 (dk_at dksJ26_getTreeNode_0 7 rfl rfl)
theorem dJ26_getTreeNode_8 : decode cJ26_getTreeNode 8 = .ok (.invokevirtual 67, 3) := dk_182 0 67 (dk_at dksJ26_getTreeNode_0 8 rfl rfl)
theorem dJ26_getTreeNode_11 : decode cJ26_getTreeNode 11 = .ok (.goto 4, 3) := dk_167 0 4 (dk_at dksJ26_getTreeNode_0 11 rfl rfl)
theorem dJ26_getTreeNode_14 : decode cJ26_getTreeNode 14 = .ok (.aload_n 0, 1) := dk_42 (dk_at dksJ26_getTreeNode_0 14 rfl rfl)
theorem dJ26_getTreeNode_15 : decode cJ26_getTreeNode 15 = .ok (.iload_n 1, 1) := dk_27 (dk_at dksJ26_getTreeNode_0 15 rfl rfl)
theorem dJ26_getTreeNode_16 : decode cJ26_getTreeNode 16 = .ok (.aload_n 2, 1) := dk_44 (dk_at dksJ26_getTreeNode_0 16 rfl rfl)
theorem dJ26_getTreeNode_17 : decode cJ26_getTreeNode 17 = .ok (.aconst_null, 1) := dk_1 (dk_at dksJ26_getTreeNode_0 17 rfl rfl)
theorem dJ26_getTreeNode_18 : decode cJ26_getTreeNode 18 = .ok (.invokevirtual 63, 3) := dk_182 0 63 (dk_at dksJ26_getTreeNode_0 18 rfl rfl)
theorem dJ26_getTreeNode_21 : decode cJ26_getTreeNode 21 = .ok (.areturn, 1) := dk_176 (dk_at dksJ26_getTreeNode_0 21 rfl rfl)
abbrev cJ26_root : ByteArray := prog_61_method_2_code
def yJ26_root : MethodName := ⟨RJ26, "root", "()Ljava/util/HashMap$TreeNode;"⟩
def dkwJ26_root_0 : List UInt8 := [42, 76, 43, 180, 0, 9, 89, 77, 199, 0, 5, 43, 176, 44, 76, 167, 255, 243]
abbrev dktJ26_root_0 : List UInt8 := dkwJ26_root_0 ++ []
theorem dksJ26_root_0 : cJ26_root.data.toList.drop 0 = dktJ26_root_0 := by decide +kernel
theorem dJ26_root_0 : decode cJ26_root 0 = .ok (.aload_n 0, 1) := dk_42 (dk_at dksJ26_root_0 0 rfl rfl)
theorem dJ26_root_1 : decode cJ26_root 1 = .ok (.astore_n 1, 1) := dk_76 (dk_at dksJ26_root_0 1 rfl rfl)
theorem dJ26_root_2 : decode cJ26_root 2 = .ok (.aload_n 1, 1) := dk_43 (dk_at dksJ26_root_0 2 rfl rfl)
theorem dJ26_root_3 : decode cJ26_root 3 = .ok (.getfield 9, 3) := dk_180 0 9 (dk_at dksJ26_root_0 3 rfl rfl)
theorem dJ26_root_6 : decode cJ26_root 6 = .ok (.dup, 1) := dk_89 (dk_at dksJ26_root_0 6 rfl rfl)
theorem dJ26_root_7 : decode cJ26_root 7 = .ok (.astore_n 2, 1) := dk_77 (dk_at dksJ26_root_0 7 rfl rfl)
theorem dJ26_root_8 : decode cJ26_root 8 = .ok (.ifnonnull 5, 3) := dk_199 0 5 (dk_at dksJ26_root_0 8 rfl rfl)
theorem dJ26_root_11 : decode cJ26_root 11 = .ok (.aload_n 1, 1) := dk_43 (dk_at dksJ26_root_0 11 rfl rfl)
theorem dJ26_root_12 : decode cJ26_root 12 = .ok (.areturn, 1) := dk_176 (dk_at dksJ26_root_0 12 rfl rfl)
theorem dJ26_root_13 : decode cJ26_root 13 = .ok (.aload_n 2, 1) := dk_44 (dk_at dksJ26_root_0 13 rfl rfl)
theorem dJ26_root_14 : decode cJ26_root 14 = .ok (.astore_n 1, 1) := dk_76 (dk_at dksJ26_root_0 14 rfl rfl)
theorem dJ26_root_15 : decode cJ26_root 15 = .ok (.goto (-13), 3) := dk_167 255 243 (dk_at dksJ26_root_0 15 rfl rfl)
abbrev cJ26_find : ByteArray := prog_61_method_4_code
def yJ26_find : MethodName := ⟨RJ26, "find", "(ILjava/lang/Object;Ljava/lang/Class;)Ljava/util/HashMap$TreeNode;"⟩
def dkwJ26_find_7 : List UInt8 := [58, 4, 25, 4, 199, 255, 92, 1, 176]
abbrev dktJ26_find_7 : List UInt8 := dkwJ26_find_7 ++ []
def dkwJ26_find_6 : List UInt8 := [58, 4, 167, 0, 24, 25, 9, 27, 44, 45, 182, 0, 63, 89, 58, 10, 198, 0, 6, 25, 10, 176, 25, 8]
abbrev dktJ26_find_6 : List UInt8 := dkwJ26_find_6 ++ dktJ26_find_7
def dkwJ26_find_5 : List UInt8 := [44, 25, 7, 184, 0, 59, 89, 54, 6, 153, 0, 20, 21, 6, 156, 0, 8, 25, 8, 167, 0, 5, 25, 9]
abbrev dktJ26_find_5 : List UInt8 := dkwJ26_find_5 ++ dktJ26_find_6
def dkwJ26_find_4 : List UInt8 := [199, 0, 10, 25, 8, 58, 4, 167, 0, 67, 45, 199, 0, 12, 44, 184, 0, 55, 89, 78, 198, 0, 33, 45]
abbrev dktJ26_find_4 : List UInt8 := dkwJ26_find_4 ++ dktJ26_find_5
def dkwJ26_find_3 : List UInt8 := [182, 0, 49, 153, 0, 6, 25, 4, 176, 25, 8, 199, 0, 10, 25, 9, 58, 4, 167, 0, 79, 25, 9]
abbrev dktJ26_find_3 : List UInt8 := dkwJ26_find_3 ++ dktJ26_find_4
def dkwJ26_find_2 : List UInt8 := [167, 0, 119, 25, 4, 180, 0, 45, 89, 58, 7, 44, 165, 0, 16, 44, 198, 0, 15, 44, 25, 7]
abbrev dktJ26_find_2 : List UInt8 := dkwJ26_find_2 ++ dktJ26_find_3
def dkwJ26_find_1 : List UInt8 := [54, 5, 27, 164, 0, 10, 25, 8, 58, 4, 167, 0, 132, 21, 5, 27, 162, 0, 10, 25, 9, 58, 4]
abbrev dktJ26_find_1 : List UInt8 := dkwJ26_find_1 ++ dktJ26_find_2
def dkwJ26_find_0 : List UInt8 := [42, 58, 4, 25, 4, 180, 0, 39, 58, 8, 25, 4, 180, 0, 42, 58, 9, 25, 4, 180, 0, 15, 89]
abbrev dktJ26_find_0 : List UInt8 := dkwJ26_find_0 ++ dktJ26_find_1
theorem dksJ26_find_0 : cJ26_find.data.toList.drop 0 = dktJ26_find_0 := by decide +kernel
theorem dksJ26_find_1 : cJ26_find.data.toList.drop 23 = dktJ26_find_1 := dk_seg dksJ26_find_0 23 rfl rfl
theorem dksJ26_find_2 : cJ26_find.data.toList.drop 46 = dktJ26_find_2 := dk_seg dksJ26_find_1 23 rfl rfl
theorem dksJ26_find_3 : cJ26_find.data.toList.drop 68 = dktJ26_find_3 := dk_seg dksJ26_find_2 22 rfl rfl
theorem dksJ26_find_4 : cJ26_find.data.toList.drop 91 = dktJ26_find_4 := dk_seg dksJ26_find_3 23 rfl rfl
theorem dksJ26_find_5 : cJ26_find.data.toList.drop 115 = dktJ26_find_5 := dk_seg dksJ26_find_4 24 rfl rfl
theorem dksJ26_find_6 : cJ26_find.data.toList.drop 139 = dktJ26_find_6 := dk_seg dksJ26_find_5 24 rfl rfl
theorem dksJ26_find_7 : cJ26_find.data.toList.drop 163 = dktJ26_find_7 := dk_seg dksJ26_find_6 24 rfl rfl
theorem dJ26_find_0 : decode cJ26_find 0 = .ok (.aload_n 0, 1) := dk_42 (dk_at dksJ26_find_0 0 rfl rfl)
theorem dJ26_find_1 : decode cJ26_find 1 = .ok (.astore 4, 2) := dk_58 4 (dk_at dksJ26_find_0 1 rfl rfl)
theorem dJ26_find_3 : decode cJ26_find 3 = .ok (.aload 4, 2) := dk_25 4 (dk_at dksJ26_find_0 3 rfl rfl)
theorem dJ26_find_5 : decode cJ26_find 5 = .ok (.getfield 39, 3) := dk_180 0 39 (dk_at dksJ26_find_0 5 rfl rfl)
theorem dJ26_find_8 : decode cJ26_find 8 = .ok (.astore 8, 2) := dk_58 8 (dk_at dksJ26_find_0 8 rfl rfl)
theorem dJ26_find_10 : decode cJ26_find 10 = .ok (.aload 4, 2) := dk_25 4 (dk_at dksJ26_find_0 10 rfl rfl)
theorem dJ26_find_12 : decode cJ26_find 12 = .ok (.getfield 42, 3) := dk_180 0 42 (dk_at dksJ26_find_0 12 rfl rfl)
theorem dJ26_find_15 : decode cJ26_find 15 = .ok (.astore 9, 2) := dk_58 9 (dk_at dksJ26_find_0 15 rfl rfl)
theorem dJ26_find_17 : decode cJ26_find 17 = .ok (.aload 4, 2) := dk_25 4 (dk_at dksJ26_find_0 17 rfl rfl)
theorem dJ26_find_19 : decode cJ26_find 19 = .ok (.getfield 15, 3) := dk_180 0 15 (dk_at dksJ26_find_0 19 rfl rfl)
theorem dJ26_find_22 : decode cJ26_find 22 = .ok (.dup, 1) := dk_89 (dk_at dksJ26_find_0 22 rfl rfl)
theorem dJ26_find_23 : decode cJ26_find 23 = .ok (.istore 5, 2) := dk_54 5 (dk_at dksJ26_find_1 0 rfl rfl)
theorem dJ26_find_25 : decode cJ26_find 25 = .ok (.iload_n 1, 1) := dk_27 (dk_at dksJ26_find_1 2 rfl rfl)
theorem dJ26_find_26 : decode cJ26_find 26 = .ok (.if_icmp .le 10, 3) := dk_164 0 10 (dk_at dksJ26_find_1 3 rfl rfl)
theorem dJ26_find_29 : decode cJ26_find 29 = .ok (.aload 8, 2) := dk_25 8 (dk_at dksJ26_find_1 6 rfl rfl)
theorem dJ26_find_31 : decode cJ26_find 31 = .ok (.astore 4, 2) := dk_58 4 (dk_at dksJ26_find_1 8 rfl rfl)
theorem dJ26_find_33 : decode cJ26_find 33 = .ok (.goto 132, 3) := dk_167 0 132 (dk_at dksJ26_find_1 10 rfl rfl)
theorem dJ26_find_36 : decode cJ26_find 36 = .ok (.iload 5, 2) := dk_21 5 (dk_at dksJ26_find_1 13 rfl rfl)
theorem dJ26_find_38 : decode cJ26_find 38 = .ok (.iload_n 1, 1) := dk_27 (dk_at dksJ26_find_1 15 rfl rfl)
theorem dJ26_find_39 : decode cJ26_find 39 = .ok (.if_icmp .ge 10, 3) := dk_162 0 10 (dk_at dksJ26_find_1 16 rfl rfl)
theorem dJ26_find_42 : decode cJ26_find 42 = .ok (.aload 9, 2) := dk_25 9 (dk_at dksJ26_find_1 19 rfl rfl)
theorem dJ26_find_44 : decode cJ26_find 44 = .ok (.astore 4, 2) := dk_58 4 (dk_at dksJ26_find_1 21 rfl rfl)
theorem dJ26_find_46 : decode cJ26_find 46 = .ok (.goto 119, 3) := dk_167 0 119 (dk_at dksJ26_find_2 0 rfl rfl)
theorem dJ26_find_49 : decode cJ26_find 49 = .ok (.aload 4, 2) := dk_25 4 (dk_at dksJ26_find_2 3 rfl rfl)
theorem dJ26_find_51 : decode cJ26_find 51 = .ok (.getfield 45, 3) := dk_180 0 45 (dk_at dksJ26_find_2 5 rfl rfl)
theorem dJ26_find_54 : decode cJ26_find 54 = .ok (.dup, 1) := dk_89 (dk_at dksJ26_find_2 8 rfl rfl)
theorem dJ26_find_55 : decode cJ26_find 55 = .ok (.astore 7, 2) := dk_58 7 (dk_at dksJ26_find_2 9 rfl rfl)
theorem dJ26_find_57 : decode cJ26_find 57 = .ok (.aload_n 2, 1) := dk_44 (dk_at dksJ26_find_2 11 rfl rfl)
theorem dJ26_find_58 : decode cJ26_find 58 = .ok (.if_acmp .eq 16, 3) := dk_165 0 16 (dk_at dksJ26_find_2 12 rfl rfl)
theorem dJ26_find_61 : decode cJ26_find 61 = .ok (.aload_n 2, 1) := dk_44 (dk_at dksJ26_find_2 15 rfl rfl)
theorem dJ26_find_62 : decode cJ26_find 62 = .ok (.ifnull 15, 3) := dk_198 0 15 (dk_at dksJ26_find_2 16 rfl rfl)
theorem dJ26_find_65 : decode cJ26_find 65 = .ok (.aload_n 2, 1) := dk_44 (dk_at dksJ26_find_2 19 rfl rfl)
theorem dJ26_find_66 : decode cJ26_find 66 = .ok (.aload 7, 2) := dk_25 7 (dk_at dksJ26_find_2 20 rfl rfl)
theorem dJ26_find_68 : decode cJ26_find 68 = .ok (.invokevirtual 49, 3) := dk_182 0 49 (dk_at dksJ26_find_3 0 rfl rfl)
theorem dJ26_find_71 : decode cJ26_find 71 = .ok (.ifCond .eq 6, 3) := dk_153 0 6 (dk_at dksJ26_find_3 3 rfl rfl)
theorem dJ26_find_74 : decode cJ26_find 74 = .ok (.aload 4, 2) := dk_25 4 (dk_at dksJ26_find_3 6 rfl rfl)
theorem dJ26_find_76 : decode cJ26_find 76 = .ok (.areturn, 1) := dk_176 (dk_at dksJ26_find_3 8 rfl rfl)
theorem dJ26_find_77 : decode cJ26_find 77 = .ok (.aload 8, 2) := dk_25 8 (dk_at dksJ26_find_3 9 rfl rfl)
theorem dJ26_find_79 : decode cJ26_find 79 = .ok (.ifnonnull 10, 3) := dk_199 0 10 (dk_at dksJ26_find_3 11 rfl rfl)
theorem dJ26_find_82 : decode cJ26_find 82 = .ok (.aload 9, 2) := dk_25 9 (dk_at dksJ26_find_3 14 rfl rfl)
theorem dJ26_find_84 : decode cJ26_find 84 = .ok (.astore 4, 2) := dk_58 4 (dk_at dksJ26_find_3 16 rfl rfl)
theorem dJ26_find_86 : decode cJ26_find 86 = .ok (.goto 79, 3) := dk_167 0 79 (dk_at dksJ26_find_3 18 rfl rfl)
theorem dJ26_find_89 : decode cJ26_find 89 = .ok (.aload 9, 2) := dk_25 9 (dk_at dksJ26_find_3 21 rfl rfl)
theorem dJ26_find_91 : decode cJ26_find 91 = .ok (.ifnonnull 10, 3) := dk_199 0 10 (dk_at dksJ26_find_4 0 rfl rfl)
theorem dJ26_find_94 : decode cJ26_find 94 = .ok (.aload 8, 2) := dk_25 8 (dk_at dksJ26_find_4 3 rfl rfl)
theorem dJ26_find_96 : decode cJ26_find 96 = .ok (.astore 4, 2) := dk_58 4 (dk_at dksJ26_find_4 5 rfl rfl)
theorem dJ26_find_98 : decode cJ26_find 98 = .ok (.goto 67, 3) := dk_167 0 67 (dk_at dksJ26_find_4 7 rfl rfl)
theorem dJ26_find_101 : decode cJ26_find 101 = .ok (.aload_n 3, 1) := dk_45 (dk_at dksJ26_find_4 10 rfl rfl)
theorem dJ26_find_102 : decode cJ26_find 102 = .ok (.ifnonnull 12, 3) := dk_199 0 12 (dk_at dksJ26_find_4 11 rfl rfl)
theorem dJ26_find_105 : decode cJ26_find 105 = .ok (.aload_n 2, 1) := dk_44 (dk_at dksJ26_find_4 14 rfl rfl)
theorem dJ26_find_106 : decode cJ26_find 106 = .ok (.invokestatic 55, 3) := dk_184 0 55 (dk_at dksJ26_find_4 15 rfl rfl)
theorem dJ26_find_109 : decode cJ26_find 109 = .ok (.dup, 1) := dk_89 (dk_at dksJ26_find_4 18 rfl rfl)
theorem dJ26_find_110 : decode cJ26_find 110 = .ok (.astore_n 3, 1) := dk_78 (dk_at dksJ26_find_4 19 rfl rfl)
theorem dJ26_find_111 : decode cJ26_find 111 = .ok (.ifnull 33, 3) := dk_198 0 33 (dk_at dksJ26_find_4 20 rfl rfl)
theorem dJ26_find_114 : decode cJ26_find 114 = .ok (.aload_n 3, 1) := dk_45 (dk_at dksJ26_find_4 23 rfl rfl)
theorem dJ26_find_115 : decode cJ26_find 115 = .ok (.aload_n 2, 1) := dk_44 (dk_at dksJ26_find_5 0 rfl rfl)
theorem dJ26_find_116 : decode cJ26_find 116 = .ok (.aload 7, 2) := dk_25 7 (dk_at dksJ26_find_5 1 rfl rfl)
theorem dJ26_find_118 : decode cJ26_find 118 = .ok (.invokestatic 59, 3) := dk_184 0 59 (dk_at dksJ26_find_5 3 rfl rfl)
theorem dJ26_find_121 : decode cJ26_find 121 = .ok (.dup, 1) := dk_89 (dk_at dksJ26_find_5 6 rfl rfl)
theorem dJ26_find_122 : decode cJ26_find 122 = .ok (.istore 6, 2) := dk_54 6 (dk_at dksJ26_find_5 7 rfl rfl)
theorem dJ26_find_124 : decode cJ26_find 124 = .ok (.ifCond .eq 20, 3) := dk_153 0 20 (dk_at dksJ26_find_5 9 rfl rfl)
theorem dJ26_find_127 : decode cJ26_find 127 = .ok (.iload 6, 2) := dk_21 6 (dk_at dksJ26_find_5 12 rfl rfl)
theorem dJ26_find_129 : decode cJ26_find 129 = .ok (.ifCond .ge 8, 3) := dk_156 0 8 (dk_at dksJ26_find_5 14 rfl rfl)
theorem dJ26_find_132 : decode cJ26_find 132 = .ok (.aload 8, 2) := dk_25 8 (dk_at dksJ26_find_5 17 rfl rfl)
theorem dJ26_find_134 : decode cJ26_find 134 = .ok (.goto 5, 3) := dk_167 0 5 (dk_at dksJ26_find_5 19 rfl rfl)
theorem dJ26_find_137 : decode cJ26_find 137 = .ok (.aload 9, 2) := dk_25 9 (dk_at dksJ26_find_5 22 rfl rfl)
theorem dJ26_find_139 : decode cJ26_find 139 = .ok (.astore 4, 2) := dk_58 4 (dk_at dksJ26_find_6 0 rfl rfl)
theorem dJ26_find_141 : decode cJ26_find 141 = .ok (.goto 24, 3) := dk_167 0 24 (dk_at dksJ26_find_6 2 rfl rfl)
theorem dJ26_find_144 : decode cJ26_find 144 = .ok (.aload 9, 2) := dk_25 9 (dk_at dksJ26_find_6 5 rfl rfl)
theorem dJ26_find_146 : decode cJ26_find 146 = .ok (.iload_n 1, 1) := dk_27 (dk_at dksJ26_find_6 7 rfl rfl)
theorem dJ26_find_147 : decode cJ26_find 147 = .ok (.aload_n 2, 1) := dk_44 (dk_at dksJ26_find_6 8 rfl rfl)
theorem dJ26_find_148 : decode cJ26_find 148 = .ok (.aload_n 3, 1) := dk_45 (dk_at dksJ26_find_6 9 rfl rfl)
theorem dJ26_find_149 : decode cJ26_find 149 = .ok (.invokevirtual 63, 3) := dk_182 0 63 (dk_at dksJ26_find_6 10 rfl rfl)
theorem dJ26_find_152 : decode cJ26_find 152 = .ok (.dup, 1) := dk_89 (dk_at dksJ26_find_6 13 rfl rfl)
theorem dJ26_find_153 : decode cJ26_find 153 = .ok (.astore 10, 2) := dk_58 10 (dk_at dksJ26_find_6 14 rfl rfl)
theorem dJ26_find_155 : decode cJ26_find 155 = .ok (.ifnull 6, 3) := dk_198 0 6 (dk_at dksJ26_find_6 16 rfl rfl)
theorem dJ26_find_158 : decode cJ26_find 158 = .ok (.aload 10, 2) := dk_25 10 (dk_at dksJ26_find_6 19 rfl rfl)
theorem dJ26_find_160 : decode cJ26_find 160 = .ok (.areturn, 1) := dk_176 (dk_at dksJ26_find_6 21 rfl rfl)
theorem dJ26_find_161 : decode cJ26_find 161 = .ok (.aload 8, 2) := dk_25 8 (dk_at dksJ26_find_6 22 rfl rfl)
theorem dJ26_find_163 : decode cJ26_find 163 = .ok (.astore 4, 2) := dk_58 4 (dk_at dksJ26_find_7 0 rfl rfl)
theorem dJ26_find_165 : decode cJ26_find 165 = .ok (.aload 4, 2) := dk_25 4 (dk_at dksJ26_find_7 2 rfl rfl)
theorem dJ26_find_167 : decode cJ26_find 167 = .ok (.ifnonnull (-164), 3) := dk_199 255 92 (dk_at dksJ26_find_7 4 rfl rfl)
theorem dJ26_find_170 : decode cJ26_find 170 = .ok (.aconst_null, 1) := dk_1 (dk_at dksJ26_find_7 7 rfl rfl)
theorem dJ26_find_171 : decode cJ26_find 171 = .ok (.areturn, 1) := dk_176 (dk_at dksJ26_find_7 8 rfl rfl)
abbrev cJ26_split : ByteArray := prog_61_method_11_code
def yJ26_split : MethodName := ⟨RJ26, "split", "(Ljava/util/HashMap;[Ljava/util/HashMap$Node;II)V"⟩
def dkwJ26_split_9 : List UInt8 := [198, 0, 9, 25, 8, 44, 182, 0, 126, 177]
abbrev dktJ26_split_9 : List UInt8 := dkwJ26_split_9 ++ []
def dkwJ26_split_8 : List UInt8 := [21, 4, 96, 25, 8, 43, 182, 0, 119, 83, 167, 0, 22, 44, 29, 21, 4, 96, 25, 8, 83, 25, 6]
abbrev dktJ26_split_8 : List UInt8 := dkwJ26_split_8 ++ dktJ26_split_9
def dkwJ26_split_7 : List UInt8 := [198, 0, 9, 25, 6, 44, 182, 0, 126, 25, 8, 198, 0, 44, 21, 11, 16, 6, 163, 0, 18, 44, 29]
abbrev dktJ26_split_7 : List UInt8 := dkwJ26_split_7 ++ dktJ26_split_8
def dkwJ26_split_6 : List UInt8 := [163, 0, 15, 44, 29, 25, 6, 43, 182, 0, 119, 83, 167, 0, 19, 44, 29, 25, 6, 83, 25, 8]
abbrev dktJ26_split_6 : List UInt8 := dkwJ26_split_6 ++ dktJ26_split_7
def dkwJ26_split_5 : List UInt8 := [25, 12, 58, 9, 132, 11, 1, 25, 13, 58, 12, 167, 255, 153, 25, 6, 198, 0, 38, 21, 10, 16, 6]
abbrev dktJ26_split_5 : List UInt8 := dkwJ26_split_5 ++ dktJ26_split_6
def dkwJ26_split_4 : List UInt8 := [25, 9, 90, 181, 0, 19, 199, 0, 10, 25, 12, 58, 8, 167, 0, 10, 25, 9, 25, 12, 181, 0, 22]
abbrev dktJ26_split_4 : List UInt8 := dkwJ26_split_4 ++ dktJ26_split_5
def dkwJ26_split_3 : List UInt8 := [58, 6, 167, 0, 10, 25, 7, 25, 12, 181, 0, 22, 25, 12, 58, 7, 132, 10, 1, 167, 0, 35, 25, 12]
abbrev dktJ26_split_3 : List UInt8 := dkwJ26_split_3 ++ dktJ26_split_4
def dkwJ26_split_2 : List UInt8 := [25, 12, 180, 0, 15, 21, 4, 126, 154, 0, 38, 25, 12, 25, 7, 90, 181, 0, 19, 199, 0, 10, 25, 12]
abbrev dktJ26_split_2 : List UInt8 := dkwJ26_split_2 ++ dktJ26_split_3
def dkwJ26_split_1 : List UInt8 := [58, 12, 25, 12, 198, 0, 104, 25, 12, 180, 0, 22, 192, 0, 10, 58, 13, 25, 12, 1, 181, 0, 22]
abbrev dktJ26_split_1 : List UInt8 := dkwJ26_split_1 ++ dktJ26_split_2
def dkwJ26_split_0 : List UInt8 := [42, 58, 5, 1, 58, 6, 1, 58, 7, 1, 58, 8, 1, 58, 9, 3, 54, 10, 3, 54, 11, 25, 5]
abbrev dktJ26_split_0 : List UInt8 := dkwJ26_split_0 ++ dktJ26_split_1
theorem dksJ26_split_0 : cJ26_split.data.toList.drop 0 = dktJ26_split_0 := by decide +kernel
theorem dksJ26_split_1 : cJ26_split.data.toList.drop 23 = dktJ26_split_1 := dk_seg dksJ26_split_0 23 rfl rfl
theorem dksJ26_split_2 : cJ26_split.data.toList.drop 46 = dktJ26_split_2 := dk_seg dksJ26_split_1 23 rfl rfl
theorem dksJ26_split_3 : cJ26_split.data.toList.drop 70 = dktJ26_split_3 := dk_seg dksJ26_split_2 24 rfl rfl
theorem dksJ26_split_4 : cJ26_split.data.toList.drop 94 = dktJ26_split_4 := dk_seg dksJ26_split_3 24 rfl rfl
theorem dksJ26_split_5 : cJ26_split.data.toList.drop 117 = dktJ26_split_5 := dk_seg dksJ26_split_4 23 rfl rfl
theorem dksJ26_split_6 : cJ26_split.data.toList.drop 140 = dktJ26_split_6 := dk_seg dksJ26_split_5 23 rfl rfl
theorem dksJ26_split_7 : cJ26_split.data.toList.drop 162 = dktJ26_split_7 := dk_seg dksJ26_split_6 22 rfl rfl
theorem dksJ26_split_8 : cJ26_split.data.toList.drop 185 = dktJ26_split_8 := dk_seg dksJ26_split_7 23 rfl rfl
theorem dksJ26_split_9 : cJ26_split.data.toList.drop 208 = dktJ26_split_9 := dk_seg dksJ26_split_8 23 rfl rfl
theorem dJ26_split_0 : decode cJ26_split 0 = .ok (.aload_n 0, 1) := dk_42 (dk_at dksJ26_split_0 0 rfl rfl)
theorem dJ26_split_1 : decode cJ26_split 1 = .ok (.astore 5, 2) := dk_58 5 (dk_at dksJ26_split_0 1 rfl rfl)
theorem dJ26_split_3 : decode cJ26_split 3 = .ok (.aconst_null, 1) := dk_1 (dk_at dksJ26_split_0 3 rfl rfl)
theorem dJ26_split_4 : decode cJ26_split 4 = .ok (.astore 6, 2) := dk_58 6 (dk_at dksJ26_split_0 4 rfl rfl)
theorem dJ26_split_6 : decode cJ26_split 6 = .ok (.aconst_null, 1) := dk_1 (dk_at dksJ26_split_0 6 rfl rfl)
theorem dJ26_split_7 : decode cJ26_split 7 = .ok (.astore 7, 2) := dk_58 7 (dk_at dksJ26_split_0 7 rfl rfl)
theorem dJ26_split_9 : decode cJ26_split 9 = .ok (.aconst_null, 1) := dk_1 (dk_at dksJ26_split_0 9 rfl rfl)
theorem dJ26_split_10 : decode cJ26_split 10 = .ok (.astore 8, 2) := dk_58 8 (dk_at dksJ26_split_0 10 rfl rfl)
theorem dJ26_split_12 : decode cJ26_split 12 = .ok (.aconst_null, 1) := dk_1 (dk_at dksJ26_split_0 12 rfl rfl)
theorem dJ26_split_13 : decode cJ26_split 13 = .ok (.astore 9, 2) := dk_58 9 (dk_at dksJ26_split_0 13 rfl rfl)
theorem dJ26_split_15 : decode cJ26_split 15 = .ok (.iconst 0, 1) := dk_3 (dk_at dksJ26_split_0 15 rfl rfl)
theorem dJ26_split_16 : decode cJ26_split 16 = .ok (.istore 10, 2) := dk_54 10 (dk_at dksJ26_split_0 16 rfl rfl)
theorem dJ26_split_18 : decode cJ26_split 18 = .ok (.iconst 0, 1) := dk_3 (dk_at dksJ26_split_0 18 rfl rfl)
theorem dJ26_split_19 : decode cJ26_split 19 = .ok (.istore 11, 2) := dk_54 11 (dk_at dksJ26_split_0 19 rfl rfl)
theorem dJ26_split_21 : decode cJ26_split 21 = .ok (.aload 5, 2) := dk_25 5 (dk_at dksJ26_split_0 21 rfl rfl)
theorem dJ26_split_23 : decode cJ26_split 23 = .ok (.astore 12, 2) := dk_58 12 (dk_at dksJ26_split_1 0 rfl rfl)
theorem dJ26_split_25 : decode cJ26_split 25 = .ok (.aload 12, 2) := dk_25 12 (dk_at dksJ26_split_1 2 rfl rfl)
theorem dJ26_split_27 : decode cJ26_split 27 = .ok (.ifnull 104, 3) := dk_198 0 104 (dk_at dksJ26_split_1 4 rfl rfl)
theorem dJ26_split_30 : decode cJ26_split 30 = .ok (.aload 12, 2) := dk_25 12 (dk_at dksJ26_split_1 7 rfl rfl)
theorem dJ26_split_32 : decode cJ26_split 32 = .ok (.getfield 22, 3) := dk_180 0 22 (dk_at dksJ26_split_1 9 rfl rfl)
theorem dJ26_split_35 : decode cJ26_split 35 = .ok (.checkcast 10, 3) := dk_192 0 10 (dk_at dksJ26_split_1 12 rfl rfl)
theorem dJ26_split_38 : decode cJ26_split 38 = .ok (.astore 13, 2) := dk_58 13 (dk_at dksJ26_split_1 15 rfl rfl)
theorem dJ26_split_40 : decode cJ26_split 40 = .ok (.aload 12, 2) := dk_25 12 (dk_at dksJ26_split_1 17 rfl rfl)
theorem dJ26_split_42 : decode cJ26_split 42 = .ok (.aconst_null, 1) := dk_1 (dk_at dksJ26_split_1 19 rfl rfl)
theorem dJ26_split_43 : decode cJ26_split 43 = .ok (.putfield 22, 3) := dk_181 0 22 (dk_at dksJ26_split_1 20 rfl rfl)
theorem dJ26_split_46 : decode cJ26_split 46 = .ok (.aload 12, 2) := dk_25 12 (dk_at dksJ26_split_2 0 rfl rfl)
theorem dJ26_split_48 : decode cJ26_split 48 = .ok (.getfield 15, 3) := dk_180 0 15 (dk_at dksJ26_split_2 2 rfl rfl)
theorem dJ26_split_51 : decode cJ26_split 51 = .ok (.iload 4, 2) := dk_21 4 (dk_at dksJ26_split_2 5 rfl rfl)
theorem dJ26_split_53 : decode cJ26_split 53 = .ok (.iand, 1) := dk_126 (dk_at dksJ26_split_2 7 rfl rfl)
theorem dJ26_split_54 : decode cJ26_split 54 = .ok (.ifCond .ne 38, 3) := dk_154 0 38 (dk_at dksJ26_split_2 8 rfl rfl)
theorem dJ26_split_57 : decode cJ26_split 57 = .ok (.aload 12, 2) := dk_25 12 (dk_at dksJ26_split_2 11 rfl rfl)
theorem dJ26_split_59 : decode cJ26_split 59 = .ok (.aload 7, 2) := dk_25 7 (dk_at dksJ26_split_2 13 rfl rfl)
theorem dJ26_split_61 : decode cJ26_split 61 = .ok (.dup_x1, 1) := dk_90 (dk_at dksJ26_split_2 15 rfl rfl)
theorem dJ26_split_62 : decode cJ26_split 62 = .ok (.putfield 19, 3) := dk_181 0 19 (dk_at dksJ26_split_2 16 rfl rfl)
theorem dJ26_split_65 : decode cJ26_split 65 = .ok (.ifnonnull 10, 3) := dk_199 0 10 (dk_at dksJ26_split_2 19 rfl rfl)
theorem dJ26_split_68 : decode cJ26_split 68 = .ok (.aload 12, 2) := dk_25 12 (dk_at dksJ26_split_2 22 rfl rfl)
theorem dJ26_split_70 : decode cJ26_split 70 = .ok (.astore 6, 2) := dk_58 6 (dk_at dksJ26_split_3 0 rfl rfl)
theorem dJ26_split_72 : decode cJ26_split 72 = .ok (.goto 10, 3) := dk_167 0 10 (dk_at dksJ26_split_3 2 rfl rfl)
theorem dJ26_split_75 : decode cJ26_split 75 = .ok (.aload 7, 2) := dk_25 7 (dk_at dksJ26_split_3 5 rfl rfl)
theorem dJ26_split_77 : decode cJ26_split 77 = .ok (.aload 12, 2) := dk_25 12 (dk_at dksJ26_split_3 7 rfl rfl)
theorem dJ26_split_79 : decode cJ26_split 79 = .ok (.putfield 22, 3) := dk_181 0 22 (dk_at dksJ26_split_3 9 rfl rfl)
theorem dJ26_split_82 : decode cJ26_split 82 = .ok (.aload 12, 2) := dk_25 12 (dk_at dksJ26_split_3 12 rfl rfl)
theorem dJ26_split_84 : decode cJ26_split 84 = .ok (.astore 7, 2) := dk_58 7 (dk_at dksJ26_split_3 14 rfl rfl)
theorem dJ26_split_86 : decode cJ26_split 86 = .ok (.iinc 10 1, 3) := dk_132 10 1 (dk_at dksJ26_split_3 16 rfl rfl)
theorem dJ26_split_89 : decode cJ26_split 89 = .ok (.goto 35, 3) := dk_167 0 35 (dk_at dksJ26_split_3 19 rfl rfl)
theorem dJ26_split_92 : decode cJ26_split 92 = .ok (.aload 12, 2) := dk_25 12 (dk_at dksJ26_split_3 22 rfl rfl)
theorem dJ26_split_94 : decode cJ26_split 94 = .ok (.aload 9, 2) := dk_25 9 (dk_at dksJ26_split_4 0 rfl rfl)
theorem dJ26_split_96 : decode cJ26_split 96 = .ok (.dup_x1, 1) := dk_90 (dk_at dksJ26_split_4 2 rfl rfl)
theorem dJ26_split_97 : decode cJ26_split 97 = .ok (.putfield 19, 3) := dk_181 0 19 (dk_at dksJ26_split_4 3 rfl rfl)
theorem dJ26_split_100 : decode cJ26_split 100 = .ok (.ifnonnull 10, 3) := dk_199 0 10 (dk_at dksJ26_split_4 6 rfl rfl)
theorem dJ26_split_103 : decode cJ26_split 103 = .ok (.aload 12, 2) := dk_25 12 (dk_at dksJ26_split_4 9 rfl rfl)
theorem dJ26_split_105 : decode cJ26_split 105 = .ok (.astore 8, 2) := dk_58 8 (dk_at dksJ26_split_4 11 rfl rfl)
theorem dJ26_split_107 : decode cJ26_split 107 = .ok (.goto 10, 3) := dk_167 0 10 (dk_at dksJ26_split_4 13 rfl rfl)
theorem dJ26_split_110 : decode cJ26_split 110 = .ok (.aload 9, 2) := dk_25 9 (dk_at dksJ26_split_4 16 rfl rfl)
theorem dJ26_split_112 : decode cJ26_split 112 = .ok (.aload 12, 2) := dk_25 12 (dk_at dksJ26_split_4 18 rfl rfl)
theorem dJ26_split_114 : decode cJ26_split 114 = .ok (.putfield 22, 3) := dk_181 0 22 (dk_at dksJ26_split_4 20 rfl rfl)
theorem dJ26_split_117 : decode cJ26_split 117 = .ok (.aload 12, 2) := dk_25 12 (dk_at dksJ26_split_5 0 rfl rfl)
theorem dJ26_split_119 : decode cJ26_split 119 = .ok (.astore 9, 2) := dk_58 9 (dk_at dksJ26_split_5 2 rfl rfl)
theorem dJ26_split_121 : decode cJ26_split 121 = .ok (.iinc 11 1, 3) := dk_132 11 1 (dk_at dksJ26_split_5 4 rfl rfl)
theorem dJ26_split_124 : decode cJ26_split 124 = .ok (.aload 13, 2) := dk_25 13 (dk_at dksJ26_split_5 7 rfl rfl)
theorem dJ26_split_126 : decode cJ26_split 126 = .ok (.astore 12, 2) := dk_58 12 (dk_at dksJ26_split_5 9 rfl rfl)
theorem dJ26_split_128 : decode cJ26_split 128 = .ok (.goto (-103), 3) := dk_167 255 153 (dk_at dksJ26_split_5 11 rfl rfl)
theorem dJ26_split_131 : decode cJ26_split 131 = .ok (.aload 6, 2) := dk_25 6 (dk_at dksJ26_split_5 14 rfl rfl)
theorem dJ26_split_133 : decode cJ26_split 133 = .ok (.ifnull 38, 3) := dk_198 0 38 (dk_at dksJ26_split_5 16 rfl rfl)
theorem dJ26_split_136 : decode cJ26_split 136 = .ok (.iload 10, 2) := dk_21 10 (dk_at dksJ26_split_5 19 rfl rfl)
theorem dJ26_split_138 : decode cJ26_split 138 = .ok (.bipush 6, 2) := dk_16 6 (dk_at dksJ26_split_5 21 rfl rfl)
theorem dJ26_split_140 : decode cJ26_split 140 = .ok (.if_icmp .gt 15, 3) := dk_163 0 15 (dk_at dksJ26_split_6 0 rfl rfl)
theorem dJ26_split_143 : decode cJ26_split 143 = .ok (.aload_n 2, 1) := dk_44 (dk_at dksJ26_split_6 3 rfl rfl)
theorem dJ26_split_144 : decode cJ26_split 144 = .ok (.iload_n 3, 1) := dk_29 (dk_at dksJ26_split_6 4 rfl rfl)
theorem dJ26_split_145 : decode cJ26_split 145 = .ok (.aload 6, 2) := dk_25 6 (dk_at dksJ26_split_6 5 rfl rfl)
theorem dJ26_split_147 : decode cJ26_split 147 = .ok (.aload_n 1, 1) := dk_43 (dk_at dksJ26_split_6 7 rfl rfl)
theorem dJ26_split_148 : decode cJ26_split 148 = .ok (.invokevirtual 119, 3) := dk_182 0 119 (dk_at dksJ26_split_6 8 rfl rfl)
theorem dJ26_split_151 : decode cJ26_split 151 = .ok (.aastore, 1) := dk_83 (dk_at dksJ26_split_6 11 rfl rfl)
theorem dJ26_split_152 : decode cJ26_split 152 = .ok (.goto 19, 3) := dk_167 0 19 (dk_at dksJ26_split_6 12 rfl rfl)
theorem dJ26_split_155 : decode cJ26_split 155 = .ok (.aload_n 2, 1) := dk_44 (dk_at dksJ26_split_6 15 rfl rfl)
theorem dJ26_split_156 : decode cJ26_split 156 = .ok (.iload_n 3, 1) := dk_29 (dk_at dksJ26_split_6 16 rfl rfl)
theorem dJ26_split_157 : decode cJ26_split 157 = .ok (.aload 6, 2) := dk_25 6 (dk_at dksJ26_split_6 17 rfl rfl)
theorem dJ26_split_159 : decode cJ26_split 159 = .ok (.aastore, 1) := dk_83 (dk_at dksJ26_split_6 19 rfl rfl)
theorem dJ26_split_160 : decode cJ26_split 160 = .ok (.aload 8, 2) := dk_25 8 (dk_at dksJ26_split_6 20 rfl rfl)
theorem dJ26_split_162 : decode cJ26_split 162 = .ok (.ifnull 9, 3) := dk_198 0 9 (dk_at dksJ26_split_7 0 rfl rfl)
theorem dJ26_split_165 : decode cJ26_split 165 = .ok (.aload 6, 2) := dk_25 6 (dk_at dksJ26_split_7 3 rfl rfl)
theorem dJ26_split_167 : decode cJ26_split 167 = .ok (.aload_n 2, 1) := dk_44 (dk_at dksJ26_split_7 5 rfl rfl)
theorem dJ26_split_168 : decode cJ26_split 168 = .ok (.invokevirtual 126, 3) := dk_182 0 126 (dk_at dksJ26_split_7 6 rfl rfl)
theorem dJ26_split_171 : decode cJ26_split 171 = .ok (.aload 8, 2) := dk_25 8 (dk_at dksJ26_split_7 9 rfl rfl)
theorem dJ26_split_173 : decode cJ26_split 173 = .ok (.ifnull 44, 3) := dk_198 0 44 (dk_at dksJ26_split_7 11 rfl rfl)
theorem dJ26_split_176 : decode cJ26_split 176 = .ok (.iload 11, 2) := dk_21 11 (dk_at dksJ26_split_7 14 rfl rfl)
theorem dJ26_split_178 : decode cJ26_split 178 = .ok (.bipush 6, 2) := dk_16 6 (dk_at dksJ26_split_7 16 rfl rfl)
theorem dJ26_split_180 : decode cJ26_split 180 = .ok (.if_icmp .gt 18, 3) := dk_163 0 18 (dk_at dksJ26_split_7 18 rfl rfl)
theorem dJ26_split_183 : decode cJ26_split 183 = .ok (.aload_n 2, 1) := dk_44 (dk_at dksJ26_split_7 21 rfl rfl)
theorem dJ26_split_184 : decode cJ26_split 184 = .ok (.iload_n 3, 1) := dk_29 (dk_at dksJ26_split_7 22 rfl rfl)
theorem dJ26_split_185 : decode cJ26_split 185 = .ok (.iload 4, 2) := dk_21 4 (dk_at dksJ26_split_8 0 rfl rfl)
theorem dJ26_split_187 : decode cJ26_split 187 = .ok (.iadd, 1) := dk_96 (dk_at dksJ26_split_8 2 rfl rfl)
theorem dJ26_split_188 : decode cJ26_split 188 = .ok (.aload 8, 2) := dk_25 8 (dk_at dksJ26_split_8 3 rfl rfl)
theorem dJ26_split_190 : decode cJ26_split 190 = .ok (.aload_n 1, 1) := dk_43 (dk_at dksJ26_split_8 5 rfl rfl)
theorem dJ26_split_191 : decode cJ26_split 191 = .ok (.invokevirtual 119, 3) := dk_182 0 119 (dk_at dksJ26_split_8 6 rfl rfl)
theorem dJ26_split_194 : decode cJ26_split 194 = .ok (.aastore, 1) := dk_83 (dk_at dksJ26_split_8 9 rfl rfl)
theorem dJ26_split_195 : decode cJ26_split 195 = .ok (.goto 22, 3) := dk_167 0 22 (dk_at dksJ26_split_8 10 rfl rfl)
theorem dJ26_split_198 : decode cJ26_split 198 = .ok (.aload_n 2, 1) := dk_44 (dk_at dksJ26_split_8 13 rfl rfl)
theorem dJ26_split_199 : decode cJ26_split 199 = .ok (.iload_n 3, 1) := dk_29 (dk_at dksJ26_split_8 14 rfl rfl)
theorem dJ26_split_200 : decode cJ26_split 200 = .ok (.iload 4, 2) := dk_21 4 (dk_at dksJ26_split_8 15 rfl rfl)
theorem dJ26_split_202 : decode cJ26_split 202 = .ok (.iadd, 1) := dk_96 (dk_at dksJ26_split_8 17 rfl rfl)
theorem dJ26_split_203 : decode cJ26_split 203 = .ok (.aload 8, 2) := dk_25 8 (dk_at dksJ26_split_8 18 rfl rfl)
theorem dJ26_split_205 : decode cJ26_split 205 = .ok (.aastore, 1) := dk_83 (dk_at dksJ26_split_8 20 rfl rfl)
theorem dJ26_split_206 : decode cJ26_split 206 = .ok (.aload 6, 2) := dk_25 6 (dk_at dksJ26_split_8 21 rfl rfl)
theorem dJ26_split_208 : decode cJ26_split 208 = .ok (.ifnull 9, 3) := dk_198 0 9 (dk_at dksJ26_split_9 0 rfl rfl)
theorem dJ26_split_211 : decode cJ26_split 211 = .ok (.aload 8, 2) := dk_25 8 (dk_at dksJ26_split_9 3 rfl rfl)
theorem dJ26_split_213 : decode cJ26_split 213 = .ok (.aload_n 2, 1) := dk_44 (dk_at dksJ26_split_9 5 rfl rfl)
theorem dJ26_split_214 : decode cJ26_split 214 = .ok (.invokevirtual 126, 3) := dk_182 0 126 (dk_at dksJ26_split_9 6 rfl rfl)
theorem dJ26_split_217 : decode cJ26_split 217 = .ok (.return_, 1) := dk_177 (dk_at dksJ26_split_9 9 rfl rfl)
abbrev cJ26_untreeify : ByteArray := prog_61_method_8_code
def yJ26_untreeify : MethodName := ⟨RJ26, "untreeify", "(Ljava/util/HashMap;)Ljava/util/HashMap$Node;"⟩
def dkwJ26_untreeify_2 : List UInt8 := [58, 4, 167, 255, 216, 44, 176]
abbrev dktJ26_untreeify_2 : List UInt8 := dkwJ26_untreeify_2 ++ []
def dkwJ26_untreeify_1 : List UInt8 := [199, 0, 9, 25, 5, 77, 167, 0, 9, 45, 25, 5, 181, 0, 112, 25, 5, 78, 25, 4, 180, 0, 112]
abbrev dktJ26_untreeify_1 : List UInt8 := dkwJ26_untreeify_1 ++ dktJ26_untreeify_2
def dkwJ26_untreeify_0 : List UInt8 := [1, 77, 1, 78, 42, 58, 4, 25, 4, 198, 0, 41, 43, 25, 4, 1, 182, 0, 108, 58, 5, 45]
abbrev dktJ26_untreeify_0 : List UInt8 := dkwJ26_untreeify_0 ++ dktJ26_untreeify_1
theorem dksJ26_untreeify_0 : cJ26_untreeify.data.toList.drop 0 = dktJ26_untreeify_0 := by decide +kernel
theorem dksJ26_untreeify_1 : cJ26_untreeify.data.toList.drop 22 = dktJ26_untreeify_1 := dk_seg dksJ26_untreeify_0 22 rfl rfl
theorem dksJ26_untreeify_2 : cJ26_untreeify.data.toList.drop 45 = dktJ26_untreeify_2 := dk_seg dksJ26_untreeify_1 23 rfl rfl
theorem dJ26_untreeify_0 : decode cJ26_untreeify 0 = .ok (.aconst_null, 1) := dk_1 (dk_at dksJ26_untreeify_0 0 rfl rfl)
theorem dJ26_untreeify_1 : decode cJ26_untreeify 1 = .ok (.astore_n 2, 1) := dk_77 (dk_at dksJ26_untreeify_0 1 rfl rfl)
theorem dJ26_untreeify_2 : decode cJ26_untreeify 2 = .ok (.aconst_null, 1) := dk_1 (dk_at dksJ26_untreeify_0 2 rfl rfl)
theorem dJ26_untreeify_3 : decode cJ26_untreeify 3 = .ok (.astore_n 3, 1) := dk_78 (dk_at dksJ26_untreeify_0 3 rfl rfl)
theorem dJ26_untreeify_4 : decode cJ26_untreeify 4 = .ok (.aload_n 0, 1) := dk_42 (dk_at dksJ26_untreeify_0 4 rfl rfl)
theorem dJ26_untreeify_5 : decode cJ26_untreeify 5 = .ok (.astore 4, 2) := dk_58 4 (dk_at dksJ26_untreeify_0 5 rfl rfl)
theorem dJ26_untreeify_7 : decode cJ26_untreeify 7 = .ok (.aload 4, 2) := dk_25 4 (dk_at dksJ26_untreeify_0 7 rfl rfl)
theorem dJ26_untreeify_9 : decode cJ26_untreeify 9 = .ok (.ifnull 41, 3) := dk_198 0 41 (dk_at dksJ26_untreeify_0 9 rfl rfl)
theorem dJ26_untreeify_12 : decode cJ26_untreeify 12 = .ok (.aload_n 1, 1) := dk_43 (dk_at dksJ26_untreeify_0 12 rfl rfl)
theorem dJ26_untreeify_13 : decode cJ26_untreeify 13 = .ok (.aload 4, 2) := dk_25 4 (dk_at dksJ26_untreeify_0 13 rfl rfl)
theorem dJ26_untreeify_15 : decode cJ26_untreeify 15 = .ok (.aconst_null, 1) := dk_1 (dk_at dksJ26_untreeify_0 15 rfl rfl)
theorem dJ26_untreeify_16 : decode cJ26_untreeify 16 = .ok (.invokevirtual 108, 3) := dk_182 0 108 (dk_at dksJ26_untreeify_0 16 rfl rfl)
theorem dJ26_untreeify_19 : decode cJ26_untreeify 19 = .ok (.astore 5, 2) := dk_58 5 (dk_at dksJ26_untreeify_0 19 rfl rfl)
theorem dJ26_untreeify_21 : decode cJ26_untreeify 21 = .ok (.aload_n 3, 1) := dk_45 (dk_at dksJ26_untreeify_0 21 rfl rfl)
theorem dJ26_untreeify_22 : decode cJ26_untreeify 22 = .ok (.ifnonnull 9, 3) := dk_199 0 9 (dk_at dksJ26_untreeify_1 0 rfl rfl)
theorem dJ26_untreeify_25 : decode cJ26_untreeify 25 = .ok (.aload 5, 2) := dk_25 5 (dk_at dksJ26_untreeify_1 3 rfl rfl)
theorem dJ26_untreeify_27 : decode cJ26_untreeify 27 = .ok (.astore_n 2, 1) := dk_77 (dk_at dksJ26_untreeify_1 5 rfl rfl)
theorem dJ26_untreeify_28 : decode cJ26_untreeify 28 = .ok (.goto 9, 3) := dk_167 0 9 (dk_at dksJ26_untreeify_1 6 rfl rfl)
theorem dJ26_untreeify_31 : decode cJ26_untreeify 31 = .ok (.aload_n 3, 1) := dk_45 (dk_at dksJ26_untreeify_1 9 rfl rfl)
theorem dJ26_untreeify_32 : decode cJ26_untreeify 32 = .ok (.aload 5, 2) := dk_25 5 (dk_at dksJ26_untreeify_1 10 rfl rfl)
theorem dJ26_untreeify_34 : decode cJ26_untreeify 34 = .ok (.putfield 112, 3) := dk_181 0 112 (dk_at dksJ26_untreeify_1 12 rfl rfl)
theorem dJ26_untreeify_37 : decode cJ26_untreeify 37 = .ok (.aload 5, 2) := dk_25 5 (dk_at dksJ26_untreeify_1 15 rfl rfl)
theorem dJ26_untreeify_39 : decode cJ26_untreeify 39 = .ok (.astore_n 3, 1) := dk_78 (dk_at dksJ26_untreeify_1 17 rfl rfl)
theorem dJ26_untreeify_40 : decode cJ26_untreeify 40 = .ok (.aload 4, 2) := dk_25 4 (dk_at dksJ26_untreeify_1 18 rfl rfl)
theorem dJ26_untreeify_42 : decode cJ26_untreeify 42 = .ok (.getfield 112, 3) := dk_180 0 112 (dk_at dksJ26_untreeify_1 20 rfl rfl)
theorem dJ26_untreeify_45 : decode cJ26_untreeify 45 = .ok (.astore 4, 2) := dk_58 4 (dk_at dksJ26_untreeify_2 0 rfl rfl)
theorem dJ26_untreeify_47 : decode cJ26_untreeify 47 = .ok (.goto (-40), 3) := dk_167 255 216 (dk_at dksJ26_untreeify_2 2 rfl rfl)
theorem dJ26_untreeify_50 : decode cJ26_untreeify 50 = .ok (.aload_n 2, 1) := dk_44 (dk_at dksJ26_untreeify_2 5 rfl rfl)
theorem dJ26_untreeify_51 : decode cJ26_untreeify 51 = .ok (.areturn, 1) := dk_176 (dk_at dksJ26_untreeify_2 6 rfl rfl)
abbrev cJ26_treeify : ByteArray := prog_61_method_7_code
def yJ26_treeify : MethodName := ⟨RJ26, "treeify", "([Ljava/util/HashMap$Node;)V"⟩
def dkwJ26_treeify_9 : List UInt8 := [25, 4, 78, 167, 255, 48, 43, 44, 184, 0, 104, 177]
abbrev dktJ26_treeify_9 : List UInt8 := dkwJ26_treeify_9 ++ []
def dkwJ26_treeify_8 : List UInt8 := [181, 0, 39, 167, 0, 9, 25, 12, 45, 181, 0, 42, 44, 45, 184, 0, 100, 77, 167, 0, 6, 167, 255, 114]
abbrev dktJ26_treeify_8 : List UInt8 := dkwJ26_treeify_8 ++ dktJ26_treeify_9
def dkwJ26_treeify_7 : List UInt8 := [180, 0, 42, 89, 58, 8, 199, 0, 38, 45, 25, 12, 181, 0, 9, 21, 9, 157, 0, 12, 25, 12, 45]
abbrev dktJ26_treeify_7 : List UInt8 := dkwJ26_treeify_7 ++ dktJ26_treeify_8
def dkwJ26_treeify_6 : List UInt8 := [184, 0, 96, 54, 9, 25, 8, 58, 12, 21, 9, 157, 0, 11, 25, 8, 180, 0, 39, 167, 0, 8, 25, 8]
abbrev dktJ26_treeify_6 : List UInt8 := dkwJ26_treeify_6 ++ dktJ26_treeify_7
def dkwJ26_treeify_5 : List UInt8 := [198, 0, 18, 25, 7, 25, 5, 25, 11, 184, 0, 59, 89, 54, 9, 154, 0, 12, 25, 5, 25, 11]
abbrev dktJ26_treeify_5 : List UInt8 := dkwJ26_treeify_5 ++ dktJ26_treeify_6
def dkwJ26_treeify_4 : List UInt8 := [162, 0, 9, 4, 54, 9, 167, 0, 43, 25, 7, 199, 0, 14, 25, 5, 184, 0, 55, 89, 58, 7]
abbrev dktJ26_treeify_4 : List UInt8 := dkwJ26_treeify_4 ++ dktJ26_treeify_5
def dkwJ26_treeify_3 : List UInt8 := [25, 8, 180, 0, 15, 89, 54, 10, 21, 6, 164, 0, 9, 2, 54, 9, 167, 0, 56, 21, 10, 21, 6]
abbrev dktJ26_treeify_3 : List UInt8 := dkwJ26_treeify_3 ++ dktJ26_treeify_4
def dkwJ26_treeify_2 : List UInt8 := [180, 0, 45, 58, 5, 45, 180, 0, 15, 54, 6, 1, 58, 7, 44, 58, 8, 25, 8, 180, 0, 45, 58, 11]
abbrev dktJ26_treeify_2 : List UInt8 := dkwJ26_treeify_2 ++ dktJ26_treeify_3
def dkwJ26_treeify_1 : List UInt8 := [181, 0, 39, 44, 199, 0, 18, 45, 1, 181, 0, 9, 45, 3, 181, 0, 93, 45, 77, 167, 0, 166, 45]
abbrev dktJ26_treeify_1 : List UInt8 := dkwJ26_treeify_1 ++ dktJ26_treeify_2
def dkwJ26_treeify_0 : List UInt8 := [1, 77, 42, 78, 45, 198, 0, 210, 45, 180, 0, 22, 192, 0, 10, 58, 4, 45, 45, 1, 90, 181, 0, 42]
abbrev dktJ26_treeify_0 : List UInt8 := dkwJ26_treeify_0 ++ dktJ26_treeify_1
theorem dksJ26_treeify_0 : cJ26_treeify.data.toList.drop 0 = dktJ26_treeify_0 := by decide +kernel
theorem dksJ26_treeify_1 : cJ26_treeify.data.toList.drop 24 = dktJ26_treeify_1 := dk_seg dksJ26_treeify_0 24 rfl rfl
theorem dksJ26_treeify_2 : cJ26_treeify.data.toList.drop 47 = dktJ26_treeify_2 := dk_seg dksJ26_treeify_1 23 rfl rfl
theorem dksJ26_treeify_3 : cJ26_treeify.data.toList.drop 71 = dktJ26_treeify_3 := dk_seg dksJ26_treeify_2 24 rfl rfl
theorem dksJ26_treeify_4 : cJ26_treeify.data.toList.drop 94 = dktJ26_treeify_4 := dk_seg dksJ26_treeify_3 23 rfl rfl
theorem dksJ26_treeify_5 : cJ26_treeify.data.toList.drop 116 = dktJ26_treeify_5 := dk_seg dksJ26_treeify_4 22 rfl rfl
theorem dksJ26_treeify_6 : cJ26_treeify.data.toList.drop 138 = dktJ26_treeify_6 := dk_seg dksJ26_treeify_5 22 rfl rfl
theorem dksJ26_treeify_7 : cJ26_treeify.data.toList.drop 162 = dktJ26_treeify_7 := dk_seg dksJ26_treeify_6 24 rfl rfl
theorem dksJ26_treeify_8 : cJ26_treeify.data.toList.drop 185 = dktJ26_treeify_8 := dk_seg dksJ26_treeify_7 23 rfl rfl
theorem dksJ26_treeify_9 : cJ26_treeify.data.toList.drop 209 = dktJ26_treeify_9 := dk_seg dksJ26_treeify_8 24 rfl rfl
theorem dJ26_treeify_0 : decode cJ26_treeify 0 = .ok (.aconst_null, 1) := dk_1 (dk_at dksJ26_treeify_0 0 rfl rfl)
theorem dJ26_treeify_1 : decode cJ26_treeify 1 = .ok (.astore_n 2, 1) := dk_77 (dk_at dksJ26_treeify_0 1 rfl rfl)
theorem dJ26_treeify_2 : decode cJ26_treeify 2 = .ok (.aload_n 0, 1) := dk_42 (dk_at dksJ26_treeify_0 2 rfl rfl)
theorem dJ26_treeify_3 : decode cJ26_treeify 3 = .ok (.astore_n 3, 1) := dk_78 (dk_at dksJ26_treeify_0 3 rfl rfl)
theorem dJ26_treeify_4 : decode cJ26_treeify 4 = .ok (.aload_n 3, 1) := dk_45 (dk_at dksJ26_treeify_0 4 rfl rfl)
theorem dJ26_treeify_5 : decode cJ26_treeify 5 = .ok (.ifnull 210, 3) := dk_198 0 210 (dk_at dksJ26_treeify_0 5 rfl rfl)
theorem dJ26_treeify_8 : decode cJ26_treeify 8 = .ok (.aload_n 3, 1) := dk_45 (dk_at dksJ26_treeify_0 8 rfl rfl)
theorem dJ26_treeify_9 : decode cJ26_treeify 9 = .ok (.getfield 22, 3) := dk_180 0 22 (dk_at dksJ26_treeify_0 9 rfl rfl)
theorem dJ26_treeify_12 : decode cJ26_treeify 12 = .ok (.checkcast 10, 3) := dk_192 0 10 (dk_at dksJ26_treeify_0 12 rfl rfl)
theorem dJ26_treeify_15 : decode cJ26_treeify 15 = .ok (.astore 4, 2) := dk_58 4 (dk_at dksJ26_treeify_0 15 rfl rfl)
theorem dJ26_treeify_17 : decode cJ26_treeify 17 = .ok (.aload_n 3, 1) := dk_45 (dk_at dksJ26_treeify_0 17 rfl rfl)
theorem dJ26_treeify_18 : decode cJ26_treeify 18 = .ok (.aload_n 3, 1) := dk_45 (dk_at dksJ26_treeify_0 18 rfl rfl)
theorem dJ26_treeify_19 : decode cJ26_treeify 19 = .ok (.aconst_null, 1) := dk_1 (dk_at dksJ26_treeify_0 19 rfl rfl)
theorem dJ26_treeify_20 : decode cJ26_treeify 20 = .ok (.dup_x1, 1) := dk_90 (dk_at dksJ26_treeify_0 20 rfl rfl)
theorem dJ26_treeify_21 : decode cJ26_treeify 21 = .ok (.putfield 42, 3) := dk_181 0 42 (dk_at dksJ26_treeify_0 21 rfl rfl)
theorem dJ26_treeify_24 : decode cJ26_treeify 24 = .ok (.putfield 39, 3) := dk_181 0 39 (dk_at dksJ26_treeify_1 0 rfl rfl)
theorem dJ26_treeify_27 : decode cJ26_treeify 27 = .ok (.aload_n 2, 1) := dk_44 (dk_at dksJ26_treeify_1 3 rfl rfl)
theorem dJ26_treeify_28 : decode cJ26_treeify 28 = .ok (.ifnonnull 18, 3) := dk_199 0 18 (dk_at dksJ26_treeify_1 4 rfl rfl)
theorem dJ26_treeify_31 : decode cJ26_treeify 31 = .ok (.aload_n 3, 1) := dk_45 (dk_at dksJ26_treeify_1 7 rfl rfl)
theorem dJ26_treeify_32 : decode cJ26_treeify 32 = .ok (.aconst_null, 1) := dk_1 (dk_at dksJ26_treeify_1 8 rfl rfl)
theorem dJ26_treeify_33 : decode cJ26_treeify 33 = .ok (.putfield 9, 3) := dk_181 0 9 (dk_at dksJ26_treeify_1 9 rfl rfl)
theorem dJ26_treeify_36 : decode cJ26_treeify 36 = .ok (.aload_n 3, 1) := dk_45 (dk_at dksJ26_treeify_1 12 rfl rfl)
theorem dJ26_treeify_37 : decode cJ26_treeify 37 = .ok (.iconst 0, 1) := dk_3 (dk_at dksJ26_treeify_1 13 rfl rfl)
theorem dJ26_treeify_38 : decode cJ26_treeify 38 = .ok (.putfield 93, 3) := dk_181 0 93 (dk_at dksJ26_treeify_1 14 rfl rfl)
theorem dJ26_treeify_41 : decode cJ26_treeify 41 = .ok (.aload_n 3, 1) := dk_45 (dk_at dksJ26_treeify_1 17 rfl rfl)
theorem dJ26_treeify_42 : decode cJ26_treeify 42 = .ok (.astore_n 2, 1) := dk_77 (dk_at dksJ26_treeify_1 18 rfl rfl)
theorem dJ26_treeify_43 : decode cJ26_treeify 43 = .ok (.goto 166, 3) := dk_167 0 166 (dk_at dksJ26_treeify_1 19 rfl rfl)
theorem dJ26_treeify_46 : decode cJ26_treeify 46 = .ok (.aload_n 3, 1) := dk_45 (dk_at dksJ26_treeify_1 22 rfl rfl)
theorem dJ26_treeify_47 : decode cJ26_treeify 47 = .ok (.getfield 45, 3) := dk_180 0 45 (dk_at dksJ26_treeify_2 0 rfl rfl)
theorem dJ26_treeify_50 : decode cJ26_treeify 50 = .ok (.astore 5, 2) := dk_58 5 (dk_at dksJ26_treeify_2 3 rfl rfl)
theorem dJ26_treeify_52 : decode cJ26_treeify 52 = .ok (.aload_n 3, 1) := dk_45 (dk_at dksJ26_treeify_2 5 rfl rfl)
theorem dJ26_treeify_53 : decode cJ26_treeify 53 = .ok (.getfield 15, 3) := dk_180 0 15 (dk_at dksJ26_treeify_2 6 rfl rfl)
theorem dJ26_treeify_56 : decode cJ26_treeify 56 = .ok (.istore 6, 2) := dk_54 6 (dk_at dksJ26_treeify_2 9 rfl rfl)
theorem dJ26_treeify_58 : decode cJ26_treeify 58 = .ok (.aconst_null, 1) := dk_1 (dk_at dksJ26_treeify_2 11 rfl rfl)
theorem dJ26_treeify_59 : decode cJ26_treeify 59 = .ok (.astore 7, 2) := dk_58 7 (dk_at dksJ26_treeify_2 12 rfl rfl)
theorem dJ26_treeify_61 : decode cJ26_treeify 61 = .ok (.aload_n 2, 1) := dk_44 (dk_at dksJ26_treeify_2 14 rfl rfl)
theorem dJ26_treeify_62 : decode cJ26_treeify 62 = .ok (.astore 8, 2) := dk_58 8 (dk_at dksJ26_treeify_2 15 rfl rfl)
theorem dJ26_treeify_64 : decode cJ26_treeify 64 = .ok (.aload 8, 2) := dk_25 8 (dk_at dksJ26_treeify_2 17 rfl rfl)
theorem dJ26_treeify_66 : decode cJ26_treeify 66 = .ok (.getfield 45, 3) := dk_180 0 45 (dk_at dksJ26_treeify_2 19 rfl rfl)
theorem dJ26_treeify_69 : decode cJ26_treeify 69 = .ok (.astore 11, 2) := dk_58 11 (dk_at dksJ26_treeify_2 22 rfl rfl)
theorem dJ26_treeify_71 : decode cJ26_treeify 71 = .ok (.aload 8, 2) := dk_25 8 (dk_at dksJ26_treeify_3 0 rfl rfl)
theorem dJ26_treeify_73 : decode cJ26_treeify 73 = .ok (.getfield 15, 3) := dk_180 0 15 (dk_at dksJ26_treeify_3 2 rfl rfl)
theorem dJ26_treeify_76 : decode cJ26_treeify 76 = .ok (.dup, 1) := dk_89 (dk_at dksJ26_treeify_3 5 rfl rfl)
theorem dJ26_treeify_77 : decode cJ26_treeify 77 = .ok (.istore 10, 2) := dk_54 10 (dk_at dksJ26_treeify_3 6 rfl rfl)
theorem dJ26_treeify_79 : decode cJ26_treeify 79 = .ok (.iload 6, 2) := dk_21 6 (dk_at dksJ26_treeify_3 8 rfl rfl)
theorem dJ26_treeify_81 : decode cJ26_treeify 81 = .ok (.if_icmp .le 9, 3) := dk_164 0 9 (dk_at dksJ26_treeify_3 10 rfl rfl)
theorem dJ26_treeify_84 : decode cJ26_treeify 84 = .ok (.iconst (-1), 1) := dk_2 (dk_at dksJ26_treeify_3 13 rfl rfl)
theorem dJ26_treeify_85 : decode cJ26_treeify 85 = .ok (.istore 9, 2) := dk_54 9 (dk_at dksJ26_treeify_3 14 rfl rfl)
theorem dJ26_treeify_87 : decode cJ26_treeify 87 = .ok (.goto 56, 3) := dk_167 0 56 (dk_at dksJ26_treeify_3 16 rfl rfl)
theorem dJ26_treeify_90 : decode cJ26_treeify 90 = .ok (.iload 10, 2) := dk_21 10 (dk_at dksJ26_treeify_3 19 rfl rfl)
theorem dJ26_treeify_92 : decode cJ26_treeify 92 = .ok (.iload 6, 2) := dk_21 6 (dk_at dksJ26_treeify_3 21 rfl rfl)
theorem dJ26_treeify_94 : decode cJ26_treeify 94 = .ok (.if_icmp .ge 9, 3) := dk_162 0 9 (dk_at dksJ26_treeify_4 0 rfl rfl)
theorem dJ26_treeify_97 : decode cJ26_treeify 97 = .ok (.iconst 1, 1) := dk_4 (dk_at dksJ26_treeify_4 3 rfl rfl)
theorem dJ26_treeify_98 : decode cJ26_treeify 98 = .ok (.istore 9, 2) := dk_54 9 (dk_at dksJ26_treeify_4 4 rfl rfl)
theorem dJ26_treeify_100 : decode cJ26_treeify 100 = .ok (.goto 43, 3) := dk_167 0 43 (dk_at dksJ26_treeify_4 6 rfl rfl)
theorem dJ26_treeify_103 : decode cJ26_treeify 103 = .ok (.aload 7, 2) := dk_25 7 (dk_at dksJ26_treeify_4 9 rfl rfl)
theorem dJ26_treeify_105 : decode cJ26_treeify 105 = .ok (.ifnonnull 14, 3) := dk_199 0 14 (dk_at dksJ26_treeify_4 11 rfl rfl)
theorem dJ26_treeify_108 : decode cJ26_treeify 108 = .ok (.aload 5, 2) := dk_25 5 (dk_at dksJ26_treeify_4 14 rfl rfl)
theorem dJ26_treeify_110 : decode cJ26_treeify 110 = .ok (.invokestatic 55, 3) := dk_184 0 55 (dk_at dksJ26_treeify_4 16 rfl rfl)
theorem dJ26_treeify_113 : decode cJ26_treeify 113 = .ok (.dup, 1) := dk_89 (dk_at dksJ26_treeify_4 19 rfl rfl)
theorem dJ26_treeify_114 : decode cJ26_treeify 114 = .ok (.astore 7, 2) := dk_58 7 (dk_at dksJ26_treeify_4 20 rfl rfl)
theorem dJ26_treeify_116 : decode cJ26_treeify 116 = .ok (.ifnull 18, 3) := dk_198 0 18 (dk_at dksJ26_treeify_5 0 rfl rfl)
theorem dJ26_treeify_119 : decode cJ26_treeify 119 = .ok (.aload 7, 2) := dk_25 7 (dk_at dksJ26_treeify_5 3 rfl rfl)
theorem dJ26_treeify_121 : decode cJ26_treeify 121 = .ok (.aload 5, 2) := dk_25 5 (dk_at dksJ26_treeify_5 5 rfl rfl)
theorem dJ26_treeify_123 : decode cJ26_treeify 123 = .ok (.aload 11, 2) := dk_25 11 (dk_at dksJ26_treeify_5 7 rfl rfl)
theorem dJ26_treeify_125 : decode cJ26_treeify 125 = .ok (.invokestatic 59, 3) := dk_184 0 59 (dk_at dksJ26_treeify_5 9 rfl rfl)
theorem dJ26_treeify_128 : decode cJ26_treeify 128 = .ok (.dup, 1) := dk_89 (dk_at dksJ26_treeify_5 12 rfl rfl)
theorem dJ26_treeify_129 : decode cJ26_treeify 129 = .ok (.istore 9, 2) := dk_54 9 (dk_at dksJ26_treeify_5 13 rfl rfl)
theorem dJ26_treeify_131 : decode cJ26_treeify 131 = .ok (.ifCond .ne 12, 3) := dk_154 0 12 (dk_at dksJ26_treeify_5 15 rfl rfl)
theorem dJ26_treeify_134 : decode cJ26_treeify 134 = .ok (.aload 5, 2) := dk_25 5 (dk_at dksJ26_treeify_5 18 rfl rfl)
theorem dJ26_treeify_136 : decode cJ26_treeify 136 = .ok (.aload 11, 2) := dk_25 11 (dk_at dksJ26_treeify_5 20 rfl rfl)
theorem dJ26_treeify_138 : decode cJ26_treeify 138 = .ok (.invokestatic 96, 3) := dk_184 0 96 (dk_at dksJ26_treeify_6 0 rfl rfl)
theorem dJ26_treeify_141 : decode cJ26_treeify 141 = .ok (.istore 9, 2) := dk_54 9 (dk_at dksJ26_treeify_6 3 rfl rfl)
theorem dJ26_treeify_143 : decode cJ26_treeify 143 = .ok (.aload 8, 2) := dk_25 8 (dk_at dksJ26_treeify_6 5 rfl rfl)
theorem dJ26_treeify_145 : decode cJ26_treeify 145 = .ok (.astore 12, 2) := dk_58 12 (dk_at dksJ26_treeify_6 7 rfl rfl)
theorem dJ26_treeify_147 : decode cJ26_treeify 147 = .ok (.iload 9, 2) := dk_21 9 (dk_at dksJ26_treeify_6 9 rfl rfl)
theorem dJ26_treeify_149 : decode cJ26_treeify 149 = .ok (.ifCond .gt 11, 3) := dk_157 0 11 (dk_at dksJ26_treeify_6 11 rfl rfl)
theorem dJ26_treeify_152 : decode cJ26_treeify 152 = .ok (.aload 8, 2) := dk_25 8 (dk_at dksJ26_treeify_6 14 rfl rfl)
theorem dJ26_treeify_154 : decode cJ26_treeify 154 = .ok (.getfield 39, 3) := dk_180 0 39 (dk_at dksJ26_treeify_6 16 rfl rfl)
theorem dJ26_treeify_157 : decode cJ26_treeify 157 = .ok (.goto 8, 3) := dk_167 0 8 (dk_at dksJ26_treeify_6 19 rfl rfl)
theorem dJ26_treeify_160 : decode cJ26_treeify 160 = .ok (.aload 8, 2) := dk_25 8 (dk_at dksJ26_treeify_6 22 rfl rfl)
theorem dJ26_treeify_162 : decode cJ26_treeify 162 = .ok (.getfield 42, 3) := dk_180 0 42 (dk_at dksJ26_treeify_7 0 rfl rfl)
theorem dJ26_treeify_165 : decode cJ26_treeify 165 = .ok (.dup, 1) := dk_89 (dk_at dksJ26_treeify_7 3 rfl rfl)
theorem dJ26_treeify_166 : decode cJ26_treeify 166 = .ok (.astore 8, 2) := dk_58 8 (dk_at dksJ26_treeify_7 4 rfl rfl)
theorem dJ26_treeify_168 : decode cJ26_treeify 168 = .ok (.ifnonnull 38, 3) := dk_199 0 38 (dk_at dksJ26_treeify_7 6 rfl rfl)
theorem dJ26_treeify_171 : decode cJ26_treeify 171 = .ok (.aload_n 3, 1) := dk_45 (dk_at dksJ26_treeify_7 9 rfl rfl)
theorem dJ26_treeify_172 : decode cJ26_treeify 172 = .ok (.aload 12, 2) := dk_25 12 (dk_at dksJ26_treeify_7 10 rfl rfl)
theorem dJ26_treeify_174 : decode cJ26_treeify 174 = .ok (.putfield 9, 3) := dk_181 0 9 (dk_at dksJ26_treeify_7 12 rfl rfl)
theorem dJ26_treeify_177 : decode cJ26_treeify 177 = .ok (.iload 9, 2) := dk_21 9 (dk_at dksJ26_treeify_7 15 rfl rfl)
theorem dJ26_treeify_179 : decode cJ26_treeify 179 = .ok (.ifCond .gt 12, 3) := dk_157 0 12 (dk_at dksJ26_treeify_7 17 rfl rfl)
theorem dJ26_treeify_182 : decode cJ26_treeify 182 = .ok (.aload 12, 2) := dk_25 12 (dk_at dksJ26_treeify_7 20 rfl rfl)
theorem dJ26_treeify_184 : decode cJ26_treeify 184 = .ok (.aload_n 3, 1) := dk_45 (dk_at dksJ26_treeify_7 22 rfl rfl)
theorem dJ26_treeify_185 : decode cJ26_treeify 185 = .ok (.putfield 39, 3) := dk_181 0 39 (dk_at dksJ26_treeify_8 0 rfl rfl)
theorem dJ26_treeify_188 : decode cJ26_treeify 188 = .ok (.goto 9, 3) := dk_167 0 9 (dk_at dksJ26_treeify_8 3 rfl rfl)
theorem dJ26_treeify_191 : decode cJ26_treeify 191 = .ok (.aload 12, 2) := dk_25 12 (dk_at dksJ26_treeify_8 6 rfl rfl)
theorem dJ26_treeify_193 : decode cJ26_treeify 193 = .ok (.aload_n 3, 1) := dk_45 (dk_at dksJ26_treeify_8 8 rfl rfl)
theorem dJ26_treeify_194 : decode cJ26_treeify 194 = .ok (.putfield 42, 3) := dk_181 0 42 (dk_at dksJ26_treeify_8 9 rfl rfl)
theorem dJ26_treeify_197 : decode cJ26_treeify 197 = .ok (.aload_n 2, 1) := dk_44 (dk_at dksJ26_treeify_8 12 rfl rfl)
theorem dJ26_treeify_198 : decode cJ26_treeify 198 = .ok (.aload_n 3, 1) := dk_45 (dk_at dksJ26_treeify_8 13 rfl rfl)
theorem dJ26_treeify_199 : decode cJ26_treeify 199 = .ok (.invokestatic 100, 3) := dk_184 0 100 (dk_at dksJ26_treeify_8 14 rfl rfl)
theorem dJ26_treeify_202 : decode cJ26_treeify 202 = .ok (.astore_n 2, 1) := dk_77 (dk_at dksJ26_treeify_8 17 rfl rfl)
theorem dJ26_treeify_203 : decode cJ26_treeify 203 = .ok (.goto 6, 3) := dk_167 0 6 (dk_at dksJ26_treeify_8 18 rfl rfl)
theorem dJ26_treeify_206 : decode cJ26_treeify 206 = .ok (.goto (-142), 3) := dk_167 255 114 (dk_at dksJ26_treeify_8 21 rfl rfl)
theorem dJ26_treeify_209 : decode cJ26_treeify 209 = .ok (.aload 4, 2) := dk_25 4 (dk_at dksJ26_treeify_9 0 rfl rfl)
theorem dJ26_treeify_211 : decode cJ26_treeify 211 = .ok (.astore_n 3, 1) := dk_78 (dk_at dksJ26_treeify_9 2 rfl rfl)
theorem dJ26_treeify_212 : decode cJ26_treeify 212 = .ok (.goto (-208), 3) := dk_167 255 48 (dk_at dksJ26_treeify_9 3 rfl rfl)
theorem dJ26_treeify_215 : decode cJ26_treeify 215 = .ok (.aload_n 1, 1) := dk_43 (dk_at dksJ26_treeify_9 6 rfl rfl)
theorem dJ26_treeify_216 : decode cJ26_treeify 216 = .ok (.aload_n 2, 1) := dk_44 (dk_at dksJ26_treeify_9 7 rfl rfl)
theorem dJ26_treeify_217 : decode cJ26_treeify 217 = .ok (.invokestatic 104, 3) := dk_184 0 104 (dk_at dksJ26_treeify_9 8 rfl rfl)
theorem dJ26_treeify_220 : decode cJ26_treeify 220 = .ok (.return_, 1) := dk_177 (dk_at dksJ26_treeify_9 11 rfl rfl)
abbrev cJ26_balanceInsertion : ByteArray := prog_61_method_14_code
def yJ26_balanceInsertion : MethodName := ⟨RJ26, "balanceInsertion", "(Ljava/util/HashMap$TreeNode;Ljava/util/HashMap$TreeNode;)Ljava/util/HashMap$TreeNode;"⟩
def dkwJ26_balanceInsertion_10 : List UInt8 := [198, 255, 33, 45, 4, 181, 0, 93, 42, 45, 184, 0, 130, 75, 167, 255, 19]
abbrev dktJ26_balanceInsertion_10 : List UInt8 := dkwJ26_balanceInsertion_10 ++ []
def dkwJ26_balanceInsertion_9 : List UInt8 := [199, 0, 7, 1, 167, 0, 7, 44, 180, 0, 9, 78, 44, 198, 255, 42, 44, 3, 181, 0, 93, 45]
abbrev dktJ26_balanceInsertion_9 : List UInt8 := dkwJ26_balanceInsertion_9 ++ dktJ26_balanceInsertion_10
def dkwJ26_balanceInsertion_8 : List UInt8 := [43, 44, 180, 0, 39, 166, 0, 29, 42, 44, 89, 76, 184, 0, 133, 75, 43, 180, 0, 9, 89, 77]
abbrev dktJ26_balanceInsertion_8 : List UInt8 := dkwJ26_balanceInsertion_8 ++ dktJ26_balanceInsertion_9
def dkwJ26_balanceInsertion_7 : List UInt8 := [153, 0, 24, 25, 4, 3, 181, 0, 93, 44, 3, 181, 0, 93, 45, 4, 181, 0, 93, 45, 76, 167, 255, 80]
abbrev dktJ26_balanceInsertion_7 : List UInt8 := dkwJ26_balanceInsertion_7 ++ dktJ26_balanceInsertion_8
def dkwJ26_balanceInsertion_6 : List UInt8 := [181, 0, 93, 42, 45, 184, 0, 133, 75, 167, 255, 114, 25, 4, 198, 0, 32, 25, 4, 180, 0, 93]
abbrev dktJ26_balanceInsertion_6 : List UInt8 := dkwJ26_balanceInsertion_6 ++ dktJ26_balanceInsertion_7
def dkwJ26_balanceInsertion_5 : List UInt8 := [167, 0, 7, 44, 180, 0, 9, 78, 44, 198, 255, 137, 44, 3, 181, 0, 93, 45, 198, 255, 128, 45, 4]
abbrev dktJ26_balanceInsertion_5 : List UInt8 := dkwJ26_balanceInsertion_5 ++ dktJ26_balanceInsertion_6
def dkwJ26_balanceInsertion_4 : List UInt8 := [180, 0, 42, 166, 0, 29, 42, 44, 89, 76, 184, 0, 130, 75, 43, 180, 0, 9, 89, 77, 199, 0, 7, 1]
abbrev dktJ26_balanceInsertion_4 : List UInt8 := dkwJ26_balanceInsertion_4 ++ dktJ26_balanceInsertion_5
def dkwJ26_balanceInsertion_3 : List UInt8 := [25, 5, 3, 181, 0, 93, 44, 3, 181, 0, 93, 45, 4, 181, 0, 93, 45, 76, 167, 255, 175, 43, 44]
abbrev dktJ26_balanceInsertion_3 : List UInt8 := dkwJ26_balanceInsertion_3 ++ dktJ26_balanceInsertion_4
def dkwJ26_balanceInsertion_2 : List UInt8 := [58, 4, 166, 0, 103, 45, 180, 0, 42, 89, 58, 5, 198, 0, 32, 25, 5, 180, 0, 93, 153, 0, 24]
abbrev dktJ26_balanceInsertion_2 : List UInt8 := dkwJ26_balanceInsertion_2 ++ dktJ26_balanceInsertion_3
def dkwJ26_balanceInsertion_1 : List UInt8 := [180, 0, 93, 153, 0, 12, 44, 180, 0, 9, 89, 78, 199, 0, 5, 42, 176, 44, 45, 180, 0, 39, 89]
abbrev dktJ26_balanceInsertion_1 : List UInt8 := dkwJ26_balanceInsertion_1 ++ dktJ26_balanceInsertion_2
def dkwJ26_balanceInsertion_0 : List UInt8 := [43, 4, 181, 0, 93, 43, 180, 0, 9, 89, 77, 199, 0, 10, 43, 3, 181, 0, 93, 43, 176, 44]
abbrev dktJ26_balanceInsertion_0 : List UInt8 := dkwJ26_balanceInsertion_0 ++ dktJ26_balanceInsertion_1
theorem dksJ26_balanceInsertion_0 : cJ26_balanceInsertion.data.toList.drop 0 = dktJ26_balanceInsertion_0 := by decide +kernel
theorem dksJ26_balanceInsertion_1 : cJ26_balanceInsertion.data.toList.drop 22 = dktJ26_balanceInsertion_1 := dk_seg dksJ26_balanceInsertion_0 22 rfl rfl
theorem dksJ26_balanceInsertion_2 : cJ26_balanceInsertion.data.toList.drop 45 = dktJ26_balanceInsertion_2 := dk_seg dksJ26_balanceInsertion_1 23 rfl rfl
theorem dksJ26_balanceInsertion_3 : cJ26_balanceInsertion.data.toList.drop 68 = dktJ26_balanceInsertion_3 := dk_seg dksJ26_balanceInsertion_2 23 rfl rfl
theorem dksJ26_balanceInsertion_4 : cJ26_balanceInsertion.data.toList.drop 91 = dktJ26_balanceInsertion_4 := dk_seg dksJ26_balanceInsertion_3 23 rfl rfl
theorem dksJ26_balanceInsertion_5 : cJ26_balanceInsertion.data.toList.drop 115 = dktJ26_balanceInsertion_5 := dk_seg dksJ26_balanceInsertion_4 24 rfl rfl
theorem dksJ26_balanceInsertion_6 : cJ26_balanceInsertion.data.toList.drop 138 = dktJ26_balanceInsertion_6 := dk_seg dksJ26_balanceInsertion_5 23 rfl rfl
theorem dksJ26_balanceInsertion_7 : cJ26_balanceInsertion.data.toList.drop 160 = dktJ26_balanceInsertion_7 := dk_seg dksJ26_balanceInsertion_6 22 rfl rfl
theorem dksJ26_balanceInsertion_8 : cJ26_balanceInsertion.data.toList.drop 184 = dktJ26_balanceInsertion_8 := dk_seg dksJ26_balanceInsertion_7 24 rfl rfl
theorem dksJ26_balanceInsertion_9 : cJ26_balanceInsertion.data.toList.drop 206 = dktJ26_balanceInsertion_9 := dk_seg dksJ26_balanceInsertion_8 22 rfl rfl
theorem dksJ26_balanceInsertion_10 : cJ26_balanceInsertion.data.toList.drop 228 = dktJ26_balanceInsertion_10 := dk_seg dksJ26_balanceInsertion_9 22 rfl rfl
theorem dJ26_balanceInsertion_0 : decode cJ26_balanceInsertion 0 = .ok (.aload_n 1, 1) := dk_43 (dk_at dksJ26_balanceInsertion_0 0 rfl rfl)
theorem dJ26_balanceInsertion_1 : decode cJ26_balanceInsertion 1 = .ok (.iconst 1, 1) := dk_4 (dk_at dksJ26_balanceInsertion_0 1 rfl rfl)
theorem dJ26_balanceInsertion_2 : decode cJ26_balanceInsertion 2 = .ok (.putfield 93, 3) := dk_181 0 93 (dk_at dksJ26_balanceInsertion_0 2 rfl rfl)
theorem dJ26_balanceInsertion_5 : decode cJ26_balanceInsertion 5 = .ok (.aload_n 1, 1) := dk_43 (dk_at dksJ26_balanceInsertion_0 5 rfl rfl)
theorem dJ26_balanceInsertion_6 : decode cJ26_balanceInsertion 6 = .ok (.getfield 9, 3) := dk_180 0 9 (dk_at dksJ26_balanceInsertion_0 6 rfl rfl)
theorem dJ26_balanceInsertion_9 : decode cJ26_balanceInsertion 9 = .ok (.dup, 1) := dk_89 (dk_at dksJ26_balanceInsertion_0 9 rfl rfl)
theorem dJ26_balanceInsertion_10 : decode cJ26_balanceInsertion 10 = .ok (.astore_n 2, 1) := dk_77 (dk_at dksJ26_balanceInsertion_0 10 rfl rfl)
theorem dJ26_balanceInsertion_11 : decode cJ26_balanceInsertion 11 = .ok (.ifnonnull 10, 3) := dk_199 0 10 (dk_at dksJ26_balanceInsertion_0 11 rfl rfl)
theorem dJ26_balanceInsertion_14 : decode cJ26_balanceInsertion 14 = .ok (.aload_n 1, 1) := dk_43 (dk_at dksJ26_balanceInsertion_0 14 rfl rfl)
theorem dJ26_balanceInsertion_15 : decode cJ26_balanceInsertion 15 = .ok (.iconst 0, 1) := dk_3 (dk_at dksJ26_balanceInsertion_0 15 rfl rfl)
theorem dJ26_balanceInsertion_16 : decode cJ26_balanceInsertion 16 = .ok (.putfield 93, 3) := dk_181 0 93 (dk_at dksJ26_balanceInsertion_0 16 rfl rfl)
theorem dJ26_balanceInsertion_19 : decode cJ26_balanceInsertion 19 = .ok (.aload_n 1, 1) := dk_43 (dk_at dksJ26_balanceInsertion_0 19 rfl rfl)
theorem dJ26_balanceInsertion_20 : decode cJ26_balanceInsertion 20 = .ok (.areturn, 1) := dk_176 (dk_at dksJ26_balanceInsertion_0 20 rfl rfl)
theorem dJ26_balanceInsertion_21 : decode cJ26_balanceInsertion 21 = .ok (.aload_n 2, 1) := dk_44 (dk_at dksJ26_balanceInsertion_0 21 rfl rfl)
theorem dJ26_balanceInsertion_22 : decode cJ26_balanceInsertion 22 = .ok (.getfield 93, 3) := dk_180 0 93 (dk_at dksJ26_balanceInsertion_1 0 rfl rfl)
theorem dJ26_balanceInsertion_25 : decode cJ26_balanceInsertion 25 = .ok (.ifCond .eq 12, 3) := dk_153 0 12 (dk_at dksJ26_balanceInsertion_1 3 rfl rfl)
theorem dJ26_balanceInsertion_28 : decode cJ26_balanceInsertion 28 = .ok (.aload_n 2, 1) := dk_44 (dk_at dksJ26_balanceInsertion_1 6 rfl rfl)
theorem dJ26_balanceInsertion_29 : decode cJ26_balanceInsertion 29 = .ok (.getfield 9, 3) := dk_180 0 9 (dk_at dksJ26_balanceInsertion_1 7 rfl rfl)
theorem dJ26_balanceInsertion_32 : decode cJ26_balanceInsertion 32 = .ok (.dup, 1) := dk_89 (dk_at dksJ26_balanceInsertion_1 10 rfl rfl)
theorem dJ26_balanceInsertion_33 : decode cJ26_balanceInsertion 33 = .ok (.astore_n 3, 1) := dk_78 (dk_at dksJ26_balanceInsertion_1 11 rfl rfl)
theorem dJ26_balanceInsertion_34 : decode cJ26_balanceInsertion 34 = .ok (.ifnonnull 5, 3) := dk_199 0 5 (dk_at dksJ26_balanceInsertion_1 12 rfl rfl)
theorem dJ26_balanceInsertion_37 : decode cJ26_balanceInsertion 37 = .ok (.aload_n 0, 1) := dk_42 (dk_at dksJ26_balanceInsertion_1 15 rfl rfl)
theorem dJ26_balanceInsertion_38 : decode cJ26_balanceInsertion 38 = .ok (.areturn, 1) := dk_176 (dk_at dksJ26_balanceInsertion_1 16 rfl rfl)
theorem dJ26_balanceInsertion_39 : decode cJ26_balanceInsertion 39 = .ok (.aload_n 2, 1) := dk_44 (dk_at dksJ26_balanceInsertion_1 17 rfl rfl)
theorem dJ26_balanceInsertion_40 : decode cJ26_balanceInsertion 40 = .ok (.aload_n 3, 1) := dk_45 (dk_at dksJ26_balanceInsertion_1 18 rfl rfl)
theorem dJ26_balanceInsertion_41 : decode cJ26_balanceInsertion 41 = .ok (.getfield 39, 3) := dk_180 0 39 (dk_at dksJ26_balanceInsertion_1 19 rfl rfl)
theorem dJ26_balanceInsertion_44 : decode cJ26_balanceInsertion 44 = .ok (.dup, 1) := dk_89 (dk_at dksJ26_balanceInsertion_1 22 rfl rfl)
theorem dJ26_balanceInsertion_45 : decode cJ26_balanceInsertion 45 = .ok (.astore 4, 2) := dk_58 4 (dk_at dksJ26_balanceInsertion_2 0 rfl rfl)
theorem dJ26_balanceInsertion_47 : decode cJ26_balanceInsertion 47 = .ok (.if_acmp .ne 103, 3) := dk_166 0 103 (dk_at dksJ26_balanceInsertion_2 2 rfl rfl)
theorem dJ26_balanceInsertion_50 : decode cJ26_balanceInsertion 50 = .ok (.aload_n 3, 1) := dk_45 (dk_at dksJ26_balanceInsertion_2 5 rfl rfl)
theorem dJ26_balanceInsertion_51 : decode cJ26_balanceInsertion 51 = .ok (.getfield 42, 3) := dk_180 0 42 (dk_at dksJ26_balanceInsertion_2 6 rfl rfl)
theorem dJ26_balanceInsertion_54 : decode cJ26_balanceInsertion 54 = .ok (.dup, 1) := dk_89 (dk_at dksJ26_balanceInsertion_2 9 rfl rfl)
theorem dJ26_balanceInsertion_55 : decode cJ26_balanceInsertion 55 = .ok (.astore 5, 2) := dk_58 5 (dk_at dksJ26_balanceInsertion_2 10 rfl rfl)
theorem dJ26_balanceInsertion_57 : decode cJ26_balanceInsertion 57 = .ok (.ifnull 32, 3) := dk_198 0 32 (dk_at dksJ26_balanceInsertion_2 12 rfl rfl)
theorem dJ26_balanceInsertion_60 : decode cJ26_balanceInsertion 60 = .ok (.aload 5, 2) := dk_25 5 (dk_at dksJ26_balanceInsertion_2 15 rfl rfl)
theorem dJ26_balanceInsertion_62 : decode cJ26_balanceInsertion 62 = .ok (.getfield 93, 3) := dk_180 0 93 (dk_at dksJ26_balanceInsertion_2 17 rfl rfl)
theorem dJ26_balanceInsertion_65 : decode cJ26_balanceInsertion 65 = .ok (.ifCond .eq 24, 3) := dk_153 0 24 (dk_at dksJ26_balanceInsertion_2 20 rfl rfl)
theorem dJ26_balanceInsertion_68 : decode cJ26_balanceInsertion 68 = .ok (.aload 5, 2) := dk_25 5 (dk_at dksJ26_balanceInsertion_3 0 rfl rfl)
theorem dJ26_balanceInsertion_70 : decode cJ26_balanceInsertion 70 = .ok (.iconst 0, 1) := dk_3 (dk_at dksJ26_balanceInsertion_3 2 rfl rfl)
theorem dJ26_balanceInsertion_71 : decode cJ26_balanceInsertion 71 = .ok (.putfield 93, 3) := dk_181 0 93 (dk_at dksJ26_balanceInsertion_3 3 rfl rfl)
theorem dJ26_balanceInsertion_74 : decode cJ26_balanceInsertion 74 = .ok (.aload_n 2, 1) := dk_44 (dk_at dksJ26_balanceInsertion_3 6 rfl rfl)
theorem dJ26_balanceInsertion_75 : decode cJ26_balanceInsertion 75 = .ok (.iconst 0, 1) := dk_3 (dk_at dksJ26_balanceInsertion_3 7 rfl rfl)
theorem dJ26_balanceInsertion_76 : decode cJ26_balanceInsertion 76 = .ok (.putfield 93, 3) := dk_181 0 93 (dk_at dksJ26_balanceInsertion_3 8 rfl rfl)
theorem dJ26_balanceInsertion_79 : decode cJ26_balanceInsertion 79 = .ok (.aload_n 3, 1) := dk_45 (dk_at dksJ26_balanceInsertion_3 11 rfl rfl)
theorem dJ26_balanceInsertion_80 : decode cJ26_balanceInsertion 80 = .ok (.iconst 1, 1) := dk_4 (dk_at dksJ26_balanceInsertion_3 12 rfl rfl)
theorem dJ26_balanceInsertion_81 : decode cJ26_balanceInsertion 81 = .ok (.putfield 93, 3) := dk_181 0 93 (dk_at dksJ26_balanceInsertion_3 13 rfl rfl)
theorem dJ26_balanceInsertion_84 : decode cJ26_balanceInsertion 84 = .ok (.aload_n 3, 1) := dk_45 (dk_at dksJ26_balanceInsertion_3 16 rfl rfl)
theorem dJ26_balanceInsertion_85 : decode cJ26_balanceInsertion 85 = .ok (.astore_n 1, 1) := dk_76 (dk_at dksJ26_balanceInsertion_3 17 rfl rfl)
theorem dJ26_balanceInsertion_86 : decode cJ26_balanceInsertion 86 = .ok (.goto (-81), 3) := dk_167 255 175 (dk_at dksJ26_balanceInsertion_3 18 rfl rfl)
theorem dJ26_balanceInsertion_89 : decode cJ26_balanceInsertion 89 = .ok (.aload_n 1, 1) := dk_43 (dk_at dksJ26_balanceInsertion_3 21 rfl rfl)
theorem dJ26_balanceInsertion_90 : decode cJ26_balanceInsertion 90 = .ok (.aload_n 2, 1) := dk_44 (dk_at dksJ26_balanceInsertion_3 22 rfl rfl)
theorem dJ26_balanceInsertion_91 : decode cJ26_balanceInsertion 91 = .ok (.getfield 42, 3) := dk_180 0 42 (dk_at dksJ26_balanceInsertion_4 0 rfl rfl)
theorem dJ26_balanceInsertion_94 : decode cJ26_balanceInsertion 94 = .ok (.if_acmp .ne 29, 3) := dk_166 0 29 (dk_at dksJ26_balanceInsertion_4 3 rfl rfl)
theorem dJ26_balanceInsertion_97 : decode cJ26_balanceInsertion 97 = .ok (.aload_n 0, 1) := dk_42 (dk_at dksJ26_balanceInsertion_4 6 rfl rfl)
theorem dJ26_balanceInsertion_98 : decode cJ26_balanceInsertion 98 = .ok (.aload_n 2, 1) := dk_44 (dk_at dksJ26_balanceInsertion_4 7 rfl rfl)
theorem dJ26_balanceInsertion_99 : decode cJ26_balanceInsertion 99 = .ok (.dup, 1) := dk_89 (dk_at dksJ26_balanceInsertion_4 8 rfl rfl)
theorem dJ26_balanceInsertion_100 : decode cJ26_balanceInsertion 100 = .ok (.astore_n 1, 1) := dk_76 (dk_at dksJ26_balanceInsertion_4 9 rfl rfl)
theorem dJ26_balanceInsertion_101 : decode cJ26_balanceInsertion 101 = .ok (.invokestatic 130, 3) := dk_184 0 130 (dk_at dksJ26_balanceInsertion_4 10 rfl rfl)
theorem dJ26_balanceInsertion_104 : decode cJ26_balanceInsertion 104 = .ok (.astore_n 0, 1) := dk_75 (dk_at dksJ26_balanceInsertion_4 13 rfl rfl)
theorem dJ26_balanceInsertion_105 : decode cJ26_balanceInsertion 105 = .ok (.aload_n 1, 1) := dk_43 (dk_at dksJ26_balanceInsertion_4 14 rfl rfl)
theorem dJ26_balanceInsertion_106 : decode cJ26_balanceInsertion 106 = .ok (.getfield 9, 3) := dk_180 0 9 (dk_at dksJ26_balanceInsertion_4 15 rfl rfl)
theorem dJ26_balanceInsertion_109 : decode cJ26_balanceInsertion 109 = .ok (.dup, 1) := dk_89 (dk_at dksJ26_balanceInsertion_4 18 rfl rfl)
theorem dJ26_balanceInsertion_110 : decode cJ26_balanceInsertion 110 = .ok (.astore_n 2, 1) := dk_77 (dk_at dksJ26_balanceInsertion_4 19 rfl rfl)
theorem dJ26_balanceInsertion_111 : decode cJ26_balanceInsertion 111 = .ok (.ifnonnull 7, 3) := dk_199 0 7 (dk_at dksJ26_balanceInsertion_4 20 rfl rfl)
theorem dJ26_balanceInsertion_114 : decode cJ26_balanceInsertion 114 = .ok (.aconst_null, 1) := dk_1 (dk_at dksJ26_balanceInsertion_4 23 rfl rfl)
theorem dJ26_balanceInsertion_115 : decode cJ26_balanceInsertion 115 = .ok (.goto 7, 3) := dk_167 0 7 (dk_at dksJ26_balanceInsertion_5 0 rfl rfl)
theorem dJ26_balanceInsertion_118 : decode cJ26_balanceInsertion 118 = .ok (.aload_n 2, 1) := dk_44 (dk_at dksJ26_balanceInsertion_5 3 rfl rfl)
theorem dJ26_balanceInsertion_119 : decode cJ26_balanceInsertion 119 = .ok (.getfield 9, 3) := dk_180 0 9 (dk_at dksJ26_balanceInsertion_5 4 rfl rfl)
theorem dJ26_balanceInsertion_122 : decode cJ26_balanceInsertion 122 = .ok (.astore_n 3, 1) := dk_78 (dk_at dksJ26_balanceInsertion_5 7 rfl rfl)
theorem dJ26_balanceInsertion_123 : decode cJ26_balanceInsertion 123 = .ok (.aload_n 2, 1) := dk_44 (dk_at dksJ26_balanceInsertion_5 8 rfl rfl)
theorem dJ26_balanceInsertion_124 : decode cJ26_balanceInsertion 124 = .ok (.ifnull (-119), 3) := dk_198 255 137 (dk_at dksJ26_balanceInsertion_5 9 rfl rfl)
theorem dJ26_balanceInsertion_127 : decode cJ26_balanceInsertion 127 = .ok (.aload_n 2, 1) := dk_44 (dk_at dksJ26_balanceInsertion_5 12 rfl rfl)
theorem dJ26_balanceInsertion_128 : decode cJ26_balanceInsertion 128 = .ok (.iconst 0, 1) := dk_3 (dk_at dksJ26_balanceInsertion_5 13 rfl rfl)
theorem dJ26_balanceInsertion_129 : decode cJ26_balanceInsertion 129 = .ok (.putfield 93, 3) := dk_181 0 93 (dk_at dksJ26_balanceInsertion_5 14 rfl rfl)
theorem dJ26_balanceInsertion_132 : decode cJ26_balanceInsertion 132 = .ok (.aload_n 3, 1) := dk_45 (dk_at dksJ26_balanceInsertion_5 17 rfl rfl)
theorem dJ26_balanceInsertion_133 : decode cJ26_balanceInsertion 133 = .ok (.ifnull (-128), 3) := dk_198 255 128 (dk_at dksJ26_balanceInsertion_5 18 rfl rfl)
theorem dJ26_balanceInsertion_136 : decode cJ26_balanceInsertion 136 = .ok (.aload_n 3, 1) := dk_45 (dk_at dksJ26_balanceInsertion_5 21 rfl rfl)
theorem dJ26_balanceInsertion_137 : decode cJ26_balanceInsertion 137 = .ok (.iconst 1, 1) := dk_4 (dk_at dksJ26_balanceInsertion_5 22 rfl rfl)
theorem dJ26_balanceInsertion_138 : decode cJ26_balanceInsertion 138 = .ok (.putfield 93, 3) := dk_181 0 93 (dk_at dksJ26_balanceInsertion_6 0 rfl rfl)
theorem dJ26_balanceInsertion_141 : decode cJ26_balanceInsertion 141 = .ok (.aload_n 0, 1) := dk_42 (dk_at dksJ26_balanceInsertion_6 3 rfl rfl)
theorem dJ26_balanceInsertion_142 : decode cJ26_balanceInsertion 142 = .ok (.aload_n 3, 1) := dk_45 (dk_at dksJ26_balanceInsertion_6 4 rfl rfl)
theorem dJ26_balanceInsertion_143 : decode cJ26_balanceInsertion 143 = .ok (.invokestatic 133, 3) := dk_184 0 133 (dk_at dksJ26_balanceInsertion_6 5 rfl rfl)
theorem dJ26_balanceInsertion_146 : decode cJ26_balanceInsertion 146 = .ok (.astore_n 0, 1) := dk_75 (dk_at dksJ26_balanceInsertion_6 8 rfl rfl)
theorem dJ26_balanceInsertion_147 : decode cJ26_balanceInsertion 147 = .ok (.goto (-142), 3) := dk_167 255 114 (dk_at dksJ26_balanceInsertion_6 9 rfl rfl)
theorem dJ26_balanceInsertion_150 : decode cJ26_balanceInsertion 150 = .ok (.aload 4, 2) := dk_25 4 (dk_at dksJ26_balanceInsertion_6 12 rfl rfl)
theorem dJ26_balanceInsertion_152 : decode cJ26_balanceInsertion 152 = .ok (.ifnull 32, 3) := dk_198 0 32 (dk_at dksJ26_balanceInsertion_6 14 rfl rfl)
theorem dJ26_balanceInsertion_155 : decode cJ26_balanceInsertion 155 = .ok (.aload 4, 2) := dk_25 4 (dk_at dksJ26_balanceInsertion_6 17 rfl rfl)
theorem dJ26_balanceInsertion_157 : decode cJ26_balanceInsertion 157 = .ok (.getfield 93, 3) := dk_180 0 93 (dk_at dksJ26_balanceInsertion_6 19 rfl rfl)
theorem dJ26_balanceInsertion_160 : decode cJ26_balanceInsertion 160 = .ok (.ifCond .eq 24, 3) := dk_153 0 24 (dk_at dksJ26_balanceInsertion_7 0 rfl rfl)
theorem dJ26_balanceInsertion_163 : decode cJ26_balanceInsertion 163 = .ok (.aload 4, 2) := dk_25 4 (dk_at dksJ26_balanceInsertion_7 3 rfl rfl)
theorem dJ26_balanceInsertion_165 : decode cJ26_balanceInsertion 165 = .ok (.iconst 0, 1) := dk_3 (dk_at dksJ26_balanceInsertion_7 5 rfl rfl)
theorem dJ26_balanceInsertion_166 : decode cJ26_balanceInsertion 166 = .ok (.putfield 93, 3) := dk_181 0 93 (dk_at dksJ26_balanceInsertion_7 6 rfl rfl)
theorem dJ26_balanceInsertion_169 : decode cJ26_balanceInsertion 169 = .ok (.aload_n 2, 1) := dk_44 (dk_at dksJ26_balanceInsertion_7 9 rfl rfl)
theorem dJ26_balanceInsertion_170 : decode cJ26_balanceInsertion 170 = .ok (.iconst 0, 1) := dk_3 (dk_at dksJ26_balanceInsertion_7 10 rfl rfl)
theorem dJ26_balanceInsertion_171 : decode cJ26_balanceInsertion 171 = .ok (.putfield 93, 3) := dk_181 0 93 (dk_at dksJ26_balanceInsertion_7 11 rfl rfl)
theorem dJ26_balanceInsertion_174 : decode cJ26_balanceInsertion 174 = .ok (.aload_n 3, 1) := dk_45 (dk_at dksJ26_balanceInsertion_7 14 rfl rfl)
theorem dJ26_balanceInsertion_175 : decode cJ26_balanceInsertion 175 = .ok (.iconst 1, 1) := dk_4 (dk_at dksJ26_balanceInsertion_7 15 rfl rfl)
theorem dJ26_balanceInsertion_176 : decode cJ26_balanceInsertion 176 = .ok (.putfield 93, 3) := dk_181 0 93 (dk_at dksJ26_balanceInsertion_7 16 rfl rfl)
theorem dJ26_balanceInsertion_179 : decode cJ26_balanceInsertion 179 = .ok (.aload_n 3, 1) := dk_45 (dk_at dksJ26_balanceInsertion_7 19 rfl rfl)
theorem dJ26_balanceInsertion_180 : decode cJ26_balanceInsertion 180 = .ok (.astore_n 1, 1) := dk_76 (dk_at dksJ26_balanceInsertion_7 20 rfl rfl)
theorem dJ26_balanceInsertion_181 : decode cJ26_balanceInsertion 181 = .ok (.goto (-176), 3) := dk_167 255 80 (dk_at dksJ26_balanceInsertion_7 21 rfl rfl)
theorem dJ26_balanceInsertion_184 : decode cJ26_balanceInsertion 184 = .ok (.aload_n 1, 1) := dk_43 (dk_at dksJ26_balanceInsertion_8 0 rfl rfl)
theorem dJ26_balanceInsertion_185 : decode cJ26_balanceInsertion 185 = .ok (.aload_n 2, 1) := dk_44 (dk_at dksJ26_balanceInsertion_8 1 rfl rfl)
theorem dJ26_balanceInsertion_186 : decode cJ26_balanceInsertion 186 = .ok (.getfield 39, 3) := dk_180 0 39 (dk_at dksJ26_balanceInsertion_8 2 rfl rfl)
theorem dJ26_balanceInsertion_189 : decode cJ26_balanceInsertion 189 = .ok (.if_acmp .ne 29, 3) := dk_166 0 29 (dk_at dksJ26_balanceInsertion_8 5 rfl rfl)
theorem dJ26_balanceInsertion_192 : decode cJ26_balanceInsertion 192 = .ok (.aload_n 0, 1) := dk_42 (dk_at dksJ26_balanceInsertion_8 8 rfl rfl)
theorem dJ26_balanceInsertion_193 : decode cJ26_balanceInsertion 193 = .ok (.aload_n 2, 1) := dk_44 (dk_at dksJ26_balanceInsertion_8 9 rfl rfl)
theorem dJ26_balanceInsertion_194 : decode cJ26_balanceInsertion 194 = .ok (.dup, 1) := dk_89 (dk_at dksJ26_balanceInsertion_8 10 rfl rfl)
theorem dJ26_balanceInsertion_195 : decode cJ26_balanceInsertion 195 = .ok (.astore_n 1, 1) := dk_76 (dk_at dksJ26_balanceInsertion_8 11 rfl rfl)
theorem dJ26_balanceInsertion_196 : decode cJ26_balanceInsertion 196 = .ok (.invokestatic 133, 3) := dk_184 0 133 (dk_at dksJ26_balanceInsertion_8 12 rfl rfl)
theorem dJ26_balanceInsertion_199 : decode cJ26_balanceInsertion 199 = .ok (.astore_n 0, 1) := dk_75 (dk_at dksJ26_balanceInsertion_8 15 rfl rfl)
theorem dJ26_balanceInsertion_200 : decode cJ26_balanceInsertion 200 = .ok (.aload_n 1, 1) := dk_43 (dk_at dksJ26_balanceInsertion_8 16 rfl rfl)
theorem dJ26_balanceInsertion_201 : decode cJ26_balanceInsertion 201 = .ok (.getfield 9, 3) := dk_180 0 9 (dk_at dksJ26_balanceInsertion_8 17 rfl rfl)
theorem dJ26_balanceInsertion_204 : decode cJ26_balanceInsertion 204 = .ok (.dup, 1) := dk_89 (dk_at dksJ26_balanceInsertion_8 20 rfl rfl)
theorem dJ26_balanceInsertion_205 : decode cJ26_balanceInsertion 205 = .ok (.astore_n 2, 1) := dk_77 (dk_at dksJ26_balanceInsertion_8 21 rfl rfl)
theorem dJ26_balanceInsertion_206 : decode cJ26_balanceInsertion 206 = .ok (.ifnonnull 7, 3) := dk_199 0 7 (dk_at dksJ26_balanceInsertion_9 0 rfl rfl)
theorem dJ26_balanceInsertion_209 : decode cJ26_balanceInsertion 209 = .ok (.aconst_null, 1) := dk_1 (dk_at dksJ26_balanceInsertion_9 3 rfl rfl)
theorem dJ26_balanceInsertion_210 : decode cJ26_balanceInsertion 210 = .ok (.goto 7, 3) := dk_167 0 7 (dk_at dksJ26_balanceInsertion_9 4 rfl rfl)
theorem dJ26_balanceInsertion_213 : decode cJ26_balanceInsertion 213 = .ok (.aload_n 2, 1) := dk_44 (dk_at dksJ26_balanceInsertion_9 7 rfl rfl)
theorem dJ26_balanceInsertion_214 : decode cJ26_balanceInsertion 214 = .ok (.getfield 9, 3) := dk_180 0 9 (dk_at dksJ26_balanceInsertion_9 8 rfl rfl)
theorem dJ26_balanceInsertion_217 : decode cJ26_balanceInsertion 217 = .ok (.astore_n 3, 1) := dk_78 (dk_at dksJ26_balanceInsertion_9 11 rfl rfl)
theorem dJ26_balanceInsertion_218 : decode cJ26_balanceInsertion 218 = .ok (.aload_n 2, 1) := dk_44 (dk_at dksJ26_balanceInsertion_9 12 rfl rfl)
theorem dJ26_balanceInsertion_219 : decode cJ26_balanceInsertion 219 = .ok (.ifnull (-214), 3) := dk_198 255 42 (dk_at dksJ26_balanceInsertion_9 13 rfl rfl)
theorem dJ26_balanceInsertion_222 : decode cJ26_balanceInsertion 222 = .ok (.aload_n 2, 1) := dk_44 (dk_at dksJ26_balanceInsertion_9 16 rfl rfl)
theorem dJ26_balanceInsertion_223 : decode cJ26_balanceInsertion 223 = .ok (.iconst 0, 1) := dk_3 (dk_at dksJ26_balanceInsertion_9 17 rfl rfl)
theorem dJ26_balanceInsertion_224 : decode cJ26_balanceInsertion 224 = .ok (.putfield 93, 3) := dk_181 0 93 (dk_at dksJ26_balanceInsertion_9 18 rfl rfl)
theorem dJ26_balanceInsertion_227 : decode cJ26_balanceInsertion 227 = .ok (.aload_n 3, 1) := dk_45 (dk_at dksJ26_balanceInsertion_9 21 rfl rfl)
theorem dJ26_balanceInsertion_228 : decode cJ26_balanceInsertion 228 = .ok (.ifnull (-223), 3) := dk_198 255 33 (dk_at dksJ26_balanceInsertion_10 0 rfl rfl)
theorem dJ26_balanceInsertion_231 : decode cJ26_balanceInsertion 231 = .ok (.aload_n 3, 1) := dk_45 (dk_at dksJ26_balanceInsertion_10 3 rfl rfl)
theorem dJ26_balanceInsertion_232 : decode cJ26_balanceInsertion 232 = .ok (.iconst 1, 1) := dk_4 (dk_at dksJ26_balanceInsertion_10 4 rfl rfl)
theorem dJ26_balanceInsertion_233 : decode cJ26_balanceInsertion 233 = .ok (.putfield 93, 3) := dk_181 0 93 (dk_at dksJ26_balanceInsertion_10 5 rfl rfl)
theorem dJ26_balanceInsertion_236 : decode cJ26_balanceInsertion 236 = .ok (.aload_n 0, 1) := dk_42 (dk_at dksJ26_balanceInsertion_10 8 rfl rfl)
theorem dJ26_balanceInsertion_237 : decode cJ26_balanceInsertion 237 = .ok (.aload_n 3, 1) := dk_45 (dk_at dksJ26_balanceInsertion_10 9 rfl rfl)
theorem dJ26_balanceInsertion_238 : decode cJ26_balanceInsertion 238 = .ok (.invokestatic 130, 3) := dk_184 0 130 (dk_at dksJ26_balanceInsertion_10 10 rfl rfl)
theorem dJ26_balanceInsertion_241 : decode cJ26_balanceInsertion 241 = .ok (.astore_n 0, 1) := dk_75 (dk_at dksJ26_balanceInsertion_10 13 rfl rfl)
theorem dJ26_balanceInsertion_242 : decode cJ26_balanceInsertion 242 = .ok (.goto (-237), 3) := dk_167 255 19 (dk_at dksJ26_balanceInsertion_10 14 rfl rfl)
abbrev cJ26_rotateLeft : ByteArray := prog_61_method_12_code
def yJ26_rotateLeft : MethodName := ⟨RJ26, "rotateLeft", "(Ljava/util/HashMap$TreeNode;Ljava/util/HashMap$TreeNode;)Ljava/util/HashMap$TreeNode;"⟩
def dkwJ26_rotateLeft_3 : List UInt8 := [181, 0, 39, 167, 0, 8, 45, 44, 181, 0, 42, 44, 43, 181, 0, 39, 43, 44, 181, 0, 9, 42, 176]
abbrev dktJ26_rotateLeft_3 : List UInt8 := dkwJ26_rotateLeft_3 ++ []
def dkwJ26_rotateLeft_2 : List UInt8 := [199, 0, 13, 44, 89, 75, 3, 181, 0, 93, 167, 0, 24, 45, 180, 0, 39, 43, 166, 0, 11, 45, 44]
abbrev dktJ26_rotateLeft_2 : List UInt8 := dkwJ26_rotateLeft_2 ++ dktJ26_rotateLeft_3
def dkwJ26_rotateLeft_1 : List UInt8 := [58, 4, 198, 0, 9, 25, 4, 43, 181, 0, 9, 44, 43, 180, 0, 9, 90, 181, 0, 9, 89, 78]
abbrev dktJ26_rotateLeft_1 : List UInt8 := dkwJ26_rotateLeft_1 ++ dktJ26_rotateLeft_2
def dkwJ26_rotateLeft_0 : List UInt8 := [43, 198, 0, 88, 43, 180, 0, 42, 89, 77, 198, 0, 79, 43, 44, 180, 0, 39, 90, 181, 0, 42, 89]
abbrev dktJ26_rotateLeft_0 : List UInt8 := dkwJ26_rotateLeft_0 ++ dktJ26_rotateLeft_1
theorem dksJ26_rotateLeft_0 : cJ26_rotateLeft.data.toList.drop 0 = dktJ26_rotateLeft_0 := by decide +kernel
theorem dksJ26_rotateLeft_1 : cJ26_rotateLeft.data.toList.drop 23 = dktJ26_rotateLeft_1 := dk_seg dksJ26_rotateLeft_0 23 rfl rfl
theorem dksJ26_rotateLeft_2 : cJ26_rotateLeft.data.toList.drop 45 = dktJ26_rotateLeft_2 := dk_seg dksJ26_rotateLeft_1 22 rfl rfl
theorem dksJ26_rotateLeft_3 : cJ26_rotateLeft.data.toList.drop 68 = dktJ26_rotateLeft_3 := dk_seg dksJ26_rotateLeft_2 23 rfl rfl
theorem dJ26_rotateLeft_0 : decode cJ26_rotateLeft 0 = .ok (.aload_n 1, 1) := dk_43 (dk_at dksJ26_rotateLeft_0 0 rfl rfl)
theorem dJ26_rotateLeft_1 : decode cJ26_rotateLeft 1 = .ok (.ifnull 88, 3) := dk_198 0 88 (dk_at dksJ26_rotateLeft_0 1 rfl rfl)
theorem dJ26_rotateLeft_4 : decode cJ26_rotateLeft 4 = .ok (.aload_n 1, 1) := dk_43 (dk_at dksJ26_rotateLeft_0 4 rfl rfl)
theorem dJ26_rotateLeft_5 : decode cJ26_rotateLeft 5 = .ok (.getfield 42, 3) := dk_180 0 42 (dk_at dksJ26_rotateLeft_0 5 rfl rfl)
theorem dJ26_rotateLeft_8 : decode cJ26_rotateLeft 8 = .ok (.dup, 1) := dk_89 (dk_at dksJ26_rotateLeft_0 8 rfl rfl)
theorem dJ26_rotateLeft_9 : decode cJ26_rotateLeft 9 = .ok (.astore_n 2, 1) := dk_77 (dk_at dksJ26_rotateLeft_0 9 rfl rfl)
theorem dJ26_rotateLeft_10 : decode cJ26_rotateLeft 10 = .ok (.ifnull 79, 3) := dk_198 0 79 (dk_at dksJ26_rotateLeft_0 10 rfl rfl)
theorem dJ26_rotateLeft_13 : decode cJ26_rotateLeft 13 = .ok (.aload_n 1, 1) := dk_43 (dk_at dksJ26_rotateLeft_0 13 rfl rfl)
theorem dJ26_rotateLeft_14 : decode cJ26_rotateLeft 14 = .ok (.aload_n 2, 1) := dk_44 (dk_at dksJ26_rotateLeft_0 14 rfl rfl)
theorem dJ26_rotateLeft_15 : decode cJ26_rotateLeft 15 = .ok (.getfield 39, 3) := dk_180 0 39 (dk_at dksJ26_rotateLeft_0 15 rfl rfl)
theorem dJ26_rotateLeft_18 : decode cJ26_rotateLeft 18 = .ok (.dup_x1, 1) := dk_90 (dk_at dksJ26_rotateLeft_0 18 rfl rfl)
theorem dJ26_rotateLeft_19 : decode cJ26_rotateLeft 19 = .ok (.putfield 42, 3) := dk_181 0 42 (dk_at dksJ26_rotateLeft_0 19 rfl rfl)
theorem dJ26_rotateLeft_22 : decode cJ26_rotateLeft 22 = .ok (.dup, 1) := dk_89 (dk_at dksJ26_rotateLeft_0 22 rfl rfl)
theorem dJ26_rotateLeft_23 : decode cJ26_rotateLeft 23 = .ok (.astore 4, 2) := dk_58 4 (dk_at dksJ26_rotateLeft_1 0 rfl rfl)
theorem dJ26_rotateLeft_25 : decode cJ26_rotateLeft 25 = .ok (.ifnull 9, 3) := dk_198 0 9 (dk_at dksJ26_rotateLeft_1 2 rfl rfl)
theorem dJ26_rotateLeft_28 : decode cJ26_rotateLeft 28 = .ok (.aload 4, 2) := dk_25 4 (dk_at dksJ26_rotateLeft_1 5 rfl rfl)
theorem dJ26_rotateLeft_30 : decode cJ26_rotateLeft 30 = .ok (.aload_n 1, 1) := dk_43 (dk_at dksJ26_rotateLeft_1 7 rfl rfl)
theorem dJ26_rotateLeft_31 : decode cJ26_rotateLeft 31 = .ok (.putfield 9, 3) := dk_181 0 9 (dk_at dksJ26_rotateLeft_1 8 rfl rfl)
theorem dJ26_rotateLeft_34 : decode cJ26_rotateLeft 34 = .ok (.aload_n 2, 1) := dk_44 (dk_at dksJ26_rotateLeft_1 11 rfl rfl)
theorem dJ26_rotateLeft_35 : decode cJ26_rotateLeft 35 = .ok (.aload_n 1, 1) := dk_43 (dk_at dksJ26_rotateLeft_1 12 rfl rfl)
theorem dJ26_rotateLeft_36 : decode cJ26_rotateLeft 36 = .ok (.getfield 9, 3) := dk_180 0 9 (dk_at dksJ26_rotateLeft_1 13 rfl rfl)
theorem dJ26_rotateLeft_39 : decode cJ26_rotateLeft 39 = .ok (.dup_x1, 1) := dk_90 (dk_at dksJ26_rotateLeft_1 16 rfl rfl)
theorem dJ26_rotateLeft_40 : decode cJ26_rotateLeft 40 = .ok (.putfield 9, 3) := dk_181 0 9 (dk_at dksJ26_rotateLeft_1 17 rfl rfl)
theorem dJ26_rotateLeft_43 : decode cJ26_rotateLeft 43 = .ok (.dup, 1) := dk_89 (dk_at dksJ26_rotateLeft_1 20 rfl rfl)
theorem dJ26_rotateLeft_44 : decode cJ26_rotateLeft 44 = .ok (.astore_n 3, 1) := dk_78 (dk_at dksJ26_rotateLeft_1 21 rfl rfl)
theorem dJ26_rotateLeft_45 : decode cJ26_rotateLeft 45 = .ok (.ifnonnull 13, 3) := dk_199 0 13 (dk_at dksJ26_rotateLeft_2 0 rfl rfl)
theorem dJ26_rotateLeft_48 : decode cJ26_rotateLeft 48 = .ok (.aload_n 2, 1) := dk_44 (dk_at dksJ26_rotateLeft_2 3 rfl rfl)
theorem dJ26_rotateLeft_49 : decode cJ26_rotateLeft 49 = .ok (.dup, 1) := dk_89 (dk_at dksJ26_rotateLeft_2 4 rfl rfl)
theorem dJ26_rotateLeft_50 : decode cJ26_rotateLeft 50 = .ok (.astore_n 0, 1) := dk_75 (dk_at dksJ26_rotateLeft_2 5 rfl rfl)
theorem dJ26_rotateLeft_51 : decode cJ26_rotateLeft 51 = .ok (.iconst 0, 1) := dk_3 (dk_at dksJ26_rotateLeft_2 6 rfl rfl)
theorem dJ26_rotateLeft_52 : decode cJ26_rotateLeft 52 = .ok (.putfield 93, 3) := dk_181 0 93 (dk_at dksJ26_rotateLeft_2 7 rfl rfl)
theorem dJ26_rotateLeft_55 : decode cJ26_rotateLeft 55 = .ok (.goto 24, 3) := dk_167 0 24 (dk_at dksJ26_rotateLeft_2 10 rfl rfl)
theorem dJ26_rotateLeft_58 : decode cJ26_rotateLeft 58 = .ok (.aload_n 3, 1) := dk_45 (dk_at dksJ26_rotateLeft_2 13 rfl rfl)
theorem dJ26_rotateLeft_59 : decode cJ26_rotateLeft 59 = .ok (.getfield 39, 3) := dk_180 0 39 (dk_at dksJ26_rotateLeft_2 14 rfl rfl)
theorem dJ26_rotateLeft_62 : decode cJ26_rotateLeft 62 = .ok (.aload_n 1, 1) := dk_43 (dk_at dksJ26_rotateLeft_2 17 rfl rfl)
theorem dJ26_rotateLeft_63 : decode cJ26_rotateLeft 63 = .ok (.if_acmp .ne 11, 3) := dk_166 0 11 (dk_at dksJ26_rotateLeft_2 18 rfl rfl)
theorem dJ26_rotateLeft_66 : decode cJ26_rotateLeft 66 = .ok (.aload_n 3, 1) := dk_45 (dk_at dksJ26_rotateLeft_2 21 rfl rfl)
theorem dJ26_rotateLeft_67 : decode cJ26_rotateLeft 67 = .ok (.aload_n 2, 1) := dk_44 (dk_at dksJ26_rotateLeft_2 22 rfl rfl)
theorem dJ26_rotateLeft_68 : decode cJ26_rotateLeft 68 = .ok (.putfield 39, 3) := dk_181 0 39 (dk_at dksJ26_rotateLeft_3 0 rfl rfl)
theorem dJ26_rotateLeft_71 : decode cJ26_rotateLeft 71 = .ok (.goto 8, 3) := dk_167 0 8 (dk_at dksJ26_rotateLeft_3 3 rfl rfl)
theorem dJ26_rotateLeft_74 : decode cJ26_rotateLeft 74 = .ok (.aload_n 3, 1) := dk_45 (dk_at dksJ26_rotateLeft_3 6 rfl rfl)
theorem dJ26_rotateLeft_75 : decode cJ26_rotateLeft 75 = .ok (.aload_n 2, 1) := dk_44 (dk_at dksJ26_rotateLeft_3 7 rfl rfl)
theorem dJ26_rotateLeft_76 : decode cJ26_rotateLeft 76 = .ok (.putfield 42, 3) := dk_181 0 42 (dk_at dksJ26_rotateLeft_3 8 rfl rfl)
theorem dJ26_rotateLeft_79 : decode cJ26_rotateLeft 79 = .ok (.aload_n 2, 1) := dk_44 (dk_at dksJ26_rotateLeft_3 11 rfl rfl)
theorem dJ26_rotateLeft_80 : decode cJ26_rotateLeft 80 = .ok (.aload_n 1, 1) := dk_43 (dk_at dksJ26_rotateLeft_3 12 rfl rfl)
theorem dJ26_rotateLeft_81 : decode cJ26_rotateLeft 81 = .ok (.putfield 39, 3) := dk_181 0 39 (dk_at dksJ26_rotateLeft_3 13 rfl rfl)
theorem dJ26_rotateLeft_84 : decode cJ26_rotateLeft 84 = .ok (.aload_n 1, 1) := dk_43 (dk_at dksJ26_rotateLeft_3 16 rfl rfl)
theorem dJ26_rotateLeft_85 : decode cJ26_rotateLeft 85 = .ok (.aload_n 2, 1) := dk_44 (dk_at dksJ26_rotateLeft_3 17 rfl rfl)
theorem dJ26_rotateLeft_86 : decode cJ26_rotateLeft 86 = .ok (.putfield 9, 3) := dk_181 0 9 (dk_at dksJ26_rotateLeft_3 18 rfl rfl)
theorem dJ26_rotateLeft_89 : decode cJ26_rotateLeft 89 = .ok (.aload_n 0, 1) := dk_42 (dk_at dksJ26_rotateLeft_3 21 rfl rfl)
theorem dJ26_rotateLeft_90 : decode cJ26_rotateLeft 90 = .ok (.areturn, 1) := dk_176 (dk_at dksJ26_rotateLeft_3 22 rfl rfl)
abbrev cJ26_rotateRight : ByteArray := prog_61_method_13_code
def yJ26_rotateRight : MethodName := ⟨RJ26, "rotateRight", "(Ljava/util/HashMap$TreeNode;Ljava/util/HashMap$TreeNode;)Ljava/util/HashMap$TreeNode;"⟩
def dkwJ26_rotateRight_3 : List UInt8 := [181, 0, 42, 167, 0, 8, 45, 44, 181, 0, 39, 44, 43, 181, 0, 42, 43, 44, 181, 0, 9, 42, 176]
abbrev dktJ26_rotateRight_3 : List UInt8 := dkwJ26_rotateRight_3 ++ []
def dkwJ26_rotateRight_2 : List UInt8 := [199, 0, 13, 44, 89, 75, 3, 181, 0, 93, 167, 0, 24, 45, 180, 0, 42, 43, 166, 0, 11, 45, 44]
abbrev dktJ26_rotateRight_2 : List UInt8 := dkwJ26_rotateRight_2 ++ dktJ26_rotateRight_3
def dkwJ26_rotateRight_1 : List UInt8 := [58, 4, 198, 0, 9, 25, 4, 43, 181, 0, 9, 44, 43, 180, 0, 9, 90, 181, 0, 9, 89, 78]
abbrev dktJ26_rotateRight_1 : List UInt8 := dkwJ26_rotateRight_1 ++ dktJ26_rotateRight_2
def dkwJ26_rotateRight_0 : List UInt8 := [43, 198, 0, 88, 43, 180, 0, 39, 89, 77, 198, 0, 79, 43, 44, 180, 0, 42, 90, 181, 0, 39, 89]
abbrev dktJ26_rotateRight_0 : List UInt8 := dkwJ26_rotateRight_0 ++ dktJ26_rotateRight_1
theorem dksJ26_rotateRight_0 : cJ26_rotateRight.data.toList.drop 0 = dktJ26_rotateRight_0 := by decide +kernel
theorem dksJ26_rotateRight_1 : cJ26_rotateRight.data.toList.drop 23 = dktJ26_rotateRight_1 := dk_seg dksJ26_rotateRight_0 23 rfl rfl
theorem dksJ26_rotateRight_2 : cJ26_rotateRight.data.toList.drop 45 = dktJ26_rotateRight_2 := dk_seg dksJ26_rotateRight_1 22 rfl rfl
theorem dksJ26_rotateRight_3 : cJ26_rotateRight.data.toList.drop 68 = dktJ26_rotateRight_3 := dk_seg dksJ26_rotateRight_2 23 rfl rfl
theorem dJ26_rotateRight_0 : decode cJ26_rotateRight 0 = .ok (.aload_n 1, 1) := dk_43 (dk_at dksJ26_rotateRight_0 0 rfl rfl)
theorem dJ26_rotateRight_1 : decode cJ26_rotateRight 1 = .ok (.ifnull 88, 3) := dk_198 0 88 (dk_at dksJ26_rotateRight_0 1 rfl rfl)
theorem dJ26_rotateRight_4 : decode cJ26_rotateRight 4 = .ok (.aload_n 1, 1) := dk_43 (dk_at dksJ26_rotateRight_0 4 rfl rfl)
theorem dJ26_rotateRight_5 : decode cJ26_rotateRight 5 = .ok (.getfield 39, 3) := dk_180 0 39 (dk_at dksJ26_rotateRight_0 5 rfl rfl)
theorem dJ26_rotateRight_8 : decode cJ26_rotateRight 8 = .ok (.dup, 1) := dk_89 (dk_at dksJ26_rotateRight_0 8 rfl rfl)
theorem dJ26_rotateRight_9 : decode cJ26_rotateRight 9 = .ok (.astore_n 2, 1) := dk_77 (dk_at dksJ26_rotateRight_0 9 rfl rfl)
theorem dJ26_rotateRight_10 : decode cJ26_rotateRight 10 = .ok (.ifnull 79, 3) := dk_198 0 79 (dk_at dksJ26_rotateRight_0 10 rfl rfl)
theorem dJ26_rotateRight_13 : decode cJ26_rotateRight 13 = .ok (.aload_n 1, 1) := dk_43 (dk_at dksJ26_rotateRight_0 13 rfl rfl)
theorem dJ26_rotateRight_14 : decode cJ26_rotateRight 14 = .ok (.aload_n 2, 1) := dk_44 (dk_at dksJ26_rotateRight_0 14 rfl rfl)
theorem dJ26_rotateRight_15 : decode cJ26_rotateRight 15 = .ok (.getfield 42, 3) := dk_180 0 42 (dk_at dksJ26_rotateRight_0 15 rfl rfl)
theorem dJ26_rotateRight_18 : decode cJ26_rotateRight 18 = .ok (.dup_x1, 1) := dk_90 (dk_at dksJ26_rotateRight_0 18 rfl rfl)
theorem dJ26_rotateRight_19 : decode cJ26_rotateRight 19 = .ok (.putfield 39, 3) := dk_181 0 39 (dk_at dksJ26_rotateRight_0 19 rfl rfl)
theorem dJ26_rotateRight_22 : decode cJ26_rotateRight 22 = .ok (.dup, 1) := dk_89 (dk_at dksJ26_rotateRight_0 22 rfl rfl)
theorem dJ26_rotateRight_23 : decode cJ26_rotateRight 23 = .ok (.astore 4, 2) := dk_58 4 (dk_at dksJ26_rotateRight_1 0 rfl rfl)
theorem dJ26_rotateRight_25 : decode cJ26_rotateRight 25 = .ok (.ifnull 9, 3) := dk_198 0 9 (dk_at dksJ26_rotateRight_1 2 rfl rfl)
theorem dJ26_rotateRight_28 : decode cJ26_rotateRight 28 = .ok (.aload 4, 2) := dk_25 4 (dk_at dksJ26_rotateRight_1 5 rfl rfl)
theorem dJ26_rotateRight_30 : decode cJ26_rotateRight 30 = .ok (.aload_n 1, 1) := dk_43 (dk_at dksJ26_rotateRight_1 7 rfl rfl)
theorem dJ26_rotateRight_31 : decode cJ26_rotateRight 31 = .ok (.putfield 9, 3) := dk_181 0 9 (dk_at dksJ26_rotateRight_1 8 rfl rfl)
theorem dJ26_rotateRight_34 : decode cJ26_rotateRight 34 = .ok (.aload_n 2, 1) := dk_44 (dk_at dksJ26_rotateRight_1 11 rfl rfl)
theorem dJ26_rotateRight_35 : decode cJ26_rotateRight 35 = .ok (.aload_n 1, 1) := dk_43 (dk_at dksJ26_rotateRight_1 12 rfl rfl)
theorem dJ26_rotateRight_36 : decode cJ26_rotateRight 36 = .ok (.getfield 9, 3) := dk_180 0 9 (dk_at dksJ26_rotateRight_1 13 rfl rfl)
theorem dJ26_rotateRight_39 : decode cJ26_rotateRight 39 = .ok (.dup_x1, 1) := dk_90 (dk_at dksJ26_rotateRight_1 16 rfl rfl)
theorem dJ26_rotateRight_40 : decode cJ26_rotateRight 40 = .ok (.putfield 9, 3) := dk_181 0 9 (dk_at dksJ26_rotateRight_1 17 rfl rfl)
theorem dJ26_rotateRight_43 : decode cJ26_rotateRight 43 = .ok (.dup, 1) := dk_89 (dk_at dksJ26_rotateRight_1 20 rfl rfl)
theorem dJ26_rotateRight_44 : decode cJ26_rotateRight 44 = .ok (.astore_n 3, 1) := dk_78 (dk_at dksJ26_rotateRight_1 21 rfl rfl)
theorem dJ26_rotateRight_45 : decode cJ26_rotateRight 45 = .ok (.ifnonnull 13, 3) := dk_199 0 13 (dk_at dksJ26_rotateRight_2 0 rfl rfl)
theorem dJ26_rotateRight_48 : decode cJ26_rotateRight 48 = .ok (.aload_n 2, 1) := dk_44 (dk_at dksJ26_rotateRight_2 3 rfl rfl)
theorem dJ26_rotateRight_49 : decode cJ26_rotateRight 49 = .ok (.dup, 1) := dk_89 (dk_at dksJ26_rotateRight_2 4 rfl rfl)
theorem dJ26_rotateRight_50 : decode cJ26_rotateRight 50 = .ok (.astore_n 0, 1) := dk_75 (dk_at dksJ26_rotateRight_2 5 rfl rfl)
theorem dJ26_rotateRight_51 : decode cJ26_rotateRight 51 = .ok (.iconst 0, 1) := dk_3 (dk_at dksJ26_rotateRight_2 6 rfl rfl)
theorem dJ26_rotateRight_52 : decode cJ26_rotateRight 52 = .ok (.putfield 93, 3) := dk_181 0 93 (dk_at dksJ26_rotateRight_2 7 rfl rfl)
theorem dJ26_rotateRight_55 : decode cJ26_rotateRight 55 = .ok (.goto 24, 3) := dk_167 0 24 (dk_at dksJ26_rotateRight_2 10 rfl rfl)
theorem dJ26_rotateRight_58 : decode cJ26_rotateRight 58 = .ok (.aload_n 3, 1) := dk_45 (dk_at dksJ26_rotateRight_2 13 rfl rfl)
theorem dJ26_rotateRight_59 : decode cJ26_rotateRight 59 = .ok (.getfield 42, 3) := dk_180 0 42 (dk_at dksJ26_rotateRight_2 14 rfl rfl)
theorem dJ26_rotateRight_62 : decode cJ26_rotateRight 62 = .ok (.aload_n 1, 1) := dk_43 (dk_at dksJ26_rotateRight_2 17 rfl rfl)
theorem dJ26_rotateRight_63 : decode cJ26_rotateRight 63 = .ok (.if_acmp .ne 11, 3) := dk_166 0 11 (dk_at dksJ26_rotateRight_2 18 rfl rfl)
theorem dJ26_rotateRight_66 : decode cJ26_rotateRight 66 = .ok (.aload_n 3, 1) := dk_45 (dk_at dksJ26_rotateRight_2 21 rfl rfl)
theorem dJ26_rotateRight_67 : decode cJ26_rotateRight 67 = .ok (.aload_n 2, 1) := dk_44 (dk_at dksJ26_rotateRight_2 22 rfl rfl)
theorem dJ26_rotateRight_68 : decode cJ26_rotateRight 68 = .ok (.putfield 42, 3) := dk_181 0 42 (dk_at dksJ26_rotateRight_3 0 rfl rfl)
theorem dJ26_rotateRight_71 : decode cJ26_rotateRight 71 = .ok (.goto 8, 3) := dk_167 0 8 (dk_at dksJ26_rotateRight_3 3 rfl rfl)
theorem dJ26_rotateRight_74 : decode cJ26_rotateRight 74 = .ok (.aload_n 3, 1) := dk_45 (dk_at dksJ26_rotateRight_3 6 rfl rfl)
theorem dJ26_rotateRight_75 : decode cJ26_rotateRight 75 = .ok (.aload_n 2, 1) := dk_44 (dk_at dksJ26_rotateRight_3 7 rfl rfl)
theorem dJ26_rotateRight_76 : decode cJ26_rotateRight 76 = .ok (.putfield 39, 3) := dk_181 0 39 (dk_at dksJ26_rotateRight_3 8 rfl rfl)
theorem dJ26_rotateRight_79 : decode cJ26_rotateRight 79 = .ok (.aload_n 2, 1) := dk_44 (dk_at dksJ26_rotateRight_3 11 rfl rfl)
theorem dJ26_rotateRight_80 : decode cJ26_rotateRight 80 = .ok (.aload_n 1, 1) := dk_43 (dk_at dksJ26_rotateRight_3 12 rfl rfl)
theorem dJ26_rotateRight_81 : decode cJ26_rotateRight 81 = .ok (.putfield 42, 3) := dk_181 0 42 (dk_at dksJ26_rotateRight_3 13 rfl rfl)
theorem dJ26_rotateRight_84 : decode cJ26_rotateRight 84 = .ok (.aload_n 1, 1) := dk_43 (dk_at dksJ26_rotateRight_3 16 rfl rfl)
theorem dJ26_rotateRight_85 : decode cJ26_rotateRight 85 = .ok (.aload_n 2, 1) := dk_44 (dk_at dksJ26_rotateRight_3 17 rfl rfl)
theorem dJ26_rotateRight_86 : decode cJ26_rotateRight 86 = .ok (.putfield 9, 3) := dk_181 0 9 (dk_at dksJ26_rotateRight_3 18 rfl rfl)
theorem dJ26_rotateRight_89 : decode cJ26_rotateRight 89 = .ok (.aload_n 0, 1) := dk_42 (dk_at dksJ26_rotateRight_3 21 rfl rfl)
theorem dJ26_rotateRight_90 : decode cJ26_rotateRight 90 = .ok (.areturn, 1) := dk_176 (dk_at dksJ26_rotateRight_3 22 rfl rfl)
abbrev cJ26_moveRootToFront : ByteArray := prog_61_method_3_code
def yJ26_moveRootToFront : MethodName := ⟨RJ26, "moveRootToFront", "([Ljava/util/HashMap$Node;Ljava/util/HashMap$TreeNode;)V"⟩
def dkwJ26_moveRootToFront_5 : List UInt8 := [89, 183, 0, 36, 191, 177]
abbrev dktJ26_moveRootToFront_5 : List UInt8 := dkwJ26_moveRootToFront_5 ++ []
def dkwJ26_moveRootToFront_4 : List UInt8 := [181, 0, 22, 43, 1, 181, 0, 19, 178, 0, 26, 154, 0, 18, 43, 184, 0, 30, 154, 0, 11, 187, 0, 34]
abbrev dktJ26_moveRootToFront_4 : List UInt8 := dkwJ26_moveRootToFront_4 ++ dktJ26_moveRootToFront_5
def dkwJ26_moveRootToFront_3 : List UInt8 := [198, 0, 10, 25, 6, 25, 5, 181, 0, 22, 25, 4, 198, 0, 9, 25, 4, 43, 181, 0, 19, 43, 25, 4]
abbrev dktJ26_moveRootToFront_3 : List UInt8 := dkwJ26_moveRootToFront_3 ++ dktJ26_moveRootToFront_4
def dkwJ26_moveRootToFront_2 : List UInt8 := [43, 180, 0, 22, 89, 58, 5, 198, 0, 13, 25, 5, 192, 0, 10, 25, 6, 181, 0, 19, 25, 6]
abbrev dktJ26_moveRootToFront_2 : List UInt8 := dkwJ26_moveRootToFront_2 ++ dktJ26_moveRootToFront_3
def dkwJ26_moveRootToFront_1 : List UInt8 := [42, 29, 50, 192, 0, 10, 58, 4, 43, 25, 4, 165, 0, 67, 42, 29, 43, 83, 43, 180, 0, 19, 58, 6]
abbrev dktJ26_moveRootToFront_1 : List UInt8 := dkwJ26_moveRootToFront_1 ++ dktJ26_moveRootToFront_2
def dkwJ26_moveRootToFront_0 : List UInt8 := [43, 198, 0, 122, 42, 198, 0, 118, 42, 190, 89, 61, 158, 0, 111, 28, 4, 100, 43, 180, 0, 15, 126, 62]
abbrev dktJ26_moveRootToFront_0 : List UInt8 := dkwJ26_moveRootToFront_0 ++ dktJ26_moveRootToFront_1
theorem dksJ26_moveRootToFront_0 : cJ26_moveRootToFront.data.toList.drop 0 = dktJ26_moveRootToFront_0 := by decide +kernel
theorem dksJ26_moveRootToFront_1 : cJ26_moveRootToFront.data.toList.drop 24 = dktJ26_moveRootToFront_1 := dk_seg dksJ26_moveRootToFront_0 24 rfl rfl
theorem dksJ26_moveRootToFront_2 : cJ26_moveRootToFront.data.toList.drop 48 = dktJ26_moveRootToFront_2 := dk_seg dksJ26_moveRootToFront_1 24 rfl rfl
theorem dksJ26_moveRootToFront_3 : cJ26_moveRootToFront.data.toList.drop 70 = dktJ26_moveRootToFront_3 := dk_seg dksJ26_moveRootToFront_2 22 rfl rfl
theorem dksJ26_moveRootToFront_4 : cJ26_moveRootToFront.data.toList.drop 94 = dktJ26_moveRootToFront_4 := dk_seg dksJ26_moveRootToFront_3 24 rfl rfl
theorem dksJ26_moveRootToFront_5 : cJ26_moveRootToFront.data.toList.drop 118 = dktJ26_moveRootToFront_5 := dk_seg dksJ26_moveRootToFront_4 24 rfl rfl
theorem dJ26_moveRootToFront_0 : decode cJ26_moveRootToFront 0 = .ok (.aload_n 1, 1) := dk_43 (dk_at dksJ26_moveRootToFront_0 0 rfl rfl)
theorem dJ26_moveRootToFront_1 : decode cJ26_moveRootToFront 1 = .ok (.ifnull 122, 3) := dk_198 0 122 (dk_at dksJ26_moveRootToFront_0 1 rfl rfl)
theorem dJ26_moveRootToFront_4 : decode cJ26_moveRootToFront 4 = .ok (.aload_n 0, 1) := dk_42 (dk_at dksJ26_moveRootToFront_0 4 rfl rfl)
theorem dJ26_moveRootToFront_5 : decode cJ26_moveRootToFront 5 = .ok (.ifnull 118, 3) := dk_198 0 118 (dk_at dksJ26_moveRootToFront_0 5 rfl rfl)
theorem dJ26_moveRootToFront_8 : decode cJ26_moveRootToFront 8 = .ok (.aload_n 0, 1) := dk_42 (dk_at dksJ26_moveRootToFront_0 8 rfl rfl)
theorem dJ26_moveRootToFront_9 : decode cJ26_moveRootToFront 9 = .ok (.arraylength, 1) := dk_190 (dk_at dksJ26_moveRootToFront_0 9 rfl rfl)
theorem dJ26_moveRootToFront_10 : decode cJ26_moveRootToFront 10 = .ok (.dup, 1) := dk_89 (dk_at dksJ26_moveRootToFront_0 10 rfl rfl)
theorem dJ26_moveRootToFront_11 : decode cJ26_moveRootToFront 11 = .ok (.istore_n 2, 1) := dk_61 (dk_at dksJ26_moveRootToFront_0 11 rfl rfl)
theorem dJ26_moveRootToFront_12 : decode cJ26_moveRootToFront 12 = .ok (.ifCond .le 111, 3) := dk_158 0 111 (dk_at dksJ26_moveRootToFront_0 12 rfl rfl)
theorem dJ26_moveRootToFront_15 : decode cJ26_moveRootToFront 15 = .ok (.iload_n 2, 1) := dk_28 (dk_at dksJ26_moveRootToFront_0 15 rfl rfl)
theorem dJ26_moveRootToFront_16 : decode cJ26_moveRootToFront 16 = .ok (.iconst 1, 1) := dk_4 (dk_at dksJ26_moveRootToFront_0 16 rfl rfl)
theorem dJ26_moveRootToFront_17 : decode cJ26_moveRootToFront 17 = .ok (.isub, 1) := dk_100 (dk_at dksJ26_moveRootToFront_0 17 rfl rfl)
theorem dJ26_moveRootToFront_18 : decode cJ26_moveRootToFront 18 = .ok (.aload_n 1, 1) := dk_43 (dk_at dksJ26_moveRootToFront_0 18 rfl rfl)
theorem dJ26_moveRootToFront_19 : decode cJ26_moveRootToFront 19 = .ok (.getfield 15, 3) := dk_180 0 15 (dk_at dksJ26_moveRootToFront_0 19 rfl rfl)
theorem dJ26_moveRootToFront_22 : decode cJ26_moveRootToFront 22 = .ok (.iand, 1) := dk_126 (dk_at dksJ26_moveRootToFront_0 22 rfl rfl)
theorem dJ26_moveRootToFront_23 : decode cJ26_moveRootToFront 23 = .ok (.istore_n 3, 1) := dk_62 (dk_at dksJ26_moveRootToFront_0 23 rfl rfl)
theorem dJ26_moveRootToFront_24 : decode cJ26_moveRootToFront 24 = .ok (.aload_n 0, 1) := dk_42 (dk_at dksJ26_moveRootToFront_1 0 rfl rfl)
theorem dJ26_moveRootToFront_25 : decode cJ26_moveRootToFront 25 = .ok (.iload_n 3, 1) := dk_29 (dk_at dksJ26_moveRootToFront_1 1 rfl rfl)
theorem dJ26_moveRootToFront_26 : decode cJ26_moveRootToFront 26 = .ok (.aaload, 1) := dk_50 (dk_at dksJ26_moveRootToFront_1 2 rfl rfl)
theorem dJ26_moveRootToFront_27 : decode cJ26_moveRootToFront 27 = .ok (.checkcast 10, 3) := dk_192 0 10 (dk_at dksJ26_moveRootToFront_1 3 rfl rfl)
theorem dJ26_moveRootToFront_30 : decode cJ26_moveRootToFront 30 = .ok (.astore 4, 2) := dk_58 4 (dk_at dksJ26_moveRootToFront_1 6 rfl rfl)
theorem dJ26_moveRootToFront_32 : decode cJ26_moveRootToFront 32 = .ok (.aload_n 1, 1) := dk_43 (dk_at dksJ26_moveRootToFront_1 8 rfl rfl)
theorem dJ26_moveRootToFront_33 : decode cJ26_moveRootToFront 33 = .ok (.aload 4, 2) := dk_25 4 (dk_at dksJ26_moveRootToFront_1 9 rfl rfl)
theorem dJ26_moveRootToFront_35 : decode cJ26_moveRootToFront 35 = .ok (.if_acmp .eq 67, 3) := dk_165 0 67 (dk_at dksJ26_moveRootToFront_1 11 rfl rfl)
theorem dJ26_moveRootToFront_38 : decode cJ26_moveRootToFront 38 = .ok (.aload_n 0, 1) := dk_42 (dk_at dksJ26_moveRootToFront_1 14 rfl rfl)
theorem dJ26_moveRootToFront_39 : decode cJ26_moveRootToFront 39 = .ok (.iload_n 3, 1) := dk_29 (dk_at dksJ26_moveRootToFront_1 15 rfl rfl)
theorem dJ26_moveRootToFront_40 : decode cJ26_moveRootToFront 40 = .ok (.aload_n 1, 1) := dk_43 (dk_at dksJ26_moveRootToFront_1 16 rfl rfl)
theorem dJ26_moveRootToFront_41 : decode cJ26_moveRootToFront 41 = .ok (.aastore, 1) := dk_83 (dk_at dksJ26_moveRootToFront_1 17 rfl rfl)
theorem dJ26_moveRootToFront_42 : decode cJ26_moveRootToFront 42 = .ok (.aload_n 1, 1) := dk_43 (dk_at dksJ26_moveRootToFront_1 18 rfl rfl)
theorem dJ26_moveRootToFront_43 : decode cJ26_moveRootToFront 43 = .ok (.getfield 19, 3) := dk_180 0 19 (dk_at dksJ26_moveRootToFront_1 19 rfl rfl)
theorem dJ26_moveRootToFront_46 : decode cJ26_moveRootToFront 46 = .ok (.astore 6, 2) := dk_58 6 (dk_at dksJ26_moveRootToFront_1 22 rfl rfl)
theorem dJ26_moveRootToFront_48 : decode cJ26_moveRootToFront 48 = .ok (.aload_n 1, 1) := dk_43 (dk_at dksJ26_moveRootToFront_2 0 rfl rfl)
theorem dJ26_moveRootToFront_49 : decode cJ26_moveRootToFront 49 = .ok (.getfield 22, 3) := dk_180 0 22 (dk_at dksJ26_moveRootToFront_2 1 rfl rfl)
theorem dJ26_moveRootToFront_52 : decode cJ26_moveRootToFront 52 = .ok (.dup, 1) := dk_89 (dk_at dksJ26_moveRootToFront_2 4 rfl rfl)
theorem dJ26_moveRootToFront_53 : decode cJ26_moveRootToFront 53 = .ok (.astore 5, 2) := dk_58 5 (dk_at dksJ26_moveRootToFront_2 5 rfl rfl)
theorem dJ26_moveRootToFront_55 : decode cJ26_moveRootToFront 55 = .ok (.ifnull 13, 3) := dk_198 0 13 (dk_at dksJ26_moveRootToFront_2 7 rfl rfl)
theorem dJ26_moveRootToFront_58 : decode cJ26_moveRootToFront 58 = .ok (.aload 5, 2) := dk_25 5 (dk_at dksJ26_moveRootToFront_2 10 rfl rfl)
theorem dJ26_moveRootToFront_60 : decode cJ26_moveRootToFront 60 = .ok (.checkcast 10, 3) := dk_192 0 10 (dk_at dksJ26_moveRootToFront_2 12 rfl rfl)
theorem dJ26_moveRootToFront_63 : decode cJ26_moveRootToFront 63 = .ok (.aload 6, 2) := dk_25 6 (dk_at dksJ26_moveRootToFront_2 15 rfl rfl)
theorem dJ26_moveRootToFront_65 : decode cJ26_moveRootToFront 65 = .ok (.putfield 19, 3) := dk_181 0 19 (dk_at dksJ26_moveRootToFront_2 17 rfl rfl)
theorem dJ26_moveRootToFront_68 : decode cJ26_moveRootToFront 68 = .ok (.aload 6, 2) := dk_25 6 (dk_at dksJ26_moveRootToFront_2 20 rfl rfl)
theorem dJ26_moveRootToFront_70 : decode cJ26_moveRootToFront 70 = .ok (.ifnull 10, 3) := dk_198 0 10 (dk_at dksJ26_moveRootToFront_3 0 rfl rfl)
theorem dJ26_moveRootToFront_73 : decode cJ26_moveRootToFront 73 = .ok (.aload 6, 2) := dk_25 6 (dk_at dksJ26_moveRootToFront_3 3 rfl rfl)
theorem dJ26_moveRootToFront_75 : decode cJ26_moveRootToFront 75 = .ok (.aload 5, 2) := dk_25 5 (dk_at dksJ26_moveRootToFront_3 5 rfl rfl)
theorem dJ26_moveRootToFront_77 : decode cJ26_moveRootToFront 77 = .ok (.putfield 22, 3) := dk_181 0 22 (dk_at dksJ26_moveRootToFront_3 7 rfl rfl)
theorem dJ26_moveRootToFront_80 : decode cJ26_moveRootToFront 80 = .ok (.aload 4, 2) := dk_25 4 (dk_at dksJ26_moveRootToFront_3 10 rfl rfl)
theorem dJ26_moveRootToFront_82 : decode cJ26_moveRootToFront 82 = .ok (.ifnull 9, 3) := dk_198 0 9 (dk_at dksJ26_moveRootToFront_3 12 rfl rfl)
theorem dJ26_moveRootToFront_85 : decode cJ26_moveRootToFront 85 = .ok (.aload 4, 2) := dk_25 4 (dk_at dksJ26_moveRootToFront_3 15 rfl rfl)
theorem dJ26_moveRootToFront_87 : decode cJ26_moveRootToFront 87 = .ok (.aload_n 1, 1) := dk_43 (dk_at dksJ26_moveRootToFront_3 17 rfl rfl)
theorem dJ26_moveRootToFront_88 : decode cJ26_moveRootToFront 88 = .ok (.putfield 19, 3) := dk_181 0 19 (dk_at dksJ26_moveRootToFront_3 18 rfl rfl)
theorem dJ26_moveRootToFront_91 : decode cJ26_moveRootToFront 91 = .ok (.aload_n 1, 1) := dk_43 (dk_at dksJ26_moveRootToFront_3 21 rfl rfl)
theorem dJ26_moveRootToFront_92 : decode cJ26_moveRootToFront 92 = .ok (.aload 4, 2) := dk_25 4 (dk_at dksJ26_moveRootToFront_3 22 rfl rfl)
theorem dJ26_moveRootToFront_94 : decode cJ26_moveRootToFront 94 = .ok (.putfield 22, 3) := dk_181 0 22 (dk_at dksJ26_moveRootToFront_4 0 rfl rfl)
theorem dJ26_moveRootToFront_97 : decode cJ26_moveRootToFront 97 = .ok (.aload_n 1, 1) := dk_43 (dk_at dksJ26_moveRootToFront_4 3 rfl rfl)
theorem dJ26_moveRootToFront_98 : decode cJ26_moveRootToFront 98 = .ok (.aconst_null, 1) := dk_1 (dk_at dksJ26_moveRootToFront_4 4 rfl rfl)
theorem dJ26_moveRootToFront_99 : decode cJ26_moveRootToFront 99 = .ok (.putfield 19, 3) := dk_181 0 19 (dk_at dksJ26_moveRootToFront_4 5 rfl rfl)
theorem dJ26_moveRootToFront_102 : decode cJ26_moveRootToFront 102 = .ok (.getstatic 26, 3) := dk_178 0 26 (dk_at dksJ26_moveRootToFront_4 8 rfl rfl)
theorem dJ26_moveRootToFront_105 : decode cJ26_moveRootToFront 105 = .ok (.ifCond .ne 18, 3) := dk_154 0 18 (dk_at dksJ26_moveRootToFront_4 11 rfl rfl)
theorem dJ26_moveRootToFront_108 : decode cJ26_moveRootToFront 108 = .ok (.aload_n 1, 1) := dk_43 (dk_at dksJ26_moveRootToFront_4 14 rfl rfl)
theorem dJ26_moveRootToFront_109 : decode cJ26_moveRootToFront 109 = .ok (.invokestatic 30, 3) := dk_184 0 30 (dk_at dksJ26_moveRootToFront_4 15 rfl rfl)
theorem dJ26_moveRootToFront_112 : decode cJ26_moveRootToFront 112 = .ok (.ifCond .ne 11, 3) := dk_154 0 11 (dk_at dksJ26_moveRootToFront_4 18 rfl rfl)
theorem dJ26_moveRootToFront_115 : decode cJ26_moveRootToFront 115 = .ok (.new 34, 3) := dk_187 0 34 (dk_at dksJ26_moveRootToFront_4 21 rfl rfl)
theorem dJ26_moveRootToFront_118 : decode cJ26_moveRootToFront 118 = .ok (.dup, 1) := dk_89 (dk_at dksJ26_moveRootToFront_5 0 rfl rfl)
theorem dJ26_moveRootToFront_119 : decode cJ26_moveRootToFront 119 = .ok (.invokespecial 36, 3) := dk_183 0 36 (dk_at dksJ26_moveRootToFront_5 1 rfl rfl)
theorem dJ26_moveRootToFront_122 : decode cJ26_moveRootToFront 122 = .ok (.athrow, 1) := dk_191 (dk_at dksJ26_moveRootToFront_5 4 rfl rfl)
theorem dJ26_moveRootToFront_123 : decode cJ26_moveRootToFront 123 = .ok (.return_, 1) := dk_177 (dk_at dksJ26_moveRootToFront_5 5 rfl rfl)
abbrev cJ26_putTreeVal : ByteArray := prog_61_method_9_code
def yJ26_putTreeVal : MethodName := ⟨RJ26, "putTreeVal", "(Ljava/util/HashMap;[Ljava/util/HashMap$Node;ILjava/lang/Object;Ljava/lang/Object;)Ljava/util/HashMap$TreeNode;"⟩
def dkwJ26_putTreeVal_13 : List UInt8 := [184, 0, 100, 184, 0, 104, 1, 176, 167, 254, 228]
abbrev dktJ26_putTreeVal_13 : List UInt8 := dkwJ26_putTreeVal_13 ++ []
def dkwJ26_putTreeVal_12 : List UInt8 := [181, 0, 9, 25, 14, 198, 0, 13, 25, 14, 192, 0, 10, 25, 15, 181, 0, 19, 44, 25, 8, 25, 15]
abbrev dktJ26_putTreeVal_12 : List UInt8 := dkwJ26_putTreeVal_12 ++ dktJ26_putTreeVal_13
def dkwJ26_putTreeVal_11 : List UInt8 := [25, 15, 181, 0, 42, 25, 13, 25, 15, 181, 0, 22, 25, 15, 25, 15, 25, 13, 90, 181, 0, 19]
abbrev dktJ26_putTreeVal_11 : List UInt8 := dkwJ26_putTreeVal_11 ++ dktJ26_putTreeVal_12
def dkwJ26_putTreeVal_10 : List UInt8 := [25, 14, 182, 0, 115, 58, 15, 21, 10, 157, 0, 13, 25, 13, 25, 15, 181, 0, 39, 167, 0, 10, 25, 13]
abbrev dktJ26_putTreeVal_10 : List UInt8 := dkwJ26_putTreeVal_10 ++ dktJ26_putTreeVal_11
def dkwJ26_putTreeVal_9 : List UInt8 := [25, 9, 180, 0, 42, 89, 58, 9, 199, 0, 93, 25, 13, 180, 0, 22, 58, 14, 43, 29, 25, 4, 25, 5]
abbrev dktJ26_putTreeVal_9 : List UInt8 := dkwJ26_putTreeVal_9 ++ dktJ26_putTreeVal_10
def dkwJ26_putTreeVal_8 : List UInt8 := [25, 12, 184, 0, 96, 54, 10, 25, 9, 58, 13, 21, 10, 157, 0, 11, 25, 9, 180, 0, 39, 167, 0, 8]
abbrev dktJ26_putTreeVal_8 : List UInt8 := dkwJ26_putTreeVal_8 ++ dktJ26_putTreeVal_9
def dkwJ26_putTreeVal_7 : List UInt8 := [198, 0, 22, 25, 14, 29, 25, 4, 25, 6, 182, 0, 63, 89, 58, 13, 198, 0, 6, 25, 13, 176, 25, 4]
abbrev dktJ26_putTreeVal_7 : List UInt8 := dkwJ26_putTreeVal_7 ++ dktJ26_putTreeVal_8
def dkwJ26_putTreeVal_6 : List UInt8 := [29, 25, 4, 25, 6, 182, 0, 63, 89, 58, 13, 199, 0, 30, 25, 9, 180, 0, 42, 89, 58, 14]
abbrev dktJ26_putTreeVal_6 : List UInt8 := dkwJ26_putTreeVal_6 ++ dktJ26_putTreeVal_7
def dkwJ26_putTreeVal_5 : List UInt8 := [154, 0, 77, 21, 7, 154, 0, 63, 4, 54, 7, 25, 9, 180, 0, 39, 89, 58, 14, 198, 0, 19, 25, 14]
abbrev dktJ26_putTreeVal_5 : List UInt8 := dkwJ26_putTreeVal_5 ++ dktJ26_putTreeVal_6
def dkwJ26_putTreeVal_4 : List UInt8 := [25, 4, 184, 0, 55, 89, 58, 6, 198, 0, 18, 25, 6, 25, 4, 25, 12, 184, 0, 59, 89, 54, 10]
abbrev dktJ26_putTreeVal_4 : List UInt8 := dkwJ26_putTreeVal_4 ++ dktJ26_putTreeVal_5
def dkwJ26_putTreeVal_3 : List UInt8 := [25, 4, 198, 0, 16, 25, 4, 25, 12, 182, 0, 49, 153, 0, 6, 25, 9, 176, 25, 6, 199, 0, 14]
abbrev dktJ26_putTreeVal_3 : List UInt8 := dkwJ26_putTreeVal_3 ++ dktJ26_putTreeVal_4
def dkwJ26_putTreeVal_2 : List UInt8 := [29, 162, 0, 9, 4, 54, 10, 167, 0, 139, 25, 9, 180, 0, 45, 89, 58, 12, 25, 4, 165, 0, 18]
abbrev dktJ26_putTreeVal_2 : List UInt8 := dkwJ26_putTreeVal_2 ++ dktJ26_putTreeVal_3
def dkwJ26_putTreeVal_1 : List UInt8 := [25, 8, 58, 9, 25, 9, 180, 0, 15, 89, 54, 11, 29, 164, 0, 9, 2, 54, 10, 167, 0, 151, 21, 11]
abbrev dktJ26_putTreeVal_1 : List UInt8 := dkwJ26_putTreeVal_1 ++ dktJ26_putTreeVal_2
def dkwJ26_putTreeVal_0 : List UInt8 := [1, 58, 6, 3, 54, 7, 42, 180, 0, 9, 198, 0, 10, 42, 182, 0, 67, 167, 0, 4, 42, 58, 8]
abbrev dktJ26_putTreeVal_0 : List UInt8 := dkwJ26_putTreeVal_0 ++ dktJ26_putTreeVal_1
theorem dksJ26_putTreeVal_0 : cJ26_putTreeVal.data.toList.drop 0 = dktJ26_putTreeVal_0 := by decide +kernel
theorem dksJ26_putTreeVal_1 : cJ26_putTreeVal.data.toList.drop 23 = dktJ26_putTreeVal_1 := dk_seg dksJ26_putTreeVal_0 23 rfl rfl
theorem dksJ26_putTreeVal_2 : cJ26_putTreeVal.data.toList.drop 47 = dktJ26_putTreeVal_2 := dk_seg dksJ26_putTreeVal_1 24 rfl rfl
theorem dksJ26_putTreeVal_3 : cJ26_putTreeVal.data.toList.drop 70 = dktJ26_putTreeVal_3 := dk_seg dksJ26_putTreeVal_2 23 rfl rfl
theorem dksJ26_putTreeVal_4 : cJ26_putTreeVal.data.toList.drop 93 = dktJ26_putTreeVal_4 := dk_seg dksJ26_putTreeVal_3 23 rfl rfl
theorem dksJ26_putTreeVal_5 : cJ26_putTreeVal.data.toList.drop 116 = dktJ26_putTreeVal_5 := dk_seg dksJ26_putTreeVal_4 23 rfl rfl
theorem dksJ26_putTreeVal_6 : cJ26_putTreeVal.data.toList.drop 140 = dktJ26_putTreeVal_6 := dk_seg dksJ26_putTreeVal_5 24 rfl rfl
theorem dksJ26_putTreeVal_7 : cJ26_putTreeVal.data.toList.drop 162 = dktJ26_putTreeVal_7 := dk_seg dksJ26_putTreeVal_6 22 rfl rfl
theorem dksJ26_putTreeVal_8 : cJ26_putTreeVal.data.toList.drop 186 = dktJ26_putTreeVal_8 := dk_seg dksJ26_putTreeVal_7 24 rfl rfl
theorem dksJ26_putTreeVal_9 : cJ26_putTreeVal.data.toList.drop 210 = dktJ26_putTreeVal_9 := dk_seg dksJ26_putTreeVal_8 24 rfl rfl
theorem dksJ26_putTreeVal_10 : cJ26_putTreeVal.data.toList.drop 234 = dktJ26_putTreeVal_10 := dk_seg dksJ26_putTreeVal_9 24 rfl rfl
theorem dksJ26_putTreeVal_11 : cJ26_putTreeVal.data.toList.drop 258 = dktJ26_putTreeVal_11 := dk_seg dksJ26_putTreeVal_10 24 rfl rfl
theorem dksJ26_putTreeVal_12 : cJ26_putTreeVal.data.toList.drop 280 = dktJ26_putTreeVal_12 := dk_seg dksJ26_putTreeVal_11 22 rfl rfl
theorem dksJ26_putTreeVal_13 : cJ26_putTreeVal.data.toList.drop 303 = dktJ26_putTreeVal_13 := dk_seg dksJ26_putTreeVal_12 23 rfl rfl
theorem dJ26_putTreeVal_0 : decode cJ26_putTreeVal 0 = .ok (.aconst_null, 1) := dk_1 (dk_at dksJ26_putTreeVal_0 0 rfl rfl)
theorem dJ26_putTreeVal_1 : decode cJ26_putTreeVal 1 = .ok (.astore 6, 2) := dk_58 6 (dk_at dksJ26_putTreeVal_0 1 rfl rfl)
theorem dJ26_putTreeVal_3 : decode cJ26_putTreeVal 3 = .ok (.iconst 0, 1) := dk_3 (dk_at dksJ26_putTreeVal_0 3 rfl rfl)
theorem dJ26_putTreeVal_4 : decode cJ26_putTreeVal 4 = .ok (.istore 7, 2) := dk_54 7 (dk_at dksJ26_putTreeVal_0 4 rfl rfl)
theorem dJ26_putTreeVal_6 : decode cJ26_putTreeVal 6 = .ok (.aload_n 0, 1) := dk_42 (dk_at dksJ26_putTreeVal_0 6 rfl rfl)
theorem dJ26_putTreeVal_7 : decode cJ26_putTreeVal 7 = .ok (.getfield 9, 3) := dk_180 0 9 (dk_at dksJ26_putTreeVal_0 7 rfl rfl)
theorem dJ26_putTreeVal_10 : decode cJ26_putTreeVal 10 = .ok (.ifnull 10, 3) := dk_198 0 10 (dk_at dksJ26_putTreeVal_0 10 rfl rfl)
theorem dJ26_putTreeVal_13 : decode cJ26_putTreeVal 13 = .ok (.aload_n 0, 1) := dk_42 (dk_at dksJ26_putTreeVal_0 13 rfl rfl)
theorem dJ26_putTreeVal_14 : decode cJ26_putTreeVal 14 = .ok (.invokevirtual 67, 3) := dk_182 0 67 (dk_at dksJ26_putTreeVal_0 14 rfl rfl)
theorem dJ26_putTreeVal_17 : decode cJ26_putTreeVal 17 = .ok (.goto 4, 3) := dk_167 0 4 (dk_at dksJ26_putTreeVal_0 17 rfl rfl)
theorem dJ26_putTreeVal_20 : decode cJ26_putTreeVal 20 = .ok (.aload_n 0, 1) := dk_42 (dk_at dksJ26_putTreeVal_0 20 rfl rfl)
theorem dJ26_putTreeVal_21 : decode cJ26_putTreeVal 21 = .ok (.astore 8, 2) := dk_58 8 (dk_at dksJ26_putTreeVal_0 21 rfl rfl)
theorem dJ26_putTreeVal_23 : decode cJ26_putTreeVal 23 = .ok (.aload 8, 2) := dk_25 8 (dk_at dksJ26_putTreeVal_1 0 rfl rfl)
theorem dJ26_putTreeVal_25 : decode cJ26_putTreeVal 25 = .ok (.astore 9, 2) := dk_58 9 (dk_at dksJ26_putTreeVal_1 2 rfl rfl)
theorem dJ26_putTreeVal_27 : decode cJ26_putTreeVal 27 = .ok (.aload 9, 2) := dk_25 9 (dk_at dksJ26_putTreeVal_1 4 rfl rfl)
theorem dJ26_putTreeVal_29 : decode cJ26_putTreeVal 29 = .ok (.getfield 15, 3) := dk_180 0 15 (dk_at dksJ26_putTreeVal_1 6 rfl rfl)
theorem dJ26_putTreeVal_32 : decode cJ26_putTreeVal 32 = .ok (.dup, 1) := dk_89 (dk_at dksJ26_putTreeVal_1 9 rfl rfl)
theorem dJ26_putTreeVal_33 : decode cJ26_putTreeVal 33 = .ok (.istore 11, 2) := dk_54 11 (dk_at dksJ26_putTreeVal_1 10 rfl rfl)
theorem dJ26_putTreeVal_35 : decode cJ26_putTreeVal 35 = .ok (.iload_n 3, 1) := dk_29 (dk_at dksJ26_putTreeVal_1 12 rfl rfl)
theorem dJ26_putTreeVal_36 : decode cJ26_putTreeVal 36 = .ok (.if_icmp .le 9, 3) := dk_164 0 9 (dk_at dksJ26_putTreeVal_1 13 rfl rfl)
theorem dJ26_putTreeVal_39 : decode cJ26_putTreeVal 39 = .ok (.iconst (-1), 1) := dk_2 (dk_at dksJ26_putTreeVal_1 16 rfl rfl)
theorem dJ26_putTreeVal_40 : decode cJ26_putTreeVal 40 = .ok (.istore 10, 2) := dk_54 10 (dk_at dksJ26_putTreeVal_1 17 rfl rfl)
theorem dJ26_putTreeVal_42 : decode cJ26_putTreeVal 42 = .ok (.goto 151, 3) := dk_167 0 151 (dk_at dksJ26_putTreeVal_1 19 rfl rfl)
theorem dJ26_putTreeVal_45 : decode cJ26_putTreeVal 45 = .ok (.iload 11, 2) := dk_21 11 (dk_at dksJ26_putTreeVal_1 22 rfl rfl)
theorem dJ26_putTreeVal_47 : decode cJ26_putTreeVal 47 = .ok (.iload_n 3, 1) := dk_29 (dk_at dksJ26_putTreeVal_2 0 rfl rfl)
theorem dJ26_putTreeVal_48 : decode cJ26_putTreeVal 48 = .ok (.if_icmp .ge 9, 3) := dk_162 0 9 (dk_at dksJ26_putTreeVal_2 1 rfl rfl)
theorem dJ26_putTreeVal_51 : decode cJ26_putTreeVal 51 = .ok (.iconst 1, 1) := dk_4 (dk_at dksJ26_putTreeVal_2 4 rfl rfl)
theorem dJ26_putTreeVal_52 : decode cJ26_putTreeVal 52 = .ok (.istore 10, 2) := dk_54 10 (dk_at dksJ26_putTreeVal_2 5 rfl rfl)
theorem dJ26_putTreeVal_54 : decode cJ26_putTreeVal 54 = .ok (.goto 139, 3) := dk_167 0 139 (dk_at dksJ26_putTreeVal_2 7 rfl rfl)
theorem dJ26_putTreeVal_57 : decode cJ26_putTreeVal 57 = .ok (.aload 9, 2) := dk_25 9 (dk_at dksJ26_putTreeVal_2 10 rfl rfl)
theorem dJ26_putTreeVal_59 : decode cJ26_putTreeVal 59 = .ok (.getfield 45, 3) := dk_180 0 45 (dk_at dksJ26_putTreeVal_2 12 rfl rfl)
theorem dJ26_putTreeVal_62 : decode cJ26_putTreeVal 62 = .ok (.dup, 1) := dk_89 (dk_at dksJ26_putTreeVal_2 15 rfl rfl)
theorem dJ26_putTreeVal_63 : decode cJ26_putTreeVal 63 = .ok (.astore 12, 2) := dk_58 12 (dk_at dksJ26_putTreeVal_2 16 rfl rfl)
theorem dJ26_putTreeVal_65 : decode cJ26_putTreeVal 65 = .ok (.aload 4, 2) := dk_25 4 (dk_at dksJ26_putTreeVal_2 18 rfl rfl)
theorem dJ26_putTreeVal_67 : decode cJ26_putTreeVal 67 = .ok (.if_acmp .eq 18, 3) := dk_165 0 18 (dk_at dksJ26_putTreeVal_2 20 rfl rfl)
theorem dJ26_putTreeVal_70 : decode cJ26_putTreeVal 70 = .ok (.aload 4, 2) := dk_25 4 (dk_at dksJ26_putTreeVal_3 0 rfl rfl)
theorem dJ26_putTreeVal_72 : decode cJ26_putTreeVal 72 = .ok (.ifnull 16, 3) := dk_198 0 16 (dk_at dksJ26_putTreeVal_3 2 rfl rfl)
theorem dJ26_putTreeVal_75 : decode cJ26_putTreeVal 75 = .ok (.aload 4, 2) := dk_25 4 (dk_at dksJ26_putTreeVal_3 5 rfl rfl)
theorem dJ26_putTreeVal_77 : decode cJ26_putTreeVal 77 = .ok (.aload 12, 2) := dk_25 12 (dk_at dksJ26_putTreeVal_3 7 rfl rfl)
theorem dJ26_putTreeVal_79 : decode cJ26_putTreeVal 79 = .ok (.invokevirtual 49, 3) := dk_182 0 49 (dk_at dksJ26_putTreeVal_3 9 rfl rfl)
theorem dJ26_putTreeVal_82 : decode cJ26_putTreeVal 82 = .ok (.ifCond .eq 6, 3) := dk_153 0 6 (dk_at dksJ26_putTreeVal_3 12 rfl rfl)
theorem dJ26_putTreeVal_85 : decode cJ26_putTreeVal 85 = .ok (.aload 9, 2) := dk_25 9 (dk_at dksJ26_putTreeVal_3 15 rfl rfl)
theorem dJ26_putTreeVal_87 : decode cJ26_putTreeVal 87 = .ok (.areturn, 1) := dk_176 (dk_at dksJ26_putTreeVal_3 17 rfl rfl)
theorem dJ26_putTreeVal_88 : decode cJ26_putTreeVal 88 = .ok (.aload 6, 2) := dk_25 6 (dk_at dksJ26_putTreeVal_3 18 rfl rfl)
theorem dJ26_putTreeVal_90 : decode cJ26_putTreeVal 90 = .ok (.ifnonnull 14, 3) := dk_199 0 14 (dk_at dksJ26_putTreeVal_3 20 rfl rfl)
theorem dJ26_putTreeVal_93 : decode cJ26_putTreeVal 93 = .ok (.aload 4, 2) := dk_25 4 (dk_at dksJ26_putTreeVal_4 0 rfl rfl)
theorem dJ26_putTreeVal_95 : decode cJ26_putTreeVal 95 = .ok (.invokestatic 55, 3) := dk_184 0 55 (dk_at dksJ26_putTreeVal_4 2 rfl rfl)
theorem dJ26_putTreeVal_98 : decode cJ26_putTreeVal 98 = .ok (.dup, 1) := dk_89 (dk_at dksJ26_putTreeVal_4 5 rfl rfl)
theorem dJ26_putTreeVal_99 : decode cJ26_putTreeVal 99 = .ok (.astore 6, 2) := dk_58 6 (dk_at dksJ26_putTreeVal_4 6 rfl rfl)
theorem dJ26_putTreeVal_101 : decode cJ26_putTreeVal 101 = .ok (.ifnull 18, 3) := dk_198 0 18 (dk_at dksJ26_putTreeVal_4 8 rfl rfl)
theorem dJ26_putTreeVal_104 : decode cJ26_putTreeVal 104 = .ok (.aload 6, 2) := dk_25 6 (dk_at dksJ26_putTreeVal_4 11 rfl rfl)
theorem dJ26_putTreeVal_106 : decode cJ26_putTreeVal 106 = .ok (.aload 4, 2) := dk_25 4 (dk_at dksJ26_putTreeVal_4 13 rfl rfl)
theorem dJ26_putTreeVal_108 : decode cJ26_putTreeVal 108 = .ok (.aload 12, 2) := dk_25 12 (dk_at dksJ26_putTreeVal_4 15 rfl rfl)
theorem dJ26_putTreeVal_110 : decode cJ26_putTreeVal 110 = .ok (.invokestatic 59, 3) := dk_184 0 59 (dk_at dksJ26_putTreeVal_4 17 rfl rfl)
theorem dJ26_putTreeVal_113 : decode cJ26_putTreeVal 113 = .ok (.dup, 1) := dk_89 (dk_at dksJ26_putTreeVal_4 20 rfl rfl)
theorem dJ26_putTreeVal_114 : decode cJ26_putTreeVal 114 = .ok (.istore 10, 2) := dk_54 10 (dk_at dksJ26_putTreeVal_4 21 rfl rfl)
theorem dJ26_putTreeVal_116 : decode cJ26_putTreeVal 116 = .ok (.ifCond .ne 77, 3) := dk_154 0 77 (dk_at dksJ26_putTreeVal_5 0 rfl rfl)
theorem dJ26_putTreeVal_119 : decode cJ26_putTreeVal 119 = .ok (.iload 7, 2) := dk_21 7 (dk_at dksJ26_putTreeVal_5 3 rfl rfl)
theorem dJ26_putTreeVal_121 : decode cJ26_putTreeVal 121 = .ok (.ifCond .ne 63, 3) := dk_154 0 63 (dk_at dksJ26_putTreeVal_5 5 rfl rfl)
theorem dJ26_putTreeVal_124 : decode cJ26_putTreeVal 124 = .ok (.iconst 1, 1) := dk_4 (dk_at dksJ26_putTreeVal_5 8 rfl rfl)
theorem dJ26_putTreeVal_125 : decode cJ26_putTreeVal 125 = .ok (.istore 7, 2) := dk_54 7 (dk_at dksJ26_putTreeVal_5 9 rfl rfl)
theorem dJ26_putTreeVal_127 : decode cJ26_putTreeVal 127 = .ok (.aload 9, 2) := dk_25 9 (dk_at dksJ26_putTreeVal_5 11 rfl rfl)
theorem dJ26_putTreeVal_129 : decode cJ26_putTreeVal 129 = .ok (.getfield 39, 3) := dk_180 0 39 (dk_at dksJ26_putTreeVal_5 13 rfl rfl)
theorem dJ26_putTreeVal_132 : decode cJ26_putTreeVal 132 = .ok (.dup, 1) := dk_89 (dk_at dksJ26_putTreeVal_5 16 rfl rfl)
theorem dJ26_putTreeVal_133 : decode cJ26_putTreeVal 133 = .ok (.astore 14, 2) := dk_58 14 (dk_at dksJ26_putTreeVal_5 17 rfl rfl)
theorem dJ26_putTreeVal_135 : decode cJ26_putTreeVal 135 = .ok (.ifnull 19, 3) := dk_198 0 19 (dk_at dksJ26_putTreeVal_5 19 rfl rfl)
theorem dJ26_putTreeVal_138 : decode cJ26_putTreeVal 138 = .ok (.aload 14, 2) := dk_25 14 (dk_at dksJ26_putTreeVal_5 22 rfl rfl)
theorem dJ26_putTreeVal_140 : decode cJ26_putTreeVal 140 = .ok (.iload_n 3, 1) := dk_29 (dk_at dksJ26_putTreeVal_6 0 rfl rfl)
theorem dJ26_putTreeVal_141 : decode cJ26_putTreeVal 141 = .ok (.aload 4, 2) := dk_25 4 (dk_at dksJ26_putTreeVal_6 1 rfl rfl)
theorem dJ26_putTreeVal_143 : decode cJ26_putTreeVal 143 = .ok (.aload 6, 2) := dk_25 6 (dk_at dksJ26_putTreeVal_6 3 rfl rfl)
theorem dJ26_putTreeVal_145 : decode cJ26_putTreeVal 145 = .ok (.invokevirtual 63, 3) := dk_182 0 63 (dk_at dksJ26_putTreeVal_6 5 rfl rfl)
theorem dJ26_putTreeVal_148 : decode cJ26_putTreeVal 148 = .ok (.dup, 1) := dk_89 (dk_at dksJ26_putTreeVal_6 8 rfl rfl)
theorem dJ26_putTreeVal_149 : decode cJ26_putTreeVal 149 = .ok (.astore 13, 2) := dk_58 13 (dk_at dksJ26_putTreeVal_6 9 rfl rfl)
theorem dJ26_putTreeVal_151 : decode cJ26_putTreeVal 151 = .ok (.ifnonnull 30, 3) := dk_199 0 30 (dk_at dksJ26_putTreeVal_6 11 rfl rfl)
theorem dJ26_putTreeVal_154 : decode cJ26_putTreeVal 154 = .ok (.aload 9, 2) := dk_25 9 (dk_at dksJ26_putTreeVal_6 14 rfl rfl)
theorem dJ26_putTreeVal_156 : decode cJ26_putTreeVal 156 = .ok (.getfield 42, 3) := dk_180 0 42 (dk_at dksJ26_putTreeVal_6 16 rfl rfl)
theorem dJ26_putTreeVal_159 : decode cJ26_putTreeVal 159 = .ok (.dup, 1) := dk_89 (dk_at dksJ26_putTreeVal_6 19 rfl rfl)
theorem dJ26_putTreeVal_160 : decode cJ26_putTreeVal 160 = .ok (.astore 14, 2) := dk_58 14 (dk_at dksJ26_putTreeVal_6 20 rfl rfl)
theorem dJ26_putTreeVal_162 : decode cJ26_putTreeVal 162 = .ok (.ifnull 22, 3) := dk_198 0 22 (dk_at dksJ26_putTreeVal_7 0 rfl rfl)
theorem dJ26_putTreeVal_165 : decode cJ26_putTreeVal 165 = .ok (.aload 14, 2) := dk_25 14 (dk_at dksJ26_putTreeVal_7 3 rfl rfl)
theorem dJ26_putTreeVal_167 : decode cJ26_putTreeVal 167 = .ok (.iload_n 3, 1) := dk_29 (dk_at dksJ26_putTreeVal_7 5 rfl rfl)
theorem dJ26_putTreeVal_168 : decode cJ26_putTreeVal 168 = .ok (.aload 4, 2) := dk_25 4 (dk_at dksJ26_putTreeVal_7 6 rfl rfl)
theorem dJ26_putTreeVal_170 : decode cJ26_putTreeVal 170 = .ok (.aload 6, 2) := dk_25 6 (dk_at dksJ26_putTreeVal_7 8 rfl rfl)
theorem dJ26_putTreeVal_172 : decode cJ26_putTreeVal 172 = .ok (.invokevirtual 63, 3) := dk_182 0 63 (dk_at dksJ26_putTreeVal_7 10 rfl rfl)
theorem dJ26_putTreeVal_175 : decode cJ26_putTreeVal 175 = .ok (.dup, 1) := dk_89 (dk_at dksJ26_putTreeVal_7 13 rfl rfl)
theorem dJ26_putTreeVal_176 : decode cJ26_putTreeVal 176 = .ok (.astore 13, 2) := dk_58 13 (dk_at dksJ26_putTreeVal_7 14 rfl rfl)
theorem dJ26_putTreeVal_178 : decode cJ26_putTreeVal 178 = .ok (.ifnull 6, 3) := dk_198 0 6 (dk_at dksJ26_putTreeVal_7 16 rfl rfl)
theorem dJ26_putTreeVal_181 : decode cJ26_putTreeVal 181 = .ok (.aload 13, 2) := dk_25 13 (dk_at dksJ26_putTreeVal_7 19 rfl rfl)
theorem dJ26_putTreeVal_183 : decode cJ26_putTreeVal 183 = .ok (.areturn, 1) := dk_176 (dk_at dksJ26_putTreeVal_7 21 rfl rfl)
theorem dJ26_putTreeVal_184 : decode cJ26_putTreeVal 184 = .ok (.aload 4, 2) := dk_25 4 (dk_at dksJ26_putTreeVal_7 22 rfl rfl)
theorem dJ26_putTreeVal_186 : decode cJ26_putTreeVal 186 = .ok (.aload 12, 2) := dk_25 12 (dk_at dksJ26_putTreeVal_8 0 rfl rfl)
theorem dJ26_putTreeVal_188 : decode cJ26_putTreeVal 188 = .ok (.invokestatic 96, 3) := dk_184 0 96 (dk_at dksJ26_putTreeVal_8 2 rfl rfl)
theorem dJ26_putTreeVal_191 : decode cJ26_putTreeVal 191 = .ok (.istore 10, 2) := dk_54 10 (dk_at dksJ26_putTreeVal_8 5 rfl rfl)
theorem dJ26_putTreeVal_193 : decode cJ26_putTreeVal 193 = .ok (.aload 9, 2) := dk_25 9 (dk_at dksJ26_putTreeVal_8 7 rfl rfl)
theorem dJ26_putTreeVal_195 : decode cJ26_putTreeVal 195 = .ok (.astore 13, 2) := dk_58 13 (dk_at dksJ26_putTreeVal_8 9 rfl rfl)
theorem dJ26_putTreeVal_197 : decode cJ26_putTreeVal 197 = .ok (.iload 10, 2) := dk_21 10 (dk_at dksJ26_putTreeVal_8 11 rfl rfl)
theorem dJ26_putTreeVal_199 : decode cJ26_putTreeVal 199 = .ok (.ifCond .gt 11, 3) := dk_157 0 11 (dk_at dksJ26_putTreeVal_8 13 rfl rfl)
theorem dJ26_putTreeVal_202 : decode cJ26_putTreeVal 202 = .ok (.aload 9, 2) := dk_25 9 (dk_at dksJ26_putTreeVal_8 16 rfl rfl)
theorem dJ26_putTreeVal_204 : decode cJ26_putTreeVal 204 = .ok (.getfield 39, 3) := dk_180 0 39 (dk_at dksJ26_putTreeVal_8 18 rfl rfl)
theorem dJ26_putTreeVal_207 : decode cJ26_putTreeVal 207 = .ok (.goto 8, 3) := dk_167 0 8 (dk_at dksJ26_putTreeVal_8 21 rfl rfl)
theorem dJ26_putTreeVal_210 : decode cJ26_putTreeVal 210 = .ok (.aload 9, 2) := dk_25 9 (dk_at dksJ26_putTreeVal_9 0 rfl rfl)
theorem dJ26_putTreeVal_212 : decode cJ26_putTreeVal 212 = .ok (.getfield 42, 3) := dk_180 0 42 (dk_at dksJ26_putTreeVal_9 2 rfl rfl)
theorem dJ26_putTreeVal_215 : decode cJ26_putTreeVal 215 = .ok (.dup, 1) := dk_89 (dk_at dksJ26_putTreeVal_9 5 rfl rfl)
theorem dJ26_putTreeVal_216 : decode cJ26_putTreeVal 216 = .ok (.astore 9, 2) := dk_58 9 (dk_at dksJ26_putTreeVal_9 6 rfl rfl)
theorem dJ26_putTreeVal_218 : decode cJ26_putTreeVal 218 = .ok (.ifnonnull 93, 3) := dk_199 0 93 (dk_at dksJ26_putTreeVal_9 8 rfl rfl)
theorem dJ26_putTreeVal_221 : decode cJ26_putTreeVal 221 = .ok (.aload 13, 2) := dk_25 13 (dk_at dksJ26_putTreeVal_9 11 rfl rfl)
theorem dJ26_putTreeVal_223 : decode cJ26_putTreeVal 223 = .ok (.getfield 22, 3) := dk_180 0 22 (dk_at dksJ26_putTreeVal_9 13 rfl rfl)
theorem dJ26_putTreeVal_226 : decode cJ26_putTreeVal 226 = .ok (.astore 14, 2) := dk_58 14 (dk_at dksJ26_putTreeVal_9 16 rfl rfl)
theorem dJ26_putTreeVal_228 : decode cJ26_putTreeVal 228 = .ok (.aload_n 1, 1) := dk_43 (dk_at dksJ26_putTreeVal_9 18 rfl rfl)
theorem dJ26_putTreeVal_229 : decode cJ26_putTreeVal 229 = .ok (.iload_n 3, 1) := dk_29 (dk_at dksJ26_putTreeVal_9 19 rfl rfl)
theorem dJ26_putTreeVal_230 : decode cJ26_putTreeVal 230 = .ok (.aload 4, 2) := dk_25 4 (dk_at dksJ26_putTreeVal_9 20 rfl rfl)
theorem dJ26_putTreeVal_232 : decode cJ26_putTreeVal 232 = .ok (.aload 5, 2) := dk_25 5 (dk_at dksJ26_putTreeVal_9 22 rfl rfl)
theorem dJ26_putTreeVal_234 : decode cJ26_putTreeVal 234 = .ok (.aload 14, 2) := dk_25 14 (dk_at dksJ26_putTreeVal_10 0 rfl rfl)
theorem dJ26_putTreeVal_236 : decode cJ26_putTreeVal 236 = .ok (.invokevirtual 115, 3) := dk_182 0 115 (dk_at dksJ26_putTreeVal_10 2 rfl rfl)
theorem dJ26_putTreeVal_239 : decode cJ26_putTreeVal 239 = .ok (.astore 15, 2) := dk_58 15 (dk_at dksJ26_putTreeVal_10 5 rfl rfl)
theorem dJ26_putTreeVal_241 : decode cJ26_putTreeVal 241 = .ok (.iload 10, 2) := dk_21 10 (dk_at dksJ26_putTreeVal_10 7 rfl rfl)
theorem dJ26_putTreeVal_243 : decode cJ26_putTreeVal 243 = .ok (.ifCond .gt 13, 3) := dk_157 0 13 (dk_at dksJ26_putTreeVal_10 9 rfl rfl)
theorem dJ26_putTreeVal_246 : decode cJ26_putTreeVal 246 = .ok (.aload 13, 2) := dk_25 13 (dk_at dksJ26_putTreeVal_10 12 rfl rfl)
theorem dJ26_putTreeVal_248 : decode cJ26_putTreeVal 248 = .ok (.aload 15, 2) := dk_25 15 (dk_at dksJ26_putTreeVal_10 14 rfl rfl)
theorem dJ26_putTreeVal_250 : decode cJ26_putTreeVal 250 = .ok (.putfield 39, 3) := dk_181 0 39 (dk_at dksJ26_putTreeVal_10 16 rfl rfl)
theorem dJ26_putTreeVal_253 : decode cJ26_putTreeVal 253 = .ok (.goto 10, 3) := dk_167 0 10 (dk_at dksJ26_putTreeVal_10 19 rfl rfl)
theorem dJ26_putTreeVal_256 : decode cJ26_putTreeVal 256 = .ok (.aload 13, 2) := dk_25 13 (dk_at dksJ26_putTreeVal_10 22 rfl rfl)
theorem dJ26_putTreeVal_258 : decode cJ26_putTreeVal 258 = .ok (.aload 15, 2) := dk_25 15 (dk_at dksJ26_putTreeVal_11 0 rfl rfl)
theorem dJ26_putTreeVal_260 : decode cJ26_putTreeVal 260 = .ok (.putfield 42, 3) := dk_181 0 42 (dk_at dksJ26_putTreeVal_11 2 rfl rfl)
theorem dJ26_putTreeVal_263 : decode cJ26_putTreeVal 263 = .ok (.aload 13, 2) := dk_25 13 (dk_at dksJ26_putTreeVal_11 5 rfl rfl)
theorem dJ26_putTreeVal_265 : decode cJ26_putTreeVal 265 = .ok (.aload 15, 2) := dk_25 15 (dk_at dksJ26_putTreeVal_11 7 rfl rfl)
theorem dJ26_putTreeVal_267 : decode cJ26_putTreeVal 267 = .ok (.putfield 22, 3) := dk_181 0 22 (dk_at dksJ26_putTreeVal_11 9 rfl rfl)
theorem dJ26_putTreeVal_270 : decode cJ26_putTreeVal 270 = .ok (.aload 15, 2) := dk_25 15 (dk_at dksJ26_putTreeVal_11 12 rfl rfl)
theorem dJ26_putTreeVal_272 : decode cJ26_putTreeVal 272 = .ok (.aload 15, 2) := dk_25 15 (dk_at dksJ26_putTreeVal_11 14 rfl rfl)
theorem dJ26_putTreeVal_274 : decode cJ26_putTreeVal 274 = .ok (.aload 13, 2) := dk_25 13 (dk_at dksJ26_putTreeVal_11 16 rfl rfl)
theorem dJ26_putTreeVal_276 : decode cJ26_putTreeVal 276 = .ok (.dup_x1, 1) := dk_90 (dk_at dksJ26_putTreeVal_11 18 rfl rfl)
theorem dJ26_putTreeVal_277 : decode cJ26_putTreeVal 277 = .ok (.putfield 19, 3) := dk_181 0 19 (dk_at dksJ26_putTreeVal_11 19 rfl rfl)
theorem dJ26_putTreeVal_280 : decode cJ26_putTreeVal 280 = .ok (.putfield 9, 3) := dk_181 0 9 (dk_at dksJ26_putTreeVal_12 0 rfl rfl)
theorem dJ26_putTreeVal_283 : decode cJ26_putTreeVal 283 = .ok (.aload 14, 2) := dk_25 14 (dk_at dksJ26_putTreeVal_12 3 rfl rfl)
theorem dJ26_putTreeVal_285 : decode cJ26_putTreeVal 285 = .ok (.ifnull 13, 3) := dk_198 0 13 (dk_at dksJ26_putTreeVal_12 5 rfl rfl)
theorem dJ26_putTreeVal_288 : decode cJ26_putTreeVal 288 = .ok (.aload 14, 2) := dk_25 14 (dk_at dksJ26_putTreeVal_12 8 rfl rfl)
theorem dJ26_putTreeVal_290 : decode cJ26_putTreeVal 290 = .ok (.checkcast 10, 3) := dk_192 0 10 (dk_at dksJ26_putTreeVal_12 10 rfl rfl)
theorem dJ26_putTreeVal_293 : decode cJ26_putTreeVal 293 = .ok (.aload 15, 2) := dk_25 15 (dk_at dksJ26_putTreeVal_12 13 rfl rfl)
theorem dJ26_putTreeVal_295 : decode cJ26_putTreeVal 295 = .ok (.putfield 19, 3) := dk_181 0 19 (dk_at dksJ26_putTreeVal_12 15 rfl rfl)
theorem dJ26_putTreeVal_298 : decode cJ26_putTreeVal 298 = .ok (.aload_n 2, 1) := dk_44 (dk_at dksJ26_putTreeVal_12 18 rfl rfl)
theorem dJ26_putTreeVal_299 : decode cJ26_putTreeVal 299 = .ok (.aload 8, 2) := dk_25 8 (dk_at dksJ26_putTreeVal_12 19 rfl rfl)
theorem dJ26_putTreeVal_301 : decode cJ26_putTreeVal 301 = .ok (.aload 15, 2) := dk_25 15 (dk_at dksJ26_putTreeVal_12 21 rfl rfl)
theorem dJ26_putTreeVal_303 : decode cJ26_putTreeVal 303 = .ok (.invokestatic 100, 3) := dk_184 0 100 (dk_at dksJ26_putTreeVal_13 0 rfl rfl)
theorem dJ26_putTreeVal_306 : decode cJ26_putTreeVal 306 = .ok (.invokestatic 104, 3) := dk_184 0 104 (dk_at dksJ26_putTreeVal_13 3 rfl rfl)
theorem dJ26_putTreeVal_309 : decode cJ26_putTreeVal 309 = .ok (.aconst_null, 1) := dk_1 (dk_at dksJ26_putTreeVal_13 6 rfl rfl)
theorem dJ26_putTreeVal_310 : decode cJ26_putTreeVal 310 = .ok (.areturn, 1) := dk_176 (dk_at dksJ26_putTreeVal_13 7 rfl rfl)
theorem dJ26_putTreeVal_311 : decode cJ26_putTreeVal 311 = .ok (.goto (-284), 3) := dk_167 254 228 (dk_at dksJ26_putTreeVal_13 8 rfl rfl)
abbrev cJ26_init : ByteArray := prog_61_method_1_code
def yJ26_init : MethodName := ⟨RJ26, "<init>", "(ILjava/lang/Object;Ljava/lang/Object;Ljava/util/HashMap$Node;)V"⟩
def dkwJ26_init_0 : List UInt8 := [42, 27, 44, 45, 25, 4, 183, 0, 3, 177]
abbrev dktJ26_init_0 : List UInt8 := dkwJ26_init_0 ++ []
theorem dksJ26_init_0 : cJ26_init.data.toList.drop 0 = dktJ26_init_0 := by decide +kernel
theorem dJ26_init_0 : decode cJ26_init 0 = .ok (.aload_n 0, 1) := dk_42 (dk_at dksJ26_init_0 0 rfl rfl)
theorem dJ26_init_1 : decode cJ26_init 1 = .ok (.iload_n 1, 1) := dk_27 (dk_at dksJ26_init_0 1 rfl rfl)
theorem dJ26_init_2 : decode cJ26_init 2 = .ok (.aload_n 2, 1) := dk_44 (dk_at dksJ26_init_0 2 rfl rfl)
theorem dJ26_init_3 : decode cJ26_init 3 = .ok (.aload_n 3, 1) := dk_45 (dk_at dksJ26_init_0 3 rfl rfl)
theorem dJ26_init_4 : decode cJ26_init 4 = .ok (.aload 4, 2) := dk_25 4 (dk_at dksJ26_init_0 4 rfl rfl)
theorem dJ26_init_6 : decode cJ26_init 6 = .ok (.invokespecial 3, 3) := dk_183 0 3 (dk_at dksJ26_init_0 6 rfl rfl)
theorem dJ26_init_9 : decode cJ26_init 9 = .ok (.return_, 1) := dk_177 (dk_at dksJ26_init_0 9 rfl rfl)
theorem q149 : (Jvm.Cond.initialized "java/util/HashMap$TreeNode") ∈ lw_all := lw_g (lw_at lw_m1 41 rfl) rfl
theorem q1084 : (Jvm.Cond.instanceMethod ({ cls := "java/util/HashMap$TreeNode", name := "getTreeNode", desc := "(ILjava/lang/Object;)Ljava/util/HashMap$TreeNode;" } : Jvm.MethodName)) ∈ lw_all := lw_g (lw_at lw_m5 16 rfl) rfl
theorem q1085 : (Jvm.Cond.selects "java/util/HashMap$TreeNode" ({ cls := "java/util/HashMap$TreeNode", name := "getTreeNode", desc := "(ILjava/lang/Object;)Ljava/util/HashMap$TreeNode;" } : Jvm.MethodName) ({ cls := "java/util/HashMap$TreeNode", name := "getTreeNode", desc := "(ILjava/lang/Object;)Ljava/util/HashMap$TreeNode;" } : Jvm.MethodName)) ∈ lw_all := lw_g (lw_at lw_m5 17 rfl) rfl
theorem q1086 : (Jvm.Cond.code ({ cls := "java/util/HashMap$TreeNode", name := "getTreeNode", desc := "(ILjava/lang/Object;)Ljava/util/HashMap$TreeNode;" } : Jvm.MethodName) prog_61_method_5_code (3 : Nat) (Option.some (Jvm.ClassFile.FieldType.object "java/util/HashMap$TreeNode"))) ∈ lw_all := lw_g (lw_at lw_m5 18 rfl) rfl
theorem q1087 : (Jvm.Cond.methodLink "java/util/HashMap$TreeNode" (67 : Nat) ({ cls := "java/util/HashMap$TreeNode", name := "root", desc := "()Ljava/util/HashMap$TreeNode;" } : Jvm.MethodName)) ∈ lw_all := lw_g (lw_at lw_m5 19 rfl) rfl
theorem q1088 : (Jvm.Cond.instanceMethod ({ cls := "java/util/HashMap$TreeNode", name := "root", desc := "()Ljava/util/HashMap$TreeNode;" } : Jvm.MethodName)) ∈ lw_all := lw_g (lw_at lw_m5 20 rfl) rfl
theorem q1089 : (Jvm.Cond.selects "java/util/HashMap$TreeNode" ({ cls := "java/util/HashMap$TreeNode", name := "root", desc := "()Ljava/util/HashMap$TreeNode;" } : Jvm.MethodName) ({ cls := "java/util/HashMap$TreeNode", name := "root", desc := "()Ljava/util/HashMap$TreeNode;" } : Jvm.MethodName)) ∈ lw_all := lw_g (lw_at lw_m5 21 rfl) rfl
theorem q1090 : (Jvm.Cond.code ({ cls := "java/util/HashMap$TreeNode", name := "root", desc := "()Ljava/util/HashMap$TreeNode;" } : Jvm.MethodName) prog_61_method_2_code (3 : Nat) (Option.some (Jvm.ClassFile.FieldType.object "java/util/HashMap$TreeNode"))) ∈ lw_all := lw_g (lw_at lw_m5 22 rfl) rfl
theorem q1091 : (Jvm.Cond.methodLink "java/util/HashMap$TreeNode" (63 : Nat) ({ cls := "java/util/HashMap$TreeNode", name := "find", desc := "(ILjava/lang/Object;Ljava/lang/Class;)Ljava/util/HashMap$TreeNode;" } : Jvm.MethodName)) ∈ lw_all := lw_g (lw_at lw_m5 23 rfl) rfl
theorem q1092 : (Jvm.Cond.instanceMethod ({ cls := "java/util/HashMap$TreeNode", name := "find", desc := "(ILjava/lang/Object;Ljava/lang/Class;)Ljava/util/HashMap$TreeNode;" } : Jvm.MethodName)) ∈ lw_all := lw_g (lw_at lw_m5 24 rfl) rfl
theorem q1093 : (Jvm.Cond.selects "java/util/HashMap$TreeNode" ({ cls := "java/util/HashMap$TreeNode", name := "find", desc := "(ILjava/lang/Object;Ljava/lang/Class;)Ljava/util/HashMap$TreeNode;" } : Jvm.MethodName) ({ cls := "java/util/HashMap$TreeNode", name := "find", desc := "(ILjava/lang/Object;Ljava/lang/Class;)Ljava/util/HashMap$TreeNode;" } : Jvm.MethodName)) ∈ lw_all := lw_g (lw_at lw_m5 25 rfl) rfl
theorem q1094 : (Jvm.Cond.code ({ cls := "java/util/HashMap$TreeNode", name := "find", desc := "(ILjava/lang/Object;Ljava/lang/Class;)Ljava/util/HashMap$TreeNode;" } : Jvm.MethodName) prog_61_method_4_code (11 : Nat) (Option.some (Jvm.ClassFile.FieldType.object "java/util/HashMap$TreeNode"))) ∈ lw_all := lw_g (lw_at lw_m5 26 rfl) rfl
theorem q1095 : (Jvm.Cond.methodLink "java/util/HashMap$TreeNode" (49 : Nat) ({ cls := "java/lang/Object", name := "equals", desc := "(Ljava/lang/Object;)Z" } : Jvm.MethodName)) ∈ lw_all := lw_g (lw_at lw_m5 27 rfl) rfl
theorem q1096 : (Jvm.Cond.methodLink "java/util/HashMap$TreeNode" (55 : Nat) ({ cls := "java/util/HashMap", name := "comparableClassFor", desc := "(Ljava/lang/Object;)Ljava/lang/Class;" } : Jvm.MethodName)) ∈ lw_all := lw_g (lw_at lw_m5 28 rfl) rfl
theorem q1134 : (Jvm.Cond.selects "java/util/HashMap$TreeNode" ({ cls := "java/lang/Object", name := "getClass", desc := "()Ljava/lang/Class;" } : Jvm.MethodName) ({ cls := "java/lang/Object", name := "getClass", desc := "()Ljava/lang/Class;" } : Jvm.MethodName)) ∈ lw_all := lw_g (lw_at lw_m5 66 rfl) rfl
theorem q1139 : (Jvm.Cond.methodLink "java/util/HashMap$TreeNode" (59 : Nat) ({ cls := "java/util/HashMap", name := "compareComparables", desc := "(Ljava/lang/Class;Ljava/lang/Object;Ljava/lang/Object;)I" } : Jvm.MethodName)) ∈ lw_all := lw_g (lw_at lw_m5 71 rfl) rfl
theorem q1579 : (Jvm.Cond.instanceMethod ({ cls := "java/util/HashMap$TreeNode", name := "split", desc := "(Ljava/util/HashMap;[Ljava/util/HashMap$Node;II)V" } : Jvm.MethodName)) ∈ lw_all := lw_g (lw_at lw_m7 31 rfl) rfl
theorem q1580 : (Jvm.Cond.selects "java/util/HashMap$TreeNode" ({ cls := "java/util/HashMap$TreeNode", name := "split", desc := "(Ljava/util/HashMap;[Ljava/util/HashMap$Node;II)V" } : Jvm.MethodName) ({ cls := "java/util/HashMap$TreeNode", name := "split", desc := "(Ljava/util/HashMap;[Ljava/util/HashMap$Node;II)V" } : Jvm.MethodName)) ∈ lw_all := lw_g (lw_at lw_m7 32 rfl) rfl
theorem q1581 : (Jvm.Cond.code ({ cls := "java/util/HashMap$TreeNode", name := "split", desc := "(Ljava/util/HashMap;[Ljava/util/HashMap$Node;II)V" } : Jvm.MethodName) prog_61_method_11_code (14 : Nat) (Option.none : Option Jvm.ClassFile.FieldType)) ∈ lw_all := lw_g (lw_at lw_m7 33 rfl) rfl
theorem q1582 : (Jvm.Cond.classLink "java/util/HashMap$TreeNode" (10 : Nat) "java/util/HashMap$TreeNode") ∈ lw_all := lw_g (lw_at lw_m7 34 rfl) rfl
theorem q1583 : (Jvm.Cond.methodLink "java/util/HashMap$TreeNode" (119 : Nat) ({ cls := "java/util/HashMap$TreeNode", name := "untreeify", desc := "(Ljava/util/HashMap;)Ljava/util/HashMap$Node;" } : Jvm.MethodName)) ∈ lw_all := lw_g (lw_at lw_m7 35 rfl) rfl
theorem q1584 : (Jvm.Cond.instanceMethod ({ cls := "java/util/HashMap$TreeNode", name := "untreeify", desc := "(Ljava/util/HashMap;)Ljava/util/HashMap$Node;" } : Jvm.MethodName)) ∈ lw_all := lw_g (lw_at lw_m7 36 rfl) rfl
theorem q1585 : (Jvm.Cond.selects "java/util/HashMap$TreeNode" ({ cls := "java/util/HashMap$TreeNode", name := "untreeify", desc := "(Ljava/util/HashMap;)Ljava/util/HashMap$Node;" } : Jvm.MethodName) ({ cls := "java/util/HashMap$TreeNode", name := "untreeify", desc := "(Ljava/util/HashMap;)Ljava/util/HashMap$Node;" } : Jvm.MethodName)) ∈ lw_all := lw_g (lw_at lw_m7 37 rfl) rfl
theorem q1586 : (Jvm.Cond.code ({ cls := "java/util/HashMap$TreeNode", name := "untreeify", desc := "(Ljava/util/HashMap;)Ljava/util/HashMap$Node;" } : Jvm.MethodName) prog_61_method_8_code (6 : Nat) (Option.some (Jvm.ClassFile.FieldType.object "java/util/HashMap$Node"))) ∈ lw_all := lw_g (lw_at lw_m7 38 rfl) rfl
theorem q1587 : (Jvm.Cond.methodLink "java/util/HashMap$TreeNode" (108 : Nat) ({ cls := "java/util/HashMap", name := "replacementNode", desc := "(Ljava/util/HashMap$Node;Ljava/util/HashMap$Node;)Ljava/util/HashMap$Node;" } : Jvm.MethodName)) ∈ lw_all := lw_g (lw_at lw_m7 39 rfl) rfl
theorem q1597 : (Jvm.Cond.fieldLink "java/util/HashMap$TreeNode" (15 : Nat) "java/util/HashMap$TreeNode" "hash" "I") ∈ lw_all := lw_g (lw_at lw_m7 49 rfl) rfl
theorem q1598 : (Jvm.Cond.sameField "java/util/HashMap$TreeNode" "java/util/HashMap$Node" "hash" "I") ∈ lw_all := lw_g (lw_at lw_m7 50 rfl) rfl
theorem q1601 : (Jvm.Cond.fieldLink "java/util/HashMap$TreeNode" (45 : Nat) "java/util/HashMap$TreeNode" "key" "Ljava/lang/Object;") ∈ lw_all := lw_g (lw_at lw_m7 53 rfl) rfl
theorem q1602 : (Jvm.Cond.sameField "java/util/HashMap$TreeNode" "java/util/HashMap$Node" "key" "Ljava/lang/Object;") ∈ lw_all := lw_g (lw_at lw_m7 54 rfl) rfl
theorem q1607 : (Jvm.Cond.fieldLink "java/util/HashMap$TreeNode" (22 : Nat) "java/util/HashMap$TreeNode" "next" "Ljava/util/HashMap$Node;") ∈ lw_all := lw_g (lw_at lw_m7 59 rfl) rfl
theorem q1608 : (Jvm.Cond.sameField "java/util/HashMap$TreeNode" "java/util/HashMap$Node" "next" "Ljava/util/HashMap$Node;") ∈ lw_all := lw_g (lw_at lw_m7 60 rfl) rfl
theorem q1609 : (Jvm.Cond.fieldLink "java/util/HashMap$TreeNode" (112 : Nat) "java/util/HashMap$Node" "next" "Ljava/util/HashMap$Node;") ∈ lw_all := lw_g (lw_at lw_m7 61 rfl) rfl
theorem q1621 : (Jvm.Cond.methodLink "java/util/HashMap$TreeNode" (126 : Nat) ({ cls := "java/util/HashMap$TreeNode", name := "treeify", desc := "([Ljava/util/HashMap$Node;)V" } : Jvm.MethodName)) ∈ lw_all := lw_g (lw_at lw_m7 73 rfl) rfl
theorem q1622 : (Jvm.Cond.instanceMethod ({ cls := "java/util/HashMap$TreeNode", name := "treeify", desc := "([Ljava/util/HashMap$Node;)V" } : Jvm.MethodName)) ∈ lw_all := lw_g (lw_at lw_m7 74 rfl) rfl
theorem q1623 : (Jvm.Cond.selects "java/util/HashMap$TreeNode" ({ cls := "java/util/HashMap$TreeNode", name := "treeify", desc := "([Ljava/util/HashMap$Node;)V" } : Jvm.MethodName) ({ cls := "java/util/HashMap$TreeNode", name := "treeify", desc := "([Ljava/util/HashMap$Node;)V" } : Jvm.MethodName)) ∈ lw_all := lw_g (lw_at lw_m7 75 rfl) rfl
theorem q1624 : (Jvm.Cond.code ({ cls := "java/util/HashMap$TreeNode", name := "treeify", desc := "([Ljava/util/HashMap$Node;)V" } : Jvm.MethodName) prog_61_method_7_code (13 : Nat) (Option.none : Option Jvm.ClassFile.FieldType)) ∈ lw_all := lw_g (lw_at lw_m7 76 rfl) rfl
theorem q1625 : (Jvm.Cond.methodLink "java/util/HashMap$TreeNode" (100 : Nat) ({ cls := "java/util/HashMap$TreeNode", name := "balanceInsertion", desc := "(Ljava/util/HashMap$TreeNode;Ljava/util/HashMap$TreeNode;)Ljava/util/HashMap$TreeNode;" } : Jvm.MethodName)) ∈ lw_all := lw_g (lw_at lw_m7 77 rfl) rfl
theorem q1626 : (Jvm.Cond.static ({ cls := "java/util/HashMap$TreeNode", name := "balanceInsertion", desc := "(Ljava/util/HashMap$TreeNode;Ljava/util/HashMap$TreeNode;)Ljava/util/HashMap$TreeNode;" } : Jvm.MethodName)) ∈ lw_all := lw_g (lw_at lw_m7 78 rfl) rfl
theorem q1627 : (Jvm.Cond.code ({ cls := "java/util/HashMap$TreeNode", name := "balanceInsertion", desc := "(Ljava/util/HashMap$TreeNode;Ljava/util/HashMap$TreeNode;)Ljava/util/HashMap$TreeNode;" } : Jvm.MethodName) prog_61_method_14_code (6 : Nat) (Option.some (Jvm.ClassFile.FieldType.object "java/util/HashMap$TreeNode"))) ∈ lw_all := lw_g (lw_at lw_m7 79 rfl) rfl
theorem q1628 : (Jvm.Cond.methodLink "java/util/HashMap$TreeNode" (130 : Nat) ({ cls := "java/util/HashMap$TreeNode", name := "rotateLeft", desc := "(Ljava/util/HashMap$TreeNode;Ljava/util/HashMap$TreeNode;)Ljava/util/HashMap$TreeNode;" } : Jvm.MethodName)) ∈ lw_all := lw_g (lw_at lw_m7 80 rfl) rfl
theorem q1629 : (Jvm.Cond.static ({ cls := "java/util/HashMap$TreeNode", name := "rotateLeft", desc := "(Ljava/util/HashMap$TreeNode;Ljava/util/HashMap$TreeNode;)Ljava/util/HashMap$TreeNode;" } : Jvm.MethodName)) ∈ lw_all := lw_g (lw_at lw_m7 81 rfl) rfl
theorem q1630 : (Jvm.Cond.code ({ cls := "java/util/HashMap$TreeNode", name := "rotateLeft", desc := "(Ljava/util/HashMap$TreeNode;Ljava/util/HashMap$TreeNode;)Ljava/util/HashMap$TreeNode;" } : Jvm.MethodName) prog_61_method_12_code (5 : Nat) (Option.some (Jvm.ClassFile.FieldType.object "java/util/HashMap$TreeNode"))) ∈ lw_all := lw_g (lw_at lw_m7 82 rfl) rfl
theorem q1631 : (Jvm.Cond.methodLink "java/util/HashMap$TreeNode" (133 : Nat) ({ cls := "java/util/HashMap$TreeNode", name := "rotateRight", desc := "(Ljava/util/HashMap$TreeNode;Ljava/util/HashMap$TreeNode;)Ljava/util/HashMap$TreeNode;" } : Jvm.MethodName)) ∈ lw_all := lw_g (lw_at lw_m7 83 rfl) rfl
theorem q1632 : (Jvm.Cond.static ({ cls := "java/util/HashMap$TreeNode", name := "rotateRight", desc := "(Ljava/util/HashMap$TreeNode;Ljava/util/HashMap$TreeNode;)Ljava/util/HashMap$TreeNode;" } : Jvm.MethodName)) ∈ lw_all := lw_g (lw_at lw_m7 84 rfl) rfl
theorem q1633 : (Jvm.Cond.code ({ cls := "java/util/HashMap$TreeNode", name := "rotateRight", desc := "(Ljava/util/HashMap$TreeNode;Ljava/util/HashMap$TreeNode;)Ljava/util/HashMap$TreeNode;" } : Jvm.MethodName) prog_61_method_13_code (5 : Nat) (Option.some (Jvm.ClassFile.FieldType.object "java/util/HashMap$TreeNode"))) ∈ lw_all := lw_g (lw_at lw_m7 85 rfl) rfl
theorem q1634 : (Jvm.Cond.methodLink "java/util/HashMap$TreeNode" (104 : Nat) ({ cls := "java/util/HashMap$TreeNode", name := "moveRootToFront", desc := "([Ljava/util/HashMap$Node;Ljava/util/HashMap$TreeNode;)V" } : Jvm.MethodName)) ∈ lw_all := lw_g (lw_at lw_m7 86 rfl) rfl
theorem q1635 : (Jvm.Cond.static ({ cls := "java/util/HashMap$TreeNode", name := "moveRootToFront", desc := "([Ljava/util/HashMap$Node;Ljava/util/HashMap$TreeNode;)V" } : Jvm.MethodName)) ∈ lw_all := lw_g (lw_at lw_m7 87 rfl) rfl
theorem q1636 : (Jvm.Cond.code ({ cls := "java/util/HashMap$TreeNode", name := "moveRootToFront", desc := "([Ljava/util/HashMap$Node;Ljava/util/HashMap$TreeNode;)V" } : Jvm.MethodName) prog_61_method_3_code (7 : Nat) (Option.none : Option Jvm.ClassFile.FieldType)) ∈ lw_all := lw_g (lw_at lw_m7 88 rfl) rfl
theorem q1637 : (Jvm.Cond.fieldLink "java/util/HashMap$TreeNode" (26 : Nat) "java/util/HashMap$TreeNode" "$assertionsDisabled" "Z") ∈ lw_all := lw_g (lw_at lw_m7 89 rfl) rfl
theorem q1638 : (Jvm.Cond.laysStatic "java/util/HashMap$TreeNode" "$assertionsDisabled" "Z") ∈ lw_tbl := lw_at lw_m7 90 rfl
theorem q1644 : (Jvm.Cond.instanceMethod ({ cls := "java/util/HashMap$TreeNode", name := "putTreeVal", desc := "(Ljava/util/HashMap;[Ljava/util/HashMap$Node;ILjava/lang/Object;Ljava/lang/Object;)Ljava/util/HashMap$TreeNode;" } : Jvm.MethodName)) ∈ lw_all := lw_g (lw_at lw_m7 96 rfl) rfl
theorem q1645 : (Jvm.Cond.selects "java/util/HashMap$TreeNode" ({ cls := "java/util/HashMap$TreeNode", name := "putTreeVal", desc := "(Ljava/util/HashMap;[Ljava/util/HashMap$Node;ILjava/lang/Object;Ljava/lang/Object;)Ljava/util/HashMap$TreeNode;" } : Jvm.MethodName) ({ cls := "java/util/HashMap$TreeNode", name := "putTreeVal", desc := "(Ljava/util/HashMap;[Ljava/util/HashMap$Node;ILjava/lang/Object;Ljava/lang/Object;)Ljava/util/HashMap$TreeNode;" } : Jvm.MethodName)) ∈ lw_all := lw_g (lw_at lw_m7 97 rfl) rfl
theorem q1646 : (Jvm.Cond.code ({ cls := "java/util/HashMap$TreeNode", name := "putTreeVal", desc := "(Ljava/util/HashMap;[Ljava/util/HashMap$Node;ILjava/lang/Object;Ljava/lang/Object;)Ljava/util/HashMap$TreeNode;" } : Jvm.MethodName) prog_61_method_9_code (16 : Nat) (Option.some (Jvm.ClassFile.FieldType.object "java/util/HashMap$TreeNode"))) ∈ lw_all := lw_g (lw_at lw_m7 98 rfl) rfl
theorem q1647 : (Jvm.Cond.methodLink "java/util/HashMap$TreeNode" (115 : Nat) ({ cls := "java/util/HashMap", name := "newTreeNode", desc := "(ILjava/lang/Object;Ljava/lang/Object;Ljava/util/HashMap$Node;)Ljava/util/HashMap$TreeNode;" } : Jvm.MethodName)) ∈ lw_all := lw_g (lw_at lw_m7 99 rfl) rfl
theorem q1651 : (Jvm.Cond.instantiable "java/util/HashMap$TreeNode" (11 : Nat)) ∈ lw_all := lw_g (lw_at lw_m7 103 rfl) rfl
theorem q1653 : (Jvm.Cond.instanceMethod ({ cls := "java/util/HashMap$TreeNode", name := "<init>", desc := "(ILjava/lang/Object;Ljava/lang/Object;Ljava/util/HashMap$Node;)V" } : Jvm.MethodName)) ∈ lw_all := lw_g (lw_at lw_m7 105 rfl) rfl
theorem q1654 : (Jvm.Cond.code ({ cls := "java/util/HashMap$TreeNode", name := "<init>", desc := "(ILjava/lang/Object;Ljava/lang/Object;Ljava/util/HashMap$Node;)V" } : Jvm.MethodName) prog_61_method_1_code (5 : Nat) (Option.none : Option Jvm.ClassFile.FieldType)) ∈ lw_all := lw_g (lw_at lw_m7 106 rfl) rfl
theorem q1655 : (Jvm.Cond.methodLink "java/util/HashMap$TreeNode" (3 : Nat) ({ cls := "java/util/LinkedHashMap$Entry", name := "<init>", desc := "(ILjava/lang/Object;Ljava/lang/Object;Ljava/util/HashMap$Node;)V" } : Jvm.MethodName)) ∈ lw_all := lw_g (lw_at lw_m7 107 rfl) rfl
theorem q1659 : (Jvm.Cond.fieldLink "java/util/HashMap$TreeNode" (9 : Nat) "java/util/HashMap$TreeNode" "parent" "Ljava/util/HashMap$TreeNode;") ∈ lw_all := lw_g (lw_at lw_m7 111 rfl) rfl
theorem q1660 : (Jvm.Cond.fieldLink "java/util/HashMap$TreeNode" (39 : Nat) "java/util/HashMap$TreeNode" "left" "Ljava/util/HashMap$TreeNode;") ∈ lw_all := lw_g (lw_at lw_m7 112 rfl) rfl
theorem q1661 : (Jvm.Cond.fieldLink "java/util/HashMap$TreeNode" (42 : Nat) "java/util/HashMap$TreeNode" "right" "Ljava/util/HashMap$TreeNode;") ∈ lw_all := lw_g (lw_at lw_m7 113 rfl) rfl
theorem q1662 : (Jvm.Cond.fieldLink "java/util/HashMap$TreeNode" (19 : Nat) "java/util/HashMap$TreeNode" "prev" "Ljava/util/HashMap$TreeNode;") ∈ lw_all := lw_g (lw_at lw_m7 114 rfl) rfl
theorem q1664 : (Jvm.Cond.fieldLink "java/util/HashMap$TreeNode" (93 : Nat) "java/util/HashMap$TreeNode" "red" "Z") ∈ lw_all := lw_g (lw_at lw_m7 116 rfl) rfl
theorem q1665 : (Jvm.Cond.lays "java/util/HashMap$TreeNode" "java/util/HashMap$TreeNode" "parent" "Ljava/util/HashMap$TreeNode;") ∈ lw_all := lw_g (lw_at lw_m7 117 rfl) rfl
theorem q1666 : (Jvm.Cond.soleField "java/util/HashMap$TreeNode" "parent") ∈ lw_all := lw_g (lw_at lw_m7 118 rfl) rfl
theorem q1667 : (Jvm.Cond.lays "java/util/HashMap$TreeNode" "java/util/HashMap$TreeNode" "left" "Ljava/util/HashMap$TreeNode;") ∈ lw_all := lw_g (lw_at lw_m7 119 rfl) rfl
theorem q1668 : (Jvm.Cond.soleField "java/util/HashMap$TreeNode" "left") ∈ lw_all := lw_g (lw_at lw_m7 120 rfl) rfl
theorem q1669 : (Jvm.Cond.lays "java/util/HashMap$TreeNode" "java/util/HashMap$TreeNode" "right" "Ljava/util/HashMap$TreeNode;") ∈ lw_all := lw_g (lw_at lw_m7 121 rfl) rfl
theorem q1670 : (Jvm.Cond.soleField "java/util/HashMap$TreeNode" "right") ∈ lw_all := lw_g (lw_at lw_m7 122 rfl) rfl
theorem q1671 : (Jvm.Cond.lays "java/util/HashMap$TreeNode" "java/util/HashMap$TreeNode" "prev" "Ljava/util/HashMap$TreeNode;") ∈ lw_all := lw_g (lw_at lw_m7 123 rfl) rfl
theorem q1672 : (Jvm.Cond.soleField "java/util/HashMap$TreeNode" "prev") ∈ lw_all := lw_g (lw_at lw_m7 124 rfl) rfl
theorem q1673 : (Jvm.Cond.lays "java/util/HashMap$TreeNode" "java/util/HashMap$TreeNode" "red" "Z") ∈ lw_all := lw_g (lw_at lw_m7 125 rfl) rfl
theorem q1674 : (Jvm.Cond.soleField "java/util/HashMap$TreeNode" "red") ∈ lw_all := lw_g (lw_at lw_m7 126 rfl) rfl
theorem q1675 : (Jvm.Cond.lays "java/util/HashMap$TreeNode" "java/util/LinkedHashMap$Entry" "before" "Ljava/util/LinkedHashMap$Entry;") ∈ lw_all := lw_g (lw_at lw_m7 127 rfl) rfl
theorem q1677 : (Jvm.Cond.lays "java/util/HashMap$TreeNode" "java/util/LinkedHashMap$Entry" "after" "Ljava/util/LinkedHashMap$Entry;") ∈ lw_all := lw_g (lw_at lw_m7 129 rfl) rfl
theorem q1679 : (Jvm.Cond.laysFinal "java/util/HashMap$TreeNode" "java/util/HashMap$Node" "hash" "I") ∈ lw_all := lw_g (lw_at lw_m7 131 rfl) rfl
theorem q1680 : (Jvm.Cond.laysFinal "java/util/HashMap$TreeNode" "java/util/HashMap$Node" "key" "Ljava/lang/Object;") ∈ lw_all := lw_g (lw_at lw_m7 132 rfl) rfl
theorem q1681 : (Jvm.Cond.lays "java/util/HashMap$TreeNode" "java/util/HashMap$Node" "value" "Ljava/lang/Object;") ∈ lw_all := lw_g (lw_at lw_m7 133 rfl) rfl
theorem q1682 : (Jvm.Cond.lays "java/util/HashMap$TreeNode" "java/util/HashMap$Node" "next" "Ljava/util/HashMap$Node;") ∈ lw_all := lw_g (lw_at lw_m7 134 rfl) rfl
theorem q1683 : (Jvm.Cond.superclass "java/util/HashMap$TreeNode" "java/util/LinkedHashMap$Entry") ∈ lw_all := lw_g (lw_at lw_m7 135 rfl) rfl
theorem q3266 : (Jvm.Cond.castable "java/util/HashMap$TreeNode" "java/lang/Object") ∈ lw_tbl := lw_at lw_m14 38 rfl
theorem q3280 : (Jvm.Cond.castable "java/util/HashMap$TreeNode" "java/util/HashMap$Node") ∈ lw_tbl := lw_at lw_m14 52 rfl
theorem in_J26 : ∀ w ∈ wsJ260, w ∈ lw_all := lw_in wsJ260 [1675, 1677, 1679, 1680, 1681, 1682, 1665, 1667, 1669, 1671, 1673] (by decide +kernel) (by decide +kernel)
/-! java/util/NoSuchElementException -/
set_option maxRecDepth 100000
def RJ27 : String := "java/util/NoSuchElementException"
def TJ27 : u_T := fun k => match k with
  | 0 => ("java/lang/Throwable", "cause", "Ljava/lang/Throwable;", false)
  | 1 => ("java/lang/Throwable", "stackTrace", "[Ljava/lang/StackTraceElement;", false)
  | 2 => ("java/lang/Throwable", "suppressedExceptions", "Ljava/util/List;", false)
  | 3 => ("java/lang/Throwable", "detailMessage", "Ljava/lang/String;", false)
  | 4 => ("java/lang/Throwable", "backtrace", "Ljava/lang/Object;", false)
  | _ => ("java/lang/Throwable", "depth", "I", false)
def tyJ27 : Nat → FieldType := fun k => match k with
  | 0 => .object "java/lang/Throwable"
  | 1 => .array (.object "java/lang/StackTraceElement")
  | 2 => .object "java/util/List"
  | 3 => .object "java/lang/String"
  | 4 => .object "java/lang/Object"
  | _ => .int
abbrev wsJ270 : List Cond := u_ws RJ27 TJ27 6
theorem nmJ27 : ∀ a, a < 6 → ∀ b, b < 6 → a ≠ b → (TJ27 a).2.1 ≠ (TJ27 b).2.1 := by decide +kernel
theorem tyJ27_ok : ∀ k, k < 6 → parseFieldDescriptor (TJ27 k).2.2.1 = some (tyJ27 k) := by decide +kernel
abbrev cJ27_init : ByteArray := prog_66_method_1_code
def yJ27_init : MethodName := ⟨RJ27, "<init>", "()V"⟩
theorem dJ27_init_0 : decode cJ27_init 0 = .ok (.aload_n 0, 1) := by decide +kernel
theorem dJ27_init_1 : decode cJ27_init 1 = .ok (.invokespecial 1, 3) := by decide +kernel
theorem dJ27_init_4 : decode cJ27_init 4 = .ok (.return_, 1) := by decide +kernel
theorem q164 : (Jvm.Cond.initialized "java/util/NoSuchElementException") ∈ lw_all := lw_g (lw_at lw_m1 56 rfl) rfl
theorem q210 : (Jvm.Cond.selects "java/util/NoSuchElementException" ({ cls := "java/lang/Throwable", name := "fillInStackTrace", desc := "()Ljava/lang/Throwable;" } : Jvm.MethodName) ({ cls := "java/lang/Throwable", name := "fillInStackTrace", desc := "()Ljava/lang/Throwable;" } : Jvm.MethodName)) ∈ lw_all := lw_g (lw_at lw_m1 102 rfl) rfl
theorem q1135 : (Jvm.Cond.selects "java/util/NoSuchElementException" ({ cls := "java/lang/Object", name := "getClass", desc := "()Ljava/lang/Class;" } : Jvm.MethodName) ({ cls := "java/lang/Object", name := "getClass", desc := "()Ljava/lang/Class;" } : Jvm.MethodName)) ∈ lw_all := lw_g (lw_at lw_m5 67 rfl) rfl
theorem q2416 : (Jvm.Cond.instantiable "java/util/NoSuchElementException" (6 : Nat)) ∈ lw_all := lw_g (lw_at lw_m10 148 rfl) rfl
theorem q2417 : (Jvm.Cond.castable "java/util/NoSuchElementException" "java/util/NoSuchElementException") ∈ lw_tbl := lw_at lw_m10 149 rfl
theorem q2418 : (Jvm.Cond.selects "java/util/NoSuchElementException" ({ cls := "java/lang/Throwable", name := "fillInStackTrace", desc := "(I)Ljava/lang/Throwable;" } : Jvm.MethodName) ({ cls := "java/lang/Throwable", name := "fillInStackTrace", desc := "(I)Ljava/lang/Throwable;" } : Jvm.MethodName)) ∈ lw_all := lw_g (lw_at lw_m10 150 rfl) rfl
theorem q2419 : (Jvm.Cond.lays "java/util/NoSuchElementException" "java/lang/Throwable" "cause" "Ljava/lang/Throwable;") ∈ lw_all := lw_g (lw_at lw_m10 151 rfl) rfl
theorem q2420 : (Jvm.Cond.lays "java/util/NoSuchElementException" "java/lang/Throwable" "stackTrace" "[Ljava/lang/StackTraceElement;") ∈ lw_all := lw_g (lw_at lw_m10 152 rfl) rfl
theorem q2421 : (Jvm.Cond.lays "java/util/NoSuchElementException" "java/lang/Throwable" "suppressedExceptions" "Ljava/util/List;") ∈ lw_all := lw_g (lw_at lw_m10 153 rfl) rfl
theorem q2422 : (Jvm.Cond.lays "java/util/NoSuchElementException" "java/lang/Throwable" "detailMessage" "Ljava/lang/String;") ∈ lw_all := lw_g (lw_at lw_m10 154 rfl) rfl
theorem q2423 : (Jvm.Cond.lays "java/util/NoSuchElementException" "java/lang/Throwable" "backtrace" "Ljava/lang/Object;") ∈ lw_all := lw_g (lw_at lw_m10 155 rfl) rfl
theorem q2425 : (Jvm.Cond.instanceMethod ({ cls := "java/util/NoSuchElementException", name := "<init>", desc := "()V" } : Jvm.MethodName)) ∈ lw_all := lw_g (lw_at lw_m10 157 rfl) rfl
theorem q2426 : (Jvm.Cond.code ({ cls := "java/util/NoSuchElementException", name := "<init>", desc := "()V" } : Jvm.MethodName) prog_66_method_1_code (1 : Nat) (Option.none : Option Jvm.ClassFile.FieldType)) ∈ lw_all := lw_g (lw_at lw_m10 158 rfl) rfl
theorem q2427 : (Jvm.Cond.methodLink "java/util/NoSuchElementException" (1 : Nat) ({ cls := "java/lang/RuntimeException", name := "<init>", desc := "()V" } : Jvm.MethodName)) ∈ lw_all := lw_g (lw_at lw_m10 159 rfl) rfl
theorem q2428 : (Jvm.Cond.lays "java/util/NoSuchElementException" "java/lang/Throwable" "depth" "I") ∈ lw_all := lw_g (lw_at lw_m10 160 rfl) rfl
theorem q2429 : (Jvm.Cond.superclass "java/util/NoSuchElementException" "java/lang/RuntimeException") ∈ lw_all := lw_g (lw_at lw_m10 161 rfl) rfl
theorem q3278 : (Jvm.Cond.castable "java/util/NoSuchElementException" "java/lang/Object") ∈ lw_tbl := lw_at lw_m14 50 rfl
theorem in_J27 : ∀ w ∈ wsJ270, w ∈ lw_all := lw_in wsJ270 [2419, 2420, 2421, 2422, 2423, 2428] (by decide +kernel) (by decide +kernel)
/-! java/lang/Object -/
set_option maxRecDepth 100000
def RJ28 : String := "java/lang/Object"
abbrev cJ28_init : ByteArray := object_method_1_code
def yJ28_init : MethodName := ⟨RJ28, "<init>", "()V"⟩
theorem dJ28_init_0 : decode cJ28_init 0 = .ok (.return_, 1) := by decide +kernel
abbrev cJ28_equals : ByteArray := object_method_4_code
def yJ28_equals : MethodName := ⟨RJ28, "equals", "(Ljava/lang/Object;)Z"⟩
def dkwJ28_equals_0 : List UInt8 := [42, 43, 166, 0, 7, 4, 167, 0, 4, 3, 172]
abbrev dktJ28_equals_0 : List UInt8 := dkwJ28_equals_0 ++ []
theorem dksJ28_equals_0 : cJ28_equals.data.toList.drop 0 = dktJ28_equals_0 := by decide +kernel
theorem dJ28_equals_0 : decode cJ28_equals 0 = .ok (.aload_n 0, 1) := dk_42 (dk_at dksJ28_equals_0 0 rfl rfl)
theorem dJ28_equals_1 : decode cJ28_equals 1 = .ok (.aload_n 1, 1) := dk_43 (dk_at dksJ28_equals_0 1 rfl rfl)
theorem dJ28_equals_2 : decode cJ28_equals 2 = .ok (.if_acmp .ne 7, 3) := dk_166 0 7 (dk_at dksJ28_equals_0 2 rfl rfl)
theorem dJ28_equals_5 : decode cJ28_equals 5 = .ok (.iconst 1, 1) := dk_4 (dk_at dksJ28_equals_0 5 rfl rfl)
theorem dJ28_equals_6 : decode cJ28_equals 6 = .ok (.goto 4, 3) := dk_167 0 4 (dk_at dksJ28_equals_0 6 rfl rfl)
theorem dJ28_equals_9 : decode cJ28_equals 9 = .ok (.iconst 0, 1) := dk_3 (dk_at dksJ28_equals_0 9 rfl rfl)
theorem dJ28_equals_10 : decode cJ28_equals 10 = .ok (.ireturn, 1) := dk_172 (dk_at dksJ28_equals_0 10 rfl rfl)
theorem q171 : (Jvm.Cond.instanceMethod ({ cls := "java/lang/Object", name := "<init>", desc := "()V" } : Jvm.MethodName)) ∈ lw_all := lw_g (lw_at lw_m1 63 rfl) rfl
theorem q172 : (Jvm.Cond.code ({ cls := "java/lang/Object", name := "<init>", desc := "()V" } : Jvm.MethodName) object_method_1_code (1 : Nat) (Option.none : Option Jvm.ClassFile.FieldType)) ∈ lw_all := lw_g (lw_at lw_m1 64 rfl) rfl
theorem q607 : (Jvm.Cond.native ({ cls := "java/lang/Object", name := "clone", desc := "()Ljava/lang/Object;" } : Jvm.MethodName)) ∈ lw_all := lw_g (lw_at lw_m3 19 rfl) rfl
theorem q608 : (Jvm.Cond.instanceMethod ({ cls := "java/lang/Object", name := "clone", desc := "()Ljava/lang/Object;" } : Jvm.MethodName)) ∈ lw_all := lw_g (lw_at lw_m3 20 rfl) rfl
theorem q1007 : (Jvm.Cond.declares ({ cls := "java/lang/Object", name := "hashCode", desc := "()I" } : Jvm.MethodName)) ∈ lw_tbl := lw_at lw_m4 179 rfl
theorem q1009 : (Jvm.Cond.instanceMethod ({ cls := "java/lang/Object", name := "hashCode", desc := "()I" } : Jvm.MethodName)) ∈ lw_all := lw_g (lw_at lw_m4 181 rfl) rfl
theorem q1010 : (Jvm.Cond.sameMethod "java/lang/Object" "java/lang/Object" "hashCode" "()I") ∈ lw_all := lw_g (lw_at lw_m4 182 rfl) rfl
theorem q1045 : (Jvm.Cond.native ({ cls := "java/lang/Object", name := "hashCode", desc := "()I" } : Jvm.MethodName)) ∈ lw_all := lw_g (lw_at lw_m4 217 rfl) rfl
theorem q1046 : (Jvm.Cond.declares ({ cls := "java/lang/Object", name := "equals", desc := "(Ljava/lang/Object;)Z" } : Jvm.MethodName)) ∈ lw_tbl := lw_at lw_m4 218 rfl
theorem q1048 : (Jvm.Cond.instanceMethod ({ cls := "java/lang/Object", name := "equals", desc := "(Ljava/lang/Object;)Z" } : Jvm.MethodName)) ∈ lw_all := lw_g (lw_at lw_m4 220 rfl) rfl
theorem q1049 : (Jvm.Cond.sameMethod "java/lang/Object" "java/lang/Object" "equals" "(Ljava/lang/Object;)Z") ∈ lw_all := lw_g (lw_at lw_m4 221 rfl) rfl
theorem q1081 : (Jvm.Cond.code ({ cls := "java/lang/Object", name := "equals", desc := "(Ljava/lang/Object;)Z" } : Jvm.MethodName) object_method_4_code (2 : Nat) (Option.some Jvm.ClassFile.FieldType.boolean)) ∈ lw_all := lw_g (lw_at lw_m5 13 rfl) rfl
theorem q1101 : (Jvm.Cond.instanceMethod ({ cls := "java/lang/Object", name := "getClass", desc := "()Ljava/lang/Class;" } : Jvm.MethodName)) ∈ lw_all := lw_g (lw_at lw_m5 33 rfl) rfl
theorem q1102 : (Jvm.Cond.sameMethod "java/lang/Object" "java/lang/Object" "getClass" "()Ljava/lang/Class;") ∈ lw_all := lw_g (lw_at lw_m5 34 rfl) rfl
theorem q1137 : (Jvm.Cond.native ({ cls := "java/lang/Object", name := "getClass", desc := "()Ljava/lang/Class;" } : Jvm.MethodName)) ∈ lw_all := lw_g (lw_at lw_m5 69 rfl) rfl
theorem q3225 : (Jvm.Cond.initialized "java/lang/Object") ∈ lw_all := lw_g (lw_at lw_m13 237 rfl) rfl
theorem q3283 : (Jvm.Cond.declares ({ cls := "java/lang/Object", name := "getClass", desc := "()Ljava/lang/Class;" } : Jvm.MethodName)) ∈ lw_tbl := lw_at lw_m14 55 rfl
theorem q2233 : (Jvm.Cond.interfaceMethod "StreamNodes$Memory" "StreamNodes$Memory" "places" "()I") ∈ lw_tbl := lw_at lw_m9 205 rfl
set_option maxRecDepth 100000
theorem q2234 : (Jvm.Cond.declares ({ cls := "StreamNodes$Memory", name := "places", desc := "()I" } : Jvm.MethodName)) ∈ lw_tbl := lw_at lw_m9 206 rfl
theorem q2509 : (Jvm.Cond.interfaceMethod "StreamNodes$Memory" "StreamNodes$Memory" "next" "(LStreamNodes$Instance;I[I)V") ∈ lw_tbl := lw_at lw_m11 1 rfl
theorem q2510 : (Jvm.Cond.declares ({ cls := "StreamNodes$Memory", name := "next", desc := "(LStreamNodes$Instance;I[I)V" } : Jvm.MethodName)) ∈ lw_tbl := lw_at lw_m11 2 rfl
theorem q126 : (Jvm.Cond.initialized "StreamNodes$Sign") ∈ lw_all := lw_g (lw_at lw_m1 18 rfl) rfl
set_option maxRecDepth 100000
theorem q530 : (Jvm.Cond.laysStatic "StreamNodes$Sign" "END" "LStreamNodes$Sign;") ∈ lw_tbl := lw_at lw_m2 182 rfl
theorem q672 : (Jvm.Cond.laysStatic "StreamNodes$Sign" "BAD" "LStreamNodes$Sign;") ∈ lw_tbl := lw_at lw_m3 84 rfl
theorem q674 : (Jvm.Cond.laysStatic "StreamNodes$Sign" "WORD" "LStreamNodes$Sign;") ∈ lw_tbl := lw_at lw_m3 86 rfl
theorem q841 : (Jvm.Cond.laysStatic "StreamNodes$Sign" "NUMBER" "LStreamNodes$Sign;") ∈ lw_tbl := lw_at lw_m4 13 rfl
theorem q847 : (Jvm.Cond.laysStatic "StreamNodes$Sign" "OPEN" "LStreamNodes$Sign;") ∈ lw_tbl := lw_at lw_m4 19 rfl
theorem q849 : (Jvm.Cond.laysStatic "StreamNodes$Sign" "CLOSE" "LStreamNodes$Sign;") ∈ lw_tbl := lw_at lw_m4 21 rfl
theorem q851 : (Jvm.Cond.laysStatic "StreamNodes$Sign" "COLON" "LStreamNodes$Sign;") ∈ lw_tbl := lw_at lw_m4 23 rfl
theorem q853 : (Jvm.Cond.laysStatic "StreamNodes$Sign" "SEMI" "LStreamNodes$Sign;") ∈ lw_tbl := lw_at lw_m4 25 rfl
theorem q855 : (Jvm.Cond.laysStatic "StreamNodes$Sign" "COMMA" "LStreamNodes$Sign;") ∈ lw_tbl := lw_at lw_m4 27 rfl
theorem q857 : (Jvm.Cond.laysStatic "StreamNodes$Sign" "PLUS" "LStreamNodes$Sign;") ∈ lw_tbl := lw_at lw_m4 29 rfl
theorem q859 : (Jvm.Cond.laysStatic "StreamNodes$Sign" "TIMES" "LStreamNodes$Sign;") ∈ lw_tbl := lw_at lw_m4 31 rfl
theorem q861 : (Jvm.Cond.laysStatic "StreamNodes$Sign" "ARROW" "LStreamNodes$Sign;") ∈ lw_tbl := lw_at lw_m4 33 rfl
theorem q863 : (Jvm.Cond.laysStatic "StreamNodes$Sign" "MINUS" "LStreamNodes$Sign;") ∈ lw_tbl := lw_at lw_m4 35 rfl
theorem q865 : (Jvm.Cond.laysStatic "StreamNodes$Sign" "IMPLIES" "LStreamNodes$Sign;") ∈ lw_tbl := lw_at lw_m4 37 rfl
theorem q867 : (Jvm.Cond.laysStatic "StreamNodes$Sign" "EQUAL" "LStreamNodes$Sign;") ∈ lw_tbl := lw_at lw_m4 39 rfl
theorem q869 : (Jvm.Cond.laysStatic "StreamNodes$Sign" "OTHER" "LStreamNodes$Sign;") ∈ lw_tbl := lw_at lw_m4 41 rfl
theorem q871 : (Jvm.Cond.laysStatic "StreamNodes$Sign" "ATMOST" "LStreamNodes$Sign;") ∈ lw_tbl := lw_at lw_m4 43 rfl
theorem q873 : (Jvm.Cond.laysStatic "StreamNodes$Sign" "LESS" "LStreamNodes$Sign;") ∈ lw_tbl := lw_at lw_m4 45 rfl
theorem q875 : (Jvm.Cond.laysStatic "StreamNodes$Sign" "ATLEAST" "LStreamNodes$Sign;") ∈ lw_tbl := lw_at lw_m4 47 rfl
theorem q877 : (Jvm.Cond.laysStatic "StreamNodes$Sign" "MORE" "LStreamNodes$Sign;") ∈ lw_tbl := lw_at lw_m4 49 rfl
theorem q1027 : (Jvm.Cond.selects "StreamNodes$Sign" ({ cls := "java/lang/Object", name := "hashCode", desc := "()I" } : Jvm.MethodName) ({ cls := "java/lang/Enum", name := "hashCode", desc := "()I" } : Jvm.MethodName)) ∈ lw_all := lw_g (lw_at lw_m4 199 rfl) rfl
theorem q1066 : (Jvm.Cond.selects "StreamNodes$Sign" ({ cls := "java/lang/Object", name := "equals", desc := "(Ljava/lang/Object;)Z" } : Jvm.MethodName) ({ cls := "java/lang/Enum", name := "equals", desc := "(Ljava/lang/Object;)Z" } : Jvm.MethodName)) ∈ lw_all := lw_g (lw_at lw_m4 238 rfl) rfl
theorem q1119 : (Jvm.Cond.selects "StreamNodes$Sign" ({ cls := "java/lang/Object", name := "getClass", desc := "()Ljava/lang/Class;" } : Jvm.MethodName) ({ cls := "java/lang/Object", name := "getClass", desc := "()Ljava/lang/Class;" } : Jvm.MethodName)) ∈ lw_all := lw_g (lw_at lw_m5 51 rfl) rfl
theorem q1146 : (Jvm.Cond.castable "StreamNodes$Sign" "java/lang/Comparable") ∈ lw_tbl := lw_at lw_m5 78 rfl
theorem q1147 : (Jvm.Cond.selects "StreamNodes$Sign" ({ cls := "java/lang/Comparable", name := "compareTo", desc := "(Ljava/lang/Object;)I" } : Jvm.MethodName) ({ cls := "java/lang/Enum", name := "compareTo", desc := "(Ljava/lang/Object;)I" } : Jvm.MethodName)) ∈ lw_all := lw_g (lw_at lw_m5 79 rfl) rfl
theorem q1148 : (Jvm.Cond.unhidden "StreamNodes$Sign" "compareTo" "(Ljava/lang/Object;)I") ∈ lw_tbl := lw_at lw_m5 80 rfl
theorem q1156 : (Jvm.Cond.selects "StreamNodes$Sign" ({ cls := "java/lang/Enum", name := "compareTo", desc := "(Ljava/lang/Enum;)I" } : Jvm.MethodName) ({ cls := "java/lang/Enum", name := "compareTo", desc := "(Ljava/lang/Enum;)I" } : Jvm.MethodName)) ∈ lw_all := lw_g (lw_at lw_m5 88 rfl) rfl
theorem q1163 : (Jvm.Cond.selects "StreamNodes$Sign" ({ cls := "java/lang/Enum", name := "getDeclaringClass", desc := "()Ljava/lang/Class;" } : Jvm.MethodName) ({ cls := "java/lang/Enum", name := "getDeclaringClass", desc := "()Ljava/lang/Class;" } : Jvm.MethodName)) ∈ lw_all := lw_g (lw_at lw_m5 95 rfl) rfl
theorem q3226 : (Jvm.Cond.castable "StreamNodes$Sign" "java/lang/Enum") ∈ lw_tbl := lw_at lw_m13 238 rfl
theorem q3257 : (Jvm.Cond.castable "StreamNodes$Sign" "java/lang/Object") ∈ lw_tbl := lw_at lw_m14 29 rfl
theorem q144 : (Jvm.Cond.initialized "StreamNodes$Type") ∈ lw_all := lw_g (lw_at lw_m1 36 rfl) rfl
set_option maxRecDepth 100000
theorem q1033 : (Jvm.Cond.selects "StreamNodes$Type" ({ cls := "java/lang/Object", name := "hashCode", desc := "()I" } : Jvm.MethodName) ({ cls := "java/lang/Enum", name := "hashCode", desc := "()I" } : Jvm.MethodName)) ∈ lw_all := lw_g (lw_at lw_m4 205 rfl) rfl
theorem q1069 : (Jvm.Cond.selects "StreamNodes$Type" ({ cls := "java/lang/Object", name := "equals", desc := "(Ljava/lang/Object;)Z" } : Jvm.MethodName) ({ cls := "java/lang/Enum", name := "equals", desc := "(Ljava/lang/Object;)Z" } : Jvm.MethodName)) ∈ lw_all := lw_g (lw_at lw_m5 1 rfl) rfl
theorem q1120 : (Jvm.Cond.selects "StreamNodes$Type" ({ cls := "java/lang/Object", name := "getClass", desc := "()Ljava/lang/Class;" } : Jvm.MethodName) ({ cls := "java/lang/Object", name := "getClass", desc := "()Ljava/lang/Class;" } : Jvm.MethodName)) ∈ lw_all := lw_g (lw_at lw_m5 52 rfl) rfl
theorem q1157 : (Jvm.Cond.selects "StreamNodes$Type" ({ cls := "java/lang/Enum", name := "compareTo", desc := "(Ljava/lang/Enum;)I" } : Jvm.MethodName) ({ cls := "java/lang/Enum", name := "compareTo", desc := "(Ljava/lang/Enum;)I" } : Jvm.MethodName)) ∈ lw_all := lw_g (lw_at lw_m5 89 rfl) rfl
theorem q1164 : (Jvm.Cond.selects "StreamNodes$Type" ({ cls := "java/lang/Enum", name := "getDeclaringClass", desc := "()Ljava/lang/Class;" } : Jvm.MethodName) ({ cls := "java/lang/Enum", name := "getDeclaringClass", desc := "()Ljava/lang/Class;" } : Jvm.MethodName)) ∈ lw_all := lw_g (lw_at lw_m5 96 rfl) rfl
theorem q1166 : (Jvm.Cond.castable "StreamNodes$Type" "java/lang/Comparable") ∈ lw_tbl := lw_at lw_m5 98 rfl
theorem q1167 : (Jvm.Cond.selects "StreamNodes$Type" ({ cls := "java/lang/Comparable", name := "compareTo", desc := "(Ljava/lang/Object;)I" } : Jvm.MethodName) ({ cls := "java/lang/Enum", name := "compareTo", desc := "(Ljava/lang/Object;)I" } : Jvm.MethodName)) ∈ lw_all := lw_g (lw_at lw_m5 99 rfl) rfl
theorem q1168 : (Jvm.Cond.unhidden "StreamNodes$Type" "compareTo" "(Ljava/lang/Object;)I") ∈ lw_tbl := lw_at lw_m5 100 rfl
theorem q1476 : (Jvm.Cond.laysStatic "StreamNodes$Type" "INT" "LStreamNodes$Type;") ∈ lw_tbl := lw_at lw_m6 168 rfl
theorem q1478 : (Jvm.Cond.laysStatic "StreamNodes$Type" "BOOL" "LStreamNodes$Type;") ∈ lw_tbl := lw_at lw_m6 170 rfl
theorem q3227 : (Jvm.Cond.castable "StreamNodes$Type" "java/lang/Enum") ∈ lw_tbl := lw_at lw_m13 239 rfl
theorem q3263 : (Jvm.Cond.castable "StreamNodes$Type" "java/lang/Object") ∈ lw_tbl := lw_at lw_m14 35 rfl
theorem q606 : (Jvm.Cond.sameMethod "[B" "java/lang/Object" "clone" "()Ljava/lang/Object;") ∈ lw_all := lw_g (lw_at lw_m3 18 rfl) rfl
set_option maxRecDepth 100000
theorem q609 : (Jvm.Cond.selects "[B" ({ cls := "[B", name := "clone", desc := "()Ljava/lang/Object;" } : Jvm.MethodName) ({ cls := "java/lang/Object", name := "clone", desc := "()Ljava/lang/Object;" } : Jvm.MethodName)) ∈ lw_all := lw_g (lw_at lw_m3 21 rfl) rfl
theorem q610 : (Jvm.Cond.castable "[B" "java/lang/Cloneable") ∈ lw_tbl := lw_at lw_m3 22 rfl
theorem q3284 : (Jvm.Cond.castable "[B" "java/lang/Object") ∈ lw_tbl := lw_at lw_m14 56 rfl
theorem q3285 : (Jvm.Cond.castable "[I" "java/lang/Object") ∈ lw_tbl := lw_at lw_m14 57 rfl
set_option maxRecDepth 100000
theorem q3291 : (Jvm.Cond.castable "[J" "java/lang/Object") ∈ lw_tbl := lw_at lw_m14 63 rfl
set_option maxRecDepth 100000
theorem q3288 : (Jvm.Cond.castable "[LStreamNodes$Expression;" "java/lang/Object") ∈ lw_tbl := lw_at lw_m14 60 rfl
set_option maxRecDepth 100000
theorem q3287 : (Jvm.Cond.castable "[LStreamNodes$Instance;" "java/lang/Object") ∈ lw_tbl := lw_at lw_m14 59 rfl
set_option maxRecDepth 100000
theorem q3281 : (Jvm.Cond.sameMethod "[Ljava/lang/Object;" "java/lang/Object" "getClass" "()Ljava/lang/Class;") ∈ lw_all := lw_g (lw_at lw_m14 53 rfl) rfl
set_option maxRecDepth 100000
theorem q3282 : (Jvm.Cond.selects "[Ljava/lang/Object;" ({ cls := "java/lang/Object", name := "getClass", desc := "()Ljava/lang/Class;" } : Jvm.MethodName) ({ cls := "java/lang/Object", name := "getClass", desc := "()Ljava/lang/Class;" } : Jvm.MethodName)) ∈ lw_all := lw_g (lw_at lw_m14 54 rfl) rfl
theorem q3289 : (Jvm.Cond.castable "[Ljava/lang/Object;" "java/lang/Object") ∈ lw_tbl := lw_at lw_m14 61 rfl
theorem q3290 : (Jvm.Cond.castable "[Ljava/util/HashMap$Node;" "java/lang/Object") ∈ lw_tbl := lw_at lw_m14 62 rfl
set_option maxRecDepth 100000
theorem q3286 : (Jvm.Cond.castable "[Z" "java/lang/Object") ∈ lw_tbl := lw_at lw_m14 58 rfl
set_option maxRecDepth 100000
theorem q1144 : (Jvm.Cond.interfaceMethod "java/lang/Comparable" "java/lang/Comparable" "compareTo" "(Ljava/lang/Object;)I") ∈ lw_tbl := lw_at lw_m5 76 rfl
set_option maxRecDepth 100000
theorem q1145 : (Jvm.Cond.declares ({ cls := "java/lang/Comparable", name := "compareTo", desc := "(Ljava/lang/Object;)I" } : Jvm.MethodName)) ∈ lw_tbl := lw_at lw_m5 77 rfl
theorem q137 : (Jvm.Cond.initialized "java/lang/Number") ∈ lw_all := lw_g (lw_at lw_m1 29 rfl) rfl
set_option maxRecDepth 100000
theorem q134 : (Jvm.Cond.initialized "java/lang/System") ∈ lw_all := lw_g (lw_at lw_m1 26 rfl) rfl
set_option maxRecDepth 100000
theorem q616 : (Jvm.Cond.static ({ cls := "java/lang/System", name := "arraycopy", desc := "(Ljava/lang/Object;ILjava/lang/Object;II)V" } : Jvm.MethodName)) ∈ lw_all := lw_g (lw_at lw_m3 28 rfl) rfl
theorem q617 : (Jvm.Cond.native ({ cls := "java/lang/System", name := "arraycopy", desc := "(Ljava/lang/Object;ILjava/lang/Object;II)V" } : Jvm.MethodName)) ∈ lw_all := lw_g (lw_at lw_m3 29 rfl) rfl
theorem q1031 : (Jvm.Cond.static ({ cls := "java/lang/System", name := "identityHashCode", desc := "(Ljava/lang/Object;)I" } : Jvm.MethodName)) ∈ lw_all := lw_g (lw_at lw_m4 203 rfl) rfl
theorem q1032 : (Jvm.Cond.native ({ cls := "java/lang/System", name := "identityHashCode", desc := "(Ljava/lang/Object;)I" } : Jvm.MethodName)) ∈ lw_all := lw_g (lw_at lw_m4 204 rfl) rfl
theorem q939 : (Jvm.Cond.interfaceMethod "jdk/internal/access/JavaLangAccess" "jdk/internal/access/JavaLangAccess" "getUTF16Char" "([BI)C") ∈ lw_tbl := lw_at lw_m4 111 rfl
set_option maxRecDepth 100000
theorem q940 : (Jvm.Cond.declares ({ cls := "jdk/internal/access/JavaLangAccess", name := "getUTF16Char", desc := "([BI)C" } : Jvm.MethodName)) ∈ lw_tbl := lw_at lw_m4 112 rfl
theorem q140 : (Jvm.Cond.initialized "jdk/internal/misc/UnsafeConstants") ∈ lw_all := lw_g (lw_at lw_m1 32 rfl) rfl
set_option maxRecDepth 100000
theorem q1226 : (Jvm.Cond.laysStatic "jdk/internal/misc/UnsafeConstants" "BIG_ENDIAN" "Z") ∈ lw_tbl := lw_at lw_m5 158 rfl
theorem q248 : (Jvm.Cond.arrayClass Jvm.ClassFile.FieldType.byte) ∈ lw_all := lw_g (lw_at lw_m1 140 rfl) rfl
set_option maxRecDepth 100000
theorem q389 : (Jvm.Cond.arrayClass Jvm.ClassFile.FieldType.int) ∈ lw_all := lw_g (lw_at lw_m2 41 rfl) rfl
theorem q390 : (Jvm.Cond.arrayClass Jvm.ClassFile.FieldType.boolean) ∈ lw_all := lw_g (lw_at lw_m2 42 rfl) rfl
theorem q414 : (Jvm.Cond.arrayOver (Jvm.ClassFile.FieldType.object "StreamNodes$Instance")) ∈ lw_tbl := lw_at lw_m2 66 rfl
theorem q416 : (Jvm.Cond.arrayOver (Jvm.ClassFile.FieldType.object "StreamNodes$Expression")) ∈ lw_tbl := lw_at lw_m2 68 rfl
theorem q1471 : (Jvm.Cond.arrayOver (Jvm.ClassFile.FieldType.object "java/lang/Object")) ∈ lw_tbl := lw_at lw_m6 163 rfl
theorem q1577 : (Jvm.Cond.arrayOver (Jvm.ClassFile.FieldType.object "java/util/HashMap$Node")) ∈ lw_tbl := lw_at lw_m7 29 rfl
theorem q3213 : (Jvm.Cond.arrayClass Jvm.ClassFile.FieldType.long) ∈ lw_all := lw_g (lw_at lw_m13 225 rfl) rfl
theorem q3292 : (Jvm.Cond.arrayClass Jvm.ClassFile.FieldType.char) ∈ lw_all := lw_g (lw_at lw_m14 64 rfl) rfl
theorem q3293 : (Jvm.Cond.arrayClass Jvm.ClassFile.FieldType.short) ∈ lw_all := lw_g (lw_at lw_m14 65 rfl) rfl
