/-! java/lang/Throwable -/
set_option maxRecDepth 100000
def RJ0 : String := "java/lang/Throwable"
def TJ0 : u_T := fun k => match k with
  | 0 => ("java/lang/Throwable", "cause", "Ljava/lang/Throwable;", false)
  | 1 => ("java/lang/Throwable", "stackTrace", "[Ljava/lang/StackTraceElement;", false)
  | 2 => ("java/lang/Throwable", "suppressedExceptions", "Ljava/util/List;", false)
  | 3 => ("java/lang/Throwable", "detailMessage", "Ljava/lang/String;", false)
  | _ => ("java/lang/Throwable", "backtrace", "Ljava/lang/Object;", false)
def tyJ0 : Nat → FieldType := fun k => match k with
  | 0 => .object "java/lang/Throwable"
  | 1 => .array (.object "java/lang/StackTraceElement")
  | 2 => .object "java/util/List"
  | 3 => .object "java/lang/String"
  | _ => .object "java/lang/Object"
abbrev wsJ00 : List Cond := u_ws RJ0 TJ0 5
theorem nmJ0 : ∀ a, a < 5 → ∀ b, b < 5 → a ≠ b → (TJ0 a).2.1 ≠ (TJ0 b).2.1 := by decide +kernel
theorem tyJ0_ok : ∀ k, k < 5 → parseFieldDescriptor (TJ0 k).2.2.1 = some (tyJ0 k) := by decide +kernel
abbrev cJ0_init : ByteArray := prog_26_method_1_code
def yJ0_init : MethodName := ⟨RJ0, "<init>", "()V"⟩
def dkwJ0_init_1 : List UInt8 := [182, 0, 27, 87, 177]
abbrev dktJ0_init_1 : List UInt8 := dkwJ0_init_1 ++ []
def dkwJ0_init_0 : List UInt8 := [42, 183, 0, 1, 42, 42, 181, 0, 7, 42, 178, 0, 13, 181, 0, 17, 42, 178, 0, 20, 181, 0, 24, 42]
abbrev dktJ0_init_0 : List UInt8 := dkwJ0_init_0 ++ dktJ0_init_1
theorem dksJ0_init_0 : cJ0_init.data.toList.drop 0 = dktJ0_init_0 := by decide +kernel
theorem dksJ0_init_1 : cJ0_init.data.toList.drop 24 = dktJ0_init_1 := dk_seg dksJ0_init_0 24 rfl rfl
theorem dJ0_init_0 : decode cJ0_init 0 = .ok (.aload_n 0, 1) := dk_42 (dk_at dksJ0_init_0 0 rfl rfl)
theorem dJ0_init_1 : decode cJ0_init 1 = .ok (.invokespecial 1, 3) := dk_183 0 1 (dk_at dksJ0_init_0 1 rfl rfl)
theorem dJ0_init_4 : decode cJ0_init 4 = .ok (.aload_n 0, 1) := dk_42 (dk_at dksJ0_init_0 4 rfl rfl)
theorem dJ0_init_5 : decode cJ0_init 5 = .ok (.aload_n 0, 1) := dk_42 (dk_at dksJ0_init_0 5 rfl rfl)
theorem dJ0_init_6 : decode cJ0_init 6 = .ok (.putfield 7, 3) := dk_181 0 7 (dk_at dksJ0_init_0 6 rfl rfl)
theorem dJ0_init_9 : decode cJ0_init 9 = .ok (.aload_n 0, 1) := dk_42 (dk_at dksJ0_init_0 9 rfl rfl)
theorem dJ0_init_10 : decode cJ0_init 10 = .ok (.getstatic 13, 3) := dk_178 0 13 (dk_at dksJ0_init_0 10 rfl rfl)
theorem dJ0_init_13 : decode cJ0_init 13 = .ok (.putfield 17, 3) := dk_181 0 17 (dk_at dksJ0_init_0 13 rfl rfl)
theorem dJ0_init_16 : decode cJ0_init 16 = .ok (.aload_n 0, 1) := dk_42 (dk_at dksJ0_init_0 16 rfl rfl)
theorem dJ0_init_17 : decode cJ0_init 17 = .ok (.getstatic 20, 3) := dk_178 0 20 (dk_at dksJ0_init_0 17 rfl rfl)
theorem dJ0_init_20 : decode cJ0_init 20 = .ok (.putfield 24, 3) := dk_181 0 24 (dk_at dksJ0_init_0 20 rfl rfl)
theorem dJ0_init_23 : decode cJ0_init 23 = .ok (.aload_n 0, 1) := dk_42 (dk_at dksJ0_init_0 23 rfl rfl)
theorem dJ0_init_24 : decode cJ0_init 24 = .ok (.invokevirtual 27, 3) := dk_182 0 27 (dk_at dksJ0_init_1 0 rfl rfl)
theorem dJ0_init_27 : decode cJ0_init 27 = .ok (.pop, 1) := dk_87 (dk_at dksJ0_init_1 3 rfl rfl)
theorem dJ0_init_28 : decode cJ0_init 28 = .ok (.return_, 1) := dk_177 (dk_at dksJ0_init_1 4 rfl rfl)
abbrev cJ0_init_2 : ByteArray := prog_26_method_5_code
def yJ0_init_2 : MethodName := ⟨RJ0, "<init>", "(Ljava/lang/String;Ljava/lang/Throwable;ZZ)V"⟩
def dkwJ0_init_2_2 : List UInt8 := [44, 181, 0, 7, 29, 154, 0, 8, 42, 1, 181, 0, 24, 177]
abbrev dktJ0_init_2_2 : List UInt8 := dkwJ0_init_2_2 ++ []
def dkwJ0_init_2_1 : List UInt8 := [21, 4, 153, 0, 11, 42, 182, 0, 27, 87, 167, 0, 8, 42, 1, 181, 0, 17, 42, 43, 181, 0, 31, 42]
abbrev dktJ0_init_2_1 : List UInt8 := dkwJ0_init_2_1 ++ dktJ0_init_2_2
def dkwJ0_init_2_0 : List UInt8 := [42, 183, 0, 1, 42, 42, 181, 0, 7, 42, 178, 0, 13, 181, 0, 17, 42, 178, 0, 20, 181, 0, 24]
abbrev dktJ0_init_2_0 : List UInt8 := dkwJ0_init_2_0 ++ dktJ0_init_2_1
theorem dksJ0_init_2_0 : cJ0_init_2.data.toList.drop 0 = dktJ0_init_2_0 := by decide +kernel
theorem dksJ0_init_2_1 : cJ0_init_2.data.toList.drop 23 = dktJ0_init_2_1 := dk_seg dksJ0_init_2_0 23 rfl rfl
theorem dksJ0_init_2_2 : cJ0_init_2.data.toList.drop 47 = dktJ0_init_2_2 := dk_seg dksJ0_init_2_1 24 rfl rfl
theorem dJ0_init_2_0 : decode cJ0_init_2 0 = .ok (.aload_n 0, 1) := dk_42 (dk_at dksJ0_init_2_0 0 rfl rfl)
theorem dJ0_init_2_1 : decode cJ0_init_2 1 = .ok (.invokespecial 1, 3) := dk_183 0 1 (dk_at dksJ0_init_2_0 1 rfl rfl)
theorem dJ0_init_2_4 : decode cJ0_init_2 4 = .ok (.aload_n 0, 1) := dk_42 (dk_at dksJ0_init_2_0 4 rfl rfl)
theorem dJ0_init_2_5 : decode cJ0_init_2 5 = .ok (.aload_n 0, 1) := dk_42 (dk_at dksJ0_init_2_0 5 rfl rfl)
theorem dJ0_init_2_6 : decode cJ0_init_2 6 = .ok (.putfield 7, 3) := dk_181 0 7 (dk_at dksJ0_init_2_0 6 rfl rfl)
theorem dJ0_init_2_9 : decode cJ0_init_2 9 = .ok (.aload_n 0, 1) := dk_42 (dk_at dksJ0_init_2_0 9 rfl rfl)
theorem dJ0_init_2_10 : decode cJ0_init_2 10 = .ok (.getstatic 13, 3) := dk_178 0 13 (dk_at dksJ0_init_2_0 10 rfl rfl)
theorem dJ0_init_2_13 : decode cJ0_init_2 13 = .ok (.putfield 17, 3) := dk_181 0 17 (dk_at dksJ0_init_2_0 13 rfl rfl)
theorem dJ0_init_2_16 : decode cJ0_init_2 16 = .ok (.aload_n 0, 1) := dk_42 (dk_at dksJ0_init_2_0 16 rfl rfl)
theorem dJ0_init_2_17 : decode cJ0_init_2 17 = .ok (.getstatic 20, 3) := dk_178 0 20 (dk_at dksJ0_init_2_0 17 rfl rfl)
theorem dJ0_init_2_20 : decode cJ0_init_2 20 = .ok (.putfield 24, 3) := dk_181 0 24 (dk_at dksJ0_init_2_0 20 rfl rfl)
theorem dJ0_init_2_23 : decode cJ0_init_2 23 = .ok (.iload 4, 2) := dk_21 4 (dk_at dksJ0_init_2_1 0 rfl rfl)
theorem dJ0_init_2_25 : decode cJ0_init_2 25 = .ok (.ifCond .eq 11, 3) := dk_153 0 11 (dk_at dksJ0_init_2_1 2 rfl rfl)
theorem dJ0_init_2_28 : decode cJ0_init_2 28 = .ok (.aload_n 0, 1) := dk_42 (dk_at dksJ0_init_2_1 5 rfl rfl)
theorem dJ0_init_2_29 : decode cJ0_init_2 29 = .ok (.invokevirtual 27, 3) := dk_182 0 27 (dk_at dksJ0_init_2_1 6 rfl rfl)
theorem dJ0_init_2_32 : decode cJ0_init_2 32 = .ok (.pop, 1) := dk_87 (dk_at dksJ0_init_2_1 9 rfl rfl)
theorem dJ0_init_2_33 : decode cJ0_init_2 33 = .ok (.goto 8, 3) := dk_167 0 8 (dk_at dksJ0_init_2_1 10 rfl rfl)
theorem dJ0_init_2_36 : decode cJ0_init_2 36 = .ok (.aload_n 0, 1) := dk_42 (dk_at dksJ0_init_2_1 13 rfl rfl)
theorem dJ0_init_2_37 : decode cJ0_init_2 37 = .ok (.aconst_null, 1) := dk_1 (dk_at dksJ0_init_2_1 14 rfl rfl)
theorem dJ0_init_2_38 : decode cJ0_init_2 38 = .ok (.putfield 17, 3) := dk_181 0 17 (dk_at dksJ0_init_2_1 15 rfl rfl)
theorem dJ0_init_2_41 : decode cJ0_init_2 41 = .ok (.aload_n 0, 1) := dk_42 (dk_at dksJ0_init_2_1 18 rfl rfl)
theorem dJ0_init_2_42 : decode cJ0_init_2 42 = .ok (.aload_n 1, 1) := dk_43 (dk_at dksJ0_init_2_1 19 rfl rfl)
theorem dJ0_init_2_43 : decode cJ0_init_2 43 = .ok (.putfield 31, 3) := dk_181 0 31 (dk_at dksJ0_init_2_1 20 rfl rfl)
theorem dJ0_init_2_46 : decode cJ0_init_2 46 = .ok (.aload_n 0, 1) := dk_42 (dk_at dksJ0_init_2_1 23 rfl rfl)
theorem dJ0_init_2_47 : decode cJ0_init_2 47 = .ok (.aload_n 2, 1) := dk_44 (dk_at dksJ0_init_2_2 0 rfl rfl)
theorem dJ0_init_2_48 : decode cJ0_init_2 48 = .ok (.putfield 7, 3) := dk_181 0 7 (dk_at dksJ0_init_2_2 1 rfl rfl)
theorem dJ0_init_2_51 : decode cJ0_init_2 51 = .ok (.iload_n 3, 1) := dk_29 (dk_at dksJ0_init_2_2 4 rfl rfl)
theorem dJ0_init_2_52 : decode cJ0_init_2 52 = .ok (.ifCond .ne 8, 3) := dk_154 0 8 (dk_at dksJ0_init_2_2 5 rfl rfl)
theorem dJ0_init_2_55 : decode cJ0_init_2 55 = .ok (.aload_n 0, 1) := dk_42 (dk_at dksJ0_init_2_2 8 rfl rfl)
theorem dJ0_init_2_56 : decode cJ0_init_2 56 = .ok (.aconst_null, 1) := dk_1 (dk_at dksJ0_init_2_2 9 rfl rfl)
theorem dJ0_init_2_57 : decode cJ0_init_2 57 = .ok (.putfield 24, 3) := dk_181 0 24 (dk_at dksJ0_init_2_2 10 rfl rfl)
theorem dJ0_init_2_60 : decode cJ0_init_2 60 = .ok (.return_, 1) := dk_177 (dk_at dksJ0_init_2_2 13 rfl rfl)
abbrev cJ0_init_3 : ByteArray := prog_26_method_2_code
def yJ0_init_3 : MethodName := ⟨RJ0, "<init>", "(Ljava/lang/String;)V"⟩
def dkwJ0_init_3_1 : List UInt8 := [182, 0, 27, 87, 42, 43, 181, 0, 31, 177]
abbrev dktJ0_init_3_1 : List UInt8 := dkwJ0_init_3_1 ++ []
def dkwJ0_init_3_0 : List UInt8 := [42, 183, 0, 1, 42, 42, 181, 0, 7, 42, 178, 0, 13, 181, 0, 17, 42, 178, 0, 20, 181, 0, 24, 42]
abbrev dktJ0_init_3_0 : List UInt8 := dkwJ0_init_3_0 ++ dktJ0_init_3_1
theorem dksJ0_init_3_0 : cJ0_init_3.data.toList.drop 0 = dktJ0_init_3_0 := by decide +kernel
theorem dksJ0_init_3_1 : cJ0_init_3.data.toList.drop 24 = dktJ0_init_3_1 := dk_seg dksJ0_init_3_0 24 rfl rfl
theorem dJ0_init_3_0 : decode cJ0_init_3 0 = .ok (.aload_n 0, 1) := dk_42 (dk_at dksJ0_init_3_0 0 rfl rfl)
theorem dJ0_init_3_1 : decode cJ0_init_3 1 = .ok (.invokespecial 1, 3) := dk_183 0 1 (dk_at dksJ0_init_3_0 1 rfl rfl)
theorem dJ0_init_3_4 : decode cJ0_init_3 4 = .ok (.aload_n 0, 1) := dk_42 (dk_at dksJ0_init_3_0 4 rfl rfl)
theorem dJ0_init_3_5 : decode cJ0_init_3 5 = .ok (.aload_n 0, 1) := dk_42 (dk_at dksJ0_init_3_0 5 rfl rfl)
theorem dJ0_init_3_6 : decode cJ0_init_3 6 = .ok (.putfield 7, 3) := dk_181 0 7 (dk_at dksJ0_init_3_0 6 rfl rfl)
theorem dJ0_init_3_9 : decode cJ0_init_3 9 = .ok (.aload_n 0, 1) := dk_42 (dk_at dksJ0_init_3_0 9 rfl rfl)
theorem dJ0_init_3_10 : decode cJ0_init_3 10 = .ok (.getstatic 13, 3) := dk_178 0 13 (dk_at dksJ0_init_3_0 10 rfl rfl)
theorem dJ0_init_3_13 : decode cJ0_init_3 13 = .ok (.putfield 17, 3) := dk_181 0 17 (dk_at dksJ0_init_3_0 13 rfl rfl)
theorem dJ0_init_3_16 : decode cJ0_init_3 16 = .ok (.aload_n 0, 1) := dk_42 (dk_at dksJ0_init_3_0 16 rfl rfl)
theorem dJ0_init_3_17 : decode cJ0_init_3 17 = .ok (.getstatic 20, 3) := dk_178 0 20 (dk_at dksJ0_init_3_0 17 rfl rfl)
theorem dJ0_init_3_20 : decode cJ0_init_3 20 = .ok (.putfield 24, 3) := dk_181 0 24 (dk_at dksJ0_init_3_0 20 rfl rfl)
theorem dJ0_init_3_23 : decode cJ0_init_3 23 = .ok (.aload_n 0, 1) := dk_42 (dk_at dksJ0_init_3_0 23 rfl rfl)
theorem dJ0_init_3_24 : decode cJ0_init_3 24 = .ok (.invokevirtual 27, 3) := dk_182 0 27 (dk_at dksJ0_init_3_1 0 rfl rfl)
theorem dJ0_init_3_27 : decode cJ0_init_3 27 = .ok (.pop, 1) := dk_87 (dk_at dksJ0_init_3_1 3 rfl rfl)
theorem dJ0_init_3_28 : decode cJ0_init_3 28 = .ok (.aload_n 0, 1) := dk_42 (dk_at dksJ0_init_3_1 4 rfl rfl)
theorem dJ0_init_3_29 : decode cJ0_init_3 29 = .ok (.aload_n 1, 1) := dk_43 (dk_at dksJ0_init_3_1 5 rfl rfl)
theorem dJ0_init_3_30 : decode cJ0_init_3 30 = .ok (.putfield 31, 3) := dk_181 0 31 (dk_at dksJ0_init_3_1 6 rfl rfl)
theorem dJ0_init_3_33 : decode cJ0_init_3 33 = .ok (.return_, 1) := dk_177 (dk_at dksJ0_init_3_1 9 rfl rfl)
theorem q86 : (Jvm.Cond.initialized "java/lang/Throwable") ∈ lw_all := lw_g (lw_at lw_m1 8 rfl) rfl
theorem q201 : (Jvm.Cond.declares ({ cls := "java/lang/Throwable", name := "<init>", desc := "()V" } : Jvm.MethodName)) ∈ lw_tbl := lw_at lw_m1 123 rfl
theorem q202 : (Jvm.Cond.declares ({ cls := "java/lang/Throwable", name := "<init>", desc := "(Ljava/lang/String;)V" } : Jvm.MethodName)) ∈ lw_tbl := lw_at lw_m1 124 rfl
theorem q206 : (Jvm.Cond.lays "java/lang/Throwable" "java/lang/Throwable" "cause" "Ljava/lang/Throwable;") ∈ lw_all := lw_g (lw_at lw_m1 128 rfl) rfl
theorem q208 : (Jvm.Cond.lays "java/lang/Throwable" "java/lang/Throwable" "stackTrace" "[Ljava/lang/StackTraceElement;") ∈ lw_all := lw_g (lw_at lw_m1 130 rfl) rfl
theorem q210 : (Jvm.Cond.lays "java/lang/Throwable" "java/lang/Throwable" "suppressedExceptions" "Ljava/util/List;") ∈ lw_all := lw_g (lw_at lw_m1 132 rfl) rfl
theorem q212 : (Jvm.Cond.lays "java/lang/Throwable" "java/lang/Throwable" "detailMessage" "Ljava/lang/String;") ∈ lw_all := lw_g (lw_at lw_m1 134 rfl) rfl
theorem q214 : (Jvm.Cond.lays "java/lang/Throwable" "java/lang/Throwable" "backtrace" "Ljava/lang/Object;") ∈ lw_all := lw_g (lw_at lw_m1 136 rfl) rfl
theorem q215 : (Jvm.Cond.fieldLink "java/lang/Throwable" (198 : Nat) "java/lang/Throwable" "backtrace" "Ljava/lang/Object;") ∈ lw_all := lw_g (lw_at lw_m1 137 rfl) rfl
theorem q216 : (Jvm.Cond.superclass "java/lang/Throwable" "java/lang/Object") ∈ lw_all := lw_g (lw_at lw_m1 138 rfl) rfl
theorem q217 : (Jvm.Cond.instanceMethod ({ cls := "java/lang/Throwable", name := "<init>", desc := "()V" } : Jvm.MethodName)) ∈ lw_all := lw_g (lw_at lw_m1 139 rfl) rfl
theorem q218 : (Jvm.Cond.code ({ cls := "java/lang/Throwable", name := "<init>", desc := "()V" } : Jvm.MethodName) prog_26_method_1_code (1 : Nat) (Option.none : Option Jvm.ClassFile.FieldType)) ∈ lw_all := lw_g (lw_at lw_m1 140 rfl) rfl
theorem q219 : (Jvm.Cond.methodLink "java/lang/Throwable" (1 : Nat) ({ cls := "java/lang/Object", name := "<init>", desc := "()V" } : Jvm.MethodName)) ∈ lw_all := lw_g (lw_at lw_m1 141 rfl) rfl
theorem q220 : (Jvm.Cond.fieldLink "java/lang/Throwable" (13 : Nat) "java/lang/Throwable" "UNASSIGNED_STACK" "[Ljava/lang/StackTraceElement;") ∈ lw_all := lw_g (lw_at lw_m1 142 rfl) rfl
theorem q221 : (Jvm.Cond.laysStatic "java/lang/Throwable" "UNASSIGNED_STACK" "[Ljava/lang/StackTraceElement;") ∈ lw_tbl := lw_at lw_m1 143 rfl
theorem q222 : (Jvm.Cond.fieldLink "java/lang/Throwable" (20 : Nat) "java/lang/Throwable" "SUPPRESSED_SENTINEL" "Ljava/util/List;") ∈ lw_all := lw_g (lw_at lw_m1 144 rfl) rfl
theorem q223 : (Jvm.Cond.laysStatic "java/lang/Throwable" "SUPPRESSED_SENTINEL" "Ljava/util/List;") ∈ lw_tbl := lw_at lw_m1 145 rfl
theorem q224 : (Jvm.Cond.methodLink "java/lang/Throwable" (27 : Nat) ({ cls := "java/lang/Throwable", name := "fillInStackTrace", desc := "()Ljava/lang/Throwable;" } : Jvm.MethodName)) ∈ lw_all := lw_g (lw_at lw_m1 146 rfl) rfl
theorem q225 : (Jvm.Cond.instanceMethod ({ cls := "java/lang/Throwable", name := "fillInStackTrace", desc := "()Ljava/lang/Throwable;" } : Jvm.MethodName)) ∈ lw_all := lw_g (lw_at lw_m1 147 rfl) rfl
theorem q226 : (Jvm.Cond.sameMethod "java/lang/Throwable" "java/lang/Throwable" "fillInStackTrace" "()Ljava/lang/Throwable;") ∈ lw_all := lw_g (lw_at lw_m1 148 rfl) rfl
theorem q240 : (Jvm.Cond.declares ({ cls := "java/lang/Throwable", name := "fillInStackTrace", desc := "()Ljava/lang/Throwable;" } : Jvm.MethodName)) ∈ lw_tbl := lw_at lw_m1 162 rfl
theorem q244 : (Jvm.Cond.codeSync ({ cls := "java/lang/Throwable", name := "fillInStackTrace", desc := "()Ljava/lang/Throwable;" } : Jvm.MethodName) prog_26_method_18_code (1 : Nat) (Option.some (Jvm.ClassFile.FieldType.object "java/lang/Throwable"))) ∈ lw_all := lw_g (lw_at lw_m1 166 rfl) rfl
theorem q245 : (Jvm.Cond.methodLink "java/lang/Throwable" (202 : Nat) ({ cls := "java/lang/Throwable", name := "fillInStackTrace", desc := "(I)Ljava/lang/Throwable;" } : Jvm.MethodName)) ∈ lw_all := lw_g (lw_at lw_m1 167 rfl) rfl
theorem q246 : (Jvm.Cond.privateMethod ({ cls := "java/lang/Throwable", name := "fillInStackTrace", desc := "(I)Ljava/lang/Throwable;" } : Jvm.MethodName)) ∈ lw_tbl := lw_at lw_m1 168 rfl
theorem q247 : (Jvm.Cond.instanceMethod ({ cls := "java/lang/Throwable", name := "fillInStackTrace", desc := "(I)Ljava/lang/Throwable;" } : Jvm.MethodName)) ∈ lw_all := lw_g (lw_at lw_m1 169 rfl) rfl
theorem q248 : (Jvm.Cond.instantiable "java/lang/Throwable" (6 : Nat)) ∈ lw_all := lw_g (lw_at lw_m1 170 rfl) rfl
theorem q249 : (Jvm.Cond.native ({ cls := "java/lang/Throwable", name := "fillInStackTrace", desc := "(I)Ljava/lang/Throwable;" } : Jvm.MethodName)) ∈ lw_all := lw_g (lw_at lw_m1 171 rfl) rfl
theorem q260 : (Jvm.Cond.instanceMethod ({ cls := "java/lang/Throwable", name := "<init>", desc := "(Ljava/lang/String;Ljava/lang/Throwable;ZZ)V" } : Jvm.MethodName)) ∈ lw_all := lw_g (lw_at lw_m1 182 rfl) rfl
theorem q261 : (Jvm.Cond.code ({ cls := "java/lang/Throwable", name := "<init>", desc := "(Ljava/lang/String;Ljava/lang/Throwable;ZZ)V" } : Jvm.MethodName) prog_26_method_5_code (5 : Nat) (Option.none : Option Jvm.ClassFile.FieldType)) ∈ lw_all := lw_g (lw_at lw_m1 183 rfl) rfl
theorem q266 : (Jvm.Cond.fieldLink "java/lang/Throwable" (198 : Nat) "java/lang/Throwable" "backtrace" "Ljava/lang/Object;") ∈ lw_all := lw_g (lw_at lw_m1 188 rfl) rfl
theorem q267 : (Jvm.Cond.fieldLink "java/lang/Throwable" (31 : Nat) "java/lang/Throwable" "detailMessage" "Ljava/lang/String;") ∈ lw_all := lw_g (lw_at lw_m1 189 rfl) rfl
theorem q268 : (Jvm.Cond.fieldLink "java/lang/Throwable" (7 : Nat) "java/lang/Throwable" "cause" "Ljava/lang/Throwable;") ∈ lw_all := lw_g (lw_at lw_m1 190 rfl) rfl
theorem q269 : (Jvm.Cond.fieldLink "java/lang/Throwable" (17 : Nat) "java/lang/Throwable" "stackTrace" "[Ljava/lang/StackTraceElement;") ∈ lw_all := lw_g (lw_at lw_m1 191 rfl) rfl
theorem q270 : (Jvm.Cond.fieldLink "java/lang/Throwable" (24 : Nat) "java/lang/Throwable" "suppressedExceptions" "Ljava/util/List;") ∈ lw_all := lw_g (lw_at lw_m1 192 rfl) rfl
theorem q275 : (Jvm.Cond.soleField "java/lang/Throwable" "backtrace") ∈ lw_all := lw_g (lw_at lw_m1 197 rfl) rfl
theorem q276 : (Jvm.Cond.soleField "java/lang/Throwable" "detailMessage") ∈ lw_all := lw_g (lw_at lw_m1 198 rfl) rfl
theorem q277 : (Jvm.Cond.soleField "java/lang/Throwable" "cause") ∈ lw_all := lw_g (lw_at lw_m1 199 rfl) rfl
theorem q278 : (Jvm.Cond.soleField "java/lang/Throwable" "stackTrace") ∈ lw_all := lw_g (lw_at lw_m1 200 rfl) rfl
theorem q280 : (Jvm.Cond.soleField "java/lang/Throwable" "depth") ∈ lw_all := lw_g (lw_at lw_m1 202 rfl) rfl
theorem q281 : (Jvm.Cond.soleField "java/lang/Throwable" "suppressedExceptions") ∈ lw_all := lw_g (lw_at lw_m1 203 rfl) rfl
theorem q859 : (Jvm.Cond.instanceMethod ({ cls := "java/lang/Throwable", name := "<init>", desc := "(Ljava/lang/String;)V" } : Jvm.MethodName)) ∈ lw_all := lw_g (lw_at lw_m4 61 rfl) rfl
theorem q860 : (Jvm.Cond.code ({ cls := "java/lang/Throwable", name := "<init>", desc := "(Ljava/lang/String;)V" } : Jvm.MethodName) prog_26_method_2_code (2 : Nat) (Option.none : Option Jvm.ClassFile.FieldType)) ∈ lw_all := lw_g (lw_at lw_m4 62 rfl) rfl
theorem q1452 : (Jvm.Cond.sameMethod "java/lang/Throwable" "java/lang/Throwable" "fillInStackTrace" "(I)Ljava/lang/Throwable;") ∈ lw_all := lw_g (lw_at lw_m6 174 rfl) rfl
theorem in_J0 : ∀ w ∈ wsJ00, w ∈ lw_all := lw_in wsJ00 [206, 208, 210, 212, 214] (by decide +kernel) (by decide +kernel)
/-! java/lang/Exception -/
set_option maxRecDepth 100000
def RJ1 : String := "java/lang/Exception"
abbrev cJ1_init : ByteArray := prog_15_method_5_code
def yJ1_init : MethodName := ⟨RJ1, "<init>", "(Ljava/lang/String;Ljava/lang/Throwable;ZZ)V"⟩
def dkwJ1_init_0 : List UInt8 := [42, 43, 44, 29, 21, 4, 183, 0, 16, 177]
abbrev dktJ1_init_0 : List UInt8 := dkwJ1_init_0 ++ []
theorem dksJ1_init_0 : cJ1_init.data.toList.drop 0 = dktJ1_init_0 := by decide +kernel
theorem dJ1_init_0 : decode cJ1_init 0 = .ok (.aload_n 0, 1) := dk_42 (dk_at dksJ1_init_0 0 rfl rfl)
theorem dJ1_init_1 : decode cJ1_init 1 = .ok (.aload_n 1, 1) := dk_43 (dk_at dksJ1_init_0 1 rfl rfl)
theorem dJ1_init_2 : decode cJ1_init 2 = .ok (.aload_n 2, 1) := dk_44 (dk_at dksJ1_init_0 2 rfl rfl)
theorem dJ1_init_3 : decode cJ1_init 3 = .ok (.iload_n 3, 1) := dk_29 (dk_at dksJ1_init_0 3 rfl rfl)
theorem dJ1_init_4 : decode cJ1_init 4 = .ok (.iload 4, 2) := dk_21 4 (dk_at dksJ1_init_0 4 rfl rfl)
theorem dJ1_init_6 : decode cJ1_init 6 = .ok (.invokespecial 16, 3) := dk_183 0 16 (dk_at dksJ1_init_0 6 rfl rfl)
theorem dJ1_init_9 : decode cJ1_init 9 = .ok (.return_, 1) := dk_177 (dk_at dksJ1_init_0 9 rfl rfl)
abbrev cJ1_init_2 : ByteArray := prog_15_method_2_code
def yJ1_init_2 : MethodName := ⟨RJ1, "<init>", "(Ljava/lang/String;)V"⟩
def dkwJ1_init_2_0 : List UInt8 := [42, 43, 183, 0, 7, 177]
abbrev dktJ1_init_2_0 : List UInt8 := dkwJ1_init_2_0 ++ []
theorem dksJ1_init_2_0 : cJ1_init_2.data.toList.drop 0 = dktJ1_init_2_0 := by decide +kernel
theorem dJ1_init_2_0 : decode cJ1_init_2 0 = .ok (.aload_n 0, 1) := dk_42 (dk_at dksJ1_init_2_0 0 rfl rfl)
theorem dJ1_init_2_1 : decode cJ1_init_2 1 = .ok (.aload_n 1, 1) := dk_43 (dk_at dksJ1_init_2_0 1 rfl rfl)
theorem dJ1_init_2_2 : decode cJ1_init_2 2 = .ok (.invokespecial 7, 3) := dk_183 0 7 (dk_at dksJ1_init_2_0 2 rfl rfl)
theorem dJ1_init_2_5 : decode cJ1_init_2 5 = .ok (.return_, 1) := dk_177 (dk_at dksJ1_init_2_0 5 rfl rfl)
abbrev cJ1_init_3 : ByteArray := prog_15_method_1_code
def yJ1_init_3 : MethodName := ⟨RJ1, "<init>", "()V"⟩
theorem dJ1_init_3_0 : decode cJ1_init_3 0 = .ok (.aload_n 0, 1) := by decide +kernel
theorem dJ1_init_3_1 : decode cJ1_init_3 1 = .ok (.invokespecial 1, 3) := by decide +kernel
theorem dJ1_init_3_4 : decode cJ1_init_3 4 = .ok (.return_, 1) := by decide +kernel
theorem q87 : (Jvm.Cond.initialized "java/lang/Exception") ∈ lw_all := lw_g (lw_at lw_m1 9 rfl) rfl
theorem q199 : (Jvm.Cond.declares ({ cls := "java/lang/Exception", name := "<init>", desc := "()V" } : Jvm.MethodName)) ∈ lw_tbl := lw_at lw_m1 121 rfl
theorem q200 : (Jvm.Cond.declares ({ cls := "java/lang/Exception", name := "<init>", desc := "(Ljava/lang/String;)V" } : Jvm.MethodName)) ∈ lw_tbl := lw_at lw_m1 122 rfl
theorem q243 : (Jvm.Cond.superclass "java/lang/Exception" "java/lang/Throwable") ∈ lw_all := lw_g (lw_at lw_m1 165 rfl) rfl
theorem q257 : (Jvm.Cond.instanceMethod ({ cls := "java/lang/Exception", name := "<init>", desc := "(Ljava/lang/String;Ljava/lang/Throwable;ZZ)V" } : Jvm.MethodName)) ∈ lw_all := lw_g (lw_at lw_m1 179 rfl) rfl
theorem q258 : (Jvm.Cond.code ({ cls := "java/lang/Exception", name := "<init>", desc := "(Ljava/lang/String;Ljava/lang/Throwable;ZZ)V" } : Jvm.MethodName) prog_15_method_5_code (5 : Nat) (Option.none : Option Jvm.ClassFile.FieldType)) ∈ lw_all := lw_g (lw_at lw_m1 180 rfl) rfl
theorem q259 : (Jvm.Cond.methodLink "java/lang/Exception" (16 : Nat) ({ cls := "java/lang/Throwable", name := "<init>", desc := "(Ljava/lang/String;Ljava/lang/Throwable;ZZ)V" } : Jvm.MethodName)) ∈ lw_all := lw_g (lw_at lw_m1 181 rfl) rfl
theorem q856 : (Jvm.Cond.instanceMethod ({ cls := "java/lang/Exception", name := "<init>", desc := "(Ljava/lang/String;)V" } : Jvm.MethodName)) ∈ lw_all := lw_g (lw_at lw_m4 58 rfl) rfl
theorem q857 : (Jvm.Cond.code ({ cls := "java/lang/Exception", name := "<init>", desc := "(Ljava/lang/String;)V" } : Jvm.MethodName) prog_15_method_2_code (2 : Nat) (Option.none : Option Jvm.ClassFile.FieldType)) ∈ lw_all := lw_g (lw_at lw_m4 59 rfl) rfl
theorem q858 : (Jvm.Cond.methodLink "java/lang/Exception" (7 : Nat) ({ cls := "java/lang/Throwable", name := "<init>", desc := "(Ljava/lang/String;)V" } : Jvm.MethodName)) ∈ lw_all := lw_g (lw_at lw_m4 60 rfl) rfl
theorem q890 : (Jvm.Cond.instanceMethod ({ cls := "java/lang/Exception", name := "<init>", desc := "()V" } : Jvm.MethodName)) ∈ lw_all := lw_g (lw_at lw_m4 92 rfl) rfl
theorem q891 : (Jvm.Cond.code ({ cls := "java/lang/Exception", name := "<init>", desc := "()V" } : Jvm.MethodName) prog_15_method_1_code (1 : Nat) (Option.none : Option Jvm.ClassFile.FieldType)) ∈ lw_all := lw_g (lw_at lw_m4 93 rfl) rfl
theorem q892 : (Jvm.Cond.methodLink "java/lang/Exception" (1 : Nat) ({ cls := "java/lang/Throwable", name := "<init>", desc := "()V" } : Jvm.MethodName)) ∈ lw_all := lw_g (lw_at lw_m4 94 rfl) rfl
/-! java/lang/NullPointerException -/
set_option maxRecDepth 100000
def RJ10 : String := "java/lang/NullPointerException"
def TJ10 : u_T := fun k => match k with
  | 0 => ("java/lang/Throwable", "backtrace", "Ljava/lang/Object;", false)
  | 1 => ("java/lang/Throwable", "detailMessage", "Ljava/lang/String;", false)
  | 2 => ("java/lang/Throwable", "cause", "Ljava/lang/Throwable;", false)
  | 3 => ("java/lang/Throwable", "stackTrace", "[Ljava/lang/StackTraceElement;", false)
  | 4 => ("java/lang/Throwable", "depth", "I", false)
  | 5 => ("java/lang/Throwable", "suppressedExceptions", "Ljava/util/List;", false)
  | 6 => ("java/lang/NullPointerException", "extendedMessageState", "I", false)
  | _ => ("java/lang/NullPointerException", "extendedMessage", "Ljava/lang/String;", false)
def tyJ10 : Nat → FieldType := fun k => match k with
  | 0 => .object "java/lang/Object"
  | 1 => .object "java/lang/String"
  | 2 => .object "java/lang/Throwable"
  | 3 => .array (.object "java/lang/StackTraceElement")
  | 4 => .int
  | 5 => .object "java/util/List"
  | 6 => .int
  | _ => .object "java/lang/String"
abbrev wsJ100 : List Cond := u_ws RJ10 TJ10 8
theorem nmJ10 : ∀ a, a < 8 → ∀ b, b < 8 → a ≠ b → (TJ10 a).2.1 ≠ (TJ10 b).2.1 := by decide +kernel
theorem tyJ10_ok : ∀ k, k < 8 → parseFieldDescriptor (TJ10 k).2.2.1 = some (tyJ10 k) := by decide +kernel
abbrev cJ10_init : ByteArray := prog_20_method_1_code
def yJ10_init : MethodName := ⟨RJ10, "<init>", "()V"⟩
theorem dJ10_init_0 : decode cJ10_init 0 = .ok (.aload_n 0, 1) := by decide +kernel
theorem dJ10_init_1 : decode cJ10_init 1 = .ok (.invokespecial 1, 3) := by decide +kernel
theorem dJ10_init_4 : decode cJ10_init 4 = .ok (.return_, 1) := by decide +kernel
theorem q97 : (Jvm.Cond.initialized "java/lang/NullPointerException") ∈ lw_all := lw_g (lw_at lw_m1 19 rfl) rfl
theorem q230 : (Jvm.Cond.selects "java/lang/NullPointerException" ({ cls := "java/lang/Throwable", name := "fillInStackTrace", desc := "()Ljava/lang/Throwable;" } : Jvm.MethodName) ({ cls := "java/lang/NullPointerException", name := "fillInStackTrace", desc := "()Ljava/lang/Throwable;" } : Jvm.MethodName)) ∈ lw_all := lw_g (lw_at lw_m1 152 rfl) rfl
theorem q231 : (Jvm.Cond.instanceMethod ({ cls := "java/lang/NullPointerException", name := "fillInStackTrace", desc := "()Ljava/lang/Throwable;" } : Jvm.MethodName)) ∈ lw_all := lw_g (lw_at lw_m1 153 rfl) rfl
theorem q232 : (Jvm.Cond.codeSync ({ cls := "java/lang/NullPointerException", name := "fillInStackTrace", desc := "()Ljava/lang/Throwable;" } : Jvm.MethodName) prog_20_method_3_code (1 : Nat) (Option.some (Jvm.ClassFile.FieldType.object "java/lang/Throwable"))) ∈ lw_all := lw_g (lw_at lw_m1 154 rfl) rfl
theorem q233 : (Jvm.Cond.methodLink "java/lang/NullPointerException" (16 : Nat) ({ cls := "java/lang/NullPointerException", name := "getExtendedNPEMessage", desc := "()Ljava/lang/String;" } : Jvm.MethodName)) ∈ lw_all := lw_g (lw_at lw_m1 155 rfl) rfl
theorem q234 : (Jvm.Cond.privateMethod ({ cls := "java/lang/NullPointerException", name := "getExtendedNPEMessage", desc := "()Ljava/lang/String;" } : Jvm.MethodName)) ∈ lw_tbl := lw_at lw_m1 156 rfl
theorem q235 : (Jvm.Cond.instanceMethod ({ cls := "java/lang/NullPointerException", name := "getExtendedNPEMessage", desc := "()Ljava/lang/String;" } : Jvm.MethodName)) ∈ lw_all := lw_g (lw_at lw_m1 157 rfl) rfl
theorem q236 : (Jvm.Cond.instantiable "java/lang/NullPointerException" (8 : Nat)) ∈ lw_all := lw_g (lw_at lw_m1 158 rfl) rfl
theorem q237 : (Jvm.Cond.native ({ cls := "java/lang/NullPointerException", name := "getExtendedNPEMessage", desc := "()Ljava/lang/String;" } : Jvm.MethodName)) ∈ lw_all := lw_g (lw_at lw_m1 159 rfl) rfl
theorem q238 : (Jvm.Cond.methodLink "java/lang/NullPointerException" (24 : Nat) ({ cls := "java/lang/RuntimeException", name := "fillInStackTrace", desc := "()Ljava/lang/Throwable;" } : Jvm.MethodName)) ∈ lw_all := lw_g (lw_at lw_m1 160 rfl) rfl
theorem q241 : (Jvm.Cond.superclass "java/lang/NullPointerException" "java/lang/RuntimeException") ∈ lw_all := lw_g (lw_at lw_m1 163 rfl) rfl
theorem q884 : (Jvm.Cond.instanceMethod ({ cls := "java/lang/NullPointerException", name := "<init>", desc := "()V" } : Jvm.MethodName)) ∈ lw_all := lw_g (lw_at lw_m4 86 rfl) rfl
theorem q885 : (Jvm.Cond.code ({ cls := "java/lang/NullPointerException", name := "<init>", desc := "()V" } : Jvm.MethodName) prog_20_method_1_code (1 : Nat) (Option.none : Option Jvm.ClassFile.FieldType)) ∈ lw_all := lw_g (lw_at lw_m4 87 rfl) rfl
theorem q886 : (Jvm.Cond.methodLink "java/lang/NullPointerException" (1 : Nat) ({ cls := "java/lang/RuntimeException", name := "<init>", desc := "()V" } : Jvm.MethodName)) ∈ lw_all := lw_g (lw_at lw_m4 88 rfl) rfl
theorem q893 : (Jvm.Cond.fieldLink "java/lang/NullPointerException" (10 : Nat) "java/lang/NullPointerException" "extendedMessageState" "I") ∈ lw_all := lw_g (lw_at lw_m4 95 rfl) rfl
theorem q894 : (Jvm.Cond.fieldLink "java/lang/NullPointerException" (20 : Nat) "java/lang/NullPointerException" "extendedMessage" "Ljava/lang/String;") ∈ lw_all := lw_g (lw_at lw_m4 96 rfl) rfl
theorem q895 : (Jvm.Cond.lays "java/lang/NullPointerException" "java/lang/NullPointerException" "extendedMessageState" "I") ∈ lw_all := lw_g (lw_at lw_m4 97 rfl) rfl
theorem q896 : (Jvm.Cond.soleField "java/lang/NullPointerException" "extendedMessageState") ∈ lw_all := lw_g (lw_at lw_m4 98 rfl) rfl
theorem q897 : (Jvm.Cond.lays "java/lang/NullPointerException" "java/lang/NullPointerException" "extendedMessage" "Ljava/lang/String;") ∈ lw_all := lw_g (lw_at lw_m4 99 rfl) rfl
theorem q898 : (Jvm.Cond.soleField "java/lang/NullPointerException" "extendedMessage") ∈ lw_all := lw_g (lw_at lw_m4 100 rfl) rfl
theorem q899 : (Jvm.Cond.lays "java/lang/NullPointerException" "java/lang/Throwable" "backtrace" "Ljava/lang/Object;") ∈ lw_all := lw_g (lw_at lw_m4 101 rfl) rfl
theorem q900 : (Jvm.Cond.lays "java/lang/NullPointerException" "java/lang/Throwable" "detailMessage" "Ljava/lang/String;") ∈ lw_all := lw_g (lw_at lw_m4 102 rfl) rfl
theorem q901 : (Jvm.Cond.lays "java/lang/NullPointerException" "java/lang/Throwable" "cause" "Ljava/lang/Throwable;") ∈ lw_all := lw_g (lw_at lw_m4 103 rfl) rfl
theorem q902 : (Jvm.Cond.lays "java/lang/NullPointerException" "java/lang/Throwable" "stackTrace" "[Ljava/lang/StackTraceElement;") ∈ lw_all := lw_g (lw_at lw_m4 104 rfl) rfl
theorem q903 : (Jvm.Cond.lays "java/lang/NullPointerException" "java/lang/Throwable" "depth" "I") ∈ lw_all := lw_g (lw_at lw_m4 105 rfl) rfl
theorem q904 : (Jvm.Cond.lays "java/lang/NullPointerException" "java/lang/Throwable" "suppressedExceptions" "Ljava/util/List;") ∈ lw_all := lw_g (lw_at lw_m4 106 rfl) rfl
theorem q905 : (Jvm.Cond.castable "java/lang/NullPointerException" "java/lang/NullPointerException") ∈ lw_tbl := lw_at lw_m4 107 rfl
theorem q906 : (Jvm.Cond.selects "java/lang/NullPointerException" ({ cls := "java/lang/Throwable", name := "fillInStackTrace", desc := "(I)Ljava/lang/Throwable;" } : Jvm.MethodName) ({ cls := "java/lang/Throwable", name := "fillInStackTrace", desc := "(I)Ljava/lang/Throwable;" } : Jvm.MethodName)) ∈ lw_all := lw_g (lw_at lw_m4 108 rfl) rfl
theorem in_J10 : ∀ w ∈ wsJ100, w ∈ lw_all := lw_in wsJ100 [899, 900, 901, 902, 903, 904, 895, 897] (by decide +kernel) (by decide +kernel)
/-! java/lang/IndexOutOfBoundsException -/
set_option maxRecDepth 100000
def RJ11 : String := "java/lang/IndexOutOfBoundsException"
abbrev cJ11_init : ByteArray := prog_16_method_2_code
def yJ11_init : MethodName := ⟨RJ11, "<init>", "(Ljava/lang/String;)V"⟩
def dkwJ11_init_0 : List UInt8 := [42, 43, 183, 0, 7, 177]
abbrev dktJ11_init_0 : List UInt8 := dkwJ11_init_0 ++ []
theorem dksJ11_init_0 : cJ11_init.data.toList.drop 0 = dktJ11_init_0 := by decide +kernel
theorem dJ11_init_0 : decode cJ11_init 0 = .ok (.aload_n 0, 1) := dk_42 (dk_at dksJ11_init_0 0 rfl rfl)
theorem dJ11_init_1 : decode cJ11_init 1 = .ok (.aload_n 1, 1) := dk_43 (dk_at dksJ11_init_0 1 rfl rfl)
theorem dJ11_init_2 : decode cJ11_init 2 = .ok (.invokespecial 7, 3) := dk_183 0 7 (dk_at dksJ11_init_0 2 rfl rfl)
theorem dJ11_init_5 : decode cJ11_init 5 = .ok (.return_, 1) := dk_177 (dk_at dksJ11_init_0 5 rfl rfl)
theorem q98 : (Jvm.Cond.initialized "java/lang/IndexOutOfBoundsException") ∈ lw_all := lw_g (lw_at lw_m1 20 rfl) rfl
theorem q913 : (Jvm.Cond.instanceMethod ({ cls := "java/lang/IndexOutOfBoundsException", name := "<init>", desc := "(Ljava/lang/String;)V" } : Jvm.MethodName)) ∈ lw_all := lw_g (lw_at lw_m4 115 rfl) rfl
theorem q914 : (Jvm.Cond.code ({ cls := "java/lang/IndexOutOfBoundsException", name := "<init>", desc := "(Ljava/lang/String;)V" } : Jvm.MethodName) prog_16_method_2_code (2 : Nat) (Option.none : Option Jvm.ClassFile.FieldType)) ∈ lw_all := lw_g (lw_at lw_m4 116 rfl) rfl
theorem q915 : (Jvm.Cond.methodLink "java/lang/IndexOutOfBoundsException" (7 : Nat) ({ cls := "java/lang/RuntimeException", name := "<init>", desc := "(Ljava/lang/String;)V" } : Jvm.MethodName)) ∈ lw_all := lw_g (lw_at lw_m4 117 rfl) rfl
theorem q924 : (Jvm.Cond.declares ({ cls := "java/lang/IndexOutOfBoundsException", name := "<init>", desc := "()V" } : Jvm.MethodName)) ∈ lw_tbl := lw_at lw_m4 126 rfl
theorem q925 : (Jvm.Cond.declares ({ cls := "java/lang/IndexOutOfBoundsException", name := "<init>", desc := "(Ljava/lang/String;)V" } : Jvm.MethodName)) ∈ lw_tbl := lw_at lw_m4 127 rfl
/-! java/lang/ArrayIndexOutOfBoundsException -/
set_option maxRecDepth 100000
def RJ12 : String := "java/lang/ArrayIndexOutOfBoundsException"
def TJ12 : u_T := fun k => match k with
  | 0 => ("java/lang/Throwable", "backtrace", "Ljava/lang/Object;", false)
  | 1 => ("java/lang/Throwable", "detailMessage", "Ljava/lang/String;", false)
  | 2 => ("java/lang/Throwable", "cause", "Ljava/lang/Throwable;", false)
  | 3 => ("java/lang/Throwable", "stackTrace", "[Ljava/lang/StackTraceElement;", false)
  | 4 => ("java/lang/Throwable", "depth", "I", false)
  | _ => ("java/lang/Throwable", "suppressedExceptions", "Ljava/util/List;", false)
def tyJ12 : Nat → FieldType := fun k => match k with
  | 0 => .object "java/lang/Object"
  | 1 => .object "java/lang/String"
  | 2 => .object "java/lang/Throwable"
  | 3 => .array (.object "java/lang/StackTraceElement")
  | 4 => .int
  | _ => .object "java/util/List"
abbrev wsJ120 : List Cond := u_ws RJ12 TJ12 6
theorem nmJ12 : ∀ a, a < 6 → ∀ b, b < 6 → a ≠ b → (TJ12 a).2.1 ≠ (TJ12 b).2.1 := by decide +kernel
theorem tyJ12_ok : ∀ k, k < 6 → parseFieldDescriptor (TJ12 k).2.2.1 = some (tyJ12 k) := by decide +kernel
abbrev cJ12_init : ByteArray := prog_13_method_2_code
def yJ12_init : MethodName := ⟨RJ12, "<init>", "(Ljava/lang/String;)V"⟩
def dkwJ12_init_0 : List UInt8 := [42, 43, 183, 0, 7, 177]
abbrev dktJ12_init_0 : List UInt8 := dkwJ12_init_0 ++ []
theorem dksJ12_init_0 : cJ12_init.data.toList.drop 0 = dktJ12_init_0 := by decide +kernel
theorem dJ12_init_0 : decode cJ12_init 0 = .ok (.aload_n 0, 1) := dk_42 (dk_at dksJ12_init_0 0 rfl rfl)
theorem dJ12_init_1 : decode cJ12_init 1 = .ok (.aload_n 1, 1) := dk_43 (dk_at dksJ12_init_0 1 rfl rfl)
theorem dJ12_init_2 : decode cJ12_init 2 = .ok (.invokespecial 7, 3) := dk_183 0 7 (dk_at dksJ12_init_0 2 rfl rfl)
theorem dJ12_init_5 : decode cJ12_init 5 = .ok (.return_, 1) := dk_177 (dk_at dksJ12_init_0 5 rfl rfl)
theorem q99 : (Jvm.Cond.initialized "java/lang/ArrayIndexOutOfBoundsException") ∈ lw_all := lw_g (lw_at lw_m1 21 rfl) rfl
theorem q227 : (Jvm.Cond.selects "java/lang/ArrayIndexOutOfBoundsException" ({ cls := "java/lang/Throwable", name := "fillInStackTrace", desc := "()Ljava/lang/Throwable;" } : Jvm.MethodName) ({ cls := "java/lang/Throwable", name := "fillInStackTrace", desc := "()Ljava/lang/Throwable;" } : Jvm.MethodName)) ∈ lw_all := lw_g (lw_at lw_m1 149 rfl) rfl
theorem q909 : (Jvm.Cond.instantiable "java/lang/ArrayIndexOutOfBoundsException" (6 : Nat)) ∈ lw_all := lw_g (lw_at lw_m4 111 rfl) rfl
theorem q910 : (Jvm.Cond.instanceMethod ({ cls := "java/lang/ArrayIndexOutOfBoundsException", name := "<init>", desc := "(Ljava/lang/String;)V" } : Jvm.MethodName)) ∈ lw_all := lw_g (lw_at lw_m4 112 rfl) rfl
theorem q911 : (Jvm.Cond.code ({ cls := "java/lang/ArrayIndexOutOfBoundsException", name := "<init>", desc := "(Ljava/lang/String;)V" } : Jvm.MethodName) prog_13_method_2_code (2 : Nat) (Option.none : Option Jvm.ClassFile.FieldType)) ∈ lw_all := lw_g (lw_at lw_m4 113 rfl) rfl
theorem q912 : (Jvm.Cond.methodLink "java/lang/ArrayIndexOutOfBoundsException" (7 : Nat) ({ cls := "java/lang/IndexOutOfBoundsException", name := "<init>", desc := "(Ljava/lang/String;)V" } : Jvm.MethodName)) ∈ lw_all := lw_g (lw_at lw_m4 114 rfl) rfl
theorem q916 : (Jvm.Cond.lays "java/lang/ArrayIndexOutOfBoundsException" "java/lang/Throwable" "backtrace" "Ljava/lang/Object;") ∈ lw_all := lw_g (lw_at lw_m4 118 rfl) rfl
theorem q917 : (Jvm.Cond.lays "java/lang/ArrayIndexOutOfBoundsException" "java/lang/Throwable" "detailMessage" "Ljava/lang/String;") ∈ lw_all := lw_g (lw_at lw_m4 119 rfl) rfl
theorem q918 : (Jvm.Cond.lays "java/lang/ArrayIndexOutOfBoundsException" "java/lang/Throwable" "cause" "Ljava/lang/Throwable;") ∈ lw_all := lw_g (lw_at lw_m4 120 rfl) rfl
theorem q919 : (Jvm.Cond.lays "java/lang/ArrayIndexOutOfBoundsException" "java/lang/Throwable" "stackTrace" "[Ljava/lang/StackTraceElement;") ∈ lw_all := lw_g (lw_at lw_m4 121 rfl) rfl
theorem q920 : (Jvm.Cond.lays "java/lang/ArrayIndexOutOfBoundsException" "java/lang/Throwable" "depth" "I") ∈ lw_all := lw_g (lw_at lw_m4 122 rfl) rfl
theorem q921 : (Jvm.Cond.lays "java/lang/ArrayIndexOutOfBoundsException" "java/lang/Throwable" "suppressedExceptions" "Ljava/util/List;") ∈ lw_all := lw_g (lw_at lw_m4 123 rfl) rfl
theorem q922 : (Jvm.Cond.superclass "java/lang/ArrayIndexOutOfBoundsException" "java/lang/IndexOutOfBoundsException") ∈ lw_all := lw_g (lw_at lw_m4 124 rfl) rfl
theorem q923 : (Jvm.Cond.castable "java/lang/ArrayIndexOutOfBoundsException" "java/lang/ArrayIndexOutOfBoundsException") ∈ lw_tbl := lw_at lw_m4 125 rfl
theorem q926 : (Jvm.Cond.selects "java/lang/ArrayIndexOutOfBoundsException" ({ cls := "java/lang/Throwable", name := "fillInStackTrace", desc := "(I)Ljava/lang/Throwable;" } : Jvm.MethodName) ({ cls := "java/lang/Throwable", name := "fillInStackTrace", desc := "(I)Ljava/lang/Throwable;" } : Jvm.MethodName)) ∈ lw_all := lw_g (lw_at lw_m4 128 rfl) rfl
theorem in_J12 : ∀ w ∈ wsJ120, w ∈ lw_all := lw_in wsJ120 [916, 917, 918, 919, 920, 921] (by decide +kernel) (by decide +kernel)
/-! java/lang/ClassCastException -/
set_option maxRecDepth 100000
def RJ13 : String := "java/lang/ClassCastException"
def TJ13 : u_T := fun k => match k with
  | 0 => ("java/lang/Throwable", "backtrace", "Ljava/lang/Object;", false)
  | 1 => ("java/lang/Throwable", "detailMessage", "Ljava/lang/String;", false)
  | 2 => ("java/lang/Throwable", "cause", "Ljava/lang/Throwable;", false)
  | 3 => ("java/lang/Throwable", "stackTrace", "[Ljava/lang/StackTraceElement;", false)
  | 4 => ("java/lang/Throwable", "depth", "I", false)
  | _ => ("java/lang/Throwable", "suppressedExceptions", "Ljava/util/List;", false)
def tyJ13 : Nat → FieldType := fun k => match k with
  | 0 => .object "java/lang/Object"
  | 1 => .object "java/lang/String"
  | 2 => .object "java/lang/Throwable"
  | 3 => .array (.object "java/lang/StackTraceElement")
  | 4 => .int
  | _ => .object "java/util/List"
abbrev wsJ130 : List Cond := u_ws RJ13 TJ13 6
theorem nmJ13 : ∀ a, a < 6 → ∀ b, b < 6 → a ≠ b → (TJ13 a).2.1 ≠ (TJ13 b).2.1 := by decide +kernel
theorem tyJ13_ok : ∀ k, k < 6 → parseFieldDescriptor (TJ13 k).2.2.1 = some (tyJ13 k) := by decide +kernel
abbrev cJ13_init : ByteArray := prog_14_method_2_code
def yJ13_init : MethodName := ⟨RJ13, "<init>", "(Ljava/lang/String;)V"⟩
def dkwJ13_init_0 : List UInt8 := [42, 43, 183, 0, 7, 177]
abbrev dktJ13_init_0 : List UInt8 := dkwJ13_init_0 ++ []
theorem dksJ13_init_0 : cJ13_init.data.toList.drop 0 = dktJ13_init_0 := by decide +kernel
theorem dJ13_init_0 : decode cJ13_init 0 = .ok (.aload_n 0, 1) := dk_42 (dk_at dksJ13_init_0 0 rfl rfl)
theorem dJ13_init_1 : decode cJ13_init 1 = .ok (.aload_n 1, 1) := dk_43 (dk_at dksJ13_init_0 1 rfl rfl)
theorem dJ13_init_2 : decode cJ13_init 2 = .ok (.invokespecial 7, 3) := dk_183 0 7 (dk_at dksJ13_init_0 2 rfl rfl)
theorem dJ13_init_5 : decode cJ13_init 5 = .ok (.return_, 1) := dk_177 (dk_at dksJ13_init_0 5 rfl rfl)
theorem q100 : (Jvm.Cond.initialized "java/lang/ClassCastException") ∈ lw_all := lw_g (lw_at lw_m1 22 rfl) rfl
theorem q228 : (Jvm.Cond.selects "java/lang/ClassCastException" ({ cls := "java/lang/Throwable", name := "fillInStackTrace", desc := "()Ljava/lang/Throwable;" } : Jvm.MethodName) ({ cls := "java/lang/Throwable", name := "fillInStackTrace", desc := "()Ljava/lang/Throwable;" } : Jvm.MethodName)) ∈ lw_all := lw_g (lw_at lw_m1 150 rfl) rfl
theorem q940 : (Jvm.Cond.instantiable "java/lang/ClassCastException" (6 : Nat)) ∈ lw_all := lw_g (lw_at lw_m4 142 rfl) rfl
theorem q941 : (Jvm.Cond.instanceMethod ({ cls := "java/lang/ClassCastException", name := "<init>", desc := "(Ljava/lang/String;)V" } : Jvm.MethodName)) ∈ lw_all := lw_g (lw_at lw_m4 143 rfl) rfl
theorem q942 : (Jvm.Cond.code ({ cls := "java/lang/ClassCastException", name := "<init>", desc := "(Ljava/lang/String;)V" } : Jvm.MethodName) prog_14_method_2_code (2 : Nat) (Option.none : Option Jvm.ClassFile.FieldType)) ∈ lw_all := lw_g (lw_at lw_m4 144 rfl) rfl
theorem q943 : (Jvm.Cond.methodLink "java/lang/ClassCastException" (7 : Nat) ({ cls := "java/lang/RuntimeException", name := "<init>", desc := "(Ljava/lang/String;)V" } : Jvm.MethodName)) ∈ lw_all := lw_g (lw_at lw_m4 145 rfl) rfl
theorem q944 : (Jvm.Cond.lays "java/lang/ClassCastException" "java/lang/Throwable" "backtrace" "Ljava/lang/Object;") ∈ lw_all := lw_g (lw_at lw_m4 146 rfl) rfl
theorem q945 : (Jvm.Cond.lays "java/lang/ClassCastException" "java/lang/Throwable" "detailMessage" "Ljava/lang/String;") ∈ lw_all := lw_g (lw_at lw_m4 147 rfl) rfl
theorem q946 : (Jvm.Cond.lays "java/lang/ClassCastException" "java/lang/Throwable" "cause" "Ljava/lang/Throwable;") ∈ lw_all := lw_g (lw_at lw_m4 148 rfl) rfl
theorem q947 : (Jvm.Cond.lays "java/lang/ClassCastException" "java/lang/Throwable" "stackTrace" "[Ljava/lang/StackTraceElement;") ∈ lw_all := lw_g (lw_at lw_m4 149 rfl) rfl
theorem q948 : (Jvm.Cond.lays "java/lang/ClassCastException" "java/lang/Throwable" "depth" "I") ∈ lw_all := lw_g (lw_at lw_m4 150 rfl) rfl
theorem q949 : (Jvm.Cond.lays "java/lang/ClassCastException" "java/lang/Throwable" "suppressedExceptions" "Ljava/util/List;") ∈ lw_all := lw_g (lw_at lw_m4 151 rfl) rfl
theorem q950 : (Jvm.Cond.superclass "java/lang/ClassCastException" "java/lang/RuntimeException") ∈ lw_all := lw_g (lw_at lw_m4 152 rfl) rfl
theorem q951 : (Jvm.Cond.castable "java/lang/ClassCastException" "java/lang/ClassCastException") ∈ lw_tbl := lw_at lw_m4 153 rfl
theorem q952 : (Jvm.Cond.selects "java/lang/ClassCastException" ({ cls := "java/lang/Throwable", name := "fillInStackTrace", desc := "(I)Ljava/lang/Throwable;" } : Jvm.MethodName) ({ cls := "java/lang/Throwable", name := "fillInStackTrace", desc := "(I)Ljava/lang/Throwable;" } : Jvm.MethodName)) ∈ lw_all := lw_g (lw_at lw_m4 154 rfl) rfl
theorem in_J13 : ∀ w ∈ wsJ130, w ∈ lw_all := lw_in wsJ130 [944, 945, 946, 947, 948, 949] (by decide +kernel) (by decide +kernel)
/-! java/lang/Object -/
set_option maxRecDepth 100000
def RJ14 : String := "java/lang/Object"
abbrev cJ14_init : ByteArray := object_method_1_code
def yJ14_init : MethodName := ⟨RJ14, "<init>", "()V"⟩
theorem dJ14_init_0 : decode cJ14_init 0 = .ok (.return_, 1) := by decide +kernel
theorem q127 : (Jvm.Cond.instanceMethod ({ cls := "java/lang/Object", name := "<init>", desc := "()V" } : Jvm.MethodName)) ∈ lw_all := lw_g (lw_at lw_m1 49 rfl) rfl
theorem q128 : (Jvm.Cond.code ({ cls := "java/lang/Object", name := "<init>", desc := "()V" } : Jvm.MethodName) object_method_1_code (1 : Nat) (Option.none : Option Jvm.ClassFile.FieldType)) ∈ lw_all := lw_g (lw_at lw_m1 50 rfl) rfl
/-! java/lang/RuntimeException -/
set_option maxRecDepth 100000
def RJ2 : String := "java/lang/RuntimeException"
abbrev cJ2_init : ByteArray := prog_21_method_5_code
def yJ2_init : MethodName := ⟨RJ2, "<init>", "(Ljava/lang/String;Ljava/lang/Throwable;ZZ)V"⟩
def dkwJ2_init_0 : List UInt8 := [42, 43, 44, 29, 21, 4, 183, 0, 16, 177]
abbrev dktJ2_init_0 : List UInt8 := dkwJ2_init_0 ++ []
theorem dksJ2_init_0 : cJ2_init.data.toList.drop 0 = dktJ2_init_0 := by decide +kernel
theorem dJ2_init_0 : decode cJ2_init 0 = .ok (.aload_n 0, 1) := dk_42 (dk_at dksJ2_init_0 0 rfl rfl)
theorem dJ2_init_1 : decode cJ2_init 1 = .ok (.aload_n 1, 1) := dk_43 (dk_at dksJ2_init_0 1 rfl rfl)
theorem dJ2_init_2 : decode cJ2_init 2 = .ok (.aload_n 2, 1) := dk_44 (dk_at dksJ2_init_0 2 rfl rfl)
theorem dJ2_init_3 : decode cJ2_init 3 = .ok (.iload_n 3, 1) := dk_29 (dk_at dksJ2_init_0 3 rfl rfl)
theorem dJ2_init_4 : decode cJ2_init 4 = .ok (.iload 4, 2) := dk_21 4 (dk_at dksJ2_init_0 4 rfl rfl)
theorem dJ2_init_6 : decode cJ2_init 6 = .ok (.invokespecial 16, 3) := dk_183 0 16 (dk_at dksJ2_init_0 6 rfl rfl)
theorem dJ2_init_9 : decode cJ2_init 9 = .ok (.return_, 1) := dk_177 (dk_at dksJ2_init_0 9 rfl rfl)
abbrev cJ2_init_2 : ByteArray := prog_21_method_2_code
def yJ2_init_2 : MethodName := ⟨RJ2, "<init>", "(Ljava/lang/String;)V"⟩
def dkwJ2_init_2_0 : List UInt8 := [42, 43, 183, 0, 7, 177]
abbrev dktJ2_init_2_0 : List UInt8 := dkwJ2_init_2_0 ++ []
theorem dksJ2_init_2_0 : cJ2_init_2.data.toList.drop 0 = dktJ2_init_2_0 := by decide +kernel
theorem dJ2_init_2_0 : decode cJ2_init_2 0 = .ok (.aload_n 0, 1) := dk_42 (dk_at dksJ2_init_2_0 0 rfl rfl)
theorem dJ2_init_2_1 : decode cJ2_init_2 1 = .ok (.aload_n 1, 1) := dk_43 (dk_at dksJ2_init_2_0 1 rfl rfl)
theorem dJ2_init_2_2 : decode cJ2_init_2 2 = .ok (.invokespecial 7, 3) := dk_183 0 7 (dk_at dksJ2_init_2_0 2 rfl rfl)
theorem dJ2_init_2_5 : decode cJ2_init_2 5 = .ok (.return_, 1) := dk_177 (dk_at dksJ2_init_2_0 5 rfl rfl)
abbrev cJ2_init_3 : ByteArray := prog_21_method_1_code
def yJ2_init_3 : MethodName := ⟨RJ2, "<init>", "()V"⟩
theorem dJ2_init_3_0 : decode cJ2_init_3 0 = .ok (.aload_n 0, 1) := by decide +kernel
theorem dJ2_init_3_1 : decode cJ2_init_3 1 = .ok (.invokespecial 1, 3) := by decide +kernel
theorem dJ2_init_3_4 : decode cJ2_init_3 4 = .ok (.return_, 1) := by decide +kernel
theorem q88 : (Jvm.Cond.initialized "java/lang/RuntimeException") ∈ lw_all := lw_g (lw_at lw_m1 10 rfl) rfl
theorem q197 : (Jvm.Cond.declares ({ cls := "java/lang/RuntimeException", name := "<init>", desc := "()V" } : Jvm.MethodName)) ∈ lw_tbl := lw_at lw_m1 119 rfl
theorem q198 : (Jvm.Cond.declares ({ cls := "java/lang/RuntimeException", name := "<init>", desc := "(Ljava/lang/String;)V" } : Jvm.MethodName)) ∈ lw_tbl := lw_at lw_m1 120 rfl
theorem q239 : (Jvm.Cond.sameMethod "java/lang/RuntimeException" "java/lang/Throwable" "fillInStackTrace" "()Ljava/lang/Throwable;") ∈ lw_all := lw_g (lw_at lw_m1 161 rfl) rfl
theorem q242 : (Jvm.Cond.superclass "java/lang/RuntimeException" "java/lang/Exception") ∈ lw_all := lw_g (lw_at lw_m1 164 rfl) rfl
theorem q254 : (Jvm.Cond.instanceMethod ({ cls := "java/lang/RuntimeException", name := "<init>", desc := "(Ljava/lang/String;Ljava/lang/Throwable;ZZ)V" } : Jvm.MethodName)) ∈ lw_all := lw_g (lw_at lw_m1 176 rfl) rfl
theorem q255 : (Jvm.Cond.code ({ cls := "java/lang/RuntimeException", name := "<init>", desc := "(Ljava/lang/String;Ljava/lang/Throwable;ZZ)V" } : Jvm.MethodName) prog_21_method_5_code (5 : Nat) (Option.none : Option Jvm.ClassFile.FieldType)) ∈ lw_all := lw_g (lw_at lw_m1 177 rfl) rfl
theorem q256 : (Jvm.Cond.methodLink "java/lang/RuntimeException" (16 : Nat) ({ cls := "java/lang/Exception", name := "<init>", desc := "(Ljava/lang/String;Ljava/lang/Throwable;ZZ)V" } : Jvm.MethodName)) ∈ lw_all := lw_g (lw_at lw_m1 178 rfl) rfl
theorem q853 : (Jvm.Cond.instanceMethod ({ cls := "java/lang/RuntimeException", name := "<init>", desc := "(Ljava/lang/String;)V" } : Jvm.MethodName)) ∈ lw_all := lw_g (lw_at lw_m4 55 rfl) rfl
theorem q854 : (Jvm.Cond.code ({ cls := "java/lang/RuntimeException", name := "<init>", desc := "(Ljava/lang/String;)V" } : Jvm.MethodName) prog_21_method_2_code (2 : Nat) (Option.none : Option Jvm.ClassFile.FieldType)) ∈ lw_all := lw_g (lw_at lw_m4 56 rfl) rfl
theorem q855 : (Jvm.Cond.methodLink "java/lang/RuntimeException" (7 : Nat) ({ cls := "java/lang/Exception", name := "<init>", desc := "(Ljava/lang/String;)V" } : Jvm.MethodName)) ∈ lw_all := lw_g (lw_at lw_m4 57 rfl) rfl
theorem q887 : (Jvm.Cond.instanceMethod ({ cls := "java/lang/RuntimeException", name := "<init>", desc := "()V" } : Jvm.MethodName)) ∈ lw_all := lw_g (lw_at lw_m4 89 rfl) rfl
theorem q888 : (Jvm.Cond.code ({ cls := "java/lang/RuntimeException", name := "<init>", desc := "()V" } : Jvm.MethodName) prog_21_method_1_code (1 : Nat) (Option.none : Option Jvm.ClassFile.FieldType)) ∈ lw_all := lw_g (lw_at lw_m4 90 rfl) rfl
theorem q889 : (Jvm.Cond.methodLink "java/lang/RuntimeException" (1 : Nat) ({ cls := "java/lang/Exception", name := "<init>", desc := "()V" } : Jvm.MethodName)) ∈ lw_all := lw_g (lw_at lw_m4 91 rfl) rfl
theorem q907 : (Jvm.Cond.castable "java/lang/RuntimeException" "java/lang/Throwable") ∈ lw_tbl := lw_at lw_m4 109 rfl
/-! java/lang/String -/
set_option maxRecDepth 100000
def RJ3 : String := "java/lang/String"
def TJ3 : u_T := fun k => match k with
  | 0 => ("java/lang/String", "value", "[B", true)
  | _ => ("java/lang/String", "coder", "B", true)
def tyJ3 : Nat → FieldType := fun k => match k with
  | 0 => .array .byte
  | _ => .byte
abbrev wsJ30 : List Cond := u_ws RJ3 TJ3 2
theorem nmJ3 : ∀ a, a < 2 → ∀ b, b < 2 → a ≠ b → (TJ3 a).2.1 ≠ (TJ3 b).2.1 := by decide +kernel
theorem tyJ3_ok : ∀ k, k < 2 → parseFieldDescriptor (TJ3 k).2.2.1 = some (tyJ3 k) := by decide +kernel
abbrev cJ3_length : ByteArray := prog_22_method_54_code
def yJ3_length : MethodName := ⟨RJ3, "length", "()I"⟩
def dkwJ3_length_0 : List UInt8 := [42, 180, 0, 9, 190, 42, 182, 1, 79, 122, 172]
abbrev dktJ3_length_0 : List UInt8 := dkwJ3_length_0 ++ []
theorem dksJ3_length_0 : cJ3_length.data.toList.drop 0 = dktJ3_length_0 := by decide +kernel
theorem dJ3_length_0 : decode cJ3_length 0 = .ok (.aload_n 0, 1) := dk_42 (dk_at dksJ3_length_0 0 rfl rfl)
theorem dJ3_length_1 : decode cJ3_length 1 = .ok (.getfield 9, 3) := dk_180 0 9 (dk_at dksJ3_length_0 1 rfl rfl)
theorem dJ3_length_4 : decode cJ3_length 4 = .ok (.arraylength, 1) := dk_190 (dk_at dksJ3_length_0 4 rfl rfl)
theorem dJ3_length_5 : decode cJ3_length 5 = .ok (.aload_n 0, 1) := dk_42 (dk_at dksJ3_length_0 5 rfl rfl)
theorem dJ3_length_6 : decode cJ3_length 6 = .ok (.invokevirtual 335, 3) := dk_182 1 79 (dk_at dksJ3_length_0 6 rfl rfl)
theorem dJ3_length_9 : decode cJ3_length 9 = .ok (.ishr, 1) := dk_122 (dk_at dksJ3_length_0 9 rfl rfl)
theorem dJ3_length_10 : decode cJ3_length 10 = .ok (.ireturn, 1) := dk_172 (dk_at dksJ3_length_0 10 rfl rfl)
abbrev cJ3_coder : ByteArray := prog_22_method_152_code
def yJ3_coder : MethodName := ⟨RJ3, "coder", "()B"⟩
def dkwJ3_coder_0 : List UInt8 := [178, 0, 38, 153, 0, 10, 42, 180, 0, 15, 167, 0, 4, 4, 172]
abbrev dktJ3_coder_0 : List UInt8 := dkwJ3_coder_0 ++ []
theorem dksJ3_coder_0 : cJ3_coder.data.toList.drop 0 = dktJ3_coder_0 := by decide +kernel
theorem dJ3_coder_0 : decode cJ3_coder 0 = .ok (.getstatic 38, 3) := dk_178 0 38 (dk_at dksJ3_coder_0 0 rfl rfl)
theorem dJ3_coder_3 : decode cJ3_coder 3 = .ok (.ifCond .eq 10, 3) := dk_153 0 10 (dk_at dksJ3_coder_0 3 rfl rfl)
theorem dJ3_coder_6 : decode cJ3_coder 6 = .ok (.aload_n 0, 1) := dk_42 (dk_at dksJ3_coder_0 6 rfl rfl)
theorem dJ3_coder_7 : decode cJ3_coder 7 = .ok (.getfield 15, 3) := dk_180 0 15 (dk_at dksJ3_coder_0 7 rfl rfl)
theorem dJ3_coder_10 : decode cJ3_coder 10 = .ok (.goto 4, 3) := dk_167 0 4 (dk_at dksJ3_coder_0 10 rfl rfl)
theorem dJ3_coder_13 : decode cJ3_coder 13 = .ok (.iconst 1, 1) := dk_4 (dk_at dksJ3_coder_0 13 rfl rfl)
theorem dJ3_coder_14 : decode cJ3_coder 14 = .ok (.ireturn, 1) := dk_172 (dk_at dksJ3_coder_0 14 rfl rfl)
abbrev cJ3_charAt : ByteArray := prog_22_method_56_code
def yJ3_charAt : MethodName := ⟨RJ3, "charAt", "(I)C"⟩
def dkwJ3_charAt_1 : List UInt8 := [172]
abbrev dktJ3_charAt_1 : List UInt8 := dkwJ3_charAt_1 ++ []
def dkwJ3_charAt_0 : List UInt8 := [42, 182, 1, 236, 153, 0, 12, 42, 180, 0, 9, 27, 184, 1, 239, 172, 42, 180, 0, 9, 27, 184, 1, 242]
abbrev dktJ3_charAt_0 : List UInt8 := dkwJ3_charAt_0 ++ dktJ3_charAt_1
theorem dksJ3_charAt_0 : cJ3_charAt.data.toList.drop 0 = dktJ3_charAt_0 := by decide +kernel
theorem dksJ3_charAt_1 : cJ3_charAt.data.toList.drop 24 = dktJ3_charAt_1 := dk_seg dksJ3_charAt_0 24 rfl rfl
theorem dJ3_charAt_0 : decode cJ3_charAt 0 = .ok (.aload_n 0, 1) := dk_42 (dk_at dksJ3_charAt_0 0 rfl rfl)
theorem dJ3_charAt_1 : decode cJ3_charAt 1 = .ok (.invokevirtual 492, 3) := dk_182 1 236 (dk_at dksJ3_charAt_0 1 rfl rfl)
theorem dJ3_charAt_4 : decode cJ3_charAt 4 = .ok (.ifCond .eq 12, 3) := dk_153 0 12 (dk_at dksJ3_charAt_0 4 rfl rfl)
theorem dJ3_charAt_7 : decode cJ3_charAt 7 = .ok (.aload_n 0, 1) := dk_42 (dk_at dksJ3_charAt_0 7 rfl rfl)
theorem dJ3_charAt_8 : decode cJ3_charAt 8 = .ok (.getfield 9, 3) := dk_180 0 9 (dk_at dksJ3_charAt_0 8 rfl rfl)
theorem dJ3_charAt_11 : decode cJ3_charAt 11 = .ok (.iload_n 1, 1) := dk_27 (dk_at dksJ3_charAt_0 11 rfl rfl)
theorem dJ3_charAt_12 : decode cJ3_charAt 12 = .ok (.invokestatic 495, 3) := dk_184 1 239 (dk_at dksJ3_charAt_0 12 rfl rfl)
theorem dJ3_charAt_15 : decode cJ3_charAt 15 = .ok (.ireturn, 1) := dk_172 (dk_at dksJ3_charAt_0 15 rfl rfl)
theorem dJ3_charAt_16 : decode cJ3_charAt 16 = .ok (.aload_n 0, 1) := dk_42 (dk_at dksJ3_charAt_0 16 rfl rfl)
theorem dJ3_charAt_17 : decode cJ3_charAt 17 = .ok (.getfield 9, 3) := dk_180 0 9 (dk_at dksJ3_charAt_0 17 rfl rfl)
theorem dJ3_charAt_20 : decode cJ3_charAt 20 = .ok (.iload_n 1, 1) := dk_27 (dk_at dksJ3_charAt_0 20 rfl rfl)
theorem dJ3_charAt_21 : decode cJ3_charAt 21 = .ok (.invokestatic 498, 3) := dk_184 1 242 (dk_at dksJ3_charAt_0 21 rfl rfl)
theorem dJ3_charAt_24 : decode cJ3_charAt 24 = .ok (.ireturn, 1) := dk_172 (dk_at dksJ3_charAt_1 0 rfl rfl)
abbrev cJ3_isLatin1 : ByteArray := prog_22_method_154_code
def yJ3_isLatin1 : MethodName := ⟨RJ3, "isLatin1", "()Z"⟩
def dkwJ3_isLatin1_0 : List UInt8 := [178, 0, 38, 153, 0, 14, 42, 180, 0, 15, 154, 0, 7, 4, 167, 0, 4, 3, 172]
abbrev dktJ3_isLatin1_0 : List UInt8 := dkwJ3_isLatin1_0 ++ []
theorem dksJ3_isLatin1_0 : cJ3_isLatin1.data.toList.drop 0 = dktJ3_isLatin1_0 := by decide +kernel
theorem dJ3_isLatin1_0 : decode cJ3_isLatin1 0 = .ok (.getstatic 38, 3) := dk_178 0 38 (dk_at dksJ3_isLatin1_0 0 rfl rfl)
theorem dJ3_isLatin1_3 : decode cJ3_isLatin1 3 = .ok (.ifCond .eq 14, 3) := dk_153 0 14 (dk_at dksJ3_isLatin1_0 3 rfl rfl)
theorem dJ3_isLatin1_6 : decode cJ3_isLatin1 6 = .ok (.aload_n 0, 1) := dk_42 (dk_at dksJ3_isLatin1_0 6 rfl rfl)
theorem dJ3_isLatin1_7 : decode cJ3_isLatin1 7 = .ok (.getfield 15, 3) := dk_180 0 15 (dk_at dksJ3_isLatin1_0 7 rfl rfl)
theorem dJ3_isLatin1_10 : decode cJ3_isLatin1 10 = .ok (.ifCond .ne 7, 3) := dk_154 0 7 (dk_at dksJ3_isLatin1_0 10 rfl rfl)
theorem dJ3_isLatin1_13 : decode cJ3_isLatin1 13 = .ok (.iconst 1, 1) := dk_4 (dk_at dksJ3_isLatin1_0 13 rfl rfl)
theorem dJ3_isLatin1_14 : decode cJ3_isLatin1 14 = .ok (.goto 4, 3) := dk_167 0 4 (dk_at dksJ3_isLatin1_0 14 rfl rfl)
theorem dJ3_isLatin1_17 : decode cJ3_isLatin1 17 = .ok (.iconst 0, 1) := dk_3 (dk_at dksJ3_isLatin1_0 17 rfl rfl)
theorem dJ3_isLatin1_18 : decode cJ3_isLatin1 18 = .ok (.ireturn, 1) := dk_172 (dk_at dksJ3_isLatin1_0 18 rfl rfl)
abbrev cJ3_checkIndex : ByteArray := prog_22_method_155_code
def yJ3_checkIndex : MethodName := ⟨RJ3, "checkIndex", "(II)V"⟩
def dkwJ3_checkIndex_0 : List UInt8 := [26, 27, 178, 4, 29, 184, 4, 35, 87, 177]
abbrev dktJ3_checkIndex_0 : List UInt8 := dkwJ3_checkIndex_0 ++ []
theorem dksJ3_checkIndex_0 : cJ3_checkIndex.data.toList.drop 0 = dktJ3_checkIndex_0 := by decide +kernel
theorem dJ3_checkIndex_0 : decode cJ3_checkIndex 0 = .ok (.iload_n 0, 1) := dk_26 (dk_at dksJ3_checkIndex_0 0 rfl rfl)
theorem dJ3_checkIndex_1 : decode cJ3_checkIndex 1 = .ok (.iload_n 1, 1) := dk_27 (dk_at dksJ3_checkIndex_0 1 rfl rfl)
theorem dJ3_checkIndex_2 : decode cJ3_checkIndex 2 = .ok (.getstatic 1053, 3) := dk_178 4 29 (dk_at dksJ3_checkIndex_0 2 rfl rfl)
theorem dJ3_checkIndex_5 : decode cJ3_checkIndex 5 = .ok (.invokestatic 1059, 3) := dk_184 4 35 (dk_at dksJ3_checkIndex_0 5 rfl rfl)
theorem dJ3_checkIndex_8 : decode cJ3_checkIndex 8 = .ok (.pop, 1) := dk_87 (dk_at dksJ3_checkIndex_0 8 rfl rfl)
theorem dJ3_checkIndex_9 : decode cJ3_checkIndex 9 = .ok (.return_, 1) := dk_177 (dk_at dksJ3_checkIndex_0 9 rfl rfl)
theorem q90 : (Jvm.Cond.initialized "java/lang/String") ∈ lw_all := lw_g (lw_at lw_m1 12 rfl) rfl
theorem q331 : (Jvm.Cond.instanceMethod ({ cls := "java/lang/String", name := "length", desc := "()I" } : Jvm.MethodName)) ∈ lw_all := lw_g (lw_at lw_m2 13 rfl) rfl
theorem q332 : (Jvm.Cond.selects "java/lang/String" ({ cls := "java/lang/String", name := "length", desc := "()I" } : Jvm.MethodName) ({ cls := "java/lang/String", name := "length", desc := "()I" } : Jvm.MethodName)) ∈ lw_all := lw_g (lw_at lw_m2 14 rfl) rfl
theorem q333 : (Jvm.Cond.code ({ cls := "java/lang/String", name := "length", desc := "()I" } : Jvm.MethodName) prog_22_method_54_code (1 : Nat) (Option.some Jvm.ClassFile.FieldType.int)) ∈ lw_all := lw_g (lw_at lw_m2 15 rfl) rfl
theorem q334 : (Jvm.Cond.methodLink "java/lang/String" (335 : Nat) ({ cls := "java/lang/String", name := "coder", desc := "()B" } : Jvm.MethodName)) ∈ lw_all := lw_g (lw_at lw_m2 16 rfl) rfl
theorem q335 : (Jvm.Cond.instanceMethod ({ cls := "java/lang/String", name := "coder", desc := "()B" } : Jvm.MethodName)) ∈ lw_all := lw_g (lw_at lw_m2 17 rfl) rfl
theorem q336 : (Jvm.Cond.selects "java/lang/String" ({ cls := "java/lang/String", name := "coder", desc := "()B" } : Jvm.MethodName) ({ cls := "java/lang/String", name := "coder", desc := "()B" } : Jvm.MethodName)) ∈ lw_all := lw_g (lw_at lw_m2 18 rfl) rfl
theorem q337 : (Jvm.Cond.code ({ cls := "java/lang/String", name := "coder", desc := "()B" } : Jvm.MethodName) prog_22_method_152_code (1 : Nat) (Option.some Jvm.ClassFile.FieldType.byte)) ∈ lw_all := lw_g (lw_at lw_m2 19 rfl) rfl
theorem q338 : (Jvm.Cond.fieldLink "java/lang/String" (38 : Nat) "java/lang/String" "COMPACT_STRINGS" "Z") ∈ lw_all := lw_g (lw_at lw_m2 20 rfl) rfl
theorem q339 : (Jvm.Cond.laysStatic "java/lang/String" "COMPACT_STRINGS" "Z") ∈ lw_tbl := lw_at lw_m2 21 rfl
theorem q341 : (Jvm.Cond.instanceMethod ({ cls := "java/lang/String", name := "charAt", desc := "(I)C" } : Jvm.MethodName)) ∈ lw_all := lw_g (lw_at lw_m2 23 rfl) rfl
theorem q342 : (Jvm.Cond.selects "java/lang/String" ({ cls := "java/lang/String", name := "charAt", desc := "(I)C" } : Jvm.MethodName) ({ cls := "java/lang/String", name := "charAt", desc := "(I)C" } : Jvm.MethodName)) ∈ lw_all := lw_g (lw_at lw_m2 24 rfl) rfl
theorem q343 : (Jvm.Cond.code ({ cls := "java/lang/String", name := "charAt", desc := "(I)C" } : Jvm.MethodName) prog_22_method_56_code (2 : Nat) (Option.some Jvm.ClassFile.FieldType.char)) ∈ lw_all := lw_g (lw_at lw_m2 25 rfl) rfl
theorem q344 : (Jvm.Cond.methodLink "java/lang/String" (492 : Nat) ({ cls := "java/lang/String", name := "isLatin1", desc := "()Z" } : Jvm.MethodName)) ∈ lw_all := lw_g (lw_at lw_m2 26 rfl) rfl
theorem q345 : (Jvm.Cond.instanceMethod ({ cls := "java/lang/String", name := "isLatin1", desc := "()Z" } : Jvm.MethodName)) ∈ lw_all := lw_g (lw_at lw_m2 27 rfl) rfl
theorem q346 : (Jvm.Cond.selects "java/lang/String" ({ cls := "java/lang/String", name := "isLatin1", desc := "()Z" } : Jvm.MethodName) ({ cls := "java/lang/String", name := "isLatin1", desc := "()Z" } : Jvm.MethodName)) ∈ lw_all := lw_g (lw_at lw_m2 28 rfl) rfl
theorem q347 : (Jvm.Cond.code ({ cls := "java/lang/String", name := "isLatin1", desc := "()Z" } : Jvm.MethodName) prog_22_method_154_code (1 : Nat) (Option.some Jvm.ClassFile.FieldType.boolean)) ∈ lw_all := lw_g (lw_at lw_m2 29 rfl) rfl
theorem q348 : (Jvm.Cond.methodLink "java/lang/String" (495 : Nat) ({ cls := "java/lang/StringLatin1", name := "charAt", desc := "([BI)C" } : Jvm.MethodName)) ∈ lw_all := lw_g (lw_at lw_m2 30 rfl) rfl
theorem q352 : (Jvm.Cond.static ({ cls := "java/lang/String", name := "checkIndex", desc := "(II)V" } : Jvm.MethodName)) ∈ lw_all := lw_g (lw_at lw_m2 34 rfl) rfl
theorem q353 : (Jvm.Cond.code ({ cls := "java/lang/String", name := "checkIndex", desc := "(II)V" } : Jvm.MethodName) prog_22_method_155_code (2 : Nat) (Option.none : Option Jvm.ClassFile.FieldType)) ∈ lw_all := lw_g (lw_at lw_m2 35 rfl) rfl
theorem q354 : (Jvm.Cond.fieldLink "java/lang/String" (1053 : Nat) "jdk/internal/util/Preconditions" "SIOOBE_FORMATTER" "Ljava/util/function/BiFunction;") ∈ lw_all := lw_g (lw_at lw_m2 36 rfl) rfl
theorem q356 : (Jvm.Cond.methodLink "java/lang/String" (1059 : Nat) ({ cls := "jdk/internal/util/Preconditions", name := "checkIndex", desc := "(IILjava/util/function/BiFunction;)I" } : Jvm.MethodName)) ∈ lw_all := lw_g (lw_at lw_m2 38 rfl) rfl
theorem q359 : (Jvm.Cond.methodLink "java/lang/String" (498 : Nat) ({ cls := "java/lang/StringUTF16", name := "charAt", desc := "([BI)C" } : Jvm.MethodName)) ∈ lw_all := lw_g (lw_at lw_m2 41 rfl) rfl
theorem q870 : (Jvm.Cond.instantiable "java/lang/String" (4 : Nat)) ∈ lw_all := lw_g (lw_at lw_m4 72 rfl) rfl
theorem q871 : (Jvm.Cond.laysFinal "java/lang/String" "java/lang/String" "value" "[B") ∈ lw_all := lw_g (lw_at lw_m4 73 rfl) rfl
theorem q872 : (Jvm.Cond.soleField "java/lang/String" "value") ∈ lw_all := lw_g (lw_at lw_m4 74 rfl) rfl
theorem q873 : (Jvm.Cond.laysFinal "java/lang/String" "java/lang/String" "coder" "B") ∈ lw_all := lw_g (lw_at lw_m4 75 rfl) rfl
theorem q874 : (Jvm.Cond.soleField "java/lang/String" "coder") ∈ lw_all := lw_g (lw_at lw_m4 76 rfl) rfl
theorem q1458 : (Jvm.Cond.fieldLink "java/lang/String" (9 : Nat) "java/lang/String" "value" "[B") ∈ lw_all := lw_g (lw_at lw_m6 180 rfl) rfl
theorem q1459 : (Jvm.Cond.fieldLink "java/lang/String" (15 : Nat) "java/lang/String" "coder" "B") ∈ lw_all := lw_g (lw_at lw_m6 181 rfl) rfl
theorem in_J3 : ∀ w ∈ wsJ30, w ∈ lw_all := lw_in wsJ30 [871, 873] (by decide +kernel) (by decide +kernel)
/-! java/lang/StringLatin1 -/
set_option maxRecDepth 100000
def RJ4 : String := "java/lang/StringLatin1"
abbrev cJ4_charAt : ByteArray := prog_23_method_2_code
def yJ4_charAt : MethodName := ⟨RJ4, "charAt", "([BI)C"⟩
def dkwJ4_charAt_0 : List UInt8 := [27, 42, 190, 184, 0, 9, 42, 27, 51, 17, 0, 255, 126, 146, 172]
abbrev dktJ4_charAt_0 : List UInt8 := dkwJ4_charAt_0 ++ []
theorem dksJ4_charAt_0 : cJ4_charAt.data.toList.drop 0 = dktJ4_charAt_0 := by decide +kernel
theorem dJ4_charAt_0 : decode cJ4_charAt 0 = .ok (.iload_n 1, 1) := dk_27 (dk_at dksJ4_charAt_0 0 rfl rfl)
theorem dJ4_charAt_1 : decode cJ4_charAt 1 = .ok (.aload_n 0, 1) := dk_42 (dk_at dksJ4_charAt_0 1 rfl rfl)
theorem dJ4_charAt_2 : decode cJ4_charAt 2 = .ok (.arraylength, 1) := dk_190 (dk_at dksJ4_charAt_0 2 rfl rfl)
theorem dJ4_charAt_3 : decode cJ4_charAt 3 = .ok (.invokestatic 9, 3) := dk_184 0 9 (dk_at dksJ4_charAt_0 3 rfl rfl)
theorem dJ4_charAt_6 : decode cJ4_charAt 6 = .ok (.aload_n 0, 1) := dk_42 (dk_at dksJ4_charAt_0 6 rfl rfl)
theorem dJ4_charAt_7 : decode cJ4_charAt 7 = .ok (.iload_n 1, 1) := dk_27 (dk_at dksJ4_charAt_0 7 rfl rfl)
theorem dJ4_charAt_8 : decode cJ4_charAt 8 = .ok (.baload, 1) := dk_51 (dk_at dksJ4_charAt_0 8 rfl rfl)
theorem dJ4_charAt_9 : decode cJ4_charAt 9 = .ok (.sipush 255, 3) := dk_17 0 255 (dk_at dksJ4_charAt_0 9 rfl rfl)
theorem dJ4_charAt_12 : decode cJ4_charAt 12 = .ok (.iand, 1) := dk_126 (dk_at dksJ4_charAt_0 12 rfl rfl)
theorem dJ4_charAt_13 : decode cJ4_charAt 13 = .ok (.i2c, 1) := dk_146 (dk_at dksJ4_charAt_0 13 rfl rfl)
theorem dJ4_charAt_14 : decode cJ4_charAt 14 = .ok (.ireturn, 1) := dk_172 (dk_at dksJ4_charAt_0 14 rfl rfl)
theorem q91 : (Jvm.Cond.initialized "java/lang/StringLatin1") ∈ lw_all := lw_g (lw_at lw_m1 13 rfl) rfl
theorem q349 : (Jvm.Cond.static ({ cls := "java/lang/StringLatin1", name := "charAt", desc := "([BI)C" } : Jvm.MethodName)) ∈ lw_all := lw_g (lw_at lw_m2 31 rfl) rfl
theorem q350 : (Jvm.Cond.code ({ cls := "java/lang/StringLatin1", name := "charAt", desc := "([BI)C" } : Jvm.MethodName) prog_23_method_2_code (2 : Nat) (Option.some Jvm.ClassFile.FieldType.char)) ∈ lw_all := lw_g (lw_at lw_m2 32 rfl) rfl
theorem q351 : (Jvm.Cond.methodLink "java/lang/StringLatin1" (9 : Nat) ({ cls := "java/lang/String", name := "checkIndex", desc := "(II)V" } : Jvm.MethodName)) ∈ lw_all := lw_g (lw_at lw_m2 33 rfl) rfl
/-! jdk/internal/util/Preconditions -/
set_option maxRecDepth 100000
def RJ5 : String := "jdk/internal/util/Preconditions"
abbrev cJ5_checkIndex : ByteArray := prog_27_method_11_code
def yJ5_checkIndex : MethodName := ⟨RJ5, "checkIndex", "(IILjava/util/function/BiFunction;)I"⟩
def dkwJ5_checkIndex_0 : List UInt8 := [26, 155, 0, 8, 26, 27, 161, 0, 10, 44, 26, 27, 184, 0, 95, 191, 26, 172]
abbrev dktJ5_checkIndex_0 : List UInt8 := dkwJ5_checkIndex_0 ++ []
theorem dksJ5_checkIndex_0 : cJ5_checkIndex.data.toList.drop 0 = dktJ5_checkIndex_0 := by decide +kernel
theorem dJ5_checkIndex_0 : decode cJ5_checkIndex 0 = .ok (.iload_n 0, 1) := dk_26 (dk_at dksJ5_checkIndex_0 0 rfl rfl)
theorem dJ5_checkIndex_1 : decode cJ5_checkIndex 1 = .ok (.ifCond .lt 8, 3) := dk_155 0 8 (dk_at dksJ5_checkIndex_0 1 rfl rfl)
theorem dJ5_checkIndex_4 : decode cJ5_checkIndex 4 = .ok (.iload_n 0, 1) := dk_26 (dk_at dksJ5_checkIndex_0 4 rfl rfl)
theorem dJ5_checkIndex_5 : decode cJ5_checkIndex 5 = .ok (.iload_n 1, 1) := dk_27 (dk_at dksJ5_checkIndex_0 5 rfl rfl)
theorem dJ5_checkIndex_6 : decode cJ5_checkIndex 6 = .ok (.if_icmp .lt 10, 3) := dk_161 0 10 (dk_at dksJ5_checkIndex_0 6 rfl rfl)
theorem dJ5_checkIndex_9 : decode cJ5_checkIndex 9 = .ok (.aload_n 2, 1) := dk_44 (dk_at dksJ5_checkIndex_0 9 rfl rfl)
theorem dJ5_checkIndex_10 : decode cJ5_checkIndex 10 = .ok (.iload_n 0, 1) := dk_26 (dk_at dksJ5_checkIndex_0 10 rfl rfl)
theorem dJ5_checkIndex_11 : decode cJ5_checkIndex 11 = .ok (.iload_n 1, 1) := dk_27 (dk_at dksJ5_checkIndex_0 11 rfl rfl)
theorem dJ5_checkIndex_12 : decode cJ5_checkIndex 12 = .ok (.invokestatic 95, 3) := dk_184 0 95 (dk_at dksJ5_checkIndex_0 12 rfl rfl)
theorem dJ5_checkIndex_15 : decode cJ5_checkIndex 15 = .ok (.athrow, 1) := dk_191 (dk_at dksJ5_checkIndex_0 15 rfl rfl)
theorem dJ5_checkIndex_16 : decode cJ5_checkIndex 16 = .ok (.iload_n 0, 1) := dk_26 (dk_at dksJ5_checkIndex_0 16 rfl rfl)
theorem dJ5_checkIndex_17 : decode cJ5_checkIndex 17 = .ok (.ireturn, 1) := dk_172 (dk_at dksJ5_checkIndex_0 17 rfl rfl)
theorem q92 : (Jvm.Cond.initialized "jdk/internal/util/Preconditions") ∈ lw_all := lw_g (lw_at lw_m1 14 rfl) rfl
theorem q355 : (Jvm.Cond.laysStatic "jdk/internal/util/Preconditions" "SIOOBE_FORMATTER" "Ljava/util/function/BiFunction;") ∈ lw_tbl := lw_at lw_m2 37 rfl
theorem q357 : (Jvm.Cond.static ({ cls := "jdk/internal/util/Preconditions", name := "checkIndex", desc := "(IILjava/util/function/BiFunction;)I" } : Jvm.MethodName)) ∈ lw_all := lw_g (lw_at lw_m2 39 rfl) rfl
theorem q358 : (Jvm.Cond.code ({ cls := "jdk/internal/util/Preconditions", name := "checkIndex", desc := "(IILjava/util/function/BiFunction;)I" } : Jvm.MethodName) prog_27_method_11_code (3 : Nat) (Option.some Jvm.ClassFile.FieldType.int)) ∈ lw_all := lw_g (lw_at lw_m2 40 rfl) rfl
/-! java/lang/StringUTF16 -/
set_option maxRecDepth 100000
def RJ6 : String := "java/lang/StringUTF16"
abbrev cJ6_charAt : ByteArray := prog_24_method_83_code
def yJ6_charAt : MethodName := ⟨RJ6, "charAt", "([BI)C"⟩
def dkwJ6_charAt_0 : List UInt8 := [27, 42, 184, 0, 67, 42, 27, 184, 0, 71, 172]
abbrev dktJ6_charAt_0 : List UInt8 := dkwJ6_charAt_0 ++ []
theorem dksJ6_charAt_0 : cJ6_charAt.data.toList.drop 0 = dktJ6_charAt_0 := by decide +kernel
theorem dJ6_charAt_0 : decode cJ6_charAt 0 = .ok (.iload_n 1, 1) := dk_27 (dk_at dksJ6_charAt_0 0 rfl rfl)
theorem dJ6_charAt_1 : decode cJ6_charAt 1 = .ok (.aload_n 0, 1) := dk_42 (dk_at dksJ6_charAt_0 1 rfl rfl)
theorem dJ6_charAt_2 : decode cJ6_charAt 2 = .ok (.invokestatic 67, 3) := dk_184 0 67 (dk_at dksJ6_charAt_0 2 rfl rfl)
theorem dJ6_charAt_5 : decode cJ6_charAt 5 = .ok (.aload_n 0, 1) := dk_42 (dk_at dksJ6_charAt_0 5 rfl rfl)
theorem dJ6_charAt_6 : decode cJ6_charAt 6 = .ok (.iload_n 1, 1) := dk_27 (dk_at dksJ6_charAt_0 6 rfl rfl)
theorem dJ6_charAt_7 : decode cJ6_charAt 7 = .ok (.invokestatic 71, 3) := dk_184 0 71 (dk_at dksJ6_charAt_0 7 rfl rfl)
theorem dJ6_charAt_10 : decode cJ6_charAt 10 = .ok (.ireturn, 1) := dk_172 (dk_at dksJ6_charAt_0 10 rfl rfl)
abbrev cJ6_checkIndex : ByteArray := prog_24_method_91_code
def yJ6_checkIndex : MethodName := ⟨RJ6, "checkIndex", "(I[B)V"⟩
def dkwJ6_checkIndex_0 : List UInt8 := [26, 43, 184, 0, 48, 184, 1, 158, 177]
abbrev dktJ6_checkIndex_0 : List UInt8 := dkwJ6_checkIndex_0 ++ []
theorem dksJ6_checkIndex_0 : cJ6_checkIndex.data.toList.drop 0 = dktJ6_checkIndex_0 := by decide +kernel
theorem dJ6_checkIndex_0 : decode cJ6_checkIndex 0 = .ok (.iload_n 0, 1) := dk_26 (dk_at dksJ6_checkIndex_0 0 rfl rfl)
theorem dJ6_checkIndex_1 : decode cJ6_checkIndex 1 = .ok (.aload_n 1, 1) := dk_43 (dk_at dksJ6_checkIndex_0 1 rfl rfl)
theorem dJ6_checkIndex_2 : decode cJ6_checkIndex 2 = .ok (.invokestatic 48, 3) := dk_184 0 48 (dk_at dksJ6_checkIndex_0 2 rfl rfl)
theorem dJ6_checkIndex_5 : decode cJ6_checkIndex 5 = .ok (.invokestatic 414, 3) := dk_184 1 158 (dk_at dksJ6_checkIndex_0 5 rfl rfl)
theorem dJ6_checkIndex_8 : decode cJ6_checkIndex 8 = .ok (.return_, 1) := dk_177 (dk_at dksJ6_checkIndex_0 8 rfl rfl)
abbrev cJ6_length : ByteArray := prog_24_method_6_code
def yJ6_length : MethodName := ⟨RJ6, "length", "([B)I"⟩
def dkwJ6_length_0 : List UInt8 := [42, 190, 4, 122, 172]
abbrev dktJ6_length_0 : List UInt8 := dkwJ6_length_0 ++ []
theorem dksJ6_length_0 : cJ6_length.data.toList.drop 0 = dktJ6_length_0 := by decide +kernel
theorem dJ6_length_0 : decode cJ6_length 0 = .ok (.aload_n 0, 1) := dk_42 (dk_at dksJ6_length_0 0 rfl rfl)
theorem dJ6_length_1 : decode cJ6_length 1 = .ok (.arraylength, 1) := dk_190 (dk_at dksJ6_length_0 1 rfl rfl)
theorem dJ6_length_2 : decode cJ6_length 2 = .ok (.iconst 1, 1) := dk_4 (dk_at dksJ6_length_0 2 rfl rfl)
theorem dJ6_length_3 : decode cJ6_length 3 = .ok (.ishr, 1) := dk_122 (dk_at dksJ6_length_0 3 rfl rfl)
theorem dJ6_length_4 : decode cJ6_length 4 = .ok (.ireturn, 1) := dk_172 (dk_at dksJ6_length_0 4 rfl rfl)
abbrev cJ6_getChar : ByteArray := prog_24_method_5_code
def yJ6_getChar : MethodName := ⟨RJ6, "getChar", "([BI)C"⟩
def dkwJ6_getChar_2 : List UInt8 := [51, 17, 0, 255, 126, 178, 0, 63, 120, 128, 146, 172]
abbrev dktJ6_getChar_2 : List UInt8 := dkwJ6_getChar_2 ++ []
def dkwJ6_getChar_1 : List UInt8 := [183, 0, 56, 191, 27, 4, 120, 60, 42, 27, 132, 1, 1, 51, 17, 0, 255, 126, 178, 0, 59, 120, 42, 27]
abbrev dktJ6_getChar_1 : List UInt8 := dkwJ6_getChar_1 ++ dktJ6_getChar_2
def dkwJ6_getChar_0 : List UInt8 := [178, 0, 44, 154, 0, 25, 27, 155, 0, 11, 27, 42, 184, 0, 48, 161, 0, 13, 187, 0, 52, 89, 18, 54]
abbrev dktJ6_getChar_0 : List UInt8 := dkwJ6_getChar_0 ++ dktJ6_getChar_1
theorem dksJ6_getChar_0 : cJ6_getChar.data.toList.drop 0 = dktJ6_getChar_0 := by decide +kernel
theorem dksJ6_getChar_1 : cJ6_getChar.data.toList.drop 24 = dktJ6_getChar_1 := dk_seg dksJ6_getChar_0 24 rfl rfl
theorem dksJ6_getChar_2 : cJ6_getChar.data.toList.drop 48 = dktJ6_getChar_2 := dk_seg dksJ6_getChar_1 24 rfl rfl
theorem dJ6_getChar_0 : decode cJ6_getChar 0 = .ok (.getstatic 44, 3) := dk_178 0 44 (dk_at dksJ6_getChar_0 0 rfl rfl)
theorem dJ6_getChar_3 : decode cJ6_getChar 3 = .ok (.ifCond .ne 25, 3) := dk_154 0 25 (dk_at dksJ6_getChar_0 3 rfl rfl)
theorem dJ6_getChar_6 : decode cJ6_getChar 6 = .ok (.iload_n 1, 1) := dk_27 (dk_at dksJ6_getChar_0 6 rfl rfl)
theorem dJ6_getChar_7 : decode cJ6_getChar 7 = .ok (.ifCond .lt 11, 3) := dk_155 0 11 (dk_at dksJ6_getChar_0 7 rfl rfl)
theorem dJ6_getChar_10 : decode cJ6_getChar 10 = .ok (.iload_n 1, 1) := dk_27 (dk_at dksJ6_getChar_0 10 rfl rfl)
theorem dJ6_getChar_11 : decode cJ6_getChar 11 = .ok (.aload_n 0, 1) := dk_42 (dk_at dksJ6_getChar_0 11 rfl rfl)
theorem dJ6_getChar_12 : decode cJ6_getChar 12 = .ok (.invokestatic 48, 3) := dk_184 0 48 (dk_at dksJ6_getChar_0 12 rfl rfl)
theorem dJ6_getChar_15 : decode cJ6_getChar 15 = .ok (.if_icmp .lt 13, 3) := dk_161 0 13 (dk_at dksJ6_getChar_0 15 rfl rfl)
theorem dJ6_getChar_18 : decode cJ6_getChar 18 = .ok (.new 52, 3) := dk_187 0 52 (dk_at dksJ6_getChar_0 18 rfl rfl)
theorem dJ6_getChar_21 : decode cJ6_getChar 21 = .ok (.dup, 1) := dk_89 (dk_at dksJ6_getChar_0 21 rfl rfl)
theorem dJ6_getChar_22 : decode cJ6_getChar 22 = .ok (.ldc 54, 2) := dk_18 54 (dk_at dksJ6_getChar_0 22 rfl rfl)
theorem dJ6_getChar_24 : decode cJ6_getChar 24 = .ok (.invokespecial 56, 3) := dk_183 0 56 (dk_at dksJ6_getChar_1 0 rfl rfl)
theorem dJ6_getChar_27 : decode cJ6_getChar 27 = .ok (.athrow, 1) := dk_191 (dk_at dksJ6_getChar_1 3 rfl rfl)
theorem dJ6_getChar_28 : decode cJ6_getChar 28 = .ok (.iload_n 1, 1) := dk_27 (dk_at dksJ6_getChar_1 4 rfl rfl)
theorem dJ6_getChar_29 : decode cJ6_getChar 29 = .ok (.iconst 1, 1) := dk_4 (dk_at dksJ6_getChar_1 5 rfl rfl)
theorem dJ6_getChar_30 : decode cJ6_getChar 30 = .ok (.ishl, 1) := dk_120 (dk_at dksJ6_getChar_1 6 rfl rfl)
theorem dJ6_getChar_31 : decode cJ6_getChar 31 = .ok (.istore_n 1, 1) := dk_60 (dk_at dksJ6_getChar_1 7 rfl rfl)
theorem dJ6_getChar_32 : decode cJ6_getChar 32 = .ok (.aload_n 0, 1) := dk_42 (dk_at dksJ6_getChar_1 8 rfl rfl)
theorem dJ6_getChar_33 : decode cJ6_getChar 33 = .ok (.iload_n 1, 1) := dk_27 (dk_at dksJ6_getChar_1 9 rfl rfl)
theorem dJ6_getChar_34 : decode cJ6_getChar 34 = .ok (.iinc 1 1, 3) := dk_132 1 1 (dk_at dksJ6_getChar_1 10 rfl rfl)
theorem dJ6_getChar_37 : decode cJ6_getChar 37 = .ok (.baload, 1) := dk_51 (dk_at dksJ6_getChar_1 13 rfl rfl)
theorem dJ6_getChar_38 : decode cJ6_getChar 38 = .ok (.sipush 255, 3) := dk_17 0 255 (dk_at dksJ6_getChar_1 14 rfl rfl)
theorem dJ6_getChar_41 : decode cJ6_getChar 41 = .ok (.iand, 1) := dk_126 (dk_at dksJ6_getChar_1 17 rfl rfl)
theorem dJ6_getChar_42 : decode cJ6_getChar 42 = .ok (.getstatic 59, 3) := dk_178 0 59 (dk_at dksJ6_getChar_1 18 rfl rfl)
theorem dJ6_getChar_45 : decode cJ6_getChar 45 = .ok (.ishl, 1) := dk_120 (dk_at dksJ6_getChar_1 21 rfl rfl)
theorem dJ6_getChar_46 : decode cJ6_getChar 46 = .ok (.aload_n 0, 1) := dk_42 (dk_at dksJ6_getChar_1 22 rfl rfl)
theorem dJ6_getChar_47 : decode cJ6_getChar 47 = .ok (.iload_n 1, 1) := dk_27 (dk_at dksJ6_getChar_1 23 rfl rfl)
theorem dJ6_getChar_48 : decode cJ6_getChar 48 = .ok (.baload, 1) := dk_51 (dk_at dksJ6_getChar_2 0 rfl rfl)
theorem dJ6_getChar_49 : decode cJ6_getChar 49 = .ok (.sipush 255, 3) := dk_17 0 255 (dk_at dksJ6_getChar_2 1 rfl rfl)
theorem dJ6_getChar_52 : decode cJ6_getChar 52 = .ok (.iand, 1) := dk_126 (dk_at dksJ6_getChar_2 4 rfl rfl)
theorem dJ6_getChar_53 : decode cJ6_getChar 53 = .ok (.getstatic 63, 3) := dk_178 0 63 (dk_at dksJ6_getChar_2 5 rfl rfl)
theorem dJ6_getChar_56 : decode cJ6_getChar 56 = .ok (.ishl, 1) := dk_120 (dk_at dksJ6_getChar_2 8 rfl rfl)
theorem dJ6_getChar_57 : decode cJ6_getChar 57 = .ok (.ior, 1) := dk_128 (dk_at dksJ6_getChar_2 9 rfl rfl)
theorem dJ6_getChar_58 : decode cJ6_getChar 58 = .ok (.i2c, 1) := dk_146 (dk_at dksJ6_getChar_2 10 rfl rfl)
theorem dJ6_getChar_59 : decode cJ6_getChar 59 = .ok (.ireturn, 1) := dk_172 (dk_at dksJ6_getChar_2 11 rfl rfl)
theorem q93 : (Jvm.Cond.initialized "java/lang/StringUTF16") ∈ lw_all := lw_g (lw_at lw_m1 15 rfl) rfl
theorem q360 : (Jvm.Cond.static ({ cls := "java/lang/StringUTF16", name := "charAt", desc := "([BI)C" } : Jvm.MethodName)) ∈ lw_all := lw_g (lw_at lw_m2 42 rfl) rfl
theorem q361 : (Jvm.Cond.code ({ cls := "java/lang/StringUTF16", name := "charAt", desc := "([BI)C" } : Jvm.MethodName) prog_24_method_83_code (2 : Nat) (Option.some Jvm.ClassFile.FieldType.char)) ∈ lw_all := lw_g (lw_at lw_m2 43 rfl) rfl
theorem q362 : (Jvm.Cond.methodLink "java/lang/StringUTF16" (67 : Nat) ({ cls := "java/lang/StringUTF16", name := "checkIndex", desc := "(I[B)V" } : Jvm.MethodName)) ∈ lw_all := lw_g (lw_at lw_m2 44 rfl) rfl
theorem q363 : (Jvm.Cond.static ({ cls := "java/lang/StringUTF16", name := "checkIndex", desc := "(I[B)V" } : Jvm.MethodName)) ∈ lw_all := lw_g (lw_at lw_m2 45 rfl) rfl
theorem q364 : (Jvm.Cond.code ({ cls := "java/lang/StringUTF16", name := "checkIndex", desc := "(I[B)V" } : Jvm.MethodName) prog_24_method_91_code (2 : Nat) (Option.none : Option Jvm.ClassFile.FieldType)) ∈ lw_all := lw_g (lw_at lw_m2 46 rfl) rfl
theorem q365 : (Jvm.Cond.methodLink "java/lang/StringUTF16" (48 : Nat) ({ cls := "java/lang/StringUTF16", name := "length", desc := "([B)I" } : Jvm.MethodName)) ∈ lw_all := lw_g (lw_at lw_m2 47 rfl) rfl
theorem q366 : (Jvm.Cond.static ({ cls := "java/lang/StringUTF16", name := "length", desc := "([B)I" } : Jvm.MethodName)) ∈ lw_all := lw_g (lw_at lw_m2 48 rfl) rfl
theorem q367 : (Jvm.Cond.code ({ cls := "java/lang/StringUTF16", name := "length", desc := "([B)I" } : Jvm.MethodName) prog_24_method_6_code (1 : Nat) (Option.some Jvm.ClassFile.FieldType.int)) ∈ lw_all := lw_g (lw_at lw_m2 49 rfl) rfl
theorem q368 : (Jvm.Cond.methodLink "java/lang/StringUTF16" (414 : Nat) ({ cls := "java/lang/String", name := "checkIndex", desc := "(II)V" } : Jvm.MethodName)) ∈ lw_all := lw_g (lw_at lw_m2 50 rfl) rfl
theorem q369 : (Jvm.Cond.methodLink "java/lang/StringUTF16" (71 : Nat) ({ cls := "java/lang/StringUTF16", name := "getChar", desc := "([BI)C" } : Jvm.MethodName)) ∈ lw_all := lw_g (lw_at lw_m2 51 rfl) rfl
theorem q370 : (Jvm.Cond.static ({ cls := "java/lang/StringUTF16", name := "getChar", desc := "([BI)C" } : Jvm.MethodName)) ∈ lw_all := lw_g (lw_at lw_m2 52 rfl) rfl
theorem q371 : (Jvm.Cond.code ({ cls := "java/lang/StringUTF16", name := "getChar", desc := "([BI)C" } : Jvm.MethodName) prog_24_method_5_code (2 : Nat) (Option.some Jvm.ClassFile.FieldType.char)) ∈ lw_all := lw_g (lw_at lw_m2 53 rfl) rfl
theorem q372 : (Jvm.Cond.fieldLink "java/lang/StringUTF16" (44 : Nat) "java/lang/StringUTF16" "$assertionsDisabled" "Z") ∈ lw_all := lw_g (lw_at lw_m2 54 rfl) rfl
theorem q373 : (Jvm.Cond.laysStatic "java/lang/StringUTF16" "$assertionsDisabled" "Z") ∈ lw_tbl := lw_at lw_m2 55 rfl
theorem q374 : (Jvm.Cond.fieldLink "java/lang/StringUTF16" (59 : Nat) "java/lang/StringUTF16" "HI_BYTE_SHIFT" "I") ∈ lw_all := lw_g (lw_at lw_m2 56 rfl) rfl
theorem q375 : (Jvm.Cond.laysStatic "java/lang/StringUTF16" "HI_BYTE_SHIFT" "I") ∈ lw_tbl := lw_at lw_m2 57 rfl
theorem q376 : (Jvm.Cond.fieldLink "java/lang/StringUTF16" (63 : Nat) "java/lang/StringUTF16" "LO_BYTE_SHIFT" "I") ∈ lw_all := lw_g (lw_at lw_m2 58 rfl) rfl
theorem q377 : (Jvm.Cond.laysStatic "java/lang/StringUTF16" "LO_BYTE_SHIFT" "I") ∈ lw_tbl := lw_at lw_m2 59 rfl
/-! java/lang/Math -/
set_option maxRecDepth 100000
def RJ7 : String := "java/lang/Math"
abbrev cJ7_max : ByteArray := prog_18_method_65_code
def yJ7_max : MethodName := ⟨RJ7, "max", "(II)I"⟩
def dkwJ7_max_0 : List UInt8 := [26, 27, 161, 0, 7, 26, 167, 0, 4, 27, 172]
abbrev dktJ7_max_0 : List UInt8 := dkwJ7_max_0 ++ []
theorem dksJ7_max_0 : cJ7_max.data.toList.drop 0 = dktJ7_max_0 := by decide +kernel
theorem dJ7_max_0 : decode cJ7_max 0 = .ok (.iload_n 0, 1) := dk_26 (dk_at dksJ7_max_0 0 rfl rfl)
theorem dJ7_max_1 : decode cJ7_max 1 = .ok (.iload_n 1, 1) := dk_27 (dk_at dksJ7_max_0 1 rfl rfl)
theorem dJ7_max_2 : decode cJ7_max 2 = .ok (.if_icmp .lt 7, 3) := dk_161 0 7 (dk_at dksJ7_max_0 2 rfl rfl)
theorem dJ7_max_5 : decode cJ7_max 5 = .ok (.iload_n 0, 1) := dk_26 (dk_at dksJ7_max_0 5 rfl rfl)
theorem dJ7_max_6 : decode cJ7_max 6 = .ok (.goto 4, 3) := dk_167 0 4 (dk_at dksJ7_max_0 6 rfl rfl)
theorem dJ7_max_9 : decode cJ7_max 9 = .ok (.iload_n 1, 1) := dk_27 (dk_at dksJ7_max_0 9 rfl rfl)
theorem dJ7_max_10 : decode cJ7_max 10 = .ok (.ireturn, 1) := dk_172 (dk_at dksJ7_max_0 10 rfl rfl)
abbrev cJ7_min : ByteArray := prog_18_method_69_code
def yJ7_min : MethodName := ⟨RJ7, "min", "(II)I"⟩
def dkwJ7_min_0 : List UInt8 := [26, 27, 163, 0, 7, 26, 167, 0, 4, 27, 172]
abbrev dktJ7_min_0 : List UInt8 := dkwJ7_min_0 ++ []
theorem dksJ7_min_0 : cJ7_min.data.toList.drop 0 = dktJ7_min_0 := by decide +kernel
theorem dJ7_min_0 : decode cJ7_min 0 = .ok (.iload_n 0, 1) := dk_26 (dk_at dksJ7_min_0 0 rfl rfl)
theorem dJ7_min_1 : decode cJ7_min 1 = .ok (.iload_n 1, 1) := dk_27 (dk_at dksJ7_min_0 1 rfl rfl)
theorem dJ7_min_2 : decode cJ7_min 2 = .ok (.if_icmp .gt 7, 3) := dk_163 0 7 (dk_at dksJ7_min_0 2 rfl rfl)
theorem dJ7_min_5 : decode cJ7_min 5 = .ok (.iload_n 0, 1) := dk_26 (dk_at dksJ7_min_0 5 rfl rfl)
theorem dJ7_min_6 : decode cJ7_min 6 = .ok (.goto 4, 3) := dk_167 0 4 (dk_at dksJ7_min_0 6 rfl rfl)
theorem dJ7_min_9 : decode cJ7_min 9 = .ok (.iload_n 1, 1) := dk_27 (dk_at dksJ7_min_0 9 rfl rfl)
theorem dJ7_min_10 : decode cJ7_min 10 = .ok (.ireturn, 1) := dk_172 (dk_at dksJ7_min_0 10 rfl rfl)
abbrev cJ7_abs : ByteArray := prog_18_method_59_code
def yJ7_abs : MethodName := ⟨RJ7, "abs", "(I)I"⟩
def dkwJ7_abs_0 : List UInt8 := [26, 156, 0, 8, 26, 116, 167, 0, 4, 26, 172]
abbrev dktJ7_abs_0 : List UInt8 := dkwJ7_abs_0 ++ []
theorem dksJ7_abs_0 : cJ7_abs.data.toList.drop 0 = dktJ7_abs_0 := by decide +kernel
theorem dJ7_abs_0 : decode cJ7_abs 0 = .ok (.iload_n 0, 1) := dk_26 (dk_at dksJ7_abs_0 0 rfl rfl)
theorem dJ7_abs_1 : decode cJ7_abs 1 = .ok (.ifCond .ge 8, 3) := dk_156 0 8 (dk_at dksJ7_abs_0 1 rfl rfl)
theorem dJ7_abs_4 : decode cJ7_abs 4 = .ok (.iload_n 0, 1) := dk_26 (dk_at dksJ7_abs_0 4 rfl rfl)
theorem dJ7_abs_5 : decode cJ7_abs 5 = .ok (.ineg, 1) := dk_116 (dk_at dksJ7_abs_0 5 rfl rfl)
theorem dJ7_abs_6 : decode cJ7_abs 6 = .ok (.goto 4, 3) := dk_167 0 4 (dk_at dksJ7_abs_0 6 rfl rfl)
theorem dJ7_abs_9 : decode cJ7_abs 9 = .ok (.iload_n 0, 1) := dk_26 (dk_at dksJ7_abs_0 9 rfl rfl)
theorem dJ7_abs_10 : decode cJ7_abs 10 = .ok (.ireturn, 1) := dk_172 (dk_at dksJ7_abs_0 10 rfl rfl)
theorem q94 : (Jvm.Cond.initialized "java/lang/Math") ∈ lw_all := lw_g (lw_at lw_m1 16 rfl) rfl
theorem q406 : (Jvm.Cond.static ({ cls := "java/lang/Math", name := "max", desc := "(II)I" } : Jvm.MethodName)) ∈ lw_all := lw_g (lw_at lw_m2 88 rfl) rfl
theorem q407 : (Jvm.Cond.code ({ cls := "java/lang/Math", name := "max", desc := "(II)I" } : Jvm.MethodName) prog_18_method_65_code (2 : Nat) (Option.some Jvm.ClassFile.FieldType.int)) ∈ lw_all := lw_g (lw_at lw_m2 89 rfl) rfl
theorem q442 : (Jvm.Cond.static ({ cls := "java/lang/Math", name := "min", desc := "(II)I" } : Jvm.MethodName)) ∈ lw_all := lw_g (lw_at lw_m2 124 rfl) rfl
theorem q443 : (Jvm.Cond.code ({ cls := "java/lang/Math", name := "min", desc := "(II)I" } : Jvm.MethodName) prog_18_method_69_code (2 : Nat) (Option.some Jvm.ClassFile.FieldType.int)) ∈ lw_all := lw_g (lw_at lw_m2 125 rfl) rfl
theorem q469 : (Jvm.Cond.static ({ cls := "java/lang/Math", name := "abs", desc := "(I)I" } : Jvm.MethodName)) ∈ lw_all := lw_g (lw_at lw_m2 151 rfl) rfl
theorem q470 : (Jvm.Cond.code ({ cls := "java/lang/Math", name := "abs", desc := "(I)I" } : Jvm.MethodName) prog_18_method_59_code (1 : Nat) (Option.some Jvm.ClassFile.FieldType.int)) ∈ lw_all := lw_g (lw_at lw_m2 152 rfl) rfl
/-! java/lang/Integer -/
set_option maxRecDepth 100000
def RJ8 : String := "java/lang/Integer"
abbrev cJ8_signum : ByteArray := prog_17_method_56_code
def yJ8_signum : MethodName := ⟨RJ8, "signum", "(I)I"⟩
def dkwJ8_signum_0 : List UInt8 := [26, 16, 31, 122, 26, 116, 16, 31, 124, 128, 172]
abbrev dktJ8_signum_0 : List UInt8 := dkwJ8_signum_0 ++ []
theorem dksJ8_signum_0 : cJ8_signum.data.toList.drop 0 = dktJ8_signum_0 := by decide +kernel
theorem dJ8_signum_0 : decode cJ8_signum 0 = .ok (.iload_n 0, 1) := dk_26 (dk_at dksJ8_signum_0 0 rfl rfl)
theorem dJ8_signum_1 : decode cJ8_signum 1 = .ok (.bipush 31, 2) := dk_16 31 (dk_at dksJ8_signum_0 1 rfl rfl)
theorem dJ8_signum_3 : decode cJ8_signum 3 = .ok (.ishr, 1) := dk_122 (dk_at dksJ8_signum_0 3 rfl rfl)
theorem dJ8_signum_4 : decode cJ8_signum 4 = .ok (.iload_n 0, 1) := dk_26 (dk_at dksJ8_signum_0 4 rfl rfl)
theorem dJ8_signum_5 : decode cJ8_signum 5 = .ok (.ineg, 1) := dk_116 (dk_at dksJ8_signum_0 5 rfl rfl)
theorem dJ8_signum_6 : decode cJ8_signum 6 = .ok (.bipush 31, 2) := dk_16 31 (dk_at dksJ8_signum_0 6 rfl rfl)
theorem dJ8_signum_8 : decode cJ8_signum 8 = .ok (.iushr, 1) := dk_124 (dk_at dksJ8_signum_0 8 rfl rfl)
theorem dJ8_signum_9 : decode cJ8_signum 9 = .ok (.ior, 1) := dk_128 (dk_at dksJ8_signum_0 9 rfl rfl)
theorem dJ8_signum_10 : decode cJ8_signum 10 = .ok (.ireturn, 1) := dk_172 (dk_at dksJ8_signum_0 10 rfl rfl)
abbrev cJ8_bitCount : ByteArray := prog_17_method_49_code
def yJ8_bitCount : MethodName := ⟨RJ8, "bitCount", "(I)I"⟩
def dkwJ8_bitCount_2 : List UInt8 := [26, 16, 63, 126, 172]
abbrev dktJ8_bitCount_2 : List UInt8 := dkwJ8_bitCount_2 ++ []
def dkwJ8_bitCount_1 : List UInt8 := [26, 26, 7, 124, 96, 19, 1, 11, 126, 59, 26, 26, 16, 8, 124, 96, 59, 26, 26, 16, 16, 124, 96, 59]
abbrev dktJ8_bitCount_1 : List UInt8 := dkwJ8_bitCount_1 ++ dktJ8_bitCount_2
def dkwJ8_bitCount_0 : List UInt8 := [26, 26, 4, 124, 19, 1, 9, 126, 100, 59, 26, 19, 1, 10, 126, 26, 5, 124, 19, 1, 10, 126, 96, 59]
abbrev dktJ8_bitCount_0 : List UInt8 := dkwJ8_bitCount_0 ++ dktJ8_bitCount_1
theorem dksJ8_bitCount_0 : cJ8_bitCount.data.toList.drop 0 = dktJ8_bitCount_0 := by decide +kernel
theorem dksJ8_bitCount_1 : cJ8_bitCount.data.toList.drop 24 = dktJ8_bitCount_1 := dk_seg dksJ8_bitCount_0 24 rfl rfl
theorem dksJ8_bitCount_2 : cJ8_bitCount.data.toList.drop 48 = dktJ8_bitCount_2 := dk_seg dksJ8_bitCount_1 24 rfl rfl
theorem dJ8_bitCount_0 : decode cJ8_bitCount 0 = .ok (.iload_n 0, 1) := dk_26 (dk_at dksJ8_bitCount_0 0 rfl rfl)
theorem dJ8_bitCount_1 : decode cJ8_bitCount 1 = .ok (.iload_n 0, 1) := dk_26 (dk_at dksJ8_bitCount_0 1 rfl rfl)
theorem dJ8_bitCount_2 : decode cJ8_bitCount 2 = .ok (.iconst 1, 1) := dk_4 (dk_at dksJ8_bitCount_0 2 rfl rfl)
theorem dJ8_bitCount_3 : decode cJ8_bitCount 3 = .ok (.iushr, 1) := dk_124 (dk_at dksJ8_bitCount_0 3 rfl rfl)
theorem dJ8_bitCount_4 : decode cJ8_bitCount 4 = .ok (.ldc_w 265, 3) := dk_19 1 9 (dk_at dksJ8_bitCount_0 4 rfl rfl)
theorem dJ8_bitCount_7 : decode cJ8_bitCount 7 = .ok (.iand, 1) := dk_126 (dk_at dksJ8_bitCount_0 7 rfl rfl)
theorem dJ8_bitCount_8 : decode cJ8_bitCount 8 = .ok (.isub, 1) := dk_100 (dk_at dksJ8_bitCount_0 8 rfl rfl)
theorem dJ8_bitCount_9 : decode cJ8_bitCount 9 = .ok (.istore_n 0, 1) := dk_59 (dk_at dksJ8_bitCount_0 9 rfl rfl)
theorem dJ8_bitCount_10 : decode cJ8_bitCount 10 = .ok (.iload_n 0, 1) := dk_26 (dk_at dksJ8_bitCount_0 10 rfl rfl)
theorem dJ8_bitCount_11 : decode cJ8_bitCount 11 = .ok (.ldc_w 266, 3) := dk_19 1 10 (dk_at dksJ8_bitCount_0 11 rfl rfl)
theorem dJ8_bitCount_14 : decode cJ8_bitCount 14 = .ok (.iand, 1) := dk_126 (dk_at dksJ8_bitCount_0 14 rfl rfl)
theorem dJ8_bitCount_15 : decode cJ8_bitCount 15 = .ok (.iload_n 0, 1) := dk_26 (dk_at dksJ8_bitCount_0 15 rfl rfl)
theorem dJ8_bitCount_16 : decode cJ8_bitCount 16 = .ok (.iconst 2, 1) := dk_5 (dk_at dksJ8_bitCount_0 16 rfl rfl)
theorem dJ8_bitCount_17 : decode cJ8_bitCount 17 = .ok (.iushr, 1) := dk_124 (dk_at dksJ8_bitCount_0 17 rfl rfl)
theorem dJ8_bitCount_18 : decode cJ8_bitCount 18 = .ok (.ldc_w 266, 3) := dk_19 1 10 (dk_at dksJ8_bitCount_0 18 rfl rfl)
theorem dJ8_bitCount_21 : decode cJ8_bitCount 21 = .ok (.iand, 1) := dk_126 (dk_at dksJ8_bitCount_0 21 rfl rfl)
theorem dJ8_bitCount_22 : decode cJ8_bitCount 22 = .ok (.iadd, 1) := dk_96 (dk_at dksJ8_bitCount_0 22 rfl rfl)
theorem dJ8_bitCount_23 : decode cJ8_bitCount 23 = .ok (.istore_n 0, 1) := dk_59 (dk_at dksJ8_bitCount_0 23 rfl rfl)
theorem dJ8_bitCount_24 : decode cJ8_bitCount 24 = .ok (.iload_n 0, 1) := dk_26 (dk_at dksJ8_bitCount_1 0 rfl rfl)
theorem dJ8_bitCount_25 : decode cJ8_bitCount 25 = .ok (.iload_n 0, 1) := dk_26 (dk_at dksJ8_bitCount_1 1 rfl rfl)
theorem dJ8_bitCount_26 : decode cJ8_bitCount 26 = .ok (.iconst 4, 1) := dk_7 (dk_at dksJ8_bitCount_1 2 rfl rfl)
theorem dJ8_bitCount_27 : decode cJ8_bitCount 27 = .ok (.iushr, 1) := dk_124 (dk_at dksJ8_bitCount_1 3 rfl rfl)
theorem dJ8_bitCount_28 : decode cJ8_bitCount 28 = .ok (.iadd, 1) := dk_96 (dk_at dksJ8_bitCount_1 4 rfl rfl)
theorem dJ8_bitCount_29 : decode cJ8_bitCount 29 = .ok (.ldc_w 267, 3) := dk_19 1 11 (dk_at dksJ8_bitCount_1 5 rfl rfl)
theorem dJ8_bitCount_32 : decode cJ8_bitCount 32 = .ok (.iand, 1) := dk_126 (dk_at dksJ8_bitCount_1 8 rfl rfl)
theorem dJ8_bitCount_33 : decode cJ8_bitCount 33 = .ok (.istore_n 0, 1) := dk_59 (dk_at dksJ8_bitCount_1 9 rfl rfl)
theorem dJ8_bitCount_34 : decode cJ8_bitCount 34 = .ok (.iload_n 0, 1) := dk_26 (dk_at dksJ8_bitCount_1 10 rfl rfl)
theorem dJ8_bitCount_35 : decode cJ8_bitCount 35 = .ok (.iload_n 0, 1) := dk_26 (dk_at dksJ8_bitCount_1 11 rfl rfl)
theorem dJ8_bitCount_36 : decode cJ8_bitCount 36 = .ok (.bipush 8, 2) := dk_16 8 (dk_at dksJ8_bitCount_1 12 rfl rfl)
theorem dJ8_bitCount_38 : decode cJ8_bitCount 38 = .ok (.iushr, 1) := dk_124 (dk_at dksJ8_bitCount_1 14 rfl rfl)
theorem dJ8_bitCount_39 : decode cJ8_bitCount 39 = .ok (.iadd, 1) := dk_96 (dk_at dksJ8_bitCount_1 15 rfl rfl)
theorem dJ8_bitCount_40 : decode cJ8_bitCount 40 = .ok (.istore_n 0, 1) := dk_59 (dk_at dksJ8_bitCount_1 16 rfl rfl)
theorem dJ8_bitCount_41 : decode cJ8_bitCount 41 = .ok (.iload_n 0, 1) := dk_26 (dk_at dksJ8_bitCount_1 17 rfl rfl)
theorem dJ8_bitCount_42 : decode cJ8_bitCount 42 = .ok (.iload_n 0, 1) := dk_26 (dk_at dksJ8_bitCount_1 18 rfl rfl)
theorem dJ8_bitCount_43 : decode cJ8_bitCount 43 = .ok (.bipush 16, 2) := dk_16 16 (dk_at dksJ8_bitCount_1 19 rfl rfl)
theorem dJ8_bitCount_45 : decode cJ8_bitCount 45 = .ok (.iushr, 1) := dk_124 (dk_at dksJ8_bitCount_1 21 rfl rfl)
theorem dJ8_bitCount_46 : decode cJ8_bitCount 46 = .ok (.iadd, 1) := dk_96 (dk_at dksJ8_bitCount_1 22 rfl rfl)
theorem dJ8_bitCount_47 : decode cJ8_bitCount 47 = .ok (.istore_n 0, 1) := dk_59 (dk_at dksJ8_bitCount_1 23 rfl rfl)
theorem dJ8_bitCount_48 : decode cJ8_bitCount 48 = .ok (.iload_n 0, 1) := dk_26 (dk_at dksJ8_bitCount_2 0 rfl rfl)
theorem dJ8_bitCount_49 : decode cJ8_bitCount 49 = .ok (.bipush 63, 2) := dk_16 63 (dk_at dksJ8_bitCount_2 1 rfl rfl)
theorem dJ8_bitCount_51 : decode cJ8_bitCount 51 = .ok (.iand, 1) := dk_126 (dk_at dksJ8_bitCount_2 3 rfl rfl)
theorem dJ8_bitCount_52 : decode cJ8_bitCount 52 = .ok (.ireturn, 1) := dk_172 (dk_at dksJ8_bitCount_2 4 rfl rfl)
theorem q95 : (Jvm.Cond.initialized "java/lang/Integer") ∈ lw_all := lw_g (lw_at lw_m1 17 rfl) rfl
theorem q574 : (Jvm.Cond.static ({ cls := "java/lang/Integer", name := "signum", desc := "(I)I" } : Jvm.MethodName)) ∈ lw_all := lw_g (lw_at lw_m3 16 rfl) rfl
theorem q575 : (Jvm.Cond.code ({ cls := "java/lang/Integer", name := "signum", desc := "(I)I" } : Jvm.MethodName) prog_17_method_56_code (1 : Nat) (Option.some Jvm.ClassFile.FieldType.int)) ∈ lw_all := lw_g (lw_at lw_m3 17 rfl) rfl
theorem q709 : (Jvm.Cond.static ({ cls := "java/lang/Integer", name := "bitCount", desc := "(I)I" } : Jvm.MethodName)) ∈ lw_all := lw_g (lw_at lw_m3 151 rfl) rfl
theorem q710 : (Jvm.Cond.code ({ cls := "java/lang/Integer", name := "bitCount", desc := "(I)I" } : Jvm.MethodName) prog_17_method_49_code (1 : Nat) (Option.some Jvm.ClassFile.FieldType.int)) ∈ lw_all := lw_g (lw_at lw_m3 152 rfl) rfl
theorem q711 : (Jvm.Cond.constant "java/lang/Integer" (265 : Nat) (1431655765 : Int32)) ∈ lw_all := lw_g (lw_at lw_m3 153 rfl) rfl
theorem q712 : (Jvm.Cond.constant "java/lang/Integer" (266 : Nat) (858993459 : Int32)) ∈ lw_all := lw_g (lw_at lw_m3 154 rfl) rfl
theorem q713 : (Jvm.Cond.constant "java/lang/Integer" (267 : Nat) (252645135 : Int32)) ∈ lw_all := lw_g (lw_at lw_m3 155 rfl) rfl
/-! java/lang/NegativeArraySizeException -/
set_option maxRecDepth 100000
def RJ9 : String := "java/lang/NegativeArraySizeException"
def TJ9 : u_T := fun k => match k with
  | 0 => ("java/lang/Throwable", "backtrace", "Ljava/lang/Object;", false)
  | 1 => ("java/lang/Throwable", "detailMessage", "Ljava/lang/String;", false)
  | 2 => ("java/lang/Throwable", "cause", "Ljava/lang/Throwable;", false)
  | 3 => ("java/lang/Throwable", "stackTrace", "[Ljava/lang/StackTraceElement;", false)
  | 4 => ("java/lang/Throwable", "depth", "I", false)
  | _ => ("java/lang/Throwable", "suppressedExceptions", "Ljava/util/List;", false)
def tyJ9 : Nat → FieldType := fun k => match k with
  | 0 => .object "java/lang/Object"
  | 1 => .object "java/lang/String"
  | 2 => .object "java/lang/Throwable"
  | 3 => .array (.object "java/lang/StackTraceElement")
  | 4 => .int
  | _ => .object "java/util/List"
abbrev wsJ90 : List Cond := u_ws RJ9 TJ9 6
theorem nmJ9 : ∀ a, a < 6 → ∀ b, b < 6 → a ≠ b → (TJ9 a).2.1 ≠ (TJ9 b).2.1 := by decide +kernel
theorem tyJ9_ok : ∀ k, k < 6 → parseFieldDescriptor (TJ9 k).2.2.1 = some (tyJ9 k) := by decide +kernel
abbrev cJ9_init : ByteArray := prog_19_method_2_code
def yJ9_init : MethodName := ⟨RJ9, "<init>", "(Ljava/lang/String;)V"⟩
def dkwJ9_init_0 : List UInt8 := [42, 43, 183, 0, 7, 177]
abbrev dktJ9_init_0 : List UInt8 := dkwJ9_init_0 ++ []
theorem dksJ9_init_0 : cJ9_init.data.toList.drop 0 = dktJ9_init_0 := by decide +kernel
theorem dJ9_init_0 : decode cJ9_init 0 = .ok (.aload_n 0, 1) := dk_42 (dk_at dksJ9_init_0 0 rfl rfl)
theorem dJ9_init_1 : decode cJ9_init 1 = .ok (.aload_n 1, 1) := dk_43 (dk_at dksJ9_init_0 1 rfl rfl)
theorem dJ9_init_2 : decode cJ9_init 2 = .ok (.invokespecial 7, 3) := dk_183 0 7 (dk_at dksJ9_init_0 2 rfl rfl)
theorem dJ9_init_5 : decode cJ9_init 5 = .ok (.return_, 1) := dk_177 (dk_at dksJ9_init_0 5 rfl rfl)
theorem q96 : (Jvm.Cond.initialized "java/lang/NegativeArraySizeException") ∈ lw_all := lw_g (lw_at lw_m1 18 rfl) rfl
theorem q229 : (Jvm.Cond.selects "java/lang/NegativeArraySizeException" ({ cls := "java/lang/Throwable", name := "fillInStackTrace", desc := "()Ljava/lang/Throwable;" } : Jvm.MethodName) ({ cls := "java/lang/Throwable", name := "fillInStackTrace", desc := "()Ljava/lang/Throwable;" } : Jvm.MethodName)) ∈ lw_all := lw_g (lw_at lw_m1 151 rfl) rfl
theorem q849 : (Jvm.Cond.instantiable "java/lang/NegativeArraySizeException" (6 : Nat)) ∈ lw_all := lw_g (lw_at lw_m4 51 rfl) rfl
theorem q850 : (Jvm.Cond.instanceMethod ({ cls := "java/lang/NegativeArraySizeException", name := "<init>", desc := "(Ljava/lang/String;)V" } : Jvm.MethodName)) ∈ lw_all := lw_g (lw_at lw_m4 52 rfl) rfl
theorem q851 : (Jvm.Cond.code ({ cls := "java/lang/NegativeArraySizeException", name := "<init>", desc := "(Ljava/lang/String;)V" } : Jvm.MethodName) prog_19_method_2_code (2 : Nat) (Option.none : Option Jvm.ClassFile.FieldType)) ∈ lw_all := lw_g (lw_at lw_m4 53 rfl) rfl
theorem q852 : (Jvm.Cond.methodLink "java/lang/NegativeArraySizeException" (7 : Nat) ({ cls := "java/lang/RuntimeException", name := "<init>", desc := "(Ljava/lang/String;)V" } : Jvm.MethodName)) ∈ lw_all := lw_g (lw_at lw_m4 54 rfl) rfl
theorem q861 : (Jvm.Cond.lays "java/lang/NegativeArraySizeException" "java/lang/Throwable" "backtrace" "Ljava/lang/Object;") ∈ lw_all := lw_g (lw_at lw_m4 63 rfl) rfl
theorem q862 : (Jvm.Cond.lays "java/lang/NegativeArraySizeException" "java/lang/Throwable" "detailMessage" "Ljava/lang/String;") ∈ lw_all := lw_g (lw_at lw_m4 64 rfl) rfl
theorem q863 : (Jvm.Cond.lays "java/lang/NegativeArraySizeException" "java/lang/Throwable" "cause" "Ljava/lang/Throwable;") ∈ lw_all := lw_g (lw_at lw_m4 65 rfl) rfl
theorem q864 : (Jvm.Cond.lays "java/lang/NegativeArraySizeException" "java/lang/Throwable" "stackTrace" "[Ljava/lang/StackTraceElement;") ∈ lw_all := lw_g (lw_at lw_m4 66 rfl) rfl
theorem q865 : (Jvm.Cond.lays "java/lang/NegativeArraySizeException" "java/lang/Throwable" "depth" "I") ∈ lw_all := lw_g (lw_at lw_m4 67 rfl) rfl
theorem q866 : (Jvm.Cond.lays "java/lang/NegativeArraySizeException" "java/lang/Throwable" "suppressedExceptions" "Ljava/util/List;") ∈ lw_all := lw_g (lw_at lw_m4 68 rfl) rfl
theorem q867 : (Jvm.Cond.superclass "java/lang/NegativeArraySizeException" "java/lang/RuntimeException") ∈ lw_all := lw_g (lw_at lw_m4 69 rfl) rfl
theorem q868 : (Jvm.Cond.castable "java/lang/NegativeArraySizeException" "java/lang/NegativeArraySizeException") ∈ lw_tbl := lw_at lw_m4 70 rfl
theorem q869 : (Jvm.Cond.selects "java/lang/NegativeArraySizeException" ({ cls := "java/lang/Throwable", name := "fillInStackTrace", desc := "(I)Ljava/lang/Throwable;" } : Jvm.MethodName) ({ cls := "java/lang/Throwable", name := "fillInStackTrace", desc := "(I)Ljava/lang/Throwable;" } : Jvm.MethodName)) ∈ lw_all := lw_g (lw_at lw_m4 71 rfl) rfl
theorem in_J9 : ∀ w ∈ wsJ90, w ∈ lw_all := lw_in wsJ90 [861, 862, 863, 864, 865, 866] (by decide +kernel) (by decide +kernel)
/-! TemperIsles$Firth -/
set_option maxRecDepth 100000
def RX1 : String := "TemperIsles$Firth"
def TX1 : u_T := fun k => match k with
  | 0 => ("TemperIsles$Firth", "isles", "[[I", true)
  | 1 => ("TemperIsles$Firth", "crosses", "[[I", true)
  | 2 => ("TemperIsles$Firth", "ropes", "[[I", true)
  | 3 => ("TemperIsles$Firth", "isleMany", "I", false)
  | 4 => ("TemperIsles$Firth", "ropeMany", "I", false)
  | 5 => ("TemperIsles$Firth", "feast", "I", false)
  | 6 => ("TemperIsles$Firth", "day", "I", false)
  | _ => ("TemperIsles$Firth", "bumps", "I", false)
def tyX1 : Nat → FieldType := fun k => match k with
  | 0 => .array (.array .int)
  | 1 => .array (.array .int)
  | 2 => .array (.array .int)
  | 3 => .int
  | 4 => .int
  | 5 => .int
  | 6 => .int
  | _ => .int
abbrev wsX10 : List Cond := u_ws RX1 TX1 8
theorem nmX1 : ∀ a, a < 8 → ∀ b, b < 8 → a ≠ b → (TX1 a).2.1 ≠ (TX1 b).2.1 := by decide +kernel
theorem tyX1_ok : ∀ k, k < 8 → parseFieldDescriptor (TX1 k).2.2.1 = some (tyX1 k) := by decide +kernel
abbrev cX1_init : ByteArray := prog_3_method_1_code
def yX1_init : MethodName := ⟨RX1, "<init>", "()V"⟩
def dkwX1_init_1 : List UInt8 := [42, 16, 6, 6, 197, 0, 9, 2, 181, 0, 19, 177]
abbrev dktX1_init_1 : List UInt8 := dkwX1_init_1 ++ []
def dkwX1_init_0 : List UInt8 := [42, 183, 0, 3, 42, 8, 5, 197, 0, 9, 2, 181, 0, 11, 42, 8, 8, 197, 0, 9, 2, 181, 0, 16]
abbrev dktX1_init_0 : List UInt8 := dkwX1_init_0 ++ dktX1_init_1
theorem dksX1_init_0 : cX1_init.data.toList.drop 0 = dktX1_init_0 := by decide +kernel
theorem dksX1_init_1 : cX1_init.data.toList.drop 24 = dktX1_init_1 := dk_seg dksX1_init_0 24 rfl rfl
theorem dX1_init_0 : decode cX1_init 0 = .ok (.aload_n 0, 1) := dk_42 (dk_at dksX1_init_0 0 rfl rfl)
theorem dX1_init_1 : decode cX1_init 1 = .ok (.invokespecial 3, 3) := dk_183 0 3 (dk_at dksX1_init_0 1 rfl rfl)
theorem dX1_init_4 : decode cX1_init 4 = .ok (.aload_n 0, 1) := dk_42 (dk_at dksX1_init_0 4 rfl rfl)
theorem dX1_init_5 : decode cX1_init 5 = .ok (.iconst 5, 1) := dk_8 (dk_at dksX1_init_0 5 rfl rfl)
theorem dX1_init_6 : decode cX1_init 6 = .ok (.iconst 2, 1) := dk_5 (dk_at dksX1_init_0 6 rfl rfl)
theorem dX1_init_7 : decode cX1_init 7 = .ok (.multianewarray 9 2, 4) := by decide +kernel
theorem dX1_init_11 : decode cX1_init 11 = .ok (.putfield 11, 3) := dk_181 0 11 (dk_at dksX1_init_0 11 rfl rfl)
theorem dX1_init_14 : decode cX1_init 14 = .ok (.aload_n 0, 1) := dk_42 (dk_at dksX1_init_0 14 rfl rfl)
theorem dX1_init_15 : decode cX1_init 15 = .ok (.iconst 5, 1) := dk_8 (dk_at dksX1_init_0 15 rfl rfl)
theorem dX1_init_16 : decode cX1_init 16 = .ok (.iconst 5, 1) := dk_8 (dk_at dksX1_init_0 16 rfl rfl)
theorem dX1_init_17 : decode cX1_init 17 = .ok (.multianewarray 9 2, 4) := by decide +kernel
theorem dX1_init_21 : decode cX1_init 21 = .ok (.putfield 16, 3) := dk_181 0 16 (dk_at dksX1_init_0 21 rfl rfl)
theorem dX1_init_24 : decode cX1_init 24 = .ok (.aload_n 0, 1) := dk_42 (dk_at dksX1_init_1 0 rfl rfl)
theorem dX1_init_25 : decode cX1_init 25 = .ok (.bipush 6, 2) := dk_16 6 (dk_at dksX1_init_1 1 rfl rfl)
theorem dX1_init_27 : decode cX1_init 27 = .ok (.iconst 3, 1) := dk_6 (dk_at dksX1_init_1 3 rfl rfl)
theorem dX1_init_28 : decode cX1_init 28 = .ok (.multianewarray 9 2, 4) := by decide +kernel
theorem dX1_init_32 : decode cX1_init 32 = .ok (.putfield 19, 3) := dk_181 0 19 (dk_at dksX1_init_1 8 rfl rfl)
theorem dX1_init_35 : decode cX1_init 35 = .ok (.return_, 1) := dk_177 (dk_at dksX1_init_1 11 rfl rfl)
abbrev cX1_whoIsAt : ByteArray := prog_3_method_5_code
def yX1_whoIsAt : MethodName := ⟨RX1, "whoIsAt", "(I)I"⟩
def dkwX1_whoIsAt_1 : List UInt8 := [167, 255, 234, 16, 252, 172]
abbrev dktX1_whoIsAt_1 : List UInt8 := dkwX1_whoIsAt_1 ++ []
def dkwX1_whoIsAt_0 : List UInt8 := [3, 61, 28, 42, 180, 0, 28, 162, 0, 20, 42, 28, 182, 0, 44, 27, 160, 0, 5, 28, 172, 132, 2, 1]
abbrev dktX1_whoIsAt_0 : List UInt8 := dkwX1_whoIsAt_0 ++ dktX1_whoIsAt_1
theorem dksX1_whoIsAt_0 : cX1_whoIsAt.data.toList.drop 0 = dktX1_whoIsAt_0 := by decide +kernel
theorem dksX1_whoIsAt_1 : cX1_whoIsAt.data.toList.drop 24 = dktX1_whoIsAt_1 := dk_seg dksX1_whoIsAt_0 24 rfl rfl
theorem dX1_whoIsAt_0 : decode cX1_whoIsAt 0 = .ok (.iconst 0, 1) := dk_3 (dk_at dksX1_whoIsAt_0 0 rfl rfl)
theorem dX1_whoIsAt_1 : decode cX1_whoIsAt 1 = .ok (.istore_n 2, 1) := dk_61 (dk_at dksX1_whoIsAt_0 1 rfl rfl)
theorem dX1_whoIsAt_2 : decode cX1_whoIsAt 2 = .ok (.iload_n 2, 1) := dk_28 (dk_at dksX1_whoIsAt_0 2 rfl rfl)
theorem dX1_whoIsAt_3 : decode cX1_whoIsAt 3 = .ok (.aload_n 0, 1) := dk_42 (dk_at dksX1_whoIsAt_0 3 rfl rfl)
theorem dX1_whoIsAt_4 : decode cX1_whoIsAt 4 = .ok (.getfield 28, 3) := dk_180 0 28 (dk_at dksX1_whoIsAt_0 4 rfl rfl)
theorem dX1_whoIsAt_7 : decode cX1_whoIsAt 7 = .ok (.if_icmp .ge 20, 3) := dk_162 0 20 (dk_at dksX1_whoIsAt_0 7 rfl rfl)
theorem dX1_whoIsAt_10 : decode cX1_whoIsAt 10 = .ok (.aload_n 0, 1) := dk_42 (dk_at dksX1_whoIsAt_0 10 rfl rfl)
theorem dX1_whoIsAt_11 : decode cX1_whoIsAt 11 = .ok (.iload_n 2, 1) := dk_28 (dk_at dksX1_whoIsAt_0 11 rfl rfl)
theorem dX1_whoIsAt_12 : decode cX1_whoIsAt 12 = .ok (.invokevirtual 44, 3) := dk_182 0 44 (dk_at dksX1_whoIsAt_0 12 rfl rfl)
theorem dX1_whoIsAt_15 : decode cX1_whoIsAt 15 = .ok (.iload_n 1, 1) := dk_27 (dk_at dksX1_whoIsAt_0 15 rfl rfl)
theorem dX1_whoIsAt_16 : decode cX1_whoIsAt 16 = .ok (.if_icmp .ne 5, 3) := dk_160 0 5 (dk_at dksX1_whoIsAt_0 16 rfl rfl)
theorem dX1_whoIsAt_19 : decode cX1_whoIsAt 19 = .ok (.iload_n 2, 1) := dk_28 (dk_at dksX1_whoIsAt_0 19 rfl rfl)
theorem dX1_whoIsAt_20 : decode cX1_whoIsAt 20 = .ok (.ireturn, 1) := dk_172 (dk_at dksX1_whoIsAt_0 20 rfl rfl)
theorem dX1_whoIsAt_21 : decode cX1_whoIsAt 21 = .ok (.iinc 2 1, 3) := dk_132 2 1 (dk_at dksX1_whoIsAt_0 21 rfl rfl)
theorem dX1_whoIsAt_24 : decode cX1_whoIsAt 24 = .ok (.goto (-22), 3) := dk_167 255 234 (dk_at dksX1_whoIsAt_1 0 rfl rfl)
theorem dX1_whoIsAt_27 : decode cX1_whoIsAt 27 = .ok (.bipush (-4), 2) := dk_16 252 (dk_at dksX1_whoIsAt_1 3 rfl rfl)
theorem dX1_whoIsAt_29 : decode cX1_whoIsAt 29 = .ok (.ireturn, 1) := dk_172 (dk_at dksX1_whoIsAt_1 5 rfl rfl)
abbrev cX1_at : ByteArray := prog_3_method_3_code
def yX1_at : MethodName := ⟨RX1, "at", "(I)I"⟩
def dkwX1_at_0 : List UInt8 := [42, 180, 0, 11, 27, 50, 4, 46, 172]
abbrev dktX1_at_0 : List UInt8 := dkwX1_at_0 ++ []
theorem dksX1_at_0 : cX1_at.data.toList.drop 0 = dktX1_at_0 := by decide +kernel
theorem dX1_at_0 : decode cX1_at 0 = .ok (.aload_n 0, 1) := dk_42 (dk_at dksX1_at_0 0 rfl rfl)
theorem dX1_at_1 : decode cX1_at 1 = .ok (.getfield 11, 3) := dk_180 0 11 (dk_at dksX1_at_0 1 rfl rfl)
theorem dX1_at_4 : decode cX1_at 4 = .ok (.iload_n 1, 1) := dk_27 (dk_at dksX1_at_0 4 rfl rfl)
theorem dX1_at_5 : decode cX1_at 5 = .ok (.aaload, 1) := dk_50 (dk_at dksX1_at_0 5 rfl rfl)
theorem dX1_at_6 : decode cX1_at 6 = .ok (.iconst 1, 1) := dk_4 (dk_at dksX1_at_0 6 rfl rfl)
theorem dX1_at_7 : decode cX1_at 7 = .ok (.iaload, 1) := dk_46 (dk_at dksX1_at_0 7 rfl rfl)
theorem dX1_at_8 : decode cX1_at 8 = .ok (.ireturn, 1) := dk_172 (dk_at dksX1_at_0 8 rfl rfl)
abbrev cX1_weds : ByteArray := prog_3_method_15_code
def yX1_weds : MethodName := ⟨RX1, "weds", "(III)V"⟩
def dkwX1_weds_1 : List UInt8 := [42, 180, 0, 19, 42, 180, 0, 32, 50, 5, 29, 79, 42, 89, 180, 0, 32, 4, 96, 181, 0, 32, 177]
abbrev dktX1_weds_1 : List UInt8 := dkwX1_weds_1 ++ []
def dkwX1_weds_0 : List UInt8 := [42, 180, 0, 19, 42, 180, 0, 32, 50, 3, 27, 79, 42, 180, 0, 19, 42, 180, 0, 32, 50, 4, 28, 79]
abbrev dktX1_weds_0 : List UInt8 := dkwX1_weds_0 ++ dktX1_weds_1
theorem dksX1_weds_0 : cX1_weds.data.toList.drop 0 = dktX1_weds_0 := by decide +kernel
theorem dksX1_weds_1 : cX1_weds.data.toList.drop 24 = dktX1_weds_1 := dk_seg dksX1_weds_0 24 rfl rfl
theorem dX1_weds_0 : decode cX1_weds 0 = .ok (.aload_n 0, 1) := dk_42 (dk_at dksX1_weds_0 0 rfl rfl)
theorem dX1_weds_1 : decode cX1_weds 1 = .ok (.getfield 19, 3) := dk_180 0 19 (dk_at dksX1_weds_0 1 rfl rfl)
theorem dX1_weds_4 : decode cX1_weds 4 = .ok (.aload_n 0, 1) := dk_42 (dk_at dksX1_weds_0 4 rfl rfl)
theorem dX1_weds_5 : decode cX1_weds 5 = .ok (.getfield 32, 3) := dk_180 0 32 (dk_at dksX1_weds_0 5 rfl rfl)
theorem dX1_weds_8 : decode cX1_weds 8 = .ok (.aaload, 1) := dk_50 (dk_at dksX1_weds_0 8 rfl rfl)
theorem dX1_weds_9 : decode cX1_weds 9 = .ok (.iconst 0, 1) := dk_3 (dk_at dksX1_weds_0 9 rfl rfl)
theorem dX1_weds_10 : decode cX1_weds 10 = .ok (.iload_n 1, 1) := dk_27 (dk_at dksX1_weds_0 10 rfl rfl)
theorem dX1_weds_11 : decode cX1_weds 11 = .ok (.iastore, 1) := dk_79 (dk_at dksX1_weds_0 11 rfl rfl)
theorem dX1_weds_12 : decode cX1_weds 12 = .ok (.aload_n 0, 1) := dk_42 (dk_at dksX1_weds_0 12 rfl rfl)
theorem dX1_weds_13 : decode cX1_weds 13 = .ok (.getfield 19, 3) := dk_180 0 19 (dk_at dksX1_weds_0 13 rfl rfl)
theorem dX1_weds_16 : decode cX1_weds 16 = .ok (.aload_n 0, 1) := dk_42 (dk_at dksX1_weds_0 16 rfl rfl)
theorem dX1_weds_17 : decode cX1_weds 17 = .ok (.getfield 32, 3) := dk_180 0 32 (dk_at dksX1_weds_0 17 rfl rfl)
theorem dX1_weds_20 : decode cX1_weds 20 = .ok (.aaload, 1) := dk_50 (dk_at dksX1_weds_0 20 rfl rfl)
theorem dX1_weds_21 : decode cX1_weds 21 = .ok (.iconst 1, 1) := dk_4 (dk_at dksX1_weds_0 21 rfl rfl)
theorem dX1_weds_22 : decode cX1_weds 22 = .ok (.iload_n 2, 1) := dk_28 (dk_at dksX1_weds_0 22 rfl rfl)
theorem dX1_weds_23 : decode cX1_weds 23 = .ok (.iastore, 1) := dk_79 (dk_at dksX1_weds_0 23 rfl rfl)
theorem dX1_weds_24 : decode cX1_weds 24 = .ok (.aload_n 0, 1) := dk_42 (dk_at dksX1_weds_1 0 rfl rfl)
theorem dX1_weds_25 : decode cX1_weds 25 = .ok (.getfield 19, 3) := dk_180 0 19 (dk_at dksX1_weds_1 1 rfl rfl)
theorem dX1_weds_28 : decode cX1_weds 28 = .ok (.aload_n 0, 1) := dk_42 (dk_at dksX1_weds_1 4 rfl rfl)
theorem dX1_weds_29 : decode cX1_weds 29 = .ok (.getfield 32, 3) := dk_180 0 32 (dk_at dksX1_weds_1 5 rfl rfl)
theorem dX1_weds_32 : decode cX1_weds 32 = .ok (.aaload, 1) := dk_50 (dk_at dksX1_weds_1 8 rfl rfl)
theorem dX1_weds_33 : decode cX1_weds 33 = .ok (.iconst 2, 1) := dk_5 (dk_at dksX1_weds_1 9 rfl rfl)
theorem dX1_weds_34 : decode cX1_weds 34 = .ok (.iload_n 3, 1) := dk_29 (dk_at dksX1_weds_1 10 rfl rfl)
theorem dX1_weds_35 : decode cX1_weds 35 = .ok (.iastore, 1) := dk_79 (dk_at dksX1_weds_1 11 rfl rfl)
theorem dX1_weds_36 : decode cX1_weds 36 = .ok (.aload_n 0, 1) := dk_42 (dk_at dksX1_weds_1 12 rfl rfl)
theorem dX1_weds_37 : decode cX1_weds 37 = .ok (.dup, 1) := dk_89 (dk_at dksX1_weds_1 13 rfl rfl)
theorem dX1_weds_38 : decode cX1_weds 38 = .ok (.getfield 32, 3) := dk_180 0 32 (dk_at dksX1_weds_1 14 rfl rfl)
theorem dX1_weds_41 : decode cX1_weds 41 = .ok (.iconst 1, 1) := dk_4 (dk_at dksX1_weds_1 17 rfl rfl)
theorem dX1_weds_42 : decode cX1_weds 42 = .ok (.iadd, 1) := dk_96 (dk_at dksX1_weds_1 18 rfl rfl)
theorem dX1_weds_43 : decode cX1_weds 43 = .ok (.putfield 32, 3) := dk_181 0 32 (dk_at dksX1_weds_1 19 rfl rfl)
theorem dX1_weds_46 : decode cX1_weds 46 = .ok (.return_, 1) := dk_177 (dk_at dksX1_weds_1 22 rfl rfl)
abbrev cX1_takes : ByteArray := prog_3_method_2_code
def yX1_takes : MethodName := ⟨RX1, "takes", "(LTemperIsles$Firth;)V"⟩
def dkwX1_takes_5 : List UInt8 := [181, 0, 41, 177]
abbrev dktX1_takes_5 : List UInt8 := dkwX1_takes_5 ++ []
def dkwX1_takes_4 : List UInt8 := [181, 0, 32, 42, 43, 180, 0, 35, 181, 0, 35, 42, 43, 180, 0, 38, 181, 0, 38, 42, 43, 180, 0, 41]
abbrev dktX1_takes_4 : List UInt8 := dkwX1_takes_4 ++ dktX1_takes_5
def dkwX1_takes_3 : List UInt8 := [3, 6, 184, 0, 22, 132, 2, 1, 167, 255, 229, 42, 43, 180, 0, 28, 181, 0, 28, 42, 43, 180, 0, 32]
abbrev dktX1_takes_3 : List UInt8 := dkwX1_takes_3 ++ dktX1_takes_4
def dkwX1_takes_2 : List UInt8 := [167, 255, 212, 3, 61, 28, 16, 6, 162, 0, 27, 43, 180, 0, 19, 28, 50, 3, 42, 180, 0, 19, 28, 50]
abbrev dktX1_takes_2 : List UInt8 := dkwX1_takes_2 ++ dktX1_takes_3
def dkwX1_takes_1 : List UInt8 := [184, 0, 22, 43, 180, 0, 16, 28, 50, 3, 42, 180, 0, 16, 28, 50, 3, 8, 184, 0, 22, 132, 2, 1]
abbrev dktX1_takes_1 : List UInt8 := dkwX1_takes_1 ++ dktX1_takes_2
def dkwX1_takes_0 : List UInt8 := [3, 61, 28, 8, 162, 0, 45, 43, 180, 0, 11, 28, 50, 3, 42, 180, 0, 11, 28, 50, 3, 5]
abbrev dktX1_takes_0 : List UInt8 := dkwX1_takes_0 ++ dktX1_takes_1
theorem dksX1_takes_0 : cX1_takes.data.toList.drop 0 = dktX1_takes_0 := by decide +kernel
theorem dksX1_takes_1 : cX1_takes.data.toList.drop 22 = dktX1_takes_1 := dk_seg dksX1_takes_0 22 rfl rfl
theorem dksX1_takes_2 : cX1_takes.data.toList.drop 46 = dktX1_takes_2 := dk_seg dksX1_takes_1 24 rfl rfl
theorem dksX1_takes_3 : cX1_takes.data.toList.drop 70 = dktX1_takes_3 := dk_seg dksX1_takes_2 24 rfl rfl
theorem dksX1_takes_4 : cX1_takes.data.toList.drop 94 = dktX1_takes_4 := dk_seg dksX1_takes_3 24 rfl rfl
theorem dksX1_takes_5 : cX1_takes.data.toList.drop 118 = dktX1_takes_5 := dk_seg dksX1_takes_4 24 rfl rfl
theorem dX1_takes_0 : decode cX1_takes 0 = .ok (.iconst 0, 1) := dk_3 (dk_at dksX1_takes_0 0 rfl rfl)
theorem dX1_takes_1 : decode cX1_takes 1 = .ok (.istore_n 2, 1) := dk_61 (dk_at dksX1_takes_0 1 rfl rfl)
theorem dX1_takes_2 : decode cX1_takes 2 = .ok (.iload_n 2, 1) := dk_28 (dk_at dksX1_takes_0 2 rfl rfl)
theorem dX1_takes_3 : decode cX1_takes 3 = .ok (.iconst 5, 1) := dk_8 (dk_at dksX1_takes_0 3 rfl rfl)
theorem dX1_takes_4 : decode cX1_takes 4 = .ok (.if_icmp .ge 45, 3) := dk_162 0 45 (dk_at dksX1_takes_0 4 rfl rfl)
theorem dX1_takes_7 : decode cX1_takes 7 = .ok (.aload_n 1, 1) := dk_43 (dk_at dksX1_takes_0 7 rfl rfl)
theorem dX1_takes_8 : decode cX1_takes 8 = .ok (.getfield 11, 3) := dk_180 0 11 (dk_at dksX1_takes_0 8 rfl rfl)
theorem dX1_takes_11 : decode cX1_takes 11 = .ok (.iload_n 2, 1) := dk_28 (dk_at dksX1_takes_0 11 rfl rfl)
theorem dX1_takes_12 : decode cX1_takes 12 = .ok (.aaload, 1) := dk_50 (dk_at dksX1_takes_0 12 rfl rfl)
theorem dX1_takes_13 : decode cX1_takes 13 = .ok (.iconst 0, 1) := dk_3 (dk_at dksX1_takes_0 13 rfl rfl)
theorem dX1_takes_14 : decode cX1_takes 14 = .ok (.aload_n 0, 1) := dk_42 (dk_at dksX1_takes_0 14 rfl rfl)
theorem dX1_takes_15 : decode cX1_takes 15 = .ok (.getfield 11, 3) := dk_180 0 11 (dk_at dksX1_takes_0 15 rfl rfl)
theorem dX1_takes_18 : decode cX1_takes 18 = .ok (.iload_n 2, 1) := dk_28 (dk_at dksX1_takes_0 18 rfl rfl)
theorem dX1_takes_19 : decode cX1_takes 19 = .ok (.aaload, 1) := dk_50 (dk_at dksX1_takes_0 19 rfl rfl)
theorem dX1_takes_20 : decode cX1_takes 20 = .ok (.iconst 0, 1) := dk_3 (dk_at dksX1_takes_0 20 rfl rfl)
theorem dX1_takes_21 : decode cX1_takes 21 = .ok (.iconst 2, 1) := dk_5 (dk_at dksX1_takes_0 21 rfl rfl)
theorem dX1_takes_22 : decode cX1_takes 22 = .ok (.invokestatic 22, 3) := dk_184 0 22 (dk_at dksX1_takes_1 0 rfl rfl)
theorem dX1_takes_25 : decode cX1_takes 25 = .ok (.aload_n 1, 1) := dk_43 (dk_at dksX1_takes_1 3 rfl rfl)
theorem dX1_takes_26 : decode cX1_takes 26 = .ok (.getfield 16, 3) := dk_180 0 16 (dk_at dksX1_takes_1 4 rfl rfl)
theorem dX1_takes_29 : decode cX1_takes 29 = .ok (.iload_n 2, 1) := dk_28 (dk_at dksX1_takes_1 7 rfl rfl)
theorem dX1_takes_30 : decode cX1_takes 30 = .ok (.aaload, 1) := dk_50 (dk_at dksX1_takes_1 8 rfl rfl)
theorem dX1_takes_31 : decode cX1_takes 31 = .ok (.iconst 0, 1) := dk_3 (dk_at dksX1_takes_1 9 rfl rfl)
theorem dX1_takes_32 : decode cX1_takes 32 = .ok (.aload_n 0, 1) := dk_42 (dk_at dksX1_takes_1 10 rfl rfl)
theorem dX1_takes_33 : decode cX1_takes 33 = .ok (.getfield 16, 3) := dk_180 0 16 (dk_at dksX1_takes_1 11 rfl rfl)
theorem dX1_takes_36 : decode cX1_takes 36 = .ok (.iload_n 2, 1) := dk_28 (dk_at dksX1_takes_1 14 rfl rfl)
theorem dX1_takes_37 : decode cX1_takes 37 = .ok (.aaload, 1) := dk_50 (dk_at dksX1_takes_1 15 rfl rfl)
theorem dX1_takes_38 : decode cX1_takes 38 = .ok (.iconst 0, 1) := dk_3 (dk_at dksX1_takes_1 16 rfl rfl)
theorem dX1_takes_39 : decode cX1_takes 39 = .ok (.iconst 5, 1) := dk_8 (dk_at dksX1_takes_1 17 rfl rfl)
theorem dX1_takes_40 : decode cX1_takes 40 = .ok (.invokestatic 22, 3) := dk_184 0 22 (dk_at dksX1_takes_1 18 rfl rfl)
theorem dX1_takes_43 : decode cX1_takes 43 = .ok (.iinc 2 1, 3) := dk_132 2 1 (dk_at dksX1_takes_1 21 rfl rfl)
theorem dX1_takes_46 : decode cX1_takes 46 = .ok (.goto (-44), 3) := dk_167 255 212 (dk_at dksX1_takes_2 0 rfl rfl)
theorem dX1_takes_49 : decode cX1_takes 49 = .ok (.iconst 0, 1) := dk_3 (dk_at dksX1_takes_2 3 rfl rfl)
theorem dX1_takes_50 : decode cX1_takes 50 = .ok (.istore_n 2, 1) := dk_61 (dk_at dksX1_takes_2 4 rfl rfl)
theorem dX1_takes_51 : decode cX1_takes 51 = .ok (.iload_n 2, 1) := dk_28 (dk_at dksX1_takes_2 5 rfl rfl)
theorem dX1_takes_52 : decode cX1_takes 52 = .ok (.bipush 6, 2) := dk_16 6 (dk_at dksX1_takes_2 6 rfl rfl)
theorem dX1_takes_54 : decode cX1_takes 54 = .ok (.if_icmp .ge 27, 3) := dk_162 0 27 (dk_at dksX1_takes_2 8 rfl rfl)
theorem dX1_takes_57 : decode cX1_takes 57 = .ok (.aload_n 1, 1) := dk_43 (dk_at dksX1_takes_2 11 rfl rfl)
theorem dX1_takes_58 : decode cX1_takes 58 = .ok (.getfield 19, 3) := dk_180 0 19 (dk_at dksX1_takes_2 12 rfl rfl)
theorem dX1_takes_61 : decode cX1_takes 61 = .ok (.iload_n 2, 1) := dk_28 (dk_at dksX1_takes_2 15 rfl rfl)
theorem dX1_takes_62 : decode cX1_takes 62 = .ok (.aaload, 1) := dk_50 (dk_at dksX1_takes_2 16 rfl rfl)
theorem dX1_takes_63 : decode cX1_takes 63 = .ok (.iconst 0, 1) := dk_3 (dk_at dksX1_takes_2 17 rfl rfl)
theorem dX1_takes_64 : decode cX1_takes 64 = .ok (.aload_n 0, 1) := dk_42 (dk_at dksX1_takes_2 18 rfl rfl)
theorem dX1_takes_65 : decode cX1_takes 65 = .ok (.getfield 19, 3) := dk_180 0 19 (dk_at dksX1_takes_2 19 rfl rfl)
theorem dX1_takes_68 : decode cX1_takes 68 = .ok (.iload_n 2, 1) := dk_28 (dk_at dksX1_takes_2 22 rfl rfl)
theorem dX1_takes_69 : decode cX1_takes 69 = .ok (.aaload, 1) := dk_50 (dk_at dksX1_takes_2 23 rfl rfl)
theorem dX1_takes_70 : decode cX1_takes 70 = .ok (.iconst 0, 1) := dk_3 (dk_at dksX1_takes_3 0 rfl rfl)
theorem dX1_takes_71 : decode cX1_takes 71 = .ok (.iconst 3, 1) := dk_6 (dk_at dksX1_takes_3 1 rfl rfl)
theorem dX1_takes_72 : decode cX1_takes 72 = .ok (.invokestatic 22, 3) := dk_184 0 22 (dk_at dksX1_takes_3 2 rfl rfl)
theorem dX1_takes_75 : decode cX1_takes 75 = .ok (.iinc 2 1, 3) := dk_132 2 1 (dk_at dksX1_takes_3 5 rfl rfl)
theorem dX1_takes_78 : decode cX1_takes 78 = .ok (.goto (-27), 3) := dk_167 255 229 (dk_at dksX1_takes_3 8 rfl rfl)
theorem dX1_takes_81 : decode cX1_takes 81 = .ok (.aload_n 0, 1) := dk_42 (dk_at dksX1_takes_3 11 rfl rfl)
theorem dX1_takes_82 : decode cX1_takes 82 = .ok (.aload_n 1, 1) := dk_43 (dk_at dksX1_takes_3 12 rfl rfl)
theorem dX1_takes_83 : decode cX1_takes 83 = .ok (.getfield 28, 3) := dk_180 0 28 (dk_at dksX1_takes_3 13 rfl rfl)
theorem dX1_takes_86 : decode cX1_takes 86 = .ok (.putfield 28, 3) := dk_181 0 28 (dk_at dksX1_takes_3 16 rfl rfl)
theorem dX1_takes_89 : decode cX1_takes 89 = .ok (.aload_n 0, 1) := dk_42 (dk_at dksX1_takes_3 19 rfl rfl)
theorem dX1_takes_90 : decode cX1_takes 90 = .ok (.aload_n 1, 1) := dk_43 (dk_at dksX1_takes_3 20 rfl rfl)
theorem dX1_takes_91 : decode cX1_takes 91 = .ok (.getfield 32, 3) := dk_180 0 32 (dk_at dksX1_takes_3 21 rfl rfl)
theorem dX1_takes_94 : decode cX1_takes 94 = .ok (.putfield 32, 3) := dk_181 0 32 (dk_at dksX1_takes_4 0 rfl rfl)
theorem dX1_takes_97 : decode cX1_takes 97 = .ok (.aload_n 0, 1) := dk_42 (dk_at dksX1_takes_4 3 rfl rfl)
theorem dX1_takes_98 : decode cX1_takes 98 = .ok (.aload_n 1, 1) := dk_43 (dk_at dksX1_takes_4 4 rfl rfl)
theorem dX1_takes_99 : decode cX1_takes 99 = .ok (.getfield 35, 3) := dk_180 0 35 (dk_at dksX1_takes_4 5 rfl rfl)
theorem dX1_takes_102 : decode cX1_takes 102 = .ok (.putfield 35, 3) := dk_181 0 35 (dk_at dksX1_takes_4 8 rfl rfl)
theorem dX1_takes_105 : decode cX1_takes 105 = .ok (.aload_n 0, 1) := dk_42 (dk_at dksX1_takes_4 11 rfl rfl)
theorem dX1_takes_106 : decode cX1_takes 106 = .ok (.aload_n 1, 1) := dk_43 (dk_at dksX1_takes_4 12 rfl rfl)
theorem dX1_takes_107 : decode cX1_takes 107 = .ok (.getfield 38, 3) := dk_180 0 38 (dk_at dksX1_takes_4 13 rfl rfl)
theorem dX1_takes_110 : decode cX1_takes 110 = .ok (.putfield 38, 3) := dk_181 0 38 (dk_at dksX1_takes_4 16 rfl rfl)
theorem dX1_takes_113 : decode cX1_takes 113 = .ok (.aload_n 0, 1) := dk_42 (dk_at dksX1_takes_4 19 rfl rfl)
theorem dX1_takes_114 : decode cX1_takes 114 = .ok (.aload_n 1, 1) := dk_43 (dk_at dksX1_takes_4 20 rfl rfl)
theorem dX1_takes_115 : decode cX1_takes 115 = .ok (.getfield 41, 3) := dk_180 0 41 (dk_at dksX1_takes_4 21 rfl rfl)
theorem dX1_takes_118 : decode cX1_takes 118 = .ok (.putfield 41, 3) := dk_181 0 41 (dk_at dksX1_takes_5 0 rfl rfl)
theorem dX1_takes_121 : decode cX1_takes 121 = .ok (.return_, 1) := dk_177 (dk_at dksX1_takes_5 3 rfl rfl)
abbrev cX1_spread : ByteArray := prog_3_method_6_code
def yX1_spread : MethodName := ⟨RX1, "spread", "()I"⟩
def dkwX1_spread_2 : List UInt8 := [172]
abbrev dktX1_spread_2 : List UInt8 := dkwX1_spread_2 ++ []
def dkwX1_spread_1 : List UInt8 := [60, 28, 42, 29, 182, 0, 44, 184, 0, 57, 61, 132, 3, 1, 167, 255, 225, 3, 28, 27, 100, 184, 0, 57]
abbrev dktX1_spread_1 : List UInt8 := dkwX1_spread_1 ++ dktX1_spread_2
def dkwX1_spread_0 : List UInt8 := [16, 100, 60, 3, 61, 3, 62, 29, 42, 180, 0, 28, 162, 0, 29, 27, 42, 29, 182, 0, 44, 184, 0, 53]
abbrev dktX1_spread_0 : List UInt8 := dkwX1_spread_0 ++ dktX1_spread_1
theorem dksX1_spread_0 : cX1_spread.data.toList.drop 0 = dktX1_spread_0 := by decide +kernel
theorem dksX1_spread_1 : cX1_spread.data.toList.drop 24 = dktX1_spread_1 := dk_seg dksX1_spread_0 24 rfl rfl
theorem dksX1_spread_2 : cX1_spread.data.toList.drop 48 = dktX1_spread_2 := dk_seg dksX1_spread_1 24 rfl rfl
theorem dX1_spread_0 : decode cX1_spread 0 = .ok (.bipush 100, 2) := dk_16 100 (dk_at dksX1_spread_0 0 rfl rfl)
theorem dX1_spread_2 : decode cX1_spread 2 = .ok (.istore_n 1, 1) := dk_60 (dk_at dksX1_spread_0 2 rfl rfl)
theorem dX1_spread_3 : decode cX1_spread 3 = .ok (.iconst 0, 1) := dk_3 (dk_at dksX1_spread_0 3 rfl rfl)
theorem dX1_spread_4 : decode cX1_spread 4 = .ok (.istore_n 2, 1) := dk_61 (dk_at dksX1_spread_0 4 rfl rfl)
theorem dX1_spread_5 : decode cX1_spread 5 = .ok (.iconst 0, 1) := dk_3 (dk_at dksX1_spread_0 5 rfl rfl)
theorem dX1_spread_6 : decode cX1_spread 6 = .ok (.istore_n 3, 1) := dk_62 (dk_at dksX1_spread_0 6 rfl rfl)
theorem dX1_spread_7 : decode cX1_spread 7 = .ok (.iload_n 3, 1) := dk_29 (dk_at dksX1_spread_0 7 rfl rfl)
theorem dX1_spread_8 : decode cX1_spread 8 = .ok (.aload_n 0, 1) := dk_42 (dk_at dksX1_spread_0 8 rfl rfl)
theorem dX1_spread_9 : decode cX1_spread 9 = .ok (.getfield 28, 3) := dk_180 0 28 (dk_at dksX1_spread_0 9 rfl rfl)
theorem dX1_spread_12 : decode cX1_spread 12 = .ok (.if_icmp .ge 29, 3) := dk_162 0 29 (dk_at dksX1_spread_0 12 rfl rfl)
theorem dX1_spread_15 : decode cX1_spread 15 = .ok (.iload_n 1, 1) := dk_27 (dk_at dksX1_spread_0 15 rfl rfl)
theorem dX1_spread_16 : decode cX1_spread 16 = .ok (.aload_n 0, 1) := dk_42 (dk_at dksX1_spread_0 16 rfl rfl)
theorem dX1_spread_17 : decode cX1_spread 17 = .ok (.iload_n 3, 1) := dk_29 (dk_at dksX1_spread_0 17 rfl rfl)
theorem dX1_spread_18 : decode cX1_spread 18 = .ok (.invokevirtual 44, 3) := dk_182 0 44 (dk_at dksX1_spread_0 18 rfl rfl)
theorem dX1_spread_21 : decode cX1_spread 21 = .ok (.invokestatic 53, 3) := dk_184 0 53 (dk_at dksX1_spread_0 21 rfl rfl)
theorem dX1_spread_24 : decode cX1_spread 24 = .ok (.istore_n 1, 1) := dk_60 (dk_at dksX1_spread_1 0 rfl rfl)
theorem dX1_spread_25 : decode cX1_spread 25 = .ok (.iload_n 2, 1) := dk_28 (dk_at dksX1_spread_1 1 rfl rfl)
theorem dX1_spread_26 : decode cX1_spread 26 = .ok (.aload_n 0, 1) := dk_42 (dk_at dksX1_spread_1 2 rfl rfl)
theorem dX1_spread_27 : decode cX1_spread 27 = .ok (.iload_n 3, 1) := dk_29 (dk_at dksX1_spread_1 3 rfl rfl)
theorem dX1_spread_28 : decode cX1_spread 28 = .ok (.invokevirtual 44, 3) := dk_182 0 44 (dk_at dksX1_spread_1 4 rfl rfl)
theorem dX1_spread_31 : decode cX1_spread 31 = .ok (.invokestatic 57, 3) := dk_184 0 57 (dk_at dksX1_spread_1 7 rfl rfl)
theorem dX1_spread_34 : decode cX1_spread 34 = .ok (.istore_n 2, 1) := dk_61 (dk_at dksX1_spread_1 10 rfl rfl)
theorem dX1_spread_35 : decode cX1_spread 35 = .ok (.iinc 3 1, 3) := dk_132 3 1 (dk_at dksX1_spread_1 11 rfl rfl)
theorem dX1_spread_38 : decode cX1_spread 38 = .ok (.goto (-31), 3) := dk_167 255 225 (dk_at dksX1_spread_1 14 rfl rfl)
theorem dX1_spread_41 : decode cX1_spread 41 = .ok (.iconst 0, 1) := dk_3 (dk_at dksX1_spread_1 17 rfl rfl)
theorem dX1_spread_42 : decode cX1_spread 42 = .ok (.iload_n 2, 1) := dk_28 (dk_at dksX1_spread_1 18 rfl rfl)
theorem dX1_spread_43 : decode cX1_spread 43 = .ok (.iload_n 1, 1) := dk_27 (dk_at dksX1_spread_1 19 rfl rfl)
theorem dX1_spread_44 : decode cX1_spread 44 = .ok (.isub, 1) := dk_100 (dk_at dksX1_spread_1 20 rfl rfl)
theorem dX1_spread_45 : decode cX1_spread 45 = .ok (.invokestatic 57, 3) := dk_184 0 57 (dk_at dksX1_spread_1 21 rfl rfl)
theorem dX1_spread_48 : decode cX1_spread 48 = .ok (.ireturn, 1) := dk_172 (dk_at dksX1_spread_2 0 rfl rfl)
abbrev cX1_ropesOf : ByteArray := prog_3_method_10_code
def yX1_ropesOf : MethodName := ⟨RX1, "ropesOf", "(I)I"⟩
def dkwX1_ropesOf_2 : List UInt8 := [132, 3, 1, 167, 255, 213, 28, 172]
abbrev dktX1_ropesOf_2 : List UInt8 := dkwX1_ropesOf_2 ++ []
def dkwX1_ropesOf_1 : List UInt8 := [159, 0, 15, 42, 180, 0, 19, 29, 50, 4, 46, 27, 160, 0, 7, 4, 167, 0, 4, 3, 96, 61]
abbrev dktX1_ropesOf_1 : List UInt8 := dkwX1_ropesOf_1 ++ dktX1_ropesOf_2
def dkwX1_ropesOf_0 : List UInt8 := [3, 61, 3, 62, 29, 42, 180, 0, 32, 162, 0, 41, 28, 42, 180, 0, 19, 29, 50, 3, 46, 27]
abbrev dktX1_ropesOf_0 : List UInt8 := dkwX1_ropesOf_0 ++ dktX1_ropesOf_1
theorem dksX1_ropesOf_0 : cX1_ropesOf.data.toList.drop 0 = dktX1_ropesOf_0 := by decide +kernel
theorem dksX1_ropesOf_1 : cX1_ropesOf.data.toList.drop 22 = dktX1_ropesOf_1 := dk_seg dksX1_ropesOf_0 22 rfl rfl
theorem dksX1_ropesOf_2 : cX1_ropesOf.data.toList.drop 44 = dktX1_ropesOf_2 := dk_seg dksX1_ropesOf_1 22 rfl rfl
theorem dX1_ropesOf_0 : decode cX1_ropesOf 0 = .ok (.iconst 0, 1) := dk_3 (dk_at dksX1_ropesOf_0 0 rfl rfl)
theorem dX1_ropesOf_1 : decode cX1_ropesOf 1 = .ok (.istore_n 2, 1) := dk_61 (dk_at dksX1_ropesOf_0 1 rfl rfl)
theorem dX1_ropesOf_2 : decode cX1_ropesOf 2 = .ok (.iconst 0, 1) := dk_3 (dk_at dksX1_ropesOf_0 2 rfl rfl)
theorem dX1_ropesOf_3 : decode cX1_ropesOf 3 = .ok (.istore_n 3, 1) := dk_62 (dk_at dksX1_ropesOf_0 3 rfl rfl)
theorem dX1_ropesOf_4 : decode cX1_ropesOf 4 = .ok (.iload_n 3, 1) := dk_29 (dk_at dksX1_ropesOf_0 4 rfl rfl)
theorem dX1_ropesOf_5 : decode cX1_ropesOf 5 = .ok (.aload_n 0, 1) := dk_42 (dk_at dksX1_ropesOf_0 5 rfl rfl)
theorem dX1_ropesOf_6 : decode cX1_ropesOf 6 = .ok (.getfield 32, 3) := dk_180 0 32 (dk_at dksX1_ropesOf_0 6 rfl rfl)
theorem dX1_ropesOf_9 : decode cX1_ropesOf 9 = .ok (.if_icmp .ge 41, 3) := dk_162 0 41 (dk_at dksX1_ropesOf_0 9 rfl rfl)
theorem dX1_ropesOf_12 : decode cX1_ropesOf 12 = .ok (.iload_n 2, 1) := dk_28 (dk_at dksX1_ropesOf_0 12 rfl rfl)
theorem dX1_ropesOf_13 : decode cX1_ropesOf 13 = .ok (.aload_n 0, 1) := dk_42 (dk_at dksX1_ropesOf_0 13 rfl rfl)
theorem dX1_ropesOf_14 : decode cX1_ropesOf 14 = .ok (.getfield 19, 3) := dk_180 0 19 (dk_at dksX1_ropesOf_0 14 rfl rfl)
theorem dX1_ropesOf_17 : decode cX1_ropesOf 17 = .ok (.iload_n 3, 1) := dk_29 (dk_at dksX1_ropesOf_0 17 rfl rfl)
theorem dX1_ropesOf_18 : decode cX1_ropesOf 18 = .ok (.aaload, 1) := dk_50 (dk_at dksX1_ropesOf_0 18 rfl rfl)
theorem dX1_ropesOf_19 : decode cX1_ropesOf 19 = .ok (.iconst 0, 1) := dk_3 (dk_at dksX1_ropesOf_0 19 rfl rfl)
theorem dX1_ropesOf_20 : decode cX1_ropesOf 20 = .ok (.iaload, 1) := dk_46 (dk_at dksX1_ropesOf_0 20 rfl rfl)
theorem dX1_ropesOf_21 : decode cX1_ropesOf 21 = .ok (.iload_n 1, 1) := dk_27 (dk_at dksX1_ropesOf_0 21 rfl rfl)
theorem dX1_ropesOf_22 : decode cX1_ropesOf 22 = .ok (.if_icmp .eq 15, 3) := dk_159 0 15 (dk_at dksX1_ropesOf_1 0 rfl rfl)
theorem dX1_ropesOf_25 : decode cX1_ropesOf 25 = .ok (.aload_n 0, 1) := dk_42 (dk_at dksX1_ropesOf_1 3 rfl rfl)
theorem dX1_ropesOf_26 : decode cX1_ropesOf 26 = .ok (.getfield 19, 3) := dk_180 0 19 (dk_at dksX1_ropesOf_1 4 rfl rfl)
theorem dX1_ropesOf_29 : decode cX1_ropesOf 29 = .ok (.iload_n 3, 1) := dk_29 (dk_at dksX1_ropesOf_1 7 rfl rfl)
theorem dX1_ropesOf_30 : decode cX1_ropesOf 30 = .ok (.aaload, 1) := dk_50 (dk_at dksX1_ropesOf_1 8 rfl rfl)
theorem dX1_ropesOf_31 : decode cX1_ropesOf 31 = .ok (.iconst 1, 1) := dk_4 (dk_at dksX1_ropesOf_1 9 rfl rfl)
theorem dX1_ropesOf_32 : decode cX1_ropesOf 32 = .ok (.iaload, 1) := dk_46 (dk_at dksX1_ropesOf_1 10 rfl rfl)
theorem dX1_ropesOf_33 : decode cX1_ropesOf 33 = .ok (.iload_n 1, 1) := dk_27 (dk_at dksX1_ropesOf_1 11 rfl rfl)
theorem dX1_ropesOf_34 : decode cX1_ropesOf 34 = .ok (.if_icmp .ne 7, 3) := dk_160 0 7 (dk_at dksX1_ropesOf_1 12 rfl rfl)
theorem dX1_ropesOf_37 : decode cX1_ropesOf 37 = .ok (.iconst 1, 1) := dk_4 (dk_at dksX1_ropesOf_1 15 rfl rfl)
theorem dX1_ropesOf_38 : decode cX1_ropesOf 38 = .ok (.goto 4, 3) := dk_167 0 4 (dk_at dksX1_ropesOf_1 16 rfl rfl)
theorem dX1_ropesOf_41 : decode cX1_ropesOf 41 = .ok (.iconst 0, 1) := dk_3 (dk_at dksX1_ropesOf_1 19 rfl rfl)
theorem dX1_ropesOf_42 : decode cX1_ropesOf 42 = .ok (.iadd, 1) := dk_96 (dk_at dksX1_ropesOf_1 20 rfl rfl)
theorem dX1_ropesOf_43 : decode cX1_ropesOf 43 = .ok (.istore_n 2, 1) := dk_61 (dk_at dksX1_ropesOf_1 21 rfl rfl)
theorem dX1_ropesOf_44 : decode cX1_ropesOf 44 = .ok (.iinc 3 1, 3) := dk_132 3 1 (dk_at dksX1_ropesOf_2 0 rfl rfl)
theorem dX1_ropesOf_47 : decode cX1_ropesOf 47 = .ok (.goto (-43), 3) := dk_167 255 213 (dk_at dksX1_ropesOf_2 3 rfl rfl)
theorem dX1_ropesOf_50 : decode cX1_ropesOf 50 = .ok (.iload_n 2, 1) := dk_28 (dk_at dksX1_ropesOf_2 6 rfl rfl)
theorem dX1_ropesOf_51 : decode cX1_ropesOf 51 = .ok (.ireturn, 1) := dk_172 (dk_at dksX1_ropesOf_2 7 rfl rfl)
abbrev cX1_fathoms : ByteArray := prog_3_method_8_code
def yX1_fathoms : MethodName := ⟨RX1, "fathoms", "(I)I"⟩
def dkwX1_fathoms_0 : List UInt8 := [178, 0, 60, 42, 180, 0, 11, 27, 50, 3, 46, 50, 42, 27, 182, 0, 64, 184, 0, 48, 182, 0, 67, 172]
abbrev dktX1_fathoms_0 : List UInt8 := dkwX1_fathoms_0 ++ []
theorem dksX1_fathoms_0 : cX1_fathoms.data.toList.drop 0 = dktX1_fathoms_0 := by decide +kernel
theorem dX1_fathoms_0 : decode cX1_fathoms 0 = .ok (.getstatic 60, 3) := dk_178 0 60 (dk_at dksX1_fathoms_0 0 rfl rfl)
theorem dX1_fathoms_3 : decode cX1_fathoms 3 = .ok (.aload_n 0, 1) := dk_42 (dk_at dksX1_fathoms_0 3 rfl rfl)
theorem dX1_fathoms_4 : decode cX1_fathoms 4 = .ok (.getfield 11, 3) := dk_180 0 11 (dk_at dksX1_fathoms_0 4 rfl rfl)
theorem dX1_fathoms_7 : decode cX1_fathoms 7 = .ok (.iload_n 1, 1) := dk_27 (dk_at dksX1_fathoms_0 7 rfl rfl)
theorem dX1_fathoms_8 : decode cX1_fathoms 8 = .ok (.aaload, 1) := dk_50 (dk_at dksX1_fathoms_0 8 rfl rfl)
theorem dX1_fathoms_9 : decode cX1_fathoms 9 = .ok (.iconst 0, 1) := dk_3 (dk_at dksX1_fathoms_0 9 rfl rfl)
theorem dX1_fathoms_10 : decode cX1_fathoms 10 = .ok (.iaload, 1) := dk_46 (dk_at dksX1_fathoms_0 10 rfl rfl)
theorem dX1_fathoms_11 : decode cX1_fathoms 11 = .ok (.aaload, 1) := dk_50 (dk_at dksX1_fathoms_0 11 rfl rfl)
theorem dX1_fathoms_12 : decode cX1_fathoms 12 = .ok (.aload_n 0, 1) := dk_42 (dk_at dksX1_fathoms_0 12 rfl rfl)
theorem dX1_fathoms_13 : decode cX1_fathoms 13 = .ok (.iload_n 1, 1) := dk_27 (dk_at dksX1_fathoms_0 13 rfl rfl)
theorem dX1_fathoms_14 : decode cX1_fathoms 14 = .ok (.invokevirtual 64, 3) := dk_182 0 64 (dk_at dksX1_fathoms_0 14 rfl rfl)
theorem dX1_fathoms_17 : decode cX1_fathoms 17 = .ok (.invokestatic 48, 3) := dk_184 0 48 (dk_at dksX1_fathoms_0 17 rfl rfl)
theorem dX1_fathoms_20 : decode cX1_fathoms 20 = .ok (.invokevirtual 67, 3) := dk_182 0 67 (dk_at dksX1_fathoms_0 20 rfl rfl)
theorem dX1_fathoms_23 : decode cX1_fathoms 23 = .ok (.ireturn, 1) := dk_172 (dk_at dksX1_fathoms_0 23 rfl rfl)
abbrev cX1_sulk : ByteArray := prog_3_method_7_code
def yX1_sulk : MethodName := ⟨RX1, "sulk", "(I)I"⟩
def dkwX1_sulk_2 : List UInt8 := [61, 132, 3, 1, 167, 255, 209, 28, 172]
abbrev dktX1_sulk_2 : List UInt8 := dkwX1_sulk_2 ++ []
def dkwX1_sulk_1 : List UInt8 := [164, 0, 14, 42, 180, 0, 16, 27, 50, 29, 46, 167, 0, 12, 42, 180, 0, 16, 27, 50, 29, 46, 116, 96]
abbrev dktX1_sulk_1 : List UInt8 := dkwX1_sulk_1 ++ dktX1_sulk_2
def dkwX1_sulk_0 : List UInt8 := [3, 61, 3, 62, 29, 42, 180, 0, 28, 162, 0, 45, 28, 42, 27, 182, 0, 44, 42, 29, 182, 0, 44]
abbrev dktX1_sulk_0 : List UInt8 := dkwX1_sulk_0 ++ dktX1_sulk_1
theorem dksX1_sulk_0 : cX1_sulk.data.toList.drop 0 = dktX1_sulk_0 := by decide +kernel
theorem dksX1_sulk_1 : cX1_sulk.data.toList.drop 23 = dktX1_sulk_1 := dk_seg dksX1_sulk_0 23 rfl rfl
theorem dksX1_sulk_2 : cX1_sulk.data.toList.drop 47 = dktX1_sulk_2 := dk_seg dksX1_sulk_1 24 rfl rfl
theorem dX1_sulk_0 : decode cX1_sulk 0 = .ok (.iconst 0, 1) := dk_3 (dk_at dksX1_sulk_0 0 rfl rfl)
theorem dX1_sulk_1 : decode cX1_sulk 1 = .ok (.istore_n 2, 1) := dk_61 (dk_at dksX1_sulk_0 1 rfl rfl)
theorem dX1_sulk_2 : decode cX1_sulk 2 = .ok (.iconst 0, 1) := dk_3 (dk_at dksX1_sulk_0 2 rfl rfl)
theorem dX1_sulk_3 : decode cX1_sulk 3 = .ok (.istore_n 3, 1) := dk_62 (dk_at dksX1_sulk_0 3 rfl rfl)
theorem dX1_sulk_4 : decode cX1_sulk 4 = .ok (.iload_n 3, 1) := dk_29 (dk_at dksX1_sulk_0 4 rfl rfl)
theorem dX1_sulk_5 : decode cX1_sulk 5 = .ok (.aload_n 0, 1) := dk_42 (dk_at dksX1_sulk_0 5 rfl rfl)
theorem dX1_sulk_6 : decode cX1_sulk 6 = .ok (.getfield 28, 3) := dk_180 0 28 (dk_at dksX1_sulk_0 6 rfl rfl)
theorem dX1_sulk_9 : decode cX1_sulk 9 = .ok (.if_icmp .ge 45, 3) := dk_162 0 45 (dk_at dksX1_sulk_0 9 rfl rfl)
theorem dX1_sulk_12 : decode cX1_sulk 12 = .ok (.iload_n 2, 1) := dk_28 (dk_at dksX1_sulk_0 12 rfl rfl)
theorem dX1_sulk_13 : decode cX1_sulk 13 = .ok (.aload_n 0, 1) := dk_42 (dk_at dksX1_sulk_0 13 rfl rfl)
theorem dX1_sulk_14 : decode cX1_sulk 14 = .ok (.iload_n 1, 1) := dk_27 (dk_at dksX1_sulk_0 14 rfl rfl)
theorem dX1_sulk_15 : decode cX1_sulk 15 = .ok (.invokevirtual 44, 3) := dk_182 0 44 (dk_at dksX1_sulk_0 15 rfl rfl)
theorem dX1_sulk_18 : decode cX1_sulk 18 = .ok (.aload_n 0, 1) := dk_42 (dk_at dksX1_sulk_0 18 rfl rfl)
theorem dX1_sulk_19 : decode cX1_sulk 19 = .ok (.iload_n 3, 1) := dk_29 (dk_at dksX1_sulk_0 19 rfl rfl)
theorem dX1_sulk_20 : decode cX1_sulk 20 = .ok (.invokevirtual 44, 3) := dk_182 0 44 (dk_at dksX1_sulk_0 20 rfl rfl)
theorem dX1_sulk_23 : decode cX1_sulk 23 = .ok (.if_icmp .le 14, 3) := dk_164 0 14 (dk_at dksX1_sulk_1 0 rfl rfl)
theorem dX1_sulk_26 : decode cX1_sulk 26 = .ok (.aload_n 0, 1) := dk_42 (dk_at dksX1_sulk_1 3 rfl rfl)
theorem dX1_sulk_27 : decode cX1_sulk 27 = .ok (.getfield 16, 3) := dk_180 0 16 (dk_at dksX1_sulk_1 4 rfl rfl)
theorem dX1_sulk_30 : decode cX1_sulk 30 = .ok (.iload_n 1, 1) := dk_27 (dk_at dksX1_sulk_1 7 rfl rfl)
theorem dX1_sulk_31 : decode cX1_sulk 31 = .ok (.aaload, 1) := dk_50 (dk_at dksX1_sulk_1 8 rfl rfl)
theorem dX1_sulk_32 : decode cX1_sulk 32 = .ok (.iload_n 3, 1) := dk_29 (dk_at dksX1_sulk_1 9 rfl rfl)
theorem dX1_sulk_33 : decode cX1_sulk 33 = .ok (.iaload, 1) := dk_46 (dk_at dksX1_sulk_1 10 rfl rfl)
theorem dX1_sulk_34 : decode cX1_sulk 34 = .ok (.goto 12, 3) := dk_167 0 12 (dk_at dksX1_sulk_1 11 rfl rfl)
theorem dX1_sulk_37 : decode cX1_sulk 37 = .ok (.aload_n 0, 1) := dk_42 (dk_at dksX1_sulk_1 14 rfl rfl)
theorem dX1_sulk_38 : decode cX1_sulk 38 = .ok (.getfield 16, 3) := dk_180 0 16 (dk_at dksX1_sulk_1 15 rfl rfl)
theorem dX1_sulk_41 : decode cX1_sulk 41 = .ok (.iload_n 1, 1) := dk_27 (dk_at dksX1_sulk_1 18 rfl rfl)
theorem dX1_sulk_42 : decode cX1_sulk 42 = .ok (.aaload, 1) := dk_50 (dk_at dksX1_sulk_1 19 rfl rfl)
theorem dX1_sulk_43 : decode cX1_sulk 43 = .ok (.iload_n 3, 1) := dk_29 (dk_at dksX1_sulk_1 20 rfl rfl)
theorem dX1_sulk_44 : decode cX1_sulk 44 = .ok (.iaload, 1) := dk_46 (dk_at dksX1_sulk_1 21 rfl rfl)
theorem dX1_sulk_45 : decode cX1_sulk 45 = .ok (.ineg, 1) := dk_116 (dk_at dksX1_sulk_1 22 rfl rfl)
theorem dX1_sulk_46 : decode cX1_sulk 46 = .ok (.iadd, 1) := dk_96 (dk_at dksX1_sulk_1 23 rfl rfl)
theorem dX1_sulk_47 : decode cX1_sulk 47 = .ok (.istore_n 2, 1) := dk_61 (dk_at dksX1_sulk_2 0 rfl rfl)
theorem dX1_sulk_48 : decode cX1_sulk 48 = .ok (.iinc 3 1, 3) := dk_132 3 1 (dk_at dksX1_sulk_2 1 rfl rfl)
theorem dX1_sulk_51 : decode cX1_sulk 51 = .ok (.goto (-47), 3) := dk_167 255 209 (dk_at dksX1_sulk_2 4 rfl rfl)
theorem dX1_sulk_54 : decode cX1_sulk 54 = .ok (.iload_n 2, 1) := dk_28 (dk_at dksX1_sulk_2 7 rfl rfl)
theorem dX1_sulk_55 : decode cX1_sulk 55 = .ok (.ireturn, 1) := dk_172 (dk_at dksX1_sulk_2 8 rfl rfl)
abbrev cX1_nearest : ByteArray := prog_3_method_9_code
def yX1_nearest : MethodName := ⟨RX1, "nearest", "(I)I"⟩
def dkwX1_nearest_2 : List UInt8 := [167, 255, 213, 28, 172]
abbrev dktX1_nearest_2 : List UInt8 := dkwX1_nearest_2 ++ []
def dkwX1_nearest_1 : List UInt8 := [42, 27, 29, 182, 0, 72, 42, 27, 28, 182, 0, 72, 162, 0, 7, 29, 167, 0, 4, 28, 61, 132, 3, 1]
abbrev dktX1_nearest_1 : List UInt8 := dkwX1_nearest_1 ++ dktX1_nearest_2
def dkwX1_nearest_0 : List UInt8 := [16, 252, 61, 3, 62, 29, 42, 180, 0, 28, 162, 0, 41, 29, 27, 159, 0, 28, 28, 16, 252, 159, 0, 18]
abbrev dktX1_nearest_0 : List UInt8 := dkwX1_nearest_0 ++ dktX1_nearest_1
theorem dksX1_nearest_0 : cX1_nearest.data.toList.drop 0 = dktX1_nearest_0 := by decide +kernel
theorem dksX1_nearest_1 : cX1_nearest.data.toList.drop 24 = dktX1_nearest_1 := dk_seg dksX1_nearest_0 24 rfl rfl
theorem dksX1_nearest_2 : cX1_nearest.data.toList.drop 48 = dktX1_nearest_2 := dk_seg dksX1_nearest_1 24 rfl rfl
theorem dX1_nearest_0 : decode cX1_nearest 0 = .ok (.bipush (-4), 2) := dk_16 252 (dk_at dksX1_nearest_0 0 rfl rfl)
theorem dX1_nearest_2 : decode cX1_nearest 2 = .ok (.istore_n 2, 1) := dk_61 (dk_at dksX1_nearest_0 2 rfl rfl)
theorem dX1_nearest_3 : decode cX1_nearest 3 = .ok (.iconst 0, 1) := dk_3 (dk_at dksX1_nearest_0 3 rfl rfl)
theorem dX1_nearest_4 : decode cX1_nearest 4 = .ok (.istore_n 3, 1) := dk_62 (dk_at dksX1_nearest_0 4 rfl rfl)
theorem dX1_nearest_5 : decode cX1_nearest 5 = .ok (.iload_n 3, 1) := dk_29 (dk_at dksX1_nearest_0 5 rfl rfl)
theorem dX1_nearest_6 : decode cX1_nearest 6 = .ok (.aload_n 0, 1) := dk_42 (dk_at dksX1_nearest_0 6 rfl rfl)
theorem dX1_nearest_7 : decode cX1_nearest 7 = .ok (.getfield 28, 3) := dk_180 0 28 (dk_at dksX1_nearest_0 7 rfl rfl)
theorem dX1_nearest_10 : decode cX1_nearest 10 = .ok (.if_icmp .ge 41, 3) := dk_162 0 41 (dk_at dksX1_nearest_0 10 rfl rfl)
theorem dX1_nearest_13 : decode cX1_nearest 13 = .ok (.iload_n 3, 1) := dk_29 (dk_at dksX1_nearest_0 13 rfl rfl)
theorem dX1_nearest_14 : decode cX1_nearest 14 = .ok (.iload_n 1, 1) := dk_27 (dk_at dksX1_nearest_0 14 rfl rfl)
theorem dX1_nearest_15 : decode cX1_nearest 15 = .ok (.if_icmp .eq 28, 3) := dk_159 0 28 (dk_at dksX1_nearest_0 15 rfl rfl)
theorem dX1_nearest_18 : decode cX1_nearest 18 = .ok (.iload_n 2, 1) := dk_28 (dk_at dksX1_nearest_0 18 rfl rfl)
theorem dX1_nearest_19 : decode cX1_nearest 19 = .ok (.bipush (-4), 2) := dk_16 252 (dk_at dksX1_nearest_0 19 rfl rfl)
theorem dX1_nearest_21 : decode cX1_nearest 21 = .ok (.if_icmp .eq 18, 3) := dk_159 0 18 (dk_at dksX1_nearest_0 21 rfl rfl)
theorem dX1_nearest_24 : decode cX1_nearest 24 = .ok (.aload_n 0, 1) := dk_42 (dk_at dksX1_nearest_1 0 rfl rfl)
theorem dX1_nearest_25 : decode cX1_nearest 25 = .ok (.iload_n 1, 1) := dk_27 (dk_at dksX1_nearest_1 1 rfl rfl)
theorem dX1_nearest_26 : decode cX1_nearest 26 = .ok (.iload_n 3, 1) := dk_29 (dk_at dksX1_nearest_1 2 rfl rfl)
theorem dX1_nearest_27 : decode cX1_nearest 27 = .ok (.invokevirtual 72, 3) := dk_182 0 72 (dk_at dksX1_nearest_1 3 rfl rfl)
theorem dX1_nearest_30 : decode cX1_nearest 30 = .ok (.aload_n 0, 1) := dk_42 (dk_at dksX1_nearest_1 6 rfl rfl)
theorem dX1_nearest_31 : decode cX1_nearest 31 = .ok (.iload_n 1, 1) := dk_27 (dk_at dksX1_nearest_1 7 rfl rfl)
theorem dX1_nearest_32 : decode cX1_nearest 32 = .ok (.iload_n 2, 1) := dk_28 (dk_at dksX1_nearest_1 8 rfl rfl)
theorem dX1_nearest_33 : decode cX1_nearest 33 = .ok (.invokevirtual 72, 3) := dk_182 0 72 (dk_at dksX1_nearest_1 9 rfl rfl)
theorem dX1_nearest_36 : decode cX1_nearest 36 = .ok (.if_icmp .ge 7, 3) := dk_162 0 7 (dk_at dksX1_nearest_1 12 rfl rfl)
theorem dX1_nearest_39 : decode cX1_nearest 39 = .ok (.iload_n 3, 1) := dk_29 (dk_at dksX1_nearest_1 15 rfl rfl)
theorem dX1_nearest_40 : decode cX1_nearest 40 = .ok (.goto 4, 3) := dk_167 0 4 (dk_at dksX1_nearest_1 16 rfl rfl)
theorem dX1_nearest_43 : decode cX1_nearest 43 = .ok (.iload_n 2, 1) := dk_28 (dk_at dksX1_nearest_1 19 rfl rfl)
theorem dX1_nearest_44 : decode cX1_nearest 44 = .ok (.istore_n 2, 1) := dk_61 (dk_at dksX1_nearest_1 20 rfl rfl)
theorem dX1_nearest_45 : decode cX1_nearest 45 = .ok (.iinc 3 1, 3) := dk_132 3 1 (dk_at dksX1_nearest_1 21 rfl rfl)
theorem dX1_nearest_48 : decode cX1_nearest 48 = .ok (.goto (-43), 3) := dk_167 255 213 (dk_at dksX1_nearest_2 0 rfl rfl)
theorem dX1_nearest_51 : decode cX1_nearest 51 = .ok (.iload_n 2, 1) := dk_28 (dk_at dksX1_nearest_2 3 rfl rfl)
theorem dX1_nearest_52 : decode cX1_nearest 52 = .ok (.ireturn, 1) := dk_172 (dk_at dksX1_nearest_2 4 rfl rfl)
abbrev cX1_apart : ByteArray := prog_3_method_4_code
def yX1_apart : MethodName := ⟨RX1, "apart", "(II)I"⟩
def dkwX1_apart_0 : List UInt8 := [42, 27, 182, 0, 44, 42, 28, 182, 0, 44, 100, 184, 0, 48, 172]
abbrev dktX1_apart_0 : List UInt8 := dkwX1_apart_0 ++ []
theorem dksX1_apart_0 : cX1_apart.data.toList.drop 0 = dktX1_apart_0 := by decide +kernel
theorem dX1_apart_0 : decode cX1_apart 0 = .ok (.aload_n 0, 1) := dk_42 (dk_at dksX1_apart_0 0 rfl rfl)
theorem dX1_apart_1 : decode cX1_apart 1 = .ok (.iload_n 1, 1) := dk_27 (dk_at dksX1_apart_0 1 rfl rfl)
theorem dX1_apart_2 : decode cX1_apart 2 = .ok (.invokevirtual 44, 3) := dk_182 0 44 (dk_at dksX1_apart_0 2 rfl rfl)
theorem dX1_apart_5 : decode cX1_apart 5 = .ok (.aload_n 0, 1) := dk_42 (dk_at dksX1_apart_0 5 rfl rfl)
theorem dX1_apart_6 : decode cX1_apart 6 = .ok (.iload_n 2, 1) := dk_28 (dk_at dksX1_apart_0 6 rfl rfl)
theorem dX1_apart_7 : decode cX1_apart 7 = .ok (.invokevirtual 44, 3) := dk_182 0 44 (dk_at dksX1_apart_0 7 rfl rfl)
theorem dX1_apart_10 : decode cX1_apart 10 = .ok (.isub, 1) := dk_100 (dk_at dksX1_apart_0 10 rfl rfl)
theorem dX1_apart_11 : decode cX1_apart 11 = .ok (.invokestatic 48, 3) := dk_184 0 48 (dk_at dksX1_apart_0 11 rfl rfl)
theorem dX1_apart_14 : decode cX1_apart 14 = .ok (.ireturn, 1) := dk_172 (dk_at dksX1_apart_0 14 rfl rfl)
abbrev cX1_dayGoes : ByteArray := prog_3_method_14_code
def yX1_dayGoes : MethodName := ⟨RX1, "dayGoes", "()V"⟩
def dkwX1_dayGoes_2 : List UInt8 := [4, 96, 181, 0, 38, 177]
abbrev dktX1_dayGoes_2 : List UInt8 := dkwX1_dayGoes_2 ++ []
def dkwX1_dayGoes_1 : List UInt8 := [42, 27, 182, 0, 95, 167, 0, 8, 42, 27, 182, 0, 99, 132, 1, 1, 167, 255, 218, 42, 89, 180, 0, 38]
abbrev dktX1_dayGoes_1 : List UInt8 := dkwX1_dayGoes_1 ++ dktX1_dayGoes_2
def dkwX1_dayGoes_0 : List UInt8 := [3, 60, 27, 42, 180, 0, 28, 162, 0, 36, 42, 180, 0, 38, 16, 7, 112, 42, 180, 0, 35, 160, 0, 11]
abbrev dktX1_dayGoes_0 : List UInt8 := dkwX1_dayGoes_0 ++ dktX1_dayGoes_1
theorem dksX1_dayGoes_0 : cX1_dayGoes.data.toList.drop 0 = dktX1_dayGoes_0 := by decide +kernel
theorem dksX1_dayGoes_1 : cX1_dayGoes.data.toList.drop 24 = dktX1_dayGoes_1 := dk_seg dksX1_dayGoes_0 24 rfl rfl
theorem dksX1_dayGoes_2 : cX1_dayGoes.data.toList.drop 48 = dktX1_dayGoes_2 := dk_seg dksX1_dayGoes_1 24 rfl rfl
theorem dX1_dayGoes_0 : decode cX1_dayGoes 0 = .ok (.iconst 0, 1) := dk_3 (dk_at dksX1_dayGoes_0 0 rfl rfl)
theorem dX1_dayGoes_1 : decode cX1_dayGoes 1 = .ok (.istore_n 1, 1) := dk_60 (dk_at dksX1_dayGoes_0 1 rfl rfl)
theorem dX1_dayGoes_2 : decode cX1_dayGoes 2 = .ok (.iload_n 1, 1) := dk_27 (dk_at dksX1_dayGoes_0 2 rfl rfl)
theorem dX1_dayGoes_3 : decode cX1_dayGoes 3 = .ok (.aload_n 0, 1) := dk_42 (dk_at dksX1_dayGoes_0 3 rfl rfl)
theorem dX1_dayGoes_4 : decode cX1_dayGoes 4 = .ok (.getfield 28, 3) := dk_180 0 28 (dk_at dksX1_dayGoes_0 4 rfl rfl)
theorem dX1_dayGoes_7 : decode cX1_dayGoes 7 = .ok (.if_icmp .ge 36, 3) := dk_162 0 36 (dk_at dksX1_dayGoes_0 7 rfl rfl)
theorem dX1_dayGoes_10 : decode cX1_dayGoes 10 = .ok (.aload_n 0, 1) := dk_42 (dk_at dksX1_dayGoes_0 10 rfl rfl)
theorem dX1_dayGoes_11 : decode cX1_dayGoes 11 = .ok (.getfield 38, 3) := dk_180 0 38 (dk_at dksX1_dayGoes_0 11 rfl rfl)
theorem dX1_dayGoes_14 : decode cX1_dayGoes 14 = .ok (.bipush 7, 2) := dk_16 7 (dk_at dksX1_dayGoes_0 14 rfl rfl)
theorem dX1_dayGoes_16 : decode cX1_dayGoes 16 = .ok (.irem, 1) := dk_112 (dk_at dksX1_dayGoes_0 16 rfl rfl)
theorem dX1_dayGoes_17 : decode cX1_dayGoes 17 = .ok (.aload_n 0, 1) := dk_42 (dk_at dksX1_dayGoes_0 17 rfl rfl)
theorem dX1_dayGoes_18 : decode cX1_dayGoes 18 = .ok (.getfield 35, 3) := dk_180 0 35 (dk_at dksX1_dayGoes_0 18 rfl rfl)
theorem dX1_dayGoes_21 : decode cX1_dayGoes 21 = .ok (.if_icmp .ne 11, 3) := dk_160 0 11 (dk_at dksX1_dayGoes_0 21 rfl rfl)
theorem dX1_dayGoes_24 : decode cX1_dayGoes 24 = .ok (.aload_n 0, 1) := dk_42 (dk_at dksX1_dayGoes_1 0 rfl rfl)
theorem dX1_dayGoes_25 : decode cX1_dayGoes 25 = .ok (.iload_n 1, 1) := dk_27 (dk_at dksX1_dayGoes_1 1 rfl rfl)
theorem dX1_dayGoes_26 : decode cX1_dayGoes 26 = .ok (.invokevirtual 95, 3) := dk_182 0 95 (dk_at dksX1_dayGoes_1 2 rfl rfl)
theorem dX1_dayGoes_29 : decode cX1_dayGoes 29 = .ok (.goto 8, 3) := dk_167 0 8 (dk_at dksX1_dayGoes_1 5 rfl rfl)
theorem dX1_dayGoes_32 : decode cX1_dayGoes 32 = .ok (.aload_n 0, 1) := dk_42 (dk_at dksX1_dayGoes_1 8 rfl rfl)
theorem dX1_dayGoes_33 : decode cX1_dayGoes 33 = .ok (.iload_n 1, 1) := dk_27 (dk_at dksX1_dayGoes_1 9 rfl rfl)
theorem dX1_dayGoes_34 : decode cX1_dayGoes 34 = .ok (.invokevirtual 99, 3) := dk_182 0 99 (dk_at dksX1_dayGoes_1 10 rfl rfl)
theorem dX1_dayGoes_37 : decode cX1_dayGoes 37 = .ok (.iinc 1 1, 3) := dk_132 1 1 (dk_at dksX1_dayGoes_1 13 rfl rfl)
theorem dX1_dayGoes_40 : decode cX1_dayGoes 40 = .ok (.goto (-38), 3) := dk_167 255 218 (dk_at dksX1_dayGoes_1 16 rfl rfl)
theorem dX1_dayGoes_43 : decode cX1_dayGoes 43 = .ok (.aload_n 0, 1) := dk_42 (dk_at dksX1_dayGoes_1 19 rfl rfl)
theorem dX1_dayGoes_44 : decode cX1_dayGoes 44 = .ok (.dup, 1) := dk_89 (dk_at dksX1_dayGoes_1 20 rfl rfl)
theorem dX1_dayGoes_45 : decode cX1_dayGoes 45 = .ok (.getfield 38, 3) := dk_180 0 38 (dk_at dksX1_dayGoes_1 21 rfl rfl)
theorem dX1_dayGoes_48 : decode cX1_dayGoes 48 = .ok (.iconst 1, 1) := dk_4 (dk_at dksX1_dayGoes_2 0 rfl rfl)
theorem dX1_dayGoes_49 : decode cX1_dayGoes 49 = .ok (.iadd, 1) := dk_96 (dk_at dksX1_dayGoes_2 1 rfl rfl)
theorem dX1_dayGoes_50 : decode cX1_dayGoes 50 = .ok (.putfield 38, 3) := dk_181 0 38 (dk_at dksX1_dayGoes_2 2 rfl rfl)
theorem dX1_dayGoes_53 : decode cX1_dayGoes 53 = .ok (.return_, 1) := dk_177 (dk_at dksX1_dayGoes_2 5 rfl rfl)
abbrev cX1_comes : ByteArray := prog_3_method_13_code
def yX1_comes : MethodName := ⟨RX1, "comes", "(I)V"⟩
def dkwX1_comes_2 : List UInt8 := [27, 50, 4, 42, 27, 29, 182, 0, 85, 153, 0, 11, 42, 27, 182, 0, 44, 167, 0, 4, 29, 79, 177]
abbrev dktX1_comes_2 : List UInt8 := dkwX1_comes_2 ++ []
def dkwX1_comes_1 : List UInt8 := [27, 182, 0, 44, 42, 28, 182, 0, 44, 42, 27, 182, 0, 44, 100, 184, 0, 75, 96, 62, 42, 180, 0, 11]
abbrev dktX1_comes_1 : List UInt8 := dkwX1_comes_1 ++ dktX1_comes_2
def dkwX1_comes_0 : List UInt8 := [42, 27, 182, 0, 92, 61, 28, 16, 252, 159, 0, 13, 42, 27, 28, 182, 0, 72, 4, 163, 0, 4, 177, 42]
abbrev dktX1_comes_0 : List UInt8 := dkwX1_comes_0 ++ dktX1_comes_1
theorem dksX1_comes_0 : cX1_comes.data.toList.drop 0 = dktX1_comes_0 := by decide +kernel
theorem dksX1_comes_1 : cX1_comes.data.toList.drop 24 = dktX1_comes_1 := dk_seg dksX1_comes_0 24 rfl rfl
theorem dksX1_comes_2 : cX1_comes.data.toList.drop 48 = dktX1_comes_2 := dk_seg dksX1_comes_1 24 rfl rfl
theorem dX1_comes_0 : decode cX1_comes 0 = .ok (.aload_n 0, 1) := dk_42 (dk_at dksX1_comes_0 0 rfl rfl)
theorem dX1_comes_1 : decode cX1_comes 1 = .ok (.iload_n 1, 1) := dk_27 (dk_at dksX1_comes_0 1 rfl rfl)
theorem dX1_comes_2 : decode cX1_comes 2 = .ok (.invokevirtual 92, 3) := dk_182 0 92 (dk_at dksX1_comes_0 2 rfl rfl)
theorem dX1_comes_5 : decode cX1_comes 5 = .ok (.istore_n 2, 1) := dk_61 (dk_at dksX1_comes_0 5 rfl rfl)
theorem dX1_comes_6 : decode cX1_comes 6 = .ok (.iload_n 2, 1) := dk_28 (dk_at dksX1_comes_0 6 rfl rfl)
theorem dX1_comes_7 : decode cX1_comes 7 = .ok (.bipush (-4), 2) := dk_16 252 (dk_at dksX1_comes_0 7 rfl rfl)
theorem dX1_comes_9 : decode cX1_comes 9 = .ok (.if_icmp .eq 13, 3) := dk_159 0 13 (dk_at dksX1_comes_0 9 rfl rfl)
theorem dX1_comes_12 : decode cX1_comes 12 = .ok (.aload_n 0, 1) := dk_42 (dk_at dksX1_comes_0 12 rfl rfl)
theorem dX1_comes_13 : decode cX1_comes 13 = .ok (.iload_n 1, 1) := dk_27 (dk_at dksX1_comes_0 13 rfl rfl)
theorem dX1_comes_14 : decode cX1_comes 14 = .ok (.iload_n 2, 1) := dk_28 (dk_at dksX1_comes_0 14 rfl rfl)
theorem dX1_comes_15 : decode cX1_comes 15 = .ok (.invokevirtual 72, 3) := dk_182 0 72 (dk_at dksX1_comes_0 15 rfl rfl)
theorem dX1_comes_18 : decode cX1_comes 18 = .ok (.iconst 1, 1) := dk_4 (dk_at dksX1_comes_0 18 rfl rfl)
theorem dX1_comes_19 : decode cX1_comes 19 = .ok (.if_icmp .gt 4, 3) := dk_163 0 4 (dk_at dksX1_comes_0 19 rfl rfl)
theorem dX1_comes_22 : decode cX1_comes 22 = .ok (.return_, 1) := dk_177 (dk_at dksX1_comes_0 22 rfl rfl)
theorem dX1_comes_23 : decode cX1_comes 23 = .ok (.aload_n 0, 1) := dk_42 (dk_at dksX1_comes_0 23 rfl rfl)
theorem dX1_comes_24 : decode cX1_comes 24 = .ok (.iload_n 1, 1) := dk_27 (dk_at dksX1_comes_1 0 rfl rfl)
theorem dX1_comes_25 : decode cX1_comes 25 = .ok (.invokevirtual 44, 3) := dk_182 0 44 (dk_at dksX1_comes_1 1 rfl rfl)
theorem dX1_comes_28 : decode cX1_comes 28 = .ok (.aload_n 0, 1) := dk_42 (dk_at dksX1_comes_1 4 rfl rfl)
theorem dX1_comes_29 : decode cX1_comes 29 = .ok (.iload_n 2, 1) := dk_28 (dk_at dksX1_comes_1 5 rfl rfl)
theorem dX1_comes_30 : decode cX1_comes 30 = .ok (.invokevirtual 44, 3) := dk_182 0 44 (dk_at dksX1_comes_1 6 rfl rfl)
theorem dX1_comes_33 : decode cX1_comes 33 = .ok (.aload_n 0, 1) := dk_42 (dk_at dksX1_comes_1 9 rfl rfl)
theorem dX1_comes_34 : decode cX1_comes 34 = .ok (.iload_n 1, 1) := dk_27 (dk_at dksX1_comes_1 10 rfl rfl)
theorem dX1_comes_35 : decode cX1_comes 35 = .ok (.invokevirtual 44, 3) := dk_182 0 44 (dk_at dksX1_comes_1 11 rfl rfl)
theorem dX1_comes_38 : decode cX1_comes 38 = .ok (.isub, 1) := dk_100 (dk_at dksX1_comes_1 14 rfl rfl)
theorem dX1_comes_39 : decode cX1_comes 39 = .ok (.invokestatic 75, 3) := dk_184 0 75 (dk_at dksX1_comes_1 15 rfl rfl)
theorem dX1_comes_42 : decode cX1_comes 42 = .ok (.iadd, 1) := dk_96 (dk_at dksX1_comes_1 18 rfl rfl)
theorem dX1_comes_43 : decode cX1_comes 43 = .ok (.istore_n 3, 1) := dk_62 (dk_at dksX1_comes_1 19 rfl rfl)
theorem dX1_comes_44 : decode cX1_comes 44 = .ok (.aload_n 0, 1) := dk_42 (dk_at dksX1_comes_1 20 rfl rfl)
theorem dX1_comes_45 : decode cX1_comes 45 = .ok (.getfield 11, 3) := dk_180 0 11 (dk_at dksX1_comes_1 21 rfl rfl)
theorem dX1_comes_48 : decode cX1_comes 48 = .ok (.iload_n 1, 1) := dk_27 (dk_at dksX1_comes_2 0 rfl rfl)
theorem dX1_comes_49 : decode cX1_comes 49 = .ok (.aaload, 1) := dk_50 (dk_at dksX1_comes_2 1 rfl rfl)
theorem dX1_comes_50 : decode cX1_comes 50 = .ok (.iconst 1, 1) := dk_4 (dk_at dksX1_comes_2 2 rfl rfl)
theorem dX1_comes_51 : decode cX1_comes 51 = .ok (.aload_n 0, 1) := dk_42 (dk_at dksX1_comes_2 3 rfl rfl)
theorem dX1_comes_52 : decode cX1_comes 52 = .ok (.iload_n 1, 1) := dk_27 (dk_at dksX1_comes_2 4 rfl rfl)
theorem dX1_comes_53 : decode cX1_comes 53 = .ok (.iload_n 3, 1) := dk_29 (dk_at dksX1_comes_2 5 rfl rfl)
theorem dX1_comes_54 : decode cX1_comes 54 = .ok (.invokevirtual 85, 3) := dk_182 0 85 (dk_at dksX1_comes_2 6 rfl rfl)
theorem dX1_comes_57 : decode cX1_comes 57 = .ok (.ifCond .eq 11, 3) := dk_153 0 11 (dk_at dksX1_comes_2 9 rfl rfl)
theorem dX1_comes_60 : decode cX1_comes 60 = .ok (.aload_n 0, 1) := dk_42 (dk_at dksX1_comes_2 12 rfl rfl)
theorem dX1_comes_61 : decode cX1_comes 61 = .ok (.iload_n 1, 1) := dk_27 (dk_at dksX1_comes_2 13 rfl rfl)
theorem dX1_comes_62 : decode cX1_comes 62 = .ok (.invokevirtual 44, 3) := dk_182 0 44 (dk_at dksX1_comes_2 14 rfl rfl)
theorem dX1_comes_65 : decode cX1_comes 65 = .ok (.goto 4, 3) := dk_167 0 4 (dk_at dksX1_comes_2 17 rfl rfl)
theorem dX1_comes_68 : decode cX1_comes 68 = .ok (.iload_n 3, 1) := dk_29 (dk_at dksX1_comes_2 20 rfl rfl)
theorem dX1_comes_69 : decode cX1_comes 69 = .ok (.iastore, 1) := dk_79 (dk_at dksX1_comes_2 21 rfl rfl)
theorem dX1_comes_70 : decode cX1_comes 70 = .ok (.return_, 1) := dk_177 (dk_at dksX1_comes_2 22 rfl rfl)
abbrev cX1_isHeld : ByteArray := prog_3_method_11_code
def yX1_isHeld : MethodName := ⟨RX1, "isHeld", "(II)Z"⟩
def dkwX1_isHeld_4 : List UInt8 := [62, 132, 4, 1, 167, 255, 162, 29, 172]
abbrev dktX1_isHeld_4 : List UInt8 := dkwX1_isHeld_4 ++ []
def dkwX1_isHeld_3 : List UInt8 := [25, 5, 5, 46, 164, 0, 19, 21, 7, 42, 27, 21, 6, 182, 0, 72, 164, 0, 7, 4, 167, 0, 4, 3]
abbrev dktX1_isHeld_3 : List UInt8 := dkwX1_isHeld_3 ++ dktX1_isHeld_4
def dkwX1_isHeld_2 : List UInt8 := [96, 27, 100, 54, 6, 28, 42, 21, 6, 182, 0, 44, 100, 184, 0, 48, 54, 7, 29, 154, 0, 24, 21, 7]
abbrev dktX1_isHeld_2 : List UInt8 := dkwX1_isHeld_2 ++ dktX1_isHeld_3
def dkwX1_isHeld_1 : List UInt8 := [25, 5, 3, 46, 27, 159, 0, 11, 25, 5, 4, 46, 27, 160, 0, 60, 25, 5, 3, 46, 25, 5, 4, 46]
abbrev dktX1_isHeld_1 : List UInt8 := dkwX1_isHeld_1 ++ dktX1_isHeld_2
def dkwX1_isHeld_0 : List UInt8 := [3, 62, 3, 54, 4, 21, 4, 42, 180, 0, 32, 162, 0, 91, 42, 180, 0, 19, 21, 4, 50, 58, 5]
abbrev dktX1_isHeld_0 : List UInt8 := dkwX1_isHeld_0 ++ dktX1_isHeld_1
theorem dksX1_isHeld_0 : cX1_isHeld.data.toList.drop 0 = dktX1_isHeld_0 := by decide +kernel
theorem dksX1_isHeld_1 : cX1_isHeld.data.toList.drop 23 = dktX1_isHeld_1 := dk_seg dksX1_isHeld_0 23 rfl rfl
theorem dksX1_isHeld_2 : cX1_isHeld.data.toList.drop 47 = dktX1_isHeld_2 := dk_seg dksX1_isHeld_1 24 rfl rfl
theorem dksX1_isHeld_3 : cX1_isHeld.data.toList.drop 71 = dktX1_isHeld_3 := dk_seg dksX1_isHeld_2 24 rfl rfl
theorem dksX1_isHeld_4 : cX1_isHeld.data.toList.drop 95 = dktX1_isHeld_4 := dk_seg dksX1_isHeld_3 24 rfl rfl
theorem dX1_isHeld_0 : decode cX1_isHeld 0 = .ok (.iconst 0, 1) := dk_3 (dk_at dksX1_isHeld_0 0 rfl rfl)
theorem dX1_isHeld_1 : decode cX1_isHeld 1 = .ok (.istore_n 3, 1) := dk_62 (dk_at dksX1_isHeld_0 1 rfl rfl)
theorem dX1_isHeld_2 : decode cX1_isHeld 2 = .ok (.iconst 0, 1) := dk_3 (dk_at dksX1_isHeld_0 2 rfl rfl)
theorem dX1_isHeld_3 : decode cX1_isHeld 3 = .ok (.istore 4, 2) := dk_54 4 (dk_at dksX1_isHeld_0 3 rfl rfl)
theorem dX1_isHeld_5 : decode cX1_isHeld 5 = .ok (.iload 4, 2) := dk_21 4 (dk_at dksX1_isHeld_0 5 rfl rfl)
theorem dX1_isHeld_7 : decode cX1_isHeld 7 = .ok (.aload_n 0, 1) := dk_42 (dk_at dksX1_isHeld_0 7 rfl rfl)
theorem dX1_isHeld_8 : decode cX1_isHeld 8 = .ok (.getfield 32, 3) := dk_180 0 32 (dk_at dksX1_isHeld_0 8 rfl rfl)
theorem dX1_isHeld_11 : decode cX1_isHeld 11 = .ok (.if_icmp .ge 91, 3) := dk_162 0 91 (dk_at dksX1_isHeld_0 11 rfl rfl)
theorem dX1_isHeld_14 : decode cX1_isHeld 14 = .ok (.aload_n 0, 1) := dk_42 (dk_at dksX1_isHeld_0 14 rfl rfl)
theorem dX1_isHeld_15 : decode cX1_isHeld 15 = .ok (.getfield 19, 3) := dk_180 0 19 (dk_at dksX1_isHeld_0 15 rfl rfl)
theorem dX1_isHeld_18 : decode cX1_isHeld 18 = .ok (.iload 4, 2) := dk_21 4 (dk_at dksX1_isHeld_0 18 rfl rfl)
theorem dX1_isHeld_20 : decode cX1_isHeld 20 = .ok (.aaload, 1) := dk_50 (dk_at dksX1_isHeld_0 20 rfl rfl)
theorem dX1_isHeld_21 : decode cX1_isHeld 21 = .ok (.astore 5, 2) := dk_58 5 (dk_at dksX1_isHeld_0 21 rfl rfl)
theorem dX1_isHeld_23 : decode cX1_isHeld 23 = .ok (.aload 5, 2) := dk_25 5 (dk_at dksX1_isHeld_1 0 rfl rfl)
theorem dX1_isHeld_25 : decode cX1_isHeld 25 = .ok (.iconst 0, 1) := dk_3 (dk_at dksX1_isHeld_1 2 rfl rfl)
theorem dX1_isHeld_26 : decode cX1_isHeld 26 = .ok (.iaload, 1) := dk_46 (dk_at dksX1_isHeld_1 3 rfl rfl)
theorem dX1_isHeld_27 : decode cX1_isHeld 27 = .ok (.iload_n 1, 1) := dk_27 (dk_at dksX1_isHeld_1 4 rfl rfl)
theorem dX1_isHeld_28 : decode cX1_isHeld 28 = .ok (.if_icmp .eq 11, 3) := dk_159 0 11 (dk_at dksX1_isHeld_1 5 rfl rfl)
theorem dX1_isHeld_31 : decode cX1_isHeld 31 = .ok (.aload 5, 2) := dk_25 5 (dk_at dksX1_isHeld_1 8 rfl rfl)
theorem dX1_isHeld_33 : decode cX1_isHeld 33 = .ok (.iconst 1, 1) := dk_4 (dk_at dksX1_isHeld_1 10 rfl rfl)
theorem dX1_isHeld_34 : decode cX1_isHeld 34 = .ok (.iaload, 1) := dk_46 (dk_at dksX1_isHeld_1 11 rfl rfl)
theorem dX1_isHeld_35 : decode cX1_isHeld 35 = .ok (.iload_n 1, 1) := dk_27 (dk_at dksX1_isHeld_1 12 rfl rfl)
theorem dX1_isHeld_36 : decode cX1_isHeld 36 = .ok (.if_icmp .ne 60, 3) := dk_160 0 60 (dk_at dksX1_isHeld_1 13 rfl rfl)
theorem dX1_isHeld_39 : decode cX1_isHeld 39 = .ok (.aload 5, 2) := dk_25 5 (dk_at dksX1_isHeld_1 16 rfl rfl)
theorem dX1_isHeld_41 : decode cX1_isHeld 41 = .ok (.iconst 0, 1) := dk_3 (dk_at dksX1_isHeld_1 18 rfl rfl)
theorem dX1_isHeld_42 : decode cX1_isHeld 42 = .ok (.iaload, 1) := dk_46 (dk_at dksX1_isHeld_1 19 rfl rfl)
theorem dX1_isHeld_43 : decode cX1_isHeld 43 = .ok (.aload 5, 2) := dk_25 5 (dk_at dksX1_isHeld_1 20 rfl rfl)
theorem dX1_isHeld_45 : decode cX1_isHeld 45 = .ok (.iconst 1, 1) := dk_4 (dk_at dksX1_isHeld_1 22 rfl rfl)
theorem dX1_isHeld_46 : decode cX1_isHeld 46 = .ok (.iaload, 1) := dk_46 (dk_at dksX1_isHeld_1 23 rfl rfl)
theorem dX1_isHeld_47 : decode cX1_isHeld 47 = .ok (.iadd, 1) := dk_96 (dk_at dksX1_isHeld_2 0 rfl rfl)
theorem dX1_isHeld_48 : decode cX1_isHeld 48 = .ok (.iload_n 1, 1) := dk_27 (dk_at dksX1_isHeld_2 1 rfl rfl)
theorem dX1_isHeld_49 : decode cX1_isHeld 49 = .ok (.isub, 1) := dk_100 (dk_at dksX1_isHeld_2 2 rfl rfl)
theorem dX1_isHeld_50 : decode cX1_isHeld 50 = .ok (.istore 6, 2) := dk_54 6 (dk_at dksX1_isHeld_2 3 rfl rfl)
theorem dX1_isHeld_52 : decode cX1_isHeld 52 = .ok (.iload_n 2, 1) := dk_28 (dk_at dksX1_isHeld_2 5 rfl rfl)
theorem dX1_isHeld_53 : decode cX1_isHeld 53 = .ok (.aload_n 0, 1) := dk_42 (dk_at dksX1_isHeld_2 6 rfl rfl)
theorem dX1_isHeld_54 : decode cX1_isHeld 54 = .ok (.iload 6, 2) := dk_21 6 (dk_at dksX1_isHeld_2 7 rfl rfl)
theorem dX1_isHeld_56 : decode cX1_isHeld 56 = .ok (.invokevirtual 44, 3) := dk_182 0 44 (dk_at dksX1_isHeld_2 9 rfl rfl)
theorem dX1_isHeld_59 : decode cX1_isHeld 59 = .ok (.isub, 1) := dk_100 (dk_at dksX1_isHeld_2 12 rfl rfl)
theorem dX1_isHeld_60 : decode cX1_isHeld 60 = .ok (.invokestatic 48, 3) := dk_184 0 48 (dk_at dksX1_isHeld_2 13 rfl rfl)
theorem dX1_isHeld_63 : decode cX1_isHeld 63 = .ok (.istore 7, 2) := dk_54 7 (dk_at dksX1_isHeld_2 16 rfl rfl)
theorem dX1_isHeld_65 : decode cX1_isHeld 65 = .ok (.iload_n 3, 1) := dk_29 (dk_at dksX1_isHeld_2 18 rfl rfl)
theorem dX1_isHeld_66 : decode cX1_isHeld 66 = .ok (.ifCond .ne 24, 3) := dk_154 0 24 (dk_at dksX1_isHeld_2 19 rfl rfl)
theorem dX1_isHeld_69 : decode cX1_isHeld 69 = .ok (.iload 7, 2) := dk_21 7 (dk_at dksX1_isHeld_2 22 rfl rfl)
theorem dX1_isHeld_71 : decode cX1_isHeld 71 = .ok (.aload 5, 2) := dk_25 5 (dk_at dksX1_isHeld_3 0 rfl rfl)
theorem dX1_isHeld_73 : decode cX1_isHeld 73 = .ok (.iconst 2, 1) := dk_5 (dk_at dksX1_isHeld_3 2 rfl rfl)
theorem dX1_isHeld_74 : decode cX1_isHeld 74 = .ok (.iaload, 1) := dk_46 (dk_at dksX1_isHeld_3 3 rfl rfl)
theorem dX1_isHeld_75 : decode cX1_isHeld 75 = .ok (.if_icmp .le 19, 3) := dk_164 0 19 (dk_at dksX1_isHeld_3 4 rfl rfl)
theorem dX1_isHeld_78 : decode cX1_isHeld 78 = .ok (.iload 7, 2) := dk_21 7 (dk_at dksX1_isHeld_3 7 rfl rfl)
theorem dX1_isHeld_80 : decode cX1_isHeld 80 = .ok (.aload_n 0, 1) := dk_42 (dk_at dksX1_isHeld_3 9 rfl rfl)
theorem dX1_isHeld_81 : decode cX1_isHeld 81 = .ok (.iload_n 1, 1) := dk_27 (dk_at dksX1_isHeld_3 10 rfl rfl)
theorem dX1_isHeld_82 : decode cX1_isHeld 82 = .ok (.iload 6, 2) := dk_21 6 (dk_at dksX1_isHeld_3 11 rfl rfl)
theorem dX1_isHeld_84 : decode cX1_isHeld 84 = .ok (.invokevirtual 72, 3) := dk_182 0 72 (dk_at dksX1_isHeld_3 13 rfl rfl)
theorem dX1_isHeld_87 : decode cX1_isHeld 87 = .ok (.if_icmp .le 7, 3) := dk_164 0 7 (dk_at dksX1_isHeld_3 16 rfl rfl)
theorem dX1_isHeld_90 : decode cX1_isHeld 90 = .ok (.iconst 1, 1) := dk_4 (dk_at dksX1_isHeld_3 19 rfl rfl)
theorem dX1_isHeld_91 : decode cX1_isHeld 91 = .ok (.goto 4, 3) := dk_167 0 4 (dk_at dksX1_isHeld_3 20 rfl rfl)
theorem dX1_isHeld_94 : decode cX1_isHeld 94 = .ok (.iconst 0, 1) := dk_3 (dk_at dksX1_isHeld_3 23 rfl rfl)
theorem dX1_isHeld_95 : decode cX1_isHeld 95 = .ok (.istore_n 3, 1) := dk_62 (dk_at dksX1_isHeld_4 0 rfl rfl)
theorem dX1_isHeld_96 : decode cX1_isHeld 96 = .ok (.iinc 4 1, 3) := dk_132 4 1 (dk_at dksX1_isHeld_4 1 rfl rfl)
theorem dX1_isHeld_99 : decode cX1_isHeld 99 = .ok (.goto (-94), 3) := dk_167 255 162 (dk_at dksX1_isHeld_4 4 rfl rfl)
theorem dX1_isHeld_102 : decode cX1_isHeld 102 = .ok (.iload_n 3, 1) := dk_29 (dk_at dksX1_isHeld_4 7 rfl rfl)
theorem dX1_isHeld_103 : decode cX1_isHeld 103 = .ok (.ireturn, 1) := dk_172 (dk_at dksX1_isHeld_4 8 rfl rfl)
abbrev cX1_drifts : ByteArray := prog_3_method_12_code
def yX1_drifts : MethodName := ⟨RX1, "drifts", "(I)V"⟩
def dkwX1_drifts_3 : List UInt8 := [180, 0, 11, 27, 50, 4, 21, 4, 79, 132, 3, 255, 167, 255, 189, 177]
abbrev dktX1_drifts_3 : List UInt8 := dkwX1_drifts_3 ++ []
def dkwX1_drifts_2 : List UInt8 := [21, 4, 182, 0, 89, 16, 252, 159, 0, 14, 42, 89, 180, 0, 41, 4, 96, 181, 0, 41, 177, 42]
abbrev dktX1_drifts_2 : List UInt8 := dkwX1_drifts_2 ++ dktX1_drifts_3
def dkwX1_drifts_1 : List UInt8 := [28, 96, 54, 4, 21, 4, 184, 0, 81, 153, 0, 13, 42, 27, 21, 4, 182, 0, 85, 153, 0, 4, 177, 42]
abbrev dktX1_drifts_1 : List UInt8 := dkwX1_drifts_1 ++ dktX1_drifts_2
def dkwX1_drifts_0 : List UInt8 := [42, 27, 182, 0, 64, 184, 0, 75, 61, 42, 27, 182, 0, 80, 62, 29, 158, 0, 69, 42, 27, 182, 0, 44]
abbrev dktX1_drifts_0 : List UInt8 := dkwX1_drifts_0 ++ dktX1_drifts_1
theorem dksX1_drifts_0 : cX1_drifts.data.toList.drop 0 = dktX1_drifts_0 := by decide +kernel
theorem dksX1_drifts_1 : cX1_drifts.data.toList.drop 24 = dktX1_drifts_1 := dk_seg dksX1_drifts_0 24 rfl rfl
theorem dksX1_drifts_2 : cX1_drifts.data.toList.drop 48 = dktX1_drifts_2 := dk_seg dksX1_drifts_1 24 rfl rfl
theorem dksX1_drifts_3 : cX1_drifts.data.toList.drop 70 = dktX1_drifts_3 := dk_seg dksX1_drifts_2 22 rfl rfl
theorem dX1_drifts_0 : decode cX1_drifts 0 = .ok (.aload_n 0, 1) := dk_42 (dk_at dksX1_drifts_0 0 rfl rfl)
theorem dX1_drifts_1 : decode cX1_drifts 1 = .ok (.iload_n 1, 1) := dk_27 (dk_at dksX1_drifts_0 1 rfl rfl)
theorem dX1_drifts_2 : decode cX1_drifts 2 = .ok (.invokevirtual 64, 3) := dk_182 0 64 (dk_at dksX1_drifts_0 2 rfl rfl)
theorem dX1_drifts_5 : decode cX1_drifts 5 = .ok (.invokestatic 75, 3) := dk_184 0 75 (dk_at dksX1_drifts_0 5 rfl rfl)
theorem dX1_drifts_8 : decode cX1_drifts 8 = .ok (.istore_n 2, 1) := dk_61 (dk_at dksX1_drifts_0 8 rfl rfl)
theorem dX1_drifts_9 : decode cX1_drifts 9 = .ok (.aload_n 0, 1) := dk_42 (dk_at dksX1_drifts_0 9 rfl rfl)
theorem dX1_drifts_10 : decode cX1_drifts 10 = .ok (.iload_n 1, 1) := dk_27 (dk_at dksX1_drifts_0 10 rfl rfl)
theorem dX1_drifts_11 : decode cX1_drifts 11 = .ok (.invokevirtual 80, 3) := dk_182 0 80 (dk_at dksX1_drifts_0 11 rfl rfl)
theorem dX1_drifts_14 : decode cX1_drifts 14 = .ok (.istore_n 3, 1) := dk_62 (dk_at dksX1_drifts_0 14 rfl rfl)
theorem dX1_drifts_15 : decode cX1_drifts 15 = .ok (.iload_n 3, 1) := dk_29 (dk_at dksX1_drifts_0 15 rfl rfl)
theorem dX1_drifts_16 : decode cX1_drifts 16 = .ok (.ifCond .le 69, 3) := dk_158 0 69 (dk_at dksX1_drifts_0 16 rfl rfl)
theorem dX1_drifts_19 : decode cX1_drifts 19 = .ok (.aload_n 0, 1) := dk_42 (dk_at dksX1_drifts_0 19 rfl rfl)
theorem dX1_drifts_20 : decode cX1_drifts 20 = .ok (.iload_n 1, 1) := dk_27 (dk_at dksX1_drifts_0 20 rfl rfl)
theorem dX1_drifts_21 : decode cX1_drifts 21 = .ok (.invokevirtual 44, 3) := dk_182 0 44 (dk_at dksX1_drifts_0 21 rfl rfl)
theorem dX1_drifts_24 : decode cX1_drifts 24 = .ok (.iload_n 2, 1) := dk_28 (dk_at dksX1_drifts_1 0 rfl rfl)
theorem dX1_drifts_25 : decode cX1_drifts 25 = .ok (.iadd, 1) := dk_96 (dk_at dksX1_drifts_1 1 rfl rfl)
theorem dX1_drifts_26 : decode cX1_drifts 26 = .ok (.istore 4, 2) := dk_54 4 (dk_at dksX1_drifts_1 2 rfl rfl)
theorem dX1_drifts_28 : decode cX1_drifts 28 = .ok (.iload 4, 2) := dk_21 4 (dk_at dksX1_drifts_1 4 rfl rfl)
theorem dX1_drifts_30 : decode cX1_drifts 30 = .ok (.invokestatic 81, 3) := dk_184 0 81 (dk_at dksX1_drifts_1 6 rfl rfl)
theorem dX1_drifts_33 : decode cX1_drifts 33 = .ok (.ifCond .eq 13, 3) := dk_153 0 13 (dk_at dksX1_drifts_1 9 rfl rfl)
theorem dX1_drifts_36 : decode cX1_drifts 36 = .ok (.aload_n 0, 1) := dk_42 (dk_at dksX1_drifts_1 12 rfl rfl)
theorem dX1_drifts_37 : decode cX1_drifts 37 = .ok (.iload_n 1, 1) := dk_27 (dk_at dksX1_drifts_1 13 rfl rfl)
theorem dX1_drifts_38 : decode cX1_drifts 38 = .ok (.iload 4, 2) := dk_21 4 (dk_at dksX1_drifts_1 14 rfl rfl)
theorem dX1_drifts_40 : decode cX1_drifts 40 = .ok (.invokevirtual 85, 3) := dk_182 0 85 (dk_at dksX1_drifts_1 16 rfl rfl)
theorem dX1_drifts_43 : decode cX1_drifts 43 = .ok (.ifCond .eq 4, 3) := dk_153 0 4 (dk_at dksX1_drifts_1 19 rfl rfl)
theorem dX1_drifts_46 : decode cX1_drifts 46 = .ok (.return_, 1) := dk_177 (dk_at dksX1_drifts_1 22 rfl rfl)
theorem dX1_drifts_47 : decode cX1_drifts 47 = .ok (.aload_n 0, 1) := dk_42 (dk_at dksX1_drifts_1 23 rfl rfl)
theorem dX1_drifts_48 : decode cX1_drifts 48 = .ok (.iload 4, 2) := dk_21 4 (dk_at dksX1_drifts_2 0 rfl rfl)
theorem dX1_drifts_50 : decode cX1_drifts 50 = .ok (.invokevirtual 89, 3) := dk_182 0 89 (dk_at dksX1_drifts_2 2 rfl rfl)
theorem dX1_drifts_53 : decode cX1_drifts 53 = .ok (.bipush (-4), 2) := dk_16 252 (dk_at dksX1_drifts_2 5 rfl rfl)
theorem dX1_drifts_55 : decode cX1_drifts 55 = .ok (.if_icmp .eq 14, 3) := dk_159 0 14 (dk_at dksX1_drifts_2 7 rfl rfl)
theorem dX1_drifts_58 : decode cX1_drifts 58 = .ok (.aload_n 0, 1) := dk_42 (dk_at dksX1_drifts_2 10 rfl rfl)
theorem dX1_drifts_59 : decode cX1_drifts 59 = .ok (.dup, 1) := dk_89 (dk_at dksX1_drifts_2 11 rfl rfl)
theorem dX1_drifts_60 : decode cX1_drifts 60 = .ok (.getfield 41, 3) := dk_180 0 41 (dk_at dksX1_drifts_2 12 rfl rfl)
theorem dX1_drifts_63 : decode cX1_drifts 63 = .ok (.iconst 1, 1) := dk_4 (dk_at dksX1_drifts_2 15 rfl rfl)
theorem dX1_drifts_64 : decode cX1_drifts 64 = .ok (.iadd, 1) := dk_96 (dk_at dksX1_drifts_2 16 rfl rfl)
theorem dX1_drifts_65 : decode cX1_drifts 65 = .ok (.putfield 41, 3) := dk_181 0 41 (dk_at dksX1_drifts_2 17 rfl rfl)
theorem dX1_drifts_68 : decode cX1_drifts 68 = .ok (.return_, 1) := dk_177 (dk_at dksX1_drifts_2 20 rfl rfl)
theorem dX1_drifts_69 : decode cX1_drifts 69 = .ok (.aload_n 0, 1) := dk_42 (dk_at dksX1_drifts_2 21 rfl rfl)
theorem dX1_drifts_70 : decode cX1_drifts 70 = .ok (.getfield 11, 3) := dk_180 0 11 (dk_at dksX1_drifts_3 0 rfl rfl)
theorem dX1_drifts_73 : decode cX1_drifts 73 = .ok (.iload_n 1, 1) := dk_27 (dk_at dksX1_drifts_3 3 rfl rfl)
theorem dX1_drifts_74 : decode cX1_drifts 74 = .ok (.aaload, 1) := dk_50 (dk_at dksX1_drifts_3 4 rfl rfl)
theorem dX1_drifts_75 : decode cX1_drifts 75 = .ok (.iconst 1, 1) := dk_4 (dk_at dksX1_drifts_3 5 rfl rfl)
theorem dX1_drifts_76 : decode cX1_drifts 76 = .ok (.iload 4, 2) := dk_21 4 (dk_at dksX1_drifts_3 6 rfl rfl)
theorem dX1_drifts_78 : decode cX1_drifts 78 = .ok (.iastore, 1) := dk_79 (dk_at dksX1_drifts_3 8 rfl rfl)
theorem dX1_drifts_79 : decode cX1_drifts 79 = .ok (.iinc 3 (-1), 3) := dk_132 3 255 (dk_at dksX1_drifts_3 9 rfl rfl)
theorem dX1_drifts_82 : decode cX1_drifts 82 = .ok (.goto (-67), 3) := dk_167 255 189 (dk_at dksX1_drifts_3 12 rfl rfl)
theorem dX1_drifts_85 : decode cX1_drifts 85 = .ok (.return_, 1) := dk_177 (dk_at dksX1_drifts_3 15 rfl rfl)
theorem q80 : (Jvm.Cond.initialized "TemperIsles$Firth") ∈ lw_all := lw_g (lw_at lw_m1 2 rfl) rfl
theorem q130 : (Jvm.Cond.instantiable "TemperIsles$Firth" (8 : Nat)) ∈ lw_all := lw_g (lw_at lw_m1 52 rfl) rfl
theorem q132 : (Jvm.Cond.instanceMethod ({ cls := "TemperIsles$Firth", name := "<init>", desc := "()V" } : Jvm.MethodName)) ∈ lw_all := lw_g (lw_at lw_m1 54 rfl) rfl
theorem q133 : (Jvm.Cond.code ({ cls := "TemperIsles$Firth", name := "<init>", desc := "()V" } : Jvm.MethodName) prog_3_method_1_code (1 : Nat) (Option.none : Option Jvm.ClassFile.FieldType)) ∈ lw_all := lw_g (lw_at lw_m1 55 rfl) rfl
theorem q134 : (Jvm.Cond.methodLink "TemperIsles$Firth" (3 : Nat) ({ cls := "java/lang/Object", name := "<init>", desc := "()V" } : Jvm.MethodName)) ∈ lw_all := lw_g (lw_at lw_m1 56 rfl) rfl
theorem q135 : (Jvm.Cond.classLink "TemperIsles$Firth" (9 : Nat) "[[I") ∈ lw_all := lw_g (lw_at lw_m1 57 rfl) rfl
theorem q137 : (Jvm.Cond.fieldLink "TemperIsles$Firth" (11 : Nat) "TemperIsles$Firth" "isles" "[[I") ∈ lw_all := lw_g (lw_at lw_m1 59 rfl) rfl
theorem q140 : (Jvm.Cond.fieldLink "TemperIsles$Firth" (16 : Nat) "TemperIsles$Firth" "crosses" "[[I") ∈ lw_all := lw_g (lw_at lw_m1 62 rfl) rfl
theorem q143 : (Jvm.Cond.fieldLink "TemperIsles$Firth" (19 : Nat) "TemperIsles$Firth" "ropes" "[[I") ∈ lw_all := lw_g (lw_at lw_m1 65 rfl) rfl
theorem q145 : (Jvm.Cond.fieldLink "TemperIsles$Firth" (28 : Nat) "TemperIsles$Firth" "isleMany" "I") ∈ lw_all := lw_g (lw_at lw_m1 67 rfl) rfl
theorem q148 : (Jvm.Cond.fieldLink "TemperIsles$Firth" (32 : Nat) "TemperIsles$Firth" "ropeMany" "I") ∈ lw_all := lw_g (lw_at lw_m1 70 rfl) rfl
theorem q151 : (Jvm.Cond.fieldLink "TemperIsles$Firth" (35 : Nat) "TemperIsles$Firth" "feast" "I") ∈ lw_all := lw_g (lw_at lw_m1 73 rfl) rfl
theorem q154 : (Jvm.Cond.fieldLink "TemperIsles$Firth" (38 : Nat) "TemperIsles$Firth" "day" "I") ∈ lw_all := lw_g (lw_at lw_m1 76 rfl) rfl
theorem q156 : (Jvm.Cond.fieldLink "TemperIsles$Firth" (41 : Nat) "TemperIsles$Firth" "bumps" "I") ∈ lw_all := lw_g (lw_at lw_m1 78 rfl) rfl
theorem q158 : (Jvm.Cond.laysFinal "TemperIsles$Firth" "TemperIsles$Firth" "isles" "[[I") ∈ lw_all := lw_g (lw_at lw_m1 80 rfl) rfl
theorem q159 : (Jvm.Cond.soleField "TemperIsles$Firth" "isles") ∈ lw_all := lw_g (lw_at lw_m1 81 rfl) rfl
theorem q160 : (Jvm.Cond.laysFinal "TemperIsles$Firth" "TemperIsles$Firth" "crosses" "[[I") ∈ lw_all := lw_g (lw_at lw_m1 82 rfl) rfl
theorem q161 : (Jvm.Cond.soleField "TemperIsles$Firth" "crosses") ∈ lw_all := lw_g (lw_at lw_m1 83 rfl) rfl
theorem q162 : (Jvm.Cond.laysFinal "TemperIsles$Firth" "TemperIsles$Firth" "ropes" "[[I") ∈ lw_all := lw_g (lw_at lw_m1 84 rfl) rfl
theorem q163 : (Jvm.Cond.soleField "TemperIsles$Firth" "ropes") ∈ lw_all := lw_g (lw_at lw_m1 85 rfl) rfl
theorem q164 : (Jvm.Cond.lays "TemperIsles$Firth" "TemperIsles$Firth" "isleMany" "I") ∈ lw_all := lw_g (lw_at lw_m1 86 rfl) rfl
theorem q165 : (Jvm.Cond.soleField "TemperIsles$Firth" "isleMany") ∈ lw_all := lw_g (lw_at lw_m1 87 rfl) rfl
theorem q166 : (Jvm.Cond.lays "TemperIsles$Firth" "TemperIsles$Firth" "ropeMany" "I") ∈ lw_all := lw_g (lw_at lw_m1 88 rfl) rfl
theorem q167 : (Jvm.Cond.soleField "TemperIsles$Firth" "ropeMany") ∈ lw_all := lw_g (lw_at lw_m1 89 rfl) rfl
theorem q168 : (Jvm.Cond.lays "TemperIsles$Firth" "TemperIsles$Firth" "feast" "I") ∈ lw_all := lw_g (lw_at lw_m1 90 rfl) rfl
theorem q169 : (Jvm.Cond.soleField "TemperIsles$Firth" "feast") ∈ lw_all := lw_g (lw_at lw_m1 91 rfl) rfl
theorem q170 : (Jvm.Cond.lays "TemperIsles$Firth" "TemperIsles$Firth" "day" "I") ∈ lw_all := lw_g (lw_at lw_m1 92 rfl) rfl
theorem q171 : (Jvm.Cond.soleField "TemperIsles$Firth" "day") ∈ lw_all := lw_g (lw_at lw_m1 93 rfl) rfl
theorem q172 : (Jvm.Cond.lays "TemperIsles$Firth" "TemperIsles$Firth" "bumps" "I") ∈ lw_all := lw_g (lw_at lw_m1 94 rfl) rfl
theorem q173 : (Jvm.Cond.soleField "TemperIsles$Firth" "bumps") ∈ lw_all := lw_g (lw_at lw_m1 95 rfl) rfl
theorem q174 : (Jvm.Cond.superclass "TemperIsles$Firth" "java/lang/Object") ∈ lw_all := lw_g (lw_at lw_m1 96 rfl) rfl
theorem q383 : (Jvm.Cond.instanceMethod ({ cls := "TemperIsles$Firth", name := "whoIsAt", desc := "(I)I" } : Jvm.MethodName)) ∈ lw_all := lw_g (lw_at lw_m2 65 rfl) rfl
theorem q384 : (Jvm.Cond.selects "TemperIsles$Firth" ({ cls := "TemperIsles$Firth", name := "whoIsAt", desc := "(I)I" } : Jvm.MethodName) ({ cls := "TemperIsles$Firth", name := "whoIsAt", desc := "(I)I" } : Jvm.MethodName)) ∈ lw_all := lw_g (lw_at lw_m2 66 rfl) rfl
theorem q385 : (Jvm.Cond.code ({ cls := "TemperIsles$Firth", name := "whoIsAt", desc := "(I)I" } : Jvm.MethodName) prog_3_method_5_code (3 : Nat) (Option.some Jvm.ClassFile.FieldType.int)) ∈ lw_all := lw_g (lw_at lw_m2 67 rfl) rfl
theorem q386 : (Jvm.Cond.methodLink "TemperIsles$Firth" (44 : Nat) ({ cls := "TemperIsles$Firth", name := "at", desc := "(I)I" } : Jvm.MethodName)) ∈ lw_all := lw_g (lw_at lw_m2 68 rfl) rfl
theorem q387 : (Jvm.Cond.instanceMethod ({ cls := "TemperIsles$Firth", name := "at", desc := "(I)I" } : Jvm.MethodName)) ∈ lw_all := lw_g (lw_at lw_m2 69 rfl) rfl
theorem q388 : (Jvm.Cond.selects "TemperIsles$Firth" ({ cls := "TemperIsles$Firth", name := "at", desc := "(I)I" } : Jvm.MethodName) ({ cls := "TemperIsles$Firth", name := "at", desc := "(I)I" } : Jvm.MethodName)) ∈ lw_all := lw_g (lw_at lw_m2 70 rfl) rfl
theorem q389 : (Jvm.Cond.code ({ cls := "TemperIsles$Firth", name := "at", desc := "(I)I" } : Jvm.MethodName) prog_3_method_3_code (2 : Nat) (Option.some Jvm.ClassFile.FieldType.int)) ∈ lw_all := lw_g (lw_at lw_m2 71 rfl) rfl
theorem q417 : (Jvm.Cond.instanceMethod ({ cls := "TemperIsles$Firth", name := "weds", desc := "(III)V" } : Jvm.MethodName)) ∈ lw_all := lw_g (lw_at lw_m2 99 rfl) rfl
theorem q418 : (Jvm.Cond.selects "TemperIsles$Firth" ({ cls := "TemperIsles$Firth", name := "weds", desc := "(III)V" } : Jvm.MethodName) ({ cls := "TemperIsles$Firth", name := "weds", desc := "(III)V" } : Jvm.MethodName)) ∈ lw_all := lw_g (lw_at lw_m2 100 rfl) rfl
theorem q419 : (Jvm.Cond.code ({ cls := "TemperIsles$Firth", name := "weds", desc := "(III)V" } : Jvm.MethodName) prog_3_method_15_code (4 : Nat) (Option.none : Option Jvm.ClassFile.FieldType)) ∈ lw_all := lw_g (lw_at lw_m2 101 rfl) rfl
theorem q425 : (Jvm.Cond.instanceMethod ({ cls := "TemperIsles$Firth", name := "takes", desc := "(LTemperIsles$Firth;)V" } : Jvm.MethodName)) ∈ lw_all := lw_g (lw_at lw_m2 107 rfl) rfl
theorem q426 : (Jvm.Cond.selects "TemperIsles$Firth" ({ cls := "TemperIsles$Firth", name := "takes", desc := "(LTemperIsles$Firth;)V" } : Jvm.MethodName) ({ cls := "TemperIsles$Firth", name := "takes", desc := "(LTemperIsles$Firth;)V" } : Jvm.MethodName)) ∈ lw_all := lw_g (lw_at lw_m2 108 rfl) rfl
theorem q427 : (Jvm.Cond.code ({ cls := "TemperIsles$Firth", name := "takes", desc := "(LTemperIsles$Firth;)V" } : Jvm.MethodName) prog_3_method_2_code (3 : Nat) (Option.none : Option Jvm.ClassFile.FieldType)) ∈ lw_all := lw_g (lw_at lw_m2 109 rfl) rfl
theorem q428 : (Jvm.Cond.methodLink "TemperIsles$Firth" (22 : Nat) ({ cls := "java/lang/System", name := "arraycopy", desc := "(Ljava/lang/Object;ILjava/lang/Object;II)V" } : Jvm.MethodName)) ∈ lw_all := lw_g (lw_at lw_m2 110 rfl) rfl
theorem q438 : (Jvm.Cond.instanceMethod ({ cls := "TemperIsles$Firth", name := "spread", desc := "()I" } : Jvm.MethodName)) ∈ lw_all := lw_g (lw_at lw_m2 120 rfl) rfl
theorem q439 : (Jvm.Cond.selects "TemperIsles$Firth" ({ cls := "TemperIsles$Firth", name := "spread", desc := "()I" } : Jvm.MethodName) ({ cls := "TemperIsles$Firth", name := "spread", desc := "()I" } : Jvm.MethodName)) ∈ lw_all := lw_g (lw_at lw_m2 121 rfl) rfl
theorem q440 : (Jvm.Cond.code ({ cls := "TemperIsles$Firth", name := "spread", desc := "()I" } : Jvm.MethodName) prog_3_method_6_code (4 : Nat) (Option.some Jvm.ClassFile.FieldType.int)) ∈ lw_all := lw_g (lw_at lw_m2 122 rfl) rfl
theorem q441 : (Jvm.Cond.methodLink "TemperIsles$Firth" (53 : Nat) ({ cls := "java/lang/Math", name := "min", desc := "(II)I" } : Jvm.MethodName)) ∈ lw_all := lw_g (lw_at lw_m2 123 rfl) rfl
theorem q444 : (Jvm.Cond.methodLink "TemperIsles$Firth" (57 : Nat) ({ cls := "java/lang/Math", name := "max", desc := "(II)I" } : Jvm.MethodName)) ∈ lw_all := lw_g (lw_at lw_m2 126 rfl) rfl
theorem q455 : (Jvm.Cond.instanceMethod ({ cls := "TemperIsles$Firth", name := "ropesOf", desc := "(I)I" } : Jvm.MethodName)) ∈ lw_all := lw_g (lw_at lw_m2 137 rfl) rfl
theorem q456 : (Jvm.Cond.selects "TemperIsles$Firth" ({ cls := "TemperIsles$Firth", name := "ropesOf", desc := "(I)I" } : Jvm.MethodName) ({ cls := "TemperIsles$Firth", name := "ropesOf", desc := "(I)I" } : Jvm.MethodName)) ∈ lw_all := lw_g (lw_at lw_m2 138 rfl) rfl
theorem q457 : (Jvm.Cond.code ({ cls := "TemperIsles$Firth", name := "ropesOf", desc := "(I)I" } : Jvm.MethodName) prog_3_method_10_code (4 : Nat) (Option.some Jvm.ClassFile.FieldType.int)) ∈ lw_all := lw_g (lw_at lw_m2 139 rfl) rfl
theorem q459 : (Jvm.Cond.instanceMethod ({ cls := "TemperIsles$Firth", name := "fathoms", desc := "(I)I" } : Jvm.MethodName)) ∈ lw_all := lw_g (lw_at lw_m2 141 rfl) rfl
theorem q460 : (Jvm.Cond.selects "TemperIsles$Firth" ({ cls := "TemperIsles$Firth", name := "fathoms", desc := "(I)I" } : Jvm.MethodName) ({ cls := "TemperIsles$Firth", name := "fathoms", desc := "(I)I" } : Jvm.MethodName)) ∈ lw_all := lw_g (lw_at lw_m2 142 rfl) rfl
theorem q461 : (Jvm.Cond.code ({ cls := "TemperIsles$Firth", name := "fathoms", desc := "(I)I" } : Jvm.MethodName) prog_3_method_8_code (2 : Nat) (Option.some Jvm.ClassFile.FieldType.int)) ∈ lw_all := lw_g (lw_at lw_m2 143 rfl) rfl
theorem q462 : (Jvm.Cond.fieldLinkNest "TemperIsles$Firth" (60 : Nat) "TemperIsles" "KINDS" "[LTemperIsles$Plain;" "TemperIsles") ∈ lw_tbl := lw_at lw_m2 144 rfl
theorem q464 : (Jvm.Cond.methodLink "TemperIsles$Firth" (64 : Nat) ({ cls := "TemperIsles$Firth", name := "sulk", desc := "(I)I" } : Jvm.MethodName)) ∈ lw_all := lw_g (lw_at lw_m2 146 rfl) rfl
theorem q465 : (Jvm.Cond.instanceMethod ({ cls := "TemperIsles$Firth", name := "sulk", desc := "(I)I" } : Jvm.MethodName)) ∈ lw_all := lw_g (lw_at lw_m2 147 rfl) rfl
theorem q466 : (Jvm.Cond.selects "TemperIsles$Firth" ({ cls := "TemperIsles$Firth", name := "sulk", desc := "(I)I" } : Jvm.MethodName) ({ cls := "TemperIsles$Firth", name := "sulk", desc := "(I)I" } : Jvm.MethodName)) ∈ lw_all := lw_g (lw_at lw_m2 148 rfl) rfl
theorem q467 : (Jvm.Cond.code ({ cls := "TemperIsles$Firth", name := "sulk", desc := "(I)I" } : Jvm.MethodName) prog_3_method_7_code (4 : Nat) (Option.some Jvm.ClassFile.FieldType.int)) ∈ lw_all := lw_g (lw_at lw_m2 149 rfl) rfl
theorem q468 : (Jvm.Cond.methodLink "TemperIsles$Firth" (48 : Nat) ({ cls := "java/lang/Math", name := "abs", desc := "(I)I" } : Jvm.MethodName)) ∈ lw_all := lw_g (lw_at lw_m2 150 rfl) rfl
theorem q471 : (Jvm.Cond.methodLink "TemperIsles$Firth" (67 : Nat) ({ cls := "TemperIsles$Plain", name := "fathoms", desc := "(I)I" } : Jvm.MethodName)) ∈ lw_all := lw_g (lw_at lw_m2 153 rfl) rfl
theorem q494 : (Jvm.Cond.instanceMethod ({ cls := "TemperIsles$Firth", name := "nearest", desc := "(I)I" } : Jvm.MethodName)) ∈ lw_all := lw_g (lw_at lw_m2 176 rfl) rfl
theorem q495 : (Jvm.Cond.selects "TemperIsles$Firth" ({ cls := "TemperIsles$Firth", name := "nearest", desc := "(I)I" } : Jvm.MethodName) ({ cls := "TemperIsles$Firth", name := "nearest", desc := "(I)I" } : Jvm.MethodName)) ∈ lw_all := lw_g (lw_at lw_m2 177 rfl) rfl
theorem q496 : (Jvm.Cond.code ({ cls := "TemperIsles$Firth", name := "nearest", desc := "(I)I" } : Jvm.MethodName) prog_3_method_9_code (4 : Nat) (Option.some Jvm.ClassFile.FieldType.int)) ∈ lw_all := lw_g (lw_at lw_m2 178 rfl) rfl
theorem q497 : (Jvm.Cond.methodLink "TemperIsles$Firth" (72 : Nat) ({ cls := "TemperIsles$Firth", name := "apart", desc := "(II)I" } : Jvm.MethodName)) ∈ lw_all := lw_g (lw_at lw_m2 179 rfl) rfl
theorem q498 : (Jvm.Cond.instanceMethod ({ cls := "TemperIsles$Firth", name := "apart", desc := "(II)I" } : Jvm.MethodName)) ∈ lw_all := lw_g (lw_at lw_m2 180 rfl) rfl
theorem q499 : (Jvm.Cond.selects "TemperIsles$Firth" ({ cls := "TemperIsles$Firth", name := "apart", desc := "(II)I" } : Jvm.MethodName) ({ cls := "TemperIsles$Firth", name := "apart", desc := "(II)I" } : Jvm.MethodName)) ∈ lw_all := lw_g (lw_at lw_m2 181 rfl) rfl
theorem q500 : (Jvm.Cond.code ({ cls := "TemperIsles$Firth", name := "apart", desc := "(II)I" } : Jvm.MethodName) prog_3_method_4_code (3 : Nat) (Option.some Jvm.ClassFile.FieldType.int)) ∈ lw_all := lw_g (lw_at lw_m2 182 rfl) rfl
theorem q565 : (Jvm.Cond.instanceMethod ({ cls := "TemperIsles$Firth", name := "dayGoes", desc := "()V" } : Jvm.MethodName)) ∈ lw_all := lw_g (lw_at lw_m3 7 rfl) rfl
theorem q566 : (Jvm.Cond.selects "TemperIsles$Firth" ({ cls := "TemperIsles$Firth", name := "dayGoes", desc := "()V" } : Jvm.MethodName) ({ cls := "TemperIsles$Firth", name := "dayGoes", desc := "()V" } : Jvm.MethodName)) ∈ lw_all := lw_g (lw_at lw_m3 8 rfl) rfl
theorem q567 : (Jvm.Cond.code ({ cls := "TemperIsles$Firth", name := "dayGoes", desc := "()V" } : Jvm.MethodName) prog_3_method_14_code (2 : Nat) (Option.none : Option Jvm.ClassFile.FieldType)) ∈ lw_all := lw_g (lw_at lw_m3 9 rfl) rfl
theorem q568 : (Jvm.Cond.methodLink "TemperIsles$Firth" (95 : Nat) ({ cls := "TemperIsles$Firth", name := "comes", desc := "(I)V" } : Jvm.MethodName)) ∈ lw_all := lw_g (lw_at lw_m3 10 rfl) rfl
theorem q569 : (Jvm.Cond.privateMethod ({ cls := "TemperIsles$Firth", name := "comes", desc := "(I)V" } : Jvm.MethodName)) ∈ lw_tbl := lw_at lw_m3 11 rfl
theorem q570 : (Jvm.Cond.instanceMethod ({ cls := "TemperIsles$Firth", name := "comes", desc := "(I)V" } : Jvm.MethodName)) ∈ lw_all := lw_g (lw_at lw_m3 12 rfl) rfl
theorem q571 : (Jvm.Cond.code ({ cls := "TemperIsles$Firth", name := "comes", desc := "(I)V" } : Jvm.MethodName) prog_3_method_13_code (4 : Nat) (Option.none : Option Jvm.ClassFile.FieldType)) ∈ lw_all := lw_g (lw_at lw_m3 13 rfl) rfl
theorem q572 : (Jvm.Cond.methodLink "TemperIsles$Firth" (92 : Nat) ({ cls := "TemperIsles$Firth", name := "nearest", desc := "(I)I" } : Jvm.MethodName)) ∈ lw_all := lw_g (lw_at lw_m3 14 rfl) rfl
theorem q573 : (Jvm.Cond.methodLink "TemperIsles$Firth" (75 : Nat) ({ cls := "java/lang/Integer", name := "signum", desc := "(I)I" } : Jvm.MethodName)) ∈ lw_all := lw_g (lw_at lw_m3 15 rfl) rfl
theorem q576 : (Jvm.Cond.methodLink "TemperIsles$Firth" (85 : Nat) ({ cls := "TemperIsles$Firth", name := "isHeld", desc := "(II)Z" } : Jvm.MethodName)) ∈ lw_all := lw_g (lw_at lw_m3 18 rfl) rfl
theorem q577 : (Jvm.Cond.privateMethod ({ cls := "TemperIsles$Firth", name := "isHeld", desc := "(II)Z" } : Jvm.MethodName)) ∈ lw_tbl := lw_at lw_m3 19 rfl
theorem q578 : (Jvm.Cond.instanceMethod ({ cls := "TemperIsles$Firth", name := "isHeld", desc := "(II)Z" } : Jvm.MethodName)) ∈ lw_all := lw_g (lw_at lw_m3 20 rfl) rfl
theorem q579 : (Jvm.Cond.code ({ cls := "TemperIsles$Firth", name := "isHeld", desc := "(II)Z" } : Jvm.MethodName) prog_3_method_11_code (8 : Nat) (Option.some Jvm.ClassFile.FieldType.boolean)) ∈ lw_all := lw_g (lw_at lw_m3 21 rfl) rfl
theorem q580 : (Jvm.Cond.methodLink "TemperIsles$Firth" (99 : Nat) ({ cls := "TemperIsles$Firth", name := "drifts", desc := "(I)V" } : Jvm.MethodName)) ∈ lw_all := lw_g (lw_at lw_m3 22 rfl) rfl
theorem q581 : (Jvm.Cond.privateMethod ({ cls := "TemperIsles$Firth", name := "drifts", desc := "(I)V" } : Jvm.MethodName)) ∈ lw_tbl := lw_at lw_m3 23 rfl
theorem q582 : (Jvm.Cond.instanceMethod ({ cls := "TemperIsles$Firth", name := "drifts", desc := "(I)V" } : Jvm.MethodName)) ∈ lw_all := lw_g (lw_at lw_m3 24 rfl) rfl
theorem q583 : (Jvm.Cond.code ({ cls := "TemperIsles$Firth", name := "drifts", desc := "(I)V" } : Jvm.MethodName) prog_3_method_12_code (5 : Nat) (Option.none : Option Jvm.ClassFile.FieldType)) ∈ lw_all := lw_g (lw_at lw_m3 25 rfl) rfl
theorem q584 : (Jvm.Cond.methodLink "TemperIsles$Firth" (80 : Nat) ({ cls := "TemperIsles$Firth", name := "fathoms", desc := "(I)I" } : Jvm.MethodName)) ∈ lw_all := lw_g (lw_at lw_m3 26 rfl) rfl
theorem q585 : (Jvm.Cond.methodLinkNest "TemperIsles$Firth" (81 : Nat) ({ cls := "TemperIsles", name := "isFathom", desc := "(I)Z" } : Jvm.MethodName) "TemperIsles") ∈ lw_tbl := lw_at lw_m3 27 rfl
theorem q586 : (Jvm.Cond.methodLink "TemperIsles$Firth" (89 : Nat) ({ cls := "TemperIsles$Firth", name := "whoIsAt", desc := "(I)I" } : Jvm.MethodName)) ∈ lw_all := lw_g (lw_at lw_m3 28 rfl) rfl
theorem in_X1 : ∀ w ∈ wsX10, w ∈ lw_all := lw_in wsX10 [158, 160, 162, 164, 166, 168, 170, 172] (by decide +kernel) (by decide +kernel)
/-! TemperIsles$Widow -/
set_option maxRecDepth 100000
def RX10 : String := "TemperIsles$Widow"
abbrev cX10_fathoms : ByteArray := prog_10_method_2_code
def yX10_fathoms : MethodName := ⟨RX10, "fathoms", "(I)I"⟩
def dkwX10_fathoms_0 : List UInt8 := [3, 42, 27, 183, 0, 7, 4, 100, 184, 0, 11, 172]
abbrev dktX10_fathoms_0 : List UInt8 := dkwX10_fathoms_0 ++ []
theorem dksX10_fathoms_0 : cX10_fathoms.data.toList.drop 0 = dktX10_fathoms_0 := by decide +kernel
theorem dX10_fathoms_0 : decode cX10_fathoms 0 = .ok (.iconst 0, 1) := dk_3 (dk_at dksX10_fathoms_0 0 rfl rfl)
theorem dX10_fathoms_1 : decode cX10_fathoms 1 = .ok (.aload_n 0, 1) := dk_42 (dk_at dksX10_fathoms_0 1 rfl rfl)
theorem dX10_fathoms_2 : decode cX10_fathoms 2 = .ok (.iload_n 1, 1) := dk_27 (dk_at dksX10_fathoms_0 2 rfl rfl)
theorem dX10_fathoms_3 : decode cX10_fathoms 3 = .ok (.invokespecial 7, 3) := dk_183 0 7 (dk_at dksX10_fathoms_0 3 rfl rfl)
theorem dX10_fathoms_6 : decode cX10_fathoms 6 = .ok (.iconst 1, 1) := dk_4 (dk_at dksX10_fathoms_0 6 rfl rfl)
theorem dX10_fathoms_7 : decode cX10_fathoms 7 = .ok (.isub, 1) := dk_100 (dk_at dksX10_fathoms_0 7 rfl rfl)
theorem dX10_fathoms_8 : decode cX10_fathoms 8 = .ok (.invokestatic 11, 3) := dk_184 0 11 (dk_at dksX10_fathoms_0 8 rfl rfl)
theorem dX10_fathoms_11 : decode cX10_fathoms 11 = .ok (.ireturn, 1) := dk_172 (dk_at dksX10_fathoms_0 11 rfl rfl)
theorem q486 : (Jvm.Cond.selects "TemperIsles$Widow" ({ cls := "TemperIsles$Plain", name := "fathoms", desc := "(I)I" } : Jvm.MethodName) ({ cls := "TemperIsles$Widow", name := "fathoms", desc := "(I)I" } : Jvm.MethodName)) ∈ lw_all := lw_g (lw_at lw_m2 168 rfl) rfl
theorem q487 : (Jvm.Cond.instanceMethod ({ cls := "TemperIsles$Widow", name := "fathoms", desc := "(I)I" } : Jvm.MethodName)) ∈ lw_all := lw_g (lw_at lw_m2 169 rfl) rfl
theorem q488 : (Jvm.Cond.code ({ cls := "TemperIsles$Widow", name := "fathoms", desc := "(I)I" } : Jvm.MethodName) prog_10_method_2_code (2 : Nat) (Option.some Jvm.ClassFile.FieldType.int)) ∈ lw_all := lw_g (lw_at lw_m2 170 rfl) rfl
theorem q489 : (Jvm.Cond.methodLink "TemperIsles$Widow" (7 : Nat) ({ cls := "TemperIsles$Proud", name := "fathoms", desc := "(I)I" } : Jvm.MethodName)) ∈ lw_all := lw_g (lw_at lw_m2 171 rfl) rfl
theorem q490 : (Jvm.Cond.superclass "TemperIsles$Widow" "TemperIsles$Proud") ∈ lw_all := lw_g (lw_at lw_m2 172 rfl) rfl
theorem q491 : (Jvm.Cond.methodLink "TemperIsles$Widow" (11 : Nat) ({ cls := "java/lang/Math", name := "max", desc := "(II)I" } : Jvm.MethodName)) ∈ lw_all := lw_g (lw_at lw_m2 173 rfl) rfl
theorem q1457 : (Jvm.Cond.initialized "TemperIsles$Widow") ∈ lw_all := lw_g (lw_at lw_m6 179 rfl) rfl
/-! TemperIsles$Image -/
set_option maxRecDepth 100000
def RX2 : String := "TemperIsles$Image"
def TX2 : u_T := fun k => match k with
  | 0 => ("TemperIsles$Image", "firth", "LTemperIsles$Firth;", true)
  | 1 => ("TemperIsles$Image", "seen", "[[I", true)
  | 2 => ("TemperIsles$Image", "seenMany", "I", false)
  | 3 => ("TemperIsles$Image", "isKept", "Z", false)
  | _ => ("TemperIsles$Image", "this$0", "LTemperIsles;", true)
def tyX2 : Nat → FieldType := fun k => match k with
  | 0 => .object "TemperIsles$Firth"
  | 1 => .array (.array .int)
  | 2 => .int
  | 3 => .boolean
  | _ => .object "TemperIsles"
abbrev wsX20 : List Cond := u_ws RX2 TX2 5
theorem nmX2 : ∀ a, a < 5 → ∀ b, b < 5 → a ≠ b → (TX2 a).2.1 ≠ (TX2 b).2.1 := by decide +kernel
theorem tyX2_ok : ∀ k, k < 5 → parseFieldDescriptor (TX2 k).2.2.1 = some (tyX2 k) := by decide +kernel
abbrev cX2_takes : ByteArray := prog_5_method_2_code
def yX2_takes : MethodName := ⟨RX2, "takes", "()V"⟩
def dkwX2_takes_1 : List UInt8 := [180, 0, 24, 184, 0, 35, 42, 42, 180, 0, 3, 180, 0, 39, 181, 0, 43, 177]
abbrev dktX2_takes_1 : List UInt8 := dkwX2_takes_1 ++ []
def dkwX2_takes_0 : List UInt8 := [42, 180, 0, 18, 42, 180, 0, 3, 180, 0, 27, 182, 0, 30, 42, 180, 0, 3, 180, 0, 34, 42]
abbrev dktX2_takes_0 : List UInt8 := dkwX2_takes_0 ++ dktX2_takes_1
theorem dksX2_takes_0 : cX2_takes.data.toList.drop 0 = dktX2_takes_0 := by decide +kernel
theorem dksX2_takes_1 : cX2_takes.data.toList.drop 22 = dktX2_takes_1 := dk_seg dksX2_takes_0 22 rfl rfl
theorem dX2_takes_0 : decode cX2_takes 0 = .ok (.aload_n 0, 1) := dk_42 (dk_at dksX2_takes_0 0 rfl rfl)
theorem dX2_takes_1 : decode cX2_takes 1 = .ok (.getfield 18, 3) := dk_180 0 18 (dk_at dksX2_takes_0 1 rfl rfl)
theorem dX2_takes_4 : decode cX2_takes 4 = .ok (.aload_n 0, 1) := dk_42 (dk_at dksX2_takes_0 4 rfl rfl)
theorem dX2_takes_5 : decode cX2_takes 5 = .ok (.getfield 3, 3) := dk_180 0 3 (dk_at dksX2_takes_0 5 rfl rfl)
theorem dX2_takes_8 : decode cX2_takes 8 = .ok (.getfield 27, 3) := dk_180 0 27 (dk_at dksX2_takes_0 8 rfl rfl)
theorem dX2_takes_11 : decode cX2_takes 11 = .ok (.invokevirtual 30, 3) := dk_182 0 30 (dk_at dksX2_takes_0 11 rfl rfl)
theorem dX2_takes_14 : decode cX2_takes 14 = .ok (.aload_n 0, 1) := dk_42 (dk_at dksX2_takes_0 14 rfl rfl)
theorem dX2_takes_15 : decode cX2_takes 15 = .ok (.getfield 3, 3) := dk_180 0 3 (dk_at dksX2_takes_0 15 rfl rfl)
theorem dX2_takes_18 : decode cX2_takes 18 = .ok (.getfield 34, 3) := dk_180 0 34 (dk_at dksX2_takes_0 18 rfl rfl)
theorem dX2_takes_21 : decode cX2_takes 21 = .ok (.aload_n 0, 1) := dk_42 (dk_at dksX2_takes_0 21 rfl rfl)
theorem dX2_takes_22 : decode cX2_takes 22 = .ok (.getfield 24, 3) := dk_180 0 24 (dk_at dksX2_takes_1 0 rfl rfl)
theorem dX2_takes_25 : decode cX2_takes 25 = .ok (.invokestatic 35, 3) := dk_184 0 35 (dk_at dksX2_takes_1 3 rfl rfl)
theorem dX2_takes_28 : decode cX2_takes 28 = .ok (.aload_n 0, 1) := dk_42 (dk_at dksX2_takes_1 6 rfl rfl)
theorem dX2_takes_29 : decode cX2_takes 29 = .ok (.aload_n 0, 1) := dk_42 (dk_at dksX2_takes_1 7 rfl rfl)
theorem dX2_takes_30 : decode cX2_takes 30 = .ok (.getfield 3, 3) := dk_180 0 3 (dk_at dksX2_takes_1 8 rfl rfl)
theorem dX2_takes_33 : decode cX2_takes 33 = .ok (.getfield 39, 3) := dk_180 0 39 (dk_at dksX2_takes_1 11 rfl rfl)
theorem dX2_takes_36 : decode cX2_takes 36 = .ok (.putfield 43, 3) := dk_181 0 43 (dk_at dksX2_takes_1 14 rfl rfl)
theorem dX2_takes_39 : decode cX2_takes 39 = .ok (.return_, 1) := dk_177 (dk_at dksX2_takes_1 17 rfl rfl)
abbrev cX2_gives : ByteArray := prog_5_method_3_code
def yX2_gives : MethodName := ⟨RX2, "gives", "()V"⟩
def dkwX2_gives_1 : List UInt8 := [180, 0, 34, 184, 0, 35, 42, 180, 0, 3, 42, 180, 0, 43, 181, 0, 39, 177]
abbrev dktX2_gives_1 : List UInt8 := dkwX2_gives_1 ++ []
def dkwX2_gives_0 : List UInt8 := [42, 180, 0, 3, 180, 0, 27, 42, 180, 0, 18, 182, 0, 30, 42, 180, 0, 24, 42, 180, 0, 3]
abbrev dktX2_gives_0 : List UInt8 := dkwX2_gives_0 ++ dktX2_gives_1
theorem dksX2_gives_0 : cX2_gives.data.toList.drop 0 = dktX2_gives_0 := by decide +kernel
theorem dksX2_gives_1 : cX2_gives.data.toList.drop 22 = dktX2_gives_1 := dk_seg dksX2_gives_0 22 rfl rfl
theorem dX2_gives_0 : decode cX2_gives 0 = .ok (.aload_n 0, 1) := dk_42 (dk_at dksX2_gives_0 0 rfl rfl)
theorem dX2_gives_1 : decode cX2_gives 1 = .ok (.getfield 3, 3) := dk_180 0 3 (dk_at dksX2_gives_0 1 rfl rfl)
theorem dX2_gives_4 : decode cX2_gives 4 = .ok (.getfield 27, 3) := dk_180 0 27 (dk_at dksX2_gives_0 4 rfl rfl)
theorem dX2_gives_7 : decode cX2_gives 7 = .ok (.aload_n 0, 1) := dk_42 (dk_at dksX2_gives_0 7 rfl rfl)
theorem dX2_gives_8 : decode cX2_gives 8 = .ok (.getfield 18, 3) := dk_180 0 18 (dk_at dksX2_gives_0 8 rfl rfl)
theorem dX2_gives_11 : decode cX2_gives 11 = .ok (.invokevirtual 30, 3) := dk_182 0 30 (dk_at dksX2_gives_0 11 rfl rfl)
theorem dX2_gives_14 : decode cX2_gives 14 = .ok (.aload_n 0, 1) := dk_42 (dk_at dksX2_gives_0 14 rfl rfl)
theorem dX2_gives_15 : decode cX2_gives 15 = .ok (.getfield 24, 3) := dk_180 0 24 (dk_at dksX2_gives_0 15 rfl rfl)
theorem dX2_gives_18 : decode cX2_gives 18 = .ok (.aload_n 0, 1) := dk_42 (dk_at dksX2_gives_0 18 rfl rfl)
theorem dX2_gives_19 : decode cX2_gives 19 = .ok (.getfield 3, 3) := dk_180 0 3 (dk_at dksX2_gives_0 19 rfl rfl)
theorem dX2_gives_22 : decode cX2_gives 22 = .ok (.getfield 34, 3) := dk_180 0 34 (dk_at dksX2_gives_1 0 rfl rfl)
theorem dX2_gives_25 : decode cX2_gives 25 = .ok (.invokestatic 35, 3) := dk_184 0 35 (dk_at dksX2_gives_1 3 rfl rfl)
theorem dX2_gives_28 : decode cX2_gives 28 = .ok (.aload_n 0, 1) := dk_42 (dk_at dksX2_gives_1 6 rfl rfl)
theorem dX2_gives_29 : decode cX2_gives 29 = .ok (.getfield 3, 3) := dk_180 0 3 (dk_at dksX2_gives_1 7 rfl rfl)
theorem dX2_gives_32 : decode cX2_gives 32 = .ok (.aload_n 0, 1) := dk_42 (dk_at dksX2_gives_1 10 rfl rfl)
theorem dX2_gives_33 : decode cX2_gives 33 = .ok (.getfield 43, 3) := dk_180 0 43 (dk_at dksX2_gives_1 11 rfl rfl)
theorem dX2_gives_36 : decode cX2_gives 36 = .ok (.putfield 39, 3) := dk_181 0 39 (dk_at dksX2_gives_1 14 rfl rfl)
theorem dX2_gives_39 : decode cX2_gives 39 = .ok (.return_, 1) := dk_177 (dk_at dksX2_gives_1 17 rfl rfl)
abbrev cX2_init : ByteArray := prog_5_method_1_code
def yX2_init : MethodName := ⟨RX2, "<init>", "(LTemperIsles;)V"⟩
def dkwX2_init_1 : List UInt8 := [197, 0, 22, 2, 181, 0, 24, 177]
abbrev dktX2_init_1 : List UInt8 := dkwX2_init_1 ++ []
def dkwX2_init_0 : List UInt8 := [42, 43, 181, 0, 3, 42, 183, 0, 9, 42, 187, 0, 15, 89, 183, 0, 17, 181, 0, 18, 42, 16, 6, 6]
abbrev dktX2_init_0 : List UInt8 := dkwX2_init_0 ++ dktX2_init_1
theorem dksX2_init_0 : cX2_init.data.toList.drop 0 = dktX2_init_0 := by decide +kernel
theorem dksX2_init_1 : cX2_init.data.toList.drop 24 = dktX2_init_1 := dk_seg dksX2_init_0 24 rfl rfl
theorem dX2_init_0 : decode cX2_init 0 = .ok (.aload_n 0, 1) := dk_42 (dk_at dksX2_init_0 0 rfl rfl)
theorem dX2_init_1 : decode cX2_init 1 = .ok (.aload_n 1, 1) := dk_43 (dk_at dksX2_init_0 1 rfl rfl)
theorem dX2_init_2 : decode cX2_init 2 = .ok (.putfield 3, 3) := dk_181 0 3 (dk_at dksX2_init_0 2 rfl rfl)
theorem dX2_init_5 : decode cX2_init 5 = .ok (.aload_n 0, 1) := dk_42 (dk_at dksX2_init_0 5 rfl rfl)
theorem dX2_init_6 : decode cX2_init 6 = .ok (.invokespecial 9, 3) := dk_183 0 9 (dk_at dksX2_init_0 6 rfl rfl)
theorem dX2_init_9 : decode cX2_init 9 = .ok (.aload_n 0, 1) := dk_42 (dk_at dksX2_init_0 9 rfl rfl)
theorem dX2_init_10 : decode cX2_init 10 = .ok (.new 15, 3) := dk_187 0 15 (dk_at dksX2_init_0 10 rfl rfl)
theorem dX2_init_13 : decode cX2_init 13 = .ok (.dup, 1) := dk_89 (dk_at dksX2_init_0 13 rfl rfl)
theorem dX2_init_14 : decode cX2_init 14 = .ok (.invokespecial 17, 3) := dk_183 0 17 (dk_at dksX2_init_0 14 rfl rfl)
theorem dX2_init_17 : decode cX2_init 17 = .ok (.putfield 18, 3) := dk_181 0 18 (dk_at dksX2_init_0 17 rfl rfl)
theorem dX2_init_20 : decode cX2_init 20 = .ok (.aload_n 0, 1) := dk_42 (dk_at dksX2_init_0 20 rfl rfl)
theorem dX2_init_21 : decode cX2_init 21 = .ok (.bipush 6, 2) := dk_16 6 (dk_at dksX2_init_0 21 rfl rfl)
theorem dX2_init_23 : decode cX2_init 23 = .ok (.iconst 3, 1) := dk_6 (dk_at dksX2_init_0 23 rfl rfl)
theorem dX2_init_24 : decode cX2_init 24 = .ok (.multianewarray 22 2, 4) := by decide +kernel
theorem dX2_init_28 : decode cX2_init 28 = .ok (.putfield 24, 3) := dk_181 0 24 (dk_at dksX2_init_1 4 rfl rfl)
theorem dX2_init_31 : decode cX2_init 31 = .ok (.return_, 1) := dk_177 (dk_at dksX2_init_1 7 rfl rfl)
theorem q81 : (Jvm.Cond.initialized "TemperIsles$Image") ∈ lw_all := lw_g (lw_at lw_m1 3 rfl) rfl
theorem q729 : (Jvm.Cond.instanceMethod ({ cls := "TemperIsles$Image", name := "takes", desc := "()V" } : Jvm.MethodName)) ∈ lw_all := lw_g (lw_at lw_m3 171 rfl) rfl
theorem q730 : (Jvm.Cond.selects "TemperIsles$Image" ({ cls := "TemperIsles$Image", name := "takes", desc := "()V" } : Jvm.MethodName) ({ cls := "TemperIsles$Image", name := "takes", desc := "()V" } : Jvm.MethodName)) ∈ lw_all := lw_g (lw_at lw_m3 172 rfl) rfl
theorem q731 : (Jvm.Cond.code ({ cls := "TemperIsles$Image", name := "takes", desc := "()V" } : Jvm.MethodName) prog_5_method_2_code (1 : Nat) (Option.none : Option Jvm.ClassFile.FieldType)) ∈ lw_all := lw_g (lw_at lw_m3 173 rfl) rfl
theorem q732 : (Jvm.Cond.methodLink "TemperIsles$Image" (30 : Nat) ({ cls := "TemperIsles$Firth", name := "takes", desc := "(LTemperIsles$Firth;)V" } : Jvm.MethodName)) ∈ lw_all := lw_g (lw_at lw_m3 174 rfl) rfl
theorem q733 : (Jvm.Cond.methodLinkNest "TemperIsles$Image" (35 : Nat) ({ cls := "TemperIsles", name := "copies", desc := "([[I[[I)V" } : Jvm.MethodName) "TemperIsles") ∈ lw_tbl := lw_at lw_m3 175 rfl
theorem q741 : (Jvm.Cond.instanceMethod ({ cls := "TemperIsles$Image", name := "gives", desc := "()V" } : Jvm.MethodName)) ∈ lw_all := lw_g (lw_at lw_m3 183 rfl) rfl
theorem q742 : (Jvm.Cond.selects "TemperIsles$Image" ({ cls := "TemperIsles$Image", name := "gives", desc := "()V" } : Jvm.MethodName) ({ cls := "TemperIsles$Image", name := "gives", desc := "()V" } : Jvm.MethodName)) ∈ lw_all := lw_g (lw_at lw_m3 184 rfl) rfl
theorem q743 : (Jvm.Cond.code ({ cls := "TemperIsles$Image", name := "gives", desc := "()V" } : Jvm.MethodName) prog_5_method_3_code (1 : Nat) (Option.none : Option Jvm.ClassFile.FieldType)) ∈ lw_all := lw_g (lw_at lw_m3 185 rfl) rfl
theorem q754 : (Jvm.Cond.instantiable "TemperIsles$Image" (5 : Nat)) ∈ lw_all := lw_g (lw_at lw_m3 196 rfl) rfl
theorem q756 : (Jvm.Cond.instanceMethod ({ cls := "TemperIsles$Image", name := "<init>", desc := "(LTemperIsles;)V" } : Jvm.MethodName)) ∈ lw_all := lw_g (lw_at lw_m3 198 rfl) rfl
theorem q757 : (Jvm.Cond.code ({ cls := "TemperIsles$Image", name := "<init>", desc := "(LTemperIsles;)V" } : Jvm.MethodName) prog_5_method_1_code (2 : Nat) (Option.none : Option Jvm.ClassFile.FieldType)) ∈ lw_all := lw_g (lw_at lw_m3 199 rfl) rfl
theorem q758 : (Jvm.Cond.methodLink "TemperIsles$Image" (9 : Nat) ({ cls := "java/lang/Object", name := "<init>", desc := "()V" } : Jvm.MethodName)) ∈ lw_all := lw_g (lw_at lw_m3 200 rfl) rfl
theorem q759 : (Jvm.Cond.classLink "TemperIsles$Image" (15 : Nat) "TemperIsles$Firth") ∈ lw_all := lw_g (lw_at lw_m3 201 rfl) rfl
theorem q760 : (Jvm.Cond.methodLinkNest "TemperIsles$Image" (17 : Nat) ({ cls := "TemperIsles$Firth", name := "<init>", desc := "()V" } : Jvm.MethodName) "TemperIsles") ∈ lw_tbl := lw_at lw_m3 202 rfl
theorem q761 : (Jvm.Cond.classLink "TemperIsles$Image" (22 : Nat) "[[I") ∈ lw_all := lw_g (lw_at lw_m3 203 rfl) rfl
theorem q762 : (Jvm.Cond.fieldLink "TemperIsles$Image" (18 : Nat) "TemperIsles$Image" "firth" "LTemperIsles$Firth;") ∈ lw_all := lw_g (lw_at lw_m3 204 rfl) rfl
theorem q763 : (Jvm.Cond.fieldLink "TemperIsles$Image" (24 : Nat) "TemperIsles$Image" "seen" "[[I") ∈ lw_all := lw_g (lw_at lw_m3 205 rfl) rfl
theorem q764 : (Jvm.Cond.fieldLink "TemperIsles$Image" (43 : Nat) "TemperIsles$Image" "seenMany" "I") ∈ lw_all := lw_g (lw_at lw_m3 206 rfl) rfl
theorem q766 : (Jvm.Cond.fieldLink "TemperIsles$Image" (3 : Nat) "TemperIsles$Image" "this$0" "LTemperIsles;") ∈ lw_all := lw_g (lw_at lw_m3 208 rfl) rfl
theorem q767 : (Jvm.Cond.laysFinal "TemperIsles$Image" "TemperIsles$Image" "firth" "LTemperIsles$Firth;") ∈ lw_all := lw_g (lw_at lw_m3 209 rfl) rfl
theorem q768 : (Jvm.Cond.soleField "TemperIsles$Image" "firth") ∈ lw_all := lw_g (lw_at lw_m3 210 rfl) rfl
theorem q769 : (Jvm.Cond.laysFinal "TemperIsles$Image" "TemperIsles$Image" "seen" "[[I") ∈ lw_all := lw_g (lw_at lw_m3 211 rfl) rfl
theorem q770 : (Jvm.Cond.soleField "TemperIsles$Image" "seen") ∈ lw_all := lw_g (lw_at lw_m3 212 rfl) rfl
theorem q771 : (Jvm.Cond.lays "TemperIsles$Image" "TemperIsles$Image" "seenMany" "I") ∈ lw_all := lw_g (lw_at lw_m3 213 rfl) rfl
theorem q772 : (Jvm.Cond.soleField "TemperIsles$Image" "seenMany") ∈ lw_all := lw_g (lw_at lw_m3 214 rfl) rfl
theorem q773 : (Jvm.Cond.lays "TemperIsles$Image" "TemperIsles$Image" "isKept" "Z") ∈ lw_all := lw_g (lw_at lw_m3 215 rfl) rfl
theorem q774 : (Jvm.Cond.soleField "TemperIsles$Image" "isKept") ∈ lw_all := lw_g (lw_at lw_m3 216 rfl) rfl
theorem q775 : (Jvm.Cond.laysFinal "TemperIsles$Image" "TemperIsles$Image" "this$0" "LTemperIsles;") ∈ lw_all := lw_g (lw_at lw_m3 217 rfl) rfl
theorem q776 : (Jvm.Cond.soleField "TemperIsles$Image" "this$0") ∈ lw_all := lw_g (lw_at lw_m3 218 rfl) rfl
theorem q777 : (Jvm.Cond.superclass "TemperIsles$Image" "java/lang/Object") ∈ lw_all := lw_g (lw_at lw_m3 219 rfl) rfl
theorem q795 : (Jvm.Cond.fieldLinkNest "TemperIsles$Image" (27 : Nat) "TemperIsles" "now" "LTemperIsles$Firth;" "TemperIsles") ∈ lw_tbl := lw_at lw_m3 237 rfl
theorem q800 : (Jvm.Cond.fieldLinkNest "TemperIsles$Image" (34 : Nat) "TemperIsles" "seen" "[[I" "TemperIsles") ∈ lw_tbl := lw_at lw_m4 2 rfl
theorem q802 : (Jvm.Cond.fieldLinkNest "TemperIsles$Image" (39 : Nat) "TemperIsles" "seenMany" "I" "TemperIsles") ∈ lw_tbl := lw_at lw_m4 4 rfl
theorem in_X2 : ∀ w ∈ wsX20, w ∈ lw_all := lw_in wsX20 [767, 769, 771, 773, 775] (by decide +kernel) (by decide +kernel)
/-! TemperIsles$Sheet -/
set_option maxRecDepth 100000
def RX3 : String := "TemperIsles$Sheet"
def TX3 : u_T := fun k => match k with
  | 0 => ("TemperIsles$Sheet", "row", "Ljava/lang/Object;", false)
  | _ => ("TemperIsles$Sheet", "size", "I", false)
def tyX3 : Nat → FieldType := fun k => match k with
  | 0 => .object "java/lang/Object"
  | _ => .int
abbrev wsX30 : List Cond := u_ws RX3 TX3 2
theorem nmX3 : ∀ a, a < 2 → ∀ b, b < 2 → a ≠ b → (TX3 a).2.1 ≠ (TX3 b).2.1 := by decide +kernel
theorem tyX3_ok : ∀ k, k < 2 → parseFieldDescriptor (TX3 k).2.2.1 = some (tyX3 k) := by decide +kernel
abbrev cX3_init : ByteArray := prog_9_method_1_code
def yX3_init : MethodName := ⟨RX3, "<init>", "()V"⟩
theorem dX3_init_0 : decode cX3_init 0 = .ok (.aload_n 0, 1) := by decide +kernel
theorem dX3_init_1 : decode cX3_init 1 = .ok (.invokespecial 1, 3) := by decide +kernel
theorem dX3_init_4 : decode cX3_init 4 = .ok (.return_, 1) := by decide +kernel
theorem q82 : (Jvm.Cond.initialized "TemperIsles$Sheet") ∈ lw_all := lw_g (lw_at lw_m1 4 rfl) rfl
theorem q780 : (Jvm.Cond.instantiable "TemperIsles$Sheet" (2 : Nat)) ∈ lw_all := lw_g (lw_at lw_m3 222 rfl) rfl
theorem q782 : (Jvm.Cond.instanceMethod ({ cls := "TemperIsles$Sheet", name := "<init>", desc := "()V" } : Jvm.MethodName)) ∈ lw_all := lw_g (lw_at lw_m3 224 rfl) rfl
theorem q783 : (Jvm.Cond.code ({ cls := "TemperIsles$Sheet", name := "<init>", desc := "()V" } : Jvm.MethodName) prog_9_method_1_code (1 : Nat) (Option.none : Option Jvm.ClassFile.FieldType)) ∈ lw_all := lw_g (lw_at lw_m3 225 rfl) rfl
theorem q784 : (Jvm.Cond.methodLink "TemperIsles$Sheet" (1 : Nat) ({ cls := "java/lang/Object", name := "<init>", desc := "()V" } : Jvm.MethodName)) ∈ lw_all := lw_g (lw_at lw_m3 226 rfl) rfl
theorem q787 : (Jvm.Cond.lays "TemperIsles$Sheet" "TemperIsles$Sheet" "row" "Ljava/lang/Object;") ∈ lw_all := lw_g (lw_at lw_m3 229 rfl) rfl
theorem q788 : (Jvm.Cond.soleField "TemperIsles$Sheet" "row") ∈ lw_all := lw_g (lw_at lw_m3 230 rfl) rfl
theorem q789 : (Jvm.Cond.lays "TemperIsles$Sheet" "TemperIsles$Sheet" "size" "I") ∈ lw_all := lw_g (lw_at lw_m3 231 rfl) rfl
theorem q790 : (Jvm.Cond.soleField "TemperIsles$Sheet" "size") ∈ lw_all := lw_g (lw_at lw_m3 232 rfl) rfl
theorem q791 : (Jvm.Cond.superclass "TemperIsles$Sheet" "java/lang/Object") ∈ lw_all := lw_g (lw_at lw_m3 233 rfl) rfl
theorem in_X3 : ∀ w ∈ wsX30, w ∈ lw_all := lw_in wsX30 [787, 789] (by decide +kernel) (by decide +kernel)
/-! TemperIsles$Reader -/
set_option maxRecDepth 100000
def RX5 : String := "TemperIsles$Reader"
def TX5 : u_T := fun k => match k with
  | 0 => ("TemperIsles$Reader", "t", "[B", true)
  | 1 => ("TemperIsles$Reader", "firth", "LTemperIsles$Firth;", true)
  | 2 => ("TemperIsles$Reader", "told", "[I", true)
  | 3 => ("TemperIsles$Reader", "isFeastTold", "Z", false)
  | 4 => ("TemperIsles$Reader", "high", "I", false)
  | 5 => ("TemperIsles$Reader", "lines", "I", false)
  | 6 => ("TemperIsles$Reader", "from", "I", false)
  | 7 => ("TemperIsles$Reader", "to", "I", false)
  | 8 => ("TemperIsles$Reader", "kind", "I", false)
  | _ => ("TemperIsles$Reader", "value", "I", false)
def tyX5 : Nat → FieldType := fun k => match k with
  | 0 => .array .byte
  | 1 => .object "TemperIsles$Firth"
  | 2 => .array .int
  | 3 => .boolean
  | 4 => .int
  | 5 => .int
  | 6 => .int
  | 7 => .int
  | 8 => .int
  | _ => .int
abbrev wsX50 : List Cond := u_ws RX5 TX5 10
theorem nmX5 : ∀ a, a < 10 → ∀ b, b < 10 → a ≠ b → (TX5 a).2.1 ≠ (TX5 b).2.1 := by decide +kernel
theorem tyX5_ok : ∀ k, k < 10 → parseFieldDescriptor (TX5 k).2.2.1 = some (tyX5 k) := by decide +kernel
abbrev cX5_init : ByteArray := prog_8_method_1_code
def yX5_init : MethodName := ⟨RX5, "<init>", "([B)V"⟩
def dkwX5_init_1 : List UInt8 := [16, 252, 181, 0, 22, 42, 43, 181, 0, 26, 42, 182, 0, 30, 177]
abbrev dktX5_init_1 : List UInt8 := dkwX5_init_1 ++ []
def dkwX5_init_0 : List UInt8 := [42, 183, 0, 3, 42, 187, 0, 9, 89, 183, 0, 11, 181, 0, 12, 42, 8, 188, 10, 181, 0, 18, 42]
abbrev dktX5_init_0 : List UInt8 := dkwX5_init_0 ++ dktX5_init_1
theorem dksX5_init_0 : cX5_init.data.toList.drop 0 = dktX5_init_0 := by decide +kernel
theorem dksX5_init_1 : cX5_init.data.toList.drop 23 = dktX5_init_1 := dk_seg dksX5_init_0 23 rfl rfl
theorem dX5_init_0 : decode cX5_init 0 = .ok (.aload_n 0, 1) := dk_42 (dk_at dksX5_init_0 0 rfl rfl)
theorem dX5_init_1 : decode cX5_init 1 = .ok (.invokespecial 3, 3) := dk_183 0 3 (dk_at dksX5_init_0 1 rfl rfl)
theorem dX5_init_4 : decode cX5_init 4 = .ok (.aload_n 0, 1) := dk_42 (dk_at dksX5_init_0 4 rfl rfl)
theorem dX5_init_5 : decode cX5_init 5 = .ok (.new 9, 3) := dk_187 0 9 (dk_at dksX5_init_0 5 rfl rfl)
theorem dX5_init_8 : decode cX5_init 8 = .ok (.dup, 1) := dk_89 (dk_at dksX5_init_0 8 rfl rfl)
theorem dX5_init_9 : decode cX5_init 9 = .ok (.invokespecial 11, 3) := dk_183 0 11 (dk_at dksX5_init_0 9 rfl rfl)
theorem dX5_init_12 : decode cX5_init 12 = .ok (.putfield 12, 3) := dk_181 0 12 (dk_at dksX5_init_0 12 rfl rfl)
theorem dX5_init_15 : decode cX5_init 15 = .ok (.aload_n 0, 1) := dk_42 (dk_at dksX5_init_0 15 rfl rfl)
theorem dX5_init_16 : decode cX5_init 16 = .ok (.iconst 5, 1) := dk_8 (dk_at dksX5_init_0 16 rfl rfl)
theorem dX5_init_17 : decode cX5_init 17 = .ok (.newarray .int, 2) := dk_188_10 (dk_at dksX5_init_0 17 rfl rfl)
theorem dX5_init_19 : decode cX5_init 19 = .ok (.putfield 18, 3) := dk_181 0 18 (dk_at dksX5_init_0 19 rfl rfl)
theorem dX5_init_22 : decode cX5_init 22 = .ok (.aload_n 0, 1) := dk_42 (dk_at dksX5_init_0 22 rfl rfl)
theorem dX5_init_23 : decode cX5_init 23 = .ok (.bipush (-4), 2) := dk_16 252 (dk_at dksX5_init_1 0 rfl rfl)
theorem dX5_init_25 : decode cX5_init 25 = .ok (.putfield 22, 3) := dk_181 0 22 (dk_at dksX5_init_1 2 rfl rfl)
theorem dX5_init_28 : decode cX5_init 28 = .ok (.aload_n 0, 1) := dk_42 (dk_at dksX5_init_1 5 rfl rfl)
theorem dX5_init_29 : decode cX5_init 29 = .ok (.aload_n 1, 1) := dk_43 (dk_at dksX5_init_1 6 rfl rfl)
theorem dX5_init_30 : decode cX5_init 30 = .ok (.putfield 26, 3) := dk_181 0 26 (dk_at dksX5_init_1 7 rfl rfl)
theorem dX5_init_33 : decode cX5_init 33 = .ok (.aload_n 0, 1) := dk_42 (dk_at dksX5_init_1 10 rfl rfl)
theorem dX5_init_34 : decode cX5_init 34 = .ok (.invokevirtual 30, 3) := dk_182 0 30 (dk_at dksX5_init_1 11 rfl rfl)
theorem dX5_init_37 : decode cX5_init 37 = .ok (.return_, 1) := dk_177 (dk_at dksX5_init_1 14 rfl rfl)
abbrev cX5_next : ByteArray := prog_8_method_5_code
def yX5_next : MethodName := ⟨RX5, "next", "()V"⟩
def dkwX5_next_12 : List UInt8 := [160, 0, 7, 4, 167, 0, 4, 3, 4, 182, 0, 76, 42, 6, 181, 0, 41, 177]
abbrev dktX5_next_12 : List UInt8 := dkwX5_next_12 ++ []
def dkwX5_next_11 : List UInt8 := [163, 0, 7, 4, 167, 0, 4, 3, 4, 182, 0, 76, 42, 5, 181, 0, 41, 167, 0, 24, 42, 27, 16, 59]
abbrev dktX5_next_11 : List UInt8 := dkwX5_next_11 ++ dktX5_next_12
def dkwX5_next_10 : List UInt8 := [180, 0, 50, 4, 96, 181, 0, 50, 167, 255, 182, 42, 42, 180, 0, 50, 42, 180, 0, 35, 100, 5]
abbrev dktX5_next_10 : List UInt8 := dkwX5_next_10 ++ dktX5_next_11
def dkwX5_next_9 : List UInt8 := [180, 0, 50, 182, 0, 57, 96, 16, 48, 100, 167, 0, 7, 42, 180, 0, 61, 181, 0, 61, 42, 89]
abbrev dktX5_next_9 : List UInt8 := dkwX5_next_9 ++ dktX5_next_10
def dkwX5_next_8 : List UInt8 := [42, 42, 180, 0, 50, 42, 180, 0, 35, 100, 5, 162, 0, 25, 16, 10, 42, 180, 0, 61, 104, 42, 42]
abbrev dktX5_next_8 : List UInt8 := dkwX5_next_8 ++ dktX5_next_9
def dkwX5_next_7 : List UInt8 := [181, 0, 61, 42, 42, 180, 0, 50, 182, 0, 57, 133, 20, 0, 72, 20, 0, 74, 184, 0, 68, 153, 0, 59]
abbrev dktX5_next_7 : List UInt8 := dkwX5_next_7 ++ dktX5_next_8
def dkwX5_next_6 : List UInt8 := [20, 0, 72, 20, 0, 74, 184, 0, 68, 153, 0, 124, 42, 42, 180, 0, 35, 181, 0, 50, 42, 3]
abbrev dktX5_next_6 : List UInt8 := dkwX5_next_6 ++ dktX5_next_7
def dkwX5_next_5 : List UInt8 := [42, 89, 180, 0, 50, 4, 96, 181, 0, 50, 167, 255, 225, 42, 4, 181, 0, 41, 167, 0, 159, 27, 133]
abbrev dktX5_next_5 : List UInt8 := dkwX5_next_5 ++ dktX5_next_6
def dkwX5_next_4 : List UInt8 := [153, 0, 45, 42, 42, 180, 0, 50, 182, 0, 57, 133, 20, 0, 64, 20, 0, 66, 184, 0, 68, 153, 0, 16]
abbrev dktX5_next_4 : List UInt8 := dkwX5_next_4 ++ dktX5_next_5
def dkwX5_next_3 : List UInt8 := [181, 0, 50, 42, 3, 181, 0, 41, 167, 0, 215, 27, 133, 20, 0, 64, 20, 0, 66, 184, 0, 68]
abbrev dktX5_next_3 : List UInt8 := dkwX5_next_3 ++ dktX5_next_4
def dkwX5_next_2 : List UInt8 := [180, 0, 35, 4, 96, 181, 0, 50, 42, 27, 181, 0, 61, 27, 16, 252, 160, 0, 19, 42, 42, 180, 0, 35]
abbrev dktX5_next_2 : List UInt8 := dkwX5_next_2 ++ dktX5_next_3
def dkwX5_next_1 : List UInt8 := [180, 0, 35, 4, 96, 181, 0, 35, 167, 255, 233, 42, 42, 180, 0, 35, 182, 0, 57, 60, 42, 42]
abbrev dktX5_next_1 : List UInt8 := dkwX5_next_1 ++ dktX5_next_2
def dkwX5_next_0 : List UInt8 := [42, 42, 180, 0, 50, 181, 0, 35, 42, 42, 180, 0, 35, 182, 0, 57, 16, 32, 160, 0, 16, 42, 89]
abbrev dktX5_next_0 : List UInt8 := dkwX5_next_0 ++ dktX5_next_1
theorem dksX5_next_0 : cX5_next.data.toList.drop 0 = dktX5_next_0 := by decide +kernel
theorem dksX5_next_1 : cX5_next.data.toList.drop 23 = dktX5_next_1 := dk_seg dksX5_next_0 23 rfl rfl
theorem dksX5_next_2 : cX5_next.data.toList.drop 45 = dktX5_next_2 := dk_seg dksX5_next_1 22 rfl rfl
theorem dksX5_next_3 : cX5_next.data.toList.drop 69 = dktX5_next_3 := dk_seg dksX5_next_2 24 rfl rfl
theorem dksX5_next_4 : cX5_next.data.toList.drop 91 = dktX5_next_4 := dk_seg dksX5_next_3 22 rfl rfl
theorem dksX5_next_5 : cX5_next.data.toList.drop 115 = dktX5_next_5 := dk_seg dksX5_next_4 24 rfl rfl
theorem dksX5_next_6 : cX5_next.data.toList.drop 138 = dktX5_next_6 := dk_seg dksX5_next_5 23 rfl rfl
theorem dksX5_next_7 : cX5_next.data.toList.drop 160 = dktX5_next_7 := dk_seg dksX5_next_6 22 rfl rfl
theorem dksX5_next_8 : cX5_next.data.toList.drop 184 = dktX5_next_8 := dk_seg dksX5_next_7 24 rfl rfl
theorem dksX5_next_9 : cX5_next.data.toList.drop 207 = dktX5_next_9 := dk_seg dksX5_next_8 23 rfl rfl
theorem dksX5_next_10 : cX5_next.data.toList.drop 229 = dktX5_next_10 := dk_seg dksX5_next_9 22 rfl rfl
theorem dksX5_next_11 : cX5_next.data.toList.drop 251 = dktX5_next_11 := dk_seg dksX5_next_10 22 rfl rfl
theorem dksX5_next_12 : cX5_next.data.toList.drop 275 = dktX5_next_12 := dk_seg dksX5_next_11 24 rfl rfl
theorem dX5_next_0 : decode cX5_next 0 = .ok (.aload_n 0, 1) := dk_42 (dk_at dksX5_next_0 0 rfl rfl)
theorem dX5_next_1 : decode cX5_next 1 = .ok (.aload_n 0, 1) := dk_42 (dk_at dksX5_next_0 1 rfl rfl)
theorem dX5_next_2 : decode cX5_next 2 = .ok (.getfield 50, 3) := dk_180 0 50 (dk_at dksX5_next_0 2 rfl rfl)
theorem dX5_next_5 : decode cX5_next 5 = .ok (.putfield 35, 3) := dk_181 0 35 (dk_at dksX5_next_0 5 rfl rfl)
theorem dX5_next_8 : decode cX5_next 8 = .ok (.aload_n 0, 1) := dk_42 (dk_at dksX5_next_0 8 rfl rfl)
theorem dX5_next_9 : decode cX5_next 9 = .ok (.aload_n 0, 1) := dk_42 (dk_at dksX5_next_0 9 rfl rfl)
theorem dX5_next_10 : decode cX5_next 10 = .ok (.getfield 35, 3) := dk_180 0 35 (dk_at dksX5_next_0 10 rfl rfl)
theorem dX5_next_13 : decode cX5_next 13 = .ok (.invokevirtual 57, 3) := dk_182 0 57 (dk_at dksX5_next_0 13 rfl rfl)
theorem dX5_next_16 : decode cX5_next 16 = .ok (.bipush 32, 2) := dk_16 32 (dk_at dksX5_next_0 16 rfl rfl)
theorem dX5_next_18 : decode cX5_next 18 = .ok (.if_icmp .ne 16, 3) := dk_160 0 16 (dk_at dksX5_next_0 18 rfl rfl)
theorem dX5_next_21 : decode cX5_next 21 = .ok (.aload_n 0, 1) := dk_42 (dk_at dksX5_next_0 21 rfl rfl)
theorem dX5_next_22 : decode cX5_next 22 = .ok (.dup, 1) := dk_89 (dk_at dksX5_next_0 22 rfl rfl)
theorem dX5_next_23 : decode cX5_next 23 = .ok (.getfield 35, 3) := dk_180 0 35 (dk_at dksX5_next_1 0 rfl rfl)
theorem dX5_next_26 : decode cX5_next 26 = .ok (.iconst 1, 1) := dk_4 (dk_at dksX5_next_1 3 rfl rfl)
theorem dX5_next_27 : decode cX5_next 27 = .ok (.iadd, 1) := dk_96 (dk_at dksX5_next_1 4 rfl rfl)
theorem dX5_next_28 : decode cX5_next 28 = .ok (.putfield 35, 3) := dk_181 0 35 (dk_at dksX5_next_1 5 rfl rfl)
theorem dX5_next_31 : decode cX5_next 31 = .ok (.goto (-23), 3) := dk_167 255 233 (dk_at dksX5_next_1 8 rfl rfl)
theorem dX5_next_34 : decode cX5_next 34 = .ok (.aload_n 0, 1) := dk_42 (dk_at dksX5_next_1 11 rfl rfl)
theorem dX5_next_35 : decode cX5_next 35 = .ok (.aload_n 0, 1) := dk_42 (dk_at dksX5_next_1 12 rfl rfl)
theorem dX5_next_36 : decode cX5_next 36 = .ok (.getfield 35, 3) := dk_180 0 35 (dk_at dksX5_next_1 13 rfl rfl)
theorem dX5_next_39 : decode cX5_next 39 = .ok (.invokevirtual 57, 3) := dk_182 0 57 (dk_at dksX5_next_1 16 rfl rfl)
theorem dX5_next_42 : decode cX5_next 42 = .ok (.istore_n 1, 1) := dk_60 (dk_at dksX5_next_1 19 rfl rfl)
theorem dX5_next_43 : decode cX5_next 43 = .ok (.aload_n 0, 1) := dk_42 (dk_at dksX5_next_1 20 rfl rfl)
theorem dX5_next_44 : decode cX5_next 44 = .ok (.aload_n 0, 1) := dk_42 (dk_at dksX5_next_1 21 rfl rfl)
theorem dX5_next_45 : decode cX5_next 45 = .ok (.getfield 35, 3) := dk_180 0 35 (dk_at dksX5_next_2 0 rfl rfl)
theorem dX5_next_48 : decode cX5_next 48 = .ok (.iconst 1, 1) := dk_4 (dk_at dksX5_next_2 3 rfl rfl)
theorem dX5_next_49 : decode cX5_next 49 = .ok (.iadd, 1) := dk_96 (dk_at dksX5_next_2 4 rfl rfl)
theorem dX5_next_50 : decode cX5_next 50 = .ok (.putfield 50, 3) := dk_181 0 50 (dk_at dksX5_next_2 5 rfl rfl)
theorem dX5_next_53 : decode cX5_next 53 = .ok (.aload_n 0, 1) := dk_42 (dk_at dksX5_next_2 8 rfl rfl)
theorem dX5_next_54 : decode cX5_next 54 = .ok (.iload_n 1, 1) := dk_27 (dk_at dksX5_next_2 9 rfl rfl)
theorem dX5_next_55 : decode cX5_next 55 = .ok (.putfield 61, 3) := dk_181 0 61 (dk_at dksX5_next_2 10 rfl rfl)
theorem dX5_next_58 : decode cX5_next 58 = .ok (.iload_n 1, 1) := dk_27 (dk_at dksX5_next_2 13 rfl rfl)
theorem dX5_next_59 : decode cX5_next 59 = .ok (.bipush (-4), 2) := dk_16 252 (dk_at dksX5_next_2 14 rfl rfl)
theorem dX5_next_61 : decode cX5_next 61 = .ok (.if_icmp .ne 19, 3) := dk_160 0 19 (dk_at dksX5_next_2 16 rfl rfl)
theorem dX5_next_64 : decode cX5_next 64 = .ok (.aload_n 0, 1) := dk_42 (dk_at dksX5_next_2 19 rfl rfl)
theorem dX5_next_65 : decode cX5_next 65 = .ok (.aload_n 0, 1) := dk_42 (dk_at dksX5_next_2 20 rfl rfl)
theorem dX5_next_66 : decode cX5_next 66 = .ok (.getfield 35, 3) := dk_180 0 35 (dk_at dksX5_next_2 21 rfl rfl)
theorem dX5_next_69 : decode cX5_next 69 = .ok (.putfield 50, 3) := dk_181 0 50 (dk_at dksX5_next_3 0 rfl rfl)
theorem dX5_next_72 : decode cX5_next 72 = .ok (.aload_n 0, 1) := dk_42 (dk_at dksX5_next_3 3 rfl rfl)
theorem dX5_next_73 : decode cX5_next 73 = .ok (.iconst 0, 1) := dk_3 (dk_at dksX5_next_3 4 rfl rfl)
theorem dX5_next_74 : decode cX5_next 74 = .ok (.putfield 41, 3) := dk_181 0 41 (dk_at dksX5_next_3 5 rfl rfl)
theorem dX5_next_77 : decode cX5_next 77 = .ok (.goto 215, 3) := dk_167 0 215 (dk_at dksX5_next_3 8 rfl rfl)
theorem dX5_next_80 : decode cX5_next 80 = .ok (.iload_n 1, 1) := dk_27 (dk_at dksX5_next_3 11 rfl rfl)
theorem dX5_next_81 : decode cX5_next 81 = .ok (.i2l, 1) := dk_133 (dk_at dksX5_next_3 12 rfl rfl)
theorem dX5_next_82 : decode cX5_next 82 = .ok (.ldc2_w 64, 3) := dk_20 0 64 (dk_at dksX5_next_3 13 rfl rfl)
theorem dX5_next_85 : decode cX5_next 85 = .ok (.ldc2_w 66, 3) := dk_20 0 66 (dk_at dksX5_next_3 16 rfl rfl)
theorem dX5_next_88 : decode cX5_next 88 = .ok (.invokestatic 68, 3) := dk_184 0 68 (dk_at dksX5_next_3 19 rfl rfl)
theorem dX5_next_91 : decode cX5_next 91 = .ok (.ifCond .eq 45, 3) := dk_153 0 45 (dk_at dksX5_next_4 0 rfl rfl)
theorem dX5_next_94 : decode cX5_next 94 = .ok (.aload_n 0, 1) := dk_42 (dk_at dksX5_next_4 3 rfl rfl)
theorem dX5_next_95 : decode cX5_next 95 = .ok (.aload_n 0, 1) := dk_42 (dk_at dksX5_next_4 4 rfl rfl)
theorem dX5_next_96 : decode cX5_next 96 = .ok (.getfield 50, 3) := dk_180 0 50 (dk_at dksX5_next_4 5 rfl rfl)
theorem dX5_next_99 : decode cX5_next 99 = .ok (.invokevirtual 57, 3) := dk_182 0 57 (dk_at dksX5_next_4 8 rfl rfl)
theorem dX5_next_102 : decode cX5_next 102 = .ok (.i2l, 1) := dk_133 (dk_at dksX5_next_4 11 rfl rfl)
theorem dX5_next_103 : decode cX5_next 103 = .ok (.ldc2_w 64, 3) := dk_20 0 64 (dk_at dksX5_next_4 12 rfl rfl)
theorem dX5_next_106 : decode cX5_next 106 = .ok (.ldc2_w 66, 3) := dk_20 0 66 (dk_at dksX5_next_4 15 rfl rfl)
theorem dX5_next_109 : decode cX5_next 109 = .ok (.invokestatic 68, 3) := dk_184 0 68 (dk_at dksX5_next_4 18 rfl rfl)
theorem dX5_next_112 : decode cX5_next 112 = .ok (.ifCond .eq 16, 3) := dk_153 0 16 (dk_at dksX5_next_4 21 rfl rfl)
theorem dX5_next_115 : decode cX5_next 115 = .ok (.aload_n 0, 1) := dk_42 (dk_at dksX5_next_5 0 rfl rfl)
theorem dX5_next_116 : decode cX5_next 116 = .ok (.dup, 1) := dk_89 (dk_at dksX5_next_5 1 rfl rfl)
theorem dX5_next_117 : decode cX5_next 117 = .ok (.getfield 50, 3) := dk_180 0 50 (dk_at dksX5_next_5 2 rfl rfl)
theorem dX5_next_120 : decode cX5_next 120 = .ok (.iconst 1, 1) := dk_4 (dk_at dksX5_next_5 5 rfl rfl)
theorem dX5_next_121 : decode cX5_next 121 = .ok (.iadd, 1) := dk_96 (dk_at dksX5_next_5 6 rfl rfl)
theorem dX5_next_122 : decode cX5_next 122 = .ok (.putfield 50, 3) := dk_181 0 50 (dk_at dksX5_next_5 7 rfl rfl)
theorem dX5_next_125 : decode cX5_next 125 = .ok (.goto (-31), 3) := dk_167 255 225 (dk_at dksX5_next_5 10 rfl rfl)
theorem dX5_next_128 : decode cX5_next 128 = .ok (.aload_n 0, 1) := dk_42 (dk_at dksX5_next_5 13 rfl rfl)
theorem dX5_next_129 : decode cX5_next 129 = .ok (.iconst 1, 1) := dk_4 (dk_at dksX5_next_5 14 rfl rfl)
theorem dX5_next_130 : decode cX5_next 130 = .ok (.putfield 41, 3) := dk_181 0 41 (dk_at dksX5_next_5 15 rfl rfl)
theorem dX5_next_133 : decode cX5_next 133 = .ok (.goto 159, 3) := dk_167 0 159 (dk_at dksX5_next_5 18 rfl rfl)
theorem dX5_next_136 : decode cX5_next 136 = .ok (.iload_n 1, 1) := dk_27 (dk_at dksX5_next_5 21 rfl rfl)
theorem dX5_next_137 : decode cX5_next 137 = .ok (.i2l, 1) := dk_133 (dk_at dksX5_next_5 22 rfl rfl)
theorem dX5_next_138 : decode cX5_next 138 = .ok (.ldc2_w 72, 3) := dk_20 0 72 (dk_at dksX5_next_6 0 rfl rfl)
theorem dX5_next_141 : decode cX5_next 141 = .ok (.ldc2_w 74, 3) := dk_20 0 74 (dk_at dksX5_next_6 3 rfl rfl)
theorem dX5_next_144 : decode cX5_next 144 = .ok (.invokestatic 68, 3) := dk_184 0 68 (dk_at dksX5_next_6 6 rfl rfl)
theorem dX5_next_147 : decode cX5_next 147 = .ok (.ifCond .eq 124, 3) := dk_153 0 124 (dk_at dksX5_next_6 9 rfl rfl)
theorem dX5_next_150 : decode cX5_next 150 = .ok (.aload_n 0, 1) := dk_42 (dk_at dksX5_next_6 12 rfl rfl)
theorem dX5_next_151 : decode cX5_next 151 = .ok (.aload_n 0, 1) := dk_42 (dk_at dksX5_next_6 13 rfl rfl)
theorem dX5_next_152 : decode cX5_next 152 = .ok (.getfield 35, 3) := dk_180 0 35 (dk_at dksX5_next_6 14 rfl rfl)
theorem dX5_next_155 : decode cX5_next 155 = .ok (.putfield 50, 3) := dk_181 0 50 (dk_at dksX5_next_6 17 rfl rfl)
theorem dX5_next_158 : decode cX5_next 158 = .ok (.aload_n 0, 1) := dk_42 (dk_at dksX5_next_6 20 rfl rfl)
theorem dX5_next_159 : decode cX5_next 159 = .ok (.iconst 0, 1) := dk_3 (dk_at dksX5_next_6 21 rfl rfl)
theorem dX5_next_160 : decode cX5_next 160 = .ok (.putfield 61, 3) := dk_181 0 61 (dk_at dksX5_next_7 0 rfl rfl)
theorem dX5_next_163 : decode cX5_next 163 = .ok (.aload_n 0, 1) := dk_42 (dk_at dksX5_next_7 3 rfl rfl)
theorem dX5_next_164 : decode cX5_next 164 = .ok (.aload_n 0, 1) := dk_42 (dk_at dksX5_next_7 4 rfl rfl)
theorem dX5_next_165 : decode cX5_next 165 = .ok (.getfield 50, 3) := dk_180 0 50 (dk_at dksX5_next_7 5 rfl rfl)
theorem dX5_next_168 : decode cX5_next 168 = .ok (.invokevirtual 57, 3) := dk_182 0 57 (dk_at dksX5_next_7 8 rfl rfl)
theorem dX5_next_171 : decode cX5_next 171 = .ok (.i2l, 1) := dk_133 (dk_at dksX5_next_7 11 rfl rfl)
theorem dX5_next_172 : decode cX5_next 172 = .ok (.ldc2_w 72, 3) := dk_20 0 72 (dk_at dksX5_next_7 12 rfl rfl)
theorem dX5_next_175 : decode cX5_next 175 = .ok (.ldc2_w 74, 3) := dk_20 0 74 (dk_at dksX5_next_7 15 rfl rfl)
theorem dX5_next_178 : decode cX5_next 178 = .ok (.invokestatic 68, 3) := dk_184 0 68 (dk_at dksX5_next_7 18 rfl rfl)
theorem dX5_next_181 : decode cX5_next 181 = .ok (.ifCond .eq 59, 3) := dk_153 0 59 (dk_at dksX5_next_7 21 rfl rfl)
theorem dX5_next_184 : decode cX5_next 184 = .ok (.aload_n 0, 1) := dk_42 (dk_at dksX5_next_8 0 rfl rfl)
theorem dX5_next_185 : decode cX5_next 185 = .ok (.aload_n 0, 1) := dk_42 (dk_at dksX5_next_8 1 rfl rfl)
theorem dX5_next_186 : decode cX5_next 186 = .ok (.getfield 50, 3) := dk_180 0 50 (dk_at dksX5_next_8 2 rfl rfl)
theorem dX5_next_189 : decode cX5_next 189 = .ok (.aload_n 0, 1) := dk_42 (dk_at dksX5_next_8 5 rfl rfl)
theorem dX5_next_190 : decode cX5_next 190 = .ok (.getfield 35, 3) := dk_180 0 35 (dk_at dksX5_next_8 6 rfl rfl)
theorem dX5_next_193 : decode cX5_next 193 = .ok (.isub, 1) := dk_100 (dk_at dksX5_next_8 9 rfl rfl)
theorem dX5_next_194 : decode cX5_next 194 = .ok (.iconst 2, 1) := dk_5 (dk_at dksX5_next_8 10 rfl rfl)
theorem dX5_next_195 : decode cX5_next 195 = .ok (.if_icmp .ge 25, 3) := dk_162 0 25 (dk_at dksX5_next_8 11 rfl rfl)
theorem dX5_next_198 : decode cX5_next 198 = .ok (.bipush 10, 2) := dk_16 10 (dk_at dksX5_next_8 14 rfl rfl)
theorem dX5_next_200 : decode cX5_next 200 = .ok (.aload_n 0, 1) := dk_42 (dk_at dksX5_next_8 16 rfl rfl)
theorem dX5_next_201 : decode cX5_next 201 = .ok (.getfield 61, 3) := dk_180 0 61 (dk_at dksX5_next_8 17 rfl rfl)
theorem dX5_next_204 : decode cX5_next 204 = .ok (.imul, 1) := dk_104 (dk_at dksX5_next_8 20 rfl rfl)
theorem dX5_next_205 : decode cX5_next 205 = .ok (.aload_n 0, 1) := dk_42 (dk_at dksX5_next_8 21 rfl rfl)
theorem dX5_next_206 : decode cX5_next 206 = .ok (.aload_n 0, 1) := dk_42 (dk_at dksX5_next_8 22 rfl rfl)
theorem dX5_next_207 : decode cX5_next 207 = .ok (.getfield 50, 3) := dk_180 0 50 (dk_at dksX5_next_9 0 rfl rfl)
theorem dX5_next_210 : decode cX5_next 210 = .ok (.invokevirtual 57, 3) := dk_182 0 57 (dk_at dksX5_next_9 3 rfl rfl)
theorem dX5_next_213 : decode cX5_next 213 = .ok (.iadd, 1) := dk_96 (dk_at dksX5_next_9 6 rfl rfl)
theorem dX5_next_214 : decode cX5_next 214 = .ok (.bipush 48, 2) := dk_16 48 (dk_at dksX5_next_9 7 rfl rfl)
theorem dX5_next_216 : decode cX5_next 216 = .ok (.isub, 1) := dk_100 (dk_at dksX5_next_9 9 rfl rfl)
theorem dX5_next_217 : decode cX5_next 217 = .ok (.goto 7, 3) := dk_167 0 7 (dk_at dksX5_next_9 10 rfl rfl)
theorem dX5_next_220 : decode cX5_next 220 = .ok (.aload_n 0, 1) := dk_42 (dk_at dksX5_next_9 13 rfl rfl)
theorem dX5_next_221 : decode cX5_next 221 = .ok (.getfield 61, 3) := dk_180 0 61 (dk_at dksX5_next_9 14 rfl rfl)
theorem dX5_next_224 : decode cX5_next 224 = .ok (.putfield 61, 3) := dk_181 0 61 (dk_at dksX5_next_9 17 rfl rfl)
theorem dX5_next_227 : decode cX5_next 227 = .ok (.aload_n 0, 1) := dk_42 (dk_at dksX5_next_9 20 rfl rfl)
theorem dX5_next_228 : decode cX5_next 228 = .ok (.dup, 1) := dk_89 (dk_at dksX5_next_9 21 rfl rfl)
theorem dX5_next_229 : decode cX5_next 229 = .ok (.getfield 50, 3) := dk_180 0 50 (dk_at dksX5_next_10 0 rfl rfl)
theorem dX5_next_232 : decode cX5_next 232 = .ok (.iconst 1, 1) := dk_4 (dk_at dksX5_next_10 3 rfl rfl)
theorem dX5_next_233 : decode cX5_next 233 = .ok (.iadd, 1) := dk_96 (dk_at dksX5_next_10 4 rfl rfl)
theorem dX5_next_234 : decode cX5_next 234 = .ok (.putfield 50, 3) := dk_181 0 50 (dk_at dksX5_next_10 5 rfl rfl)
theorem dX5_next_237 : decode cX5_next 237 = .ok (.goto (-74), 3) := dk_167 255 182 (dk_at dksX5_next_10 8 rfl rfl)
theorem dX5_next_240 : decode cX5_next 240 = .ok (.aload_n 0, 1) := dk_42 (dk_at dksX5_next_10 11 rfl rfl)
theorem dX5_next_241 : decode cX5_next 241 = .ok (.aload_n 0, 1) := dk_42 (dk_at dksX5_next_10 12 rfl rfl)
theorem dX5_next_242 : decode cX5_next 242 = .ok (.getfield 50, 3) := dk_180 0 50 (dk_at dksX5_next_10 13 rfl rfl)
theorem dX5_next_245 : decode cX5_next 245 = .ok (.aload_n 0, 1) := dk_42 (dk_at dksX5_next_10 16 rfl rfl)
theorem dX5_next_246 : decode cX5_next 246 = .ok (.getfield 35, 3) := dk_180 0 35 (dk_at dksX5_next_10 17 rfl rfl)
theorem dX5_next_249 : decode cX5_next 249 = .ok (.isub, 1) := dk_100 (dk_at dksX5_next_10 20 rfl rfl)
theorem dX5_next_250 : decode cX5_next 250 = .ok (.iconst 2, 1) := dk_5 (dk_at dksX5_next_10 21 rfl rfl)
theorem dX5_next_251 : decode cX5_next 251 = .ok (.if_icmp .gt 7, 3) := dk_163 0 7 (dk_at dksX5_next_11 0 rfl rfl)
theorem dX5_next_254 : decode cX5_next 254 = .ok (.iconst 1, 1) := dk_4 (dk_at dksX5_next_11 3 rfl rfl)
theorem dX5_next_255 : decode cX5_next 255 = .ok (.goto 4, 3) := dk_167 0 4 (dk_at dksX5_next_11 4 rfl rfl)
theorem dX5_next_258 : decode cX5_next 258 = .ok (.iconst 0, 1) := dk_3 (dk_at dksX5_next_11 7 rfl rfl)
theorem dX5_next_259 : decode cX5_next 259 = .ok (.iconst 1, 1) := dk_4 (dk_at dksX5_next_11 8 rfl rfl)
theorem dX5_next_260 : decode cX5_next 260 = .ok (.invokevirtual 76, 3) := dk_182 0 76 (dk_at dksX5_next_11 9 rfl rfl)
theorem dX5_next_263 : decode cX5_next 263 = .ok (.aload_n 0, 1) := dk_42 (dk_at dksX5_next_11 12 rfl rfl)
theorem dX5_next_264 : decode cX5_next 264 = .ok (.iconst 2, 1) := dk_5 (dk_at dksX5_next_11 13 rfl rfl)
theorem dX5_next_265 : decode cX5_next 265 = .ok (.putfield 41, 3) := dk_181 0 41 (dk_at dksX5_next_11 14 rfl rfl)
theorem dX5_next_268 : decode cX5_next 268 = .ok (.goto 24, 3) := dk_167 0 24 (dk_at dksX5_next_11 17 rfl rfl)
theorem dX5_next_271 : decode cX5_next 271 = .ok (.aload_n 0, 1) := dk_42 (dk_at dksX5_next_11 20 rfl rfl)
theorem dX5_next_272 : decode cX5_next 272 = .ok (.iload_n 1, 1) := dk_27 (dk_at dksX5_next_11 21 rfl rfl)
theorem dX5_next_273 : decode cX5_next 273 = .ok (.bipush 59, 2) := dk_16 59 (dk_at dksX5_next_11 22 rfl rfl)
theorem dX5_next_275 : decode cX5_next 275 = .ok (.if_icmp .ne 7, 3) := dk_160 0 7 (dk_at dksX5_next_12 0 rfl rfl)
theorem dX5_next_278 : decode cX5_next 278 = .ok (.iconst 1, 1) := dk_4 (dk_at dksX5_next_12 3 rfl rfl)
theorem dX5_next_279 : decode cX5_next 279 = .ok (.goto 4, 3) := dk_167 0 4 (dk_at dksX5_next_12 4 rfl rfl)
theorem dX5_next_282 : decode cX5_next 282 = .ok (.iconst 0, 1) := dk_3 (dk_at dksX5_next_12 7 rfl rfl)
theorem dX5_next_283 : decode cX5_next 283 = .ok (.iconst 1, 1) := dk_4 (dk_at dksX5_next_12 8 rfl rfl)
theorem dX5_next_284 : decode cX5_next 284 = .ok (.invokevirtual 76, 3) := dk_182 0 76 (dk_at dksX5_next_12 9 rfl rfl)
theorem dX5_next_287 : decode cX5_next 287 = .ok (.aload_n 0, 1) := dk_42 (dk_at dksX5_next_12 12 rfl rfl)
theorem dX5_next_288 : decode cX5_next 288 = .ok (.iconst 3, 1) := dk_6 (dk_at dksX5_next_12 13 rfl rfl)
theorem dX5_next_289 : decode cX5_next 289 = .ok (.putfield 41, 3) := dk_181 0 41 (dk_at dksX5_next_12 14 rfl rfl)
theorem dX5_next_292 : decode cX5_next 292 = .ok (.return_, 1) := dk_177 (dk_at dksX5_next_12 17 rfl rfl)
abbrev cX5_at : ByteArray := prog_8_method_2_code
def yX5_at : MethodName := ⟨RX5, "at", "(I)I"⟩
def dkwX5_at_0 : List UInt8 := [27, 42, 180, 0, 26, 190, 162, 0, 12, 42, 180, 0, 26, 27, 51, 167, 0, 5, 16, 252, 172]
abbrev dktX5_at_0 : List UInt8 := dkwX5_at_0 ++ []
theorem dksX5_at_0 : cX5_at.data.toList.drop 0 = dktX5_at_0 := by decide +kernel
theorem dX5_at_0 : decode cX5_at 0 = .ok (.iload_n 1, 1) := dk_27 (dk_at dksX5_at_0 0 rfl rfl)
theorem dX5_at_1 : decode cX5_at 1 = .ok (.aload_n 0, 1) := dk_42 (dk_at dksX5_at_0 1 rfl rfl)
theorem dX5_at_2 : decode cX5_at 2 = .ok (.getfield 26, 3) := dk_180 0 26 (dk_at dksX5_at_0 2 rfl rfl)
theorem dX5_at_5 : decode cX5_at 5 = .ok (.arraylength, 1) := dk_190 (dk_at dksX5_at_0 5 rfl rfl)
theorem dX5_at_6 : decode cX5_at 6 = .ok (.if_icmp .ge 12, 3) := dk_162 0 12 (dk_at dksX5_at_0 6 rfl rfl)
theorem dX5_at_9 : decode cX5_at 9 = .ok (.aload_n 0, 1) := dk_42 (dk_at dksX5_at_0 9 rfl rfl)
theorem dX5_at_10 : decode cX5_at 10 = .ok (.getfield 26, 3) := dk_180 0 26 (dk_at dksX5_at_0 10 rfl rfl)
theorem dX5_at_13 : decode cX5_at 13 = .ok (.iload_n 1, 1) := dk_27 (dk_at dksX5_at_0 13 rfl rfl)
theorem dX5_at_14 : decode cX5_at 14 = .ok (.baload, 1) := dk_51 (dk_at dksX5_at_0 14 rfl rfl)
theorem dX5_at_15 : decode cX5_at 15 = .ok (.goto 5, 3) := dk_167 0 5 (dk_at dksX5_at_0 15 rfl rfl)
theorem dX5_at_18 : decode cX5_at 18 = .ok (.bipush (-4), 2) := dk_16 252 (dk_at dksX5_at_0 18 rfl rfl)
theorem dX5_at_20 : decode cX5_at 20 = .ok (.ireturn, 1) := dk_172 (dk_at dksX5_at_0 20 rfl rfl)
abbrev cX5_must : ByteArray := prog_8_method_3_code
def yX5_must : MethodName := ⟨RX5, "must", "(ZI)V"⟩
def dkwX5_must_0 : List UInt8 := [27, 154, 0, 16, 187, 0, 33, 89, 28, 42, 180, 0, 35, 183, 0, 38, 191, 177]
abbrev dktX5_must_0 : List UInt8 := dkwX5_must_0 ++ []
theorem dksX5_must_0 : cX5_must.data.toList.drop 0 = dktX5_must_0 := by decide +kernel
theorem dX5_must_0 : decode cX5_must 0 = .ok (.iload_n 1, 1) := dk_27 (dk_at dksX5_must_0 0 rfl rfl)
theorem dX5_must_1 : decode cX5_must 1 = .ok (.ifCond .ne 16, 3) := dk_154 0 16 (dk_at dksX5_must_0 1 rfl rfl)
theorem dX5_must_4 : decode cX5_must 4 = .ok (.new 33, 3) := dk_187 0 33 (dk_at dksX5_must_0 4 rfl rfl)
theorem dX5_must_7 : decode cX5_must 7 = .ok (.dup, 1) := dk_89 (dk_at dksX5_must_0 7 rfl rfl)
theorem dX5_must_8 : decode cX5_must 8 = .ok (.iload_n 2, 1) := dk_28 (dk_at dksX5_must_0 8 rfl rfl)
theorem dX5_must_9 : decode cX5_must 9 = .ok (.aload_n 0, 1) := dk_42 (dk_at dksX5_must_0 9 rfl rfl)
theorem dX5_must_10 : decode cX5_must 10 = .ok (.getfield 35, 3) := dk_180 0 35 (dk_at dksX5_must_0 10 rfl rfl)
theorem dX5_must_13 : decode cX5_must 13 = .ok (.invokespecial 38, 3) := dk_183 0 38 (dk_at dksX5_must_0 13 rfl rfl)
theorem dX5_must_16 : decode cX5_must 16 = .ok (.athrow, 1) := dk_191 (dk_at dksX5_must_0 16 rfl rfl)
theorem dX5_must_17 : decode cX5_must 17 = .ok (.return_, 1) := dk_177 (dk_at dksX5_must_0 17 rfl rfl)
abbrev cX5_all : ByteArray := prog_8_method_14_code
def yX5_all : MethodName := ⟨RX5, "all", "()V"⟩
def dkwX5_all_1 : List UInt8 := [180, 0, 88, 162, 0, 7, 4, 167, 0, 4, 3, 16, 6, 182, 0, 76, 177]
abbrev dktX5_all_1 : List UInt8 := dkwX5_all_1 ++ []
def dkwX5_all_0 : List UInt8 := [42, 180, 0, 41, 153, 0, 10, 42, 182, 0, 151, 167, 255, 245, 42, 42, 180, 0, 22, 42, 180, 0, 12]
abbrev dktX5_all_0 : List UInt8 := dkwX5_all_0 ++ dktX5_all_1
theorem dksX5_all_0 : cX5_all.data.toList.drop 0 = dktX5_all_0 := by decide +kernel
theorem dksX5_all_1 : cX5_all.data.toList.drop 23 = dktX5_all_1 := dk_seg dksX5_all_0 23 rfl rfl
theorem dX5_all_0 : decode cX5_all 0 = .ok (.aload_n 0, 1) := dk_42 (dk_at dksX5_all_0 0 rfl rfl)
theorem dX5_all_1 : decode cX5_all 1 = .ok (.getfield 41, 3) := dk_180 0 41 (dk_at dksX5_all_0 1 rfl rfl)
theorem dX5_all_4 : decode cX5_all 4 = .ok (.ifCond .eq 10, 3) := dk_153 0 10 (dk_at dksX5_all_0 4 rfl rfl)
theorem dX5_all_7 : decode cX5_all 7 = .ok (.aload_n 0, 1) := dk_42 (dk_at dksX5_all_0 7 rfl rfl)
theorem dX5_all_8 : decode cX5_all 8 = .ok (.invokevirtual 151, 3) := dk_182 0 151 (dk_at dksX5_all_0 8 rfl rfl)
theorem dX5_all_11 : decode cX5_all 11 = .ok (.goto (-11), 3) := dk_167 255 245 (dk_at dksX5_all_0 11 rfl rfl)
theorem dX5_all_14 : decode cX5_all 14 = .ok (.aload_n 0, 1) := dk_42 (dk_at dksX5_all_0 14 rfl rfl)
theorem dX5_all_15 : decode cX5_all 15 = .ok (.aload_n 0, 1) := dk_42 (dk_at dksX5_all_0 15 rfl rfl)
theorem dX5_all_16 : decode cX5_all 16 = .ok (.getfield 22, 3) := dk_180 0 22 (dk_at dksX5_all_0 16 rfl rfl)
theorem dX5_all_19 : decode cX5_all 19 = .ok (.aload_n 0, 1) := dk_42 (dk_at dksX5_all_0 19 rfl rfl)
theorem dX5_all_20 : decode cX5_all 20 = .ok (.getfield 12, 3) := dk_180 0 12 (dk_at dksX5_all_0 20 rfl rfl)
theorem dX5_all_23 : decode cX5_all 23 = .ok (.getfield 88, 3) := dk_180 0 88 (dk_at dksX5_all_1 0 rfl rfl)
theorem dX5_all_26 : decode cX5_all 26 = .ok (.if_icmp .ge 7, 3) := dk_162 0 7 (dk_at dksX5_all_1 3 rfl rfl)
theorem dX5_all_29 : decode cX5_all 29 = .ok (.iconst 1, 1) := dk_4 (dk_at dksX5_all_1 6 rfl rfl)
theorem dX5_all_30 : decode cX5_all 30 = .ok (.goto 4, 3) := dk_167 0 4 (dk_at dksX5_all_1 7 rfl rfl)
theorem dX5_all_33 : decode cX5_all 33 = .ok (.iconst 0, 1) := dk_3 (dk_at dksX5_all_1 10 rfl rfl)
theorem dX5_all_34 : decode cX5_all 34 = .ok (.bipush 6, 2) := dk_16 6 (dk_at dksX5_all_1 11 rfl rfl)
theorem dX5_all_36 : decode cX5_all 36 = .ok (.invokevirtual 76, 3) := dk_182 0 76 (dk_at dksX5_all_1 13 rfl rfl)
theorem dX5_all_39 : decode cX5_all 39 = .ok (.return_, 1) := dk_177 (dk_at dksX5_all_1 16 rfl rfl)
abbrev cX5_line : ByteArray := prog_8_method_13_code
def yX5_line : MethodName := ⟨RX5, "line", "()V"⟩
def dkwX5_line_5 : List UInt8 := [5, 182, 0, 76, 42, 89, 180, 0, 148, 4, 96, 181, 0, 148, 42, 182, 0, 30, 177]
abbrev dktX5_line_5 : List UInt8 := dkwX5_line_5 ++ []
def dkwX5_line_4 : List UInt8 := [182, 0, 142, 167, 0, 7, 42, 182, 0, 145, 42, 42, 180, 0, 41, 6, 160, 0, 7, 4, 167, 0, 4, 3]
abbrev dktX5_line_4 : List UInt8 := dkwX5_line_4 ++ dktX5_line_5
def dkwX5_line_3 : List UInt8 := [182, 0, 135, 167, 0, 31, 27, 7, 160, 0, 10, 42, 182, 0, 139, 167, 0, 19, 27, 8, 160, 0, 10, 42]
abbrev dktX5_line_3 : List UInt8 := dkwX5_line_3 ++ dktX5_line_4
def dkwX5_line_2 : List UInt8 := [178, 0, 127, 190, 162, 0, 7, 4, 167, 0, 4, 3, 5, 182, 0, 76, 27, 6, 163, 0, 11, 42, 27]
abbrev dktX5_line_2 : List UInt8 := dkwX5_line_2 ++ dktX5_line_3
def dkwX5_line_1 : List UInt8 := [190, 162, 0, 21, 42, 178, 0, 127, 27, 50, 182, 0, 131, 154, 0, 9, 132, 1, 1, 167, 255, 233, 42, 27]
abbrev dktX5_line_1 : List UInt8 := dkwX5_line_1 ++ dktX5_line_2
def dkwX5_line_0 : List UInt8 := [42, 42, 180, 0, 41, 4, 160, 0, 7, 4, 167, 0, 4, 3, 5, 182, 0, 76, 3, 60, 27, 178, 0, 127]
abbrev dktX5_line_0 : List UInt8 := dkwX5_line_0 ++ dktX5_line_1
theorem dksX5_line_0 : cX5_line.data.toList.drop 0 = dktX5_line_0 := by decide +kernel
theorem dksX5_line_1 : cX5_line.data.toList.drop 24 = dktX5_line_1 := dk_seg dksX5_line_0 24 rfl rfl
theorem dksX5_line_2 : cX5_line.data.toList.drop 48 = dktX5_line_2 := dk_seg dksX5_line_1 24 rfl rfl
theorem dksX5_line_3 : cX5_line.data.toList.drop 71 = dktX5_line_3 := dk_seg dksX5_line_2 23 rfl rfl
theorem dksX5_line_4 : cX5_line.data.toList.drop 95 = dktX5_line_4 := dk_seg dksX5_line_3 24 rfl rfl
theorem dksX5_line_5 : cX5_line.data.toList.drop 119 = dktX5_line_5 := dk_seg dksX5_line_4 24 rfl rfl
theorem dX5_line_0 : decode cX5_line 0 = .ok (.aload_n 0, 1) := dk_42 (dk_at dksX5_line_0 0 rfl rfl)
theorem dX5_line_1 : decode cX5_line 1 = .ok (.aload_n 0, 1) := dk_42 (dk_at dksX5_line_0 1 rfl rfl)
theorem dX5_line_2 : decode cX5_line 2 = .ok (.getfield 41, 3) := dk_180 0 41 (dk_at dksX5_line_0 2 rfl rfl)
theorem dX5_line_5 : decode cX5_line 5 = .ok (.iconst 1, 1) := dk_4 (dk_at dksX5_line_0 5 rfl rfl)
theorem dX5_line_6 : decode cX5_line 6 = .ok (.if_icmp .ne 7, 3) := dk_160 0 7 (dk_at dksX5_line_0 6 rfl rfl)
theorem dX5_line_9 : decode cX5_line 9 = .ok (.iconst 1, 1) := dk_4 (dk_at dksX5_line_0 9 rfl rfl)
theorem dX5_line_10 : decode cX5_line 10 = .ok (.goto 4, 3) := dk_167 0 4 (dk_at dksX5_line_0 10 rfl rfl)
theorem dX5_line_13 : decode cX5_line 13 = .ok (.iconst 0, 1) := dk_3 (dk_at dksX5_line_0 13 rfl rfl)
theorem dX5_line_14 : decode cX5_line 14 = .ok (.iconst 2, 1) := dk_5 (dk_at dksX5_line_0 14 rfl rfl)
theorem dX5_line_15 : decode cX5_line 15 = .ok (.invokevirtual 76, 3) := dk_182 0 76 (dk_at dksX5_line_0 15 rfl rfl)
theorem dX5_line_18 : decode cX5_line 18 = .ok (.iconst 0, 1) := dk_3 (dk_at dksX5_line_0 18 rfl rfl)
theorem dX5_line_19 : decode cX5_line 19 = .ok (.istore_n 1, 1) := dk_60 (dk_at dksX5_line_0 19 rfl rfl)
theorem dX5_line_20 : decode cX5_line 20 = .ok (.iload_n 1, 1) := dk_27 (dk_at dksX5_line_0 20 rfl rfl)
theorem dX5_line_21 : decode cX5_line 21 = .ok (.getstatic 127, 3) := dk_178 0 127 (dk_at dksX5_line_0 21 rfl rfl)
theorem dX5_line_24 : decode cX5_line 24 = .ok (.arraylength, 1) := dk_190 (dk_at dksX5_line_1 0 rfl rfl)
theorem dX5_line_25 : decode cX5_line 25 = .ok (.if_icmp .ge 21, 3) := dk_162 0 21 (dk_at dksX5_line_1 1 rfl rfl)
theorem dX5_line_28 : decode cX5_line 28 = .ok (.aload_n 0, 1) := dk_42 (dk_at dksX5_line_1 4 rfl rfl)
theorem dX5_line_29 : decode cX5_line 29 = .ok (.getstatic 127, 3) := dk_178 0 127 (dk_at dksX5_line_1 5 rfl rfl)
theorem dX5_line_32 : decode cX5_line 32 = .ok (.iload_n 1, 1) := dk_27 (dk_at dksX5_line_1 8 rfl rfl)
theorem dX5_line_33 : decode cX5_line 33 = .ok (.aaload, 1) := dk_50 (dk_at dksX5_line_1 9 rfl rfl)
theorem dX5_line_34 : decode cX5_line 34 = .ok (.invokevirtual 131, 3) := dk_182 0 131 (dk_at dksX5_line_1 10 rfl rfl)
theorem dX5_line_37 : decode cX5_line 37 = .ok (.ifCond .ne 9, 3) := dk_154 0 9 (dk_at dksX5_line_1 13 rfl rfl)
theorem dX5_line_40 : decode cX5_line 40 = .ok (.iinc 1 1, 3) := dk_132 1 1 (dk_at dksX5_line_1 16 rfl rfl)
theorem dX5_line_43 : decode cX5_line 43 = .ok (.goto (-23), 3) := dk_167 255 233 (dk_at dksX5_line_1 19 rfl rfl)
theorem dX5_line_46 : decode cX5_line 46 = .ok (.aload_n 0, 1) := dk_42 (dk_at dksX5_line_1 22 rfl rfl)
theorem dX5_line_47 : decode cX5_line 47 = .ok (.iload_n 1, 1) := dk_27 (dk_at dksX5_line_1 23 rfl rfl)
theorem dX5_line_48 : decode cX5_line 48 = .ok (.getstatic 127, 3) := dk_178 0 127 (dk_at dksX5_line_2 0 rfl rfl)
theorem dX5_line_51 : decode cX5_line 51 = .ok (.arraylength, 1) := dk_190 (dk_at dksX5_line_2 3 rfl rfl)
theorem dX5_line_52 : decode cX5_line 52 = .ok (.if_icmp .ge 7, 3) := dk_162 0 7 (dk_at dksX5_line_2 4 rfl rfl)
theorem dX5_line_55 : decode cX5_line 55 = .ok (.iconst 1, 1) := dk_4 (dk_at dksX5_line_2 7 rfl rfl)
theorem dX5_line_56 : decode cX5_line 56 = .ok (.goto 4, 3) := dk_167 0 4 (dk_at dksX5_line_2 8 rfl rfl)
theorem dX5_line_59 : decode cX5_line 59 = .ok (.iconst 0, 1) := dk_3 (dk_at dksX5_line_2 11 rfl rfl)
theorem dX5_line_60 : decode cX5_line 60 = .ok (.iconst 2, 1) := dk_5 (dk_at dksX5_line_2 12 rfl rfl)
theorem dX5_line_61 : decode cX5_line 61 = .ok (.invokevirtual 76, 3) := dk_182 0 76 (dk_at dksX5_line_2 13 rfl rfl)
theorem dX5_line_64 : decode cX5_line 64 = .ok (.iload_n 1, 1) := dk_27 (dk_at dksX5_line_2 16 rfl rfl)
theorem dX5_line_65 : decode cX5_line 65 = .ok (.iconst 3, 1) := dk_6 (dk_at dksX5_line_2 17 rfl rfl)
theorem dX5_line_66 : decode cX5_line 66 = .ok (.if_icmp .gt 11, 3) := dk_163 0 11 (dk_at dksX5_line_2 18 rfl rfl)
theorem dX5_line_69 : decode cX5_line 69 = .ok (.aload_n 0, 1) := dk_42 (dk_at dksX5_line_2 21 rfl rfl)
theorem dX5_line_70 : decode cX5_line 70 = .ok (.iload_n 1, 1) := dk_27 (dk_at dksX5_line_2 22 rfl rfl)
theorem dX5_line_71 : decode cX5_line 71 = .ok (.invokevirtual 135, 3) := dk_182 0 135 (dk_at dksX5_line_3 0 rfl rfl)
theorem dX5_line_74 : decode cX5_line 74 = .ok (.goto 31, 3) := dk_167 0 31 (dk_at dksX5_line_3 3 rfl rfl)
theorem dX5_line_77 : decode cX5_line 77 = .ok (.iload_n 1, 1) := dk_27 (dk_at dksX5_line_3 6 rfl rfl)
theorem dX5_line_78 : decode cX5_line 78 = .ok (.iconst 4, 1) := dk_7 (dk_at dksX5_line_3 7 rfl rfl)
theorem dX5_line_79 : decode cX5_line 79 = .ok (.if_icmp .ne 10, 3) := dk_160 0 10 (dk_at dksX5_line_3 8 rfl rfl)
theorem dX5_line_82 : decode cX5_line 82 = .ok (.aload_n 0, 1) := dk_42 (dk_at dksX5_line_3 11 rfl rfl)
theorem dX5_line_83 : decode cX5_line 83 = .ok (.invokevirtual 139, 3) := dk_182 0 139 (dk_at dksX5_line_3 12 rfl rfl)
theorem dX5_line_86 : decode cX5_line 86 = .ok (.goto 19, 3) := dk_167 0 19 (dk_at dksX5_line_3 15 rfl rfl)
theorem dX5_line_89 : decode cX5_line 89 = .ok (.iload_n 1, 1) := dk_27 (dk_at dksX5_line_3 18 rfl rfl)
theorem dX5_line_90 : decode cX5_line 90 = .ok (.iconst 5, 1) := dk_8 (dk_at dksX5_line_3 19 rfl rfl)
theorem dX5_line_91 : decode cX5_line 91 = .ok (.if_icmp .ne 10, 3) := dk_160 0 10 (dk_at dksX5_line_3 20 rfl rfl)
theorem dX5_line_94 : decode cX5_line 94 = .ok (.aload_n 0, 1) := dk_42 (dk_at dksX5_line_3 23 rfl rfl)
theorem dX5_line_95 : decode cX5_line 95 = .ok (.invokevirtual 142, 3) := dk_182 0 142 (dk_at dksX5_line_4 0 rfl rfl)
theorem dX5_line_98 : decode cX5_line 98 = .ok (.goto 7, 3) := dk_167 0 7 (dk_at dksX5_line_4 3 rfl rfl)
theorem dX5_line_101 : decode cX5_line 101 = .ok (.aload_n 0, 1) := dk_42 (dk_at dksX5_line_4 6 rfl rfl)
theorem dX5_line_102 : decode cX5_line 102 = .ok (.invokevirtual 145, 3) := dk_182 0 145 (dk_at dksX5_line_4 7 rfl rfl)
theorem dX5_line_105 : decode cX5_line 105 = .ok (.aload_n 0, 1) := dk_42 (dk_at dksX5_line_4 10 rfl rfl)
theorem dX5_line_106 : decode cX5_line 106 = .ok (.aload_n 0, 1) := dk_42 (dk_at dksX5_line_4 11 rfl rfl)
theorem dX5_line_107 : decode cX5_line 107 = .ok (.getfield 41, 3) := dk_180 0 41 (dk_at dksX5_line_4 12 rfl rfl)
theorem dX5_line_110 : decode cX5_line 110 = .ok (.iconst 3, 1) := dk_6 (dk_at dksX5_line_4 15 rfl rfl)
theorem dX5_line_111 : decode cX5_line 111 = .ok (.if_icmp .ne 7, 3) := dk_160 0 7 (dk_at dksX5_line_4 16 rfl rfl)
theorem dX5_line_114 : decode cX5_line 114 = .ok (.iconst 1, 1) := dk_4 (dk_at dksX5_line_4 19 rfl rfl)
theorem dX5_line_115 : decode cX5_line 115 = .ok (.goto 4, 3) := dk_167 0 4 (dk_at dksX5_line_4 20 rfl rfl)
theorem dX5_line_118 : decode cX5_line 118 = .ok (.iconst 0, 1) := dk_3 (dk_at dksX5_line_4 23 rfl rfl)
theorem dX5_line_119 : decode cX5_line 119 = .ok (.iconst 2, 1) := dk_5 (dk_at dksX5_line_5 0 rfl rfl)
theorem dX5_line_120 : decode cX5_line 120 = .ok (.invokevirtual 76, 3) := dk_182 0 76 (dk_at dksX5_line_5 1 rfl rfl)
theorem dX5_line_123 : decode cX5_line 123 = .ok (.aload_n 0, 1) := dk_42 (dk_at dksX5_line_5 4 rfl rfl)
theorem dX5_line_124 : decode cX5_line 124 = .ok (.dup, 1) := dk_89 (dk_at dksX5_line_5 5 rfl rfl)
theorem dX5_line_125 : decode cX5_line 125 = .ok (.getfield 148, 3) := dk_180 0 148 (dk_at dksX5_line_5 6 rfl rfl)
theorem dX5_line_128 : decode cX5_line 128 = .ok (.iconst 1, 1) := dk_4 (dk_at dksX5_line_5 9 rfl rfl)
theorem dX5_line_129 : decode cX5_line 129 = .ok (.iadd, 1) := dk_96 (dk_at dksX5_line_5 10 rfl rfl)
theorem dX5_line_130 : decode cX5_line 130 = .ok (.putfield 148, 3) := dk_181 0 148 (dk_at dksX5_line_5 11 rfl rfl)
theorem dX5_line_133 : decode cX5_line 133 = .ok (.aload_n 0, 1) := dk_42 (dk_at dksX5_line_5 14 rfl rfl)
theorem dX5_line_134 : decode cX5_line 134 = .ok (.invokevirtual 30, 3) := dk_182 0 30 (dk_at dksX5_line_5 15 rfl rfl)
theorem dX5_line_137 : decode cX5_line 137 = .ok (.return_, 1) := dk_177 (dk_at dksX5_line_5 18 rfl rfl)
abbrev cX5_isWord : ByteArray := prog_8_method_4_code
def yX5_isWord : MethodName := ⟨RX5, "isWord", "(Ljava/lang/String;)Z"⟩
def dkwX5_isWord_3 : List UInt8 := [132, 3, 1, 167, 255, 217, 28, 172]
abbrev dktX5_isWord_3 : List UInt8 := dkwX5_isWord_3 ++ []
def dkwX5_isWord_2 : List UInt8 := [182, 0, 53, 42, 42, 180, 0, 35, 29, 96, 182, 0, 57, 160, 0, 7, 4, 167, 0, 4, 3, 61]
abbrev dktX5_isWord_2 : List UInt8 := dkwX5_isWord_2 ++ dktX5_isWord_3
def dkwX5_isWord_1 : List UInt8 := [4, 167, 0, 4, 3, 61, 3, 62, 29, 43, 182, 0, 44, 162, 0, 37, 28, 153, 0, 33, 43, 29]
abbrev dktX5_isWord_1 : List UInt8 := dkwX5_isWord_1 ++ dktX5_isWord_2
def dkwX5_isWord_0 : List UInt8 := [42, 180, 0, 41, 4, 160, 0, 23, 43, 182, 0, 44, 42, 180, 0, 50, 42, 180, 0, 35, 100, 160, 0, 7]
abbrev dktX5_isWord_0 : List UInt8 := dkwX5_isWord_0 ++ dktX5_isWord_1
theorem dksX5_isWord_0 : cX5_isWord.data.toList.drop 0 = dktX5_isWord_0 := by decide +kernel
theorem dksX5_isWord_1 : cX5_isWord.data.toList.drop 24 = dktX5_isWord_1 := dk_seg dksX5_isWord_0 24 rfl rfl
theorem dksX5_isWord_2 : cX5_isWord.data.toList.drop 46 = dktX5_isWord_2 := dk_seg dksX5_isWord_1 22 rfl rfl
theorem dksX5_isWord_3 : cX5_isWord.data.toList.drop 68 = dktX5_isWord_3 := dk_seg dksX5_isWord_2 22 rfl rfl
theorem dX5_isWord_0 : decode cX5_isWord 0 = .ok (.aload_n 0, 1) := dk_42 (dk_at dksX5_isWord_0 0 rfl rfl)
theorem dX5_isWord_1 : decode cX5_isWord 1 = .ok (.getfield 41, 3) := dk_180 0 41 (dk_at dksX5_isWord_0 1 rfl rfl)
theorem dX5_isWord_4 : decode cX5_isWord 4 = .ok (.iconst 1, 1) := dk_4 (dk_at dksX5_isWord_0 4 rfl rfl)
theorem dX5_isWord_5 : decode cX5_isWord 5 = .ok (.if_icmp .ne 23, 3) := dk_160 0 23 (dk_at dksX5_isWord_0 5 rfl rfl)
theorem dX5_isWord_8 : decode cX5_isWord 8 = .ok (.aload_n 1, 1) := dk_43 (dk_at dksX5_isWord_0 8 rfl rfl)
theorem dX5_isWord_9 : decode cX5_isWord 9 = .ok (.invokevirtual 44, 3) := dk_182 0 44 (dk_at dksX5_isWord_0 9 rfl rfl)
theorem dX5_isWord_12 : decode cX5_isWord 12 = .ok (.aload_n 0, 1) := dk_42 (dk_at dksX5_isWord_0 12 rfl rfl)
theorem dX5_isWord_13 : decode cX5_isWord 13 = .ok (.getfield 50, 3) := dk_180 0 50 (dk_at dksX5_isWord_0 13 rfl rfl)
theorem dX5_isWord_16 : decode cX5_isWord 16 = .ok (.aload_n 0, 1) := dk_42 (dk_at dksX5_isWord_0 16 rfl rfl)
theorem dX5_isWord_17 : decode cX5_isWord 17 = .ok (.getfield 35, 3) := dk_180 0 35 (dk_at dksX5_isWord_0 17 rfl rfl)
theorem dX5_isWord_20 : decode cX5_isWord 20 = .ok (.isub, 1) := dk_100 (dk_at dksX5_isWord_0 20 rfl rfl)
theorem dX5_isWord_21 : decode cX5_isWord 21 = .ok (.if_icmp .ne 7, 3) := dk_160 0 7 (dk_at dksX5_isWord_0 21 rfl rfl)
theorem dX5_isWord_24 : decode cX5_isWord 24 = .ok (.iconst 1, 1) := dk_4 (dk_at dksX5_isWord_1 0 rfl rfl)
theorem dX5_isWord_25 : decode cX5_isWord 25 = .ok (.goto 4, 3) := dk_167 0 4 (dk_at dksX5_isWord_1 1 rfl rfl)
theorem dX5_isWord_28 : decode cX5_isWord 28 = .ok (.iconst 0, 1) := dk_3 (dk_at dksX5_isWord_1 4 rfl rfl)
theorem dX5_isWord_29 : decode cX5_isWord 29 = .ok (.istore_n 2, 1) := dk_61 (dk_at dksX5_isWord_1 5 rfl rfl)
theorem dX5_isWord_30 : decode cX5_isWord 30 = .ok (.iconst 0, 1) := dk_3 (dk_at dksX5_isWord_1 6 rfl rfl)
theorem dX5_isWord_31 : decode cX5_isWord 31 = .ok (.istore_n 3, 1) := dk_62 (dk_at dksX5_isWord_1 7 rfl rfl)
theorem dX5_isWord_32 : decode cX5_isWord 32 = .ok (.iload_n 3, 1) := dk_29 (dk_at dksX5_isWord_1 8 rfl rfl)
theorem dX5_isWord_33 : decode cX5_isWord 33 = .ok (.aload_n 1, 1) := dk_43 (dk_at dksX5_isWord_1 9 rfl rfl)
theorem dX5_isWord_34 : decode cX5_isWord 34 = .ok (.invokevirtual 44, 3) := dk_182 0 44 (dk_at dksX5_isWord_1 10 rfl rfl)
theorem dX5_isWord_37 : decode cX5_isWord 37 = .ok (.if_icmp .ge 37, 3) := dk_162 0 37 (dk_at dksX5_isWord_1 13 rfl rfl)
theorem dX5_isWord_40 : decode cX5_isWord 40 = .ok (.iload_n 2, 1) := dk_28 (dk_at dksX5_isWord_1 16 rfl rfl)
theorem dX5_isWord_41 : decode cX5_isWord 41 = .ok (.ifCond .eq 33, 3) := dk_153 0 33 (dk_at dksX5_isWord_1 17 rfl rfl)
theorem dX5_isWord_44 : decode cX5_isWord 44 = .ok (.aload_n 1, 1) := dk_43 (dk_at dksX5_isWord_1 20 rfl rfl)
theorem dX5_isWord_45 : decode cX5_isWord 45 = .ok (.iload_n 3, 1) := dk_29 (dk_at dksX5_isWord_1 21 rfl rfl)
theorem dX5_isWord_46 : decode cX5_isWord 46 = .ok (.invokevirtual 53, 3) := dk_182 0 53 (dk_at dksX5_isWord_2 0 rfl rfl)
theorem dX5_isWord_49 : decode cX5_isWord 49 = .ok (.aload_n 0, 1) := dk_42 (dk_at dksX5_isWord_2 3 rfl rfl)
theorem dX5_isWord_50 : decode cX5_isWord 50 = .ok (.aload_n 0, 1) := dk_42 (dk_at dksX5_isWord_2 4 rfl rfl)
theorem dX5_isWord_51 : decode cX5_isWord 51 = .ok (.getfield 35, 3) := dk_180 0 35 (dk_at dksX5_isWord_2 5 rfl rfl)
theorem dX5_isWord_54 : decode cX5_isWord 54 = .ok (.iload_n 3, 1) := dk_29 (dk_at dksX5_isWord_2 8 rfl rfl)
theorem dX5_isWord_55 : decode cX5_isWord 55 = .ok (.iadd, 1) := dk_96 (dk_at dksX5_isWord_2 9 rfl rfl)
theorem dX5_isWord_56 : decode cX5_isWord 56 = .ok (.invokevirtual 57, 3) := dk_182 0 57 (dk_at dksX5_isWord_2 10 rfl rfl)
theorem dX5_isWord_59 : decode cX5_isWord 59 = .ok (.if_icmp .ne 7, 3) := dk_160 0 7 (dk_at dksX5_isWord_2 13 rfl rfl)
theorem dX5_isWord_62 : decode cX5_isWord 62 = .ok (.iconst 1, 1) := dk_4 (dk_at dksX5_isWord_2 16 rfl rfl)
theorem dX5_isWord_63 : decode cX5_isWord 63 = .ok (.goto 4, 3) := dk_167 0 4 (dk_at dksX5_isWord_2 17 rfl rfl)
theorem dX5_isWord_66 : decode cX5_isWord 66 = .ok (.iconst 0, 1) := dk_3 (dk_at dksX5_isWord_2 20 rfl rfl)
theorem dX5_isWord_67 : decode cX5_isWord 67 = .ok (.istore_n 2, 1) := dk_61 (dk_at dksX5_isWord_2 21 rfl rfl)
theorem dX5_isWord_68 : decode cX5_isWord 68 = .ok (.iinc 3 1, 3) := dk_132 3 1 (dk_at dksX5_isWord_3 0 rfl rfl)
theorem dX5_isWord_71 : decode cX5_isWord 71 = .ok (.goto (-39), 3) := dk_167 255 217 (dk_at dksX5_isWord_3 3 rfl rfl)
theorem dX5_isWord_74 : decode cX5_isWord 74 = .ok (.iload_n 2, 1) := dk_28 (dk_at dksX5_isWord_3 6 rfl rfl)
theorem dX5_isWord_75 : decode cX5_isWord 75 = .ok (.ireturn, 1) := dk_172 (dk_at dksX5_isWord_3 7 rfl rfl)
abbrev cX5_isleOf : ByteArray := prog_8_method_8_code
def yX5_isleOf : MethodName := ⟨RX5, "isleOf", "(I)V"⟩
def dkwX5_isleOf_5 : List UInt8 := [180, 0, 88, 4, 96, 181, 0, 88, 42, 182, 0, 30, 177]
abbrev dktX5_isleOf_5 : List UInt8 := dkwX5_isleOf_5 ++ []
def dkwX5_isleOf_4 : List UInt8 := [180, 0, 94, 42, 180, 0, 12, 180, 0, 88, 50, 4, 42, 180, 0, 61, 79, 42, 180, 0, 12, 89]
abbrev dktX5_isleOf_4 : List UInt8 := dkwX5_isleOf_4 ++ dktX5_isleOf_5
def dkwX5_isleOf_3 : List UInt8 := [42, 180, 0, 12, 180, 0, 94, 42, 180, 0, 12, 180, 0, 88, 50, 3, 27, 79, 42, 180, 0, 12]
abbrev dktX5_isleOf_3 : List UInt8 := dkwX5_isleOf_3 ++ dktX5_isleOf_4
def dkwX5_isleOf_2 : List UInt8 := [180, 0, 12, 42, 180, 0, 61, 182, 0, 91, 16, 252, 160, 0, 7, 4, 167, 0, 4, 3, 7, 182, 0, 76]
abbrev dktX5_isleOf_2 : List UInt8 := dkwX5_isleOf_2 ++ dktX5_isleOf_3
def dkwX5_isleOf_1 : List UInt8 := [182, 0, 30, 42, 42, 180, 0, 41, 5, 160, 0, 7, 4, 167, 0, 4, 3, 5, 182, 0, 76, 42, 42]
abbrev dktX5_isleOf_1 : List UInt8 := dkwX5_isleOf_1 ++ dktX5_isleOf_2
def dkwX5_isleOf_0 : List UInt8 := [42, 42, 180, 0, 12, 180, 0, 88, 8, 162, 0, 7, 4, 167, 0, 4, 3, 8, 182, 0, 76, 42]
abbrev dktX5_isleOf_0 : List UInt8 := dkwX5_isleOf_0 ++ dktX5_isleOf_1
theorem dksX5_isleOf_0 : cX5_isleOf.data.toList.drop 0 = dktX5_isleOf_0 := by decide +kernel
theorem dksX5_isleOf_1 : cX5_isleOf.data.toList.drop 22 = dktX5_isleOf_1 := dk_seg dksX5_isleOf_0 22 rfl rfl
theorem dksX5_isleOf_2 : cX5_isleOf.data.toList.drop 45 = dktX5_isleOf_2 := dk_seg dksX5_isleOf_1 23 rfl rfl
theorem dksX5_isleOf_3 : cX5_isleOf.data.toList.drop 69 = dktX5_isleOf_3 := dk_seg dksX5_isleOf_2 24 rfl rfl
theorem dksX5_isleOf_4 : cX5_isleOf.data.toList.drop 91 = dktX5_isleOf_4 := dk_seg dksX5_isleOf_3 22 rfl rfl
theorem dksX5_isleOf_5 : cX5_isleOf.data.toList.drop 113 = dktX5_isleOf_5 := dk_seg dksX5_isleOf_4 22 rfl rfl
theorem dX5_isleOf_0 : decode cX5_isleOf 0 = .ok (.aload_n 0, 1) := dk_42 (dk_at dksX5_isleOf_0 0 rfl rfl)
theorem dX5_isleOf_1 : decode cX5_isleOf 1 = .ok (.aload_n 0, 1) := dk_42 (dk_at dksX5_isleOf_0 1 rfl rfl)
theorem dX5_isleOf_2 : decode cX5_isleOf 2 = .ok (.getfield 12, 3) := dk_180 0 12 (dk_at dksX5_isleOf_0 2 rfl rfl)
theorem dX5_isleOf_5 : decode cX5_isleOf 5 = .ok (.getfield 88, 3) := dk_180 0 88 (dk_at dksX5_isleOf_0 5 rfl rfl)
theorem dX5_isleOf_8 : decode cX5_isleOf 8 = .ok (.iconst 5, 1) := dk_8 (dk_at dksX5_isleOf_0 8 rfl rfl)
theorem dX5_isleOf_9 : decode cX5_isleOf 9 = .ok (.if_icmp .ge 7, 3) := dk_162 0 7 (dk_at dksX5_isleOf_0 9 rfl rfl)
theorem dX5_isleOf_12 : decode cX5_isleOf 12 = .ok (.iconst 1, 1) := dk_4 (dk_at dksX5_isleOf_0 12 rfl rfl)
theorem dX5_isleOf_13 : decode cX5_isleOf 13 = .ok (.goto 4, 3) := dk_167 0 4 (dk_at dksX5_isleOf_0 13 rfl rfl)
theorem dX5_isleOf_16 : decode cX5_isleOf 16 = .ok (.iconst 0, 1) := dk_3 (dk_at dksX5_isleOf_0 16 rfl rfl)
theorem dX5_isleOf_17 : decode cX5_isleOf 17 = .ok (.iconst 5, 1) := dk_8 (dk_at dksX5_isleOf_0 17 rfl rfl)
theorem dX5_isleOf_18 : decode cX5_isleOf 18 = .ok (.invokevirtual 76, 3) := dk_182 0 76 (dk_at dksX5_isleOf_0 18 rfl rfl)
theorem dX5_isleOf_21 : decode cX5_isleOf 21 = .ok (.aload_n 0, 1) := dk_42 (dk_at dksX5_isleOf_0 21 rfl rfl)
theorem dX5_isleOf_22 : decode cX5_isleOf 22 = .ok (.invokevirtual 30, 3) := dk_182 0 30 (dk_at dksX5_isleOf_1 0 rfl rfl)
theorem dX5_isleOf_25 : decode cX5_isleOf 25 = .ok (.aload_n 0, 1) := dk_42 (dk_at dksX5_isleOf_1 3 rfl rfl)
theorem dX5_isleOf_26 : decode cX5_isleOf 26 = .ok (.aload_n 0, 1) := dk_42 (dk_at dksX5_isleOf_1 4 rfl rfl)
theorem dX5_isleOf_27 : decode cX5_isleOf 27 = .ok (.getfield 41, 3) := dk_180 0 41 (dk_at dksX5_isleOf_1 5 rfl rfl)
theorem dX5_isleOf_30 : decode cX5_isleOf 30 = .ok (.iconst 2, 1) := dk_5 (dk_at dksX5_isleOf_1 8 rfl rfl)
theorem dX5_isleOf_31 : decode cX5_isleOf 31 = .ok (.if_icmp .ne 7, 3) := dk_160 0 7 (dk_at dksX5_isleOf_1 9 rfl rfl)
theorem dX5_isleOf_34 : decode cX5_isleOf 34 = .ok (.iconst 1, 1) := dk_4 (dk_at dksX5_isleOf_1 12 rfl rfl)
theorem dX5_isleOf_35 : decode cX5_isleOf 35 = .ok (.goto 4, 3) := dk_167 0 4 (dk_at dksX5_isleOf_1 13 rfl rfl)
theorem dX5_isleOf_38 : decode cX5_isleOf 38 = .ok (.iconst 0, 1) := dk_3 (dk_at dksX5_isleOf_1 16 rfl rfl)
theorem dX5_isleOf_39 : decode cX5_isleOf 39 = .ok (.iconst 2, 1) := dk_5 (dk_at dksX5_isleOf_1 17 rfl rfl)
theorem dX5_isleOf_40 : decode cX5_isleOf 40 = .ok (.invokevirtual 76, 3) := dk_182 0 76 (dk_at dksX5_isleOf_1 18 rfl rfl)
theorem dX5_isleOf_43 : decode cX5_isleOf 43 = .ok (.aload_n 0, 1) := dk_42 (dk_at dksX5_isleOf_1 21 rfl rfl)
theorem dX5_isleOf_44 : decode cX5_isleOf 44 = .ok (.aload_n 0, 1) := dk_42 (dk_at dksX5_isleOf_1 22 rfl rfl)
theorem dX5_isleOf_45 : decode cX5_isleOf 45 = .ok (.getfield 12, 3) := dk_180 0 12 (dk_at dksX5_isleOf_2 0 rfl rfl)
theorem dX5_isleOf_48 : decode cX5_isleOf 48 = .ok (.aload_n 0, 1) := dk_42 (dk_at dksX5_isleOf_2 3 rfl rfl)
theorem dX5_isleOf_49 : decode cX5_isleOf 49 = .ok (.getfield 61, 3) := dk_180 0 61 (dk_at dksX5_isleOf_2 4 rfl rfl)
theorem dX5_isleOf_52 : decode cX5_isleOf 52 = .ok (.invokevirtual 91, 3) := dk_182 0 91 (dk_at dksX5_isleOf_2 7 rfl rfl)
theorem dX5_isleOf_55 : decode cX5_isleOf 55 = .ok (.bipush (-4), 2) := dk_16 252 (dk_at dksX5_isleOf_2 10 rfl rfl)
theorem dX5_isleOf_57 : decode cX5_isleOf 57 = .ok (.if_icmp .ne 7, 3) := dk_160 0 7 (dk_at dksX5_isleOf_2 12 rfl rfl)
theorem dX5_isleOf_60 : decode cX5_isleOf 60 = .ok (.iconst 1, 1) := dk_4 (dk_at dksX5_isleOf_2 15 rfl rfl)
theorem dX5_isleOf_61 : decode cX5_isleOf 61 = .ok (.goto 4, 3) := dk_167 0 4 (dk_at dksX5_isleOf_2 16 rfl rfl)
theorem dX5_isleOf_64 : decode cX5_isleOf 64 = .ok (.iconst 0, 1) := dk_3 (dk_at dksX5_isleOf_2 19 rfl rfl)
theorem dX5_isleOf_65 : decode cX5_isleOf 65 = .ok (.iconst 4, 1) := dk_7 (dk_at dksX5_isleOf_2 20 rfl rfl)
theorem dX5_isleOf_66 : decode cX5_isleOf 66 = .ok (.invokevirtual 76, 3) := dk_182 0 76 (dk_at dksX5_isleOf_2 21 rfl rfl)
theorem dX5_isleOf_69 : decode cX5_isleOf 69 = .ok (.aload_n 0, 1) := dk_42 (dk_at dksX5_isleOf_3 0 rfl rfl)
theorem dX5_isleOf_70 : decode cX5_isleOf 70 = .ok (.getfield 12, 3) := dk_180 0 12 (dk_at dksX5_isleOf_3 1 rfl rfl)
theorem dX5_isleOf_73 : decode cX5_isleOf 73 = .ok (.getfield 94, 3) := dk_180 0 94 (dk_at dksX5_isleOf_3 4 rfl rfl)
theorem dX5_isleOf_76 : decode cX5_isleOf 76 = .ok (.aload_n 0, 1) := dk_42 (dk_at dksX5_isleOf_3 7 rfl rfl)
theorem dX5_isleOf_77 : decode cX5_isleOf 77 = .ok (.getfield 12, 3) := dk_180 0 12 (dk_at dksX5_isleOf_3 8 rfl rfl)
theorem dX5_isleOf_80 : decode cX5_isleOf 80 = .ok (.getfield 88, 3) := dk_180 0 88 (dk_at dksX5_isleOf_3 11 rfl rfl)
theorem dX5_isleOf_83 : decode cX5_isleOf 83 = .ok (.aaload, 1) := dk_50 (dk_at dksX5_isleOf_3 14 rfl rfl)
theorem dX5_isleOf_84 : decode cX5_isleOf 84 = .ok (.iconst 0, 1) := dk_3 (dk_at dksX5_isleOf_3 15 rfl rfl)
theorem dX5_isleOf_85 : decode cX5_isleOf 85 = .ok (.iload_n 1, 1) := dk_27 (dk_at dksX5_isleOf_3 16 rfl rfl)
theorem dX5_isleOf_86 : decode cX5_isleOf 86 = .ok (.iastore, 1) := dk_79 (dk_at dksX5_isleOf_3 17 rfl rfl)
theorem dX5_isleOf_87 : decode cX5_isleOf 87 = .ok (.aload_n 0, 1) := dk_42 (dk_at dksX5_isleOf_3 18 rfl rfl)
theorem dX5_isleOf_88 : decode cX5_isleOf 88 = .ok (.getfield 12, 3) := dk_180 0 12 (dk_at dksX5_isleOf_3 19 rfl rfl)
theorem dX5_isleOf_91 : decode cX5_isleOf 91 = .ok (.getfield 94, 3) := dk_180 0 94 (dk_at dksX5_isleOf_4 0 rfl rfl)
theorem dX5_isleOf_94 : decode cX5_isleOf 94 = .ok (.aload_n 0, 1) := dk_42 (dk_at dksX5_isleOf_4 3 rfl rfl)
theorem dX5_isleOf_95 : decode cX5_isleOf 95 = .ok (.getfield 12, 3) := dk_180 0 12 (dk_at dksX5_isleOf_4 4 rfl rfl)
theorem dX5_isleOf_98 : decode cX5_isleOf 98 = .ok (.getfield 88, 3) := dk_180 0 88 (dk_at dksX5_isleOf_4 7 rfl rfl)
theorem dX5_isleOf_101 : decode cX5_isleOf 101 = .ok (.aaload, 1) := dk_50 (dk_at dksX5_isleOf_4 10 rfl rfl)
theorem dX5_isleOf_102 : decode cX5_isleOf 102 = .ok (.iconst 1, 1) := dk_4 (dk_at dksX5_isleOf_4 11 rfl rfl)
theorem dX5_isleOf_103 : decode cX5_isleOf 103 = .ok (.aload_n 0, 1) := dk_42 (dk_at dksX5_isleOf_4 12 rfl rfl)
theorem dX5_isleOf_104 : decode cX5_isleOf 104 = .ok (.getfield 61, 3) := dk_180 0 61 (dk_at dksX5_isleOf_4 13 rfl rfl)
theorem dX5_isleOf_107 : decode cX5_isleOf 107 = .ok (.iastore, 1) := dk_79 (dk_at dksX5_isleOf_4 16 rfl rfl)
theorem dX5_isleOf_108 : decode cX5_isleOf 108 = .ok (.aload_n 0, 1) := dk_42 (dk_at dksX5_isleOf_4 17 rfl rfl)
theorem dX5_isleOf_109 : decode cX5_isleOf 109 = .ok (.getfield 12, 3) := dk_180 0 12 (dk_at dksX5_isleOf_4 18 rfl rfl)
theorem dX5_isleOf_112 : decode cX5_isleOf 112 = .ok (.dup, 1) := dk_89 (dk_at dksX5_isleOf_4 21 rfl rfl)
theorem dX5_isleOf_113 : decode cX5_isleOf 113 = .ok (.getfield 88, 3) := dk_180 0 88 (dk_at dksX5_isleOf_5 0 rfl rfl)
theorem dX5_isleOf_116 : decode cX5_isleOf 116 = .ok (.iconst 1, 1) := dk_4 (dk_at dksX5_isleOf_5 3 rfl rfl)
theorem dX5_isleOf_117 : decode cX5_isleOf 117 = .ok (.iadd, 1) := dk_96 (dk_at dksX5_isleOf_5 4 rfl rfl)
theorem dX5_isleOf_118 : decode cX5_isleOf 118 = .ok (.putfield 88, 3) := dk_181 0 88 (dk_at dksX5_isleOf_5 5 rfl rfl)
theorem dX5_isleOf_121 : decode cX5_isleOf 121 = .ok (.aload_n 0, 1) := dk_42 (dk_at dksX5_isleOf_5 8 rfl rfl)
theorem dX5_isleOf_122 : decode cX5_isleOf 122 = .ok (.invokevirtual 30, 3) := dk_182 0 30 (dk_at dksX5_isleOf_5 9 rfl rfl)
theorem dX5_isleOf_125 : decode cX5_isleOf 125 = .ok (.return_, 1) := dk_177 (dk_at dksX5_isleOf_5 12 rfl rfl)
abbrev cX5_crossOf : ByteArray := prog_8_method_10_code
def yX5_crossOf : MethodName := ⟨RX5, "crossOf", "()V"⟩
def dkwX5_crossOf_2 : List UInt8 := [6, 182, 0, 110, 79, 177]
abbrev dktX5_crossOf_2 : List UInt8 := dkwX5_crossOf_2 ++ []
def dkwX5_crossOf_1 : List UInt8 := [42, 180, 0, 18, 27, 92, 46, 4, 28, 120, 128, 79, 42, 180, 0, 12, 180, 0, 107, 27, 50, 28, 42, 3]
abbrev dktX5_crossOf_1 : List UInt8 := dkwX5_crossOf_1 ++ dktX5_crossOf_2
def dkwX5_crossOf_0 : List UInt8 := [42, 182, 0, 30, 42, 16, 252, 3, 182, 0, 104, 60, 42, 27, 42, 180, 0, 18, 27, 46, 182, 0, 104, 61]
abbrev dktX5_crossOf_0 : List UInt8 := dkwX5_crossOf_0 ++ dktX5_crossOf_1
theorem dksX5_crossOf_0 : cX5_crossOf.data.toList.drop 0 = dktX5_crossOf_0 := by decide +kernel
theorem dksX5_crossOf_1 : cX5_crossOf.data.toList.drop 24 = dktX5_crossOf_1 := dk_seg dksX5_crossOf_0 24 rfl rfl
theorem dksX5_crossOf_2 : cX5_crossOf.data.toList.drop 48 = dktX5_crossOf_2 := dk_seg dksX5_crossOf_1 24 rfl rfl
theorem dX5_crossOf_0 : decode cX5_crossOf 0 = .ok (.aload_n 0, 1) := dk_42 (dk_at dksX5_crossOf_0 0 rfl rfl)
theorem dX5_crossOf_1 : decode cX5_crossOf 1 = .ok (.invokevirtual 30, 3) := dk_182 0 30 (dk_at dksX5_crossOf_0 1 rfl rfl)
theorem dX5_crossOf_4 : decode cX5_crossOf 4 = .ok (.aload_n 0, 1) := dk_42 (dk_at dksX5_crossOf_0 4 rfl rfl)
theorem dX5_crossOf_5 : decode cX5_crossOf 5 = .ok (.bipush (-4), 2) := dk_16 252 (dk_at dksX5_crossOf_0 5 rfl rfl)
theorem dX5_crossOf_7 : decode cX5_crossOf 7 = .ok (.iconst 0, 1) := dk_3 (dk_at dksX5_crossOf_0 7 rfl rfl)
theorem dX5_crossOf_8 : decode cX5_crossOf 8 = .ok (.invokevirtual 104, 3) := dk_182 0 104 (dk_at dksX5_crossOf_0 8 rfl rfl)
theorem dX5_crossOf_11 : decode cX5_crossOf 11 = .ok (.istore_n 1, 1) := dk_60 (dk_at dksX5_crossOf_0 11 rfl rfl)
theorem dX5_crossOf_12 : decode cX5_crossOf 12 = .ok (.aload_n 0, 1) := dk_42 (dk_at dksX5_crossOf_0 12 rfl rfl)
theorem dX5_crossOf_13 : decode cX5_crossOf 13 = .ok (.iload_n 1, 1) := dk_27 (dk_at dksX5_crossOf_0 13 rfl rfl)
theorem dX5_crossOf_14 : decode cX5_crossOf 14 = .ok (.aload_n 0, 1) := dk_42 (dk_at dksX5_crossOf_0 14 rfl rfl)
theorem dX5_crossOf_15 : decode cX5_crossOf 15 = .ok (.getfield 18, 3) := dk_180 0 18 (dk_at dksX5_crossOf_0 15 rfl rfl)
theorem dX5_crossOf_18 : decode cX5_crossOf 18 = .ok (.iload_n 1, 1) := dk_27 (dk_at dksX5_crossOf_0 18 rfl rfl)
theorem dX5_crossOf_19 : decode cX5_crossOf 19 = .ok (.iaload, 1) := dk_46 (dk_at dksX5_crossOf_0 19 rfl rfl)
theorem dX5_crossOf_20 : decode cX5_crossOf 20 = .ok (.invokevirtual 104, 3) := dk_182 0 104 (dk_at dksX5_crossOf_0 20 rfl rfl)
theorem dX5_crossOf_23 : decode cX5_crossOf 23 = .ok (.istore_n 2, 1) := dk_61 (dk_at dksX5_crossOf_0 23 rfl rfl)
theorem dX5_crossOf_24 : decode cX5_crossOf 24 = .ok (.aload_n 0, 1) := dk_42 (dk_at dksX5_crossOf_1 0 rfl rfl)
theorem dX5_crossOf_25 : decode cX5_crossOf 25 = .ok (.getfield 18, 3) := dk_180 0 18 (dk_at dksX5_crossOf_1 1 rfl rfl)
theorem dX5_crossOf_28 : decode cX5_crossOf 28 = .ok (.iload_n 1, 1) := dk_27 (dk_at dksX5_crossOf_1 4 rfl rfl)
theorem dX5_crossOf_29 : decode cX5_crossOf 29 = .ok (.dup2, 1) := dk_92 (dk_at dksX5_crossOf_1 5 rfl rfl)
theorem dX5_crossOf_30 : decode cX5_crossOf 30 = .ok (.iaload, 1) := dk_46 (dk_at dksX5_crossOf_1 6 rfl rfl)
theorem dX5_crossOf_31 : decode cX5_crossOf 31 = .ok (.iconst 1, 1) := dk_4 (dk_at dksX5_crossOf_1 7 rfl rfl)
theorem dX5_crossOf_32 : decode cX5_crossOf 32 = .ok (.iload_n 2, 1) := dk_28 (dk_at dksX5_crossOf_1 8 rfl rfl)
theorem dX5_crossOf_33 : decode cX5_crossOf 33 = .ok (.ishl, 1) := dk_120 (dk_at dksX5_crossOf_1 9 rfl rfl)
theorem dX5_crossOf_34 : decode cX5_crossOf 34 = .ok (.ior, 1) := dk_128 (dk_at dksX5_crossOf_1 10 rfl rfl)
theorem dX5_crossOf_35 : decode cX5_crossOf 35 = .ok (.iastore, 1) := dk_79 (dk_at dksX5_crossOf_1 11 rfl rfl)
theorem dX5_crossOf_36 : decode cX5_crossOf 36 = .ok (.aload_n 0, 1) := dk_42 (dk_at dksX5_crossOf_1 12 rfl rfl)
theorem dX5_crossOf_37 : decode cX5_crossOf 37 = .ok (.getfield 12, 3) := dk_180 0 12 (dk_at dksX5_crossOf_1 13 rfl rfl)
theorem dX5_crossOf_40 : decode cX5_crossOf 40 = .ok (.getfield 107, 3) := dk_180 0 107 (dk_at dksX5_crossOf_1 16 rfl rfl)
theorem dX5_crossOf_43 : decode cX5_crossOf 43 = .ok (.iload_n 1, 1) := dk_27 (dk_at dksX5_crossOf_1 19 rfl rfl)
theorem dX5_crossOf_44 : decode cX5_crossOf 44 = .ok (.aaload, 1) := dk_50 (dk_at dksX5_crossOf_1 20 rfl rfl)
theorem dX5_crossOf_45 : decode cX5_crossOf 45 = .ok (.iload_n 2, 1) := dk_28 (dk_at dksX5_crossOf_1 21 rfl rfl)
theorem dX5_crossOf_46 : decode cX5_crossOf 46 = .ok (.aload_n 0, 1) := dk_42 (dk_at dksX5_crossOf_1 22 rfl rfl)
theorem dX5_crossOf_47 : decode cX5_crossOf 47 = .ok (.iconst 0, 1) := dk_3 (dk_at dksX5_crossOf_1 23 rfl rfl)
theorem dX5_crossOf_48 : decode cX5_crossOf 48 = .ok (.iconst 3, 1) := dk_6 (dk_at dksX5_crossOf_2 0 rfl rfl)
theorem dX5_crossOf_49 : decode cX5_crossOf 49 = .ok (.invokevirtual 110, 3) := dk_182 0 110 (dk_at dksX5_crossOf_2 1 rfl rfl)
theorem dX5_crossOf_52 : decode cX5_crossOf 52 = .ok (.iastore, 1) := dk_79 (dk_at dksX5_crossOf_2 4 rfl rfl)
theorem dX5_crossOf_53 : decode cX5_crossOf 53 = .ok (.return_, 1) := dk_177 (dk_at dksX5_crossOf_2 5 rfl rfl)
abbrev cX5_isle : ByteArray := prog_8_method_9_code
def yX5_isle : MethodName := ⟨RX5, "isle", "(II)I"⟩
def dkwX5_isle_2 : List UInt8 := [180, 0, 22, 29, 184, 0, 98, 181, 0, 22, 29, 172]
abbrev dktX5_isle_2 : List UInt8 := dkwX5_isle_2 ++ []
def dkwX5_isle_1 : List UInt8 := [159, 0, 7, 4, 167, 0, 4, 3, 6, 182, 0, 76, 42, 3, 7, 28, 182, 0, 84, 62, 42, 42]
abbrev dktX5_isle_1 : List UInt8 := dkwX5_isle_1 ++ dktX5_isle_2
def dkwX5_isle_0 : List UInt8 := [42, 42, 180, 0, 41, 5, 160, 0, 7, 4, 167, 0, 4, 3, 5, 182, 0, 76, 42, 42, 180, 0, 61, 27]
abbrev dktX5_isle_0 : List UInt8 := dkwX5_isle_0 ++ dktX5_isle_1
theorem dksX5_isle_0 : cX5_isle.data.toList.drop 0 = dktX5_isle_0 := by decide +kernel
theorem dksX5_isle_1 : cX5_isle.data.toList.drop 24 = dktX5_isle_1 := dk_seg dksX5_isle_0 24 rfl rfl
theorem dksX5_isle_2 : cX5_isle.data.toList.drop 46 = dktX5_isle_2 := dk_seg dksX5_isle_1 22 rfl rfl
theorem dX5_isle_0 : decode cX5_isle 0 = .ok (.aload_n 0, 1) := dk_42 (dk_at dksX5_isle_0 0 rfl rfl)
theorem dX5_isle_1 : decode cX5_isle 1 = .ok (.aload_n 0, 1) := dk_42 (dk_at dksX5_isle_0 1 rfl rfl)
theorem dX5_isle_2 : decode cX5_isle 2 = .ok (.getfield 41, 3) := dk_180 0 41 (dk_at dksX5_isle_0 2 rfl rfl)
theorem dX5_isle_5 : decode cX5_isle 5 = .ok (.iconst 2, 1) := dk_5 (dk_at dksX5_isle_0 5 rfl rfl)
theorem dX5_isle_6 : decode cX5_isle 6 = .ok (.if_icmp .ne 7, 3) := dk_160 0 7 (dk_at dksX5_isle_0 6 rfl rfl)
theorem dX5_isle_9 : decode cX5_isle 9 = .ok (.iconst 1, 1) := dk_4 (dk_at dksX5_isle_0 9 rfl rfl)
theorem dX5_isle_10 : decode cX5_isle 10 = .ok (.goto 4, 3) := dk_167 0 4 (dk_at dksX5_isle_0 10 rfl rfl)
theorem dX5_isle_13 : decode cX5_isle 13 = .ok (.iconst 0, 1) := dk_3 (dk_at dksX5_isle_0 13 rfl rfl)
theorem dX5_isle_14 : decode cX5_isle 14 = .ok (.iconst 2, 1) := dk_5 (dk_at dksX5_isle_0 14 rfl rfl)
theorem dX5_isle_15 : decode cX5_isle 15 = .ok (.invokevirtual 76, 3) := dk_182 0 76 (dk_at dksX5_isle_0 15 rfl rfl)
theorem dX5_isle_18 : decode cX5_isle 18 = .ok (.aload_n 0, 1) := dk_42 (dk_at dksX5_isle_0 18 rfl rfl)
theorem dX5_isle_19 : decode cX5_isle 19 = .ok (.aload_n 0, 1) := dk_42 (dk_at dksX5_isle_0 19 rfl rfl)
theorem dX5_isle_20 : decode cX5_isle 20 = .ok (.getfield 61, 3) := dk_180 0 61 (dk_at dksX5_isle_0 20 rfl rfl)
theorem dX5_isle_23 : decode cX5_isle 23 = .ok (.iload_n 1, 1) := dk_27 (dk_at dksX5_isle_0 23 rfl rfl)
theorem dX5_isle_24 : decode cX5_isle 24 = .ok (.if_icmp .eq 7, 3) := dk_159 0 7 (dk_at dksX5_isle_1 0 rfl rfl)
theorem dX5_isle_27 : decode cX5_isle 27 = .ok (.iconst 1, 1) := dk_4 (dk_at dksX5_isle_1 3 rfl rfl)
theorem dX5_isle_28 : decode cX5_isle 28 = .ok (.goto 4, 3) := dk_167 0 4 (dk_at dksX5_isle_1 4 rfl rfl)
theorem dX5_isle_31 : decode cX5_isle 31 = .ok (.iconst 0, 1) := dk_3 (dk_at dksX5_isle_1 7 rfl rfl)
theorem dX5_isle_32 : decode cX5_isle 32 = .ok (.iconst 3, 1) := dk_6 (dk_at dksX5_isle_1 8 rfl rfl)
theorem dX5_isle_33 : decode cX5_isle 33 = .ok (.invokevirtual 76, 3) := dk_182 0 76 (dk_at dksX5_isle_1 9 rfl rfl)
theorem dX5_isle_36 : decode cX5_isle 36 = .ok (.aload_n 0, 1) := dk_42 (dk_at dksX5_isle_1 12 rfl rfl)
theorem dX5_isle_37 : decode cX5_isle 37 = .ok (.iconst 0, 1) := dk_3 (dk_at dksX5_isle_1 13 rfl rfl)
theorem dX5_isle_38 : decode cX5_isle 38 = .ok (.iconst 4, 1) := dk_7 (dk_at dksX5_isle_1 14 rfl rfl)
theorem dX5_isle_39 : decode cX5_isle 39 = .ok (.iload_n 2, 1) := dk_28 (dk_at dksX5_isle_1 15 rfl rfl)
theorem dX5_isle_40 : decode cX5_isle 40 = .ok (.invokevirtual 84, 3) := dk_182 0 84 (dk_at dksX5_isle_1 16 rfl rfl)
theorem dX5_isle_43 : decode cX5_isle 43 = .ok (.istore_n 3, 1) := dk_62 (dk_at dksX5_isle_1 19 rfl rfl)
theorem dX5_isle_44 : decode cX5_isle 44 = .ok (.aload_n 0, 1) := dk_42 (dk_at dksX5_isle_1 20 rfl rfl)
theorem dX5_isle_45 : decode cX5_isle 45 = .ok (.aload_n 0, 1) := dk_42 (dk_at dksX5_isle_1 21 rfl rfl)
theorem dX5_isle_46 : decode cX5_isle 46 = .ok (.getfield 22, 3) := dk_180 0 22 (dk_at dksX5_isle_2 0 rfl rfl)
theorem dX5_isle_49 : decode cX5_isle 49 = .ok (.iload_n 3, 1) := dk_29 (dk_at dksX5_isle_2 3 rfl rfl)
theorem dX5_isle_50 : decode cX5_isle 50 = .ok (.invokestatic 98, 3) := dk_184 0 98 (dk_at dksX5_isle_2 4 rfl rfl)
theorem dX5_isle_53 : decode cX5_isle 53 = .ok (.putfield 22, 3) := dk_181 0 22 (dk_at dksX5_isle_2 7 rfl rfl)
theorem dX5_isle_56 : decode cX5_isle 56 = .ok (.iload_n 3, 1) := dk_29 (dk_at dksX5_isle_2 10 rfl rfl)
theorem dX5_isle_57 : decode cX5_isle 57 = .ok (.ireturn, 1) := dk_172 (dk_at dksX5_isle_2 11 rfl rfl)
abbrev cX5_other : ByteArray := prog_8_method_6_code
def yX5_other : MethodName := ⟨RX5, "other", "(III)I"⟩
def dkwX5_other_2 : List UInt8 := [167, 0, 4, 3, 7, 182, 0, 76, 42, 180, 0, 61, 54, 4, 42, 182, 0, 30, 21, 4, 172]
abbrev dktX5_other_2 : List UInt8 := dkwX5_other_2 ++ []
def dkwX5_other_1 : List UInt8 := [27, 133, 28, 133, 184, 0, 68, 6, 182, 0, 76, 42, 29, 42, 180, 0, 61, 184, 0, 80, 154, 0, 7, 4]
abbrev dktX5_other_1 : List UInt8 := dkwX5_other_1 ++ dktX5_other_2
def dkwX5_other_0 : List UInt8 := [42, 42, 180, 0, 41, 5, 160, 0, 7, 4, 167, 0, 4, 3, 5, 182, 0, 76, 42, 42, 180, 0, 61, 133]
abbrev dktX5_other_0 : List UInt8 := dkwX5_other_0 ++ dktX5_other_1
theorem dksX5_other_0 : cX5_other.data.toList.drop 0 = dktX5_other_0 := by decide +kernel
theorem dksX5_other_1 : cX5_other.data.toList.drop 24 = dktX5_other_1 := dk_seg dksX5_other_0 24 rfl rfl
theorem dksX5_other_2 : cX5_other.data.toList.drop 48 = dktX5_other_2 := dk_seg dksX5_other_1 24 rfl rfl
theorem dX5_other_0 : decode cX5_other 0 = .ok (.aload_n 0, 1) := dk_42 (dk_at dksX5_other_0 0 rfl rfl)
theorem dX5_other_1 : decode cX5_other 1 = .ok (.aload_n 0, 1) := dk_42 (dk_at dksX5_other_0 1 rfl rfl)
theorem dX5_other_2 : decode cX5_other 2 = .ok (.getfield 41, 3) := dk_180 0 41 (dk_at dksX5_other_0 2 rfl rfl)
theorem dX5_other_5 : decode cX5_other 5 = .ok (.iconst 2, 1) := dk_5 (dk_at dksX5_other_0 5 rfl rfl)
theorem dX5_other_6 : decode cX5_other 6 = .ok (.if_icmp .ne 7, 3) := dk_160 0 7 (dk_at dksX5_other_0 6 rfl rfl)
theorem dX5_other_9 : decode cX5_other 9 = .ok (.iconst 1, 1) := dk_4 (dk_at dksX5_other_0 9 rfl rfl)
theorem dX5_other_10 : decode cX5_other 10 = .ok (.goto 4, 3) := dk_167 0 4 (dk_at dksX5_other_0 10 rfl rfl)
theorem dX5_other_13 : decode cX5_other 13 = .ok (.iconst 0, 1) := dk_3 (dk_at dksX5_other_0 13 rfl rfl)
theorem dX5_other_14 : decode cX5_other 14 = .ok (.iconst 2, 1) := dk_5 (dk_at dksX5_other_0 14 rfl rfl)
theorem dX5_other_15 : decode cX5_other 15 = .ok (.invokevirtual 76, 3) := dk_182 0 76 (dk_at dksX5_other_0 15 rfl rfl)
theorem dX5_other_18 : decode cX5_other 18 = .ok (.aload_n 0, 1) := dk_42 (dk_at dksX5_other_0 18 rfl rfl)
theorem dX5_other_19 : decode cX5_other 19 = .ok (.aload_n 0, 1) := dk_42 (dk_at dksX5_other_0 19 rfl rfl)
theorem dX5_other_20 : decode cX5_other 20 = .ok (.getfield 61, 3) := dk_180 0 61 (dk_at dksX5_other_0 20 rfl rfl)
theorem dX5_other_23 : decode cX5_other 23 = .ok (.i2l, 1) := dk_133 (dk_at dksX5_other_0 23 rfl rfl)
theorem dX5_other_24 : decode cX5_other 24 = .ok (.iload_n 1, 1) := dk_27 (dk_at dksX5_other_1 0 rfl rfl)
theorem dX5_other_25 : decode cX5_other 25 = .ok (.i2l, 1) := dk_133 (dk_at dksX5_other_1 1 rfl rfl)
theorem dX5_other_26 : decode cX5_other 26 = .ok (.iload_n 2, 1) := dk_28 (dk_at dksX5_other_1 2 rfl rfl)
theorem dX5_other_27 : decode cX5_other 27 = .ok (.i2l, 1) := dk_133 (dk_at dksX5_other_1 3 rfl rfl)
theorem dX5_other_28 : decode cX5_other 28 = .ok (.invokestatic 68, 3) := dk_184 0 68 (dk_at dksX5_other_1 4 rfl rfl)
theorem dX5_other_31 : decode cX5_other 31 = .ok (.iconst 3, 1) := dk_6 (dk_at dksX5_other_1 7 rfl rfl)
theorem dX5_other_32 : decode cX5_other 32 = .ok (.invokevirtual 76, 3) := dk_182 0 76 (dk_at dksX5_other_1 8 rfl rfl)
theorem dX5_other_35 : decode cX5_other 35 = .ok (.aload_n 0, 1) := dk_42 (dk_at dksX5_other_1 11 rfl rfl)
theorem dX5_other_36 : decode cX5_other 36 = .ok (.iload_n 3, 1) := dk_29 (dk_at dksX5_other_1 12 rfl rfl)
theorem dX5_other_37 : decode cX5_other 37 = .ok (.aload_n 0, 1) := dk_42 (dk_at dksX5_other_1 13 rfl rfl)
theorem dX5_other_38 : decode cX5_other 38 = .ok (.getfield 61, 3) := dk_180 0 61 (dk_at dksX5_other_1 14 rfl rfl)
theorem dX5_other_41 : decode cX5_other 41 = .ok (.invokestatic 80, 3) := dk_184 0 80 (dk_at dksX5_other_1 17 rfl rfl)
theorem dX5_other_44 : decode cX5_other 44 = .ok (.ifCond .ne 7, 3) := dk_154 0 7 (dk_at dksX5_other_1 20 rfl rfl)
theorem dX5_other_47 : decode cX5_other 47 = .ok (.iconst 1, 1) := dk_4 (dk_at dksX5_other_1 23 rfl rfl)
theorem dX5_other_48 : decode cX5_other 48 = .ok (.goto 4, 3) := dk_167 0 4 (dk_at dksX5_other_2 0 rfl rfl)
theorem dX5_other_51 : decode cX5_other 51 = .ok (.iconst 0, 1) := dk_3 (dk_at dksX5_other_2 3 rfl rfl)
theorem dX5_other_52 : decode cX5_other 52 = .ok (.iconst 4, 1) := dk_7 (dk_at dksX5_other_2 4 rfl rfl)
theorem dX5_other_53 : decode cX5_other 53 = .ok (.invokevirtual 76, 3) := dk_182 0 76 (dk_at dksX5_other_2 5 rfl rfl)
theorem dX5_other_56 : decode cX5_other 56 = .ok (.aload_n 0, 1) := dk_42 (dk_at dksX5_other_2 8 rfl rfl)
theorem dX5_other_57 : decode cX5_other 57 = .ok (.getfield 61, 3) := dk_180 0 61 (dk_at dksX5_other_2 9 rfl rfl)
theorem dX5_other_60 : decode cX5_other 60 = .ok (.istore 4, 2) := dk_54 4 (dk_at dksX5_other_2 12 rfl rfl)
theorem dX5_other_62 : decode cX5_other 62 = .ok (.aload_n 0, 1) := dk_42 (dk_at dksX5_other_2 14 rfl rfl)
theorem dX5_other_63 : decode cX5_other 63 = .ok (.invokevirtual 30, 3) := dk_182 0 30 (dk_at dksX5_other_2 15 rfl rfl)
theorem dX5_other_66 : decode cX5_other 66 = .ok (.iload 4, 2) := dk_21 4 (dk_at dksX5_other_2 18 rfl rfl)
theorem dX5_other_68 : decode cX5_other 68 = .ok (.ireturn, 1) := dk_172 (dk_at dksX5_other_2 20 rfl rfl)
abbrev cX5_number : ByteArray := prog_8_method_7_code
def yX5_number : MethodName := ⟨RX5, "number", "(II)I"⟩
def dkwX5_number_0 : List UInt8 := [42, 27, 28, 3, 182, 0, 84, 172]
abbrev dktX5_number_0 : List UInt8 := dkwX5_number_0 ++ []
theorem dksX5_number_0 : cX5_number.data.toList.drop 0 = dktX5_number_0 := by decide +kernel
theorem dX5_number_0 : decode cX5_number 0 = .ok (.aload_n 0, 1) := dk_42 (dk_at dksX5_number_0 0 rfl rfl)
theorem dX5_number_1 : decode cX5_number 1 = .ok (.iload_n 1, 1) := dk_27 (dk_at dksX5_number_0 1 rfl rfl)
theorem dX5_number_2 : decode cX5_number 2 = .ok (.iload_n 2, 1) := dk_28 (dk_at dksX5_number_0 2 rfl rfl)
theorem dX5_number_3 : decode cX5_number 3 = .ok (.iconst 0, 1) := dk_3 (dk_at dksX5_number_0 3 rfl rfl)
theorem dX5_number_4 : decode cX5_number 4 = .ok (.invokevirtual 84, 3) := dk_182 0 84 (dk_at dksX5_number_0 4 rfl rfl)
theorem dX5_number_7 : decode cX5_number 7 = .ok (.ireturn, 1) := dk_172 (dk_at dksX5_number_0 7 rfl rfl)
abbrev cX5_ropeOf : ByteArray := prog_8_method_11_code
def yX5_ropeOf : MethodName := ⟨RX5, "ropeOf", "()V"⟩
def dkwX5_ropeOf_2 : List UInt8 := [42, 4, 16, 30, 182, 0, 110, 182, 0, 116, 177]
abbrev dktX5_ropeOf_2 : List UInt8 := dkwX5_ropeOf_2 ++ []
def dkwX5_ropeOf_1 : List UInt8 := [182, 0, 30, 42, 16, 252, 3, 182, 0, 104, 60, 42, 27, 3, 182, 0, 104, 61, 42, 180, 0, 12, 27, 28]
abbrev dktX5_ropeOf_1 : List UInt8 := dkwX5_ropeOf_1 ++ dktX5_ropeOf_2
def dkwX5_ropeOf_0 : List UInt8 := [42, 42, 180, 0, 12, 180, 0, 113, 16, 6, 162, 0, 7, 4, 167, 0, 4, 3, 8, 182, 0, 76, 42]
abbrev dktX5_ropeOf_0 : List UInt8 := dkwX5_ropeOf_0 ++ dktX5_ropeOf_1
theorem dksX5_ropeOf_0 : cX5_ropeOf.data.toList.drop 0 = dktX5_ropeOf_0 := by decide +kernel
theorem dksX5_ropeOf_1 : cX5_ropeOf.data.toList.drop 23 = dktX5_ropeOf_1 := dk_seg dksX5_ropeOf_0 23 rfl rfl
theorem dksX5_ropeOf_2 : cX5_ropeOf.data.toList.drop 47 = dktX5_ropeOf_2 := dk_seg dksX5_ropeOf_1 24 rfl rfl
theorem dX5_ropeOf_0 : decode cX5_ropeOf 0 = .ok (.aload_n 0, 1) := dk_42 (dk_at dksX5_ropeOf_0 0 rfl rfl)
theorem dX5_ropeOf_1 : decode cX5_ropeOf 1 = .ok (.aload_n 0, 1) := dk_42 (dk_at dksX5_ropeOf_0 1 rfl rfl)
theorem dX5_ropeOf_2 : decode cX5_ropeOf 2 = .ok (.getfield 12, 3) := dk_180 0 12 (dk_at dksX5_ropeOf_0 2 rfl rfl)
theorem dX5_ropeOf_5 : decode cX5_ropeOf 5 = .ok (.getfield 113, 3) := dk_180 0 113 (dk_at dksX5_ropeOf_0 5 rfl rfl)
theorem dX5_ropeOf_8 : decode cX5_ropeOf 8 = .ok (.bipush 6, 2) := dk_16 6 (dk_at dksX5_ropeOf_0 8 rfl rfl)
theorem dX5_ropeOf_10 : decode cX5_ropeOf 10 = .ok (.if_icmp .ge 7, 3) := dk_162 0 7 (dk_at dksX5_ropeOf_0 10 rfl rfl)
theorem dX5_ropeOf_13 : decode cX5_ropeOf 13 = .ok (.iconst 1, 1) := dk_4 (dk_at dksX5_ropeOf_0 13 rfl rfl)
theorem dX5_ropeOf_14 : decode cX5_ropeOf 14 = .ok (.goto 4, 3) := dk_167 0 4 (dk_at dksX5_ropeOf_0 14 rfl rfl)
theorem dX5_ropeOf_17 : decode cX5_ropeOf 17 = .ok (.iconst 0, 1) := dk_3 (dk_at dksX5_ropeOf_0 17 rfl rfl)
theorem dX5_ropeOf_18 : decode cX5_ropeOf 18 = .ok (.iconst 5, 1) := dk_8 (dk_at dksX5_ropeOf_0 18 rfl rfl)
theorem dX5_ropeOf_19 : decode cX5_ropeOf 19 = .ok (.invokevirtual 76, 3) := dk_182 0 76 (dk_at dksX5_ropeOf_0 19 rfl rfl)
theorem dX5_ropeOf_22 : decode cX5_ropeOf 22 = .ok (.aload_n 0, 1) := dk_42 (dk_at dksX5_ropeOf_0 22 rfl rfl)
theorem dX5_ropeOf_23 : decode cX5_ropeOf 23 = .ok (.invokevirtual 30, 3) := dk_182 0 30 (dk_at dksX5_ropeOf_1 0 rfl rfl)
theorem dX5_ropeOf_26 : decode cX5_ropeOf 26 = .ok (.aload_n 0, 1) := dk_42 (dk_at dksX5_ropeOf_1 3 rfl rfl)
theorem dX5_ropeOf_27 : decode cX5_ropeOf 27 = .ok (.bipush (-4), 2) := dk_16 252 (dk_at dksX5_ropeOf_1 4 rfl rfl)
theorem dX5_ropeOf_29 : decode cX5_ropeOf 29 = .ok (.iconst 0, 1) := dk_3 (dk_at dksX5_ropeOf_1 6 rfl rfl)
theorem dX5_ropeOf_30 : decode cX5_ropeOf 30 = .ok (.invokevirtual 104, 3) := dk_182 0 104 (dk_at dksX5_ropeOf_1 7 rfl rfl)
theorem dX5_ropeOf_33 : decode cX5_ropeOf 33 = .ok (.istore_n 1, 1) := dk_60 (dk_at dksX5_ropeOf_1 10 rfl rfl)
theorem dX5_ropeOf_34 : decode cX5_ropeOf 34 = .ok (.aload_n 0, 1) := dk_42 (dk_at dksX5_ropeOf_1 11 rfl rfl)
theorem dX5_ropeOf_35 : decode cX5_ropeOf 35 = .ok (.iload_n 1, 1) := dk_27 (dk_at dksX5_ropeOf_1 12 rfl rfl)
theorem dX5_ropeOf_36 : decode cX5_ropeOf 36 = .ok (.iconst 0, 1) := dk_3 (dk_at dksX5_ropeOf_1 13 rfl rfl)
theorem dX5_ropeOf_37 : decode cX5_ropeOf 37 = .ok (.invokevirtual 104, 3) := dk_182 0 104 (dk_at dksX5_ropeOf_1 14 rfl rfl)
theorem dX5_ropeOf_40 : decode cX5_ropeOf 40 = .ok (.istore_n 2, 1) := dk_61 (dk_at dksX5_ropeOf_1 17 rfl rfl)
theorem dX5_ropeOf_41 : decode cX5_ropeOf 41 = .ok (.aload_n 0, 1) := dk_42 (dk_at dksX5_ropeOf_1 18 rfl rfl)
theorem dX5_ropeOf_42 : decode cX5_ropeOf 42 = .ok (.getfield 12, 3) := dk_180 0 12 (dk_at dksX5_ropeOf_1 19 rfl rfl)
theorem dX5_ropeOf_45 : decode cX5_ropeOf 45 = .ok (.iload_n 1, 1) := dk_27 (dk_at dksX5_ropeOf_1 22 rfl rfl)
theorem dX5_ropeOf_46 : decode cX5_ropeOf 46 = .ok (.iload_n 2, 1) := dk_28 (dk_at dksX5_ropeOf_1 23 rfl rfl)
theorem dX5_ropeOf_47 : decode cX5_ropeOf 47 = .ok (.aload_n 0, 1) := dk_42 (dk_at dksX5_ropeOf_2 0 rfl rfl)
theorem dX5_ropeOf_48 : decode cX5_ropeOf 48 = .ok (.iconst 1, 1) := dk_4 (dk_at dksX5_ropeOf_2 1 rfl rfl)
theorem dX5_ropeOf_49 : decode cX5_ropeOf 49 = .ok (.bipush 30, 2) := dk_16 30 (dk_at dksX5_ropeOf_2 2 rfl rfl)
theorem dX5_ropeOf_51 : decode cX5_ropeOf 51 = .ok (.invokevirtual 110, 3) := dk_182 0 110 (dk_at dksX5_ropeOf_2 4 rfl rfl)
theorem dX5_ropeOf_54 : decode cX5_ropeOf 54 = .ok (.invokevirtual 116, 3) := dk_182 0 116 (dk_at dksX5_ropeOf_2 7 rfl rfl)
theorem dX5_ropeOf_57 : decode cX5_ropeOf 57 = .ok (.return_, 1) := dk_177 (dk_at dksX5_ropeOf_2 10 rfl rfl)
abbrev cX5_feastOf : ByteArray := prog_8_method_12_code
def yX5_feastOf : MethodName := ⟨RX5, "feastOf", "()V"⟩
def dkwX5_feastOf_1 : List UInt8 := [182, 0, 30, 42, 180, 0, 12, 42, 3, 16, 6, 182, 0, 110, 181, 0, 124, 177]
abbrev dktX5_feastOf_1 : List UInt8 := dkwX5_feastOf_1 ++ []
def dkwX5_feastOf_0 : List UInt8 := [42, 42, 180, 0, 120, 154, 0, 7, 4, 167, 0, 4, 3, 7, 182, 0, 76, 42, 4, 181, 0, 120, 42]
abbrev dktX5_feastOf_0 : List UInt8 := dkwX5_feastOf_0 ++ dktX5_feastOf_1
theorem dksX5_feastOf_0 : cX5_feastOf.data.toList.drop 0 = dktX5_feastOf_0 := by decide +kernel
theorem dksX5_feastOf_1 : cX5_feastOf.data.toList.drop 23 = dktX5_feastOf_1 := dk_seg dksX5_feastOf_0 23 rfl rfl
theorem dX5_feastOf_0 : decode cX5_feastOf 0 = .ok (.aload_n 0, 1) := dk_42 (dk_at dksX5_feastOf_0 0 rfl rfl)
theorem dX5_feastOf_1 : decode cX5_feastOf 1 = .ok (.aload_n 0, 1) := dk_42 (dk_at dksX5_feastOf_0 1 rfl rfl)
theorem dX5_feastOf_2 : decode cX5_feastOf 2 = .ok (.getfield 120, 3) := dk_180 0 120 (dk_at dksX5_feastOf_0 2 rfl rfl)
theorem dX5_feastOf_5 : decode cX5_feastOf 5 = .ok (.ifCond .ne 7, 3) := dk_154 0 7 (dk_at dksX5_feastOf_0 5 rfl rfl)
theorem dX5_feastOf_8 : decode cX5_feastOf 8 = .ok (.iconst 1, 1) := dk_4 (dk_at dksX5_feastOf_0 8 rfl rfl)
theorem dX5_feastOf_9 : decode cX5_feastOf 9 = .ok (.goto 4, 3) := dk_167 0 4 (dk_at dksX5_feastOf_0 9 rfl rfl)
theorem dX5_feastOf_12 : decode cX5_feastOf 12 = .ok (.iconst 0, 1) := dk_3 (dk_at dksX5_feastOf_0 12 rfl rfl)
theorem dX5_feastOf_13 : decode cX5_feastOf 13 = .ok (.iconst 4, 1) := dk_7 (dk_at dksX5_feastOf_0 13 rfl rfl)
theorem dX5_feastOf_14 : decode cX5_feastOf 14 = .ok (.invokevirtual 76, 3) := dk_182 0 76 (dk_at dksX5_feastOf_0 14 rfl rfl)
theorem dX5_feastOf_17 : decode cX5_feastOf 17 = .ok (.aload_n 0, 1) := dk_42 (dk_at dksX5_feastOf_0 17 rfl rfl)
theorem dX5_feastOf_18 : decode cX5_feastOf 18 = .ok (.iconst 1, 1) := dk_4 (dk_at dksX5_feastOf_0 18 rfl rfl)
theorem dX5_feastOf_19 : decode cX5_feastOf 19 = .ok (.putfield 120, 3) := dk_181 0 120 (dk_at dksX5_feastOf_0 19 rfl rfl)
theorem dX5_feastOf_22 : decode cX5_feastOf 22 = .ok (.aload_n 0, 1) := dk_42 (dk_at dksX5_feastOf_0 22 rfl rfl)
theorem dX5_feastOf_23 : decode cX5_feastOf 23 = .ok (.invokevirtual 30, 3) := dk_182 0 30 (dk_at dksX5_feastOf_1 0 rfl rfl)
theorem dX5_feastOf_26 : decode cX5_feastOf 26 = .ok (.aload_n 0, 1) := dk_42 (dk_at dksX5_feastOf_1 3 rfl rfl)
theorem dX5_feastOf_27 : decode cX5_feastOf 27 = .ok (.getfield 12, 3) := dk_180 0 12 (dk_at dksX5_feastOf_1 4 rfl rfl)
theorem dX5_feastOf_30 : decode cX5_feastOf 30 = .ok (.aload_n 0, 1) := dk_42 (dk_at dksX5_feastOf_1 7 rfl rfl)
theorem dX5_feastOf_31 : decode cX5_feastOf 31 = .ok (.iconst 0, 1) := dk_3 (dk_at dksX5_feastOf_1 8 rfl rfl)
theorem dX5_feastOf_32 : decode cX5_feastOf 32 = .ok (.bipush 6, 2) := dk_16 6 (dk_at dksX5_feastOf_1 9 rfl rfl)
theorem dX5_feastOf_34 : decode cX5_feastOf 34 = .ok (.invokevirtual 110, 3) := dk_182 0 110 (dk_at dksX5_feastOf_1 11 rfl rfl)
theorem dX5_feastOf_37 : decode cX5_feastOf 37 = .ok (.putfield 124, 3) := dk_181 0 124 (dk_at dksX5_feastOf_1 14 rfl rfl)
theorem dX5_feastOf_40 : decode cX5_feastOf 40 = .ok (.return_, 1) := dk_177 (dk_at dksX5_feastOf_1 17 rfl rfl)
theorem q85 : (Jvm.Cond.initialized "TemperIsles$Reader") ∈ lw_all := lw_g (lw_at lw_m1 7 rfl) rfl
theorem q122 : (Jvm.Cond.instantiable "TemperIsles$Reader" (10 : Nat)) ∈ lw_all := lw_g (lw_at lw_m1 44 rfl) rfl
theorem q124 : (Jvm.Cond.instanceMethod ({ cls := "TemperIsles$Reader", name := "<init>", desc := "([B)V" } : Jvm.MethodName)) ∈ lw_all := lw_g (lw_at lw_m1 46 rfl) rfl
theorem q125 : (Jvm.Cond.code ({ cls := "TemperIsles$Reader", name := "<init>", desc := "([B)V" } : Jvm.MethodName) prog_8_method_1_code (2 : Nat) (Option.none : Option Jvm.ClassFile.FieldType)) ∈ lw_all := lw_g (lw_at lw_m1 47 rfl) rfl
theorem q126 : (Jvm.Cond.methodLink "TemperIsles$Reader" (3 : Nat) ({ cls := "java/lang/Object", name := "<init>", desc := "()V" } : Jvm.MethodName)) ∈ lw_all := lw_g (lw_at lw_m1 48 rfl) rfl
theorem q129 : (Jvm.Cond.classLink "TemperIsles$Reader" (9 : Nat) "TemperIsles$Firth") ∈ lw_all := lw_g (lw_at lw_m1 51 rfl) rfl
theorem q131 : (Jvm.Cond.methodLinkNest "TemperIsles$Reader" (11 : Nat) ({ cls := "TemperIsles$Firth", name := "<init>", desc := "()V" } : Jvm.MethodName) "TemperIsles") ∈ lw_tbl := lw_at lw_m1 53 rfl
theorem q138 : (Jvm.Cond.fieldLinkNest "TemperIsles$Reader" (94 : Nat) "TemperIsles$Firth" "isles" "[[I" "TemperIsles") ∈ lw_tbl := lw_at lw_m1 60 rfl
theorem q141 : (Jvm.Cond.fieldLinkNest "TemperIsles$Reader" (107 : Nat) "TemperIsles$Firth" "crosses" "[[I" "TemperIsles") ∈ lw_tbl := lw_at lw_m1 63 rfl
theorem q146 : (Jvm.Cond.fieldLinkNest "TemperIsles$Reader" (88 : Nat) "TemperIsles$Firth" "isleMany" "I" "TemperIsles") ∈ lw_tbl := lw_at lw_m1 68 rfl
theorem q150 : (Jvm.Cond.fieldLinkNest "TemperIsles$Reader" (113 : Nat) "TemperIsles$Firth" "ropeMany" "I" "TemperIsles") ∈ lw_tbl := lw_at lw_m1 72 rfl
theorem q152 : (Jvm.Cond.fieldLinkNest "TemperIsles$Reader" (124 : Nat) "TemperIsles$Firth" "feast" "I" "TemperIsles") ∈ lw_tbl := lw_at lw_m1 74 rfl
theorem q177 : (Jvm.Cond.methodLink "TemperIsles$Reader" (30 : Nat) ({ cls := "TemperIsles$Reader", name := "next", desc := "()V" } : Jvm.MethodName)) ∈ lw_all := lw_g (lw_at lw_m1 99 rfl) rfl
theorem q178 : (Jvm.Cond.privateMethod ({ cls := "TemperIsles$Reader", name := "next", desc := "()V" } : Jvm.MethodName)) ∈ lw_tbl := lw_at lw_m1 100 rfl
theorem q179 : (Jvm.Cond.instanceMethod ({ cls := "TemperIsles$Reader", name := "next", desc := "()V" } : Jvm.MethodName)) ∈ lw_all := lw_g (lw_at lw_m1 101 rfl) rfl
theorem q180 : (Jvm.Cond.code ({ cls := "TemperIsles$Reader", name := "next", desc := "()V" } : Jvm.MethodName) prog_8_method_5_code (2 : Nat) (Option.none : Option Jvm.ClassFile.FieldType)) ∈ lw_all := lw_g (lw_at lw_m1 102 rfl) rfl
theorem q181 : (Jvm.Cond.methodLink "TemperIsles$Reader" (57 : Nat) ({ cls := "TemperIsles$Reader", name := "at", desc := "(I)I" } : Jvm.MethodName)) ∈ lw_all := lw_g (lw_at lw_m1 103 rfl) rfl
theorem q182 : (Jvm.Cond.privateMethod ({ cls := "TemperIsles$Reader", name := "at", desc := "(I)I" } : Jvm.MethodName)) ∈ lw_tbl := lw_at lw_m1 104 rfl
theorem q183 : (Jvm.Cond.instanceMethod ({ cls := "TemperIsles$Reader", name := "at", desc := "(I)I" } : Jvm.MethodName)) ∈ lw_all := lw_g (lw_at lw_m1 105 rfl) rfl
theorem q184 : (Jvm.Cond.code ({ cls := "TemperIsles$Reader", name := "at", desc := "(I)I" } : Jvm.MethodName) prog_8_method_2_code (2 : Nat) (Option.some Jvm.ClassFile.FieldType.int)) ∈ lw_all := lw_g (lw_at lw_m1 106 rfl) rfl
theorem q185 : (Jvm.Cond.constantLong "TemperIsles$Reader" (64 : Nat) (97 : Int64)) ∈ lw_all := lw_g (lw_at lw_m1 107 rfl) rfl
theorem q186 : (Jvm.Cond.constantLong "TemperIsles$Reader" (66 : Nat) (122 : Int64)) ∈ lw_all := lw_g (lw_at lw_m1 108 rfl) rfl
theorem q187 : (Jvm.Cond.methodLinkNest "TemperIsles$Reader" (68 : Nat) ({ cls := "TemperIsles", name := "isIn", desc := "(JJJ)Z" } : Jvm.MethodName) "TemperIsles") ∈ lw_tbl := lw_at lw_m1 109 rfl
theorem q188 : (Jvm.Cond.constantLong "TemperIsles$Reader" (72 : Nat) (48 : Int64)) ∈ lw_all := lw_g (lw_at lw_m1 110 rfl) rfl
theorem q189 : (Jvm.Cond.constantLong "TemperIsles$Reader" (74 : Nat) (57 : Int64)) ∈ lw_all := lw_g (lw_at lw_m1 111 rfl) rfl
theorem q190 : (Jvm.Cond.methodLink "TemperIsles$Reader" (76 : Nat) ({ cls := "TemperIsles$Reader", name := "must", desc := "(ZI)V" } : Jvm.MethodName)) ∈ lw_all := lw_g (lw_at lw_m1 112 rfl) rfl
theorem q191 : (Jvm.Cond.privateMethod ({ cls := "TemperIsles$Reader", name := "must", desc := "(ZI)V" } : Jvm.MethodName)) ∈ lw_tbl := lw_at lw_m1 113 rfl
theorem q192 : (Jvm.Cond.instanceMethod ({ cls := "TemperIsles$Reader", name := "must", desc := "(ZI)V" } : Jvm.MethodName)) ∈ lw_all := lw_g (lw_at lw_m1 114 rfl) rfl
theorem q193 : (Jvm.Cond.code ({ cls := "TemperIsles$Reader", name := "must", desc := "(ZI)V" } : Jvm.MethodName) prog_8_method_3_code (3 : Nat) (Option.none : Option Jvm.ClassFile.FieldType)) ∈ lw_all := lw_g (lw_at lw_m1 115 rfl) rfl
theorem q194 : (Jvm.Cond.classLink "TemperIsles$Reader" (33 : Nat) "TemperIsles$Fault") ∈ lw_all := lw_g (lw_at lw_m1 116 rfl) rfl
theorem q250 : (Jvm.Cond.methodLink "TemperIsles$Reader" (38 : Nat) ({ cls := "TemperIsles$Fault", name := "<init>", desc := "(II)V" } : Jvm.MethodName)) ∈ lw_all := lw_g (lw_at lw_m1 172 rfl) rfl
theorem q283 : (Jvm.Cond.fieldLink "TemperIsles$Reader" (26 : Nat) "TemperIsles$Reader" "t" "[B") ∈ lw_all := lw_g (lw_at lw_m1 205 rfl) rfl
theorem q284 : (Jvm.Cond.fieldLink "TemperIsles$Reader" (12 : Nat) "TemperIsles$Reader" "firth" "LTemperIsles$Firth;") ∈ lw_all := lw_g (lw_at lw_m1 206 rfl) rfl
theorem q286 : (Jvm.Cond.fieldLink "TemperIsles$Reader" (18 : Nat) "TemperIsles$Reader" "told" "[I") ∈ lw_all := lw_g (lw_at lw_m1 208 rfl) rfl
theorem q287 : (Jvm.Cond.fieldLink "TemperIsles$Reader" (120 : Nat) "TemperIsles$Reader" "isFeastTold" "Z") ∈ lw_all := lw_g (lw_at lw_m1 209 rfl) rfl
theorem q288 : (Jvm.Cond.fieldLink "TemperIsles$Reader" (22 : Nat) "TemperIsles$Reader" "high" "I") ∈ lw_all := lw_g (lw_at lw_m1 210 rfl) rfl
theorem q290 : (Jvm.Cond.fieldLink "TemperIsles$Reader" (148 : Nat) "TemperIsles$Reader" "lines" "I") ∈ lw_all := lw_g (lw_at lw_m1 212 rfl) rfl
theorem q291 : (Jvm.Cond.fieldLink "TemperIsles$Reader" (35 : Nat) "TemperIsles$Reader" "from" "I") ∈ lw_all := lw_g (lw_at lw_m1 213 rfl) rfl
theorem q292 : (Jvm.Cond.fieldLink "TemperIsles$Reader" (50 : Nat) "TemperIsles$Reader" "to" "I") ∈ lw_all := lw_g (lw_at lw_m1 214 rfl) rfl
theorem q293 : (Jvm.Cond.fieldLink "TemperIsles$Reader" (41 : Nat) "TemperIsles$Reader" "kind" "I") ∈ lw_all := lw_g (lw_at lw_m1 215 rfl) rfl
theorem q294 : (Jvm.Cond.fieldLink "TemperIsles$Reader" (61 : Nat) "TemperIsles$Reader" "value" "I") ∈ lw_all := lw_g (lw_at lw_m1 216 rfl) rfl
theorem q295 : (Jvm.Cond.laysFinal "TemperIsles$Reader" "TemperIsles$Reader" "t" "[B") ∈ lw_all := lw_g (lw_at lw_m1 217 rfl) rfl
theorem q296 : (Jvm.Cond.soleField "TemperIsles$Reader" "t") ∈ lw_all := lw_g (lw_at lw_m1 218 rfl) rfl
theorem q297 : (Jvm.Cond.laysFinal "TemperIsles$Reader" "TemperIsles$Reader" "firth" "LTemperIsles$Firth;") ∈ lw_all := lw_g (lw_at lw_m1 219 rfl) rfl
theorem q298 : (Jvm.Cond.soleField "TemperIsles$Reader" "firth") ∈ lw_all := lw_g (lw_at lw_m1 220 rfl) rfl
theorem q299 : (Jvm.Cond.laysFinal "TemperIsles$Reader" "TemperIsles$Reader" "told" "[I") ∈ lw_all := lw_g (lw_at lw_m1 221 rfl) rfl
theorem q300 : (Jvm.Cond.soleField "TemperIsles$Reader" "told") ∈ lw_all := lw_g (lw_at lw_m1 222 rfl) rfl
theorem q301 : (Jvm.Cond.lays "TemperIsles$Reader" "TemperIsles$Reader" "isFeastTold" "Z") ∈ lw_all := lw_g (lw_at lw_m1 223 rfl) rfl
theorem q302 : (Jvm.Cond.soleField "TemperIsles$Reader" "isFeastTold") ∈ lw_all := lw_g (lw_at lw_m1 224 rfl) rfl
theorem q303 : (Jvm.Cond.lays "TemperIsles$Reader" "TemperIsles$Reader" "high" "I") ∈ lw_all := lw_g (lw_at lw_m1 225 rfl) rfl
theorem q304 : (Jvm.Cond.soleField "TemperIsles$Reader" "high") ∈ lw_all := lw_g (lw_at lw_m1 226 rfl) rfl
theorem q305 : (Jvm.Cond.lays "TemperIsles$Reader" "TemperIsles$Reader" "lines" "I") ∈ lw_all := lw_g (lw_at lw_m1 227 rfl) rfl
theorem q306 : (Jvm.Cond.soleField "TemperIsles$Reader" "lines") ∈ lw_all := lw_g (lw_at lw_m1 228 rfl) rfl
theorem q307 : (Jvm.Cond.lays "TemperIsles$Reader" "TemperIsles$Reader" "from" "I") ∈ lw_all := lw_g (lw_at lw_m1 229 rfl) rfl
theorem q308 : (Jvm.Cond.soleField "TemperIsles$Reader" "from") ∈ lw_all := lw_g (lw_at lw_m1 230 rfl) rfl
theorem q309 : (Jvm.Cond.lays "TemperIsles$Reader" "TemperIsles$Reader" "to" "I") ∈ lw_all := lw_g (lw_at lw_m1 231 rfl) rfl
theorem q310 : (Jvm.Cond.soleField "TemperIsles$Reader" "to") ∈ lw_all := lw_g (lw_at lw_m1 232 rfl) rfl
theorem q311 : (Jvm.Cond.lays "TemperIsles$Reader" "TemperIsles$Reader" "kind" "I") ∈ lw_all := lw_g (lw_at lw_m1 233 rfl) rfl
theorem q312 : (Jvm.Cond.soleField "TemperIsles$Reader" "kind") ∈ lw_all := lw_g (lw_at lw_m1 234 rfl) rfl
theorem q313 : (Jvm.Cond.lays "TemperIsles$Reader" "TemperIsles$Reader" "value" "I") ∈ lw_all := lw_g (lw_at lw_m1 235 rfl) rfl
theorem q314 : (Jvm.Cond.soleField "TemperIsles$Reader" "value") ∈ lw_all := lw_g (lw_at lw_m1 236 rfl) rfl
theorem q315 : (Jvm.Cond.superclass "TemperIsles$Reader" "java/lang/Object") ∈ lw_all := lw_g (lw_at lw_m1 237 rfl) rfl
theorem q317 : (Jvm.Cond.instanceMethod ({ cls := "TemperIsles$Reader", name := "all", desc := "()V" } : Jvm.MethodName)) ∈ lw_all := lw_g (lw_at lw_m1 239 rfl) rfl
theorem q318 : (Jvm.Cond.selects "TemperIsles$Reader" ({ cls := "TemperIsles$Reader", name := "all", desc := "()V" } : Jvm.MethodName) ({ cls := "TemperIsles$Reader", name := "all", desc := "()V" } : Jvm.MethodName)) ∈ lw_all := lw_g (lw_at lw_m2 0 rfl) rfl
theorem q319 : (Jvm.Cond.code ({ cls := "TemperIsles$Reader", name := "all", desc := "()V" } : Jvm.MethodName) prog_8_method_14_code (1 : Nat) (Option.none : Option Jvm.ClassFile.FieldType)) ∈ lw_all := lw_g (lw_at lw_m2 1 rfl) rfl
theorem q320 : (Jvm.Cond.methodLink "TemperIsles$Reader" (151 : Nat) ({ cls := "TemperIsles$Reader", name := "line", desc := "()V" } : Jvm.MethodName)) ∈ lw_all := lw_g (lw_at lw_m2 2 rfl) rfl
theorem q321 : (Jvm.Cond.privateMethod ({ cls := "TemperIsles$Reader", name := "line", desc := "()V" } : Jvm.MethodName)) ∈ lw_tbl := lw_at lw_m2 3 rfl
theorem q322 : (Jvm.Cond.instanceMethod ({ cls := "TemperIsles$Reader", name := "line", desc := "()V" } : Jvm.MethodName)) ∈ lw_all := lw_g (lw_at lw_m2 4 rfl) rfl
theorem q323 : (Jvm.Cond.code ({ cls := "TemperIsles$Reader", name := "line", desc := "()V" } : Jvm.MethodName) prog_8_method_13_code (2 : Nat) (Option.none : Option Jvm.ClassFile.FieldType)) ∈ lw_all := lw_g (lw_at lw_m2 5 rfl) rfl
theorem q324 : (Jvm.Cond.fieldLinkNest "TemperIsles$Reader" (127 : Nat) "TemperIsles" "NAMES" "[Ljava/lang/String;" "TemperIsles") ∈ lw_tbl := lw_at lw_m2 6 rfl
theorem q326 : (Jvm.Cond.methodLink "TemperIsles$Reader" (131 : Nat) ({ cls := "TemperIsles$Reader", name := "isWord", desc := "(Ljava/lang/String;)Z" } : Jvm.MethodName)) ∈ lw_all := lw_g (lw_at lw_m2 8 rfl) rfl
theorem q327 : (Jvm.Cond.privateMethod ({ cls := "TemperIsles$Reader", name := "isWord", desc := "(Ljava/lang/String;)Z" } : Jvm.MethodName)) ∈ lw_tbl := lw_at lw_m2 9 rfl
theorem q328 : (Jvm.Cond.instanceMethod ({ cls := "TemperIsles$Reader", name := "isWord", desc := "(Ljava/lang/String;)Z" } : Jvm.MethodName)) ∈ lw_all := lw_g (lw_at lw_m2 10 rfl) rfl
theorem q329 : (Jvm.Cond.code ({ cls := "TemperIsles$Reader", name := "isWord", desc := "(Ljava/lang/String;)Z" } : Jvm.MethodName) prog_8_method_4_code (4 : Nat) (Option.some Jvm.ClassFile.FieldType.boolean)) ∈ lw_all := lw_g (lw_at lw_m2 11 rfl) rfl
theorem q330 : (Jvm.Cond.methodLink "TemperIsles$Reader" (44 : Nat) ({ cls := "java/lang/String", name := "length", desc := "()I" } : Jvm.MethodName)) ∈ lw_all := lw_g (lw_at lw_m2 12 rfl) rfl
theorem q340 : (Jvm.Cond.methodLink "TemperIsles$Reader" (53 : Nat) ({ cls := "java/lang/String", name := "charAt", desc := "(I)C" } : Jvm.MethodName)) ∈ lw_all := lw_g (lw_at lw_m2 22 rfl) rfl
theorem q378 : (Jvm.Cond.methodLink "TemperIsles$Reader" (135 : Nat) ({ cls := "TemperIsles$Reader", name := "isleOf", desc := "(I)V" } : Jvm.MethodName)) ∈ lw_all := lw_g (lw_at lw_m2 60 rfl) rfl
theorem q379 : (Jvm.Cond.privateMethod ({ cls := "TemperIsles$Reader", name := "isleOf", desc := "(I)V" } : Jvm.MethodName)) ∈ lw_tbl := lw_at lw_m2 61 rfl
theorem q380 : (Jvm.Cond.instanceMethod ({ cls := "TemperIsles$Reader", name := "isleOf", desc := "(I)V" } : Jvm.MethodName)) ∈ lw_all := lw_g (lw_at lw_m2 62 rfl) rfl
theorem q381 : (Jvm.Cond.code ({ cls := "TemperIsles$Reader", name := "isleOf", desc := "(I)V" } : Jvm.MethodName) prog_8_method_8_code (2 : Nat) (Option.none : Option Jvm.ClassFile.FieldType)) ∈ lw_all := lw_g (lw_at lw_m2 63 rfl) rfl
theorem q382 : (Jvm.Cond.methodLink "TemperIsles$Reader" (91 : Nat) ({ cls := "TemperIsles$Firth", name := "whoIsAt", desc := "(I)I" } : Jvm.MethodName)) ∈ lw_all := lw_g (lw_at lw_m2 64 rfl) rfl
theorem q390 : (Jvm.Cond.methodLink "TemperIsles$Reader" (139 : Nat) ({ cls := "TemperIsles$Reader", name := "crossOf", desc := "()V" } : Jvm.MethodName)) ∈ lw_all := lw_g (lw_at lw_m2 72 rfl) rfl
theorem q391 : (Jvm.Cond.privateMethod ({ cls := "TemperIsles$Reader", name := "crossOf", desc := "()V" } : Jvm.MethodName)) ∈ lw_tbl := lw_at lw_m2 73 rfl
theorem q392 : (Jvm.Cond.instanceMethod ({ cls := "TemperIsles$Reader", name := "crossOf", desc := "()V" } : Jvm.MethodName)) ∈ lw_all := lw_g (lw_at lw_m2 74 rfl) rfl
theorem q393 : (Jvm.Cond.code ({ cls := "TemperIsles$Reader", name := "crossOf", desc := "()V" } : Jvm.MethodName) prog_8_method_10_code (3 : Nat) (Option.none : Option Jvm.ClassFile.FieldType)) ∈ lw_all := lw_g (lw_at lw_m2 75 rfl) rfl
theorem q394 : (Jvm.Cond.methodLink "TemperIsles$Reader" (104 : Nat) ({ cls := "TemperIsles$Reader", name := "isle", desc := "(II)I" } : Jvm.MethodName)) ∈ lw_all := lw_g (lw_at lw_m2 76 rfl) rfl
theorem q395 : (Jvm.Cond.privateMethod ({ cls := "TemperIsles$Reader", name := "isle", desc := "(II)I" } : Jvm.MethodName)) ∈ lw_tbl := lw_at lw_m2 77 rfl
theorem q396 : (Jvm.Cond.instanceMethod ({ cls := "TemperIsles$Reader", name := "isle", desc := "(II)I" } : Jvm.MethodName)) ∈ lw_all := lw_g (lw_at lw_m2 78 rfl) rfl
theorem q397 : (Jvm.Cond.code ({ cls := "TemperIsles$Reader", name := "isle", desc := "(II)I" } : Jvm.MethodName) prog_8_method_9_code (4 : Nat) (Option.some Jvm.ClassFile.FieldType.int)) ∈ lw_all := lw_g (lw_at lw_m2 79 rfl) rfl
theorem q398 : (Jvm.Cond.methodLink "TemperIsles$Reader" (84 : Nat) ({ cls := "TemperIsles$Reader", name := "other", desc := "(III)I" } : Jvm.MethodName)) ∈ lw_all := lw_g (lw_at lw_m2 80 rfl) rfl
theorem q399 : (Jvm.Cond.privateMethod ({ cls := "TemperIsles$Reader", name := "other", desc := "(III)I" } : Jvm.MethodName)) ∈ lw_tbl := lw_at lw_m2 81 rfl
theorem q400 : (Jvm.Cond.instanceMethod ({ cls := "TemperIsles$Reader", name := "other", desc := "(III)I" } : Jvm.MethodName)) ∈ lw_all := lw_g (lw_at lw_m2 82 rfl) rfl
theorem q401 : (Jvm.Cond.code ({ cls := "TemperIsles$Reader", name := "other", desc := "(III)I" } : Jvm.MethodName) prog_8_method_6_code (5 : Nat) (Option.some Jvm.ClassFile.FieldType.int)) ∈ lw_all := lw_g (lw_at lw_m2 83 rfl) rfl
theorem q402 : (Jvm.Cond.methodLinkNest "TemperIsles$Reader" (80 : Nat) ({ cls := "TemperIsles", name := "has", desc := "(II)Z" } : Jvm.MethodName) "TemperIsles") ∈ lw_tbl := lw_at lw_m2 84 rfl
theorem q405 : (Jvm.Cond.methodLink "TemperIsles$Reader" (98 : Nat) ({ cls := "java/lang/Math", name := "max", desc := "(II)I" } : Jvm.MethodName)) ∈ lw_all := lw_g (lw_at lw_m2 87 rfl) rfl
theorem q408 : (Jvm.Cond.methodLink "TemperIsles$Reader" (110 : Nat) ({ cls := "TemperIsles$Reader", name := "number", desc := "(II)I" } : Jvm.MethodName)) ∈ lw_all := lw_g (lw_at lw_m2 90 rfl) rfl
theorem q409 : (Jvm.Cond.privateMethod ({ cls := "TemperIsles$Reader", name := "number", desc := "(II)I" } : Jvm.MethodName)) ∈ lw_tbl := lw_at lw_m2 91 rfl
theorem q410 : (Jvm.Cond.instanceMethod ({ cls := "TemperIsles$Reader", name := "number", desc := "(II)I" } : Jvm.MethodName)) ∈ lw_all := lw_g (lw_at lw_m2 92 rfl) rfl
theorem q411 : (Jvm.Cond.code ({ cls := "TemperIsles$Reader", name := "number", desc := "(II)I" } : Jvm.MethodName) prog_8_method_7_code (3 : Nat) (Option.some Jvm.ClassFile.FieldType.int)) ∈ lw_all := lw_g (lw_at lw_m2 93 rfl) rfl
theorem q412 : (Jvm.Cond.methodLink "TemperIsles$Reader" (142 : Nat) ({ cls := "TemperIsles$Reader", name := "ropeOf", desc := "()V" } : Jvm.MethodName)) ∈ lw_all := lw_g (lw_at lw_m2 94 rfl) rfl
theorem q413 : (Jvm.Cond.privateMethod ({ cls := "TemperIsles$Reader", name := "ropeOf", desc := "()V" } : Jvm.MethodName)) ∈ lw_tbl := lw_at lw_m2 95 rfl
theorem q414 : (Jvm.Cond.instanceMethod ({ cls := "TemperIsles$Reader", name := "ropeOf", desc := "()V" } : Jvm.MethodName)) ∈ lw_all := lw_g (lw_at lw_m2 96 rfl) rfl
theorem q415 : (Jvm.Cond.code ({ cls := "TemperIsles$Reader", name := "ropeOf", desc := "()V" } : Jvm.MethodName) prog_8_method_11_code (3 : Nat) (Option.none : Option Jvm.ClassFile.FieldType)) ∈ lw_all := lw_g (lw_at lw_m2 97 rfl) rfl
theorem q416 : (Jvm.Cond.methodLink "TemperIsles$Reader" (116 : Nat) ({ cls := "TemperIsles$Firth", name := "weds", desc := "(III)V" } : Jvm.MethodName)) ∈ lw_all := lw_g (lw_at lw_m2 98 rfl) rfl
theorem q420 : (Jvm.Cond.methodLink "TemperIsles$Reader" (145 : Nat) ({ cls := "TemperIsles$Reader", name := "feastOf", desc := "()V" } : Jvm.MethodName)) ∈ lw_all := lw_g (lw_at lw_m2 102 rfl) rfl
theorem q421 : (Jvm.Cond.privateMethod ({ cls := "TemperIsles$Reader", name := "feastOf", desc := "()V" } : Jvm.MethodName)) ∈ lw_tbl := lw_at lw_m2 103 rfl
theorem q422 : (Jvm.Cond.instanceMethod ({ cls := "TemperIsles$Reader", name := "feastOf", desc := "()V" } : Jvm.MethodName)) ∈ lw_all := lw_g (lw_at lw_m2 104 rfl) rfl
theorem q423 : (Jvm.Cond.code ({ cls := "TemperIsles$Reader", name := "feastOf", desc := "()V" } : Jvm.MethodName) prog_8_method_12_code (1 : Nat) (Option.none : Option Jvm.ClassFile.FieldType)) ∈ lw_all := lw_g (lw_at lw_m2 105 rfl) rfl
theorem in_X5 : ∀ w ∈ wsX50, w ∈ lw_all := lw_in wsX50 [295, 297, 299, 301, 303, 305, 307, 309, 311, 313] (by decide +kernel) (by decide +kernel)
/-! TemperIsles$Fault -/
set_option maxRecDepth 100000
def RX6 : String := "TemperIsles$Fault"
def TX6 : u_T := fun k => match k with
  | 0 => ("java/lang/Throwable", "cause", "Ljava/lang/Throwable;", false)
  | 1 => ("java/lang/Throwable", "stackTrace", "[Ljava/lang/StackTraceElement;", false)
  | 2 => ("java/lang/Throwable", "suppressedExceptions", "Ljava/util/List;", false)
  | 3 => ("java/lang/Throwable", "detailMessage", "Ljava/lang/String;", false)
  | 4 => ("java/lang/Throwable", "backtrace", "Ljava/lang/Object;", false)
  | 5 => ("java/lang/Throwable", "depth", "I", false)
  | 6 => ("TemperIsles$Fault", "code", "I", true)
  | _ => ("TemperIsles$Fault", "place", "I", true)
def tyX6 : Nat → FieldType := fun k => match k with
  | 0 => .object "java/lang/Throwable"
  | 1 => .array (.object "java/lang/StackTraceElement")
  | 2 => .object "java/util/List"
  | 3 => .object "java/lang/String"
  | 4 => .object "java/lang/Object"
  | 5 => .int
  | 6 => .int
  | _ => .int
abbrev wsX60 : List Cond := u_ws RX6 TX6 8
theorem nmX6 : ∀ a, a < 8 → ∀ b, b < 8 → a ≠ b → (TX6 a).2.1 ≠ (TX6 b).2.1 := by decide +kernel
theorem tyX6_ok : ∀ k, k < 8 → parseFieldDescriptor (TX6 k).2.2.1 = some (tyX6 k) := by decide +kernel
abbrev cX6_init : ByteArray := prog_2_method_1_code
def yX6_init : MethodName := ⟨RX6, "<init>", "(II)V"⟩
def dkwX6_init_0 : List UInt8 := [42, 1, 1, 3, 3, 183, 0, 1, 42, 27, 181, 0, 7, 42, 28, 181, 0, 13, 177]
abbrev dktX6_init_0 : List UInt8 := dkwX6_init_0 ++ []
theorem dksX6_init_0 : cX6_init.data.toList.drop 0 = dktX6_init_0 := by decide +kernel
theorem dX6_init_0 : decode cX6_init 0 = .ok (.aload_n 0, 1) := dk_42 (dk_at dksX6_init_0 0 rfl rfl)
theorem dX6_init_1 : decode cX6_init 1 = .ok (.aconst_null, 1) := dk_1 (dk_at dksX6_init_0 1 rfl rfl)
theorem dX6_init_2 : decode cX6_init 2 = .ok (.aconst_null, 1) := dk_1 (dk_at dksX6_init_0 2 rfl rfl)
theorem dX6_init_3 : decode cX6_init 3 = .ok (.iconst 0, 1) := dk_3 (dk_at dksX6_init_0 3 rfl rfl)
theorem dX6_init_4 : decode cX6_init 4 = .ok (.iconst 0, 1) := dk_3 (dk_at dksX6_init_0 4 rfl rfl)
theorem dX6_init_5 : decode cX6_init 5 = .ok (.invokespecial 1, 3) := dk_183 0 1 (dk_at dksX6_init_0 5 rfl rfl)
theorem dX6_init_8 : decode cX6_init 8 = .ok (.aload_n 0, 1) := dk_42 (dk_at dksX6_init_0 8 rfl rfl)
theorem dX6_init_9 : decode cX6_init 9 = .ok (.iload_n 1, 1) := dk_27 (dk_at dksX6_init_0 9 rfl rfl)
theorem dX6_init_10 : decode cX6_init 10 = .ok (.putfield 7, 3) := dk_181 0 7 (dk_at dksX6_init_0 10 rfl rfl)
theorem dX6_init_13 : decode cX6_init 13 = .ok (.aload_n 0, 1) := dk_42 (dk_at dksX6_init_0 13 rfl rfl)
theorem dX6_init_14 : decode cX6_init 14 = .ok (.iload_n 2, 1) := dk_28 (dk_at dksX6_init_0 14 rfl rfl)
theorem dX6_init_15 : decode cX6_init 15 = .ok (.putfield 13, 3) := dk_181 0 13 (dk_at dksX6_init_0 15 rfl rfl)
theorem dX6_init_18 : decode cX6_init 18 = .ok (.return_, 1) := dk_177 (dk_at dksX6_init_0 18 rfl rfl)
theorem q89 : (Jvm.Cond.initialized "TemperIsles$Fault") ∈ lw_all := lw_g (lw_at lw_m1 11 rfl) rfl
theorem q195 : (Jvm.Cond.instantiable "TemperIsles$Fault" (8 : Nat)) ∈ lw_all := lw_g (lw_at lw_m1 117 rfl) rfl
theorem q196 : (Jvm.Cond.castable "TemperIsles$Fault" "TemperIsles$Fault") ∈ lw_tbl := lw_at lw_m1 118 rfl
theorem q203 : (Jvm.Cond.selects "TemperIsles$Fault" ({ cls := "java/lang/Throwable", name := "fillInStackTrace", desc := "(I)Ljava/lang/Throwable;" } : Jvm.MethodName) ({ cls := "java/lang/Throwable", name := "fillInStackTrace", desc := "(I)Ljava/lang/Throwable;" } : Jvm.MethodName)) ∈ lw_all := lw_g (lw_at lw_m1 125 rfl) rfl
theorem q204 : (Jvm.Cond.selects "TemperIsles$Fault" ({ cls := "java/lang/Throwable", name := "fillInStackTrace", desc := "()Ljava/lang/Throwable;" } : Jvm.MethodName) ({ cls := "java/lang/Throwable", name := "fillInStackTrace", desc := "()Ljava/lang/Throwable;" } : Jvm.MethodName)) ∈ lw_all := lw_g (lw_at lw_m1 126 rfl) rfl
theorem q205 : (Jvm.Cond.lays "TemperIsles$Fault" "java/lang/Throwable" "cause" "Ljava/lang/Throwable;") ∈ lw_all := lw_g (lw_at lw_m1 127 rfl) rfl
theorem q207 : (Jvm.Cond.lays "TemperIsles$Fault" "java/lang/Throwable" "stackTrace" "[Ljava/lang/StackTraceElement;") ∈ lw_all := lw_g (lw_at lw_m1 129 rfl) rfl
theorem q209 : (Jvm.Cond.lays "TemperIsles$Fault" "java/lang/Throwable" "suppressedExceptions" "Ljava/util/List;") ∈ lw_all := lw_g (lw_at lw_m1 131 rfl) rfl
theorem q211 : (Jvm.Cond.lays "TemperIsles$Fault" "java/lang/Throwable" "detailMessage" "Ljava/lang/String;") ∈ lw_all := lw_g (lw_at lw_m1 133 rfl) rfl
theorem q213 : (Jvm.Cond.lays "TemperIsles$Fault" "java/lang/Throwable" "backtrace" "Ljava/lang/Object;") ∈ lw_all := lw_g (lw_at lw_m1 135 rfl) rfl
theorem q251 : (Jvm.Cond.instanceMethod ({ cls := "TemperIsles$Fault", name := "<init>", desc := "(II)V" } : Jvm.MethodName)) ∈ lw_all := lw_g (lw_at lw_m1 173 rfl) rfl
theorem q252 : (Jvm.Cond.code ({ cls := "TemperIsles$Fault", name := "<init>", desc := "(II)V" } : Jvm.MethodName) prog_2_method_1_code (3 : Nat) (Option.none : Option Jvm.ClassFile.FieldType)) ∈ lw_all := lw_g (lw_at lw_m1 174 rfl) rfl
theorem q253 : (Jvm.Cond.methodLink "TemperIsles$Fault" (1 : Nat) ({ cls := "java/lang/RuntimeException", name := "<init>", desc := "(Ljava/lang/String;Ljava/lang/Throwable;ZZ)V" } : Jvm.MethodName)) ∈ lw_all := lw_g (lw_at lw_m1 175 rfl) rfl
theorem q262 : (Jvm.Cond.fieldLink "TemperIsles$Fault" (7 : Nat) "TemperIsles$Fault" "code" "I") ∈ lw_all := lw_g (lw_at lw_m1 184 rfl) rfl
theorem q264 : (Jvm.Cond.fieldLink "TemperIsles$Fault" (13 : Nat) "TemperIsles$Fault" "place" "I") ∈ lw_all := lw_g (lw_at lw_m1 186 rfl) rfl
theorem q271 : (Jvm.Cond.laysFinal "TemperIsles$Fault" "TemperIsles$Fault" "code" "I") ∈ lw_all := lw_g (lw_at lw_m1 193 rfl) rfl
theorem q272 : (Jvm.Cond.soleField "TemperIsles$Fault" "code") ∈ lw_all := lw_g (lw_at lw_m1 194 rfl) rfl
theorem q273 : (Jvm.Cond.laysFinal "TemperIsles$Fault" "TemperIsles$Fault" "place" "I") ∈ lw_all := lw_g (lw_at lw_m1 195 rfl) rfl
theorem q274 : (Jvm.Cond.soleField "TemperIsles$Fault" "place") ∈ lw_all := lw_g (lw_at lw_m1 196 rfl) rfl
theorem q279 : (Jvm.Cond.lays "TemperIsles$Fault" "java/lang/Throwable" "depth" "I") ∈ lw_all := lw_g (lw_at lw_m1 201 rfl) rfl
theorem q282 : (Jvm.Cond.superclass "TemperIsles$Fault" "java/lang/RuntimeException") ∈ lw_all := lw_g (lw_at lw_m1 204 rfl) rfl
theorem in_X6 : ∀ w ∈ wsX60, w ∈ lw_all := lw_in wsX60 [205, 207, 209, 211, 213, 279, 271, 273] (by decide +kernel) (by decide +kernel)
/-! TemperIsles$Plain -/
set_option maxRecDepth 100000
def RX7 : String := "TemperIsles$Plain"
abbrev cX7_fathoms : ByteArray := prog_6_method_2_code
def yX7_fathoms : MethodName := ⟨RX7, "fathoms", "(I)I"⟩
theorem dX7_fathoms_0 : decode cX7_fathoms 0 = .ok (.iload_n 1, 1) := by decide +kernel
theorem dX7_fathoms_1 : decode cX7_fathoms 1 = .ok (.ireturn, 1) := by decide +kernel
theorem q472 : (Jvm.Cond.instanceMethod ({ cls := "TemperIsles$Plain", name := "fathoms", desc := "(I)I" } : Jvm.MethodName)) ∈ lw_all := lw_g (lw_at lw_m2 154 rfl) rfl
theorem q473 : (Jvm.Cond.selects "TemperIsles$Plain" ({ cls := "TemperIsles$Plain", name := "fathoms", desc := "(I)I" } : Jvm.MethodName) ({ cls := "TemperIsles$Plain", name := "fathoms", desc := "(I)I" } : Jvm.MethodName)) ∈ lw_all := lw_g (lw_at lw_m2 155 rfl) rfl
theorem q474 : (Jvm.Cond.sameMethod "TemperIsles$Plain" "TemperIsles$Plain" "fathoms" "(I)I") ∈ lw_all := lw_g (lw_at lw_m2 156 rfl) rfl
theorem q480 : (Jvm.Cond.code ({ cls := "TemperIsles$Plain", name := "fathoms", desc := "(I)I" } : Jvm.MethodName) prog_6_method_2_code (2 : Nat) (Option.some Jvm.ClassFile.FieldType.int)) ∈ lw_all := lw_g (lw_at lw_m2 162 rfl) rfl
theorem q1455 : (Jvm.Cond.initialized "TemperIsles$Plain") ∈ lw_all := lw_g (lw_at lw_m6 177 rfl) rfl
/-! TemperIsles$Fond -/
set_option maxRecDepth 100000
def RX8 : String := "TemperIsles$Fond"
abbrev cX8_fathoms : ByteArray := prog_4_method_2_code
def yX8_fathoms : MethodName := ⟨RX8, "fathoms", "(I)I"⟩
def dkwX8_fathoms_0 : List UInt8 := [42, 27, 183, 0, 7, 5, 108, 172]
abbrev dktX8_fathoms_0 : List UInt8 := dkwX8_fathoms_0 ++ []
theorem dksX8_fathoms_0 : cX8_fathoms.data.toList.drop 0 = dktX8_fathoms_0 := by decide +kernel
theorem dX8_fathoms_0 : decode cX8_fathoms 0 = .ok (.aload_n 0, 1) := dk_42 (dk_at dksX8_fathoms_0 0 rfl rfl)
theorem dX8_fathoms_1 : decode cX8_fathoms 1 = .ok (.iload_n 1, 1) := dk_27 (dk_at dksX8_fathoms_0 1 rfl rfl)
theorem dX8_fathoms_2 : decode cX8_fathoms 2 = .ok (.invokespecial 7, 3) := dk_183 0 7 (dk_at dksX8_fathoms_0 2 rfl rfl)
theorem dX8_fathoms_5 : decode cX8_fathoms 5 = .ok (.iconst 2, 1) := dk_5 (dk_at dksX8_fathoms_0 5 rfl rfl)
theorem dX8_fathoms_6 : decode cX8_fathoms 6 = .ok (.idiv, 1) := dk_108 (dk_at dksX8_fathoms_0 6 rfl rfl)
theorem dX8_fathoms_7 : decode cX8_fathoms 7 = .ok (.ireturn, 1) := dk_172 (dk_at dksX8_fathoms_0 7 rfl rfl)
theorem q475 : (Jvm.Cond.selects "TemperIsles$Fond" ({ cls := "TemperIsles$Plain", name := "fathoms", desc := "(I)I" } : Jvm.MethodName) ({ cls := "TemperIsles$Fond", name := "fathoms", desc := "(I)I" } : Jvm.MethodName)) ∈ lw_all := lw_g (lw_at lw_m2 157 rfl) rfl
theorem q476 : (Jvm.Cond.instanceMethod ({ cls := "TemperIsles$Fond", name := "fathoms", desc := "(I)I" } : Jvm.MethodName)) ∈ lw_all := lw_g (lw_at lw_m2 158 rfl) rfl
theorem q477 : (Jvm.Cond.code ({ cls := "TemperIsles$Fond", name := "fathoms", desc := "(I)I" } : Jvm.MethodName) prog_4_method_2_code (2 : Nat) (Option.some Jvm.ClassFile.FieldType.int)) ∈ lw_all := lw_g (lw_at lw_m2 159 rfl) rfl
theorem q478 : (Jvm.Cond.methodLink "TemperIsles$Fond" (7 : Nat) ({ cls := "TemperIsles$Plain", name := "fathoms", desc := "(I)I" } : Jvm.MethodName)) ∈ lw_all := lw_g (lw_at lw_m2 160 rfl) rfl
theorem q479 : (Jvm.Cond.superclass "TemperIsles$Fond" "TemperIsles$Plain") ∈ lw_all := lw_g (lw_at lw_m2 161 rfl) rfl
theorem q1454 : (Jvm.Cond.initialized "TemperIsles$Fond") ∈ lw_all := lw_g (lw_at lw_m6 176 rfl) rfl
/-! TemperIsles$Proud -/
set_option maxRecDepth 100000
def RX9 : String := "TemperIsles$Proud"
abbrev cX9_fathoms : ByteArray := prog_7_method_2_code
def yX9_fathoms : MethodName := ⟨RX9, "fathoms", "(I)I"⟩
def dkwX9_fathoms_0 : List UInt8 := [5, 42, 27, 183, 0, 7, 104, 172]
abbrev dktX9_fathoms_0 : List UInt8 := dkwX9_fathoms_0 ++ []
theorem dksX9_fathoms_0 : cX9_fathoms.data.toList.drop 0 = dktX9_fathoms_0 := by decide +kernel
theorem dX9_fathoms_0 : decode cX9_fathoms 0 = .ok (.iconst 2, 1) := dk_5 (dk_at dksX9_fathoms_0 0 rfl rfl)
theorem dX9_fathoms_1 : decode cX9_fathoms 1 = .ok (.aload_n 0, 1) := dk_42 (dk_at dksX9_fathoms_0 1 rfl rfl)
theorem dX9_fathoms_2 : decode cX9_fathoms 2 = .ok (.iload_n 1, 1) := dk_27 (dk_at dksX9_fathoms_0 2 rfl rfl)
theorem dX9_fathoms_3 : decode cX9_fathoms 3 = .ok (.invokespecial 7, 3) := dk_183 0 7 (dk_at dksX9_fathoms_0 3 rfl rfl)
theorem dX9_fathoms_6 : decode cX9_fathoms 6 = .ok (.imul, 1) := dk_104 (dk_at dksX9_fathoms_0 6 rfl rfl)
theorem dX9_fathoms_7 : decode cX9_fathoms 7 = .ok (.ireturn, 1) := dk_172 (dk_at dksX9_fathoms_0 7 rfl rfl)
theorem q481 : (Jvm.Cond.selects "TemperIsles$Proud" ({ cls := "TemperIsles$Plain", name := "fathoms", desc := "(I)I" } : Jvm.MethodName) ({ cls := "TemperIsles$Proud", name := "fathoms", desc := "(I)I" } : Jvm.MethodName)) ∈ lw_all := lw_g (lw_at lw_m2 163 rfl) rfl
theorem q482 : (Jvm.Cond.instanceMethod ({ cls := "TemperIsles$Proud", name := "fathoms", desc := "(I)I" } : Jvm.MethodName)) ∈ lw_all := lw_g (lw_at lw_m2 164 rfl) rfl
theorem q483 : (Jvm.Cond.code ({ cls := "TemperIsles$Proud", name := "fathoms", desc := "(I)I" } : Jvm.MethodName) prog_7_method_2_code (2 : Nat) (Option.some Jvm.ClassFile.FieldType.int)) ∈ lw_all := lw_g (lw_at lw_m2 165 rfl) rfl
theorem q484 : (Jvm.Cond.methodLink "TemperIsles$Proud" (7 : Nat) ({ cls := "TemperIsles$Plain", name := "fathoms", desc := "(I)I" } : Jvm.MethodName)) ∈ lw_all := lw_g (lw_at lw_m2 166 rfl) rfl
theorem q485 : (Jvm.Cond.superclass "TemperIsles$Proud" "TemperIsles$Plain") ∈ lw_all := lw_g (lw_at lw_m2 167 rfl) rfl
theorem q1453 : (Jvm.Cond.sameMethod "TemperIsles$Proud" "TemperIsles$Proud" "fathoms" "(I)I") ∈ lw_all := lw_g (lw_at lw_m6 175 rfl) rfl
theorem q1456 : (Jvm.Cond.initialized "TemperIsles$Proud") ∈ lw_all := lw_g (lw_at lw_m6 178 rfl) rfl
theorem q78 : (Jvm.Cond.initialized "TemperIslesLaw") ∈ lw_all := lw_g (lw_at lw_m1 0 rfl) rfl
set_option maxRecDepth 100000
theorem q101 : (Jvm.Cond.methodLink "TemperIslesLaw" (13 : Nat) ({ cls := "TemperIsles", name := "feed", desc := "(I)I" } : Jvm.MethodName)) ∈ lw_all := lw_g (lw_at lw_m1 23 rfl) rfl
theorem q109 : (Jvm.Cond.methodLink "TemperIslesLaw" (18 : Nat) ({ cls := "TemperIsles", name := "end", desc := "(I)I" } : Jvm.MethodName)) ∈ lw_all := lw_g (lw_at lw_m1 31 rfl) rfl
theorem q113 : (Jvm.Cond.methodLink "TemperIslesLaw" (22 : Nat) ({ cls := "TemperIsles", name := "text", desc := "()I" } : Jvm.MethodName)) ∈ lw_all := lw_g (lw_at lw_m1 35 rfl) rfl
theorem q429 : (Jvm.Cond.methodLink "TemperIslesLaw" (27 : Nat) ({ cls := "TemperIsles", name := "fault", desc := "()I" } : Jvm.MethodName)) ∈ lw_all := lw_g (lw_at lw_m2 111 rfl) rfl
theorem q433 : (Jvm.Cond.methodLink "TemperIslesLaw" (31 : Nat) ({ cls := "TemperIsles", name := "rule", desc := "(I)I" } : Jvm.MethodName)) ∈ lw_all := lw_g (lw_at lw_m2 115 rfl) rfl
theorem q445 : (Jvm.Cond.methodLink "TemperIslesLaw" (35 : Nat) ({ cls := "TemperIsles", name := "isle", desc := "(II)I" } : Jvm.MethodName)) ∈ lw_all := lw_g (lw_at lw_m2 127 rfl) rfl
theorem q501 : (Jvm.Cond.methodLink "TemperIslesLaw" (40 : Nat) ({ cls := "TemperIsles", name := "cross", desc := "(II)I" } : Jvm.MethodName)) ∈ lw_all := lw_g (lw_at lw_m2 183 rfl) rfl
theorem q509 : (Jvm.Cond.methodLink "TemperIslesLaw" (44 : Nat) ({ cls := "TemperIsles", name := "rope", desc := "(II)I" } : Jvm.MethodName)) ∈ lw_all := lw_g (lw_at lw_m2 191 rfl) rfl
theorem q518 : (Jvm.Cond.methodLink "TemperIslesLaw" (48 : Nat) ({ cls := "TemperIsles", name := "far", desc := "(II)I" } : Jvm.MethodName)) ∈ lw_all := lw_g (lw_at lw_m2 200 rfl) rfl
theorem q523 : (Jvm.Cond.methodLink "TemperIslesLaw" (52 : Nat) ({ cls := "TemperIsles", name := "alter", desc := "(III)I" } : Jvm.MethodName)) ∈ lw_all := lw_g (lw_at lw_m2 205 rfl) rfl
theorem q533 : (Jvm.Cond.methodLink "TemperIslesLaw" (57 : Nat) ({ cls := "TemperIsles", name := "sulk", desc := "(III)I" } : Jvm.MethodName)) ∈ lw_all := lw_g (lw_at lw_m2 215 rfl) rfl
theorem q541 : (Jvm.Cond.methodLink "TemperIslesLaw" (61 : Nat) ({ cls := "TemperIsles", name := "haul", desc := "(II)I" } : Jvm.MethodName)) ∈ lw_all := lw_g (lw_at lw_m2 223 rfl) rfl
theorem q546 : (Jvm.Cond.methodLink "TemperIslesLaw" (65 : Nat) ({ cls := "TemperIsles", name := "wed", desc := "(III)I" } : Jvm.MethodName)) ∈ lw_all := lw_g (lw_at lw_m2 228 rfl) rfl
theorem q551 : (Jvm.Cond.methodLink "TemperIslesLaw" (69 : Nat) ({ cls := "TemperIsles", name := "loose", desc := "(I)I" } : Jvm.MethodName)) ∈ lw_all := lw_g (lw_at lw_m2 233 rfl) rfl
theorem q555 : (Jvm.Cond.methodLink "TemperIslesLaw" (73 : Nat) ({ cls := "TemperIsles", name := "feast", desc := "(I)I" } : Jvm.MethodName)) ∈ lw_all := lw_g (lw_at lw_m2 237 rfl) rfl
theorem q560 : (Jvm.Cond.methodLink "TemperIslesLaw" (77 : Nat) ({ cls := "TemperIsles", name := "days", desc := "(I)I" } : Jvm.MethodName)) ∈ lw_all := lw_g (lw_at lw_m3 2 rfl) rfl
theorem q587 : (Jvm.Cond.methodLink "TemperIslesLaw" (81 : Nat) ({ cls := "TemperIsles", name := "runs", desc := "(II)I" } : Jvm.MethodName)) ∈ lw_all := lw_g (lw_at lw_m3 29 rfl) rfl
theorem q601 : (Jvm.Cond.methodLink "TemperIslesLaw" (85 : Nat) ({ cls := "TemperIsles", name := "ahead", desc := "(II)I" } : Jvm.MethodName)) ∈ lw_all := lw_g (lw_at lw_m3 43 rfl) rfl
theorem q609 : (Jvm.Cond.methodLink "TemperIslesLaw" (89 : Nat) ({ cls := "TemperIsles", name := "within", desc := "(I)I" } : Jvm.MethodName)) ∈ lw_all := lw_g (lw_at lw_m3 51 rfl) rfl
theorem q613 : (Jvm.Cond.methodLink "TemperIslesLaw" (93 : Nat) ({ cls := "TemperIsles", name := "match", desc := "(II)I" } : Jvm.MethodName)) ∈ lw_all := lw_g (lw_at lw_m3 55 rfl) rfl
theorem q628 : (Jvm.Cond.methodLink "TemperIslesLaw" (97 : Nat) ({ cls := "TemperIsles", name := "fray", desc := "(I)I" } : Jvm.MethodName)) ∈ lw_all := lw_g (lw_at lw_m3 70 rfl) rfl
theorem q640 : (Jvm.Cond.methodLink "TemperIslesLaw" (101 : Nat) ({ cls := "TemperIsles", name := "soothe", desc := "(I)I" } : Jvm.MethodName)) ∈ lw_all := lw_g (lw_at lw_m3 82 rfl) rfl
theorem q644 : (Jvm.Cond.methodLink "TemperIslesLaw" (105 : Nat) ({ cls := "TemperIsles", name := "holy", desc := "(II)I" } : Jvm.MethodName)) ∈ lw_all := lw_g (lw_at lw_m3 86 rfl) rfl
theorem q649 : (Jvm.Cond.methodLink "TemperIslesLaw" (109 : Nat) ({ cls := "TemperIsles", name := "kind", desc := "(III)I" } : Jvm.MethodName)) ∈ lw_all := lw_g (lw_at lw_m3 91 rfl) rfl
theorem q653 : (Jvm.Cond.methodLink "TemperIslesLaw" (113 : Nat) ({ cls := "TemperIsles", name := "slack", desc := "(III)I" } : Jvm.MethodName)) ∈ lw_all := lw_g (lw_at lw_m3 95 rfl) rfl
theorem q657 : (Jvm.Cond.methodLink "TemperIslesLaw" (117 : Nat) ({ cls := "TemperIsles", name := "luck", desc := "(IIII)J" } : Jvm.MethodName)) ∈ lw_all := lw_g (lw_at lw_m3 99 rfl) rfl
theorem q675 : (Jvm.Cond.methodLink "TemperIslesLaw" (122 : Nat) ({ cls := "TemperIsles", name := "mean", desc := "(III)J" } : Jvm.MethodName)) ∈ lw_all := lw_g (lw_at lw_m3 117 rfl) rfl
theorem q679 : (Jvm.Cond.methodLink "TemperIslesLaw" (127 : Nat) ({ cls := "TemperIsles", name := "see", desc := "(III)I" } : Jvm.MethodName)) ∈ lw_all := lw_g (lw_at lw_m3 121 rfl) rfl
theorem q684 : (Jvm.Cond.methodLink "TemperIslesLaw" (131 : Nat) ({ cls := "TemperIsles", name := "forget", desc := "(I)I" } : Jvm.MethodName)) ∈ lw_all := lw_g (lw_at lw_m3 126 rfl) rfl
theorem q688 : (Jvm.Cond.methodLink "TemperIslesLaw" (135 : Nat) ({ cls := "TemperIsles", name := "kinds", desc := "(I)I" } : Jvm.MethodName)) ∈ lw_all := lw_g (lw_at lw_m3 130 rfl) rfl
theorem q700 : (Jvm.Cond.methodLink "TemperIslesLaw" (139 : Nat) ({ cls := "TemperIsles", name := "sulks", desc := "(II)I" } : Jvm.MethodName)) ∈ lw_all := lw_g (lw_at lw_m3 142 rfl) rfl
theorem q704 : (Jvm.Cond.methodLink "TemperIslesLaw" (143 : Nat) ({ cls := "TemperIsles", name := "ask", desc := "(II)I" } : Jvm.MethodName)) ∈ lw_all := lw_g (lw_at lw_m3 146 rfl) rfl
theorem q719 : (Jvm.Cond.methodLink "TemperIslesLaw" (147 : Nat) ({ cls := "TemperIsles", name := "drift", desc := "(III)I" } : Jvm.MethodName)) ∈ lw_all := lw_g (lw_at lw_m3 161 rfl) rfl
theorem q724 : (Jvm.Cond.methodLink "TemperIslesLaw" (151 : Nat) ({ cls := "TemperIsles", name := "keep", desc := "(I)I" } : Jvm.MethodName)) ∈ lw_all := lw_g (lw_at lw_m3 166 rfl) rfl
theorem q736 : (Jvm.Cond.methodLink "TemperIslesLaw" (155 : Nat) ({ cls := "TemperIsles", name := "back", desc := "(I)I" } : Jvm.MethodName)) ∈ lw_all := lw_g (lw_at lw_m3 178 rfl) rfl
theorem q744 : (Jvm.Cond.classLink "TemperIslesLaw" (7 : Nat) "TemperIsles") ∈ lw_all := lw_g (lw_at lw_m3 186 rfl) rfl
theorem q745 : (Jvm.Cond.methodLink "TemperIslesLaw" (9 : Nat) ({ cls := "TemperIsles", name := "<init>", desc := "()V" } : Jvm.MethodName)) ∈ lw_all := lw_g (lw_at lw_m3 187 rfl) rfl
theorem q844 : (Jvm.Cond.methodLink "TemperIslesLaw" (159 : Nat) ({ cls := "TemperIsles", name := "sheet", desc := "(III)I" } : Jvm.MethodName)) ∈ lw_all := lw_g (lw_at lw_m4 46 rfl) rfl
theorem q879 : (Jvm.Cond.methodLink "TemperIslesLaw" (163 : Nat) ({ cls := "TemperIsles", name := "lay", desc := "(III)I" } : Jvm.MethodName)) ∈ lw_all := lw_g (lw_at lw_m4 81 rfl) rfl
theorem q930 : (Jvm.Cond.methodLink "TemperIslesLaw" (167 : Nat) ({ cls := "TemperIsles", name := "read", desc := "(IIII)I" } : Jvm.MethodName)) ∈ lw_all := lw_g (lw_at lw_m4 132 rfl) rfl
theorem q956 : (Jvm.Cond.methodLink "TemperIslesLaw" (172 : Nat) ({ cls := "TemperIsles", name := "torn", desc := "()I" } : Jvm.MethodName)) ∈ lw_all := lw_g (lw_at lw_m4 158 rfl) rfl
theorem q960 : (Jvm.Cond.methodLink "TemperIslesLaw" (176 : Nat) ({ cls := "TemperIsles", name := "count", desc := "(I)I" } : Jvm.MethodName)) ∈ lw_all := lw_g (lw_at lw_m4 162 rfl) rfl
theorem q964 : (Jvm.Cond.classLink "TemperIslesLaw" (10 : Nat) "TemperIslesModel") ∈ lw_all := lw_g (lw_at lw_m4 166 rfl) rfl
theorem q966 : (Jvm.Cond.methodLink "TemperIslesLaw" (12 : Nat) ({ cls := "TemperIslesModel", name := "<init>", desc := "()V" } : Jvm.MethodName)) ∈ lw_all := lw_g (lw_at lw_m4 168 rfl) rfl
theorem q1067 : (Jvm.Cond.methodLink "TemperIslesLaw" (17 : Nat) ({ cls := "TemperIslesModel", name := "feed", desc := "(I)I" } : Jvm.MethodName)) ∈ lw_all := lw_g (lw_at lw_m5 29 rfl) rfl
theorem q1075 : (Jvm.Cond.methodLink "TemperIslesLaw" (21 : Nat) ({ cls := "TemperIslesModel", name := "end", desc := "(I)I" } : Jvm.MethodName)) ∈ lw_all := lw_g (lw_at lw_m5 37 rfl) rfl
theorem q1079 : (Jvm.Cond.methodLink "TemperIslesLaw" (26 : Nat) ({ cls := "TemperIslesModel", name := "text", desc := "()I" } : Jvm.MethodName)) ∈ lw_all := lw_g (lw_at lw_m5 41 rfl) rfl
theorem q1143 : (Jvm.Cond.methodLink "TemperIslesLaw" (30 : Nat) ({ cls := "TemperIslesModel", name := "fault", desc := "()I" } : Jvm.MethodName)) ∈ lw_all := lw_g (lw_at lw_m5 105 rfl) rfl
theorem q1147 : (Jvm.Cond.methodLink "TemperIslesLaw" (34 : Nat) ({ cls := "TemperIslesModel", name := "rule", desc := "(I)I" } : Jvm.MethodName)) ∈ lw_all := lw_g (lw_at lw_m5 109 rfl) rfl
theorem q1170 : (Jvm.Cond.methodLink "TemperIslesLaw" (39 : Nat) ({ cls := "TemperIslesModel", name := "isle", desc := "(II)I" } : Jvm.MethodName)) ∈ lw_all := lw_g (lw_at lw_m5 132 rfl) rfl
theorem q1197 : (Jvm.Cond.methodLink "TemperIslesLaw" (43 : Nat) ({ cls := "TemperIslesModel", name := "cross", desc := "(II)I" } : Jvm.MethodName)) ∈ lw_all := lw_g (lw_at lw_m5 159 rfl) rfl
theorem q1205 : (Jvm.Cond.methodLink "TemperIslesLaw" (47 : Nat) ({ cls := "TemperIslesModel", name := "rope", desc := "(II)I" } : Jvm.MethodName)) ∈ lw_all := lw_g (lw_at lw_m5 167 rfl) rfl
theorem q1214 : (Jvm.Cond.methodLink "TemperIslesLaw" (51 : Nat) ({ cls := "TemperIslesModel", name := "far", desc := "(II)I" } : Jvm.MethodName)) ∈ lw_all := lw_g (lw_at lw_m5 176 rfl) rfl
theorem q1218 : (Jvm.Cond.methodLink "TemperIslesLaw" (56 : Nat) ({ cls := "TemperIslesModel", name := "alter", desc := "(III)I" } : Jvm.MethodName)) ∈ lw_all := lw_g (lw_at lw_m5 180 rfl) rfl
theorem q1235 : (Jvm.Cond.methodLink "TemperIslesLaw" (60 : Nat) ({ cls := "TemperIslesModel", name := "sulk", desc := "(III)I" } : Jvm.MethodName)) ∈ lw_all := lw_g (lw_at lw_m5 197 rfl) rfl
theorem q1239 : (Jvm.Cond.methodLink "TemperIslesLaw" (64 : Nat) ({ cls := "TemperIslesModel", name := "haul", desc := "(II)I" } : Jvm.MethodName)) ∈ lw_all := lw_g (lw_at lw_m5 201 rfl) rfl
theorem q1244 : (Jvm.Cond.methodLink "TemperIslesLaw" (68 : Nat) ({ cls := "TemperIslesModel", name := "wed", desc := "(III)I" } : Jvm.MethodName)) ∈ lw_all := lw_g (lw_at lw_m5 206 rfl) rfl
theorem q1256 : (Jvm.Cond.methodLink "TemperIslesLaw" (72 : Nat) ({ cls := "TemperIslesModel", name := "loose", desc := "(I)I" } : Jvm.MethodName)) ∈ lw_all := lw_g (lw_at lw_m5 218 rfl) rfl
theorem q1260 : (Jvm.Cond.methodLink "TemperIslesLaw" (76 : Nat) ({ cls := "TemperIslesModel", name := "feast", desc := "(I)I" } : Jvm.MethodName)) ∈ lw_all := lw_g (lw_at lw_m5 222 rfl) rfl
theorem q1265 : (Jvm.Cond.methodLink "TemperIslesLaw" (80 : Nat) ({ cls := "TemperIslesModel", name := "days", desc := "(I)I" } : Jvm.MethodName)) ∈ lw_all := lw_g (lw_at lw_m5 227 rfl) rfl
theorem q1293 : (Jvm.Cond.methodLink "TemperIslesLaw" (84 : Nat) ({ cls := "TemperIslesModel", name := "runs", desc := "(II)I" } : Jvm.MethodName)) ∈ lw_all := lw_g (lw_at lw_m6 15 rfl) rfl
theorem q1304 : (Jvm.Cond.methodLink "TemperIslesLaw" (88 : Nat) ({ cls := "TemperIslesModel", name := "ahead", desc := "(II)I" } : Jvm.MethodName)) ∈ lw_all := lw_g (lw_at lw_m6 26 rfl) rfl
theorem q1308 : (Jvm.Cond.methodLink "TemperIslesLaw" (92 : Nat) ({ cls := "TemperIslesModel", name := "within", desc := "(I)I" } : Jvm.MethodName)) ∈ lw_all := lw_g (lw_at lw_m6 30 rfl) rfl
theorem q1312 : (Jvm.Cond.methodLink "TemperIslesLaw" (96 : Nat) ({ cls := "TemperIslesModel", name := "match", desc := "(II)I" } : Jvm.MethodName)) ∈ lw_all := lw_g (lw_at lw_m6 34 rfl) rfl
theorem q1335 : (Jvm.Cond.methodLink "TemperIslesLaw" (100 : Nat) ({ cls := "TemperIslesModel", name := "fray", desc := "(I)I" } : Jvm.MethodName)) ∈ lw_all := lw_g (lw_at lw_m6 57 rfl) rfl
theorem q1343 : (Jvm.Cond.methodLink "TemperIslesLaw" (104 : Nat) ({ cls := "TemperIslesModel", name := "soothe", desc := "(I)I" } : Jvm.MethodName)) ∈ lw_all := lw_g (lw_at lw_m6 65 rfl) rfl
theorem q1347 : (Jvm.Cond.methodLink "TemperIslesLaw" (108 : Nat) ({ cls := "TemperIslesModel", name := "holy", desc := "(II)I" } : Jvm.MethodName)) ∈ lw_all := lw_g (lw_at lw_m6 69 rfl) rfl
theorem q1352 : (Jvm.Cond.methodLink "TemperIslesLaw" (112 : Nat) ({ cls := "TemperIslesModel", name := "kind", desc := "(III)I" } : Jvm.MethodName)) ∈ lw_all := lw_g (lw_at lw_m6 74 rfl) rfl
theorem q1356 : (Jvm.Cond.methodLink "TemperIslesLaw" (116 : Nat) ({ cls := "TemperIslesModel", name := "slack", desc := "(III)I" } : Jvm.MethodName)) ∈ lw_all := lw_g (lw_at lw_m6 78 rfl) rfl
theorem q1360 : (Jvm.Cond.methodLink "TemperIslesLaw" (121 : Nat) ({ cls := "TemperIslesModel", name := "luck", desc := "(IIII)J" } : Jvm.MethodName)) ∈ lw_all := lw_g (lw_at lw_m6 82 rfl) rfl
theorem q1377 : (Jvm.Cond.methodLink "TemperIslesLaw" (126 : Nat) ({ cls := "TemperIslesModel", name := "mean", desc := "(III)J" } : Jvm.MethodName)) ∈ lw_all := lw_g (lw_at lw_m6 99 rfl) rfl
theorem q1381 : (Jvm.Cond.methodLink "TemperIslesLaw" (130 : Nat) ({ cls := "TemperIslesModel", name := "see", desc := "(III)I" } : Jvm.MethodName)) ∈ lw_all := lw_g (lw_at lw_m6 103 rfl) rfl
theorem q1386 : (Jvm.Cond.methodLink "TemperIslesLaw" (134 : Nat) ({ cls := "TemperIslesModel", name := "forget", desc := "(I)I" } : Jvm.MethodName)) ∈ lw_all := lw_g (lw_at lw_m6 108 rfl) rfl
theorem q1390 : (Jvm.Cond.methodLink "TemperIslesLaw" (138 : Nat) ({ cls := "TemperIslesModel", name := "kinds", desc := "(I)I" } : Jvm.MethodName)) ∈ lw_all := lw_g (lw_at lw_m6 112 rfl) rfl
theorem q1402 : (Jvm.Cond.methodLink "TemperIslesLaw" (142 : Nat) ({ cls := "TemperIslesModel", name := "sulks", desc := "(II)I" } : Jvm.MethodName)) ∈ lw_all := lw_g (lw_at lw_m6 124 rfl) rfl
theorem q1406 : (Jvm.Cond.methodLink "TemperIslesLaw" (146 : Nat) ({ cls := "TemperIslesModel", name := "ask", desc := "(II)I" } : Jvm.MethodName)) ∈ lw_all := lw_g (lw_at lw_m6 128 rfl) rfl
theorem q1410 : (Jvm.Cond.methodLink "TemperIslesLaw" (150 : Nat) ({ cls := "TemperIslesModel", name := "drift", desc := "(III)I" } : Jvm.MethodName)) ∈ lw_all := lw_g (lw_at lw_m6 132 rfl) rfl
theorem q1415 : (Jvm.Cond.methodLink "TemperIslesLaw" (154 : Nat) ({ cls := "TemperIslesModel", name := "keep", desc := "(I)I" } : Jvm.MethodName)) ∈ lw_all := lw_g (lw_at lw_m6 137 rfl) rfl
theorem q1423 : (Jvm.Cond.methodLink "TemperIslesLaw" (158 : Nat) ({ cls := "TemperIslesModel", name := "back", desc := "(I)I" } : Jvm.MethodName)) ∈ lw_all := lw_g (lw_at lw_m6 145 rfl) rfl
theorem q1427 : (Jvm.Cond.methodLink "TemperIslesLaw" (162 : Nat) ({ cls := "TemperIslesModel", name := "sheet", desc := "(III)I" } : Jvm.MethodName)) ∈ lw_all := lw_g (lw_at lw_m6 149 rfl) rfl
theorem q1434 : (Jvm.Cond.methodLink "TemperIslesLaw" (166 : Nat) ({ cls := "TemperIslesModel", name := "lay", desc := "(III)I" } : Jvm.MethodName)) ∈ lw_all := lw_g (lw_at lw_m6 156 rfl) rfl
theorem q1438 : (Jvm.Cond.methodLink "TemperIslesLaw" (171 : Nat) ({ cls := "TemperIslesModel", name := "read", desc := "(IIII)I" } : Jvm.MethodName)) ∈ lw_all := lw_g (lw_at lw_m6 160 rfl) rfl
theorem q1444 : (Jvm.Cond.methodLink "TemperIslesLaw" (175 : Nat) ({ cls := "TemperIslesModel", name := "torn", desc := "()I" } : Jvm.MethodName)) ∈ lw_all := lw_g (lw_at lw_m6 166 rfl) rfl
theorem q1448 : (Jvm.Cond.methodLink "TemperIslesLaw" (179 : Nat) ({ cls := "TemperIslesModel", name := "count", desc := "(I)I" } : Jvm.MethodName)) ∈ lw_all := lw_g (lw_at lw_m6 170 rfl) rfl
theorem q84 : (Jvm.Cond.initialized "java/lang/System") ∈ lw_all := lw_g (lw_at lw_m1 6 rfl) rfl
set_option maxRecDepth 100000
theorem q119 : (Jvm.Cond.static ({ cls := "java/lang/System", name := "arraycopy", desc := "(Ljava/lang/Object;ILjava/lang/Object;II)V" } : Jvm.MethodName)) ∈ lw_all := lw_g (lw_at lw_m1 41 rfl) rfl
theorem q120 : (Jvm.Cond.native ({ cls := "java/lang/System", name := "arraycopy", desc := "(Ljava/lang/Object;ILjava/lang/Object;II)V" } : Jvm.MethodName)) ∈ lw_all := lw_g (lw_at lw_m1 42 rfl) rfl
theorem q136 : (Jvm.Cond.arrayOver (Jvm.ClassFile.FieldType.array Jvm.ClassFile.FieldType.int)) ∈ lw_tbl := lw_at lw_m1 58 rfl
set_option maxRecDepth 100000
theorem q175 : (Jvm.Cond.arrayClass Jvm.ClassFile.FieldType.byte) ∈ lw_all := lw_g (lw_at lw_m1 97 rfl) rfl
theorem q176 : (Jvm.Cond.arrayClass Jvm.ClassFile.FieldType.int) ∈ lw_all := lw_g (lw_at lw_m1 98 rfl) rfl
theorem q753 : (Jvm.Cond.arrayOver (Jvm.ClassFile.FieldType.object "TemperIsles$Image")) ∈ lw_tbl := lw_at lw_m3 195 rfl
theorem q779 : (Jvm.Cond.arrayOver (Jvm.ClassFile.FieldType.object "TemperIsles$Sheet")) ∈ lw_tbl := lw_at lw_m3 221 rfl
theorem q878 : (Jvm.Cond.arrayClass Jvm.ClassFile.FieldType.short) ∈ lw_all := lw_g (lw_at lw_m4 80 rfl) rfl
theorem q1066 : (Jvm.Cond.arrayClass Jvm.ClassFile.FieldType.boolean) ∈ lw_all := lw_g (lw_at lw_m5 28 rfl) rfl
theorem q1467 : (Jvm.Cond.arrayOver (Jvm.ClassFile.FieldType.object "java/lang/String")) ∈ lw_tbl := lw_at lw_m6 189 rfl
